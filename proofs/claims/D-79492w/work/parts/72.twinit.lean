/-! THE TWIN, 12: begun -/
set_option maxRecDepth 100000
def tG3 (z : Nat) : Nat → Int32 := fun j => if j < 2 * z ∧ j % 2 = 0 then 3 else 0
theorem tG3_0 : (fun _ => 0 : Nat → Int32) = tG3 0 := by funext q; simp [tG3]
theorem tG3_s (z : Nat) : va_up (tG3 z) (2 * z) 3 = tG3 (z + 1) := by
  funext q
  simp only [va_up, tG3]
  by_cases e : q = 2 * z
  · rw [if_pos e, if_pos (by omega)]
  · rw [if_neg e]
    by_cases h : q < 2 * z ∧ q % 2 = 0
    · rw [if_pos h, if_pos (by omega)]
    · rw [if_neg h, if_neg (by omega)]
def tF0 : Nat → Int32 := fun k => if k = 10 then -1 else if k = 12 then -1 else 0
def tA0 : Nat → Nat → Int32 := fun k => if k = 0 then tI0 else fun _ => 0
def twA (a0 a1 a2 a3 a4 a8 a14 a15 a16 a18 : Nat) : Nat → Nat := fun k => if k = 0 then a0 else if k = 1 then a1 else if k = 2 then a2 else if k = 3 then a3 else if k = 4 then a4 else if k = 8 then a8 else if k = 14 then a14 else if k = 15 then a15 else if k = 16 then a16 else a18
theorem tM_0 {E : gE} {w : wd} {h a0 a1 a2 a3 a4 a8 a14 a15 a16 a18 : Nat} (hh : w h = some ((99, 0), .inr (0, tF (twA a0 a1 a2 a3 a4 a8 a14 a15 a16 a18) tF0)))
    (h0 : w a0 = some ((99, 1), .inl (eT E 0, 116, .inl (tG3 10)))) (h1 : w a1 = some ((99, 2), .inl (eT E 0, 928, .inl (fun _ => 0)))) (h2 : w a2 = some ((99, 3), .inl (eT E 0, 116, .inl (fun _ => 0)))) (h3 : w a3 = some ((99, 4), .inl (eT E 0, 116, .inl (fun _ => 0)))) (h4 : w a4 = some ((99, 5), .inl (eT E 0, 116, .inl (fun _ => 0)))) (h8 : w a8 = some ((99, 9), .inl (eT E 0, 60, .inl (fun _ => 0))))
    (h14 : w a14 = some ((99, 15), .inl (eT E 0, 6, .inl (fun _ => 0)))) (h15 : w a15 = some ((99, 16), .inl (eT E 0, 6, .inl (fun _ => 0)))) (h16 : w a16 = some ((99, 17), .inl (eT E 0, 6, .inl (fun _ => 0)))) (h18 : w a18 = some ((99, 19), .inl (eT E 0, 155, .inl (fun _ => 0)))) : tM E w h (twA a0 a1 a2 a3 a4 a8 a14 a15 a16 a18) tF0 tA0 := by
  refine ⟨hh, fun k hk => ?_⟩
  simp only [tArr, List.mem_cons, List.not_mem_nil, or_false] at hk
  rcases hk with rfl | rfl | rfl | rfl | rfl | rfl | rfl | rfl | rfl | rfl
  · exact h0
  · exact h1
  · exact h2
  · exact h3
  · exact h4
  · exact h8
  · exact h14
  · exact h15
  · exact h16
  · exact h18
