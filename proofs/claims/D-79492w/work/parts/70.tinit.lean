/-! THE COMPONENT, 16: a town begun -/
set_option maxRecDepth 100000
def tI0 : Nat → Int32 := fun j => if j < 20 ∧ j % 2 = 0 then 3 else 0
def tS3 (z : Nat) : Nat → Int32 := fun q => if q < z then 3 else 0
theorem tS3_0 : (fun _ => 0 : Nat → Int32) = tS3 0 := by funext q; simp [tS3]
theorem tS3_s (z : Nat) : va_up (tS3 z) z 3 = tS3 (z + 1) := by
  funext q
  simp only [va_up, tS3]
  by_cases e : q = z
  · rw [if_pos e, if_pos (by omega)]
  · rw [if_neg e]
    by_cases h : q < z
    · rw [if_pos h, if_pos (by omega)]
    · rw [if_neg h, if_neg (by omega)]
def kqR (E : gE) (w : wd) (i : Nat) (qs : Nat → Nat) (z : Nat) : Prop := ∀ k, k < z → ∃ t, kR E w i (qs k) k v0K t
theorem kqR.frm {P : Nat × Nat → Prop} {E : gE} {w w1 : wd} {i z : Nat} {qs : Nat → Nat} (h : kqR E w i qs z) (hf : fr P w w1) (h0 : ¬ P (0, 0)) (h1 : ∀ k, k < z → ¬ P (i, 6 + k) ∧ ¬ P (i, 12 + k)) : kqR E w1 i qs z := by
  intro k hk
  obtain ⟨t, h'⟩ := h k hk
  exact ⟨t, h'.frm hf h0 (h1 k hk).1 (h1 k hk).2⟩
theorem kqR.add {E : gE} {w : wd} {i z q t : Nat} {qs : Nat → Nat} (h : kqR E w i qs z) (hk : kR E w i q z v0K t) : kqR E w i (va_up qs z q) (z + 1) := by
  intro k hk'
  by_cases e : k = z
  · subst e
    rw [up_s]
    exact ⟨t, hk⟩
  · rw [up_n e]
    exact h k (by omega)
def tnA (y a b c d e : Nat) (qs : Nat → Nat) : Nat → Nat := fun r => if r = 0 then y else if r = 1 then a else if r = 2 then b else if r = 3 then c else if r = 4 then d else if r = 5 then e else qs (r - 6)
theorem tnA_k {y a b c d e k : Nat} {qs : Nat → Nat} : tnA y a b c d e qs (6 + k) = qs k := by
  unfold tnA
  rw [if_neg (by omega), if_neg (by omega), if_neg (by omega), if_neg (by omega), if_neg (by omega), if_neg (by omega), Nat.add_sub_cancel_left]
theorem tI0_1 {q : Nat} (h : q < 10) : tS3 10 q = tI0 (2 * q) := by simp only [tS3, tI0]; rw [if_pos h, if_pos (by omega)]
theorem tI0_2 {q : Nat} : (0 : Int32) = tI0 (2 * q + 1) := by simp only [tI0]; rw [if_neg (by omega)]
theorem ksR.q {E : gE} {w : wd} {i y a b c d e : Nat} {qs : Nat → Nat} {g : Nat → Int32} (h : kqR E w i qs 6) : ksR E w i (tnA y a b c d e qs) g 0 := by
  intro k hk
  obtain ⟨t, h'⟩ := h k hk
  rw [tnA_k]
  exact ⟨_, t, fun z => absurd z (Nat.not_lt_zero k), h'⟩
theorem fq_s {f : Nat → Option Nat} {qs : Nat → Nat} {z q : Nat} (h : ∀ k, k < z → f k = some (qs k)) : ∀ k, k < z + 1 → va_up f z (some q) k = some (va_up qs z q k) := by
  intro k hk
  by_cases e : k = z
  · subst e; rw [up_s, up_s]
  · rw [up_n e, up_n e]; exact h k (by omega)
