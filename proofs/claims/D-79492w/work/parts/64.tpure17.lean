/-! PURE, 17: what is done by hand, seen from the component -/
set_option maxRecDepth 100000
theorem tLn_lo {g : Nat → Int32} {l j : Nat} (h : j < 26) : tLn g l j = g j := by
  unfold tLn
  rw [up_n (kO_lo h), up_n (kO_lo h), up_n (kO_lo h)]
theorem tLn_ne {g : Nat → Int32} {l j : Nat} (h : j ≠ l) : kv (tLn g l) j = kv g j := by
  unfold tLn
  rw [kv_ne h (by decide), kv_ne h (by decide), kv_ne h (by decide)]
theorem tLn_c {g : Nat → Int32} {l : Nat} : ∀ c, c ∈ [1, 2, 3, 12, 4, 7, 8] → tLn g l (kO l c) = g (kO l c) := by
  intro c hc
  simp only [List.mem_cons, List.not_mem_nil, or_false] at hc
  unfold tLn
  rw [up_n (kO_c (by omega) (by omega) (by decide)), up_n (kO_c (by omega) (by omega) (by decide)), up_n (kO_c (by omega) (by omega) (by decide))]
theorem tLn_s {g : Nat → Int32} {w : wd} {i l q : Nat} (hq : w q = some ((i, 12 + l), .inr (5, [.int 0, .int 0]))) : stR w i l (kv (tLn g l) l) q := by
  have e0 : kv (tLn g l) l 0 = 1 := by
    rw [kv_at (by decide)]; unfold tLn
    rw [up_n (kO_c (by decide) (by decide) (by decide)), up_n (kO_c (by decide) (by decide) (by decide)), up_s]
  have e5 : kv (tLn g l) l 5 = 0 := by
    rw [kv_at (by decide)]; unfold tLn
    rw [up_n (kO_c (by decide) (by decide) (by decide)), up_s]
  have e6 : kv (tLn g l) l 6 = 0 := by
    rw [kv_at (by decide)]; unfold tLn
    rw [up_s]
  exact Or.inr (Or.inl ⟨e0, by rw [e5, e6]; exact hq⟩)
/-- on the roof again -/
theorem roof_c {g : Nat → Int32} {l : Nat} : ∀ c, c ∈ [1, 2, 3, 12, 4, 7, 8] → va_up g (kO l 0) 0 (kO l c) = g (kO l c) := by
  intro c hc
  simp only [List.mem_cons, List.not_mem_nil, or_false] at hc
  exact up_n (kO_c (by omega) (by omega) (by decide))
theorem roof_s {g : Nat → Int32} {w : wd} {i l q : Nat} (hq : w q = some ((0, 0), .inr (4, []))) : stR w i l (kv (va_up g (kO l 0) 0) l) q := Or.inl ⟨by rw [kv_at (by decide), up_s], hq⟩
theorem uRl_in {o s x : Int32} (h1 : o + x ≤ s) (h2 : 0 ≤ o + x) : uRl o s x = o + x := by
  unfold uRl
  by_cases c1 : o + x < s
  · rw [if_pos c1]
    by_cases c2 : 0 < o + x
    · rw [if_pos c2]
    · rw [if_neg c2]; exact Int32.le_antisymm h2 (Int32.not_lt.mp c2)
  · rw [if_neg c1]
    have e : o + x = s := Int32.le_antisymm h1 (Int32.not_lt.mp c1)
    rw [e] at h2 ⊢
    by_cases c2 : 0 < s
    · rw [if_pos c2]
    · rw [if_neg c2]; exact Int32.le_antisymm h2 (Int32.not_lt.mp c2)
theorem reel_hand {g : Nat → Int32} {k : Nat} {x : Int32} (hu : tUp g k = true) (h1 : g (kO k 5) + x ≤ g (kO k 3)) (h2 : 0 ≤ g (kO k 5) + x) : tCo (tRl g k x) (kRr (kv g k) x) = tLt g k x := by
  have hu' : g (kO k 0) = 1 := of_decide_eq_true hu
  have e : kRr (kv g k) x = x := (if_pos hu').trans (by show uRl (g (kO k 5)) (g (kO k 3)) x - g (kO k 5) = x; rw [uRl_in h1 h2]; grind)
  rw [e]
  unfold tCo tRl tLt
  rw [if_pos hu', uRl_in h1 h2, up_n (kO_lo (by decide)), up_n (kO_lo (by decide))]
theorem tLt_0 {g : Nat → Int32} {k : Nat} {x : Int32} : tLt g k x (kO k 0) = g (kO k 0) := by
  unfold tLt
  split
  · rw [up_n (fun z => kO_lo (by decide) z.symm), up_n (kO_c (by decide) (by decide) (by decide))]
  · rw [up_n (fun z => kO_lo (by decide) z.symm), up_n (kO_c (by decide) (by decide) (by decide))]
theorem out_hand {g : Nat → Int32} {k : Nat} {x : Int32} (hu : tUp g k = true) : kOt (kv (tLt g k x) k) = tLt g k x (kO k 5) := if_pos (show tLt g k x (kO k 0) = 1 from tLt_0.trans (of_decide_eq_true hu))
def tLd (g : Nat → Int32) (k : Nat) : Nat → Int32 := va_up (tLt g k (-g (kO k 5))) (kO k 0) 0
theorem tLd_eq {g : Nat → Int32} {mn N k : Nat} (hI : gI g mn N) (hk : k < mn) : tLd g k = va_up (va_up (va_up g 23 (g 23 + g (kO k 5))) (kO k 5) (g (kO k 5) + -g (kO k 5))) (kO k 0) 0 := by
  have hK := hI.2.2.2 k hk
  have h5 := hK.2.2.2.2.2.1
  have h3 := hK.2.2.2.1
  have e99 : (99 : Int32).toInt = 99 := rfl
  simp only [i_le, i_0, e99] at h5 h3
  have hn : -g (kO k 5) ≤ 0 := by
    rw [i_le, i_0, Int32.toInt_neg, Int.bmod_eq_of_le (by omega) (by omega)]
    omega
  unfold tLd tLt
  rw [if_pos hn, show g 23 - -g (kO k 5) = g 23 + g (kO k 5) from by grind, up_cm _ 23 (kO k 5) _ _ (kO_lo (by decide))]
theorem tLd_lo {g : Nat → Int32} {l : Nat} {x : Int32} {j : Nat} (h : j < 26) : va_up (va_up g (kO l 5) x) (kO l 0) 0 j = g j := by rw [up_n (kO_lo h), up_n (kO_lo h)]
theorem tLd_ne {g : Nat → Int32} {l j : Nat} {x : Int32} (h : j ≠ l) : kv (va_up (va_up g (kO l 5) x) (kO l 0) 0) j = kv g j := by rw [kv_ne h (by decide), kv_ne h (by decide)]
theorem tLd_c {g : Nat → Int32} {l : Nat} {x : Int32} : ∀ c, c ∈ [1, 2, 3, 12, 4, 7, 8] → va_up (va_up g (kO l 5) x) (kO l 0) 0 (kO l c) = g (kO l c) := by
  intro c hc
  simp only [List.mem_cons, List.not_mem_nil, or_false] at hc
  rw [up_n (kO_c (by omega) (by omega) (by decide)), up_n (kO_c (by omega) (by omega) (by decide))]
