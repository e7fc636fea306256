/-! PURE, 10: a round as the component goes through it -/
set_option maxRecDepth 100000
def tCo (g : Nat → Int32) (x : Int32) : Nat → Int32 := if x ≤ 0 then va_up g 23 (g 23 - x) else va_up g 21 (g 21 + x)
def tRl (g : Nat → Int32) (k : Nat) (x : Int32) : Nat → Int32 := if g (kO k 0) = 1 then va_up g (kO k 5) (uRl (g (kO k 5)) (g (kO k 3)) x) else g
theorem kv_rl {g : Nat → Int32} {k : Nat} {x : Int32} : kRv (kv g k) x = kv (tRl g k x) k := by
  unfold kRv tRl
  by_cases h : g (kO k 0) = 1
  · rw [if_pos (show kv g k 0 = 1 from h), if_pos h, kv_eq (by decide)]
    rfl
  · rw [if_neg (show ¬ kv g k 0 = 1 from h), if_neg h]
theorem tRl_lo {g : Nat → Int32} {k : Nat} {x : Int32} {j : Nat} (h : j < 26) : tRl g k x j = g j := by
  unfold tRl
  split
  · exact up_n (kO_lo h)
  · rfl
theorem tRl_ne {g : Nat → Int32} {k : Nat} {x : Int32} {j : Nat} (h : j ≠ k) : kv (tRl g k x) j = kv g j := by
  unfold tRl
  split
  · exact kv_ne h (by decide)
  · rfl
theorem kI_congr {g g1 : Nat → Int32} {k N : Nat} (h : kv g1 k = kv g k) (hI : kI g k N) : kI g1 k N := by
  have e : ∀ c, c < 15 → g1 (kO k c) = g (kO k c) := fun c hc => by have := congrFun h c; rwa [kv_at hc, kv_at hc] at this
  unfold kI at hI ⊢
  rw [e 0 (by decide), e 1 (by decide), e 3 (by decide), e 4 (by decide), e 5 (by decide), e 7 (by decide), e 8 (by decide), e 9 (by decide), e 10 (by decide), e 12 (by decide), e 13 (by decide)]
  exact hI
/-- the row has changed in its sums alone -/
theorem gI.lo {g g1 : Nat → Int32} {mn N : Nat} (h : gI g mn N) (hg : ∀ j, (j < 21 ∨ 25 ≤ j) → g1 j = g j) : gI g1 mn N := by
  obtain ⟨h1, h2, h3, h4⟩ := h
  refine ⟨fun q hq => ?_, ?_, ?_, fun k hk => kI_congr ?_ (h4 k hk)⟩
  · rw [hg _ (by omega), hg _ (by omega)]; exact h1 q hq
  · rw [hg _ (by omega)]; exact h2
  · rw [hg _ (by omega)]; exact h3
  · funext c
    unfold kv
    split
    · exact hg _ (by unfold kO; omega)
    · rfl
/-- one kite has changed -/
theorem gI.kup {g g1 : Nat → Int32} {mn N k : Nat} (h : gI g mn N) (hlo : ∀ j, j < 26 → g1 j = g j) (ho : ∀ j, j ≠ k → kv g1 j = kv g j) (hk : k < mn → kI g1 k N) : gI g1 mn N := by
  obtain ⟨h1, h2, h3, h4⟩ := h
  refine ⟨fun q hq => ?_, ?_, ?_, fun j hj => ?_⟩
  · rw [hlo _ (by omega), hlo _ (by omega)]; exact h1 q hq
  · rw [hlo _ (by omega)]; exact h2
  · rw [hlo _ (by omega)]; exact h3
  · by_cases e : j = k
    · subst e; exact hk hj
    · exact kI_congr (ho j e) (h4 j hj)
theorem uRl_b {o s x : Int32} (ho : 0 ≤ o ∧ o ≤ s) (hs : s ≤ 99) (hx : -9 ≤ x ∧ x ≤ 9 ∨ -20 ≤ x ∧ x ≤ 20) : 0 ≤ uRl o s x ∧ uRl o s x ≤ s := by
  have e99 : (99 : Int32).toInt = 99 := rfl
  have e9 : (9 : Int32).toInt = 9 := rfl
  have em9 : (-9 : Int32).toInt = -9 := rfl
  have e20 : (20 : Int32).toInt = 20 := rfl
  have em20 : (-20 : Int32).toInt = -20 := rfl
  simp only [i_le, i_0, e99, e9, em9, e20, em20] at ho hs hx
  have hob : (o + x).toInt = o.toInt + x.toInt := by rw [Int32.toInt_add]; exact Int.bmod_eq_of_le (by omega) (by omega)
  unfold uRl
  by_cases c1 : o + x < s
  · rw [if_pos c1]
    rw [i_lt, hob] at c1
    by_cases c2 : 0 < o + x
    · rw [if_pos c2]; simp only [i_le, i_lt, i_0, hob] at c2 ⊢; omega
    · rw [if_neg c2]; simp only [i_le, i_0]; omega
  · rw [if_neg c1]
    by_cases c2 : 0 < s
    · rw [if_pos c2]; simp only [i_le, i_lt, i_0] at c2 ⊢; omega
    · rw [if_neg c2]; simp only [i_le, i_lt, i_0] at c2 ⊢; omega
theorem uRl_by {o s x : Int32} (ho : 0 ≤ o ∧ o ≤ s) (hs : s ≤ 99) (hx : -9 ≤ x ∧ x ≤ 9) : uRl o s x - o = (if x ≤ 0 then -tLs (-x) o else tLs x (s - o)) := by
  have e99 : (99 : Int32).toInt = 99 := rfl
  have e9 : (9 : Int32).toInt = 9 := rfl
  have em9 : (-9 : Int32).toInt = -9 := rfl
  simp only [i_le, i_0, e99, e9, em9] at ho hs hx
  have hob : (o + x).toInt = o.toInt + x.toInt := by rw [Int32.toInt_add]; exact Int.bmod_eq_of_le (by omega) (by omega)
  have hso : (s - o).toInt = s.toInt - o.toInt := by rw [Int32.toInt_sub]; exact Int.bmod_eq_of_le (by omega) (by omega)
  have hnx : (-x).toInt = -x.toInt := by rw [Int32.toInt_neg]; exact Int.bmod_eq_of_le (by omega) (by omega)
  apply Int32.toInt_inj.mp
  unfold uRl tLs
  by_cases c0 : x ≤ 0
  · rw [if_pos c0]
    rw [i_le, i_0] at c0
    by_cases c3 : -x < o
    · rw [if_pos c3]
      rw [i_lt, hnx] at c3
      by_cases c1 : o + x < s
      · rw [if_pos c1, if_pos (by rw [i_lt, i_0, hob]; omega), show o + x - o = - -x from by grind]
      · rw [if_neg c1]
        rw [i_lt, hob] at c1
        rw [if_pos (by rw [i_lt, i_0]; omega), hso, Int32.toInt_neg, hnx, Int.bmod_eq_of_le (by omega) (by omega)]
        omega
    · rw [if_neg c3]
      rw [i_lt, hnx] at c3
      by_cases c1 : o + x < s
      · rw [if_pos c1, if_neg (by rw [i_lt, i_0, hob]; omega), show (0 : Int32) - o = -o from by grind]
      · rw [if_neg c1]
        rw [i_lt, hob] at c1
        rw [if_neg (by rw [i_lt, i_0]; omega), show (0 : Int32) - o = -o from by grind]
  · rw [if_neg c0]
    rw [i_le, i_0] at c0
    by_cases c3 : x < s - o
    · rw [if_pos c3]
      rw [i_lt, hso] at c3
      rw [if_pos (show o + x < s by rw [i_lt, hob]; omega), if_pos (by rw [i_lt, i_0, hob]; omega), show o + x - o = x from by grind]
    · rw [if_neg c3]
      rw [i_lt, hso] at c3
      rw [if_neg (show ¬ o + x < s by rw [i_lt, hob]; omega)]
      by_cases c2 : 0 < s
      · rw [if_pos c2]
      · rw [if_neg c2]
        rw [i_lt, i_0] at c2
        rw [show s = 0 from Int32.toInt_inj.mp (by rw [i_0]; omega)]
theorem tBy_u {g : Nat → Int32} {k N : Nat} (h : kI g k N) : uRl (g (kO k 5)) (g (kO k 3)) (g (kO k 7)) - g (kO k 5) = tBy g k := uRl_by h.2.2.2.2.2.1 h.2.2.2.1.2 h.2.2.2.2.1
theorem reel_step {g : Nat → Int32} {k N : Nat} (h : kI g k N) : tCo (tRl g k (g (kO k 7))) (kRr (kv g k) (g (kO k 7))) = if tUp g k = true then tLt g k (tBy g k) else g := by
  by_cases hu : g (kO k 0) = 1
  · have e : kRr (kv g k) (g (kO k 7)) = tBy g k := (if_pos hu).trans (tBy_u h)
    have e2 : uRl (g (kO k 5)) (g (kO k 3)) (g (kO k 7)) = g (kO k 5) + tBy g k := by rw [← tBy_u h]; grind
    rw [e, if_pos (show tUp g k = true from decide_eq_true hu)]
    unfold tCo tRl tLt
    rw [if_pos hu, e2]
    rw [up_n (kO_lo (by decide)), up_n (kO_lo (by decide))]
  · have e : kRr (kv g k) (g (kO k 7)) = 0 := if_neg hu
    rw [e, if_neg (show ¬ tUp g k = true from fun z => hu (of_decide_eq_true z))]
    unfold tCo tRl
    rw [if_neg hu, if_pos (Int32.le_refl 0), show g 23 - 0 = g 23 from by grind, up_same]
/-- what reeling leaves is a row again -/
theorem gI_lt {g : Nat → Int32} {mn N k : Nat} (h : gI g mn N) (hk : k < mn) (hu : tUp g k = true) : gI (tLt g k (tBy g k)) mn N := by
  have hK := h.2.2.2 k hk
  have hX := uRl_b hK.2.2.2.2.2.1 hK.2.2.2.1.2 (Or.inl hK.2.2.2.2.1)
  have e2 : g (kO k 5) + tBy g k = uRl (g (kO k 5)) (g (kO k 3)) (g (kO k 7)) := by rw [← tBy_u hK]; grind
  have h1 : gI (va_up g (kO k 5) (uRl (g (kO k 5)) (g (kO k 3)) (g (kO k 7)))) mn N := by
    refine h.kup (k := k) (fun j hj => up_n (kO_lo hj)) (fun j hj => kv_ne hj (by decide)) (fun _ => ?_)
    obtain ⟨a1, a2, a3, a4, a5, a6, a7, a8, a9, a10⟩ := hK
    unfold kI
    simp only [up_n (kO_ne (k := k) (k' := k) (c' := 5) (Or.inr (show 0 ≠ 5 by decide)) (by decide) (by decide)), up_n (kO_ne (k := k) (k' := k) (c' := 5) (Or.inr (show 1 ≠ 5 by decide)) (by decide) (by decide)), up_n (kO_ne (k := k) (k' := k) (c' := 5) (Or.inr (show 3 ≠ 5 by decide)) (by decide) (by decide)), up_n (kO_ne (k := k) (k' := k) (c' := 5) (Or.inr (show 4 ≠ 5 by decide)) (by decide) (by decide)), up_n (kO_ne (k := k) (k' := k) (c' := 5) (Or.inr (show 7 ≠ 5 by decide)) (by decide) (by decide)), up_n (kO_ne (k := k) (k' := k) (c' := 5) (Or.inr (show 8 ≠ 5 by decide)) (by decide) (by decide)), up_n (kO_ne (k := k) (k' := k) (c' := 5) (Or.inr (show 9 ≠ 5 by decide)) (by decide) (by decide)), up_n (kO_ne (k := k) (k' := k) (c' := 5) (Or.inr (show 10 ≠ 5 by decide)) (by decide) (by decide)), up_n (kO_ne (k := k) (k' := k) (c' := 5) (Or.inr (show 12 ≠ 5 by decide)) (by decide) (by decide)), up_n (kO_ne (k := k) (k' := k) (c' := 5) (Or.inr (show 13 ≠ 5 by decide)) (by decide) (by decide)), up_s]
    exact ⟨a1, a2, a3, a4, a5, hX, fun z => absurd (of_decide_eq_true hu) z, a8, a9, a10⟩
  unfold tLt
  rw [e2]
  split
  · exact h1.lo (fun j hj => up_n (by omega))
  · exact h1.lo (fun j hj => up_n (by omega))
theorem gI_P1 {g : Nat → Int32} {mn N : Nat} (h : gI g mn N) : ∀ {n : Nat}, n ≤ mn → gI (tP1 g n) mn N
  | 0, _ => h
  | n + 1, hn => by
    have ih := gI_P1 h (n := n) (by omega)
    unfold tP1
    split
    · next hu => exact gI_lt ih (by omega) hu
    · exact ih
theorem kF_rv {E : gE} {v : Nat → Int32} {x : Int32} {t : Nat} : kF E (kRv v x) t = kF E v t := by
  unfold kRv
  split <;> rfl
theorem kF_wv {E : gE} {v : Nat → Int32} {x : Int32} {t : Nat} : kF E (kWv v x) t = kF E v t := by
  unfold kWv
  split <;> rfl
