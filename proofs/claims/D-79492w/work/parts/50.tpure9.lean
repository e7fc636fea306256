/-! PURE, 9: crossings and sums seen from the component -/
set_option maxRecDepth 100000
theorem tHt_nu {g : Nat → Int32} {x : Nat} (h : tUp g x = false) : tHt g x = 0 := if_neg (by rw [h]; decide)
theorem tCr_nu1 {g : Nat → Int32} {x y : Nat} (h : tUp g x = false) : tCr g x y = none := by
  unfold tCr
  rw [tHt_nu h, Nat.zero_min]
  split <;> rfl
theorem tCr_nu2 {g : Nat → Int32} {x y : Nat} (h : tUp g y = false) : tCr g x y = none := by
  unfold tCr
  rw [tHt_nu h, Nat.min_zero]
  split <;> rfl
theorem mMin_nI {x y : Nat} (hx : x < 2 ^ 31) (hy : y < 2 ^ 31) : (if nI y < nI x then nI y else nI x) = nI (min x y) := by
  by_cases h : y < x
  · rw [if_pos ((nI_ltI hy hx).mpr h), Nat.min_eq_right (by omega)]
  · rw [if_neg (fun z => h ((nI_ltI hy hx).mp z)), Nat.min_eq_left (by omega)]
theorem oI_m1 {g : Nat → Int32} {x y : Nat} : oI (tCr g x y) = -1 ↔ oI (tCr g x y) < 0 := by
  constructor
  · intro h; rw [h]; decide
  · intro h; rw [oI_cr.mp h]; rfl
theorem tSu_13 {g : Nat → Int32} {mn N z : Nat} (hI : gI g mn N) (hz : z < mn) : tSu g 13 z + (g (kO z 12) - g (kO z 3)) = tSu g 13 (z + 1) := by
  have := (hI.2.2.2 z hz).2.2.2.2.2.2.2.2.2
  show _ = tSu g 13 z + g (kO z 13)
  rw [this]
  grind
theorem tBk_t {g : Nat → Int32} {mn N : Nat} (hI : gI g mn N) : ∀ {n : Nat}, n ≤ mn → tBk g n = true
  | 0, _ => rfl
  | n + 1, h => by
    unfold tBk
    rw [tBk_t hI (by omega), decide_eq_true (hI.2.2.2 n (by omega)).2.2.2.2.2.2.2.2.2]
    rfl
