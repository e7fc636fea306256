/-! PURE, 8: lines seen from the component -/
set_option maxRecDepth 100000
theorem nI_dec {z : Nat} (h : 0 < z) : nI z + (-1) = nI (z - 1) := by
  obtain ⟨y, rfl⟩ : ∃ y, z = y + 1 := ⟨z - 1, by omega⟩
  rw [Nat.add_sub_cancel, ← nI_pred y]
  grind
theorem tFc_12 (g : Nat → Int32) (k : Nat) : tFc g k = 1 ∨ tFc g k = 2 := by
  unfold tFc
  split
  · exact Or.inr rfl
  · exact Or.inl rfl
/-- what a layer takes: from 10 to 21 -/
theorem tTk_b {g : Nat → Int32} {mn N k i : Nat} (hI : gI g mn N) (hi : i < 10) : 10 ≤ (tTk g k i).toInt ∧ (tTk g k i).toInt ≤ 21 := by
  obtain ⟨-, h1, h2⟩ := hI.1 i hi
  rw [i_le] at h1 h2
  have e3 : (3 : Int32).toInt = 3 := rfl
  have e4 : (-3 : Int32).toInt = -3 := rfl
  rw [e3] at h2
  rw [e4] at h1
  have hz : 0 ≤ (tSz (g (2 * i + 1))).toInt ∧ (tSz (g (2 * i + 1))).toInt ≤ 3 := by
    unfold tSz
    split
    · next h =>
      rw [i_lt, i_0] at h
      rw [Int32.toInt_neg, Int.bmod_eq_of_le (by omega) (by omega)]
      omega
    · next h =>
      rw [i_lt, i_0] at h
      omega
  have hw : (tSz (g (2 * i + 1)) * tFc g k).toInt = (tSz (g (2 * i + 1))).toInt * (tFc g k).toInt := by
    rw [Int32.toInt_mul]
    rcases tFc_12 g k with e | e <;> rw [e]
    · rw [show (1 : Int32).toInt = 1 from rfl]; exact Int.bmod_eq_of_le (by omega) (by omega)
    · rw [show (2 : Int32).toInt = 2 from rfl]; exact Int.bmod_eq_of_le (by omega) (by omega)
  have hm : 0 ≤ (tSz (g (2 * i + 1)) * tFc g k).toInt ∧ (tSz (g (2 * i + 1)) * tFc g k).toInt ≤ 6 := by
    rw [hw]
    rcases tFc_12 g k with e | e <;> rw [e]
    · rw [show (1 : Int32).toInt = 1 from rfl]; omega
    · rw [show (2 : Int32).toInt = 2 from rfl]; omega
  unfold tTk
  have h10 : (10 : Int32).toInt = 10 := rfl
  have ha : (10 + tSz (g (2 * i + 1)) * tFc g k).toInt = 10 + (tSz (g (2 * i + 1)) * tFc g k).toInt := by
    rw [Int32.toInt_add, h10]
    exact Int.bmod_eq_of_le (by omega) (by omega)
  split
  · rw [Int32.toInt_add, ha, show (5 : Int32).toInt = 5 from rfl, Int.bmod_eq_of_le (by omega) (by omega)]
    omega
  · rw [Int32.toInt_add, ha, i_0, Int.bmod_eq_of_le (by omega) (by omega)]
    omega
theorem tHg_out {g : Nat → Int32} {mn N k : Nat} (hI : gI g mn N) (hk : k < mn) : tHg g k 10 0 (kOt (kv g k)) = tHt g k := by
  unfold tHt
  by_cases h : tUp g k = true
  · rw [if_pos h]
    exact congrArg (tHg g k 10 0) (if_pos (of_decide_eq_true h))
  · rw [if_neg h, show kOt (kv g k) = 0 from if_neg (fun z => h (decide_eq_true z))]
    unfold tHg
    rw [if_neg]
    intro z
    have := (tTk_b (k := k) hI (i := 0) (by decide)).1
    rw [i_le, i_0] at z
    omega
/-- below n layers lie 10 n to 21 n of line -/
theorem tBl_b {g : Nat → Int32} {mn N k : Nat} (hI : gI g mn N) : ∀ n : Nat, n ≤ 10 → 10 * (n : Int) ≤ (tBl g k n).toInt ∧ (tBl g k n).toInt ≤ 21 * (n : Int)
  | 0, _ => by unfold tBl; rw [i_0]; omega
  | n + 1, h => by
    have h1 := tBl_b (k := k) hI n (by omega)
    have h2 := tTk_b (k := k) hI (i := n) (by omega)
    unfold tBl
    rw [Int32.toInt_add, Int.bmod_eq_of_le (by omega) (by omega)]
    omega
/-- from above -/
def tHo (g : Nat → Int32) (k : Nat) : Nat → Nat
  | 0 => 0
  | n + 1 => if tBl g k (n + 1) ≤ kOt (kv g k) then n + 1 else tHo g k n
theorem kOt_nn {g : Nat → Int32} {mn N k : Nat} (hI : gI g mn N) (hk : k < mn) : 0 ≤ kOt (kv g k) := by
  unfold kOt
  split
  · exact (hI.2.2.2 k hk).2.2.2.2.2.1.1
  · exact Int32.le_refl 0
theorem tHo_0 {g : Nat → Int32} {mn N k z : Nat} (hI : gI g mn N) (hk : k < mn) (h : ¬ tBl g k z ≤ kOt (kv g k)) : 0 < z := by
  cases z with
  | zero => exact absurd (kOt_nn hI hk) h
  | succ z => exact Nat.succ_pos z
theorem tHo_s {g : Nat → Int32} {mn N k z : Nat} (hI : gI g mn N) (hk : k < mn) (hv : tHo g k z = tHo g k 10) (h : ¬ tBl g k z ≤ kOt (kv g k)) : tHo g k (z - 1) = tHo g k 10 := by
  have h0 := tHo_0 hI hk h
  obtain ⟨y, rfl⟩ : ∃ y, z = y + 1 := ⟨z - 1, by omega⟩
  rw [← hv, Nat.add_sub_cancel]
  exact (if_neg h).symm
theorem tHo_e {g : Nat → Int32} {k z : Nat} (h : tBl g k z ≤ kOt (kv g k)) : tHo g k z = z := by
  cases z with
  | zero => rfl
  | succ z => exact if_pos h
theorem tHo_ha {g : Nat → Int32} {mn N k : Nat} (hI : gI g mn N) (hk : k < mn) : tHo g k 10 = (if tUp g k = true then tHa g k 10 else 0) := by
  by_cases h : tUp g k = true
  · rw [if_pos h]
    have e : kOt (kv g k) = g (kO k 5) := if_pos (of_decide_eq_true h)
    have key : ∀ n, tHo g k n = tHa g k n := by
      intro n
      induction n with
      | zero => rfl
      | succ n ih => unfold tHo tHa; rw [e, ih]
    exact key 10
  · rw [if_neg h]
    have e : kOt (kv g k) = 0 := if_neg (fun z => h (decide_eq_true z))
    have key : ∀ n : Nat, n ≤ 10 → tHo g k n = 0 := by
      intro n
      induction n with
      | zero => intro _; rfl
      | succ n ih =>
        intro hn
        have := (tBl_b (k := k) hI (n + 1) hn).1
        unfold tHo
        rw [e, if_neg, ih (by omega)]
        rw [i_le, i_0]
        omega
    exact key 10 (Nat.le_refl _)
theorem kOt_up {g : Nat → Int32} {k : Nat} (h : tUp g k = true) : kOt (kv g k) = g (kO k 5) := if_pos (of_decide_eq_true h)
theorem kOt_5 {g : Nat → Int32} {mn N k : Nat} (hI : gI g mn N) (hk : k < mn) : kOt (kv g k) = g (kO k 5) := by
  by_cases h : g (kO k 0) = 1
  · exact if_pos h
  · exact (if_neg h).trans ((hI.2.2.2 k hk).2.2.2.2.2.2.1 h).symm
