/-! PURE, 21: a circle of places -/
set_option maxRecDepth 100000
theorem nI_subI {i j : Nat} (hi : i < 65536) (hj : j < 65536) : (nI i - nI j).toInt = (i : Int) - j := by
  rw [Int32.toInt_sub, nI_toInt (by omega), nI_toInt (by omega)]
  exact Int.bmod_eq_of_le (by omega) (by omega)
theorem dq_dec1 {i n : Nat} (hi : i < 65536) (h : 0 ≤ nI i + (-1)) : nI i + (-1) = nI (if 0 < i then i - 1 else n - 1) := by
  have h0 : 0 < i := by
    rcases Nat.eq_zero_or_pos i with e | e
    · subst e; exact absurd h (by decide)
    · exact e
  rw [if_pos h0, nI_dec h0]
theorem dq_dec2 {i n : Nat} (hn : 0 < n) (h : ¬ 0 ≤ nI i + (-1)) (hi : i < 65536) : nI n - 1 = nI (if 0 < i then i - 1 else n - 1) := by
  have h0 : ¬ 0 < i := fun z => h (by rw [nI_dec z]; exact nI_pos' (by omega))
  obtain ⟨m, rfl⟩ : ∃ m, n = m + 1 := ⟨n - 1, by omega⟩
  rw [if_neg h0, nI_pred, Nat.add_sub_cancel]
theorem dq_sub1 {i j n : Nat} (hi : i < n) (hj : j < n) (hn : n < 65536) (h : 0 ≤ nI i - nI j) : nI i - nI j = nI ((i + n - j) % n) := by
  apply Int32.toInt_inj.mp
  rw [i_le, i_0, nI_subI (by omega) (by omega)] at h
  rw [nI_subI (by omega) (by omega), show i + n - j = (i - j) + n from by omega, Nat.add_mod_right, Nat.mod_eq_of_lt (by omega), nI_toInt (by omega)]
  omega
theorem dq_sub2 {i j n : Nat} (hi : i < n) (hj : j < n) (hn : n < 65536) (h : ¬ 0 ≤ nI i - nI j) : nI i - nI j + nI n = nI ((i + n - j) % n) := by
  apply Int32.toInt_inj.mp
  rw [i_le, i_0, nI_subI (by omega) (by omega)] at h
  rw [Int32.toInt_add, nI_subI (by omega) (by omega), nI_toInt (by omega), Nat.mod_eq_of_lt (by omega), nI_toInt (by omega), Int.bmod_eq_of_le (by omega) (by omega)]
  omega
