/-! THE COMPONENT, 15: rounds in thought, pure -/
set_option maxRecDepth 100000
def cBs (g : Nat → Int32) (mn k n : Nat) : Nat → Int32 × Int32
  | 0 => (-9, -1)
  | i + 1 => if tRn (va_up g (kO k 7) (nI i - 9)) mn n (kO k 8) ≤ (cBs g mn k n i).2 then cBs g mn k n i else (nI i - 9, tRn (va_up g (kO k 7) (nI i - 9)) mn n (kO k 8))
theorem cBs_eq {g : Nat → Int32} {mn k n : Nat} (h : 0 ≤ tRn (va_up g (kO k 7) (nI 0 - 9)) mn n (kO k 8)) : ∀ i, cBs g mn k n (i + 1) = tBs g mn k n (i + 1)
  | 0 => by
    have h1 : ¬ tRn (va_up g (kO k 7) (nI 0 - 9)) mn n (kO k 8) ≤ -1 := fun z => absurd (Int32.le_trans h z) (by decide)
    show (if _ ≤ (-1 : Int32) then _ else _) = (if _ ≤ (-1 : Int32) then _ else _)
    rw [if_neg h1, if_neg h1]
  | i + 1 => by
    have e := cBs_eq h i
    unfold cBs tBs
    rw [e]
theorem cBs_1 {g : Nat → Int32} {mn k n i : Nat} (h : tRn (va_up g (kO k 7) (nI i - 9)) mn n (kO k 8) ≤ (cBs g mn k n i).2) : cBs g mn k n (i + 1) = cBs g mn k n i := if_pos h
theorem cBs_2 {g : Nat → Int32} {mn k n i : Nat} (h : ¬ tRn (va_up g (kO k 7) (nI i - 9)) mn n (kO k 8) ≤ (cBs g mn k n i).2) : cBs g mn k n (i + 1) = (nI i - 9, tRn (va_up g (kO k 7) (nI i - 9)) mn n (kO k 8)) := if_neg h
theorem sp_s9 (i : Nat) : nI i - 9 + 1 = nI (i + 1) - 9 := by
  rw [nI_succ]
  rw [Int32.sub_eq_add_neg, Int32.sub_eq_add_neg, Int32.add_assoc, Int32.add_assoc, Int32.add_comm (-9) 1]
theorem sp_i9 {i : Nat} (h : i ≤ 20) : (nI i - 9).toInt = (i : Int) - 9 := pk_sub_toInt (b := 9) (by omega) (by omega)
theorem sp_g9 {i : Nat} (h : i ≤ 20) : 9 < nI i - 9 ↔ 18 < i := by
  rw [Int32.lt_iff_toInt_lt, sp_i9 h]
  show (9 : Int) < _ ↔ _
  omega
theorem sp_b9 {i : Nat} (h : i ≤ 18) : -9 ≤ nI i - 9 ∧ nI i - 9 ≤ 9 := by
  constructor
  · rw [Int32.le_iff_toInt_le, sp_i9 (by omega)]
    show (-9 : Int) ≤ _
    omega
  · rw [Int32.le_iff_toInt_le, sp_i9 (by omega)]
    show _ ≤ (9 : Int)
    omega
theorem tKn_stop {g : Nat → Int32} {mn k n i : Nat} (h : tUp (tRn g mn i) k = false) : ∀ q, tKn g mn k n q i = i
  | 0 => rfl
  | q + 1 => if_neg (by rw [h]; decide)
theorem tKn_go {g : Nat → Int32} {mn k n i q : Nat} (h : tUp (tRn g mn i) k = true) (hq : 0 < q) : tKn g mn k n q i = tKn g mn k n (q - 1) (i + 1) := by
  obtain ⟨q, rfl⟩ : ∃ z, q = z + 1 := ⟨q - 1, by omega⟩
  exact if_pos h
theorem rCin_y {g : Nat → Int32} {mn k n i : Nat} (h : tUp (tRn g mn i) k = false) (hq : tKn g mn k n (n - i) i = tKn g mn k n n 0) : rCin g mn k n = nI i := by
  unfold rCin
  rw [← hq, tKn_stop h, if_neg (by rw [h]; decide)]
theorem rCin_n {g : Nat → Int32} {mn k n : Nat} (h : tUp (tRn g mn n) k = true) (hq : tKn g mn k n (n - n) n = tKn g mn k n n 0) : rCin g mn k n = -1 := by
  unfold rCin
  rw [← hq, Nat.sub_self]
  exact if_pos h
theorem qRound_1 {g : Nat → Int32} {mn : Nat} {y : Int32} (h : tin y 1 30 = false) : (qRound g mn y).1 = 1 := by simp [qRound, h]
theorem qRound_ok {g : Nat → Int32} {mn k : Nat} (h : tin (nI k) 1 30 = true) (hc : (nI k).toNatClampNeg = k) : qRound g mn (nI k) = (0, 0, tRc g mn k, tRn g mn k) := by simp [qRound, h, hc]
theorem tin_1N {v : Int32} {n : Nat} (hn : n < 2 ^ 31) (h : tin v 1 (nI n) = true) : ∃ k, (1 ≤ k ∧ k ≤ n) ∧ v = nI k := by
  obtain ⟨h1, h2⟩ := tin_of h
  obtain ⟨k, hk, e⟩ := i32_N hn (Int32.le_trans (by decide : (0 : Int32) ≤ 1) h1) h2
  subst e
  exact ⟨k, ⟨(nI_leI (a := 1) (b := k) (by decide) (by omega)).mp h1, hk⟩, rfl⟩
theorem qCin_1 {g : Nat → Int32} {mn : Nat} {y z : Int32} (h : tKt g y = false) : (qCin g mn y z).1 = 1 := by simp [qCin, h]
theorem qCin_2 {g : Nat → Int32} {mn : Nat} {y z : Int32} (h : tKt g y = true) (h2 : tin z 1 30 = false) : (qCin g mn y z).1 = 2 := by simp [qCin, h, h2]
theorem qCin_n {g : Nat → Int32} {mn k : Nat} {z : Int32} (h : tKt g (nI k) = true) (h2 : tin z 1 30 = true) (hc : (nI k).toNatClampNeg = k) (hu : decide (kv g k 0 = 1) = false) : (qCin g mn (nI k) z).1 = 3 ∧ (qCin g mn (nI k) z).2.1 = 4 := by
  unfold qCin
  rw [if_pos h, if_pos h2, hc, if_neg (show ¬ tUp g k = true by rw [show tUp g k = false from hu]; decide)]
  exact ⟨rfl, rfl⟩
theorem qCin_ok {g : Nat → Int32} {mn k n : Nat} (h : tKt g (nI k) = true) (h2 : tin (nI n) 1 30 = true) (hc : (nI k).toNatClampNeg = k) (hc2 : (nI n).toNatClampNeg = n) (hu : decide (kv g k 0 = 1) = true) : qCin g mn (nI k) (nI n) = (0, 0, rCin g mn k n) := by
  unfold qCin
  rw [if_pos h, if_pos h2, hc, hc2, if_pos (show tUp g k = true from hu)]
theorem qBsp_1 {g : Nat → Int32} {mn : Nat} {y z : Int32} (h : tKt g y = false) : (qBsp g mn y z).1 = 1 := by simp [qBsp, h]
theorem qBsp_2 {g : Nat → Int32} {mn : Nat} {y z : Int32} (h : tKt g y = true) (h2 : tin z 1 6 = false) : (qBsp g mn y z).1 = 2 := by simp [qBsp, h, h2]
theorem qBsp_n {g : Nat → Int32} {mn k : Nat} {z : Int32} (h : tKt g (nI k) = true) (h2 : tin z 1 6 = true) (hc : (nI k).toNatClampNeg = k) (hu : decide (kv g k 0 = 1) = false) : (qBsp g mn (nI k) z).1 = 3 ∧ (qBsp g mn (nI k) z).2.1 = 4 := by
  unfold qBsp
  rw [if_pos h, if_pos h2, hc, if_neg (show ¬ tUp g k = true by rw [show tUp g k = false from hu]; decide)]
  exact ⟨rfl, rfl⟩
theorem qBsp_ok {g : Nat → Int32} {mn k n : Nat} (h : tKt g (nI k) = true) (h2 : tin (nI n) 1 6 = true) (hc : (nI k).toNatClampNeg = k) (hc2 : (nI n).toNatClampNeg = n) (hu : decide (kv g k 0 = 1) = true) : qBsp g mn (nI k) (nI n) = (0, 0, (tBs g mn k n 19).1) := by
  unfold qBsp
  rw [if_pos h, if_pos h2, hc, hc2, if_pos (show tUp g k = true from hu)]
theorem gI_p0 {g : Nat → Int32} {mn k n N : Nat} (hI : gI g mn N) (hN : N + 71 * 31 < 2 ^ 31) (hk : k < mn) (hn : n ≤ 6 := by omega) : 0 ≤ tRn (va_up g (kO k 7) (nI 0 - 9)) mn n (kO k 8) :=
  ((gI_Rn (gI_sp hI hk (sp_b9 (Nat.zero_le 18))) n (by omega)).2.2.2 k hk).2.2.2.2.2.2.2.1.1
