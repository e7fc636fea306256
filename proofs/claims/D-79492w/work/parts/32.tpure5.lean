/-! PURE, 5: rounds in thought -/
set_option maxRecDepth 100000
theorem kO_hi {i k c : Nat} (h : 116 ≤ i) (hk : k < 6) (hc : c < 15) : i ≠ kO k c := by unfold kO; omega
theorem tLt_hi {g : Nat → Int32} {k : Nat} {b : Int32} {i : Nat} (h : 116 ≤ i) (hk : k < 6) : tLt g k b i = g i := by
  unfold tLt
  split
  · rw [up_n (by omega), up_n (kO_hi h hk (by decide))]
  · rw [up_n (by omega), up_n (kO_hi h hk (by decide))]
theorem tP1_hi {g : Nat → Int32} {i : Nat} (h : 116 ≤ i) : ∀ n, n ≤ 6 → tP1 g n i = g i
  | 0, _ => rfl
  | n + 1, hn => by
    unfold tP1
    split
    · rw [tLt_hi h (by omega), tP1_hi h n (by omega)]
    · exact tP1_hi h n (by omega)
theorem tP2_hi {g : Nat → Int32} {mn i : Nat} (h : 116 ≤ i) : ∀ n, n ≤ 6 → tP2 g mn n i = g i
  | 0, _ => rfl
  | n + 1, hn => by
    unfold tP2
    split
    · rw [up_n (kO_hi h (by omega) (by decide)), tP2_hi h n (by omega)]
    · exact tP2_hi h n (by omega)
theorem tCu_hi {r : Nat → Int32} {k : Nat} {st go ca sw : Int32} {i : Nat} (h : 116 ≤ i) (hk : k < 6) : tCu r k st go ca sw i = r i := by
  unfold tCu
  rw [up_n (kO_hi h hk (by decide)), up_n (kO_hi h hk (by decide)), up_n (kO_hi h hk (by decide)), up_n (kO_hi h hk (by decide)), up_n (kO_hi h hk (by decide)), up_n (kO_hi h hk (by decide)), up_n (kO_hi h hk (by decide)), up_n (by omega), up_n (by omega), up_n (by omega)]
theorem tP3_hi {r : Nat → Int32} {b : Nat → Bool} {A C : Nat → Int32} {i : Nat} (h : 116 ≤ i) : ∀ n, n ≤ 6 → tP3 r b A C n i = r i
  | 0, _ => rfl
  | n + 1, hn => by
    unfold tP3
    split
    · rw [tCu_hi h (by omega), tP3_hi h n (by omega)]
    · exact tP3_hi h n (by omega)
theorem tQ4_hi {r : Nat → Int32} {k : Nat} {b : Nat → Bool} {B : Nat → Int32} {i : Nat} (h : 116 ≤ i) (hk : k < 6) : ∀ n, tQ4 r k b B n i = r i := fun n => tQ4_lo (kO_hi h hk (by decide)) n
theorem tP4_hi {r : Nat → Int32} {b : Nat → Bool} {B : Nat → Int32} {mn i : Nat} (h : 116 ≤ i) : ∀ n, n ≤ 6 → tP4 r b B mn n i = r i
  | 0, _ => rfl
  | n + 1, hn => by
    unfold tP4
    rw [tQ4_hi h (by omega), up_n (kO_hi h (by omega) (by decide)), tP4_hi h n (by omega)]
theorem tRx_hi {g : Nat → Int32} {mn i : Nat} (hmn : mn ≤ 6) (h : 116 ≤ i) : tRx g mn i = g i := by
  unfold tRx tRd tR2 tR1
  rw [tP4_hi h mn hmn, tP3_hi h mn hmn, tP2_hi h mn hmn, tP1_hi h mn hmn, tG0_lo (by omega)]
theorem tRn_hi {g : Nat → Int32} {mn i : Nat} (hmn : mn ≤ 6) (h : 116 ≤ i) : ∀ n, tRn g mn n i = g i
  | 0 => rfl
  | n + 1 => by
    unfold tRn
    rw [tRx_hi hmn h, tRn_hi hmn h n]
/-- laid back: the row is as it was -/
theorem cpy_back {g T r : Nat → Int32} (h : ∀ i, 116 ≤ i → r i = g i) : va_cpy (va_cpy g T 0 0 116) r 0 0 116 = g := by
  funext i
  simp only [va_cpy]
  by_cases e : i < 116
  · rw [if_pos (by omega), if_pos (by omega)]
    congr 1
    omega
  · rw [if_neg (by omega), h i (by omega)]
/-- cutIn: how many rounds till the kite isn't up, at most n -/
def tKn (g : Nat → Int32) (mn k n : Nat) : Nat → Nat → Nat
  | 0, i => i
  | q + 1, i => if tUp (tRn g mn i) k = true then tKn g mn k n q (i + 1) else i
def rCin (g : Nat → Int32) (mn k n : Nat) : Int32 := if tUp (tRn g mn (tKn g mn k n n 0)) k = true then -1 else nI (tKn g mn k n n 0)
/-- (code, reason, answer) -/
def qCin (g : Nat → Int32) (mn : Nat) (x y : Int32) : Int32 × Int32 × Int32 := if tKt g x = true then (if tin y 1 30 = true then (if tUp g x.toNatClampNeg = true then (0, 0, rCin g mn x.toNatClampNeg y.toNatClampNeg) else (3, 4, 0)) else (2, 0, 0)) else (1, 0, 0)
/-- bestSpeed: the best and its points after i speeds -/
def tBs (g : Nat → Int32) (mn k n : Nat) : Nat → Int32 × Int32
  | 0 => (0, -1)
  | i + 1 => if tRn (va_up g (kO k 7) (nI i - 9)) mn n (kO k 8) ≤ (tBs g mn k n i).2 then tBs g mn k n i else (nI i - 9, tRn (va_up g (kO k 7) (nI i - 9)) mn n (kO k 8))
def qBsp (g : Nat → Int32) (mn : Nat) (x y : Int32) : Int32 × Int32 × Int32 := if tKt g x = true then (if tin y 1 6 = true then (if tUp g x.toNatClampNeg = true then (0, 0, (tBs g mn x.toNatClampNeg y.toNatClampNeg 19).1) else (3, 4, 0)) else (2, 0, 0)) else (1, 0, 0)
/-- what such a call leaves of the numbers -/
def oC (f : Nat → Int32) (q : Int32 × Int32 × Int32) : Nat → Int32 := if q.1 = 0 then va_up f 13 0 else if q.2.1 = 0 then va_up f 13 q.1 else va_up (va_up (va_up (va_up f 13 0) 11 q.2.1) 12 (-1)) 13 q.1
theorem oC_ok {f : Nat → Int32} {r x : Int32} : oC f (0, x, r) = va_up f 13 0 := if_pos rfl
theorem oC_no {f : Nat → Int32} {c r : Int32} (h : ¬ c = 0) : oC f (c, 0, r) = va_up f 13 c := (if_neg h).trans (if_pos rfl)
theorem oC_rf {f : Nat → Int32} {c x r : Int32} (h : ¬ c = 0) (h2 : ¬ x = 0) : oC f (c, x, r) = va_up (va_up (va_up (va_up f 13 0) 11 x) 12 (-1)) 13 c := (if_neg h).trans (if_neg h2)
theorem sp_0 : (-9 : Int32) = nI 0 - 9 := by decide
theorem sp_1 (i : Nat) : nI i - 9 + 1 = nI (i + 1) - 9 := by rw [← nI_1]; grind
theorem sp_gt {i : Nat} (h : i ≤ 19) : 9 < nI i - 9 ↔ 19 ≤ i := by
  have key : ∀ i : Fin 20, (9 : Int32) < nI i.val - 9 ↔ 19 ≤ i.val := by decide
  exact key ⟨i, by omega⟩
theorem up_self3 (a : Nat → Nat → Int32) : va_up (va_up (va_up a 14 (a 14)) 15 (a 15)) 16 (a 16) = a := by rw [up_same, up_same, up_same]
theorem tin_M {v : Int32} {m n : Nat} (hm : m < 2 ^ 31) (hn : n < 2 ^ 31) (h : tin v (nI m) (nI n) = true) : ∃ k, (m ≤ k ∧ k ≤ n) ∧ v = nI k := by
  obtain ⟨h1, h2⟩ := tin_of h
  have h0 : ¬ v < 0 := fun z => Int32.lt_irrefl (Int32.lt_of_le_of_lt (nI_pos' hm) (Int32.lt_of_le_of_lt h1 z))
  obtain ⟨j, hj, rfl⟩ := nI_of h0
  exact ⟨j, ⟨(nI_leI hm hj).mp h1, (nI_leI hj hn).mp h2⟩, rfl⟩
