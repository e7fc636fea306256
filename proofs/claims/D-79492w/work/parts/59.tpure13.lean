/-! PURE, 13: what lines hang on -/
set_option maxRecDepth 100000
/-- rows that agree on winds and on what lines hang on: state, make, roof, glass, out -/
def aG (g g1 : Nat → Int32) : Prop := (∀ j, j < 20 → g1 j = g j) ∧ ∀ k c, c ∈ [0, 1, 2, 4, 5] → g1 (kO k c) = g (kO k c)
section AG
variable {g g1 : Nat → Int32}
theorem aG_up (h : aG g g1) (k : Nat) : tUp g1 k = tUp g k := by unfold tUp; rw [h.2 k 0 (by decide)]
theorem aG_fc (h : aG g g1) (k : Nat) : tFc g1 k = tFc g k := by unfold tFc; rw [h.2 k 1 (by decide)]
theorem aG_hd (h : aG g g1) (k : Nat) : tHd g1 k = tHd g k := by unfold tHd; rw [h.2 k 1 (by decide)]
theorem aG_ar (h : aG g g1) (k : Nat) : tAr g1 k = tAr g k := by unfold tAr; rw [h.2 k 1 (by decide)]
theorem aG_tk (h : aG g g1) (k : Nat) {i : Nat} (hi : i < 10) : tTk g1 k i = tTk g k i := by unfold tTk; rw [h.1 _ (by omega), h.1 _ (by omega), aG_fc h]
theorem aG_bl (h : aG g g1) (k : Nat) : ∀ {n : Nat}, n ≤ 10 → tBl g1 k n = tBl g k n
  | 0, _ => rfl
  | n + 1, hn => by unfold tBl; rw [aG_bl h k (by omega), aG_tk h k (by omega)]
theorem aG_hg (h : aG g g1) (k : Nat) : ∀ (q i : Nat) (x : Int32), q + i ≤ 10 → tHg g1 k q i x = tHg g k q i x
  | 0, _, _, _ => rfl
  | q + 1, i, x, hq => by unfold tHg; rw [aG_tk h k (by omega), aG_hg h k q (i + 1) _ (by omega)]
theorem aG_ht (h : aG g g1) (k : Nat) : tHt g1 k = tHt g k := by unfold tHt; rw [aG_up h, h.2 k 5 (by decide), aG_hg h k 10 0 _ (by omega)]
theorem aG_pl (h : aG g g1) (k : Nat) : ∀ {n : Nat}, n ≤ 10 → tPl g1 k n = tPl g k n
  | 0, _ => h.2 k 2 (by decide)
  | n + 1, hn => by unfold tPl; rw [aG_pl h k (by omega), h.1 _ (by omega), aG_fc h]
theorem aG_sm (h : aG g g1) : ∀ {n : Nat}, n ≤ 10 → tSm g1 n = tSm g n
  | 0, _ => rfl
  | n + 1, hn => by unfold tSm; rw [aG_sm h (by omega), h.1 _ (by omega)]
theorem aG_ts (h : aG g g1) (k : Nat) : tTs g1 k = tTs g k := by unfold tTs; rw [aG_ar h, aG_ht h, aG_sm h (tHt_le g k)]
theorem aG_cg (h : aG g g1) (x y : Nat) : ∀ (q i : Nat), q + i ≤ 10 → tCg g1 x y q i = tCg g x y q i
  | 0, _, _ => rfl
  | q + 1, i, hq => by unfold tCg; rw [aG_pl h x (by omega), aG_pl h y (by omega), aG_pl h x (by omega), aG_pl h y (by omega), aG_cg h x y q (i + 1) (by omega)]
theorem aG_cr (h : aG g g1) (x y : Nat) : tCr g1 x y = tCr g x y := by
  unfold tCr
  have := tHt_le g x
  rw [aG_ht h, aG_ht h, aG_cg h x y _ 0 (by omega)]
theorem aG_wb (h : aG g g1) (x y : Nat) : tWb g1 x y = tWb g x y := by unfold tWb; rw [aG_cr h, aG_ts h, aG_ts h, h.2 y 4 (by decide)]
theorem aG_wn (h : aG g g1) (k : Nat) : ∀ n, tWn g1 k n = tWn g k n
  | 0 => rfl
  | n + 1 => by unfold tWn; rw [aG_wn h k n, aG_wb h]
theorem aG_fd (h : aG g g1) (k : Nat) : ∀ n, tFd g1 k n = tFd g k n
  | 0 => rfl
  | n + 1 => by unfold tFd; rw [aG_fd h k n, aG_wb h, aG_cr h]
end AG
theorem aG_P2 {g : Nat → Int32} {mn : Nat} (n : Nat) : aG g (tP2 g mn n) :=
  ⟨fun j hj => tP2_lo (fun k => kO_lo (by omega)) n, fun k c hc => tP2_lo (fun k' => kO_ne (Or.inr (by simp only [List.mem_cons, List.not_mem_nil, or_false] at hc; omega)) (by simp only [List.mem_cons, List.not_mem_nil, or_false] at hc; omega) (by decide)) n⟩
theorem tWA_P2 {g : Nat → Int32} {mn : Nat} : ∀ n, tWA g mn n = tP2 g mn n
  | 0 => rfl
  | n + 1 => by
    unfold tWA tWr tP2
    rw [tWA_P2 n, aG_wn (aG_P2 n)]
    by_cases h : tP2 g mn n (kO n 0) = 1
    · rw [if_pos h, if_pos (show tUp (tP2 g mn n) n = true from decide_eq_true h)]
    · rw [if_neg h, if_neg (show ¬ tUp (tP2 g mn n) n = true from fun z => h (of_decide_eq_true z))]
theorem tP2_6 {g : Nat → Int32} {mn l : Nat} : ∀ {n : Nat}, l + 1 ≤ n → tP2 g mn n (kO l 6) = tP2 g mn (l + 1) (kO l 6)
  | 0, h => absurd h (by omega)
  | n + 1, h => by
    by_cases e : n = l
    · rw [e]
    · have ih := tP2_6 (g := g) (mn := mn) (l := l) (n := n) (by omega)
      rw [← ih]
      show (if tUp (tP2 g mn n) n = true then _ else _ : Nat → Int32) (kO l 6) = _
      split
      · exact up_n (kO_ne (Or.inl (fun z => e z.symm)) (by decide) (by decide))
      · rfl
/-- the marks are the twin's dues -/
theorem kMk_due {g : Nat → Int32} {mn l : Nat} (hl : l < mn) : (tDb g mn l = true → kMk (tP2 g mn mn) mn l = (tFd g l mn).1 ∧ ¬ (tFd g l mn).1 < 0) ∧ (tDb g mn l = false → kMk (tP2 g mn mn) mn l = -1) := by
  have e1 : tUp (tP2 g mn mn) l = tUp (tP2 g mn l) l := (aG_up (aG_P2 mn) l).trans (aG_up (aG_P2 l) l).symm
  have e2 : tHd (tP2 g mn mn) l = tHd (tP2 g mn (l + 1)) l := (aG_hd (aG_P2 mn) l).trans (aG_hd (aG_P2 (l + 1)) l).symm
  have e3 : tP2 g mn mn (kO l 6) = tP2 g mn (l + 1) (kO l 6) := tP2_6 (by omega)
  have e4 : tFd (tP2 g mn mn) l mn = tFd g l mn := aG_fd (aG_P2 mn) l mn
  have e5 : tFd (tP2 g mn (l + 1)) l mn = tFd g l mn := aG_fd (aG_P2 (l + 1)) l mn
  unfold kMk tDb
  rw [e1, e2, e3, e4, e5]
  cases hu : tUp (tP2 g mn l) l with
  | false => simp
  | true =>
    by_cases hw : tP2 g mn (l + 1) (kO l 6) < tHd (tP2 g mn (l + 1)) l
    · simp [hw]
    · by_cases hn : (tFd g l mn).1 < 0
      · have : (tFd g l mn).1 = -1 := by
          rcases tFd_1 g l mn with e | ⟨i, hi, e⟩
          · exact e
          · have := tHt_le g l; rw [e] at hn; exact absurd hn (nI_pos (by omega))
        simp [hw, this]
      · simp [hw, hn]
