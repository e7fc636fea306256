/-! PURE, 16: the round as a whole -/
set_option maxRecDepth 100000
def cA (q : Nat → Int32) (mn l : Nat) : Nat := (tFd q l mn).1.toNatClampNeg
def cS (q : Nat → Int32) (mn l : Nat) : Int32 := (tFd q l mn).2.2.1
def rX3 (q : Nat → Int32) (mn z : Nat) : Nat → Int32 := tX3 (tP2 q mn mn) (tDb q mn) (cA q mn) (cS q mn) (fun l => kB q l mn) z
theorem cA_le (q : Nat → Int32) (mn l : Nat) : cA q mn l ≤ 10 := by
  unfold cA
  rcases tFd_1 q l mn with e | ⟨i, hi, e⟩
  · rw [e]; decide
  · have := tHt_le q l; rw [e, nI_clamp (by omega)]; omega
theorem due_of {q : Nat → Int32} {mn l : Nat} (h : tDb q mn l = true) : tUp q l = true ∧ (tFd q l mn).1 = nI (cA q mn l) ∧ cA q mn l < tHt q l := by
  unfold tDb at h
  rw [aG_fd (aG_P2 (l + 1)) l mn, aG_up (aG_P2 l) l, Bool.and_eq_true, Bool.and_eq_true] at h
  refine ⟨h.1, ?_⟩
  have hn : ¬ (tFd q l mn).1 < 0 := fun z => by rw [decide_eq_true z] at h; exact absurd h.2.2 (by decide)
  refine ⟨i_clamp hn, ?_⟩
  rcases tFd_1 q l mn with e | ⟨i, hi, e⟩
  · rw [e] at hn; exact absurd (by decide) hn
  · unfold cA
    have := tHt_le q l
    rw [e, nI_clamp (by omega)]; exact hi
/-- who is due is cut by somebody -/
theorem due_cutter {q : Nat → Int32} {mn N l : Nat} (hI : gI q mn N) (h : tDb q mn l = true) : (tFd q l mn).2.1 = nI (kB q l mn) ∧ 0 < mn := by
  rcases kB_tFd (x := l) hI (n := mn) (Nat.le_refl _) with ⟨-, h2⟩ | ⟨h1, h2, h3, h4⟩
  · have e : ∀ n, n ≤ mn → tFd q l n = (-1, -1, 0, 0) := by
      intro n
      induction n with
      | zero => intro _; rfl
      | succ n ih => intro hn; rw [tFd_z (h2 n (by omega)), ih (by omega)]
    have := (due_of h).2.1
    rw [e mn (Nat.le_refl _)] at this
    have h10 := cA_le q mn l
    have this : (-1 : Int32) = nI (cA q mn l) := this
    exact absurd (show (-1 : Int32) < 0 by decide) (by rw [this]; exact nI_pos (by omega))
  · exact ⟨h3, h4⟩
/-- rows that agree on the winds and on one kite's line -/
def kG (g g1 : Nat → Int32) (k : Nat) : Prop := (∀ j, j < 20 → g1 j = g j) ∧ ∀ c, c ∈ [0, 1, 5] → g1 (kO k c) = g (kO k c)
section KG
variable {g g1 : Nat → Int32} {k : Nat}
theorem kG_up (h : kG g g1 k) : tUp g1 k = tUp g k := by unfold tUp; rw [h.2 0 (by decide)]
theorem kG_tk (h : kG g g1 k) {i : Nat} (hi : i < 10) : tTk g1 k i = tTk g k i := by unfold tTk tFc; rw [h.1 (2 * i + 1) (by omega), h.1 (2 * i) (by omega), h.2 1 (by decide)]
theorem kG_bl (h : kG g g1 k) : ∀ {n : Nat}, n ≤ 10 → tBl g1 k n = tBl g k n
  | 0, _ => rfl
  | n + 1, hn => by unfold tBl; rw [kG_bl h (by omega), kG_tk h (by omega)]
theorem kG_hg (h : kG g g1 k) : ∀ (q i : Nat) (x : Int32), q + i ≤ 10 → tHg g1 k q i x = tHg g k q i x
  | 0, _, _, _ => rfl
  | q + 1, i, x, hq => by unfold tHg; rw [kG_tk h (by omega), kG_hg h q (i + 1) _ (by omega)]
theorem kG_ht (h : kG g g1 k) : tHt g1 k = tHt g k := by unfold tHt; rw [kG_up h, h.2 5 (by decide), kG_hg h 10 0 _ (by omega)]
end KG
theorem tCu_k {g : Nat → Int32} {l k d : Nat} {st go ca sw : Int32} (hk : k ≠ l) (hd : d < 15) : tCu g l st go ca sw (kO k d) = g (kO k d) := by
  unfold tCu
  have n : ∀ c', c' < 15 → kO k d ≠ kO l c' := fun c' hc' => kO_ne (Or.inl hk) hd hc'
  rw [up_n (n _ (by decide)), up_n (n _ (by decide)), up_n (n _ (by decide)), up_n (n _ (by decide)), up_n (n _ (by decide)), up_n (n _ (by decide)), up_n (n _ (by decide)), up_n (fun z => kO_lo (by decide) z.symm), up_n (fun z => kO_lo (by decide) z.symm), up_n (fun z => kO_lo (by decide) z.symm)]
/-- who isn't reached yet is as it was, but for points -/
theorem rX3_k {q : Nat → Int32} {mn : Nat} : ∀ z, (∀ j, j < 21 → rX3 q mn z j = tP2 q mn mn j) ∧ ∀ k c, z ≤ k → c ≠ 8 → c < 15 → rX3 q mn z (kO k c) = tP2 q mn mn (kO k c)
  | 0 => ⟨fun _ _ => rfl, fun _ _ _ _ _ => rfl⟩
  | z + 1 => by
    obtain ⟨h1, h2⟩ := rX3_k (q := q) (mn := mn) z
    unfold rX3 at h1 h2 ⊢
    unfold tX3
    split
    · refine ⟨fun j hj => ?_, fun k c hk hc hc2 => ?_⟩
      · unfold tCt
        rw [up_n (kO_lo (by omega)), tCu_lo (by omega) (by omega) (by omega) (by omega)]
        exact h1 j hj
      · unfold tCt
        rw [up_n (kO_ne (Or.inr hc) hc2 (by decide)), tCu_k (by omega) hc2]
        exact h2 k c (by omega) hc hc2
    · exact ⟨h1, fun k c hk hc hc2 => h2 k c (by omega) hc hc2⟩
theorem rX3_kG {q : Nat → Int32} {mn z : Nat} : kG q (rX3 q mn z) z := by
  obtain ⟨h1, h2⟩ := rX3_k (q := q) (mn := mn) z
  have ha := aG_P2 (g := q) (mn := mn) mn
  exact ⟨fun j hj => (h1 j (by omega)).trans (ha.1 j hj), fun c hc => (h2 z c (Nat.le_refl _) (by simp only [List.mem_cons, List.not_mem_nil, or_false] at hc; omega) (by simp only [List.mem_cons, List.not_mem_nil, or_false] at hc; omega)).trans (ha.2 z c (by simp only [List.mem_cons, List.not_mem_nil, or_false] at hc ⊢; omega))⟩
theorem gI_X3 {q : Nat → Int32} {mn N : Nat} (hI : gI q mn N) (hN : N + 60 < 2 ^ 31) : ∀ z, z ≤ mn → gI (rX3 q mn z) mn (N + 10 * z)
  | 0, _ => gI_P2 hI mn
  | z + 1, hz => by
    have ih := gI_X3 hI hN z (by omega)
    have hm := hI.2.2.1.2
    have hkg := rX3_kG (q := q) (mn := mn) (z := z)
    show gI (if tDb q mn z = true then tCt (rX3 q mn z) z (tBl (rX3 q mn z) z (cA q mn z)) (rX3 q mn z (kO z 5) - tBl (rX3 q mn z) z (cA q mn z)) (nI (cA q mn z)) (cS q mn z) (kB q z mn) else rX3 q mn z) mn (N + 10 * (z + 1))
    split
    · next hd =>
      obtain ⟨d1, d2, d3⟩ := due_of hd
      have hc := gI_cu (sw := cS q mn z) ih (l := z) (c := cA q mn z) (by omega) ((kG_up hkg).trans d1) (by rw [kG_ht hkg]; exact d3)
      refine gI_pt hc (by omega) (fun j hj => up_n (hj _)) (fun m hm' => ?_)
      have hp := (hc.2.2.2 m hm').2.2.2.2.2.2.2.1
      have hp0 := hp.1
      rw [i_le, i_0] at hp0
      unfold tCt
      by_cases e : m = kB q z mn
      · rw [e] at hp hp0 ⊢
        have ea : (tCu (rX3 q mn z) z (tBl (rX3 q mn z) z (cA q mn z)) (rX3 q mn z (kO z 5) - tBl (rX3 q mn z) z (cA q mn z)) (nI (cA q mn z)) (cS q mn z) (kO (kB q z mn) 8) + 10).toInt = (tCu (rX3 q mn z) z (tBl (rX3 q mn z) z (cA q mn z)) (rX3 q mn z (kO z 5) - tBl (rX3 q mn z) z (cA q mn z)) (nI (cA q mn z)) (cS q mn z) (kO (kB q z mn) 8)).toInt + 10 := by
          have := hp.2
          rw [Int32.toInt_add, show (10 : Int32).toInt = 10 from rfl]
          exact Int.bmod_eq_of_le (by omega) (by omega)
        rw [up_s, i_le, i_0, ea]
        have := hp.2
        omega
      · rw [up_n (kO_ne (Or.inl e) (by decide) (by decide))]
        exact ⟨hp.1, by have := hp.2; omega⟩
    · exact ih.up (by omega)
theorem gI_X4 {q : Nat → Int32} {mn N : Nat} (hI : gI q mn N) (hN : N + 10 < 2 ^ 31) (n : Nat) : gI (tX4 q n) mn (N + 10) := by
  obtain ⟨h1, h2⟩ := X4_rel (q := q) n
  refine gI_pt hI (by omega) h1 (fun m hm => ?_)
  have hp := (hI.2.2.2 m hm).2.2.2.2.2.2.2.1
  have hh := tHt_le q m
  rw [h2]
  split
  · have hp0 := hp.1
    rw [i_le, i_0] at hp0
    have := hp.2
    rw [i_le, i_0, Int32.toInt_add, nI_toInt (by omega), Int.bmod_eq_of_le (by omega) (by omega)]
    omega
  · exact ⟨hp.1, by have := hp.2; omega⟩
theorem tRx_eq {g : Nat → Int32} {mn N : Nat} (hI : gI (tR1 g mn) mn N) : tRx g mn = tX4 (rX3 (tR1 g mn) mn mn) mn := by
  unfold tRx tRd rX3
  refine (round_eq hI.2.2.1.2 (cA_le _ _) (fun k hk hb => ⟨?_, ?_⟩) (fun o ho hb => ⟨?_, kB_lt (by omega)⟩)).symm
  · rw [tCA_at (tDb_up hb) mn hk, aG_fd (aG_P2 (k + 1)) k mn]; exact (due_of hb).2.1
  · rw [tCC_at (tDb_up hb) mn hk, aG_fd (aG_P2 (k + 1)) k mn]; rfl
  · rw [tCB_at (tDb_up hb) mn ho, aG_fd (aG_P2 (o + 1)) o mn]; exact (due_cutter hI hb).1
theorem gI_R1 {g : Nat → Int32} {mn N : Nat} (h : gI g mn N) (hN : N + 1 < 2 ^ 31) : gI (tR1 g mn) mn (N + 1) := gI_P1 (gI_G0 h hN) (Nat.le_refl _)
theorem gI_Rx {g : Nat → Int32} {mn N : Nat} (h : gI g mn N) (hN : N + 71 < 2 ^ 31) : gI (tRx g mn) mn (N + 71) := by
  have h1 := gI_R1 h (by omega)
  rw [tRx_eq h1]
  have hm := h.2.2.1.2
  exact (gI_X4 ((gI_X3 h1 (by omega) mn (Nat.le_refl _)).up (N1 := N + 61) (by omega)) (by omega) mn).up (by omega)
theorem rX3_t {q : Nat → Int32} {mn z : Nat} (h : tDb q mn z = true) : tCt (rX3 q mn z) z (tBl (rX3 q mn z) z (cA q mn z)) (rX3 q mn z (kO z 5) - tBl (rX3 q mn z) z (cA q mn z)) (nI (cA q mn z)) ((tFd q z mn).2.2.1) (kB q z mn) = rX3 q mn (z + 1) := (if_pos h).symm
theorem rX3_f {q : Nat → Int32} {mn z : Nat} (h : tDb q mn z = false) : rX3 q mn z = rX3 q mn (z + 1) := (if_neg (by rw [h]; decide)).symm
theorem rX3_24 {q : Nat → Int32} {mn : Nat} : ∀ z, rX3 q mn z 24 = q 24 + tNc (tDb q mn) z
  | 0 => by
    show tP2 q mn mn 24 = q 24 + 0
    rw [tP2_lo (fun k => kO_lo (by decide))]
    grind
  | z + 1 => by
    have ih := rX3_24 (q := q) (mn := mn) z
    cases h : tDb q mn z with
    | true =>
      rw [← rX3_t h, tNc_t h]
      unfold tCt
      rw [up_n (kO_lo (by decide))]
      unfold tCu
      rw [up_n (kO_lo (by decide)), up_n (kO_lo (by decide)), up_n (kO_lo (by decide)), up_n (kO_lo (by decide)), up_n (kO_lo (by decide)), up_n (kO_lo (by decide)), up_n (kO_lo (by decide)), up_s, ih]
      grind
    | false => rw [← rX3_f h, tNc_f h, ih]
theorem tR1_24 {g : Nat → Int32} {mn : Nat} : tR1 g mn 24 = g 24 := by
  unfold tR1
  rw [tP1_lo (by decide) (by decide) (by decide), tG0_lo (by decide)]
theorem rX_24 {g : Nat → Int32} {mn z u : Nat} : tX4 (rX3 (tR1 g mn) mn z) u 24 = g 24 + tNc (tDb (tR1 g mn) mn) z := by
  rw [(X4_rel u).1 24 (noP_lo (by decide)), rX3_24, tR1_24]
theorem due_t {q : Nat → Int32} {mn z : Nat} {x : Int32} (hz : z < mn) (hx : x = kMk (tP2 q mn mn) mn z) (h : ¬ x = -1) : tDb q mn z = true := by
  cases e : tDb q mn z with
  | true => rfl
  | false => exact absurd (hx.trans ((kMk_due hz).2 e)) h
theorem due_f {q : Nat → Int32} {mn z : Nat} {x : Int32} (hz : z < mn) (hx : x = kMk (tP2 q mn mn) mn z) (h : x = -1) : tDb q mn z = false := by
  cases e : tDb q mn z with
  | false => rfl
  | true =>
    obtain ⟨h1, h2⟩ := (kMk_due hz).1 e
    rw [← h1, ← hx, h] at h2
    exact absurd (by decide) h2
theorem due_ly {q : Nat → Int32} {mn z : Nat} {x : Int32} (hz : z < mn) (hx : x = kMk (tP2 q mn mn) mn z) (h : tDb q mn z = true) : x = nI (cA q mn z) := by
  rw [hx, ((kMk_due hz).1 h).1, (due_of h).2.1]
