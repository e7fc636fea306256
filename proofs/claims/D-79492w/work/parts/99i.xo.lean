/-! THE COMPONENT, 17: orders carried out, pure -/
set_option maxRecDepth 100000
theorem ordE_cases {w : wd} {y : Nat} {v : Nat → Int32} (h : odR w y v) : (v 0 = 119 ∧ w y = some ((98, 2), .inr (9, [.int (v 1), .int (v 2), .int (v 3)]))) ∨ (v 0 = 107 ∧ w y = some ((98, 2), .inr (10, [.int (v 1), .int (v 2), .int (v 3), .int (v 4)]))) ∨ (v 0 = 117 ∧ w y = some ((98, 2), .inr (11, [.int (v 1)]))) ∨ (v 0 = 114 ∧ w y = some ((98, 2), .inr (12, [.int (v 1), .int (v 2)]))) ∨
    ((¬ v 0 = 119 ∧ ¬ v 0 = 107 ∧ ¬ v 0 = 117 ∧ ¬ v 0 = 114) ∧ w y = some ((98, 2), .inr (13, [.int (v 1)]))) := by
  unfold odR ordE at h
  by_cases h1 : v 0 = 119
  · rw [if_pos h1] at h; exact Or.inl ⟨h1, h⟩
  · rw [if_neg h1] at h
    by_cases h2 : v 0 = 107
    · rw [if_pos h2] at h; exact Or.inr (Or.inl ⟨h2, h⟩)
    · rw [if_neg h2] at h
      by_cases h3 : v 0 = 117
      · rw [if_pos h3] at h; exact Or.inr (Or.inr (Or.inl ⟨h3, h⟩))
      · rw [if_neg h3] at h
        by_cases h4 : v 0 = 114
        · rw [if_pos h4] at h; exact Or.inr (Or.inr (Or.inr (Or.inl ⟨h4, h⟩)))
        · rw [if_neg h4] at h; exact Or.inr (Or.inr (Or.inr (Or.inr ⟨⟨h1, h2, h3, h4⟩, h⟩)))
def cMB (g v : Nat → Int32) : Bool := if v 0 = 119 then (tin (v 2) 0 9 && tin (v 3) (-3) 3) else if v 0 = 107 then (tin (v 1) 0 2 && (tin (v 2) 0 40 && (tin (v 3) 10 99 && tin (v 4) 0 9))) else if v 0 = 117 then tKt g (v 1) else if v 0 = 114 then (tKt g (v 1) && tin (v 2) (-20) 20) else tin (v 1) 1 30
def cRs (g : Nat → Int32) (mn : Nat) (v : Nat → Int32) : Int32 := if v 0 = 107 then (if mn = 6 then 1 else 0) else if v 0 = 117 then rsL g (v 1).toNatClampNeg else if v 0 = 114 then rsR g (v 1).toNatClampNeg (v 2) else 0
def cDo (g : Nat → Int32) (mn : Nat) (v : Nat → Int32) : Nat → Int32 := if v 0 = 119 then va_up (va_up g (2 * (v 1).toNatClampNeg) (v 2)) (2 * (v 1).toNatClampNeg + 1) (v 3) else if v 0 = 107 then tNk g mn (v 1) (v 2) (v 3) (v 4) else if v 0 = 117 then tLn g (v 1).toNatClampNeg else if v 0 = 114 then tLt g (v 1).toNatClampNeg (v 2) else tRn g mn (v 1).toNatClampNeg
def cDm (mn : Nat) (v : Nat → Int32) : Nat := if v 0 = 107 then mn + 1 else mn
def vOK (v : Nat → Int32) : Prop := v 0 = 119 → tin (v 1) 0 9 = true
theorem gI_mono {g : Nat → Int32} {mn N M : Nat} (h : gI g mn N) (hN : N ≤ M) : gI g mn M := by
  obtain ⟨h1, ⟨h2, h3⟩, h4, h5⟩ := h
  refine ⟨h1, ⟨h2, by omega⟩, h4, fun k hk => ?_⟩
  obtain ⟨a1, a2, a3, a4, a5, a6, a7, ⟨a8, a9⟩, a10⟩ := h5 k hk
  exact ⟨a1, a2, a3, a4, a5, a6, a7, ⟨a8, by omega⟩, a10⟩
theorem tin_b {v lo hi : Int32} (h : tin v lo hi = true) : lo ≤ v ∧ v ≤ hi := tin_of h
theorem gI_do {g v : Nat → Int32} {mn N : Nat} (hI : gI g mn N) (hm : cMB g v = true) (hr : cRs g mn v ≤ 0) (hv : vOK v) (hN : N + 71 * 31 < 2 ^ 31) : gI (cDo g mn v) (cDm mn v) (N + 71 * 30) := by
  have hm6 := hI.2.2.1
  unfold cMB at hm
  unfold cRs at hr
  unfold cDo cDm
  by_cases h1 : v 0 = 119
  · rw [if_pos h1] at hm
    rw [if_pos h1, if_neg (show ¬ v 0 = 107 by rw [h1]; decide)]
    obtain ⟨k, hk, e⟩ := tin_N (n := 9) (by decide) (hv h1)
    obtain ⟨h2, h3⟩ := Bool.and_eq_true_iff.mp hm
    rw [e, nI_clamp (by omega)]
    exact gI_mono (gI_wd hI hk (tin_b h2) (tin_b h3)) (by omega)
  · rw [if_neg h1] at hm
    rw [if_neg h1]
    by_cases h2 : v 0 = 107
    · rw [if_pos h2] at hm hr
      rw [if_pos h2, if_pos h2]
      simp only [Bool.and_eq_true] at hm
      obtain ⟨k, hk, e⟩ := tin_N (n := 2) (by decide) hm.1
      rw [e]
      refine gI_mono (gI_nk hI ?_ (by omega) (tin_b hm.2.2.1) (tin_b hm.2.2.2)) (by omega)
      by_cases h6 : mn = 6
      · rw [if_pos h6] at hr; exact absurd hr (by decide)
      · omega
    · rw [if_neg h2] at hm hr
      rw [if_neg h2, if_neg h2]
      by_cases h3 : v 0 = 117
      · rw [if_pos h3] at hm
        rw [if_pos h3]
        obtain ⟨k, hk, e⟩ := tKt_of hm6.1 hm6.2 hm
        rw [e, nI_clamp (by omega)]
        exact gI_mono (gI_ln hI hk) (by omega)
      · rw [if_neg h3] at hm hr
        rw [if_neg h3]
        by_cases h4 : v 0 = 114
        · rw [if_pos h4] at hm hr
          rw [if_pos h4]
          obtain ⟨h5, h6⟩ := Bool.and_eq_true_iff.mp hm
          obtain ⟨k, hk, e⟩ := tKt_of hm6.1 hm6.2 h5
          rw [e] at h5 hr
          rw [nI_clamp (by omega)] at hr
          obtain ⟨⟨hu, hx1, hx2⟩, -⟩ := (qReel_r h5 h6 (nI_clamp (by omega))).2 hr
          rw [e, nI_clamp (by omega)]
          exact gI_mono (gI_rl hI hk hu hx1 hx2) (by omega)
        · rw [if_neg h4] at hm
          rw [if_neg h4]
          obtain ⟨k, hk, e⟩ := tin_1N (n := 30) (by decide) hm
          rw [e, nI_clamp (by omega)]
          exact gI_mono (gI_Rn hI k (by omega)) (by omega)
theorem townR.rowm {E : gE} {w : wd} {i : Nat} {A : Nat → Nat} {g g1 : Nat → Int32} {mn m1 : Nat} {wn ly : Nat → Int32} (h : townR E w i A g mn wn ly) (e : g = g1) (e2 : mn = m1) : townR E w i A g1 m1 wn ly := by subst e; subst e2; exact h
