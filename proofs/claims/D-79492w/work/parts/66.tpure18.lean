/-! PURE, 18: a kite more -/
set_option maxRecDepth 100000
theorem townR.add {E : gE} {w w1 : wd} {i : Nat} {A : Nat → Nat} {g g1 : Nat → Int32} {mn : Nat} {wn ly v : Nat → Int32} {t : Nat} (h : townR E w i A g mn wn ly) (hi : i ≠ 0) (hm : mn < 6) (hf : fr (pO (i, 0)) w w1) (h0 : w1 (A 0) = some ((i, 0), .inr (2, tnF A g (mn + 1)))) (hk : w1 (A (6 + mn)) = some ((i, 6 + mn), .inr (3, kF E v t))) (hs : stR w1 i mn v t) (hv : v = kv g1 mn) (hg : ∀ j, j < 25 → g1 j = g j) (h25 : g1 25 = nI (mn + 1)) (ho : ∀ j, j < mn → kv g1 j = kv g j) : townR E w1 i A g1 (mn + 1) wn ly := by
  obtain ⟨a0, ⟨f1, a1, b1⟩, ⟨f2, a2, b2⟩, ⟨f3, a3, b3⟩, a4, a5, ⟨a6, a6'⟩, a7⟩ := h
  have ne : ∀ r, r ≠ 0 → ¬ pO (i, 0) (i, r) := fun r hr z => by simp only [pO, Prod.mk.injEq] at z; omega
  have e0 : tnF A g (mn + 1) = tnF A g1 (mn + 1) := by simp only [tnF, hg 20 (by decide), hg 21 (by decide), hg 22 (by decide), hg 23 (by decide), hg 24 (by decide)]
  refine ⟨by rw [← e0]; exact h0, ⟨f1, hf _ _ _ a1 (ne _ (by decide)), fun q hq => (b1 q hq).trans (hg _ (by omega)).symm⟩, ⟨f2, hf _ _ _ a2 (ne _ (by decide)), fun q hq => (b2 q hq).trans (hg _ (by omega)).symm⟩, ⟨f3, hf _ _ _ a3 (ne _ (by decide)), b3⟩, hf _ _ _ a4 (ne _ (by decide)), hf _ _ _ a5 (ne _ (by decide)), ⟨h25, by omega⟩, ?_⟩
  intro k hk6
  by_cases e : k = mn
  · subst e
    exact ⟨v, t, fun _ => hv, hk, hs⟩
  · obtain ⟨v', t', e', h'⟩ := a7 k hk6
    exact ⟨v', t', fun z => (e' (by omega)).trans (ho k (by omega)).symm, h'.frm hf (fun z => by simp only [pO, Prod.mk.injEq] at z; omega) (ne _ (by omega)) (ne _ (by omega))⟩
theorem tZr_v {g : Nat → Int32} {k : Nat} : ∀ n, n ≤ 15 → ∀ c, c < 15 → tZr g k n (kO k c) = if c < n then 0 else g (kO k c)
  | 0, _, c, _ => by rw [if_neg (Nat.not_lt_zero c)]; rfl
  | n + 1, hn, c, hc => by
    unfold tZr
    by_cases e : c = n
    · subst e; rw [up_s, if_pos (Nat.lt_succ_self c)]
    · rw [up_n (kO_c e hc (by omega)), tZr_v n (by omega) c hc]
      by_cases h : c < n
      · rw [if_pos h, if_pos (by omega)]
      · rw [if_neg h, if_neg (by omega)]
theorem tZr_ne {g : Nat → Int32} {k j c : Nat} (h : j ≠ k) (hc : c < 15) : ∀ n, n ≤ 15 → tZr g k n (kO j c) = g (kO j c)
  | 0, _ => rfl
  | n + 1, hn => by
    unfold tZr
    rw [up_n (kO_ne (Or.inl h) hc (by omega)), tZr_ne h hc n (by omega)]
theorem tNk_new {g : Nat → Int32} {k z : Nat} {x2 x3 x4 : Int32} : kBg z x2 x3 x4 = kv (tNk g k (nI z) x2 x3 x4) k := by
  funext c
  unfold kv
  by_cases hc : c < 15
  · rw [if_pos hc]
    have q : ∀ c', (kO k c = kO k c') ↔ c = c' := fun c' => by unfold kO; omega
    have q2 : (kO k c = 25) ↔ False := ⟨fun z => kO_lo (by decide) z.symm, fun z => z.elim⟩
    simp only [tNk, va_up, q, q2, if_false, tZr_v 15 (Nat.le_refl _) c hc, if_pos hc, kBg]
    by_cases e4 : c = 4
    · subst e4; simp
    · by_cases e12 : c = 12
      · subst e12; simp
      · by_cases e3 : c = 3
        · subst e3; simp
        · by_cases e2 : c = 2
          · subst e2; simp
          · simp [e4, e12, e3, e2]
  · rw [if_neg hc]
    simp only [kBg]
    rw [if_neg (by omega), if_neg (by omega), if_neg (by omega), if_neg (by omega), if_neg (by omega)]
theorem tNk_old {g : Nat → Int32} {k j : Nat} {x1 x2 x3 x4 : Int32} (h : j ≠ k) : kv (tNk g k x1 x2 x3 x4) j = kv g j := by
  unfold tNk
  rw [kv_lo (by decide), kv_ne h (by decide), kv_ne h (by decide), kv_ne h (by decide), kv_ne h (by decide), kv_ne h (by decide)]
  funext c
  unfold kv
  split
  · next hc => exact tZr_ne h hc 15 (Nat.le_refl _)
  · rfl
theorem tNk_lo {g : Nat → Int32} {k j : Nat} {x1 x2 x3 x4 : Int32} (h : j < 25) : tNk g k x1 x2 x3 x4 j = g j := by
  unfold tNk
  rw [up_n (by omega), up_n (kO_lo (by omega)), up_n (kO_lo (by omega)), up_n (kO_lo (by omega)), up_n (kO_lo (by omega)), up_n (kO_lo (by omega)), tZr_lo (by omega)]
theorem tNk_25 {g : Nat → Int32} {k : Nat} {x1 x2 x3 x4 : Int32} : tNk g k x1 x2 x3 x4 25 = nI (k + 1) := by unfold tNk; exact up_s _ _ _
def v0K : Nat → Int32 := fun _ => 0
