/-! THE COMPONENT, 7: how a town changes -/
set_option maxRecDepth 100000
theorem kv_lo {g : Nat → Int32} {i k : Nat} {x : Int32} (h : i < 26) : kv (va_up g i x) k = kv g k := by
  funext c
  unfold kv
  split
  · exact up_n (fun z => kO_lo h z.symm)
  · rfl
theorem kv_ne {g : Nat → Int32} {j k c : Nat} {x : Int32} (h : j ≠ k) (hc : c < 15) : kv (va_up g (kO k c) x) j = kv g j := by
  funext d
  unfold kv
  split
  · next hd => exact up_n (kO_ne (Or.inl h) hd hc)
  · rfl
theorem kv_eq {g : Nat → Int32} {k c : Nat} {x : Int32} (hc : c < 15) : kv (va_up g (kO k c) x) k = va_up (kv g k) c x := by
  funext d
  simp only [kv, va_up]
  by_cases e : d = c
  · subst e; simp [hc]
  · by_cases hd : d < 15
    · simp [hd, e, kO_ne (Or.inr e) hd hc]
    · simp [hd, e]
theorem kv_at {g : Nat → Int32} {k c : Nat} (hc : c < 15) : kv g k c = g (kO k c) := if_pos hc
theorem townR.scal {E : gE} {w w1 : wd} {i : Nat} {A : Nat → Nat} {g g1 : Nat → Int32} {mn : Nat} {wn ly : Nat → Int32} (h : townR E w i A g mn wn ly) (hi : i ≠ 0) (hf : fr (pO (i, 0)) w w1) (h0 : w1 (A 0) = some ((i, 0), .inr (2, tnF A g1 mn))) (hg : ∀ j, (j < 20 ∨ 25 ≤ j) → g1 j = g j) : townR E w1 i A g1 mn wn ly := by
  obtain ⟨a0, ⟨f1, a1, b1⟩, ⟨f2, a2, b2⟩, ⟨f3, a3, b3⟩, a4, a5, ⟨a6, a6'⟩, a7⟩ := h
  have ne : ∀ r, r ≠ 0 → ¬ pO (i, 0) (i, r) := fun r hr z => by simp only [pO, Prod.mk.injEq] at z; omega
  refine ⟨h0, ⟨f1, hf _ _ _ a1 (ne _ (by decide)), fun q hq => (b1 q hq).trans (hg _ (by omega)).symm⟩, ⟨f2, hf _ _ _ a2 (ne _ (by decide)), fun q hq => (b2 q hq).trans (hg _ (by omega)).symm⟩, ⟨f3, hf _ _ _ a3 (ne _ (by decide)), b3⟩, hf _ _ _ a4 (ne _ (by decide)), hf _ _ _ a5 (ne _ (by decide)), ⟨(hg 25 (by omega)).trans a6, a6'⟩, ?_⟩
  intro k hk
  obtain ⟨v, t, e, h⟩ := a7 k hk
  refine ⟨v, t, fun z => (e z).trans ?_, h.frm hf (fun z => by simp only [pO, Prod.mk.injEq] at z; omega) (ne _ (by omega)) (ne _ (by omega))⟩
  funext c
  unfold kv
  split
  · exact (hg _ (by unfold kO; omega)).symm
  · rfl
theorem townR.wst {E : gE} {w w1 : wd} {i : Nat} {A : Nat → Nat} {g : Nat → Int32} {mn : Nat} {wn wn1 ly : Nat → Int32} (h : townR E w i A g mn wn ly) (hi : i ≠ 0) (hf : fr (pO (i, 4)) w w1) (h0 : w1 (A 4) = some ((i, 4), .inl (eT E 0, 36, .inl wn1))) : townR E w1 i A g mn wn1 ly := by
  obtain ⟨a0, ⟨f1, a1, b1⟩, ⟨f2, a2, b2⟩, ⟨f3, a3, b3⟩, a4, a5, a6, a7⟩ := h
  have ne : ∀ r, r ≠ 4 → ¬ pO (i, 4) (i, r) := fun r hr z => by simp only [pO, Prod.mk.injEq] at z; omega
  exact ⟨hf _ _ _ a0 (ne _ (by decide)), ⟨f1, hf _ _ _ a1 (ne _ (by decide)), b1⟩, ⟨f2, hf _ _ _ a2 (ne _ (by decide)), b2⟩, ⟨f3, hf _ _ _ a3 (ne _ (by decide)), b3⟩, h0, hf _ _ _ a5 (ne _ (by decide)), a6, a7.frm hf (fun z => by simp only [pO, Prod.mk.injEq] at z; omega) (fun r hr => ne _ (by omega))⟩
theorem townR.lst {E : gE} {w w1 : wd} {i : Nat} {A : Nat → Nat} {g : Nat → Int32} {mn : Nat} {wn ly ly1 : Nat → Int32} (h : townR E w i A g mn wn ly) (hi : i ≠ 0) (hf : fr (pO (i, 5)) w w1) (h0 : w1 (A 5) = some ((i, 5), .inl (eT E 0, 6, .inl ly1))) : townR E w1 i A g mn wn ly1 := by
  obtain ⟨a0, ⟨f1, a1, b1⟩, ⟨f2, a2, b2⟩, ⟨f3, a3, b3⟩, a4, a5, a6, a7⟩ := h
  have ne : ∀ r, r ≠ 5 → ¬ pO (i, 5) (i, r) := fun r hr z => by simp only [pO, Prod.mk.injEq] at z; omega
  exact ⟨hf _ _ _ a0 (ne _ (by decide)), ⟨f1, hf _ _ _ a1 (ne _ (by decide)), b1⟩, ⟨f2, hf _ _ _ a2 (ne _ (by decide)), b2⟩, ⟨f3, hf _ _ _ a3 (ne _ (by decide)), b3⟩, hf _ _ _ a4 (ne _ (by decide)), h0, a6, a7.frm hf (fun z => by simp only [pO, Prod.mk.injEq] at z; omega) (fun r hr => ne _ (by omega))⟩
/-- one kite has changed, and nothing else -/
theorem townR.kup {E : gE} {w w1 : wd} {i k : Nat} {A : Nat → Nat} {g g1 : Nat → Int32} {mn : Nat} {wn ly v : Nat → Int32} {t : Nat} (h : townR E w i A g mn wn ly) (hi : i ≠ 0) (hk6 : k < 6) (hf : fr (pK i k) w w1) (hk : kR E w1 i (A (6 + k)) k v t) (hv : k < mn → v = kv g1 k) (hlo : ∀ j, j < 26 → g1 j = g j) (ho : ∀ j, j < mn → j ≠ k → kv g1 j = kv g j) : townR E w1 i A g1 mn wn ly := by
  obtain ⟨a0, ⟨f1, a1, b1⟩, ⟨f2, a2, b2⟩, ⟨f3, a3, b3⟩, a4, a5, ⟨a6, a6'⟩, a7⟩ := h
  have ne : ∀ r, r < 6 → ¬ pK i k (i, r) := fun r hr z => by simp only [pK, Prod.mk.injEq] at z; omega
  have e0 : tnF A g mn = tnF A g1 mn := by simp only [tnF, hlo 20 (by decide), hlo 21 (by decide), hlo 22 (by decide), hlo 23 (by decide), hlo 24 (by decide)]
  refine ⟨by rw [← e0]; exact hf _ _ _ a0 (ne _ (by decide)), ⟨f1, hf _ _ _ a1 (ne _ (by decide)), fun q hq => (b1 q hq).trans (hlo _ (by omega)).symm⟩, ⟨f2, hf _ _ _ a2 (ne _ (by decide)), fun q hq => (b2 q hq).trans (hlo _ (by omega)).symm⟩, ⟨f3, hf _ _ _ a3 (ne _ (by decide)), b3⟩, hf _ _ _ a4 (ne _ (by decide)), hf _ _ _ a5 (ne _ (by decide)), ⟨(hlo 25 (by decide)).trans a6, a6'⟩, a7.upd hf hi hk6 hk hv ho⟩
/-- the same town, another row that says the same of it -/
theorem townR.row {E : gE} {w : wd} {i : Nat} {A : Nat → Nat} {g g1 : Nat → Int32} {mn : Nat} {wn ly : Nat → Int32} (h : townR E w i A g mn wn ly) (e : g = g1) : townR E w i A g1 mn wn ly := e ▸ h
/-- a field of a kite that flies -/
theorem kR.put {E : gE} {w w1 : wd} {i y k : Nat} {v v1 : Nat → Int32} {t : Nat} (h : stR w i k v t) (hi : i ≠ 0) (hk6 : k < 6) (hf : fr (pO (i, 6 + k)) w w1) (h0 : w1 y = some ((i, 6 + k), .inr (3, kF E v1 t))) (e0 : v1 0 = v 0) (e5 : v1 5 = v 5) (e6 : v1 6 = v 6) (e9 : v1 9 = v 9) (e10 : v1 10 = v 10) (e11 : v1 11 = v 11) : kR E w1 i y k v1 t := by
  refine ⟨h0, ?_⟩
  have h1 : stR w1 i k v t := h.fr hf (fun z => by simp only [pO, Prod.mk.injEq] at z; omega) (fun z => by simp only [pO, Prod.mk.injEq] at z; omega)
  unfold stR at h1 ⊢
  rw [e0, e5, e6, e9, e10, e11]
  exact h1
theorem fr_K {i k : Nat} {w w1 : wd} (h : fr (pO (i, 6 + k)) w w1) : fr (pK i k) w w1 := h.up (fun _ z => Or.inl z)
theorem fr_KT {i k : Nat} {w w1 : wd} (h : fr (pK i k) w w1) : fr (pT i) w w1 := h.up (fun τ z => by rcases z with z | z <;> rw [z] <;> exact Or.inl rfl)
theorem fr_OT {i r : Nat} {w w1 : wd} (h : fr (pO (i, r)) w w1) : fr (pT i) w w1 := h.up (fun τ z => by rw [show τ = (i, r) from z]; exact Or.inl rfl)
