/-! LAW, 2: the component against the twin's data -/
set_option maxRecDepth 100000
theorem kv_co {g g1 : Nat → Int32} {k : Nat} (e : ∀ j, j < 116 → g1 j = g j) (hk : k < 6) : kv g1 k = kv g k := by
  funext c
  unfold kv
  split
  · exact e _ (by unfold kO; omega)
  · rfl
theorem townR.co {E : gE} {w : wd} {i : Nat} {A : Nat → Nat} {g g1 : Nat → Int32} {mn : Nat} {wn ly : Nat → Int32} (h : townR E w i A g mn wn ly) (e : ∀ j, j < 116 → g1 j = g j) : townR E w i A g1 mn wn ly := by
  obtain ⟨a0, ⟨f1, a1, b1⟩, ⟨f2, a2, b2⟩, ⟨f3, a3, b3⟩, a4, a5, a6, a7⟩ := h
  refine ⟨?_, ⟨f1, a1, fun q hq => (b1 q hq).trans (e _ (by omega)).symm⟩, ⟨f2, a2, fun q hq => (b2 q hq).trans (e _ (by omega)).symm⟩, ⟨f3, a3, b3⟩, a4, a5, ⟨(e 25 (by decide)).trans a6.1, a6.2⟩, fun k hk => ?_⟩
  · unfold tnF
    rw [e 20 (by decide), e 21 (by decide), e 22 (by decide), e 23 (by decide), e 24 (by decide)]
    exact a0
  · obtain ⟨v, t, e1, h1⟩ := a7 k hk
    exact ⟨v, t, fun z => (e1 z).trans (kv_co e hk).symm, h1⟩
theorem gI.co {g g1 : Nat → Int32} {mn N : Nat} (h : gI g mn N) (e : ∀ j, j < 116 → g1 j = g j) : gI g1 mn N := by
  obtain ⟨h1, ⟨h2, h3⟩, h4, h5⟩ := h
  refine ⟨fun q hq => by rw [e _ (by omega), e _ (by omega)]; exact h1 q hq, ⟨by rw [e 20 (by decide)]; exact h2, by rw [e 20 (by decide)]; exact h3⟩, ⟨(e 25 (by decide)).trans h4.1, h4.2⟩, fun k hk => ?_⟩
  have l : ∀ c, c < 15 → g1 (kO k c) = g (kO k c) := fun c hc => e _ (by have := h4.2; unfold kO; omega)
  unfold kI
  rw [l 0 (by decide), l 1 (by decide), l 3 (by decide), l 4 (by decide), l 5 (by decide), l 7 (by decide), l 8 (by decide), l 9 (by decide), l 10 (by decide), l 12 (by decide), l 13 (by decide)]
  exact h5 k hk
theorem kpR.co {E : gE} {w : wd} {d c : Nat} {I : Nat → Nat} {K K1 : Nat → Nat → Int32} {mk : Nat → Nat} (h : kpR E w d c I K mk) (e : ∀ j, j < c → ∀ i, i < 116 → K1 j i = K j i) : kpR E w d c I K1 mk := by
  obtain ⟨q, hd, f, As, h2, h4, h6, h7⟩ := h
  exact ⟨q, hd, f, As, h2, h4, h6, fun j lo hj => by
    obtain ⟨wn, ly, h⟩ := h7 j lo hj
    exact ⟨wn, ly, h.co (e j hj)⟩⟩
/-- the rows that the twin keeps -/
def kRw (a : Nat → Nat → Int32) : Nat → Nat → Int32 := fun j i => a 1 (116 * j + i)
theorem kRw_keep {a a' : Nat → Nat → Int32} {cn : Nat} (hc : cn ≤ 8) (e : a' 1 = tC1 0 (a 1) (a 0) cn) : ∀ j, j < kCn cn → ∀ i, i < 116 → kRw a' j i = kSh cn (kRw a) (a 0) j i := by
  intro j hj i hi
  unfold kRw
  rw [e, tC1, if_pos rfl, tKp, kSh]
  unfold kCn at hj
  by_cases h8 : cn = 8
  · subst h8
    rw [if_pos rfl] at hj
    simp only [if_pos, tKc, va_cpy]
    by_cases h7 : j < 7
    · rw [if_neg (by omega), if_pos h7, tSh, if_pos (by omega)]
      congr 1
      omega
    · rw [if_pos (by omega), if_neg h7]
      congr 1
      omega
  · rw [if_neg h8] at hj
    rw [if_neg h8, if_neg h8, tKc, if_neg h8]
    simp only [va_cpy]
    by_cases h7 : j = cn
    · subst h7
      rw [if_pos (by omega), up_s]
      congr 1
      omega
    · rw [if_neg (by omega), up_n h7]
theorem tC6_kCn {cn : Nat} : tC6 0 cn = nI (kCn cn) := by
  unfold tC6 tKc kCn
  rw [if_pos rfl]
  split <;> rfl
theorem kCn_le {cn : Nat} (hc : cn ≤ 8) : kCn cn ≤ 8 := by
  unfold kCn
  split <;> omega
def coS (E : gE) (w : wd) (x N : Nat) (f : Nat → Int32) (a : Nat → Nat → Int32) (mn cn nb : Nat) : Prop :=
  ∃ (A1 A2 A3 : Nat → Nat) (d b : Nat) (wn ly : Nat → Int32) (I mk : Nat → Nat),
   (w x = some ((94, 0), .inr (1, [.ref (A1 0), .ref (A2 0), .ref (A3 0), .int (f 5), .ref d, .ref b, .int (f 10), .int (f 11), .int (f 12)]))) ∧
   (townR E w 1 A1 (a 0) mn wn ly ∧ gI (a 0) mn N) ∧ (∃ u2 m2 wb2 lb2, townR E w 2 A2 u2 m2 wb2 lb2) ∧
   (∃ u3 m3 wb3 lb3, townR E w 3 A3 u3 m3 wb3 lb3 ∧ (f 5 = 0 ∨ (f 5 = 1 ∧ (∀ j, j < 116 → a 2 j = u3 j) ∧ gI u3 m3 N))) ∧
   (kpR E w d cn I (kRw a) mk ∧ ∀ j, j < cn → gI (kRw a j) (mk j) N) ∧ (sbR E w b (a 8) nb ∧ cB (a 8) nb) ∧ (f 9 = nI nb ∧ f 6 = nI cn ∧ f 7 = 0 ∧ 0 ≤ f 11)
theorem coS.co {E : gE} {w : wd} {x N mn cn nb : Nat} {f f1 : Nat → Int32} {a a1 : Nat → Nat → Int32} (h : coS E w x N f a mn cn nb) (e0 : a1 0 = a 0) (e1 : a1 1 = a 1) (e2 : a1 2 = a 2) (e8 : a1 8 = a 8) (ef : ∀ j, (j = 5 ∨ j = 6 ∨ j = 7 ∨ j = 9 ∨ j = 10 ∨ j = 11 ∨ j = 12) → f1 j = f j) : coS E w x N f1 a1 mn cn nb := by
  obtain ⟨A1, A2, A3, d, b, wn, ly, I, mk, hX, h1, h2, h3, h4, h5, h6⟩ := h
  have ek : kRw a1 = kRw a := by unfold kRw; rw [e1]
  refine ⟨A1, A2, A3, d, b, wn, ly, I, mk, ?_, by rw [e0]; exact h1, h2, ?_, by rw [ek]; exact h4, by rw [e8]; exact h5, ?_⟩
  · rw [ef 5 (by decide), ef 10 (by decide), ef 11 (by decide), ef 12 (by decide)]
    exact hX
  · rw [ef 5 (by decide), e2]
    exact h3
  · rw [ef 9 (by decide), ef 6 (by decide), ef 7 (by decide), ef 11 (by decide)]
    exact h6
theorem coS.mono {E : gE} {w : wd} {x N M mn cn nb : Nat} {f : Nat → Int32} {a : Nat → Nat → Int32} (h : coS E w x N f a mn cn nb) (hN : N ≤ M) : coS E w x M f a mn cn nb := by
  obtain ⟨A1, A2, A3, d, b, wn, ly, I, mk, hX, h1, h2, ⟨u3, m3, wb3, lb3, h3, h3'⟩, h4, h5, h6⟩ := h
  exact ⟨A1, A2, A3, d, b, wn, ly, I, mk, hX, ⟨h1.1, gI_mono h1.2 hN⟩, h2, ⟨u3, m3, wb3, lb3, h3, h3'.imp id (fun z => ⟨z.1, z.2.1, gI_mono z.2.2 hN⟩)⟩, ⟨h4.1, fun j hj => gI_mono (h4.2 j hj) hN⟩, h5, h6⟩
theorem coS.fr {P : Nat × Nat → Prop} {E : gE} {w w1 : wd} {x N mn cn nb : Nat} {f : Nat → Int32} {a : Nat → Nat → Int32} (h : coS E w x N f a mn cn nb) (hf : fr P w w1) (h0 : ∀ τ, P τ → 99 ≤ τ.1) : coS E w1 x N f a mn cn nb := by
  have n0 : ∀ i r : Nat, i < 99 → ¬ P (i, r) := fun i r hi hp => absurd (h0 _ hp) (by dsimp only; omega)
  obtain ⟨A1, A2, A3, d, b, wn, ly, I, mk, hX, h1, ⟨u2, m2, wb2, lb2, h2⟩, ⟨u3, m3, wb3, lb3, h3, h3'⟩, h4, h5, h6⟩ := h
  exact ⟨A1, A2, A3, d, b, wn, ly, I, mk, hf _ _ _ hX (n0 _ _ (by decide)), ⟨h1.1.frm hf (n0 _ _ (by decide)) (fun r => n0 _ _ (by decide)), h1.2⟩, ⟨u2, m2, wb2, lb2, h2.frm hf (n0 _ _ (by decide)) (fun r => n0 _ _ (by decide))⟩,
    ⟨u3, m3, wb3, lb3, h3.frm hf (n0 _ _ (by decide)) (fun r => n0 _ _ (by decide)), h3'⟩, ⟨h4.1.fr hf (n0 _ _ (by decide)) (fun i r h7 h8 => n0 _ _ (by omega)), h4.2⟩, ⟨h5.1.fr hf (n0 _ _ (by decide)) (n0 _ _ (by decide)), h5.2⟩, h6⟩
theorem oF_j {f : Nat → Int32} {cn j : Nat} {Q : q4} (h13 : j ≠ 13) (h6 : j ≠ 6) (h11 : j ≠ 11) (h12 : j ≠ 12) : oF f cn Q j = f j := by
  unfold oF
  split
  · rw [up_n h6, up_n h13]
  · split
    · rw [up_n h13]
    · rw [up_n h13, up_n h12, up_n h11, up_n h13]
/-- refused without a reason: nothing has changed -/
theorem coS.no {E : gE} {w : wd} {x N mn cn nb : Nat} {f : Nat → Int32} {a : Nat → Nat → Int32} {Q : q4} (h : coS E w x N f a mn cn nb) (h1 : ¬ Q.1 = 0) (h2 : Q.2.1 = 0) : coS E w x N (oF f cn Q) (oA f a cn Q) mn cn nb := by
  have e1 : oA f a cn Q = a := by unfold oA; rw [if_neg h1]
  have e2 : oF f cn Q = va_up f 13 Q.1 := by unfold oF; rw [if_neg h1, if_pos h2]
  rw [e1, e2]
  exact h.co rfl rfl rfl rfl (fun j hj => up_n (by omega))
/-- with a reason -/
theorem coS_su {E : gE} {w w1 : wd} {x N mn cn nb : Nat} {f : Nat → Int32} {a : Nat → Nat → Int32} {Q : q4} (h : coS E w x N f a mn cn nb) (h1 : ¬ Q.1 = 0) (h2 : 0 < Q.2.1) (hf : fr (pO (94, 0)) w w1)
    (hX : ∀ A1 A2 A3 d b, w x = some ((94, 0), .inr (1, [.ref A1, .ref A2, .ref A3, .int (f 5), .ref d, .ref b, .int (f 10), .int (f 11), .int (f 12)])) → w1 x = some ((94, 0), .inr (1, [.ref A1, .ref A2, .ref A3, .int (f 5), .ref d, .ref b, .int (f 10), .int Q.2.1, .int (-1)]))) : coS E w1 x N (oF f cn Q) (oA f a cn Q) mn cn nb := by
  have h3 : ¬ Q.2.1 = 0 := fun e => by rw [e] at h2; exact absurd h2 (by decide)
  have e1 : oA f a cn Q = a := by unfold oA; rw [if_neg h1]
  have e2 : oF f cn Q = va_up (va_up (va_up (va_up f 13 0) 11 Q.2.1) 12 (-1)) 13 Q.1 := by unfold oF; rw [if_neg h1, if_neg h3]
  obtain ⟨A1, A2, A3, d, b, wn, ly, I, mk, hX0, k1, ⟨u2, m2, wb2, lb2, k2⟩, ⟨u3, m3, wb3, lb3, k3, k3'⟩, k4, k5, k6⟩ := h
  have n0 : ∀ i r : Nat, i ≠ 94 → ¬ pO (94, 0) (i, r) := fun i r hi hp => by simp only [pO, Prod.mk.injEq] at hp; exact hi hp.1
  rw [e1, e2]
  have e : ∀ j, j ≠ 11 → j ≠ 12 → j ≠ 13 → va_up (va_up (va_up (va_up f 13 0) 11 Q.2.1) 12 (-1)) 13 Q.1 j = f j := fun j h9 h8 h7 => by rw [up_n h7, up_n h8, up_n h9, up_n h7]
  have e11 : va_up (va_up (va_up (va_up f 13 0) 11 Q.2.1) 12 (-1)) 13 Q.1 11 = Q.2.1 := by rw [up_n (by decide), up_n (by decide), up_s]
  have e12 : va_up (va_up (va_up (va_up f 13 0) 11 Q.2.1) 12 (-1)) 13 Q.1 12 = -1 := by rw [up_n (by decide), up_s]
  refine ⟨A1, A2, A3, d, b, wn, ly, I, mk, ?_, ⟨k1.1.frm hf (n0 _ _ (by decide)) (fun r => n0 _ _ (by decide)), k1.2⟩, ⟨u2, m2, wb2, lb2, k2.frm hf (n0 _ _ (by decide)) (fun r => n0 _ _ (by decide))⟩,
    ⟨u3, m3, wb3, lb3, k3.frm hf (n0 _ _ (by decide)) (fun r => n0 _ _ (by decide)), ?_⟩, ⟨k4.1.fr hf (n0 _ _ (by decide)) (fun i r h7 h8 => n0 _ _ (by omega)), k4.2⟩, ⟨k5.1.fr hf (n0 _ _ (by decide)) (n0 _ _ (by decide)), k5.2⟩, ?_⟩
  · rw [e 5 (by decide) (by decide) (by decide), e 10 (by decide) (by decide) (by decide), e11, e12]
    exact hX _ _ _ _ _ hX0
  · rw [e 5 (by decide) (by decide) (by decide)]
    exact k3'
  · rw [e 9 (by decide) (by decide) (by decide), e 6 (by decide) (by decide) (by decide), e 7 (by decide) (by decide) (by decide), e11]
    exact ⟨k6.1, k6.2.1, k6.2.2.1, Int32.le_of_lt h2⟩
/-- done: the row is new, the old one is kept -/
theorem coS_ok {E : gE} {w : wd} {x N M mn m9 cn nb d b : Nat} {f : Nat → Int32} {a : Nat → Nat → Int32} {Q : q4} {A1 A2 A3 I : Nat → Nat} {wn ly u2 wb2 lb2 u3 wb3 lb3 : Nat → Int32} {m2 m3 : Nat} (h1 : Q.1 = 0) (hN : N ≤ M)
    (hX : w x = some ((94, 0), .inr (1, [.ref (A1 0), .ref (A2 0), .ref (A3 0), .int (f 5), .ref d, .ref b, .int (f 10), .int (f 11), .int (f 12)]))) (hM : townR E w 1 A1 Q.2.2.2 m9 wn ly) (hI : gI Q.2.2.2 m9 M) (hI0 : gI (a 0) mn N) (hM2 : townR E w 2 A2 u2 m2 wb2 lb2)
    (hM3 : townR E w 3 A3 u3 m3 wb3 lb3) (hs3 : f 5 = 0 ∨ (f 5 = 1 ∧ (∀ j, j < 116 → a 2 j = u3 j) ∧ gI u3 m3 N)) (hc : cn ≤ 8) {mk0 : Nat → Nat} (hK : kpR E w d (kCn cn) I (kSh cn (kRw a) (a 0)) (kSh cn mk0 mn)) (hKI : ∀ j, j < cn → gI (kRw a j) (mk0 j) N) (hSB : sbR E w b (a 8) nb) (hcB : cB (a 8) nb)
    (h9 : f 9 = nI nb) (h7 : f 7 = 0) (h11 : 0 ≤ f 11) : coS E w x M (oF f cn Q) (oA f a cn Q) m9 (kCn cn) nb := by
  have e1 : oA f a cn Q = va_up (va_up a 1 (tC1 0 (a 1) (a 0) cn)) 0 Q.2.2.2 := by unfold oA; rw [if_pos h1, h7]
  have e2 : oF f cn Q = va_up (va_up f 13 0) 6 (nI (kCn cn)) := by unfold oF; rw [if_pos h1, h7, tC6_kCn]
  have e : ∀ j, j ≠ 6 → j ≠ 13 → va_up (va_up f 13 0) 6 (nI (kCn cn)) j = f j := fun j h9 h8 => by rw [up_n h9, up_n h8]
  have ea : ∀ j, j ≠ 0 → j ≠ 1 → va_up (va_up a 1 (tC1 0 (a 1) (a 0) cn)) 0 Q.2.2.2 j = a j := fun j h9 h8 => by rw [up_n h9, up_n h8]
  have hk := kRw_keep (a := a) (a' := va_up (va_up a 1 (tC1 0 (a 1) (a 0) cn)) 0 Q.2.2.2) hc (by rw [up_n (by decide), up_s])
  rw [e1, e2]
  refine ⟨A1, A2, A3, d, b, wn, ly, I, kSh cn mk0 mn, ?_, ⟨by rw [up_s]; exact hM, by rw [up_s]; exact hI⟩, ⟨u2, m2, wb2, lb2, hM2⟩, ⟨u3, m3, wb3, lb3, hM3, ?_⟩, ⟨hK.co hk, fun j hj => ?_⟩, ?_, ?_⟩
  · rw [e 5 (by decide) (by decide), e 10 (by decide) (by decide), e 11 (by decide) (by decide), e 12 (by decide) (by decide)]
    exact hX
  · rw [e 5 (by decide) (by decide), ea 2 (by decide) (by decide)]
    exact hs3.imp id (fun z => ⟨z.1, z.2.1, gI_mono z.2.2 hN⟩)
  · refine gI.co (g := kSh cn (kRw a) (a 0) j) ?_ (hk j hj)
    unfold kSh
    unfold kCn at hj
    by_cases h8 : cn = 8
    · rw [if_pos h8] at hj
      rw [if_pos h8, if_pos h8]
      by_cases hj7 : j < 7
      · simp only [if_pos hj7]
        exact gI_mono (hKI _ (by omega)) hN
      · simp only [if_neg hj7]
        exact gI_mono hI0 hN
    · rw [if_neg h8] at hj
      rw [if_neg h8, if_neg h8]
      by_cases hjc : j = cn
      · subst hjc
        rw [up_s, up_s]
        exact gI_mono hI0 hN
      · rw [up_n hjc, up_n hjc]
        exact gI_mono (hKI _ (by omega)) hN
  · rw [ea 8 (by decide) (by decide)]
    exact ⟨hSB, hcB⟩
  · rw [e 9 (by decide) (by decide), up_s, e 7 (by decide) (by decide), e 11 (by decide) (by decide)]
    exact ⟨h9, rfl, h7, h11⟩
