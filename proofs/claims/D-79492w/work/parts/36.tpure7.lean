/-! PURE, 7: the orders carried out -/
set_option maxRecDepth 100000
def qCy (g : Nat → Int32) (mn : Nat) (O : Nat → Int32) (z : Nat) : q4 :=
  if O z = 107 then qKite g mn (O (z + 1)) (O (z + 2)) (O (z + 3)) (O (z + 4)) else if O z = 114 then qReel g (O (z + 1)) (O (z + 2)) else if O z = 117 then qLnch g mn (O (z + 1)) else if O z = 119 then qWind g (O (z + 1)) (O (z + 2)) (O (z + 3)) else qRound g mn (O (z + 1))
def rCy (O : Nat → Int32) (z : Nat) : Int32 := if O z = 107 then 2 else if O z = 114 then 3 else if O z = 117 then 2 else if O z = 119 then 3 else 2
/-- what a call may do to a row -/
def qG (g : Nat → Int32) (mn : Nat) (Q : q4) : Prop := (0 ≤ Q.1 ∧ (Q.1 ≠ 0 → Q.2.2.2 = g)) ∧ (∃ m, (mn ≤ m ∧ m ≤ 6) ∧ Q.2.2.2 25 = nI m) ∧ ∀ i, 116 ≤ i → Q.2.2.2 i = g i
theorem qG_no {g : Nat → Int32} {mn : Nat} (hm : g 25 = nI mn) (hmn : mn ≤ 6) {c x r : Int32} (hc : 0 ≤ c) : qG g mn (c, x, r, g) := ⟨⟨hc, fun _ => rfl⟩, ⟨mn, ⟨Nat.le_refl _, hmn⟩, hm⟩, fun _ _ => rfl⟩
theorem qG_ok {g g1 : Nat → Int32} {mn m : Nat} (h1 : mn ≤ m) (h2 : m ≤ 6) (hm : g1 25 = nI m) (hi : ∀ i, 116 ≤ i → g1 i = g i) {x r : Int32} : qG g mn (0, x, r, g1) := ⟨⟨Int32.le_refl 0, fun h => absurd rfl h⟩, ⟨m, ⟨h1, h2⟩, hm⟩, hi⟩
theorem tin_up {x : Int32} {n : Nat} (hn : n < 2 ^ 31) (h : tin x 0 (nI n) = true) : x.toNatClampNeg ≤ n := by
  obtain ⟨k, hk, rfl⟩ := tin_N hn h
  rw [nI_clamp (by omega)]
  exact hk
theorem tKt_up {g : Nat → Int32} {mn : Nat} {x : Int32} (hm : g 25 = nI mn) (hmn : mn ≤ 6) (h : tKt g x = true) : x.toNatClampNeg < mn := by
  obtain ⟨k, hk, rfl⟩ := tKt_of hm hmn h
  rw [nI_clamp (by omega)]
  exact hk
theorem qWind_G {g : Nat → Int32} {mn : Nat} (hm : g 25 = nI mn) (hmn : mn ≤ 6) (x s d : Int32) : qG g mn (qWind g x s d) := by
  unfold qWind
  split
  · next h1 =>
    have := tin_up (n := 9) (by decide) h1
    split
    · split
      · exact qG_ok (Nat.le_refl _) hmn ((up_n (by omega)).trans ((up_n (by omega)).trans hm)) (fun i hi => (up_n (by omega)).trans (up_n (by omega)))
      · exact qG_no hm hmn (by decide)
    · exact qG_no hm hmn (by decide)
  · exact qG_no hm hmn (by decide)
theorem tZr_hi {g : Nat → Int32} {k i : Nat} (h : 116 ≤ i) (hk : k < 6) : ∀ n, n ≤ 15 → tZr g k n i = g i
  | 0, _ => rfl
  | n + 1, hn => by
    unfold tZr
    rw [up_n (kO_hi h hk (by omega)), tZr_hi h hk n (by omega)]
theorem qKite_G {g : Nat → Int32} {mn : Nat} (hm : g 25 = nI mn) (hmn : mn ≤ 6) (x1 x2 x3 x4 : Int32) : qG g mn (qKite g mn x1 x2 x3 x4) := by
  unfold qKite
  split
  · split
    · split
      · split
        · split
          · exact qG_no hm hmn (by decide)
          · next h =>
            refine qG_ok (m := mn + 1) (Nat.le_succ _) (by omega) (up_s _ _ _) (fun i hi => ?_)
            rw [up_n (by omega), up_n (kO_hi hi (by omega) (by decide)), up_n (kO_hi hi (by omega) (by decide)), up_n (kO_hi hi (by omega) (by decide)), up_n (kO_hi hi (by omega) (by decide)), up_n (kO_hi hi (by omega) (by decide)), tZr_hi hi (by omega) 15 (by decide)]
        · exact qG_no hm hmn (by decide)
      · exact qG_no hm hmn (by decide)
    · exact qG_no hm hmn (by decide)
  · exact qG_no hm hmn (by decide)
theorem qLnch_G {g : Nat → Int32} {mn : Nat} (hm : g 25 = nI mn) (hmn : mn ≤ 6) (x : Int32) : qG g mn (qLnch g mn x) := by
  unfold qLnch
  split
  · next h =>
    have := tKt_up hm hmn h
    split
    · split
      · exact qG_no hm hmn (by decide)
      · refine qG_ok (Nat.le_refl _) hmn ?_ (fun i hi => ?_)
        · unfold tLn
          rw [up_n (kO_lo (by decide)), up_n (kO_lo (by decide)), up_n (kO_lo (by decide)), hm]
        · unfold tLn
          rw [up_n (kO_hi hi (by omega) (by decide)), up_n (kO_hi hi (by omega) (by decide)), up_n (kO_hi hi (by omega) (by decide))]
    · exact qG_no hm hmn (by decide)
  · exact qG_no hm hmn (by decide)
theorem qReel_G {g : Nat → Int32} {mn : Nat} (hm : g 25 = nI mn) (hmn : mn ≤ 6) (x y : Int32) : qG g mn (qReel g x y) := by
  unfold qReel
  split
  · next h =>
    have := tKt_up hm hmn h
    split
    · split
      · split
        · split
          · exact qG_ok (Nat.le_refl _) hmn ((tLt_lo (by decide) (by decide) (by decide)).trans hm) (fun i hi => tLt_hi hi (by omega))
          · exact qG_no hm hmn (by decide)
        · exact qG_no hm hmn (by decide)
      · exact qG_no hm hmn (by decide)
    · exact qG_no hm hmn (by decide)
  · exact qG_no hm hmn (by decide)
theorem qRound_G {g : Nat → Int32} {mn : Nat} (hm : g 25 = nI mn) (hmn : mn ≤ 6) (x : Int32) : qG g mn (qRound g mn x) := by
  unfold qRound
  split
  · exact qG_ok (Nat.le_refl _) hmn ((tRn_25 _).trans hm) (fun i hi => tRn_hi hmn hi _)
  · exact qG_no hm hmn (by decide)
theorem qCy_G {g : Nat → Int32} {mn : Nat} (hm : g 25 = nI mn) (hmn : mn ≤ 6) (O : Nat → Int32) (z : Nat) : qG g mn (qCy g mn O z) := by
  unfold qCy
  split
  · exact qKite_G hm hmn _ _ _ _
  · split
    · exact qReel_G hm hmn _ _
    · split
      · exact qLnch_G hm hmn _
      · split
        · exact qWind_G hm hmn _ _ _
        · exact qRound_G hm hmn _
/-- within a text nothing is kept -/
theorem oF_in {f : Nat → Int32} {ch : Nat} {Q : q4} (h7 : f 7 = 1) (hc : f 6 = nI ch) : oF f ch Q = oC f (Q.1, Q.2.1, 0) := by
  unfold oF oC
  dsimp only
  rw [h7, show tC6 1 ch = nI ch from if_neg (by decide), show va_up (va_up f 13 0) 6 (nI ch) = va_up f 13 0 from by rw [show nI ch = (va_up f 13 0) 6 from hc.symm, up_same]]
theorem oA_in {f : Nat → Int32} {a : Nat → Nat → Int32} {ch mn : Nat} {Q : q4} (h7 : f 7 = 1) (hQ : qG (a 0) mn Q) : oA f a ch Q = va_up a 0 Q.2.2.2 := by
  unfold oA
  rw [h7, show tC1 1 (a 1) (a 0) ch = a 1 from if_neg (by decide), up_same]
  split
  · rfl
  · next h => rw [hQ.1.2 h, up_same]
theorem oC_at {f : Nat → Int32} {q : Int32 × Int32 × Int32} {j : Nat} (h1 : j ≠ 13) (h2 : j ≠ 11) (h3 : j ≠ 12) : oC f q j = f j := by
  unfold oC
  split
  · rw [up_n h1]
  · split
    · rw [up_n h1]
    · rw [up_n h1, up_n h3, up_n h2, up_n h1]
theorem oC_13 {f : Nat → Int32} {q : Int32 × Int32 × Int32} : oC f q 13 = q.1 := by
  unfold oC
  split
  · next h => rw [up_s, h]
  · split
    · rw [up_s]
    · rw [up_s]
theorem oC_oC {f : Nat → Int32} {x r : Int32} {q : Int32 × Int32 × Int32} : oC (oC f (0, x, r)) q = oC f q := by
  rw [oC_ok]
  unfold oC
  rw [bx_uu, bx_uu]
/-- the orders from i on, q of them at most: how many were begun, what the last answered -/
def tRo (O : Nat → Int32) : Nat → Nat → (Nat → Int32) → Nat × q4
  | 0, i, g => (i, (0, 0, 0, g))
  | q + 1, i, g => if (qCy g (g 25).toNatClampNeg O (5 * i)).1 = 0 then tRo O q (i + 1) (qCy g (g 25).toNatClampNeg O (5 * i)).2.2.2 else (i + 1, qCy g (g 25).toNatClampNeg O (5 * i))
theorem pTx_le {B : Nat → Int32} {n : Nat} (hn : n ≤ 60) : ∀ (q p m : Nat) (O : Nat → Int32), p ≤ n → 2 * m ≤ p → (pTx B n q p m O).2.2.1 ≤ 31 ∧ (pTx B n q p m O).2.1 ≤ 60
  | 0, p, m, O, hp, hm => by unfold pTx; dsimp only; omega
  | q + 1, p, m, O, hp, hm => by
    have h1 := pOr_G (B := B) (O := O) (z := 5 * m) hp
    have h2 := pSk_G (B := B) (O := (pOr B n p O (5 * m)).2.2) (x := 59) h1.2 (by decide)
    unfold pTx
    split
    · next e =>
      have h3 := pOr_lt hp e
      split
      · next e2 =>
        have h4 := pSk_1 e2
        exact pTx_le hn q _ _ _ h2.2 (by omega)
      · have := h2.2
        dsimp only
        omega
    · have := h1.2
      dsimp only
      omega
theorem pTx_t {B : Nat → Int32} {n : Nat} (hn : n ≤ 60) : ∀ (q p m : Nat) (O : Nat → Int32), p ≤ n → 2 * m ≤ p → (pTx B n q p m O).1 = true → (pTx B n q p m O).2.2.1 ≤ 30
  | 0, p, m, O, hp, hm => by unfold pTx; intro h; cases h
  | q + 1, p, m, O, hp, hm => by
    have h1 := pOr_G (B := B) (O := O) (z := 5 * m) hp
    have h2 := pSk_G (B := B) (O := (pOr B n p O (5 * m)).2.2) (x := 59) h1.2 (by decide)
    unfold pTx
    split
    · next e =>
      have h3 := pOr_lt hp e
      split
      · next e2 =>
        have h4 := pSk_1 e2
        exact pTx_t hn q _ _ _ h2.2 (by omega)
      · have := h1.2
        intro _
        dsimp only
        omega
    · intro h; cases h
theorem tRo_step {O : Nat → Int32} {m i u : Nat} {g : Nat → Int32} {R : Nat × q4} {Q : q4} (hi : i < m) (hg : g 25 = nI u) (hu : u ≤ 6) (hQ : Q = qCy g u O (5 * i)) (hv : tRo O (m - i) i g = R) : (Q.1 = 0 ∧ tRo O (m - (i + 1)) (i + 1) Q.2.2.2 = R) ∨ (¬ Q.1 = 0 ∧ R = (i + 1, Q)) := by
  rw [show m - i = (m - (i + 1)) + 1 from by omega, tRo, hg, nI_clamp (by omega), ← hQ] at hv
  by_cases e : Q.1 = 0
  · rw [if_pos e] at hv
    exact Or.inl ⟨e, hv⟩
  · rw [if_neg e] at hv
    exact Or.inr ⟨e, hv.symm⟩
