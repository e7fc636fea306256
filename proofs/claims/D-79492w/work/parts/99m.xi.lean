/-! a new component, pure; the twin's reading against the component's -/
set_option maxRecDepth 100000
def pX0 (τ : Nat × Nat) : Prop := τ.1 = 94 ∨ τ.1 = 1 ∨ τ.1 = 2 ∨ τ.1 = 3 ∨ τ.1 = 95 ∨ τ.1 = 96 ∨ τ.1 = 93
theorem kpR.zero {E : gE} {w : wd} {d q : Nat} {f : Nat → Option Nat} {I : Nat → Nat} {K : Nat → Nat → Int32} {mk : Nat → Nat} (h1 : w d = some ((95, 0), .inr (14, [.ref q, .int 0, .int 0]))) (h2 : w q = some ((95, 1), .inl (eT E 6, 17, .inr (.inr (.inr (.inr f)))))) : kpR E w d 0 I K mk :=
  ⟨q, 0, f, fun _ _ => 0, ⟨⟨by decide, by decide⟩, ⟨fun j hj => absurd hj (Nat.not_lt_zero j), fun i j hi => absurd hi (Nat.not_lt_zero i)⟩⟩, ⟨h1, h2⟩, fun j hj => absurd hj (Nat.not_lt_zero j), fun j _ hj => absurd hj (Nat.not_lt_zero j)⟩
def rl {α : Type} (R : α → (Nat → Int32) → Prop) (t : q3) (c : rP α) : Prop := match c with
  | (some a, p) => t.1 = true ∧ t.2.1 = p ∧ R a t.2.2
  | (none, p) => t.1 = false ∧ t.2.1 = p
theorem rl_b {α β : Type} {R : α → (Nat → Int32) → Prop} {R2 : β → (Nat → Int32) → Prop} {t : q3} {c : rP α} {k : Nat → (Nat → Int32) → q3} {k' : α → Nat → rP β} (h : rl R t c) (hk : ∀ a p O, R a O → rl R2 (k p O) (k' a p)) : rl R2 (pTh t k) (rB c k') := by
  obtain ⟨o, p⟩ := c
  obtain ⟨b, p1, O1⟩ := t
  cases o with
  | some a =>
    obtain ⟨h1, h2, h3⟩ := h
    dsimp only at h1 h2 h3
    subst h1; subst h2
    exact hk a p1 O1 h3
  | none =>
    obtain ⟨h1, h2⟩ := h
    dsimp only at h1 h2
    subst h1; subst h2
    exact ⟨rfl, rfl⟩
theorem rl_r {α : Type} {R : α → (Nat → Int32) → Prop} {p : Nat} {O : Nat → Int32} {a : α} (h : R a O) : rl R (true, p, O) (some a, p) := ⟨rfl, rfl, h⟩
theorem rl_n {α : Type} {R : α → (Nat → Int32) → Prop} {p : Nat} {O : Nat → Int32} : rl R (false, p, O) (none, p) := ⟨rfl, rfl⟩
theorem rl_m {α : Type} {R R2 : α → (Nat → Int32) → Prop} {t : q3} {c : rP α} (h : rl R t c) (hk : ∀ a O, R a O → R2 a O) : rl R2 t c := by
  obtain ⟨o, p⟩ := c
  cases o with
  | some a => exact ⟨h.1, h.2.1, hk _ _ h.2.2⟩
  | none => exact h
variable {B O : Nat → Int32} {n p z : Nat} in
theorem rl_dg : rl (fun a O' => O' = va_up O z a) (pDg B n p O z) (cDg B n p) := by
  unfold pDg cDg
  by_cases c : tin (pHe B n p) 48 57 = true
  · rw [if_pos c, if_pos c]
    exact rl_r rfl
  · rw [if_neg c, if_neg c]
    exact rl_n
variable {B O : Nat → Int32} {n p : Nat} {x : Int32} in
theorem rl_sk : rl (fun _ O' => O' = O) (pSk B n p O x) (cMu B n p x) := by
  unfold pSk cMu
  by_cases c : pHe B n p = x
  · rw [if_pos c, if_pos c]
    exact rl_r rfl
  · rw [if_neg c, if_neg c]
    exact rl_n
theorem up_s2 {α : Type} {f : Nat → α} {z : Nat} {x y : α} : va_up (va_up f z x) z y = va_up f z y := bx_uu f z x y
variable {B O : Nat → Int32} {n p z : Nat} in
theorem rl_nu : rl (fun a O' => O' = va_up O z a) (pNu B n p O z) (cNu B n p) := by
  refine rl_b rl_dg (fun a p O1 e => ?_)
  subst e
  by_cases c : tin (pHe B n p) 48 57 = true
  · rw [if_pos c, if_pos c, rB_s (show cDg B n p = (some (pHe B n p - 48), p + 1) from if_pos c)]
    refine rl_r ?_
    rw [up_s2, up_s, Int32.sub_eq_add_neg, Int32.sub_eq_add_neg, Int32.add_assoc]
  · rw [if_neg c, if_neg c]
    exact rl_r rfl
variable {B O : Nat → Int32} {n p z : Nat} in
theorem rl_sg {β : Type} {F : Int32 → β} {b : Bool} {cX : Nat → rP Int32} (hX : ∀ p (O : Nat → Int32), rl (fun a O' => O' = va_up O z a) (if b = true then pDg B n p O z else pNu B n p O z) (cX p)) : rl (fun v O' => ∃ x, O' = va_up O z x ∧ v = F x) (pSg B n p O z b) (rB (cSi B n p) fun s p => rB (cX p) fun d p => (some (F (s * d)), p)) := by
  unfold pSg cSi
  by_cases c : pHe B n p = 43
  · rw [show pSk B n p O 43 = (true, p + 1, O) from if_pos c, if_pos c, show decide (pHe B n p = 45) = false from by rw [c]; decide]
    show rl _ (pSt B n z b false (p + 1) O) (rB (cX (p + 1)) fun d p => (some (F (1 * d)), p))
    exact rl_b (hX _ _) (fun d p O1 e => by subst e; exact rl_r ⟨d, rfl, by rw [Int32.one_mul]⟩)
  · rw [show pSk B n p O 43 = (false, p, O) from if_neg c, if_neg c]
    show rl _ (pTh (pSk B n p O 45) (pSt B n z b (decide (pHe B n p = 45)))) _
    by_cases c2 : pHe B n p = 45
    · rw [show pSk B n p O 45 = (true, p + 1, O) from if_pos c2, show cMu B n p 45 = (some (), p + 1) from if_pos c2, decide_eq_true c2]
      show rl _ (pSt B n z b true (p + 1) O) (rB (cX (p + 1)) fun d p => (some (F (-1 * d)), p))
      exact rl_b (hX _ _) (fun d p O1 e => by subst e; exact rl_r ⟨-d, by rw [up_s2, up_s], by rw [Int32.neg_mul, Int32.one_mul]⟩)
    · rw [show pSk B n p O 45 = (false, p, O) from if_neg c2, show cMu B n p 45 = (none, p) from if_neg c2]
      exact rl_n
theorem pEl_f {p : Nat} {O : Nat → Int32} {k k' : Nat → (Nat → Int32) → q3} : pEl (false, p, O) k k' = k' p O := if_neg Bool.false_ne_true
theorem pEl_t {p : Nat} {O : Nat → Int32} {k k' : Nat → (Nat → Int32) → q3} : pEl (true, p, O) k k' = k p O := if_pos rfl
theorem pTh_t {p : Nat} {O : Nat → Int32} {k : Nat → (Nat → Int32) → q3} : pTh (true, p, O) k = k p O := if_pos rfl
theorem pTh_f {p : Nat} {O : Nat → Int32} {k : Nat → (Nat → Int32) → q3} : pTh (false, p, O) k = (false, p, O) := if_neg Bool.false_ne_true
/-- an order as the twin has it, as the component has it -/
def rel (O : Nat → Int32) (z : Nat) (v : Nat → Int32) : Prop := O z = v 0 ∧ O (z + 1) = v 1 ∧ (v 0 = 107 ∨ v 0 = 114 ∨ v 0 = 119 → O (z + 2) = v 2) ∧ (v 0 = 107 ∨ v 0 = 119 → O (z + 3) = v 3) ∧ (v 0 = 107 → O (z + 4) = v 4)
theorem rel_co {O O1 v : Nat → Int32} {z : Nat} (h : rel O z v) (e : ∀ j, j < 5 → O1 (z + j) = O (z + j)) : rel O1 z v := by
  obtain ⟨h0, h1, h2, h3, h4⟩ := h
  exact ⟨(e 0 (by decide)).trans h0, (e 1 (by decide)).trans h1, fun c => (e 2 (by decide)).trans (h2 c), fun c => (e 3 (by decide)).trans (h3 c), fun c => (e 4 (by decide)).trans (h4 c)⟩
abbrev rO (O : Nat → Int32) (z : Nat) : (Nat → Int32) → (Nat → Int32) → Prop := fun v O' => rel O' z v ∧ ∀ i, i < z → O' i = O i
variable {B O : Nat → Int32} {n p z : Nat} in
theorem rl_or : rl (rO O z) (pOr B n p O z) (cOr B n p) := by
  unfold pOr cOr
  by_cases c1 : pHe B n p = 119
  · rw [show ∀ O : Nat → Int32, pSk B n p O 119 = (true, p + 1, O) from fun O => if_pos c1, pEl_t, if_pos c1]
    show rl _ (pWi B n z (p + 1) _) (cWi B n (p + 1))
    unfold pWi cWi
    refine rl_b rl_dg (fun a p O1 e => ?_)
    subst e
    refine rl_b rl_sk (fun _ p O1 e => ?_)
    subst e
    refine rl_b rl_dg (fun b p O1 e => ?_)
    subst e
    by_cases c2 : pHe B n p = 43 ∨ pHe B n p = 45
    · rw [if_pos c2]
      have e9 : ∀ (X Y : q3), (if pHe B n p = 43 then X else if pHe B n p = 45 then X else Y) = X := fun X Y => by
        by_cases c : pHe B n p = 43
        · rw [if_pos c]
        · rw [if_neg c, if_pos (c2.resolve_left c)]
      rw [e9]
      refine rl_m (rl_sg (F := fun x => od 119 a b x 0) (fun p O => by rw [if_pos rfl]; exact rl_dg)) (fun v O' h => ?_)
      obtain ⟨x, e1, e2⟩ := h
      subst e1; subst e2
      refine ⟨?_, fun i hi => ?_⟩
      · simp [rel, va_up, od, c1]
      · simp only [up_n (show i ≠ z by omega), up_n (show i ≠ z + 1 by omega), up_n (show i ≠ z + 2 by omega), up_n (show i ≠ z + 3 by omega), up_n (show i ≠ z + 4 by omega)]
    · rw [if_neg c2, if_neg (fun c => c2 (Or.inl c)), if_neg (fun c => c2 (Or.inr c))]
      refine rl_r ⟨?_, fun i hi => ?_⟩
      · simp [rel, va_up, od, c1]
      · simp only [up_n (show i ≠ z by omega), up_n (show i ≠ z + 1 by omega), up_n (show i ≠ z + 2 by omega), up_n (show i ≠ z + 3 by omega), up_n (show i ≠ z + 4 by omega)]
  · rw [show ∀ O : Nat → Int32, pSk B n p O 119 = (false, p, O) from fun O => if_neg c1, pEl_f, if_neg c1]
    by_cases c2 : pHe B n p = 107
    · rw [show ∀ O : Nat → Int32, pSk B n p O 107 = (true, p + 1, O) from fun O => if_pos c2, pEl_t, if_pos c2]
      show rl _ (pKi B n z (p + 1) _) (cKi B n (p + 1))
      unfold pKi cKi
      refine rl_b rl_dg (fun a p O1 e => ?_)
      subst e
      refine rl_b rl_sk (fun _ p O1 e => ?_)
      subst e
      refine rl_b rl_nu (fun b p O1 e => ?_)
      subst e
      refine rl_b rl_sk (fun _ p O1 e => ?_)
      subst e
      refine rl_b rl_nu (fun c p O1 e => ?_)
      subst e
      refine rl_b rl_sk (fun _ p O1 e => ?_)
      subst e
      unfold pDg cDg
      by_cases c3 : tin (pHe B n p) 48 57 = true
      · rw [if_pos c3, if_pos c3, rB_s rfl]
        refine rl_r ⟨?_, fun i hi => ?_⟩
        · simp [rel, va_up, od, c2]
        · simp only [up_n (show i ≠ z by omega), up_n (show i ≠ z + 1 by omega), up_n (show i ≠ z + 2 by omega), up_n (show i ≠ z + 3 by omega), up_n (show i ≠ z + 4 by omega)]
      · rw [if_neg c3, if_neg c3, rB_n rfl]
        exact rl_n
    · rw [show ∀ O : Nat → Int32, pSk B n p O 107 = (false, p, O) from fun O => if_neg c2, pEl_f, if_neg c2]
      by_cases c3 : pHe B n p = 117
      · rw [show ∀ O : Nat → Int32, pSk B n p O 117 = (true, p + 1, O) from fun O => if_pos c3, pEl_t, if_pos c3]
        show rl _ (pDg B n (p + 1) _ (z + 1)) _
        unfold pDg cDg
        by_cases c4 : tin (pHe B n (p + 1)) 48 57 = true
        · rw [if_pos c4, if_pos c4, rB_s rfl]
          refine rl_r ⟨?_, fun i hi => ?_⟩
          · simp [rel, va_up, od, c3]
          · simp only [up_n (show i ≠ z by omega), up_n (show i ≠ z + 1 by omega), up_n (show i ≠ z + 2 by omega), up_n (show i ≠ z + 3 by omega), up_n (show i ≠ z + 4 by omega)]
        · rw [if_neg c4, if_neg c4, rB_n rfl]
          exact rl_n
      · rw [show ∀ O : Nat → Int32, pSk B n p O 117 = (false, p, O) from fun O => if_neg c3, pEl_f, if_neg c3]
        by_cases c4 : pHe B n p = 114
        · rw [show ∀ O : Nat → Int32, pSk B n p O 114 = (true, p + 1, O) from fun O => if_pos c4, pEl_t, if_pos c4]
          show rl _ (pRe B n z (p + 1) _) _
          unfold pRe
          refine rl_b rl_dg (fun a p O1 e => ?_)
          subst e
          refine rl_m (rl_sg (F := fun x => od 114 a x 0 0) (fun p O => by rw [if_neg (by decide)]; exact rl_nu)) (fun v O' h => ?_)
          obtain ⟨x, e1, e2⟩ := h
          subst e1; subst e2
          refine ⟨?_, fun i hi => ?_⟩
          · simp [rel, va_up, od, c4]
          · simp only [up_n (show i ≠ z by omega), up_n (show i ≠ z + 1 by omega), up_n (show i ≠ z + 2 by omega), up_n (show i ≠ z + 3 by omega), up_n (show i ≠ z + 4 by omega)]
        · rw [show ∀ O : Nat → Int32, pSk B n p O 114 = (false, p, O) from fun O => if_neg c4, pEl_f, if_neg c4]
          by_cases c5 : pHe B n p = 116
          · rw [show ∀ O : Nat → Int32, pSk B n p O 116 = (true, p + 1, O) from fun O => if_pos c5, pTh_t, show cMu B n p 116 = (some (), p + 1) from if_pos c5]
            show rl _ (pNu B n (p + 1) _ (z + 1)) (rB (cNu B n (p + 1)) fun a p => (some (od 116 a 0 0 0), p))
            have h := rl_nu (B := B) (n := n) (p := p + 1) (O := va_up (va_up O z (pHe B n p)) (z + 3) 0) (z := z + 1)
            generalize pNu B n (p + 1) (va_up (va_up O z (pHe B n p)) (z + 3) 0) (z + 1) = t at *
            generalize cNu B n (p + 1) = cc at *
            obtain ⟨o, p2⟩ := cc
            cases o with
            | none => exact h
            | some a =>
              obtain ⟨h1, h2, h3⟩ := h
              refine ⟨h1, h2, ?_, fun i hi => ?_⟩
              · rw [h3]
                simp [rel, va_up, od, c5]
              · rw [h3]
                simp only [up_n (show i ≠ z by omega), up_n (show i ≠ z + 1 by omega), up_n (show i ≠ z + 2 by omega), up_n (show i ≠ z + 3 by omega), up_n (show i ≠ z + 4 by omega)]
          · rw [show ∀ O : Nat → Int32, pSk B n p O 116 = (false, p, O) from fun O => if_neg c5, pTh_f, show cMu B n p 116 = (none, p) from if_neg c5]
            exact rl_n
theorem rl_tx {B : Nat → Int32} {n : Nat} : ∀ (q p m : Nat) (O : Nat → Int32) (V : Nat → Nat → Int32), (∀ k, k < m → rel O (5 * k) (V k)) → (pTx B n q p m O).1 = (cTx B n q p m V).1 ∧ (pTx B n q p m O).2.1 = (cTx B n q p m V).2.1 ∧ ((cTx B n q p m V).1 = true → (pTx B n q p m O).2.2.1 = (cTx B n q p m V).2.2.1 ∧ ∀ k, k < (cTx B n q p m V).2.2.1 → rel (pTx B n q p m O).2.2.2 (5 * k) ((cTx B n q p m V).2.2.2 k))
  | 0, p, m, O, V, hV => ⟨rfl, rfl, fun h => by cases h⟩
  | q + 1, p, m, O, V, hV => by
    have h := rl_or (B := B) (n := n) (p := p) (O := O) (z := 5 * m)
    unfold pTx cTx
    generalize pOr B n p O (5 * m) = t at *
    generalize cOr B n p = cc at *
    obtain ⟨b, p1, O1⟩ := t
    obtain ⟨o, p2⟩ := cc
    cases o with
    | none =>
      obtain ⟨h1, h2⟩ := h
      dsimp only at h1 h2
      subst h1; subst h2
      exact ⟨rfl, rfl, fun h => by cases h⟩
    | some v =>
      obtain ⟨h1, h2, h3, h4⟩ := h
      dsimp only at h1 h2 h3 h4
      subst h1; subst h2
      have hV1 : ∀ k, k < m + 1 → rel O1 (5 * k) (va_up V m v k) := fun k hk => by
        by_cases e : k = m
        · subst e
          rw [up_s]
          exact h3
        · rw [up_n e]
          exact rel_co (hV k (by omega)) (fun j hj => h4 _ (by omega))
      dsimp only
      rw [if_pos rfl]
      by_cases c : pHe B n p1 = 59
      · rw [show pSk B n p1 O1 59 = (true, p1 + 1, O1) from if_pos c, if_pos c]
        exact rl_tx q _ _ _ _ hV1
      · rw [show pSk B n p1 O1 59 = (false, p1, O1) from if_neg c, if_neg c]
        exact ⟨rfl, rfl, fun _ => ⟨rfl, hV1⟩⟩
