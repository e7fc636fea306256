/-! THE READER: what it reads -/
set_option maxRecDepth 100000
def pRd (τ : Nat × Nat) : Prop := τ = (98, 0) ∨ τ = (97, 0)
def pRo (τ : Nat × Nat) : Prop := τ = (98, 0) ∨ τ = (97, 0) ∨ τ = (98, 3)
def pR (τ : Nat × Nat) : Prop := τ.1 = 98 ∨ τ.1 = 97
abbrev rP (α : Type) : Type := Option α × Nat
def rB {α β : Type} (q : rP α) (k : α → Nat → rP β) : rP β := match q with
  | (some a, p) => k a p
  | (none, p) => (none, p)
theorem rB_s {α β : Type} {q : rP α} {k : α → Nat → rP β} {a : α} {p : Nat} (h : q = (some a, p)) : rB q k = k a p := by rw [h]; rfl
theorem rB_n {α β : Type} {q : rP α} {k : α → Nat → rP β} {p : Nat} (h : q = (none, p)) : rB q k = (none, p) := by rw [h]; rfl
def cSk (B : Nat → Int32) (n p : Nat) (x : Int32) : Nat := if pHe B n p = x then p + 1 else p
def cMu (B : Nat → Int32) (n p : Nat) (x : Int32) : rP Unit := if pHe B n p = x then (some (), p + 1) else (none, p)
def cDg (B : Nat → Int32) (n p : Nat) : rP Int32 := if tin (pHe B n p) 48 57 = true then (some (pHe B n p - 48), p + 1) else (none, p)
def cNu (B : Nat → Int32) (n p : Nat) : rP Int32 := rB (cDg B n p) fun v p => if tin (pHe B n p) 48 57 = true then rB (cDg B n p) (fun u p => (some (10 * v + u), p)) else (some v, p)
def cSi (B : Nat → Int32) (n p : Nat) : rP Int32 := if pHe B n p = 43 then (some 1, p + 1) else rB (cMu B n p 45) fun _ p => (some (-1), p)
def od (l a b c d : Int32) : Nat → Int32 := fun j => if j = 0 then l else if j = 1 then a else if j = 2 then b else if j = 3 then c else d
def cWi (B : Nat → Int32) (n p : Nat) : rP (Nat → Int32) := rB (cDg B n p) fun a p => rB (cMu B n p 58) fun _ p => rB (cDg B n p) fun b p =>
  if pHe B n p = 43 ∨ pHe B n p = 45 then rB (cSi B n p) fun s p => rB (cDg B n p) fun d p => (some (od 119 a b (s * d) 0), p) else (some (od 119 a b 0 0), p)
def cKi (B : Nat → Int32) (n p : Nat) : rP (Nat → Int32) := rB (cDg B n p) fun a p => rB (cMu B n p 64) fun _ p => rB (cNu B n p) fun b p => rB (cMu B n p 42) fun _ p => rB (cNu B n p) fun c p => rB (cMu B n p 35) fun _ p => rB (cDg B n p) fun d p => (some (od 107 a b c d), p)
def cOr (B : Nat → Int32) (n p : Nat) : rP (Nat → Int32) :=
  if pHe B n p = 119 then cWi B n (p + 1) else if pHe B n p = 107 then cKi B n (p + 1) else if pHe B n p = 117 then rB (cDg B n (p + 1)) (fun a p => (some (od 117 a 0 0 0), p))
  else if pHe B n p = 114 then rB (cDg B n (p + 1)) (fun a p => rB (cSi B n p) fun s p => rB (cNu B n p) fun b p => (some (od 114 a (s * b) 0 0), p))
  else rB (cMu B n p 116) fun _ p => rB (cNu B n p) fun a p => (some (od 116 a 0 0 0), p)
/-- an order's object -/
def ordE (v : Nat → Int32) : va_E := if v 0 = 119 then .inr (9, [.int (v 1), .int (v 2), .int (v 3)]) else if v 0 = 107 then .inr (10, [.int (v 1), .int (v 2), .int (v 3), .int (v 4)]) else if v 0 = 117 then .inr (11, [.int (v 1)]) else if v 0 = 114 then .inr (12, [.int (v 1), .int (v 2)]) else .inr (13, [.int (v 1)])
def odR (w : wd) (y : Nat) (v : Nat → Int32) : Prop := w y = some ((98, 2), ordE v)
theorem odR.fr {P : Nat × Nat → Prop} {w w1 : wd} {y : Nat} {v : Nat → Int32} (h : odR w y v) (hf : fr P w w1) (h0 : ¬ P (98, 2)) : odR w1 y v := hf _ _ _ h h0
/-- a Fault leaves: with what the reading says -/
def pxF {α : Type} (P : Nat × Nat → Prop) (w : wd) (R : rP α) : String → Nat → wd → Prop := fun X q w' => X = "KiteRoofs$Fault" ∧ (∃ (p9 : Nat) (v0 v1 v2 v3 v4 v5 : Value), (R = (none, p9) ∧ w' q = some ((97, 0), .inr (8, [v0, v1, v2, v3, v4, v5, .int (nI p9)])))) ∧ fr P w w'
theorem pxF.up {α β : Type} {P P1 : Nat × Nat → Prop} {w w1 w' : wd} {R : rP α} {R2 : rP β} {X : String} {q : Nat} (h : pxF P1 w1 R X q w') (he : ∀ p9, R = (none, p9) → R2 = (none, p9)) (hf : fr P w w1) (hs : ∀ τ, P1 τ → P τ) : pxF P w R2 X q w' := by
  obtain ⟨h1, ⟨p9, v0, v1, v2, v3, v4, v5, h2, h3⟩, h4⟩ := h
  exact ⟨h1, ⟨p9, v0, v1, v2, v3, v4, v5, he p9 h2, h3⟩, hf.tr (h4.up hs)⟩
theorem pxF.mk' {α : Type} {P : Nat × Nat → Prop} {w w1 w' : wd} {R : rP α} {q p9 : Nat} {v0 v1 v2 v3 v4 v5 : Value} (hs : P (97, 0)) (h : w' q = some ((97, 0), .inr (8, [v0, v1, v2, v3, v4, v5, .int (nI p9)]))) (he : R = (none, p9)) (hf : fr P w w1) (hf1 : fr (pO (97, 0)) w1 w') : pxF P w R "KiteRoofs$Fault" q w' :=
  ⟨rfl, ⟨p9, v0, v1, v2, v3, v4, v5, he, h⟩, hf.tr (hf1.up (fun t9 h9 => by subst h9; exact hs))⟩
theorem strR.le {E : gE} {w : wd} {T : Nat} {B : Nat → Int32} {n : Nat} (h : strR E w T B n) : n ≤ 60 := by
  obtain ⟨q, f, h8, -⟩ := h
  exact h8
theorem sDp {B : Nat → Int32} {n p : Nat} {x : Int32} (h : decide (pHe B n p = x) = true) : cSk B n p x = p + 1 := if_pos (of_decide_eq_true h)
theorem sDn {B : Nat → Int32} {n p : Nat} {x : Int32} (h : decide (pHe B n p = x) = false) : cSk B n p x = p := if_neg (of_decide_eq_false h)
theorem cMu_p {B : Nat → Int32} {n p : Nat} {x : Int32} (h : decide (pHe B n p = x) = true) : cMu B n p x = (some (), p + 1) := if_pos (of_decide_eq_true h)
theorem cMu_n {B : Nat → Int32} {n p : Nat} {x : Int32} (h : decide (pHe B n p = x) = false) : cMu B n p x = (none, p) := if_neg (of_decide_eq_false h)
theorem cDg_p {B : Nat → Int32} {n p : Nat} (h : tin (pHe B n p) 48 57 = true) : cDg B n p = (some (B p - 48), p + 1) := (if_pos h).trans (by rw [show pHe B n p = B p from if_neg (by have := pHe_dg h; omega)])
theorem cDg_n {B : Nat → Int32} {n p : Nat} (h : tin (pHe B n p) 48 57 = false) : cDg B n p = (none, p) := if_neg (by rw [h]; decide)
/-- reading goes on, and not beyond the text -/
def cG {α : Type} (n p : Nat) (q : rP α) : Prop := p ≤ q.2 ∧ q.2 ≤ n
theorem cG_b {α β : Type} {n p : Nat} {q : rP α} {k : α → Nat → rP β} (h : cG n p q) (hk : ∀ a p1, p ≤ p1 → p1 ≤ n → cG n p1 (k a p1)) : cG n p (rB q k) := by
  obtain ⟨o, p1⟩ := q
  cases o with
  | none => exact h
  | some a =>
    have := hk a p1 h.1 h.2
    exact ⟨Nat.le_trans h.1 this.1, this.2⟩
theorem cMu_G {B : Nat → Int32} {n p : Nat} {x : Int32} (hp : p ≤ n) (hx : x ≠ -1) : cG n p (cMu B n p x) := by
  unfold cMu cG
  split
  · next h => have := pHe_lt (B := B) (n := n) (p := p) (by rw [h]; exact hx); dsimp only; omega
  · dsimp only; omega
theorem cDg_G {B : Nat → Int32} {n p : Nat} (hp : p ≤ n) : cG n p (cDg B n p) := by
  unfold cDg cG
  split
  · next h => have := pHe_dg h; dsimp only; omega
  · dsimp only; omega
theorem cSo {α : Type} {n p : Nat} (a : α) (hp : p ≤ n) : cG n p ((some a, p) : rP α) := ⟨Nat.le_refl _, hp⟩
theorem cNu_G {B : Nat → Int32} {n p : Nat} (hp : p ≤ n) : cG n p (cNu B n p) := by
  refine cG_b (cDg_G hp) (fun a p1 _ hp => ?_)
  split
  · exact cG_b (cDg_G hp) (fun a p1 _ hp => cSo _ hp)
  · exact cSo _ hp
theorem cSi_G {B : Nat → Int32} {n p : Nat} (hp : p ≤ n) : cG n p (cSi B n p) := by
  unfold cSi
  split
  · next h => have := pHe_lt (B := B) (n := n) (p := p) (by rw [h]; decide); exact ⟨Nat.le_succ _, this⟩
  · exact cG_b (cMu_G hp (by decide)) (fun a p1 _ hp => cSo _ hp)
theorem cG.at {α : Type} {n p p1 : Nat} {q : rP α} {o : Option α} (h : cG n p q) (e : q = (o, p1)) : p ≤ p1 ∧ p1 ≤ n := by
  rw [e] at h
  exact h
theorem ordE_w (a b c : Int32) : ordE (od 119 a b c 0) = .inr (9, [.int a, .int b, .int c]) := by simp [ordE, od]
theorem ordE_k (a b c d : Int32) : ordE (od 107 a b c d) = .inr (10, [.int a, .int b, .int c, .int d]) := by simp [ordE, od]
theorem ordE_u (a : Int32) : ordE (od 117 a 0 0 0) = .inr (11, [.int a]) := by simp [ordE, od]
theorem ordE_r (a b : Int32) : ordE (od 114 a b 0 0) = .inr (12, [.int a, .int b]) := by simp [ordE, od]
theorem ordE_t (a : Int32) : ordE (od 116 a 0 0 0) = .inr (13, [.int a]) := by simp [ordE, od]
