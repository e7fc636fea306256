/-! PURE, 6: the parser: (is, where it stands, the orders) -/
set_option maxRecDepth 100000
abbrev q3 : Type := Bool × Nat × (Nat → Int32)
def pTh (q : q3) (k : Nat → (Nat → Int32) → q3) : q3 := if q.1 = true then k q.2.1 q.2.2 else (false, q.2.1, q.2.2)
def pEl (q : q3) (k k' : Nat → (Nat → Int32) → q3) : q3 := if q.1 = true then k q.2.1 q.2.2 else k' q.2.1 q.2.2
def pHe (B : Nat → Int32) (n p : Nat) : Int32 := if n ≤ p then -1 else B p
def pSk (B : Nat → Int32) (n p : Nat) (O : Nat → Int32) (x : Int32) : q3 := if pHe B n p = x then (true, p + 1, O) else (false, p, O)
def pDg (B : Nat → Int32) (n p : Nat) (O : Nat → Int32) (z : Nat) : q3 := if tin (pHe B n p) 48 57 = true then (true, p + 1, va_up O z (pHe B n p - 48)) else (false, p, O)
def pNu (B : Nat → Int32) (n p : Nat) (O : Nat → Int32) (z : Nat) : q3 := pTh (pDg B n p O z) fun p O => if tin (pHe B n p) 48 57 = true then (true, p + 1, va_up O z (10 * O z + pHe B n p - 48)) else (true, p, O)
def pSt (B : Nat → Int32) (n : Nat) (z : Nat) (b below : Bool) (p : Nat) (O : Nat → Int32) : q3 := pTh (if b = true then pDg B n p O z else pNu B n p O z) fun p O => if below = true then (true, p, va_up O z (-O z)) else (true, p, O)
def pSg (B : Nat → Int32) (n p : Nat) (O : Nat → Int32) (z : Nat) (b : Bool) : q3 := pEl (pSk B n p O 43) (pSt B n z b (decide (pHe B n p = 45))) fun p1 O1 => pTh (pSk B n p1 O1 45) (pSt B n z b (decide (pHe B n p = 45)))
def pWi (B : Nat → Int32) (n : Nat) (z : Nat) (p : Nat) (O : Nat → Int32) : q3 := pTh (pDg B n p O (z + 1)) fun p O => pTh (pSk B n p O 58) fun p O => pTh (pDg B n p O (z + 2)) fun p O => if pHe B n p = 43 then pSg B n p O (z + 3) true else if pHe B n p = 45 then pSg B n p O (z + 3) true else (true, p, O)
def pKi (B : Nat → Int32) (n : Nat) (z : Nat) (p : Nat) (O : Nat → Int32) : q3 := pTh (pDg B n p O (z + 1)) fun p O => pTh (pSk B n p O 64) fun p O => pTh (pNu B n p O (z + 2)) fun p O => pTh (pSk B n p O 42) fun p O => pTh (pNu B n p O (z + 3)) fun p O => pTh (pSk B n p O 35) fun p O => pDg B n p O (z + 4)
def pRe (B : Nat → Int32) (n : Nat) (z : Nat) (p : Nat) (O : Nat → Int32) : q3 := pTh (pDg B n p O (z + 1)) fun p O => pSg B n p O (z + 2) false
def pOr (B : Nat → Int32) (n p : Nat) (O : Nat → Int32) (z : Nat) : q3 :=
  pEl (pSk B n p (va_up (va_up O z (pHe B n p)) (z + 3) 0) 119) (pWi B n z) fun p O => pEl (pSk B n p O 107) (pKi B n z) fun p O => pEl (pSk B n p O 117) (fun p O => pDg B n p O (z + 1)) fun p O => pEl (pSk B n p O 114) (pRe B n z) fun p O => pTh (pSk B n p O 116) fun p O => pNu B n p O (z + 1)
/-- it goes on, and not beyond the text -/
def pG (n p : Nat) (q : q3) : Prop := p ≤ q.2.1 ∧ q.2.1 ≤ n
theorem pG_th {n p : Nat} {q : q3} {k : Nat → (Nat → Int32) → q3} (h : pG n p q) (hk : ∀ p1 O1, p ≤ p1 → p1 ≤ n → pG n p1 (k p1 O1)) : pG n p (pTh q k) := by
  unfold pTh
  split
  · have := hk q.2.1 q.2.2 h.1 h.2
    exact ⟨Nat.le_trans h.1 this.1, this.2⟩
  · exact h
theorem pG_el {n p : Nat} {q : q3} {k k' : Nat → (Nat → Int32) → q3} (h : pG n p q) (hk : ∀ p1 O1, p ≤ p1 → p1 ≤ n → pG n p1 (k p1 O1)) (hk' : ∀ p1 O1, p ≤ p1 → p1 ≤ n → pG n p1 (k' p1 O1)) : pG n p (pEl q k k') := by
  unfold pEl
  split
  · have := hk q.2.1 q.2.2 h.1 h.2
    exact ⟨Nat.le_trans h.1 this.1, this.2⟩
  · have := hk' q.2.1 q.2.2 h.1 h.2
    exact ⟨Nat.le_trans h.1 this.1, this.2⟩
theorem pHe_lt {B : Nat → Int32} {n p : Nat} (h : pHe B n p ≠ -1) : p < n := Nat.lt_of_not_le fun z => h (if_pos z)
theorem pHe_dg {B : Nat → Int32} {n p : Nat} (h : tin (pHe B n p) 48 57 = true) : p < n := pHe_lt (fun z => by rw [z] at h; exact absurd h (by decide))
theorem pSk_G {B : Nat → Int32} {n p : Nat} {O : Nat → Int32} {x : Int32} (hp : p ≤ n) (hx : x ≠ -1) : pG n p (pSk B n p O x) := by
  unfold pSk pG
  split
  · next h => have := pHe_lt (B := B) (n := n) (p := p) (by rw [h]; exact hx); dsimp only; omega
  · dsimp only; omega
theorem pDg_G {B : Nat → Int32} {n p : Nat} {O : Nat → Int32} {z : Nat} (hp : p ≤ n) : pG n p (pDg B n p O z) := by
  unfold pDg pG
  split
  · next h => have := pHe_dg h; dsimp only; omega
  · dsimp only; omega
theorem pNu_G {B : Nat → Int32} {n p : Nat} {O : Nat → Int32} {z : Nat} (hp : p ≤ n) : pG n p (pNu B n p O z) := by
  refine pG_th (pDg_G hp) (fun p1 O1 h1 h2 => ?_)
  unfold pG
  split
  · next h => have := pHe_dg h; dsimp only; omega
  · dsimp only; omega
theorem pSt_G {B : Nat → Int32} {n p : Nat} {O : Nat → Int32} {z : Nat} {b below : Bool} (hp : p ≤ n) : pG n p (pSt B n z b below p O) := by
  refine pG_th ?_ (fun p1 O1 h1 h2 => ?_)
  · split
    · exact pDg_G hp
    · exact pNu_G hp
  · unfold pG
    split <;> (dsimp only; omega)
theorem pSg_G {B : Nat → Int32} {n p : Nat} {O : Nat → Int32} {z : Nat} {b : Bool} (hp : p ≤ n) : pG n p (pSg B n p O z b) :=
  pG_el (pSk_G hp (by decide)) (fun p1 O1 _ h2 => pSt_G h2) (fun p1 O1 _ h2 => pG_th (pSk_G h2 (by decide)) (fun p1 O1 _ h2 => pSt_G h2))
theorem pWi_G {B : Nat → Int32} {n p : Nat} {O : Nat → Int32} {z : Nat} (hp : p ≤ n) : pG n p (pWi B n z p O) := by
  refine pG_th (pDg_G hp) (fun p O _ hp => pG_th (pSk_G hp (by decide)) (fun p O _ hp => pG_th (pDg_G hp) (fun p O _ hp => ?_)))
  split
  · exact pSg_G hp
  · split
    · exact pSg_G hp
    · exact ⟨Nat.le_refl _, hp⟩
theorem pKi_G {B : Nat → Int32} {n p : Nat} {O : Nat → Int32} {z : Nat} (hp : p ≤ n) : pG n p (pKi B n z p O) :=
  pG_th (pDg_G hp) (fun p O _ hp => pG_th (pSk_G hp (by decide)) (fun p O _ hp => pG_th (pNu_G hp) (fun p O _ hp => pG_th (pSk_G hp (by decide)) (fun p O _ hp => pG_th (pNu_G hp) (fun p O _ hp => pG_th (pSk_G hp (by decide)) (fun p O _ hp => pDg_G hp))))))
theorem pRe_G {B : Nat → Int32} {n p : Nat} {O : Nat → Int32} {z : Nat} (hp : p ≤ n) : pG n p (pRe B n z p O) := pG_th (pDg_G hp) (fun _ _ _ hp => pSg_G hp)
theorem pOr_G {B : Nat → Int32} {n p : Nat} {O : Nat → Int32} {z : Nat} (hp : p ≤ n) : pG n p (pOr B n p O z) :=
  pG_el (pSk_G hp (by decide)) (fun _ _ _ hp => pWi_G hp) (fun _ _ _ hp => pG_el (pSk_G hp (by decide)) (fun _ _ _ hp => pKi_G hp) (fun _ _ _ hp => pG_el (pSk_G hp (by decide)) (fun _ _ _ hp => pDg_G hp) (fun _ _ _ hp => pG_el (pSk_G hp (by decide)) (fun _ _ _ hp => pRe_G hp) (fun _ _ _ hp => pG_th (pSk_G hp (by decide)) (fun _ _ _ hp => pNu_G hp)))))
/-- an order that is one takes a sign at least -/
theorem pEl_lt {n p : Nat} {q : q3} {k k' : Nat → (Nat → Int32) → q3} (h0 : q.1 = true → p < q.2.1) (hk : ∀ p1 O1, p < p1 → p1 ≤ n → pG n p1 (k p1 O1)) (hn : q.2.1 ≤ n) (hk' : q.1 = false → (k' q.2.1 q.2.2).1 = true → p < (k' q.2.1 q.2.2).2.1) (h : (pEl q k k').1 = true) : p < (pEl q k k').2.1 := by
  unfold pEl at h ⊢
  by_cases e : q.1 = true
  · rw [if_pos e] at h ⊢
    exact Nat.lt_of_lt_of_le (h0 e) (hk q.2.1 q.2.2 (h0 e) hn).1
  · rw [if_neg e] at h ⊢
    exact hk' (by simpa using e) h
theorem pSk_t {B : Nat → Int32} {n p : Nat} {O : Nat → Int32} {x : Int32} (h : (pSk B n p O x).1 = true) : pSk B n p O x = (true, p + 1, O) := by
  unfold pSk at h ⊢
  split at h
  · next e => rw [if_pos e]
  · cases h
theorem pSk_f {B : Nat → Int32} {n p : Nat} {O : Nat → Int32} {x : Int32} (h : (pSk B n p O x).1 = false) : pSk B n p O x = (false, p, O) := by
  unfold pSk at h ⊢
  split at h
  · cases h
  · next e => rw [if_neg e]
theorem pSk_1 {B : Nat → Int32} {n p : Nat} {O : Nat → Int32} {x : Int32} (h : (pSk B n p O x).1 = true) : p < (pSk B n p O x).2.1 := by rw [pSk_t h]; exact Nat.lt_succ_self p
theorem pOr_lt {B : Nat → Int32} {n p : Nat} {O : Nat → Int32} {z : Nat} (hp : p ≤ n) (h : (pOr B n p O z).1 = true) : p < (pOr B n p O z).2.1 := by
  refine pEl_lt pSk_1 (fun _ _ _ hp => pWi_G hp) (pSk_G hp (by decide)).2 (fun e h => ?_) h
  rw [pSk_f e] at h ⊢
  refine pEl_lt pSk_1 (fun _ _ _ hp => pKi_G hp) (pSk_G hp (by decide)).2 (fun e h => ?_) h
  rw [pSk_f e] at h ⊢
  refine pEl_lt pSk_1 (fun _ _ _ hp => pDg_G hp) (pSk_G hp (by decide)).2 (fun e h => ?_) h
  rw [pSk_f e] at h ⊢
  refine pEl_lt pSk_1 (fun _ _ _ hp => pRe_G hp) (pSk_G hp (by decide)).2 (fun e h => ?_) h
  rw [pSk_f e] at h ⊢
  unfold pTh at h ⊢
  by_cases e : (pSk B n p (va_up (va_up O z (pHe B n p)) (z + 3) 0) 116).1 = true
  · dsimp only at h ⊢
    rw [if_pos e] at h ⊢
    rw [pSk_t e]
    exact Nat.lt_of_lt_of_le (Nat.lt_succ_self p) (pNu_G (pHe_lt (B := B) (fun z => by rw [pSk, if_neg (by rw [z]; decide)] at e; cases e))).1
  · dsimp only at h
    rw [if_neg e] at h
    cases h
/-- a text: whether it is one, where it stands, how many orders, the orders -/
abbrev q5 : Type := Bool × Nat × Nat × (Nat → Int32)
def pTx (B : Nat → Int32) (n : Nat) : Nat → Nat → Nat → (Nat → Int32) → q5
  | 0, p, m, O => (false, p, m, O)
  | q + 1, p, m, O =>
    if (pOr B n p O (5 * m)).1 = true then
      (if (pSk B n (pOr B n p O (5 * m)).2.1 (pOr B n p O (5 * m)).2.2 59).1 = true then pTx B n q (pSk B n (pOr B n p O (5 * m)).2.1 (pOr B n p O (5 * m)).2.2 59).2.1 (m + 1) (pSk B n (pOr B n p O (5 * m)).2.1 (pOr B n p O (5 * m)).2.2 59).2.2
      else (decide ((pSk B n (pOr B n p O (5 * m)).2.1 (pOr B n p O (5 * m)).2.2 59).2.1 = n), (pSk B n (pOr B n p O (5 * m)).2.1 (pOr B n p O (5 * m)).2.2 59).2.1, m + 1, (pSk B n (pOr B n p O (5 * m)).2.1 (pOr B n p O (5 * m)).2.2 59).2.2))
    else (false, (pOr B n p O (5 * m)).2.1, m, (pOr B n p O (5 * m)).2.2)
theorem q3_e {q : q3} {b : Bool} (h : q.1 = b) : q = (b, q.2.1, q.2.2) := by rw [← h]
