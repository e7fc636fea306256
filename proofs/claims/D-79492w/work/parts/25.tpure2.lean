/-! PURE, 2: what the twin writes -/
set_option maxRecDepth 100000
theorem up_s {α : Type} (f : Nat → α) (k : Nat) (v : α) : va_up f k v k = v := by simp [va_up]
theorem up_n {α : Type} {f : Nat → α} {k j : Nat} {v : α} (h : j ≠ k) : va_up f k v j = f j := by simp [va_up, h]
theorem up_same {α : Type} (f : Nat → α) (k : Nat) : va_up f k (f k) = f := by
  funext j
  simp only [va_up]
  split
  · next h => rw [h]
  · rfl
theorem cpy_0 {α : Type} (f g : Nat → α) (x y : Nat) : va_cpy f g x y 0 = g := by
  funext z
  simp only [va_cpy]
  split
  · omega
  · rfl
theorem cpy_1 {α : Type} (f g : Nat → α) (x y n : Nat) : va_up (va_cpy f g x y n) (y + n) (f (x + n)) = va_cpy f g x y (n + 1) := by
  funext z
  simp only [va_up, va_cpy]
  (repeat' split) <;> first | rfl | omega | (congr 1; omega)
/-- where the row of what is kept is laid, and what is kept then -/
def tKc (c : Nat) : Nat := if c = 8 then 7 else c
def tSh (F : Nat → Int32) (n : Nat) : Nat → Int32 := fun q => if q < n then F (q + 116) else F q
def tKp (K G : Nat → Int32) (c : Nat) : Nat → Int32 := va_cpy G (if c = 8 then tSh K 812 else K) 0 (116 * tKc c) 116
def tC1 (z : Int32) (K G : Nat → Int32) (c : Nat) : Nat → Int32 := if z = 0 then tKp K G c else K
def tC6 (z : Int32) (c : Nat) : Int32 := if z = 0 then nI (tKc c + 1) else nI c
def tLt (g : Nat → Int32) (k : Nat) (b : Int32) : Nat → Int32 := if b ≤ 0 then va_up (va_up g (kO k 5) (g (kO k 5) + b)) 23 (g 23 - b) else va_up (va_up g (kO k 5) (g (kO k 5) + b)) 21 (g 21 + b)
def tBy (g : Nat → Int32) (k : Nat) : Int32 := if g (kO k 7) ≤ 0 then -tLs (-g (kO k 7)) (g (kO k 5)) else tLs (g (kO k 7)) (g (kO k 3) - g (kO k 5))
def tP1 (g : Nat → Int32) : Nat → Nat → Int32
  | 0 => g
  | k + 1 => if tUp (tP1 g k) k = true then tLt (tP1 g k) k (tBy (tP1 g k) k) else tP1 g k
/-- cutAt, cutter, sawers, most -/
def tFd (g : Nat → Int32) (k : Nat) : Nat → Int32 × Int32 × Int32 × Int32
  | 0 => (-1, -1, 0, 0)
  | o + 1 => if tWb g k o = 0 then tFd g k o else
      (if (tFd g k o).1 < 0 then oI (tCr g k o) else if (tFd g k o).1 ≤ oI (tCr g k o) then (tFd g k o).1 else oI (tCr g k o),
       if tWb g k o ≤ (tFd g k o).2.2.2 then (tFd g k o).2.1 else nI o,
       (tFd g k o).2.2.1 ||| (1 <<< (nI o &&& 31)),
       if tWb g k o ≤ (tFd g k o).2.2.2 then (tFd g k o).2.2.2 else tWb g k o)
def tP2 (g : Nat → Int32) (mn : Nat) : Nat → Nat → Int32
  | 0 => g
  | k + 1 => if tUp (tP2 g mn k) k = true then va_up (tP2 g mn k) (kO k 6) (tP2 g mn k (kO k 6) + tWn (tP2 g mn k) k mn) else tP2 g mn k
/-- cutAt, cutter, sawers as they lie after the second stage -/
def tCA (g : Nat → Int32) (mn : Nat) (c : Nat → Int32) : Nat → Nat → Int32
  | 0 => c
  | k + 1 => if tUp (tP2 g mn k) k = true then va_up (tCA g mn c k) k (tFd (tP2 g mn (k + 1)) k mn).1 else tCA g mn c k
def tCB (g : Nat → Int32) (mn : Nat) (c : Nat → Int32) : Nat → Nat → Int32
  | 0 => c
  | k + 1 => if tUp (tP2 g mn k) k = true then va_up (tCB g mn c k) k (tFd (tP2 g mn (k + 1)) k mn).2.1 else tCB g mn c k
def tCC (g : Nat → Int32) (mn : Nat) (c : Nat → Int32) : Nat → Nat → Int32
  | 0 => c
  | k + 1 => if tUp (tP2 g mn k) k = true then va_up (tCC g mn c k) k (tFd (tP2 g mn (k + 1)) k mn).2.2.1 else tCC g mn c k
/-- whether a kite is due to be cut -/
def tDb (g : Nat → Int32) (mn k : Nat) : Bool := tUp (tP2 g mn k) k && (!decide (tP2 g mn (k + 1) (kO k 6) < tHd (tP2 g mn (k + 1)) k) && !decide ((tFd (tP2 g mn (k + 1)) k mn).1 < 0))
/-- flags as bits -/
def dv (b : Nat → Bool) : Nat → Int32
  | 0 => 0
  | k + 1 => if b k = true then dv b k ||| (1 <<< (nI k &&& 31)) else dv b k
/-- a row with a kite cut: the line that stays, the line that goes, the layer, the sawers -/
def tCu (r : Nat → Int32) (k : Nat) (st go ca sw : Int32) : Nat → Int32 :=
  va_up (va_up (va_up (va_up (va_up (va_up (va_up (va_up (va_up (va_up r 23 (r 23 + st)) 22 (r 22 + go)) 24 (r 24 + 1)) (kO k 3) (r (kO k 3) - go)) (kO k 13) (r (kO k 13) + go)) (kO k 5) 0) (kO k 0) 2) (kO k 9) (r 20)) (kO k 10) ca) (kO k 11) sw
def tP3 (r : Nat → Int32) (b : Nat → Bool) (A C : Nat → Int32) : Nat → Nat → Int32
  | 0 => r
  | k + 1 => if b k = true then tCu (tP3 r b A C k) k (tBl (tP3 r b A C k) k (A k).toNatClampNeg) (tP3 r b A C k (kO k 5) - tBl (tP3 r b A C k) k (A k).toNatClampNeg) (nI (A k).toNatClampNeg) (C k) else tP3 r b A C k
def tNc (b : Nat → Bool) : Nat → Int32
  | 0 => 0
  | k + 1 => if b k = true then tNc b k + 1 else tNc b k
def tQ4 (r : Nat → Int32) (k : Nat) (b : Nat → Bool) (B : Nat → Int32) : Nat → Nat → Int32
  | 0 => r
  | o + 1 => if b o = true ∧ B o = nI k then va_up (tQ4 r k b B o) (kO k 8) (tQ4 r k b B o (kO k 8) + 10) else tQ4 r k b B o
def tP4 (r : Nat → Int32) (b : Nat → Bool) (B : Nat → Int32) (mn : Nat) : Nat → Nat → Int32
  | 0 => r
  | k + 1 => tQ4 (va_up (tP4 r b B mn k) (kO k 8) (tP4 r b B mn k (kO k 8) + nI (tHt (tP4 r b B mn k) k))) k b B mn
def tG0 (g : Nat → Int32) : Nat → Int32 := va_up g 20 (g 20 + 1)
def tR1 (g : Nat → Int32) (mn : Nat) : Nat → Int32 := tP1 (tG0 g) mn
def tR2 (g : Nat → Int32) (mn : Nat) : Nat → Int32 := tP2 (tR1 g mn) mn mn
/-- a row after one round -/
def tRd (g : Nat → Int32) (mn : Nat) (c14 c15 c16 : Nat → Int32) : Nat → Int32 :=
  tP4 (tP3 (tR2 g mn) (tDb (tR1 g mn) mn) (tCA (tR1 g mn) mn c14 mn) (tCC (tR1 g mn) mn c16 mn) mn) (tDb (tR1 g mn) mn) (tCB (tR1 g mn) mn c15 mn) mn mn
theorem kO_ne {k c k' c' : Nat} (h : k ≠ k' ∨ c ≠ c') (hc : c < 15) (hc' : c' < 15) : kO k c ≠ kO k' c' := by unfold kO; omega
theorem kO_lo {i k c : Nat} (h : i < 26) : i ≠ kO k c := by unfold kO; omega
theorem tLt_lo {g : Nat → Int32} {k : Nat} {b : Int32} {i : Nat} (h : i < 26) (h1 : i ≠ 21) (h2 : i ≠ 23) : tLt g k b i = g i := by
  unfold tLt
  split
  · rw [up_n h2, up_n (kO_lo h)]
  · rw [up_n h1, up_n (kO_lo h)]
theorem tP1_lo {g : Nat → Int32} {i : Nat} (h : i < 26) (h1 : i ≠ 21) (h2 : i ≠ 23) : ∀ n, tP1 g n i = g i
  | 0 => rfl
  | n + 1 => by
    unfold tP1
    split
    · rw [tLt_lo h h1 h2, tP1_lo h h1 h2 n]
    · exact tP1_lo h h1 h2 n
theorem tP2_lo {g : Nat → Int32} {mn i : Nat} (h : ∀ k, i ≠ kO k 6) : ∀ n, tP2 g mn n i = g i
  | 0 => rfl
  | n + 1 => by
    unfold tP2
    split
    · rw [up_n (h n), tP2_lo h n]
    · exact tP2_lo h n
theorem tCu_lo {r : Nat → Int32} {k : Nat} {st go ca sw : Int32} {i : Nat} (h : i < 26) (h1 : i ≠ 22) (h2 : i ≠ 23) (h3 : i ≠ 24) : tCu r k st go ca sw i = r i := by
  simp only [tCu, va_up, kO]
  (repeat' split) <;> first | rfl | omega
theorem tP3_lo {r : Nat → Int32} {b : Nat → Bool} {A C : Nat → Int32} {i : Nat} (h : i < 26) (h1 : i ≠ 22) (h2 : i ≠ 23) (h3 : i ≠ 24) : ∀ n, tP3 r b A C n i = r i
  | 0 => rfl
  | n + 1 => by
    unfold tP3
    split
    · rw [tCu_lo h h1 h2 h3, tP3_lo h h1 h2 h3 n]
    · exact tP3_lo h h1 h2 h3 n
theorem tQ4_lo {r : Nat → Int32} {k : Nat} {b : Nat → Bool} {B : Nat → Int32} {i : Nat} (h : i ≠ kO k 8) : ∀ n, tQ4 r k b B n i = r i
  | 0 => rfl
  | n + 1 => by
    unfold tQ4
    split
    · rw [up_n h, tQ4_lo h n]
    · exact tQ4_lo h n
theorem tP4_lo {r : Nat → Int32} {b : Nat → Bool} {B : Nat → Int32} {mn i : Nat} (h : ∀ k, i ≠ kO k 8) : ∀ n, tP4 r b B mn n i = r i
  | 0 => rfl
  | n + 1 => by
    unfold tP4
    rw [tQ4_lo (h n), up_n (h n), tP4_lo h n]
theorem tG0_lo {g : Nat → Int32} {i : Nat} (h : i ≠ 20) : tG0 g i = g i := up_n h
theorem tRd_25 {g : Nat → Int32} {mn : Nat} {c14 c15 c16 : Nat → Int32} : tRd g mn c14 c15 c16 25 = g 25 := by
  unfold tRd tR2 tR1
  rw [tP4_lo (fun k => kO_lo (by omega)), tP3_lo (by omega) (by omega) (by omega) (by omega), tP2_lo (fun k => kO_lo (by omega)), tP1_lo (by omega) (by omega) (by omega), tG0_lo (by omega)]
theorem dv_bit {b : Nat → Bool} : ∀ {n : Nat}, n ≤ 6 → ∀ {k : Nat}, k < n → (dv b n >>> (nI k &&& 31)) &&& 1 = bI (b k) := by
  intro n hn k hk
  have key : ∀ (b0 b1 b2 b3 b4 b5 : Bool) (n : Fin 7) (k : Fin 6), k.val < n.val → (dv (fun j => if j = 0 then b0 else if j = 1 then b1 else if j = 2 then b2 else if j = 3 then b3 else if j = 4 then b4 else b5) n.val >>> (nI k.val &&& 31)) &&& 1 = bI (if k.val = 0 then b0 else if k.val = 1 then b1 else if k.val = 2 then b2 else if k.val = 3 then b3 else if k.val = 4 then b4 else b5) := by decide +kernel
  have ext : ∀ (c : Nat → Bool) (n : Nat), (∀ j, j < n → c j = b j) → dv c n = dv b n := by
    intro c n
    induction n with
    | zero => intro _; rfl
    | succ n ih =>
      intro h
      unfold dv
      rw [ih (fun j hj => h j (by omega)), h n (by omega)]
  have sel : ∀ j, j < 6 → (if j = 0 then b 0 else if j = 1 then b 1 else if j = 2 then b 2 else if j = 3 then b 3 else if j = 4 then b 4 else b 5) = b j := by
    intro j hj
    rcases (show j = 0 ∨ j = 1 ∨ j = 2 ∨ j = 3 ∨ j = 4 ∨ j = 5 by omega) with rfl | rfl | rfl | rfl | rfl | rfl <;> rfl
  have h1 := key (b 0) (b 1) (b 2) (b 3) (b 4) (b 5) ⟨n, by omega⟩ ⟨k, by omega⟩ hk
  rw [ext _ n (fun j hj => sel j (by omega)), sel k (by omega)] at h1
  exact h1
theorem bI_1 (b : Bool) : bI b = 1 ↔ b = true := by cases b <;> decide
theorem i_clamp {x : Int32} (h : ¬ x < 0) : x = nI x.toNatClampNeg := by
  obtain ⟨j, hj, e⟩ := nI_of h
  rw [e, nI_clamp hj]
theorem tFd_z {g : Nat → Int32} {k o : Nat} (h : tWb g k o = 0) : tFd g k (o + 1) = tFd g k o := by
  show (if tWb g k o = 0 then _ else _) = _
  rw [if_pos h]
/-- where a line is cut: -1, or a layer below its end -/
theorem tFd_1 (g : Nat → Int32) (k : Nat) : ∀ n, (tFd g k n).1 = -1 ∨ ∃ i, i < tHt g k ∧ (tFd g k n).1 = nI i
  | 0 => Or.inl rfl
  | n + 1 => by
    unfold tFd
    split
    · exact tFd_1 g k n
    · next hw =>
      have hc : ∃ i, i < tHt g k ∧ oI (tCr g k n) = nI i := by
        cases hr : tCr g k n with
        | none =>
          refine absurd ?_ hw
          unfold tWb
          rw [if_pos (oI_cr.mpr hr)]
        | some i => exact ⟨i, (tCr_lt hr).1, rfl⟩
      dsimp only
      by_cases h1 : (tFd g k n).1 < 0
      · simp only [if_pos h1]
        exact Or.inr hc
      · by_cases h2 : (tFd g k n).1 ≤ oI (tCr g k n)
        · simp only [if_neg h1, if_pos h2]
          exact tFd_1 g k n
        · simp only [if_neg h1, if_neg h2]
          exact Or.inr hc
theorem sh_0 (F : Nat → Int32) : tSh F 0 = F := by
  funext q
  simp [tSh]
theorem sh_1 (F : Nat → Int32) (n : Nat) : va_up (tSh F n) n (tSh F n (n + 116)) = tSh F (n + 1) := by
  funext q
  simp only [va_up, tSh]
  (repeat' split) <;> first | rfl | omega | (subst_vars; rfl)
theorem tCA_at {g : Nat → Int32} {mn : Nat} {c : Nat → Int32} {k : Nat} (h : tUp (tP2 g mn k) k = true) : ∀ n, k < n → tCA g mn c n k = (tFd (tP2 g mn (k + 1)) k mn).1
  | 0, hk => absurd hk (Nat.not_lt_zero _)
  | n + 1, hk => by
    by_cases e : k = n
    · subst e
      rw [tCA, if_pos h, up_s]
    · unfold tCA
      split
      · rw [up_n e, tCA_at h n (by omega)]
      · exact tCA_at h n (by omega)
theorem tCB_at {g : Nat → Int32} {mn : Nat} {c : Nat → Int32} {k : Nat} (h : tUp (tP2 g mn k) k = true) : ∀ n, k < n → tCB g mn c n k = (tFd (tP2 g mn (k + 1)) k mn).2.1
  | 0, hk => absurd hk (Nat.not_lt_zero _)
  | n + 1, hk => by
    by_cases e : k = n
    · subst e
      rw [tCB, if_pos h, up_s]
    · unfold tCB
      split
      · rw [up_n e, tCB_at h n (by omega)]
      · exact tCB_at h n (by omega)
theorem tCC_at {g : Nat → Int32} {mn : Nat} {c : Nat → Int32} {k : Nat} (h : tUp (tP2 g mn k) k = true) : ∀ n, k < n → tCC g mn c n k = (tFd (tP2 g mn (k + 1)) k mn).2.2.1
  | 0, hk => absurd hk (Nat.not_lt_zero _)
  | n + 1, hk => by
    by_cases e : k = n
    · subst e
      rw [tCC, if_pos h, up_s]
    · unfold tCC
      split
      · rw [up_n e, tCC_at h n (by omega)]
      · exact tCC_at h n (by omega)
theorem tDb_A {g : Nat → Int32} {mn : Nat} {c : Nat → Int32} {k : Nat} (h : tDb g mn k = true) (hk : k < mn) : ∃ i, i < 10 ∧ tCA g mn c mn k = nI i := by
  unfold tDb at h
  simp only [Bool.and_eq_true, Bool.not_eq_true', decide_eq_false_iff_not] at h
  rw [tCA_at h.1 mn hk]
  rcases tFd_1 (tP2 g mn (k + 1)) k mn with e | ⟨i, hi, e⟩
  · exact absurd (by rw [e]; decide) h.2.2
  · have := tHt_le (tP2 g mn (k + 1)) k
    exact ⟨i, by omega, e⟩
theorem tDb_N {g : Nat → Int32} {mn : Nat} {c : Nat → Int32} {k : Nat} (h : tDb g mn k = true) (hk : k < mn) : tCA g mn c mn k = nI (tCA g mn c mn k).toNatClampNeg ∧ (tCA g mn c mn k).toNatClampNeg ≤ 10 := by
  obtain ⟨i, hi, e⟩ := tDb_A (c := c) h hk
  rw [e, nI_clamp (by omega)]
  exact ⟨rfl, by omega⟩
theorem up_cm {α : Type} (f : Nat → α) (k j : Nat) (x y : α) (h : k ≠ j) : va_up (va_up f j x) k y = va_up (va_up f k y) j x := by
  funext i
  simp only [va_up]
  (repeat' split) <;> first | rfl | omega
theorem tP1_t {g : Nat → Int32} {k : Nat} (h : tUp (tP1 g k) k = true) : tP1 g (k + 1) = tLt (tP1 g k) k (tBy (tP1 g k) k) := if_pos h
theorem tP1_f {g : Nat → Int32} {k : Nat} (h : tUp (tP1 g k) k = false) : tP1 g (k + 1) = tP1 g k := if_neg (by rw [h]; decide)
theorem tBy_n {g : Nat → Int32} {k : Nat} (h : g (kO k 7) ≤ 0) : tBy g k = -tLs (-g (kO k 7)) (g (kO k 5)) := if_pos h
theorem tBy_p {g : Nat → Int32} {k : Nat} (h : ¬ g (kO k 7) ≤ 0) : tBy g k = tLs (g (kO k 7)) (g (kO k 3) - g (kO k 5)) := if_neg h
theorem tP2_t {g : Nat → Int32} {mn k : Nat} (h : tUp (tP2 g mn k) k = true) : tP2 g mn (k + 1) = va_up (tP2 g mn k) (kO k 6) (tP2 g mn k (kO k 6) + tWn (tP2 g mn k) k mn) := if_pos h
theorem tP2_f {g : Nat → Int32} {mn k : Nat} (h : tUp (tP2 g mn k) k = false) : tP2 g mn (k + 1) = tP2 g mn k := if_neg (by rw [h]; decide)
theorem tCA_t {g : Nat → Int32} {mn k : Nat} {c : Nat → Int32} (h : tUp (tP2 g mn k) k = true) : tCA g mn c (k + 1) = va_up (tCA g mn c k) k (tFd (tP2 g mn (k + 1)) k mn).1 := if_pos h
theorem tCA_f {g : Nat → Int32} {mn k : Nat} {c : Nat → Int32} (h : tUp (tP2 g mn k) k = false) : tCA g mn c (k + 1) = tCA g mn c k := if_neg (by rw [h]; decide)
theorem tCB_t {g : Nat → Int32} {mn k : Nat} {c : Nat → Int32} (h : tUp (tP2 g mn k) k = true) : tCB g mn c (k + 1) = va_up (tCB g mn c k) k (tFd (tP2 g mn (k + 1)) k mn).2.1 := if_pos h
theorem tCB_f {g : Nat → Int32} {mn k : Nat} {c : Nat → Int32} (h : tUp (tP2 g mn k) k = false) : tCB g mn c (k + 1) = tCB g mn c k := if_neg (by rw [h]; decide)
theorem tCC_t {g : Nat → Int32} {mn k : Nat} {c : Nat → Int32} (h : tUp (tP2 g mn k) k = true) : tCC g mn c (k + 1) = va_up (tCC g mn c k) k (tFd (tP2 g mn (k + 1)) k mn).2.2.1 := if_pos h
theorem tCC_f {g : Nat → Int32} {mn k : Nat} {c : Nat → Int32} (h : tUp (tP2 g mn k) k = false) : tCC g mn c (k + 1) = tCC g mn c k := if_neg (by rw [h]; decide)
theorem dv_t {b : Nat → Bool} {k : Nat} (h : b k = true) : dv b (k + 1) = dv b k ||| (1 <<< (nI k &&& 31)) := if_pos h
theorem dv_f {b : Nat → Bool} {k : Nat} (h : b k = false) : dv b (k + 1) = dv b k := if_neg (by rw [h]; decide)
theorem tP3_t {r : Nat → Int32} {b : Nat → Bool} {A C : Nat → Int32} {k : Nat} (h : b k = true) : tP3 r b A C (k + 1) = tCu (tP3 r b A C k) k (tBl (tP3 r b A C k) k (A k).toNatClampNeg) (tP3 r b A C k (kO k 5) - tBl (tP3 r b A C k) k (A k).toNatClampNeg) (nI (A k).toNatClampNeg) (C k) := if_pos h
theorem tP3_f {r : Nat → Int32} {b : Nat → Bool} {A C : Nat → Int32} {k : Nat} (h : b k = false) : tP3 r b A C (k + 1) = tP3 r b A C k := if_neg (by rw [h]; decide)
theorem tNc_t {b : Nat → Bool} {k : Nat} (h : b k = true) : tNc b (k + 1) = tNc b k + 1 := if_pos h
theorem tNc_f {b : Nat → Bool} {k : Nat} (h : b k = false) : tNc b (k + 1) = tNc b k := if_neg (by rw [h]; decide)
theorem tQ4_t {r : Nat → Int32} {k o : Nat} {b : Nat → Bool} {B : Nat → Int32} (h : b o = true) (h2 : B o = nI k) : tQ4 r k b B (o + 1) = va_up (tQ4 r k b B o) (kO k 8) (tQ4 r k b B o (kO k 8) + 10) := if_pos ⟨h, h2⟩
theorem tQ4_f {r : Nat → Int32} {k o : Nat} {b : Nat → Bool} {B : Nat → Int32} (h : ¬ b o = true) : tQ4 r k b B (o + 1) = tQ4 r k b B o := if_neg (fun z => h z.1)
theorem tQ4_g {r : Nat → Int32} {k o : Nat} {b : Nat → Bool} {B : Nat → Int32} (h : ¬ B o = nI k) : tQ4 r k b B (o + 1) = tQ4 r k b B o := if_neg (fun z => h z.2)
