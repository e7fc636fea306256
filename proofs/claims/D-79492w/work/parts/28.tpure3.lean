/-! PURE, 3: the twin's calls: (code, reason, answer, row) -/
set_option maxRecDepth 100000
abbrev q4 : Type := Int32 × Int32 × Int32 × (Nat → Int32)
def oF (f : Nat → Int32) (ch : Nat) (q : q4) : Nat → Int32 := if q.1 = 0 then va_up (va_up f 13 0) 6 (tC6 (f 7) ch) else if q.2.1 = 0 then va_up f 13 q.1 else va_up (va_up (va_up (va_up f 13 0) 11 q.2.1) 12 (-1)) 13 q.1
def oA (f : Nat → Int32) (a : Nat → Nat → Int32) (ch : Nat) (q : q4) : Nat → Nat → Int32 := if q.1 = 0 then va_up (va_up a 1 (tC1 (f 7) (a 1) (a 0) ch)) 0 q.2.2.2 else a
theorem oF_ok {f : Nat → Int32} {ch : Nat} {r x : Int32} {g : Nat → Int32} : oF f ch (0, x, r, g) = va_up (va_up f 13 0) 6 (tC6 (f 7) ch) := if_pos rfl
theorem oA_ok {f : Nat → Int32} {a : Nat → Nat → Int32} {ch : Nat} {r x : Int32} {g : Nat → Int32} : oA f a ch (0, x, r, g) = va_up (va_up a 1 (tC1 (f 7) (a 1) (a 0) ch)) 0 g := if_pos rfl
theorem oF_no {f : Nat → Int32} {ch : Nat} {c r : Int32} {g : Nat → Int32} (h : ¬ c = 0) : oF f ch (c, 0, r, g) = va_up f 13 c := (if_neg h).trans (if_pos rfl)
theorem oF_rf {f : Nat → Int32} {ch : Nat} {c x r : Int32} {g : Nat → Int32} (h : ¬ c = 0) (h2 : ¬ x = 0) : oF f ch (c, x, r, g) = va_up (va_up (va_up (va_up f 13 0) 11 x) 12 (-1)) 13 c := (if_neg h).trans (if_neg h2)
theorem oA_no {f : Nat → Int32} {a : Nat → Nat → Int32} {ch : Nat} {c x r : Int32} {g : Nat → Int32} (h : ¬ c = 0) : oA f a ch (c, x, r, g) = a := if_neg h
def qWind (g : Nat → Int32) (x s d : Int32) : q4 := if tin x 0 9 = true then (if tin s 0 9 = true then (if tin d (-3) 3 = true then (0, 0, g (2 * x.toNatClampNeg), va_up (va_up g (2 * x.toNatClampNeg) s) (2 * x.toNatClampNeg + 1) d) else (2, 0, 0, g)) else (2, 0, 0, g)) else (1, 0, 0, g)
/-- a row with a kite more -/
def tZr (g : Nat → Int32) (k : Nat) : Nat → Nat → Int32
  | 0 => g
  | n + 1 => va_up (tZr g k n) (kO k n) 0
theorem tZr_lo {g : Nat → Int32} {k i : Nat} (h : i < 26) : ∀ n, tZr g k n i = g i
  | 0 => rfl
  | n + 1 => by
    unfold tZr
    rw [up_n (kO_lo h), tZr_lo h n]
def tNk (g : Nat → Int32) (k : Nat) (x1 x2 x3 x4 : Int32) : Nat → Int32 :=
  va_up (va_up (va_up (va_up (va_up (va_up (tZr g k 15) (kO k 1) x1) (kO k 2) x2) (kO k 3) x3) (kO k 12) x3) (kO k 4) x4) 25 (nI (k + 1))
def qKite (g : Nat → Int32) (mn : Nat) (x1 x2 x3 x4 : Int32) : q4 := if tin x1 0 2 = true then (if tin x2 0 40 = true then (if tin x3 10 99 = true then (if tin x4 0 9 = true then (if mn = 6 then (2, 1, 0, g) else (0, 0, nI mn, tNk g mn x1 x2 x3 x4)) else (1, 0, 0, g)) else (1, 0, 0, g)) else (1, 0, 0, g)) else (1, 0, 0, g)
def tLn (g : Nat → Int32) (k : Nat) : Nat → Int32 := va_up (va_up (va_up g (kO k 0) 1) (kO k 5) 0) (kO k 6) 0
def qLnch (g : Nat → Int32) (mn : Nat) (x : Int32) : q4 := if tKt g x = true then (if g (kO x.toNatClampNeg 0) = 0 then (if g 0 = 0 then (2, 3, 0, g) else (0, 0, tIn (tLn g x.toNatClampNeg) 1 mn, tLn g x.toNatClampNeg)) else (2, 2, 0, g)) else (1, 0, 0, g)
def qReel (g : Nat → Int32) (x y : Int32) : q4 := if tKt g x = true then (if tin y (-20) 20 = true then (if tUp g x.toNatClampNeg = true then (if g (kO x.toNatClampNeg 5) + y ≤ g (kO x.toNatClampNeg 3) then (if 0 ≤ g (kO x.toNatClampNeg 5) + y then (0, 0, tLt g x.toNatClampNeg y (kO x.toNatClampNeg 5), tLt g x.toNatClampNeg y) else (3, 6, 0, g)) else (3, 5, 0, g)) else (3, 4, 0, g)) else (2, 0, 0, g)) else (1, 0, 0, g)
def qSpeed (g : Nat → Int32) (x y : Int32) : q4 := if tKt g x = true then (if tin y (-9) 9 = true then (0, 0, g (kO x.toNatClampNeg 7), va_up g (kO x.toNatClampNeg 7) y) else (2, 0, 0, g)) else (1, 0, 0, g)
def qLand (g : Nat → Int32) (x : Int32) : q4 := if tKt g x = true then (if tUp g x.toNatClampNeg = true then (0, 0, g (kO x.toNatClampNeg 5), va_up (tLt g x.toNatClampNeg (-g (kO x.toNatClampNeg 5))) (kO x.toNatClampNeg 0) 0) else (2, 4, 0, g)) else (1, 0, 0, g)
def qTie (g : Nat → Int32) (x : Int32) : q4 := if tKt g x = true then (if g (kO x.toNatClampNeg 0) = 2 then (if 10 ≤ g (kO x.toNatClampNeg 3) then (0, 0, g (kO x.toNatClampNeg 3), va_up g (kO x.toNatClampNeg 0) 0) else (2, 8, 0, g)) else (2, 7, 0, g)) else (1, 0, 0, g)
theorem tin_of {v : Int32} {lo hi : Int32} (h : tin v lo hi = true) : lo ≤ v ∧ v ≤ hi := by
  unfold tin at h
  rw [Bool.and_eq_true] at h
  exact ⟨of_decide_eq_true h.1, of_decide_eq_true h.2⟩
theorem tin_N {v : Int32} {n : Nat} (hn : n < 2 ^ 31) (h : tin v 0 (nI n) = true) : ∃ k, k ≤ n ∧ v = nI k := by
  obtain ⟨h1, h2⟩ := tin_of h
  obtain ⟨j, hj, rfl⟩ := nI_of (x := v) (Int32.not_lt.mpr h1)
  exact ⟨j, (nI_leI hj hn).mp h2, rfl⟩
theorem tKt_of {g : Nat → Int32} {mn : Nat} {x : Int32} (hm : g 25 = nI mn) (hmn : mn ≤ 6) (h : tKt g x = true) : ∃ k, k < mn ∧ x = nI k := by
  unfold tKt at h
  rw [hm] at h
  cases mn with
  | zero =>
    obtain ⟨h1, h2⟩ := tin_of h
    rw [show nI 0 - 1 = -1 from rfl] at h2
    exact absurd (Int32.le_trans h1 h2) (by decide)
  | succ n =>
    rw [nI_pred] at h
    obtain ⟨k, hk, e⟩ := tin_N (by omega) h
    exact ⟨k, by omega, e⟩
/-- a round over any row of scratch: what is laid doesn't hang on it -/
theorem tP3_congr {r : Nat → Int32} {b : Nat → Bool} {A A' C C' : Nat → Int32} : ∀ n, (∀ k, k < n → b k = true → A k = A' k ∧ C k = C' k) → tP3 r b A C n = tP3 r b A' C' n
  | 0, _ => rfl
  | n + 1, h => by
    have ih := tP3_congr (r := r) n (fun k hk => h k (by omega))
    cases hb : b n with
    | true =>
      obtain ⟨e1, e2⟩ := h n (by omega) hb
      rw [tP3_t hb, tP3_t hb, ih, e1, e2]
    | false => rw [tP3_f hb, tP3_f hb, ih]
theorem tQ4_congr {r : Nat → Int32} {k : Nat} {b : Nat → Bool} {B B' : Nat → Int32} : ∀ n, (∀ o, o < n → b o = true → B o = B' o) → tQ4 r k b B n = tQ4 r k b B' n
  | 0, _ => rfl
  | n + 1, h => by
    have ih := tQ4_congr (r := r) (k := k) n (fun o ho => h o (by omega))
    unfold tQ4
    cases hb : b n with
    | true =>
      rw [ih, h n (by omega) hb]
    | false => simp [ih]
theorem tP4_congr {r : Nat → Int32} {b : Nat → Bool} {B B' : Nat → Int32} {mn : Nat} (h : ∀ o, o < mn → b o = true → B o = B' o) : ∀ n, tP4 r b B mn n = tP4 r b B' mn n
  | 0 => rfl
  | n + 1 => by
    unfold tP4
    rw [tP4_congr h n, tQ4_congr mn h]
def tRx (g : Nat → Int32) (mn : Nat) : Nat → Int32 := tRd g mn (fun _ => 0) (fun _ => 0) (fun _ => 0)
theorem tDb_up {g : Nat → Int32} {mn k : Nat} (h : tDb g mn k = true) : tUp (tP2 g mn k) k = true := by
  unfold tDb at h
  rw [Bool.and_eq_true] at h
  exact h.1
theorem tRd_x (g : Nat → Int32) (mn : Nat) (c14 c15 c16 : Nat → Int32) : tRd g mn c14 c15 c16 = tRx g mn := by
  unfold tRx tRd
  rw [tP3_congr (A' := tCA (tR1 g mn) mn (fun _ => 0) mn) (C' := tCC (tR1 g mn) mn (fun _ => 0) mn) mn (fun k hk hb => ⟨by rw [tCA_at (tDb_up hb) mn hk, tCA_at (tDb_up hb) mn hk], by rw [tCC_at (tDb_up hb) mn hk, tCC_at (tDb_up hb) mn hk]⟩)]
  exact tP4_congr (fun o ho hb => by rw [tCB_at (tDb_up hb) mn ho, tCB_at (tDb_up hb) mn ho]) mn
theorem tRx_25 {g : Nat → Int32} {mn : Nat} : tRx g mn 25 = g 25 := tRd_25
def tRn (g : Nat → Int32) (mn : Nat) : Nat → Nat → Int32
  | 0 => g
  | n + 1 => tRx (tRn g mn n) mn
theorem tRn_25 {g : Nat → Int32} {mn : Nat} : ∀ n, tRn g mn n 25 = g 25
  | 0 => rfl
  | n + 1 => by
    unfold tRn
    rw [tRx_25, tRn_25 n]
def tRk (g : Nat → Int32) (mn : Nat) : Int32 := tNc (tDb (tR1 g mn) mn) mn
def tRc (g : Nat → Int32) (mn : Nat) : Nat → Int32
  | 0 => 0
  | n + 1 => tRc g mn n + tRk (tRn g mn n) mn
def qRound (g : Nat → Int32) (mn : Nat) (x : Int32) : q4 := if tin x 1 30 = true then (0, 0, tRc g mn x.toNatClampNeg, tRn g mn x.toNatClampNeg) else (1, 0, 0, g)
