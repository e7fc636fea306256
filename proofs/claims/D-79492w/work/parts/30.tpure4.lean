/-! PURE, 4: the twin's questions: (code, answer) -/
set_option maxRecDepth 100000
def qWof (g : Nat → Int32) (x : Int32) (b : Bool) : Int32 × Int32 := if tin x 0 9 = true then (if b = true then (0, g (2 * x.toNatClampNeg + 1)) else (0, g (2 * x.toNatClampNeg + 0))) else (1, 0)
def rKof (g : Nat → Int32) (k n : Nat) : Int32 :=
  if n = 6 then (if tUp g k = true then g (kO k 6) else 0) else if n = 7 then nI (tHt g k) else if n = 8 then tTs g k else if n = 9 then tPl g k (tHt g k)
  else if n = 10 then (if tUp g k = true then g (kO k 5) - tBl g k (tHt g k) else 0) else if n = 11 then g (kO k 7) else if n = 12 then g (kO k 8) else g (kO k n)
def qKof (g : Nat → Int32) (x y : Int32) : Int32 × Int32 := if tKt g x = true then (if tin y 0 12 = true then (0, rKof g x.toNatClampNeg y.toNatClampNeg) else (2, 0)) else (1, 0)
def qSta (g : Nat → Int32) (x : Int32) : Int32 × Int32 := if tKt g x = true then (if g (kO x.toNatClampNeg 0) = 0 then (0, 114) else if tUp g x.toNatClampNeg = true then (0, 117) else (0, 99)) else (1, 32)
def tHa (g : Nat → Int32) (k : Nat) : Nat → Nat
  | 0 => 0
  | n + 1 => if tBl g k (n + 1) ≤ g (kO k 5) then n + 1 else tHa g k n
def qHag (g : Nat → Int32) (x : Int32) : Int32 × Int32 := if tKt g x = true then (if tUp g x.toNatClampNeg = true then (0, nI (tHa g x.toNatClampNeg 10)) else (0, 0)) else (1, 0)
def qPat (g : Nat → Int32) (x y : Int32) : Int32 × Int32 := if tKt g x = true then (if tin y 0 (nI (tHt g x.toNatClampNeg) - 1) = true then (0, tPl g x.toNatClampNeg (y.toNatClampNeg + 1)) else (2, 0)) else (1, 0)
def qCro (g : Nat → Int32) (x y : Int32) : Int32 × Int32 := if tKt g x = true then (if tKt g y = true then (0, oI (tCr g x.toNatClampNeg y.toNatClampNeg)) else (1, 0)) else (1, 0)
def qWea (g : Nat → Int32) (mn : Nat) (x : Int32) : Int32 × Int32 := if tKt g x = true then (0, tWn g x.toNatClampNeg mn) else (1, 0)
def tCs (z y : Int32) : Nat → Nat → Int32 → Option Nat
  | 0, _, _ => none
  | q + 1, o, n => if (z >>> (nI o &&& 31)) &&& 1 = 0 then tCs z y q (o + 1) n else if n = y then some o else tCs z y q (o + 1) (n + 1)
def oP (o : Option Nat) : Int32 × Int32 := match o with
  | none => (2, 0)
  | some n => (0, nI n)
def qCau (g : Nat → Int32) (x y : Int32) : Int32 × Int32 := if tKt g x = true then (if g (kO x.toNatClampNeg 0) = 2 then (if y < 0 then (2, 0) else if 2 ≤ y then oP (tCs (g (kO x.toNatClampNeg 11)) y 6 0 2) else if y = 0 then (0, g (kO x.toNatClampNeg 9)) else (0, g (kO x.toNatClampNeg 10))) else (2, 0)) else (1, 0)
def tLo (g : Nat → Int32) : Nat → Option Nat
  | 0 => none
  | k + 1 => match tLo g k with
    | none => some k
    | some b => if g (kO k 8) ≤ g (kO b 8) then some b else some k
def qLea (g : Nat → Int32) (mn : Nat) : Int32 × Int32 := if 0 ≤ oI (tLo g mn) then (0, oI (tLo g mn)) else (1, 0)
def qRef (f : Nat → Int32) (b : Bool) : Int32 × Int32 := if f 11 = 0 then (1, 0) else if b = true then (0, f 12) else (0, f 11)
def rAcc (f : Nat → Int32) (g : Nat → Int32) (mn n : Nat) : Int32 :=
  if n = 0 then nI mn else if n = 1 then tIn g 0 mn else if n = 2 then tIn g 1 mn else if n = 3 then tIn g 2 mn else if n = 4 then g 20 else if n = 5 then g 21 else if n = 6 then tSu g 5 mn
  else if n = 7 then g 22 else if n = 8 then g 23 else if n = 9 then g 24 else if n = 10 then tPr g mn else if n = 11 then tSu g 8 mn else if n = 12 then f 9 else f 6
def qAcc (f : Nat → Int32) (g : Nat → Int32) (mn : Nat) (x : Int32) : Int32 × Int32 := if tin x 0 13 = true then (0, rAcc f g mn x.toNatClampNeg) else (1, 0)
/-- whether every spool has what it had less what is gone -/
def tBk (g : Nat → Int32) : Nat → Bool
  | 0 => true
  | n + 1 => tBk g n && decide (g (kO n 3) = g (kO n 12) - g (kO n 13))
def tBal (g : Nat → Int32) (mn : Nat) : Bool := decide (g 21 = tSu g 5 mn + g 22 + g 23) && (tBk g mn && decide (tSu g 13 mn = g 22))
theorem tin_P {v : Int32} {n : Nat} (hn : n < 2 ^ 31) (h : tin v 0 (nI n - 1) = true) : ∃ k, k < n ∧ v = nI k := by
  cases n with
  | zero =>
    obtain ⟨h1, h2⟩ := tin_of h
    rw [show nI 0 - 1 = -1 from rfl] at h2
    exact absurd (Int32.le_trans h1 h2) (by decide)
  | succ n =>
    rw [nI_pred] at h
    obtain ⟨k, hk, e⟩ := tin_N (by omega) h
    exact ⟨k, by omega, e⟩
theorem tLo_lt {g : Nat → Int32} : ∀ {n b : Nat}, tLo g n = some b → b < n
  | 0, b, h => by cases h
  | n + 1, b, h => by
    unfold tLo at h
    cases e : tLo g n with
    | none => rw [e] at h; cases h; omega
    | some c =>
      rw [e] at h
      have := tLo_lt e
      dsimp only at h
      split at h <;> cases h <;> omega
theorem tLo_neg {g : Nat → Int32} {n : Nat} (hn : n ≤ 6) : oI (tLo g n) < 0 ↔ tLo g n = none := oI_neg (fun b h => by have := tLo_lt h; omega)
theorem tBk_f {g : Nat → Int32} {n : Nat} (h : ¬ g (kO n 3) = g (kO n 12) - g (kO n 13)) : ∀ {m : Nat}, n < m → tBk g m = false
  | 0, hm => absurd hm (Nat.not_lt_zero _)
  | m + 1, hm => by
    unfold tBk
    by_cases e : n = m
    · subst e
      rw [decide_eq_false h, Bool.and_false]
    · rw [tBk_f h (m := m) (by omega), Bool.false_and]
theorem tBl_0 (g : Nat → Int32) (k : Nat) : tBl g k 0 = 0 := rfl
/-- the mean of the tensions, the share of line that is out -/
def tTn (g : Nat → Int32) : Nat → Int32
  | 0 => 0
  | n + 1 => tTn g n + tTs g n
