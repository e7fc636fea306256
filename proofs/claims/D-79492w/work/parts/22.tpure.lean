/-! PURE: what the twin reckons, over a row g : Nat → Int32 -/
set_option maxRecDepth 100000
def tin (v lo hi : Int32) : Bool := decide (lo ≤ v) && decide (v ≤ hi)
def tSz (v : Int32) : Int32 := if v < 0 then -v else v
def tLs (x y : Int32) : Int32 := if x < y then x else y
def kO (k c : Nat) : Nat := 26 + 15 * k + c
def tKt (g : Nat → Int32) (k : Int32) : Bool := tin k 0 (g 25 - 1)
def tUp (g : Nat → Int32) (k : Nat) : Bool := decide (g (kO k 0) = 1)
def tAr (g : Nat → Int32) (k : Nat) : Int32 := if g (kO k 1) = 0 then 2 else if g (kO k 1) = 1 then 3 else 1
def tFc (g : Nat → Int32) (k : Nat) : Int32 := if g (kO k 1) = 2 then 2 else 1
def tHd (g : Nat → Int32) (k : Nat) : Int32 := if g (kO k 1) = 0 then 30 else if g (kO k 1) = 1 then 50 else 20
def tTk (g : Nat → Int32) (k i : Nat) : Int32 := 10 + tSz (g (2 * i + 1)) * tFc g k + (if g (2 * i) = 0 then 5 else 0)
def tBl (g : Nat → Int32) (k : Nat) : Nat → Int32
  | 0 => 0
  | n + 1 => tBl g k n + tTk g k n
def tHg (g : Nat → Int32) (k : Nat) : Nat → Nat → Int32 → Nat
  | 0, i, _ => i
  | q + 1, i, x => if tTk g k i ≤ x then tHg g k q (i + 1) (x - tTk g k i) else i
def tHt (g : Nat → Int32) (k : Nat) : Nat := if tUp g k = true then tHg g k 10 0 (g (kO k 5)) else 0
def tPl (g : Nat → Int32) (k : Nat) : Nat → Int32
  | 0 => g (kO k 2)
  | n + 1 => tPl g k n + g (2 * n + 1) * tFc g k
def tSm (g : Nat → Int32) : Nat → Int32
  | 0 => 0
  | n + 1 => tSm g n + g (2 * n)
def tTs (g : Nat → Int32) (k : Nat) : Int32 := tAr g k * tSm g (tHt g k)
def tDo (below above : Int32) : Bool := decide (above = 0) || (decide (below < 0) && decide (0 < above)) || (decide (0 < below) && decide (above < 0))
def tCg (g : Nat → Int32) (x y : Nat) : Nat → Nat → Option Nat
  | 0, _ => none
  | q + 1, i => if tDo (tPl g x i - tPl g y i) (tPl g x (i + 1) - tPl g y (i + 1)) = true then some i else tCg g x y q (i + 1)
def tCr (g : Nat → Int32) (x y : Nat) : Option Nat := if x = y then none else tCg g x y (min (tHt g x) (tHt g y)) 0
def tWb (g : Nat → Int32) (x y : Nat) : Int32 := if oI (tCr g x y) < 0 then 0 else if tTs g x < tTs g y then 2 * g (kO y 4) else g (kO y 4)
def tWn (g : Nat → Int32) (k : Nat) : Nat → Int32
  | 0 => 0
  | n + 1 => tWn g k n + tWb g k n
def tIn (g : Nat → Int32) (st : Int32) : Nat → Int32
  | 0 => 0
  | n + 1 => tIn g st n + (if g (kO n 0) = st then 1 else 0)
def tSu (g : Nat → Int32) (c : Nat) : Nat → Int32
  | 0 => 0
  | n + 1 => tSu g c n + g (kO n c)
def tPa (g : Nat → Int32) (acc : Int32) (x : Nat) : Nat → Int32
  | 0 => acc
  | n + 1 => tPa g acc x n + (if oI (tCr g x n) < 0 then 0 else 1)
def tPr (g : Nat → Int32) : Nat → Int32
  | 0 => 0
  | n + 1 => tPa g (tPr g n) n n
theorem i_le (x y : Int32) : x ≤ y ↔ x.toInt ≤ y.toInt := Int32.le_iff_toInt_le
theorem i_lt (x y : Int32) : x < y ↔ x.toInt < y.toInt := Int32.lt_iff_toInt_lt
theorem i_eq (x y : Int32) : x = y ↔ x.toInt = y.toInt := Int32.toInt_inj.symm
theorem i_0 : (0 : Int32).toInt = 0 := rfl
theorem tDo_iff (x y : Int32) : tDo x y = true ↔ y.toInt = 0 ∨ (x.toInt < 0 ∧ 0 < y.toInt) ∨ (0 < x.toInt ∧ y.toInt < 0) := by
  simp only [tDo, Bool.or_eq_true, Bool.and_eq_true, decide_eq_true_eq, i_lt, i_eq, i_0]
  omega
theorem tHg_le (g : Nat → Int32) (k : Nat) : ∀ (q i : Nat) (x : Int32), tHg g k q i x ≤ q + i
  | 0, i, _ => by simp [tHg]
  | q + 1, i, x => by
    unfold tHg
    split
    · have := tHg_le g k q (i + 1) (x - tTk g k i)
      omega
    · omega
theorem tHt_le (g : Nat → Int32) (k : Nat) : tHt g k ≤ 10 := by
  unfold tHt
  split
  · exact tHg_le g k 10 0 _
  · omega
theorem tLs_nI {x y : Nat} (hx : x < 2 ^ 31) (hy : y < 2 ^ 31) : tLs (nI x) (nI y) = nI (min x y) := by
  unfold tLs
  by_cases h : x < y
  · rw [if_pos ((nI_ltI hx hy).mpr h), Nat.min_eq_left (Nat.le_of_lt h)]
  · rw [if_neg (fun z => h ((nI_ltI hx hy).mp z)), Nat.min_eq_right (Nat.le_of_not_lt h)]
theorem tCg_lt (g : Nat → Int32) (x y : Nat) : ∀ (q i n : Nat), tCg g x y q i = some n → i ≤ n ∧ n < q + i
  | 0, i, n, h => by cases h
  | q + 1, i, n, h => by
    unfold tCg at h
    split at h
    · cases h
      omega
    · have := tCg_lt g x y q (i + 1) n h
      omega
theorem tCr_lt {g : Nat → Int32} {x y n : Nat} (h : tCr g x y = some n) : n < tHt g x ∧ n < tHt g y ∧ n < 10 := by
  unfold tCr at h
  split at h
  · cases h
  · have h1 := tCg_lt g x y _ _ _ h
    have := tHt_le g x
    omega
theorem oI_neg {o : Option Nat} (h : ∀ n, o = some n → n < 2 ^ 31) : oI o < 0 ↔ o = none := by
  cases o with
  | none => exact ⟨fun _ => rfl, fun _ => by decide⟩
  | some n => exact ⟨fun z => absurd z (nI_pos (h n rfl)), fun z => by cases z⟩
theorem oI_cr {g : Nat → Int32} {x y : Nat} : oI (tCr g x y) < 0 ↔ tCr g x y = none := oI_neg (fun n h => by have := tCr_lt h; omega)
