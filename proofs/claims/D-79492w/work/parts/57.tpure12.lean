/-! PURE, 12: states of kites that change; cutting -/
set_option maxRecDepth 100000
theorem townR.st {E : gE} {w w1 : wd} {i l : Nat} {A : Nat → Nat} {g g1 : Nat → Int32} {mn : Nat} {wn ly : Nat → Int32} {q : Nat} (h : townR E w i A g mn wn ly) (hi : i ≠ 0) (hl6 : l < 6) (hf : fr (pO (i, 6 + l)) w w1)
    (h9 : w1 (A (6 + l)) = some ((i, 6 + l), .inr (3, [.ref (eM E (g (kO l 1)).toNatClampNeg), .int (g (kO l 2)), .int (g (kO l 3)), .int (g (kO l 12)), .int (g (kO l 4)), .int (g (kO l 7)), .int (g (kO l 8)), .ref q])))
    (hlo : ∀ j, j < 26 → g1 j = g j) (ho : ∀ j, j ≠ l → kv g1 j = kv g j) (hc : ∀ c, c ∈ [1, 2, 3, 12, 4, 7, 8] → g1 (kO l c) = g (kO l c)) (hs : stR w1 i l (kv g1 l) q) : townR E w1 i A g1 mn wn ly := by
  refine h.kup hi hl6 (fr_K hf) (v := kv g1 l) (t := q) ⟨?_, hs⟩ (fun _ => rfl) hlo (fun j _ hj => ho j hj)
  rw [h9]
  have e : ∀ c, c ∈ [1, 2, 3, 12, 4, 7, 8] → kv g1 l c = g (kO l c) := fun c hm => (kv_at (by simp only [List.mem_cons, List.not_mem_nil, or_false] at hm; omega)).trans (hc c hm)
  simp only [kF, e 1 (by decide), e 2 (by decide), e 3 (by decide), e 12 (by decide), e 4 (by decide), e 7 (by decide), e 8 (by decide)]
def tZs (g : Nat → Int32) (l : Nat) (x13 x9 x10 x11 : Int32) : Nat → Int32 := va_up (va_up (va_up (va_up (va_up (va_up g (kO l 13) x13) (kO l 5) 0) (kO l 0) 2) (kO l 9) x9) (kO l 10) x10) (kO l 11) x11
theorem tZs_lo {g : Nat → Int32} {l : Nat} {x13 x9 x10 x11 : Int32} {j : Nat} (h : j < 26) : tZs g l x13 x9 x10 x11 j = g j := by
  unfold tZs
  rw [up_n (kO_lo h), up_n (kO_lo h), up_n (kO_lo h), up_n (kO_lo h), up_n (kO_lo h), up_n (kO_lo h)]
theorem tZs_ne {g : Nat → Int32} {l : Nat} {x13 x9 x10 x11 : Int32} {j : Nat} (h : j ≠ l) : kv (tZs g l x13 x9 x10 x11) j = kv g j := by
  unfold tZs
  rw [kv_ne h (by decide), kv_ne h (by decide), kv_ne h (by decide), kv_ne h (by decide), kv_ne h (by decide), kv_ne h (by decide)]
theorem kO_c {l c d : Nat} (h : c ≠ d) (hc : c < 15) (hd : d < 15) : kO l c ≠ kO l d := kO_ne (Or.inr h) hc hd
theorem tZs_c {g : Nat → Int32} {l : Nat} {x13 x9 x10 x11 : Int32} : ∀ c, c ∈ [1, 2, 3, 12, 4, 7, 8] → tZs g l x13 x9 x10 x11 (kO l c) = g (kO l c) := by
  intro c hc
  simp only [List.mem_cons, List.not_mem_nil, or_false] at hc
  unfold tZs
  rw [up_n (kO_c (by omega) (by omega) (by decide)), up_n (kO_c (by omega) (by omega) (by decide)), up_n (kO_c (by omega) (by omega) (by decide)), up_n (kO_c (by omega) (by omega) (by decide)), up_n (kO_c (by omega) (by omega) (by decide)), up_n (kO_c (by omega) (by omega) (by decide))]
theorem tZs_s {g : Nat → Int32} {w : wd} {i l q : Nat} {x13 x9 x10 x11 : Int32} (hq : w q = some ((0, 0), .inr (6, [.int x9, .int x10, .int x11]))) : stR w i l (kv (tZs g l x13 x9 x10 x11) l) q := by
  have e0 : kv (tZs g l x13 x9 x10 x11) l 0 = 2 := by
    rw [kv_at (by decide)]; unfold tZs
    rw [up_n (kO_c (by decide) (by decide) (by decide)), up_n (kO_c (by decide) (by decide) (by decide)), up_n (kO_c (by decide) (by decide) (by decide)), up_s]
  have e9 : kv (tZs g l x13 x9 x10 x11) l 9 = x9 := by
    rw [kv_at (by decide)]; unfold tZs
    rw [up_n (kO_c (by decide) (by decide) (by decide)), up_n (kO_c (by decide) (by decide) (by decide)), up_s]
  have e10 : kv (tZs g l x13 x9 x10 x11) l 10 = x10 := by
    rw [kv_at (by decide)]; unfold tZs
    rw [up_n (kO_c (by decide) (by decide) (by decide)), up_s]
  have e11 : kv (tZs g l x13 x9 x10 x11) l 11 = x11 := by
    rw [kv_at (by decide)]; unfold tZs
    rw [up_s]
  exact Or.inr (Or.inr ⟨e0, by rw [e9, e10, e11]; exact hq⟩)
/-- a line cut, as the component does it: the twin's row, and ten points for the cutter -/
def tCt (g : Nat → Int32) (l : Nat) (st go ca sw : Int32) (B : Nat) : Nat → Int32 := va_up (tCu g l st go ca sw) (kO B 8) (tCu g l st go ca sw (kO B 8) + 10)
def cS1 (g : Nat → Int32) (l : Nat) (st go : Int32) : Nat → Int32 := va_up (va_up (va_up g 23 (g 23 + st)) 22 (g 22 + go)) (kO l 3) (g (kO l 3) - go)
theorem tCt_eq {g : Nat → Int32} {l : Nat} {st go ca sw : Int32} {B : Nat} : va_up (va_up (tZs (cS1 g l st go) l (g (kO l 13) + go) (g 20) ca sw) (kO B 8) (g (kO B 8) + 10)) 24 (g 24 + 1) = tCt g l st go ca sw B := by
  have e1 : tZs (cS1 g l st go) l (g (kO l 13) + go) (g 20) ca sw = va_up (va_up (va_up (va_up (va_up (va_up (va_up (va_up (va_up g 23 (g 23 + st)) 22 (g 22 + go)) (kO l 3) (g (kO l 3) - go)) (kO l 13) (g (kO l 13) + go)) (kO l 5) 0) (kO l 0) 2) (kO l 9) (g 20)) (kO l 10) ca) (kO l 11) sw := rfl
  have e3 : tCu g l st go ca sw = va_up (tZs (cS1 g l st go) l (g (kO l 13) + go) (g 20) ca sw) 24 (g 24 + 1) := by
    rw [e1]
    unfold tCu
    rw [up_cm _ 24 (kO l 11) _ _ (kO_lo (by decide)), up_cm _ 24 (kO l 10) _ _ (kO_lo (by decide)), up_cm _ 24 (kO l 9) _ _ (kO_lo (by decide)), up_cm _ 24 (kO l 0) _ _ (kO_lo (by decide)), up_cm _ 24 (kO l 5) _ _ (kO_lo (by decide)), up_cm _ 24 (kO l 13) _ _ (kO_lo (by decide)), up_cm _ 24 (kO l 3) _ _ (kO_lo (by decide))]
  have e2 : tCu g l st go ca sw (kO B 8) = g (kO B 8) := by
    unfold tCu
    have n : ∀ c, c < 15 → c ≠ 8 → kO B 8 ≠ kO l c := fun c hc h => kO_ne (Or.inr (fun z => h z.symm)) (by decide) hc
    rw [up_n (n _ (by decide) (by decide)), up_n (n _ (by decide) (by decide)), up_n (n _ (by decide) (by decide)), up_n (n _ (by decide) (by decide)), up_n (n _ (by decide) (by decide)), up_n (n _ (by decide) (by decide)), up_n (n _ (by decide) (by decide)), up_n (fun z => kO_lo (by decide) z.symm), up_n (fun z => kO_lo (by decide) z.symm), up_n (fun z => kO_lo (by decide) z.symm)]
  unfold tCt
  rw [e2, e3, up_cm _ 24 (kO B 8) _ _ (kO_lo (by decide))]
theorem tZs_8 {g : Nat → Int32} {l B : Nat} {x13 x9 x10 x11 : Int32} : tZs g l x13 x9 x10 x11 (kO B 8) = g (kO B 8) := by
  unfold tZs
  have n : ∀ c, c < 15 → c ≠ 8 → kO B 8 ≠ kO l c := fun c hc h => kO_ne (Or.inr (fun z => h z.symm)) (by decide) hc
  rw [up_n (n _ (by decide) (by decide)), up_n (n _ (by decide) (by decide)), up_n (n _ (by decide) (by decide)), up_n (n _ (by decide) (by decide)), up_n (n _ (by decide) (by decide)), up_n (n _ (by decide) (by decide))]
theorem cS1_8 {g : Nat → Int32} {l B : Nat} {st go : Int32} : cS1 g l st go (kO B 8) = g (kO B 8) := by
  unfold cS1
  rw [up_n (kO_ne (Or.inr (by decide)) (by decide) (by decide)), up_n (fun z => kO_lo (by decide) z.symm), up_n (fun z => kO_lo (by decide) z.symm)]
theorem cS1_24 {g : Nat → Int32} {l : Nat} {st go : Int32} : cS1 g l st go 24 = g 24 := by
  unfold cS1
  rw [up_n (kO_lo (by decide)), up_n (by decide), up_n (by decide)]
theorem cS1_20 {g : Nat → Int32} {l : Nat} {st go : Int32} : cS1 g l st go 20 = g 20 := by
  unfold cS1
  rw [up_n (kO_lo (by decide)), up_n (by decide), up_n (by decide)]
