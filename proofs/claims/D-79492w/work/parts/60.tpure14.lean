/-! PURE, 14: the component's round is the twin's -/
set_option maxRecDepth 100000
def tX3 (r : Nat → Int32) (b : Nat → Bool) (ca : Nat → Nat) (sw : Nat → Int32) (B : Nat → Nat) : Nat → Nat → Int32
  | 0 => r
  | z + 1 => if b z = true then tCt (tX3 r b ca sw B z) z (tBl (tX3 r b ca sw B z) z (ca z)) (tX3 r b ca sw B z (kO z 5) - tBl (tX3 r b ca sw B z) z (ca z)) (nI (ca z)) (sw z) (B z) else tX3 r b ca sw B z
def tX4 (r : Nat → Int32) : Nat → Nat → Int32
  | 0 => r
  | k + 1 => va_up (tX4 r k) (kO k 8) (tX4 r k (kO k 8) + nI (tHt (tX4 r k) k))
/-- ten points for each that a kite cuts -/
def tPc (b : Nat → Bool) (B : Nat → Nat) (m : Nat) : Nat → Int32
  | 0 => 0
  | o + 1 => if b o = true ∧ B o = m then tPc b B m o + 10 else tPc b B m o
def noP (j : Nat) : Prop := ∀ m, j ≠ kO m 8
theorem noP_lo {j : Nat} (h : j < 26) : noP j := fun _ => kO_lo h
theorem noP_k {k c : Nat} (h : c ≠ 8) (hc : c < 15) : noP (kO k c) := fun _ => kO_ne (Or.inr h) hc (by decide)
theorem aG_noP {g g1 : Nat → Int32} (h : ∀ j, noP j → g1 j = g j) : aG g g1 :=
  ⟨fun j hj => h j (noP_lo (by omega)), fun k c hc => h _ (noP_k (by simp only [List.mem_cons, List.not_mem_nil, or_false] at hc; omega) (by simp only [List.mem_cons, List.not_mem_nil, or_false] at hc; omega))⟩
theorem tCu_8 {g : Nat → Int32} {l B : Nat} {st go ca sw : Int32} : tCu g l st go ca sw (kO B 8) = g (kO B 8) := by
  unfold tCu
  have n : ∀ c, c < 15 → c ≠ 8 → kO B 8 ≠ kO l c := fun c hc h => kO_ne (Or.inr (fun z => h z.symm)) (by decide) hc
  rw [up_n (n _ (by decide) (by decide)), up_n (n _ (by decide) (by decide)), up_n (n _ (by decide) (by decide)), up_n (n _ (by decide) (by decide)), up_n (n _ (by decide) (by decide)), up_n (n _ (by decide) (by decide)), up_n (n _ (by decide) (by decide)), up_n (fun z => kO_lo (by decide) z.symm), up_n (fun z => kO_lo (by decide) z.symm), up_n (fun z => kO_lo (by decide) z.symm)]
theorem tCu_ag {X P : Nat → Int32} {l : Nat} {st go ca sw : Int32} (h : ∀ j, noP j → X j = P j) {j : Nat} (hj : noP j) : tCu X l st go ca sw j = tCu P l st go ca sw j := by
  unfold tCu
  simp only [va_up, h 23 (noP_lo (by decide)), h 22 (noP_lo (by decide)), h 24 (noP_lo (by decide)), h 20 (noP_lo (by decide)), h (kO l 3) (noP_k (by decide) (by decide)), h (kO l 13) (noP_k (by decide) (by decide)), h j hj]
theorem X3_rel {r : Nat → Int32} {b : Nat → Bool} {ca : Nat → Nat} {sw : Nat → Int32} {B : Nat → Nat} {A C : Nat → Int32} (hca : ∀ k, ca k ≤ 10) : ∀ z, (∀ k, k < z → b k = true → A k = nI (ca k) ∧ C k = sw k) → (∀ j, noP j → tX3 r b ca sw B z j = tP3 r b A C z j) ∧ (∀ m, tX3 r b ca sw B z (kO m 8) = r (kO m 8) + tPc b B m z) ∧ ∀ m, tP3 r b A C z (kO m 8) = r (kO m 8)
  | 0, _ => ⟨fun _ _ => rfl, fun m => by show r (kO m 8) = r (kO m 8) + 0; grind, fun _ => rfl⟩
  | z + 1, hA => by
    obtain ⟨h1, h2, h3⟩ := X3_rel (r := r) (b := b) (ca := ca) (sw := sw) (B := B) (A := A) (C := C) hca z (fun k hk => hA k (by omega))
    unfold tX3 tP3
    cases hb : b z with
    | false =>
      refine ⟨fun j hj => by rw [if_neg (by decide), if_neg (by decide)]; exact h1 j hj, fun m => ?_, fun m => by rw [if_neg (by decide)]; exact h3 m⟩
      rw [if_neg (by decide), h2 m, show tPc b B m (z + 1) = tPc b B m z from if_neg (fun z => by rw [hb] at z; exact absurd z.1 (by decide))]
    | true =>
      obtain ⟨e1, e2⟩ := hA z (Nat.lt_succ_self z) hb
      have ha := aG_noP h1
      have eb : tBl (tX3 r b ca sw B z) z (ca z) = tBl (tP3 r b A C z) z (ca z) := aG_bl ha z (hca z)
      have e5 : tX3 r b ca sw B z (kO z 5) = tP3 r b A C z (kO z 5) := h1 _ (noP_k (by decide) (by decide))
      have ec : (A z).toNatClampNeg = ca z := by rw [e1, nI_clamp (by have := hca z; omega)]
      rw [if_pos rfl, if_pos rfl, ec, e2, eb, e5]
      refine ⟨fun j hj => ?_, fun m => ?_, fun m => tCu_8.trans (h3 m)⟩
      · unfold tCt
        rw [up_n (hj _)]
        exact tCu_ag h1 hj
      · unfold tCt tPc
        by_cases hm : B z = m
        · subst hm
          rw [up_s, if_pos ⟨hb, rfl⟩, tCu_8, h2]
          grind
        · rw [up_n (kO_ne (Or.inl (fun z => hm z.symm)) (by decide) (by decide)), tCu_8, if_neg (fun z => hm z.2), h2]
theorem X4_rel {q : Nat → Int32} : ∀ n, (∀ j, noP j → tX4 q n j = q j) ∧ ∀ m, tX4 q n (kO m 8) = if m < n then q (kO m 8) + nI (tHt q m) else q (kO m 8)
  | 0 => ⟨fun _ _ => rfl, fun m => by rw [if_neg (Nat.not_lt_zero m)]; rfl⟩
  | n + 1 => by
    obtain ⟨h1, h2⟩ := X4_rel (q := q) n
    unfold tX4
    rw [aG_ht (aG_noP h1)]
    refine ⟨fun j hj => (up_n (hj _)).trans (h1 j hj), fun m => ?_⟩
    by_cases e : m = n
    · subst e
      rw [up_s, h2, if_neg (Nat.lt_irrefl m), if_pos (Nat.lt_succ_self m)]
    · rw [up_n (kO_ne (Or.inl e) (by decide) (by decide)), h2]
      by_cases hm : m < n
      · rw [if_pos hm, if_pos (by omega)]
      · rw [if_neg hm, if_neg (by omega)]
theorem Q4_rel {q : Nat → Int32} {k : Nat} {b : Nat → Bool} {B : Nat → Nat} {B' : Nat → Int32} (hk : k < 2 ^ 31) : ∀ n, (∀ o, o < n → b o = true → B' o = nI (B o) ∧ B o < 2 ^ 31) → (∀ j, j ≠ kO k 8 → tQ4 q k b B' n j = q j) ∧ tQ4 q k b B' n (kO k 8) = q (kO k 8) + tPc b B k n
  | 0, _ => ⟨fun _ _ => rfl, by show q (kO k 8) = q (kO k 8) + 0; grind⟩
  | n + 1, hB => by
    obtain ⟨h1, h2⟩ := Q4_rel (q := q) (k := k) (b := b) (B := B) (B' := B') hk n (fun o ho => hB o (by omega))
    unfold tQ4 tPc
    by_cases hb : b n = true
    · obtain ⟨e1, e2⟩ := hB n (Nat.lt_succ_self n) hb
      by_cases hm : B n = k
      · rw [if_pos ⟨hb, by rw [e1, hm]⟩, if_pos ⟨hb, hm⟩]
        exact ⟨fun j hj => (up_n hj).trans (h1 j hj), by rw [up_s, h2]; grind⟩
      · rw [if_neg (fun z => hm ((nI_eq e2 hk).mp (e1.symm.trans z.2))), if_neg (fun z => hm z.2)]
        exact ⟨h1, h2⟩
    · rw [if_neg (fun z => hb z.1), if_neg (fun z => hb z.1)]
      exact ⟨h1, h2⟩
theorem P4_rel {q : Nat → Int32} {b : Nat → Bool} {B : Nat → Nat} {B' : Nat → Int32} {mn : Nat} (hmn : mn ≤ 6) (hB : ∀ o, o < mn → b o = true → B' o = nI (B o) ∧ B o < 2 ^ 31) : ∀ n, n ≤ mn → (∀ j, noP j → tP4 q b B' mn n j = q j) ∧ ∀ m, tP4 q b B' mn n (kO m 8) = if m < n then q (kO m 8) + nI (tHt q m) + tPc b B m mn else q (kO m 8)
  | 0, _ => ⟨fun _ _ => rfl, fun m => by rw [if_neg (Nat.not_lt_zero m)]; rfl⟩
  | n + 1, hn => by
    obtain ⟨h1, h2⟩ := P4_rel (q := q) (b := b) (B := B) (B' := B') hmn hB n (by omega)
    unfold tP4
    rw [aG_ht (aG_noP h1)]
    obtain ⟨q1, q2⟩ := Q4_rel (q := va_up (tP4 q b B' mn n) (kO n 8) (tP4 q b B' mn n (kO n 8) + nI (tHt q n))) (k := n) (b := b) (B := B) (B' := B') (by omega) mn hB
    refine ⟨fun j hj => (q1 j (hj _)).trans ((up_n (hj _)).trans (h1 j hj)), fun m => ?_⟩
    by_cases e : m = n
    · subst e
      rw [q2, up_s, h2, if_neg (Nat.lt_irrefl m), if_pos (Nat.lt_succ_self m)]
    · have hne : kO m 8 ≠ kO n 8 := kO_ne (Or.inl e) (by decide) (by decide)
      rw [q1 _ hne, up_n hne, h2]
      by_cases hm : m < n
      · rw [if_pos hm, if_pos (by omega)]
      · rw [if_neg hm, if_neg (by omega)]
theorem tPc_0 {b : Nat → Bool} {B : Nat → Nat} {m : Nat} : ∀ n, (∀ o, o < n → b o = true → B o ≠ m) → tPc b B m n = 0
  | 0, _ => rfl
  | n + 1, h => by
    unfold tPc
    rw [if_neg (fun z => h n (Nat.lt_succ_self n) z.1 z.2), tPc_0 n (fun o ho => h o (by omega))]
/-- the component's end of a round and the twin's -/
theorem round_eq {r : Nat → Int32} {b : Nat → Bool} {ca : Nat → Nat} {sw : Nat → Int32} {B : Nat → Nat} {A C B' : Nat → Int32} {mn : Nat} (hmn : mn ≤ 6) (hca : ∀ k, ca k ≤ 10) (hA : ∀ k, k < mn → b k = true → A k = nI (ca k) ∧ C k = sw k) (hB : ∀ o, o < mn → b o = true → B' o = nI (B o) ∧ B o < mn) : tX4 (tX3 r b ca sw B mn) mn = tP4 (tP3 r b A C mn) b B' mn mn := by
  obtain ⟨a1, a2, a3⟩ := X3_rel (r := r) (b := b) (ca := ca) (sw := sw) (B := B) (A := A) (C := C) hca mn hA
  obtain ⟨c1, c2⟩ := X4_rel (q := tX3 r b ca sw B mn) mn
  obtain ⟨d1, d2⟩ := P4_rel (q := tP3 r b A C mn) (b := b) (B := B) (B' := B') hmn (fun o ho hb => ⟨(hB o ho hb).1, by have := (hB o ho hb).2; omega⟩) mn (Nat.le_refl _)
  funext j
  by_cases h : ∃ m, j = kO m 8
  · obtain ⟨m, rfl⟩ := h
    rw [c2, d2, a2, a3]
    by_cases hm : m < mn
    · rw [if_pos hm, if_pos hm, aG_ht (aG_noP a1)]
      grind
    · rw [if_neg hm, if_neg hm, tPc_0 mn (fun o ho hb => by have := (hB o ho hb).2; omega)]
      grind
  · have hj : noP j := fun m hm => h ⟨m, hm⟩
    rw [c1 j hj, d1 j hj, a1 j hj]
