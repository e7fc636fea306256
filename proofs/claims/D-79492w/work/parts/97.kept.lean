/-! THE COMPONENT, 6: the towns that are kept -/
set_option maxRecDepth 100000
/-- towns lo .. hi - 1 -/
def ktR (E : gE) (w : wd) (lo hi : Nat) (I : Nat → Nat) (As : Nat → Nat → Nat) (K : Nat → Nat → Int32) (mk : Nat → Nat) : Prop := ∀ j, lo ≤ j → j < hi → ∃ wn ly, townR E w (I j) (As j) (K j) (mk j) wn ly
theorem ktR.fr {P : Nat × Nat → Prop} {E : gE} {w w1 : wd} {lo hi : Nat} {I : Nat → Nat} {As : Nat → Nat → Nat} {K : Nat → Nat → Int32} {mk : Nat → Nat} (h : ktR E w lo hi I As K mk) (hf : fr P w w1) (h0 : ¬ P (0, 0)) (h1 : ∀ j, lo ≤ j → j < hi → ∀ r, ¬ P (I j, r)) : ktR E w1 lo hi I As K mk := fun j a b => by
  obtain ⟨wn, ly, h⟩ := h j a b
  exact ⟨wn, ly, h.frm hf h0 (h1 j a b)⟩
def kIx (c : Nat) (I : Nat → Nat) : Prop := (∀ j, j < c → 4 ≤ I j ∧ I j ≤ 12) ∧ ∀ i j, i < c → j < c → I i = I j → i = j
def kpR (E : gE) (w : wd) (d c : Nat) (I : Nat → Nat) (K : Nat → Nat → Int32) (mk : Nat → Nat) : Prop := ∃ (q hd : Nat) (f : Nat → Option Nat) (As : Nat → Nat → Nat), ((hd < 17 ∧ c ≤ 8) ∧ kIx c I) ∧
  (w d = some ((95, 0), .inr (14, [.ref q, .int (nI hd), .int (nI ((hd + c) % 17))])) ∧ w q = some ((95, 1), .inl (eT E 6, 17, .inr (.inr (.inr (.inr f)))))) ∧
  (∀ j, j < c → f ((hd + j) % 17) = some (As j 0)) ∧ ktR E w 0 c I As K mk
def pKp (τ : Nat × Nat) : Prop := τ.1 = 95 ∨ (4 ≤ τ.1 ∧ τ.1 ≤ 12) ∨ τ.1 = 93
theorem kpR.fr {P : Nat × Nat → Prop} {E : gE} {w w1 : wd} {d c : Nat} {I : Nat → Nat} {K : Nat → Nat → Int32} {mk : Nat → Nat} (h : kpR E w d c I K mk) (hf : fr P w w1) (h0 : ¬ P (0, 0)) (h1 : ∀ i r, 4 ≤ i → i ≤ 12 ∨ i = 95 → ¬ P (i, r)) : kpR E w1 d c I K mk := by
  obtain ⟨q, hd, f, As, ⟨h2, h3⟩, ⟨h4, h5⟩, h6, h7⟩ := h
  exact ⟨q, hd, f, As, ⟨h2, h3⟩, ⟨hf _ _ _ h4 (h1 95 0 (by decide) (Or.inr rfl)), hf _ _ _ h5 (h1 95 1 (by decide) (Or.inr rfl))⟩, h6, h7.fr hf h0 (fun j _ b r => h1 _ r (h3.1 j b).1 (Or.inl (h3.1 j b).2))⟩
theorem kpR.le {E : gE} {w : wd} {d c : Nat} {I : Nat → Nat} {K : Nat → Nat → Int32} {mk : Nat → Nat} (h : kpR E w d c I K mk) : c ≤ 8 := by
  obtain ⟨q, hd, f, As, ⟨⟨-, h2⟩, -⟩, -⟩ := h
  exact h2
theorem kp_sz {hd c : Nat} (h : hd < 17) (hc : c ≤ 8) : ((hd + c) % 17 + 17 - hd) % 17 = c := by omega
/-- a number that no town has -/
theorem kIx_new {c : Nat} {I : Nat → Nat} (hc : c < 9) : ∃ i, (4 ≤ i ∧ i ≤ 12) ∧ ∀ j, j < c → I j ≠ i := by
  have key : ∀ (n : Nat) (L : List Nat), n < L.length → L.Nodup → ∃ i ∈ L, ∀ j, j < n → I j ≠ i := by
    intro n
    induction n with
    | zero =>
      intro L h _
      obtain ⟨x, t, rfl⟩ := List.exists_cons_of_length_pos h
      exact ⟨x, List.mem_cons_self, fun j hj => absurd hj (Nat.not_lt_zero j)⟩
    | succ n ih =>
      intro L h hd
      obtain ⟨i, hi, hj⟩ := ih (L.erase (I n)) (by
        have := List.length_erase (a := I n) (l := L)
        split at this <;> omega) (hd.erase _)
      have h1 := (List.Nodup.mem_erase_iff hd).mp hi
      refine ⟨i, h1.2, fun j hj1 => ?_⟩
      by_cases e : j = n
      · subst e; exact fun z => h1.1 z.symm
      · exact hj j (by omega)
  obtain ⟨i, hi, hj⟩ := key c [4, 5, 6, 7, 8, 9, 10, 11, 12] (by simpa using hc) (by decide)
  refine ⟨i, ?_, hj⟩
  simp only [List.mem_cons, List.not_mem_nil, or_false] at hi
  omega
def kCn (c : Nat) : Nat := if c = 8 then 8 else c + 1
def kSh {α : Type} (c : Nat) (K : Nat → α) (x : α) : Nat → α := if c = 8 then (fun j => if j < 7 then K (j + 1) else x) else va_up K c x
theorem kv_lo9 {g : Nat → Int32} {k z : Nat} {x : Int32} (h : z < 26) : kv (va_up g z x) k = kv g k := by
  funext c
  unfold kv
  split
  · exact up_n (by unfold kO; omega)
  · rfl
theorem townR.low {E : gE} {w w1 : wd} {i z r : Nat} {A : Nat → Nat} {g : Nat → Int32} {mn : Nat} {wn ly : Nat → Int32} {x : Int32} (h : townR E w i A g mn wn ly) (hi : i ≠ 0) (hf : fr (pO (i, r)) w w1) (hz : z < 20) (hr : r = 1 ∨ r = 2)
    (h1 : ∃ f, w1 (A 1) = some ((i, 1), .inl (eT E 0, 10, .inl f)) ∧ ∀ q, q < 10 → f q = va_up g z x (2 * q)) (h2 : ∃ f, w1 (A 2) = some ((i, 2), .inl (eT E 0, 10, .inl f)) ∧ ∀ q, q < 10 → f q = va_up g z x (2 * q + 1)) : townR E w1 i A (va_up g z x) mn wn ly := by
  obtain ⟨a0, -, -, ⟨f3, a3, b3⟩, a4, a5, a6, a7⟩ := h
  have hn : ∀ r2, r2 ≠ 1 → r2 ≠ 2 → ¬ pO (i, r) (i, r2) := by
    intro r2 h1 h2 z9
    simp only [pO, Prod.mk.injEq] at z9
    omega
  refine ⟨?_, h1, h2, ⟨f3, hf _ _ _ a3 (hn 3 (by decide) (by decide)), b3⟩, hf _ _ _ a4 (hn 4 (by decide) (by decide)), hf _ _ _ a5 (hn 5 (by decide) (by decide)), ⟨(up_n (by omega)).trans a6.1, a6.2⟩, ?_⟩
  · have := hf _ _ _ a0 (hn 0 (by decide) (by decide))
    rw [this]
    unfold tnF
    rw [up_n (by omega), up_n (by omega), up_n (by omega), up_n (by omega), up_n (by omega)]
  · have h9 := a7.frm hf (by intro z9; simp only [pO, Prod.mk.injEq] at z9; omega) (fun r2 hr2 => hn r2 (by omega) (by omega))
    intro k hk
    obtain ⟨v, t, e, h8⟩ := h9 k hk
    exact ⟨v, t, fun z9 => (e z9).trans (kv_lo9 (by omega)).symm, h8⟩
theorem townR.str {E : gE} {w w1 : wd} {i l : Nat} {A : Nat → Nat} {g fs : Nat → Int32} {mn : Nat} {wn ly : Nat → Int32} {x : Int32} (h : townR E w i A g mn wn ly) (hi : i ≠ 0) (hf : fr (pO (i, 1)) w w1) (h9 : w1 (A 1) = some ((i, 1), .inl (eT E 0, 10, .inl (va_up fs l x)))) (hl : l < 10) (he : ∀ q, q < 10 → fs q = g (2 * q)) : townR E w1 i A (va_up g (2 * l) x) mn wn ly := by
  obtain ⟨f2, a2, b2⟩ := h.2.2.1
  refine h.low hi hf (by omega) (Or.inl rfl) ⟨_, h9, fun q hq => ?_⟩ ⟨f2, hf _ _ _ a2 (by intro z9; simp only [pO, Prod.mk.injEq] at z9; omega), fun q hq => by rw [up_n (by omega)]; exact b2 q hq⟩
  by_cases e : q = l
  · subst e; rw [up_s, up_s]
  · rw [up_n e, up_n (by omega)]; exact he q hq
theorem townR.dri {E : gE} {w w1 : wd} {i l : Nat} {A : Nat → Nat} {g fs : Nat → Int32} {mn : Nat} {wn ly : Nat → Int32} {x : Int32} (h : townR E w i A g mn wn ly) (hi : i ≠ 0) (hf : fr (pO (i, 2)) w w1) (h9 : w1 (A 2) = some ((i, 2), .inl (eT E 0, 10, .inl (va_up fs l x)))) (hl : l < 10) (he : ∀ q, q < 10 → fs q = g (2 * q + 1)) : townR E w1 i A (va_up g (2 * l + 1) x) mn wn ly := by
  obtain ⟨f1, a1, b1⟩ := h.2.1
  refine h.low hi hf (by omega) (Or.inr rfl) ⟨f1, hf _ _ _ a1 (by intro z9; simp only [pO, Prod.mk.injEq] at z9; omega), fun q hq => by rw [up_n (by omega)]; exact b1 q hq⟩ ⟨_, h9, fun q hq => ?_⟩
  by_cases e : q = l
  · subst e; rw [up_s, up_s]
  · rw [up_n e, up_n (by omega)]; exact he q hq
theorem townR.m25 {E : gE} {w : wd} {i : Nat} {A : Nat → Nat} {g : Nat → Int32} {mn : Nat} {wn ly : Nat → Int32} (h : townR E w i A g mn wn ly) : g 25 = nI mn ∧ mn ≤ 6 := h.2.2.2.2.2.2.1
abbrev nIO : String := "java/lang/IndexOutOfBoundsException"
abbrev nIA : String := "java/lang/IllegalArgumentException"
abbrev nUO : String := "java/lang/UnsupportedOperationException"
abbrev nNS : String := "java/util/NoSuchElementException"
abbrev nIS : String := "java/lang/IllegalStateException"
abbrev nAE : String := "java/lang/ArithmeticException"
def pX1 (τ : Nat × Nat) : Prop := τ.1 = 1 ∨ τ.1 = 95 ∨ (4 ≤ τ.1 ∧ τ.1 ≤ 12) ∨ τ.1 = 93
def pX2 (τ : Nat × Nat) : Prop := τ.1 = 94 ∨ τ.1 = 2 ∨ pX1 τ
theorem kSh_8 {α : Type} {c : Nat} {K : Nat → α} {x : α} (hc : c = 8) : kSh c K x = fun j => if j < 7 then K (j + 1) else x := if_pos hc
theorem kSh_n {α : Type} {c : Nat} {K : Nat → α} {x : α} (hc : c ≠ 8) : kSh c K x = va_up K c x := if_neg hc
theorem kpR.rot {E : gE} {w : wd} {d q hd c mn : Nat} {f : Nat → Option Nat} {I : Nat → Nat} {As : Nat → Nat → Nat} {K : Nat → Nat → Int32} {mk : Nat → Nat} {g : Nat → Int32} {wn ly : Nat → Int32} (hc : c = 8) (hhd : hd < 17) (hI : kIx c I)
    (hD : w d = some ((95, 0), .inr (14, [.ref q, .int (nI (if hd + 1 < 17 then hd + 1 else 0)), .int (nI (if (hd + c) % 17 + 1 < 17 then (hd + c) % 17 + 1 else 0))]))) (hA : w q = some ((95, 1), .inl (eT E 6, 17, .inr (.inr (.inr (.inr (va_up (va_up f hd none) ((hd + c) % 17) (some (As 0 0)))))))))
    (hf8 : ∀ j, j < c → f ((hd + j) % 17) = some (As j 0)) (hK : ktR E w 1 c I As K mk) (hM : townR E w (I 0) (As 0) g mn wn ly) : kpR E w d (kCn c) (kSh c I (I 0)) (kSh c K g) (kSh c mk mn) := by
  have e1 : kCn c = 8 := if_pos hc
  rw [e1, kSh_8 hc, kSh_8 hc, kSh_8 hc]
  subst hc
  refine ⟨q, (hd + 1) % 17, _, fun j => if j < 7 then As (j + 1) else As 0, ⟨⟨Nat.mod_lt _ (by decide), by decide⟩, fun j hj => ?_, fun i j hi hj e => ?_⟩, ⟨?_, hA⟩, fun j hj => ?_, fun j _ hj => ?_⟩
  · dsimp only
    split
    · exact hI.1 _ (by omega)
    · exact hI.1 _ (by omega)
  · dsimp only at e
    split at e <;> split at e
    · have := hI.2 _ _ (by omega) (by omega) e; omega
    · have := hI.2 _ _ (by omega) (by omega) e; omega
    · have := hI.2 _ _ (by omega) (by omega) e; omega
    · omega
  · rw [hD, show (if hd + 1 < 17 then hd + 1 else 0) = (hd + 1) % 17 by split <;> omega, show (if (hd + 8) % 17 + 1 < 17 then (hd + 8) % 17 + 1 else 0) = ((hd + 1) % 17 + 8) % 17 by split <;> omega]
  · dsimp only
    by_cases h : j < 7
    · rw [if_pos h, up_n (by omega), up_n (by omega), show ((hd + 1) % 17 + j) % 17 = (hd + (j + 1)) % 17 by omega]
      exact hf8 _ (by omega)
    · rw [if_neg h, show ((hd + 1) % 17 + j) % 17 = (hd + 8) % 17 by omega, up_s]
  · dsimp only
    by_cases h : j < 7
    · rw [if_pos h, if_pos h, if_pos h, if_pos h]
      exact hK _ (by omega) (by omega)
    · rw [if_neg h, if_neg h, if_neg h, if_neg h]
      exact ⟨_, _, hM⟩
theorem kpR.add {E : gE} {w : wd} {d q hd c mn i9 : Nat} {f : Nat → Option Nat} {I : Nat → Nat} {As : Nat → Nat → Nat} {A9 : Nat → Nat} {K : Nat → Nat → Int32} {mk : Nat → Nat} {g : Nat → Int32} {wn ly : Nat → Int32} (hc : c < 8) (hhd : hd < 17) (hI : kIx c I) (hi9 : 4 ≤ i9 ∧ i9 ≤ 12) (hiF : ∀ j, j < c → I j ≠ i9)
    (hD : w d = some ((95, 0), .inr (14, [.ref q, .int (nI hd), .int (nI (if (hd + c) % 17 + 1 < 17 then (hd + c) % 17 + 1 else 0))]))) (hA : w q = some ((95, 1), .inl (eT E 6, 17, .inr (.inr (.inr (.inr (va_up f ((hd + c) % 17) (some (A9 0)))))))))
    (hf8 : ∀ j, j < c → f ((hd + j) % 17) = some (As j 0)) (hK : ktR E w 0 c I As K mk) (hM : townR E w i9 A9 g mn wn ly) : kpR E w d (kCn c) (kSh c I i9) (kSh c K g) (kSh c mk mn) := by
  have e1 : kCn c = c + 1 := if_neg (by omega)
  rw [e1, kSh_n (by omega), kSh_n (by omega), kSh_n (by omega)]
  refine ⟨q, hd, _, va_up As c A9, ⟨⟨hhd, by omega⟩, fun j hj => ?_, fun i j hi hj e => ?_⟩, ⟨?_, hA⟩, fun j hj => ?_, fun j _ hj => ?_⟩
  · by_cases h : j = c
    · rw [h, up_s]; exact hi9
    · rw [up_n h]; exact hI.1 _ (by omega)
  · by_cases h : i = c
    · by_cases h2 : j = c
      · omega
      · rw [h, up_s, up_n h2] at e
        exact absurd e.symm (hiF j (by omega))
    · by_cases h2 : j = c
      · rw [h2, up_s, up_n h] at e
        exact absurd e (hiF i (by omega))
      · rw [up_n h, up_n h2] at e
        exact hI.2 _ _ (by omega) (by omega) e
  · rw [hD, show (if (hd + c) % 17 + 1 < 17 then (hd + c) % 17 + 1 else 0) = (hd + (c + 1)) % 17 by split <;> omega]
  · by_cases h : j = c
    · rw [h, up_s, up_s]
    · rw [up_n (by omega), up_n h]
      exact hf8 _ (by omega)
  · by_cases h : j = c
    · rw [h, up_s, up_s, up_s, up_s]
      exact ⟨_, _, hM⟩
    · rw [up_n h, up_n h, up_n h, up_n h]
      exact hK _ (by omega) (by omega)
def pXs (τ : Nat × Nat) : Prop := τ.1 = 3 ∨ τ.1 = 93 ∨ τ.1 = 94
def pX2t (τ : Nat × Nat) : Prop := τ.1 = 2 ∨ τ.1 = 93
