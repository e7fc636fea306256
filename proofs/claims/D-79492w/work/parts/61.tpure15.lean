/-! PURE, 15: what holds of a row holds after a round -/
set_option maxRecDepth 100000
theorem kI_ag {g g1 : Nat → Int32} {k N : Nat} (h : ∀ c, c ∈ [0, 1, 3, 4, 5, 7, 8, 9, 10, 12, 13] → g1 (kO k c) = g (kO k c)) (hI : kI g k N) : kI g1 k N := by
  unfold kI at hI ⊢
  rw [h 0 (by decide), h 1 (by decide), h 3 (by decide), h 4 (by decide), h 5 (by decide), h 7 (by decide), h 8 (by decide), h 9 (by decide), h 10 (by decide), h 12 (by decide), h 13 (by decide)]
  exact hI
theorem kI_up {g : Nat → Int32} {k N N1 : Nat} (h : kI g k N) (hN : N ≤ N1) : kI g k N1 := by
  obtain ⟨a1, a2, a3, a4, a5, a6, a7, a8, a9, a10⟩ := h
  exact ⟨a1, a2, a3, a4, a5, a6, a7, ⟨a8.1, by omega⟩, a9, a10⟩
theorem gI.up {g : Nat → Int32} {mn N N1 : Nat} (h : gI g mn N) (hN : N ≤ N1) : gI g mn N1 := ⟨h.1, ⟨h.2.1.1, by have := h.2.1.2; omega⟩, h.2.2.1, fun k hk => kI_up (h.2.2.2 k hk) hN⟩
theorem gI_P2 {g : Nat → Int32} {mn m N : Nat} (h : gI g mn N) (n : Nat) : gI (tP2 g m n) mn N := by
  have lo : ∀ j, j < 26 → tP2 g m n j = g j := fun j hj => tP2_lo (fun k => kO_lo hj) n
  refine ⟨fun q hq => ?_, ?_, ?_, fun k hk => kI_ag (fun c hc => ?_) (h.2.2.2 k hk)⟩
  · rw [lo _ (by omega), lo _ (by omega)]; exact h.1 q hq
  · rw [lo _ (by decide)]; exact h.2.1
  · rw [lo _ (by decide)]; exact h.2.2.1
  · simp only [List.mem_cons, List.not_mem_nil, or_false] at hc
    exact tP2_lo (fun k' => kO_ne (Or.inr (by omega)) (by omega) (by decide)) n
theorem gI_G0 {g : Nat → Int32} {mn N : Nat} (h : gI g mn N) (hN : N + 1 < 2 ^ 31) : gI (tG0 g) mn (N + 1) := by
  obtain ⟨h1, h2, h3, h4⟩ := h
  have e : (g 20 + 1).toInt = (g 20).toInt + 1 := by
    have := h2.1
    rw [i_le, i_0] at this
    rw [Int32.toInt_add, show (1 : Int32).toInt = 1 from rfl]
    exact Int.bmod_eq_of_le (by omega) (by omega)
  refine ⟨fun q hq => ?_, ?_, (tG0_lo (by decide)).trans h3.1 |> fun z => ⟨z, h3.2⟩, fun k hk => kI_up (kI_ag (fun c _ => tG0_lo (by unfold kO; omega)) (h4 k hk)) (Nat.le_succ N)⟩
  · rw [tG0_lo (by omega), tG0_lo (by omega)]; exact h1 q hq
  · unfold tG0
    rw [up_s, i_le, i_0, e]
    have := h2.1
    rw [i_le, i_0] at this
    omega
/-- points alone have changed -/
theorem gI_pt {g g1 : Nat → Int32} {mn N N1 : Nat} (h : gI g mn N) (hN : N ≤ N1) (hg : ∀ j, noP j → g1 j = g j) (hp : ∀ m, m < mn → 0 ≤ g1 (kO m 8) ∧ (g1 (kO m 8)).toInt ≤ N1) : gI g1 mn N1 := by
  obtain ⟨h1, h2, h3, h4⟩ := h
  refine ⟨fun q hq => ?_, ?_, ?_, fun k hk => ?_⟩
  · rw [hg _ (noP_lo (by omega)), hg _ (noP_lo (by omega))]; exact h1 q hq
  · rw [hg _ (noP_lo (by decide))]; exact ⟨h2.1, by omega⟩
  · rw [hg _ (noP_lo (by decide))]; exact h3
  · obtain ⟨a1, a2, a3, a4, a5, a6, a7, a8, a9, a10⟩ := h4 k hk
    have n : ∀ c, c < 15 → c ≠ 8 → g1 (kO k c) = g (kO k c) := fun c hc h => hg _ (noP_k h hc)
    unfold kI
    rw [n 0 (by decide) (by decide), n 1 (by decide) (by decide), n 3 (by decide) (by decide), n 4 (by decide) (by decide), n 5 (by decide) (by decide), n 7 (by decide) (by decide), n 9 (by decide) (by decide), n 10 (by decide) (by decide), n 12 (by decide) (by decide), n 13 (by decide) (by decide)]
    exact ⟨a1, a2, a3, a4, a5, a6, a7, hp k hk, a9, a10⟩
/-- a line is no shorter than what lies below its height -/
theorem tHg_b {g : Nat → Int32} {mn N k : Nat} (hI : gI g mn N) : ∀ (q i : Nat) (x : Int32), q + i ≤ 10 → 0 ≤ x.toInt → x.toInt ≤ 99 → ∀ c : Nat, i ≤ c → c ≤ tHg g k q i x → (tBl g k c).toInt - (tBl g k i).toInt ≤ x.toInt
  | 0, i, x, hq, hx, hx9, c, h1, h2 => by
    have : c = i := by unfold tHg at h2; omega
    subst this; omega
  | q + 1, i, x, hq, hx, hx9, c, h1, h2 => by
    by_cases e : c = i
    · subst e; omega
    · unfold tHg at h2
      split at h2
      · next ht =>
        have hb := tTk_b (k := k) hI (i := i) (by omega)
        rw [i_le] at ht
        have ex : (x - tTk g k i).toInt = x.toInt - (tTk g k i).toInt := by rw [Int32.toInt_sub]; exact Int.bmod_eq_of_le (by omega) (by omega)
        have ih := tHg_b hI q (i + 1) (x - tTk g k i) (by omega) (by omega) (by omega) c (by omega) h2
        have hs : (tBl g k (i + 1)).toInt = (tBl g k i).toInt + (tTk g k i).toInt := by
          have := tBl_b (k := k) hI i (by omega)
          show (tBl g k i + tTk g k i).toInt = _
          rw [Int32.toInt_add]; exact Int.bmod_eq_of_le (by omega) (by omega)
        omega
      · omega
theorem tBl_out {g : Nat → Int32} {mn N k c : Nat} (hI : gI g mn N) (hk : k < mn) (hu : tUp g k = true) (hc : c ≤ tHt g k) : 0 ≤ (tBl g k c).toInt ∧ (tBl g k c).toInt ≤ (g (kO k 5)).toInt := by
  have hK := hI.2.2.2 k hk
  have h5 := hK.2.2.2.2.2.1
  have h3 := hK.2.2.2.1
  have e99 : (99 : Int32).toInt = 99 := rfl
  simp only [i_le, i_0, e99] at h5 h3
  have hh := tHt_le g k
  have hb := (tBl_b (k := k) hI c (by omega)).1
  rw [show tHt g k = tHg g k 10 0 (g (kO k 5)) from if_pos hu] at hc
  have := tHg_b hI 10 0 (g (kO k 5)) (by omega) (by omega) (by omega) c (by omega) hc
  rw [show tBl g k 0 = 0 from rfl, i_0] at this
  omega
/-- a cut keeps a row a row -/
theorem gI_cu {g : Nat → Int32} {mn N l c : Nat} {sw : Int32} (hI : gI g mn N) (hl : l < mn) (hu : tUp g l = true) (hc : c < tHt g l) : gI (tCu g l (tBl g l c) (g (kO l 5) - tBl g l c) (nI c) sw) mn N := by
  have hK := hI.2.2.2 l hl
  have hb := tBl_out hI hl hu (c := c) (by omega)
  have hh := tHt_le g l
  have h5 := hK.2.2.2.2.2.1
  have h3 := hK.2.2.2.1
  have e99 : (99 : Int32).toInt = 99 := rfl
  simp only [i_le, i_0, e99] at h5 h3
  have ego : (g (kO l 5) - tBl g l c).toInt = (g (kO l 5)).toInt - (tBl g l c).toInt := by rw [Int32.toInt_sub]; exact Int.bmod_eq_of_le (by omega) (by omega)
  have esp : (g (kO l 3) - (g (kO l 5) - tBl g l c)).toInt = (g (kO l 3)).toInt - ((g (kO l 5)).toInt - (tBl g l c).toInt) := by rw [Int32.toInt_sub, ego]; exact Int.bmod_eq_of_le (by omega) (by omega)
  generalize hgo : g (kO l 5) - tBl g l c = go at ego esp ⊢
  have lo : ∀ j, (j < 21 ∨ j = 25) → tCu g l (tBl g l c) go (nI c) sw j = g j := fun j hj => tCu_lo (by omega) (by omega) (by omega) (by omega)
  have oth : ∀ k d, k ≠ l → d < 15 → tCu g l (tBl g l c) go (nI c) sw (kO k d) = g (kO k d) := by
    intro k d hk hd
    unfold tCu
    have n : ∀ c', c' < 15 → kO k d ≠ kO l c' := fun c' hc' => kO_ne (Or.inl hk) hd hc'
    rw [up_n (n _ (by decide)), up_n (n _ (by decide)), up_n (n _ (by decide)), up_n (n _ (by decide)), up_n (n _ (by decide)), up_n (n _ (by decide)), up_n (n _ (by decide)), up_n (fun z => kO_lo (by decide) z.symm), up_n (fun z => kO_lo (by decide) z.symm), up_n (fun z => kO_lo (by decide) z.symm)]
  refine ⟨fun q hq => ?_, ?_, ?_, fun k hk => ?_⟩
  · rw [lo _ (by omega), lo _ (by omega)]; exact hI.1 q hq
  · rw [lo _ (by omega)]; exact hI.2.1
  · rw [lo _ (by omega)]; exact hI.2.2.1
  · by_cases e : k = l
    · subst e
      obtain ⟨a1, a2, a3, a4, a5, a6, a7, a8, a9, a10⟩ := hK
      have v : ∀ d, d < 15 → tCu g k (tBl g k c) go (nI c) sw (kO k d) = if d = 11 then sw else if d = 10 then nI c else if d = 9 then g 20 else if d = 0 then 2 else if d = 5 then 0 else if d = 13 then g (kO k 13) + go else if d = 3 then g (kO k 3) - go else g (kO k d) := by
        intro d hd
        have q : ∀ c', (kO k d = kO k c') ↔ d = c' := fun c' => by unfold kO; omega
        have q2 : ∀ j, j < 26 → ((kO k d = j) ↔ False) := fun j hj => ⟨fun z => kO_lo hj z.symm, fun z => z.elim⟩
        unfold tCu
        simp only [va_up, q, q2 22 (by decide), q2 23 (by decide), q2 24 (by decide), if_false]
      unfold kI
      rw [v 0 (by decide), v 1 (by decide), v 3 (by decide), v 4 (by decide), v 5 (by decide), v 7 (by decide), v 8 (by decide), v 9 (by decide), v 10 (by decide), v 12 (by decide), v 13 (by decide)]
      have hX : 0 ≤ g (kO k 3) - go ∧ g (kO k 3) - go ≤ 99 := ⟨by rw [i_le, i_0, esp]; omega, by rw [i_le, e99, esp]; omega⟩
      have hY : g (kO k 3) - go = g (kO k 12) - (g (kO k 13) + go) := by rw [a10]; grind
      exact ⟨a1, Or.inr (Or.inr rfl), a3, hX, a5, ⟨Int32.le_refl 0, hX.1⟩, fun _ => rfl, a8, fun _ => ⟨hI.2.1.1, nI_pos' (by omega), nI_le (b := 9) (by omega) (by decide)⟩, hY⟩
    · exact kI_ag (fun d hd => oth k d e (by simp only [List.mem_cons, List.not_mem_nil, or_false] at hd; omega)) (hI.2.2.2 k hk)
