/-! PURE, 19: what is done by hand keeps a row a row -/
set_option maxRecDepth 100000
theorem gI.one {g : Nat → Int32} {mn N k c : Nat} {x : Int32} (h : gI g mn N) (hc : c < 15) (hk : k < mn → kI (va_up g (kO k c) x) k N) : gI (va_up g (kO k c) x) mn N := h.kup (k := k) (fun j hj => up_n (kO_lo hj)) (fun j hj => kv_ne hj hc) hk
theorem one_v {g : Nat → Int32} {k c : Nat} {x : Int32} (d : Nat) : va_up g (kO k c) x (kO k d) = if d = c then x else g (kO k d) := by
  have q : (kO k d = kO k c) ↔ d = c := by unfold kO; omega
  simp only [va_up, q]
theorem gI_wd {g : Nat → Int32} {mn N x : Nat} {s d : Int32} (h : gI g mn N) (hx : x ≤ 9) (hs : 0 ≤ s ∧ s ≤ 9) (hd : -3 ≤ d ∧ d ≤ 3) : gI (va_up (va_up g (2 * x) s) (2 * x + 1) d) mn N := by
  obtain ⟨h1, h2, h3, h4⟩ := h
  refine ⟨fun q hq => ?_, ?_, ?_, fun k hk => kI_ag (fun c _ => ?_) (h4 k hk)⟩
  · by_cases e : q = x
    · subst e
      rw [up_n (by omega), up_s, up_s]
      exact ⟨hs, hd⟩
    · rw [up_n (by omega), up_n (by omega), up_n (by omega), up_n (by omega)]
      exact h1 q hq
  · rw [up_n (by omega), up_n (by omega)]; exact h2
  · rw [up_n (by omega), up_n (by omega)]; exact h3
  · rw [up_n (by unfold kO; omega), up_n (by unfold kO; omega)]
theorem gI_sp {g : Nat → Int32} {mn N k : Nat} {y : Int32} (h : gI g mn N) (hk : k < mn) (hy : -9 ≤ y ∧ y ≤ 9) : gI (va_up g (kO k 7) y) mn N := by
  refine h.one (by decide) (fun _ => ?_)
  obtain ⟨a1, a2, a3, a4, a5, a6, a7, a8, a9, a10⟩ := h.2.2.2 k hk
  unfold kI
  simp only [one_v, Nat.reduceEqDiff, reduceIte]
  exact ⟨a1, a2, a3, a4, hy, a6, a7, a8, a9, a10⟩
theorem gI_st0 {g : Nat → Int32} {mn N k : Nat} (h : gI g mn N) (hk : k < mn) (h5 : g (kO k 5) = 0) : gI (va_up g (kO k 0) 0) mn N := by
  refine h.one (by decide) (fun _ => ?_)
  obtain ⟨a1, a2, a3, a4, a5, a6, a7, a8, a9, a10⟩ := h.2.2.2 k hk
  unfold kI
  simp only [one_v, Nat.reduceEqDiff, reduceIte]
  exact ⟨a1, Or.inl trivial, a3, a4, a5, a6, fun _ => h5, a8, fun z => absurd z (by decide), a10⟩
theorem gI_ty {g : Nat → Int32} {mn N k : Nat} (h : gI g mn N) (hk : k < mn) (h0 : g (kO k 0) = 2) : gI (va_up g (kO k 0) 0) mn N := gI_st0 h hk ((h.2.2.2 k hk).2.2.2.2.2.2.1 (by rw [h0]; decide))
theorem gI_o {g : Nat → Int32} {mn N k : Nat} {x : Int32} (h : gI g mn N) (hk : k < mn) (hx : 0 ≤ x ∧ x ≤ g (kO k 3)) (h0 : g (kO k 0) = 1 ∨ x = 0) : gI (va_up g (kO k 5) x) mn N := by
  refine h.one (by decide) (fun _ => ?_)
  obtain ⟨a1, a2, a3, a4, a5, a6, a7, a8, a9, a10⟩ := h.2.2.2 k hk
  unfold kI
  simp only [one_v, Nat.reduceEqDiff, reduceIte]
  exact ⟨a1, a2, a3, a4, a5, hx, fun z => h0.elim (fun e => absurd e z) id, a8, a9, a10⟩
theorem gI_rl {g : Nat → Int32} {mn N k : Nat} {y : Int32} (h : gI g mn N) (hk : k < mn) (hu : tUp g k = true) (h1 : g (kO k 5) + y ≤ g (kO k 3)) (h2 : 0 ≤ g (kO k 5) + y) : gI (tLt g k y) mn N := by
  have hh := gI_o (x := g (kO k 5) + y) h hk ⟨h2, h1⟩ (Or.inl (of_decide_eq_true hu))
  unfold tLt
  split
  · exact hh.lo (fun j hj => up_n (by omega))
  · exact hh.lo (fun j hj => up_n (by omega))
theorem gI_ld {g : Nat → Int32} {mn N k : Nat} (h : gI g mn N) (hk : k < mn) (hu : tUp g k = true) : gI (tLd g k) mn N := by
  have hK := h.2.2.2 k hk
  have e : g (kO k 5) + -g (kO k 5) = 0 := by grind
  have hr := gI_rl (y := -g (kO k 5)) h hk hu (by rw [e]; exact hK.2.2.2.1.1) (by rw [e]; exact Int32.le_refl 0)
  refine gI_st0 hr hk ?_
  unfold tLt
  split
  · rw [up_n (fun z => kO_lo (by decide) z.symm), up_s, e]
  · rw [up_n (fun z => kO_lo (by decide) z.symm), up_s, e]
theorem gI_ln {g : Nat → Int32} {mn N k : Nat} (h : gI g mn N) (hk : k < mn) : gI (tLn g k) mn N := by
  have hK := h.2.2.2 k hk
  have v : ∀ d, tLn g k (kO k d) = if d = 6 then 0 else if d = 5 then 0 else if d = 0 then 1 else g (kO k d) := fun d => by unfold tLn; rw [one_v, one_v, one_v]
  refine h.kup (k := k) (fun j hj => tLn_lo hj) (fun j hj => tLn_ne hj) (fun _ => ?_)
  obtain ⟨a1, a2, a3, a4, a5, a6, a7, a8, a9, a10⟩ := hK
  unfold kI
  simp only [v, Nat.reduceEqDiff, reduceIte]
  exact ⟨a1, Or.inr (Or.inl trivial), a3, a4, a5, ⟨Int32.le_refl 0, a4.1⟩, fun _ => trivial, a8, fun z => absurd z (by decide), a10⟩
theorem gI_Rn {g : Nat → Int32} {mn N : Nat} (h : gI g mn N) : ∀ n, N + 71 * n < 2 ^ 31 → gI (tRn g mn n) mn (N + 71 * n)
  | 0, _ => h
  | n + 1, hn => by
    have ih := gI_Rn h n (by omega)
    exact (gI_Rx ih (by omega)).up (by omega)
theorem gI_nk {g : Nat → Int32} {mn N z : Nat} {x2 x3 x4 : Int32} (h : gI g mn N) (hm : mn < 6) (hz : z < 3) (h3 : 10 ≤ x3 ∧ x3 ≤ 99) (h4 : 0 ≤ x4 ∧ x4 ≤ 9) : gI (tNk g mn (nI z) x2 x3 x4) (mn + 1) N := by
  have v : ∀ c, c < 15 → tNk g mn (nI z) x2 x3 x4 (kO mn c) = kBg z x2 x3 x4 c := fun c hc => by
    have := congrFun (tNk_new (g := g) (k := mn) (z := z) (x2 := x2) (x3 := x3) (x4 := x4)) c
    rw [kv_at hc] at this
    exact this.symm
  obtain ⟨h1, h2, -, h5⟩ := h
  have h30 : 0 ≤ x3 := Int32.le_trans (by decide) h3.1
  refine ⟨fun q hq => ?_, ?_, ⟨tNk_25, by omega⟩, fun k hk => ?_⟩
  · rw [tNk_lo (by omega), tNk_lo (by omega)]; exact h1 q hq
  · rw [tNk_lo (by omega)]; exact h2
  · by_cases e : k = mn
    · subst e
      unfold kI
      rw [v 0 (by decide), v 1 (by decide), v 3 (by decide), v 4 (by decide), v 5 (by decide), v 7 (by decide), v 8 (by decide), v 9 (by decide), v 10 (by decide), v 12 (by decide), v 13 (by decide)]
      refine ⟨?_, Or.inl rfl, h4, ⟨h30, h3.2⟩, (by decide : (-9 : Int32) ≤ 0 ∧ (0 : Int32) ≤ 9), ⟨Int32.le_refl 0, h30⟩, fun _ => rfl, ⟨Int32.le_refl 0, Int.natCast_nonneg N⟩, fun z => absurd (show (0 : Int32) = 2 from z) (by decide), ?_⟩
      · have : z = 0 ∨ z = 1 ∨ z = 2 := by omega
        rcases this with rfl | rfl | rfl
        · exact Or.inl rfl
        · exact Or.inr (Or.inl rfl)
        · exact Or.inr (Or.inr rfl)
      · show x3 = x3 - 0
        grind
    · exact kI_congr (tNk_old e) (h5 k (by omega))
