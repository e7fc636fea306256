/-! LAW, 3: what the calls leave; a call under handlers -/
set_option maxRecDepth 100000
theorem bt {b : Bool} (h : ¬ b = true) : b = false := by cases b <;> first | rfl | exact absurd rfl h
theorem qWind_gI {g : Nat → Int32} {mn N : Nat} {x s d : Int32} (h : gI g mn N) (h0 : (qWind g x s d).1 = 0) : gI (qWind g x s d).2.2.2 mn N := by
  by_cases h1 : tin x 0 9 = true
  · by_cases h2 : (tin s 0 9 && tin d (-3) 3) = true
    · obtain ⟨k, hk, rfl⟩ := tin_N (n := 9) (by decide) h1
      rw [qWind_ok h1 h2 (nI_clamp (by omega))]
      obtain ⟨h3, h4⟩ := Bool.and_eq_true_iff.mp h2
      exact gI_wd h hk (tin_b h3) (tin_b h4)
    · rw [qWind_2 h1 (bt h2)] at h0; exact absurd h0 (by decide)
  · rw [qWind_1 (bt h1)] at h0; exact absurd h0 (by decide)
theorem qKite_gI {g : Nat → Int32} {mn N : Nat} {x1 x2 x3 x4 : Int32} (h : gI g mn N) (h0 : (qKite g mn x1 x2 x3 x4).1 = 0) : gI (qKite g mn x1 x2 x3 x4).2.2.2 (mn + 1) N := by
  by_cases h1 : (tin x1 0 2 && (tin x2 0 40 && (tin x3 10 99 && tin x4 0 9))) = true
  · by_cases h2 : mn = 6
    · rw [qKite_2 h1 h2] at h0; simp at h0
    · rw [qKite_ok h1 h2]
      simp only [Bool.and_eq_true] at h1
      obtain ⟨k, hk, e⟩ := tin_N (n := 2) (by decide) h1.1
      rw [e]
      exact gI_nk h (by have := h.2.2.1.2; omega) (by omega) (tin_b h1.2.2.1) (tin_b h1.2.2.2)
  · rw [qKite_1 (bt h1)] at h0; exact absurd h0 (by decide)
theorem qLnch_gI {g : Nat → Int32} {mn N : Nat} {x : Int32} (h : gI g mn N) (h0 : (qLnch g mn x).1 = 0) : gI (qLnch g mn x).2.2.2 mn N := by
  by_cases h1 : tKt g x = true
  · obtain ⟨k, hk, rfl⟩ := tKt_of h.2.2.1.1 h.2.2.1.2 h1
    have h6 := h.2.2.1.2
    have hq := qLnch_r (mn := mn) h1 (nI_clamp (by omega))
    by_cases h2 : rsL g k ≤ 0
    · rw [hq.2 h2]
      exact gI_ln h hk
    · rw [(hq.1 (Int32.not_le.mp h2)).1] at h0; exact absurd h0 (by decide)
  · rw [qLnch_1 (bt h1)] at h0; exact absurd h0 (by decide)
theorem qReel_gI {g : Nat → Int32} {mn N : Nat} {x y : Int32} (h : gI g mn N) (h0 : (qReel g x y).1 = 0) : gI (qReel g x y).2.2.2 mn N := by
  by_cases h1 : tKt g x = true
  · by_cases h2 : tin y (-20) 20 = true
    · obtain ⟨k, hk, rfl⟩ := tKt_of h.2.2.1.1 h.2.2.1.2 h1
      have h6 := h.2.2.1.2
      have hq := qReel_r h1 h2 (nI_clamp (by omega))
      by_cases h3 : rsR g k y ≤ 0
      · obtain ⟨⟨hu, hx1, hx2⟩, e⟩ := hq.2 h3
        rw [e]
        exact gI_rl h hk hu hx1 hx2
      · rw [(hq.1 (Int32.not_le.mp h3)).1] at h0; exact absurd h0 (by decide)
    · rw [qReel_2 h1 (bt h2)] at h0; exact absurd h0 (by decide)
  · rw [qReel_1 (bt h1)] at h0; exact absurd h0 (by decide)
theorem qSpeed_gI {g : Nat → Int32} {mn N : Nat} {x y : Int32} (h : gI g mn N) (h0 : (qSpeed g x y).1 = 0) : gI (qSpeed g x y).2.2.2 mn N := by
  by_cases h1 : tKt g x = true
  · by_cases h2 : tin y (-9) 9 = true
    · obtain ⟨k, hk, rfl⟩ := tKt_of h.2.2.1.1 h.2.2.1.2 h1
      have h6 := h.2.2.1.2
      rw [qSpeed_ok h1 h2 (nI_clamp (by omega))]
      exact gI_sp h hk (tin_b h2)
    · rw [qSpeed_2 h1 (bt h2)] at h0; exact absurd h0 (by decide)
  · rw [qSpeed_1 (bt h1)] at h0; exact absurd h0 (by decide)
theorem qLand_gI {g : Nat → Int32} {mn N : Nat} {x : Int32} (h : gI g mn N) (h0 : (qLand g x).1 = 0) : gI (qLand g x).2.2.2 mn N := by
  by_cases h1 : tKt g x = true
  · obtain ⟨k, hk, rfl⟩ := tKt_of h.2.2.1.1 h.2.2.1.2 h1
    have h6 := h.2.2.1.2
    by_cases h2 : decide (kv g k 0 = 1) = true
    · rw [qLand_ok h1 (nI_clamp (by omega)) h2]
      exact gI_ld h hk h2
    · rw [(qLand_n h1 (nI_clamp (by omega)) (bt h2)).1] at h0; exact absurd h0 (by decide)
  · rw [qLand_1 (bt h1)] at h0; exact absurd h0 (by decide)
theorem qTie_gI {g : Nat → Int32} {mn N : Nat} {x : Int32} (h : gI g mn N) (h0 : (qTie g x).1 = 0) : gI (qTie g x).2.2.2 mn N := by
  by_cases h1 : tKt g x = true
  · obtain ⟨k, hk, rfl⟩ := tKt_of h.2.2.1.1 h.2.2.1.2 h1
    have h6 := h.2.2.1.2
    have hq := qTie_r h1 (nI_clamp (by omega))
    by_cases h2 : rsT g k ≤ 0
    · rw [hq.2 h2]
      refine gI_ty h hk ?_
      by_cases e : g (kO k 0) = 2
      · exact e
      · exfalso
        revert h2
        rw [rsT, if_neg e]
        decide
    · rw [(hq.1 (Int32.not_le.mp h2)).1] at h0; exact absurd h0 (by decide)
  · rw [qTie_1 (bt h1)] at h0; exact absurd h0 (by decide)
theorem qRound_gI {g : Nat → Int32} {mn N : Nat} {x : Int32} (h : gI g mn N) (hN : N + 71 * 31 < 2 ^ 31) (h0 : (qRound g mn x).1 = 0) : gI (qRound g mn x).2.2.2 mn (N + 2130) := by
  by_cases h1 : tin x 1 30 = true
  · obtain ⟨k, hk, rfl⟩ := tin_1N (n := 30) (by decide) h1
    rw [qRound_ok h1 (nI_clamp (by omega))]
    exact gI_mono (gI_Rn h k (by omega)) (by omega)
  · rw [qRound_1 (bt h1)] at h0; exact absurd h0 (by decide)
theorem qWind_z {g : Nat → Int32} {x s d : Int32} : (qWind g x s d).2.1 = 0 := by
  unfold qWind
  repeat' split
  all_goals rfl
theorem qSpeed_z {g : Nat → Int32} {x y : Int32} : (qSpeed g x y).2.1 = 0 := by
  unfold qSpeed
  repeat' split
  all_goals rfl
theorem qRound_z {g : Nat → Int32} {mn : Nat} {x : Int32} : (qRound g mn x).2.1 = 0 := by
  unfold qRound
  repeat' split
  all_goals rfl
theorem qKite_z {g : Nat → Int32} {mn : Nat} {x1 x2 x3 x4 : Int32} (h : (qKite g mn x1 x2 x3 x4).1 = 1) : (qKite g mn x1 x2 x3 x4).2.1 = 0 := by
  revert h
  unfold qKite
  repeat' split
  all_goals first | exact fun _ => rfl | exact fun h => by simp at h
theorem qLnch_z {g : Nat → Int32} {mn : Nat} {x : Int32} (h : (qLnch g mn x).1 = 1) : (qLnch g mn x).2.1 = 0 := by
  revert h
  unfold qLnch
  repeat' split
  all_goals first | exact fun _ => rfl | exact fun h => by simp at h
theorem qLand_z {g : Nat → Int32} {x : Int32} (h : (qLand g x).1 = 1) : (qLand g x).2.1 = 0 := by
  revert h
  unfold qLand
  repeat' split
  all_goals first | exact fun _ => rfl | exact fun h => by simp at h
theorem qTie_z {g : Nat → Int32} {x : Int32} (h : (qTie g x).1 = 1) : (qTie g x).2.1 = 0 := by
  revert h
  unfold qTie
  repeat' split
  all_goals first | exact fun _ => rfl | exact fun h => by simp at h
theorem qReel_z {g : Nat → Int32} {x y : Int32} (h : (qReel g x y).1 = 1 ∨ (qReel g x y).1 = 2) : (qReel g x y).2.1 = 0 := by
  revert h
  unfold qReel
  repeat' split
  all_goals first | exact fun _ => rfl | exact fun h => by simp at h
def pW (τ : Nat × Nat) : Prop := (1 ≤ τ.1 ∧ τ.1 ≤ 98) ∨ τ.1 = 100
def pWd (τ : Nat × Nat) : Prop := (1 ≤ τ.1 ∧ τ.1 ≤ 98) ∨ τ.1 = 101
section KXV
variable {p : Program} {l : Launch} {e : Env} {R : Room} {s : State} {m : MethodId} {args : Array Value} {below : List Frame} {meth : Method} {c : Code} {H : Heap} {locs : List Loc} {cells slots : Nat} {Q : State → Prop}
variable {cc : ByteArray} {pc : Nat} {ls : Array Slot} {rest st0 : List Value} {a : Nat} {E : gE} {w : wd} {τ : Nat × Nat}
theorem kx_cVG {ρ : Type} {mk : ρ → Option Value} {post : ρ → wd → Prop} {py : String → Nat → wd → Prop} {own C : String} {T : u_T} {N ci index n nL mc ms maxL : Nat} {y : MethodName} {ws : List Cond} {rm : Room} {bytes : ByteArray} {ret : Option FieldType} {As : List Value} {fs : List Value} (hx : p.tables.exec = Jvm.exec) (hb : c.code = cc) (hml : c.maxLocals = nL) (hown : s.vm.findClass own = some m.cls) (hts : ∀ w ∈ lw_all, w.before args s = true)
    (hMt : kX l y ws rm mc ms mk E w (.ref a :: As) post py) (cw : CallW R s args own C index y bytes maxL ret ws rm mc ms n) (hG : gK E s) (hP : wP E w H) (hS : va_S (gA E) s.heap H locs) (hrv : w a = some (τ, .inr (ci, fs))) (hc : gCl[ci]? = some (C, T, N)) (hn : As.length = n) (hsize : ls.size = nL) (hst : st0 = As.reverse ++ .ref a :: rest) (hW : 2 * (F0 m pc ls st0).monitorRoom + (rest.map fun v => v.category).sum ≤ 8) (hdg : decode cc pc = .ok (.invokevirtual index, 3)) (hf : cells + mc ≤ R.cells ∧ slots + ms ≤ R.slots)
    (kx : ∀ (X : String) (ce : Cell) (q : Nat) (w' : wd) (H1 : Heap) (locs1 : List Loc), py X q w' → wP E w' H1 → va_S (gA E) s.heap H1 locs1 → H1[q]? = some ce → ce.vm = .none → s.vm.findClass X = some ce.cls → vx_W p l e R s m args below meth c H1 locs1 (cells + mc) (slots + ms) Q (F0 m pc ls rest) q)
    (kk : ∀ (r : ρ) (w' : wd) (H1 : Heap) (locs1 : List Loc), post r w' → wP E w' H1 → va_S (gA E) s.heap H1 locs1 → W p l e R s m args below meth c H1 locs1 (cells + mc) (slots + ms) Q (F0 m (pc + 3) ls ((mk r).toList ++ rest))) : W p l e R s m args below meth c H locs cells slots Q (F0 m pc ls st0) :=
  kx_callG (vx_runV (g := F0 m pc ls st0) ⟨hx, hb, hml, hown, hts⟩ hMt cw (k_preV hG hP hS hrv hc) rfl hn hsize hst hW hdg hf) hS kx kk
end KXV
