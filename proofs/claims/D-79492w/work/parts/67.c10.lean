/-! THE COMPONENT, 13: a kite more -/
set_option maxRecDepth 100000
abbrev rmCX4_of : Room := { frames := 0, cells := 0, slots := 0, locals := 0 }
theorem dyX4_of : yX4_of.cls ≠ "java/lang/invoke/MethodHandle" ∧ yX4_of.cls ≠ "java/lang/invoke/VarHandle" ∧ (parseMethodDescriptor yX4_of.desc).map (fun d => d.parameters.length) = some 1 := by decide +kernel
set_option maxHeartbeats 4000000 in
theorem CX4_of (l0 : Launch) (E : gE) (w : wd) (x : Int32) (hx3 : x = 0 ∨ x = 1 ∨ x = 2) : kC l0 yX4_of (ws_ yX4_of cX4_of 1 (some (.object "KiteRoofs$Make"))) rmCX4_of 0 0 mR E w [.int x] (fun r w' => w' = w ∧ r = (eM E x.toNatClampNeg)) := by
  refine k_open (cc := cX4_of) (maxL := 1) (ret := (some (.object "KiteRoofs$Make"))) (by decide) rfl (Nat.le_of_ble_eq_true rfl) ?_
  intro p e s m args below meth c ls Q hx hb hr hml hown hts hlocks hname hQ hG hP hl hS
  have hl : lv_has ls 1 [(0, .int x)] := hl
  refine lv_iload_n hx hb dX4_of_0 rfl (lv_at hl 0 rfl) ?_
  by_cases c1_0 : x = 0
  · skip
    refine lv_lookup (tgt := 28) hx hb dX4_of_1 (by decide) (off := 27) (by rw [c1_0]; decide) (by decide) ?_
    refine k_getM (z := 0) hx hb hown (by decide) hG hS (hts _ q636) (fun _ h9 => h9) dX4_of_28 ?_
    exact k_aret hx hb hr (Or.inl ⟨_, rfl⟩) hlocks hQ hP hS (by omega) (by omega) dX4_of_31 (⟨rfl, by rw [c1_0]; rfl⟩)
  by_cases c1_1 : x = 1
  · skip
    refine lv_lookup (tgt := 32) hx hb dX4_of_1 (by decide) (off := 31) (by rw [c1_1]; decide) (by decide) ?_
    refine k_getM (z := 1) hx hb hown (by decide) hG hS (hts _ q637) (fun _ h9 => h9) dX4_of_32 ?_
    exact k_aret hx hb hr (Or.inl ⟨_, rfl⟩) hlocks hQ hP hS (by omega) (by omega) dX4_of_35 (⟨rfl, by rw [c1_1]; rfl⟩)
  refine lv_lookup (tgt := 36) hx hb dX4_of_1 (by decide) (off := 35) (by refine (lv_osw c1_0 rfl).trans ?_; refine (lv_osw c1_1 rfl).trans ?_; rfl) (by decide) ?_
  refine k_getM (z := 2) hx hb hown (by decide) hG hS (hts _ q639) (fun _ h9 => h9) dX4_of_36 ?_
  exact k_aret hx hb hr (Or.inl ⟨_, rfl⟩) hlocks hQ hP hS (by omega) (by omega) dX4_of_39 (⟨rfl, by rcases hx3 with h | h | h; exact absurd h c1_0; exact absurd h c1_1; rw [h]; rfl⟩)

abbrev rmCX2_add : Room := { frames := 3, cells := 1, slots := 0, locals := 76 }
theorem dyX2_add : yX2_add.cls = RX2 ∧ yX2_add.cls ≠ "java/lang/invoke/MethodHandle" ∧ yX2_add.cls ≠ "java/lang/invoke/VarHandle" ∧ (parseMethodDescriptor yX2_add.desc).map (fun d => d.parameters.length) = some 4 := by decide +kernel
set_option maxHeartbeats 4000000 in
theorem CX2_add (l0 : Launch) (E : gE) (w : wd) (i : Nat) (A : Nat → Nat) (g : Nat → Int32) (mn : Nat) (wn : Nat → Int32) (ly : Nat → Int32) (z : Nat) (x2 : Int32) (x3 : Int32) (x4 : Int32) (hi0 : i ≠ 0) (hi3 : i < 93) (hz : z < 3) (hm6 : mn < 6) (hM : townR E w i A g mn wn ly) : kC l0 yX2_add (ws_ yX2_add cX2_add 5 (some .int)) rmCX2_add 1 0 mI E w [.ref (A 0), .ref (eM E z), .int x2, .int x3, .int x4] (fun r w' => (r = (nI mn)) ∧ (townR E w' i A (tNk g mn (nI z) x2 x3 x4) (mn + 1) wn ly ∧ True) ∧ fr (pT i) w w') := by
  refine k_open (cc := cX2_add) (maxL := 5) (ret := (some .int)) (by decide) rfl (Nat.le_of_ble_eq_true rfl) ?_
  intro p e s m args below meth c ls Q hx hb hr hml hown hts hlocks hname hQ hG hP hl hS
  have hl : lv_has ls 5 [(0, .ref (A 0)), (1, .ref (eM E z)), (2, .int x2), (3, .int x3), (4, .int x4)] := hl
  obtain ⟨w0, hw0⟩ : ∃ z, z = w := ⟨_, rfl⟩
  have hF : fr (pT i) w0 w := by rw [hw0]; exact fr.rf
  rw [← hw0] at hQ
  obtain ⟨hT, ⟨fs9, hS1, hs1⟩, ⟨fd9, hS2, hs2⟩, ⟨fk9, hS3, hs3⟩, hS4, hS5, ⟨hm, hmn⟩, hK⟩ := id hM
  refine lv_aload_n hx hb dX2_add_0 rfl (lv_at hl 0 rfl) ?_
  refine k_get hx hb hts in_X2 hown hG hP hT rfl 2 (by decide) (hts _ q184) (fun _ h9 => h9) (v := .ref (A 3)) rfl dX2_add_1 ?_
  refine lv_aload_n hx hb dX2_add_4 rfl (lv_at hl 0 rfl) ?_
  refine k_get hx hb hts in_X2 hown hG hP hT rfl 3 (by decide) (hts _ q186) (fun _ h9 => h9) (v := .int (nI mn)) rfl dX2_add_5 ?_
  refine k_aald hx hb hG hP (j := mn) 4 hS3 rfl (by omega) (show mn < 6 from by omega) dX2_add_8 ?_
  rw [hs3 mn (by omega)]
  refine lv_aload_n hx hb dX2_add_9 rfl (lv_at hl 1 rfl) ?_
  refine lv_iload_n hx hb dX2_add_10 rfl (lv_at hl 2 rfl) ?_
  refine lv_iload_n hx hb dX2_add_11 rfl (lv_at hl 3 rfl) ?_
  refine lv_iload hx hb dX2_add_12 (lv_at hl 4 rfl) ?_
  obtain ⟨v8, t8, -, hkz8, -⟩ := hK mn (by omega)
  refine k_cV hx hb hml hown hts (CX3_begins l0 E w i mn (A (6 + mn)) z x2 x3 x4 t8 (eM E (v8 1).toNatClampNeg) (v8 2) (v8 3) (v8 12) (v8 4) (v8 7) (v8 8) (by omega) hkz8) (cwV 4 hts (lw_V q645 q646 q647 q71 q648) rfl rfl rfl dyX3_begins ⟨Nat.le_of_ble_eq_true rfl, Nat.le_of_ble_eq_true rfl⟩) hG hP hS hkz8 rfl (As := [.ref (eM E z), .int x2, .int x3, .int x4]) (rest := []) rfl hl.1 rfl (lv_room (Nat.le_of_ble_eq_true rfl)) dX2_add_14 ⟨show 0 + 1 ≤ 1 from by omega, show 0 + 0 ≤ 0 from by omega⟩ (fun r14 w1 H locs hp hP hS => ?_)
  obtain ⟨t9_1, hp0, ⟨hkz8', hn2', -⟩, hf9⟩ := hp
  have hM : townR E w1 i A g mn wn ly := hM.kup hi0 (k := mn) (v := (kBg z x2 x3 x4)) (by omega) hf9 ⟨hkz8', hn2'⟩ (fun h9 => absurd h9 (Nat.lt_irrefl _)) (fun _ _ => rfl) (fun _ _ _ => rfl)
  have hF : fr (pT i) w0 w1 := hF.tr (fr_KT hf9)
  obtain ⟨hT, ⟨fs9, hS1, hs1⟩, ⟨fd9, hS2, hs2⟩, ⟨fk9, hS3, hs3⟩, hS4, hS5, ⟨hm, hmn⟩, hK⟩ := id hM
  have hkn : w1 (A (6 + mn)) = some ((i, 6 + mn), .inr (3, [.ref (eM E ((kBg z x2 x3 x4) 1).toNatClampNeg), .int ((kBg z x2 x3 x4) 2), .int ((kBg z x2 x3 x4) 3), .int ((kBg z x2 x3 x4) 12), .int ((kBg z x2 x3 x4) 4), .int ((kBg z x2 x3 x4) 7), .int ((kBg z x2 x3 x4) 8), .ref t9_1])) := hkz8'
  have hsn : stR w1 i mn (kBg z x2 x3 x4) t9_1 := hn2'
  show W p l0 e rmCX2_add s m args below meth c H locs (0 + 1) 0 Q (F0 m 17 ls [])
  refine lv_aload_n hx hb dX2_add_17 rfl (lv_at hl 0 rfl) ?_
  refine lv_dup hx hb dX2_add_18 rfl ?_
  refine k_get hx hb hts in_X2 hown hG hP hT rfl 3 (by decide) (hts _ q186) (fun _ h9 => h9) (v := .int (nI mn)) rfl dX2_add_19 ?_
  refine lv_iconst (v := 1) hx hb dX2_add_22 (by decide) ?_
  refine k_iaddN (x := mn) (y := 1) hx hb dX2_add_23 ?_
  refine k_putW hx hb hts in_X2 tyX2 tyX2_ok nmX2 hown hG hP hS hT rfl 3 (by decide) (hts _ q186) (fun _ h9 => h9) rfl (ty := .int) (v := .int (nI (mn + 1))) rfl rfl rfl (Nat.le_of_ble_eq_true rfl) dX2_add_24 (fun w2 H locs h9 hf9 hP hS => ?_)
  have hkn : w2 (A (6 + mn)) = some ((i, 6 + mn), .inr (3, [.ref (eM E ((kBg z x2 x3 x4) 1).toNatClampNeg), .int ((kBg z x2 x3 x4) 2), .int ((kBg z x2 x3 x4) 3), .int ((kBg z x2 x3 x4) 12), .int ((kBg z x2 x3 x4) 4), .int ((kBg z x2 x3 x4) 7), .int ((kBg z x2 x3 x4) 8), .ref t9_1])) := hf9 _ _ _ hkn (by intro z9; simp only [pO, pN, pK, pT, Prod.mk.injEq] at z9 <;> omega)
  have hsn : stR w2 i mn (kBg z x2 x3 x4) t9_1 := hsn.fr hf9 (by intro z9; simp only [pO, pN, pK, pT, Prod.mk.injEq] at z9 <;> omega) (by intro z9; simp only [pO, pN, pK, pT, Prod.mk.injEq] at z9 <;> omega)
  have hM : townR E w2 i A (tNk g mn (nI z) x2 x3 x4) (mn + 1) wn ly := hM.add hi0 hm6 hf9 h9 hkn hsn tNk_new (fun j hj => tNk_lo hj) tNk_25 (fun j hj => tNk_old (by omega))
  have hF : fr (pT i) w0 w2 := hF.tr (fr_OT hf9)
  obtain ⟨hT, ⟨fs9, hS1, hs1⟩, ⟨fd9, hS2, hs2⟩, ⟨fk9, hS3, hs3⟩, hS4, hS5, ⟨hm, hmn⟩, hK⟩ := id hM
  refine lv_aload_n hx hb dX2_add_27 rfl (lv_at hl 0 rfl) ?_
  refine k_get hx hb hts in_X2 hown hG hP hT rfl 3 (by decide) (hts _ q186) (fun _ h9 => h9) (v := .int (nI (mn + 1))) rfl dX2_add_28 ?_
  refine lv_iconst (v := 1) hx hb dX2_add_31 (by decide) ?_
  refine k_isubN (x := mn + 1) (y := 1) hx hb (by omega) dX2_add_32 ?_
  exact k_iret hx hb hr hlocks hQ hP hS (by omega) (by omega) dX2_add_33 (⟨rfl, ⟨hM, trivial⟩, hF⟩)

abbrev rmCX3_init : Room := { frames := 2, cells := 1, slots := 0, locals := 52 }
theorem dyX3_init : yX3_init.cls = RX3 ∧ yX3_init.cls ≠ "java/lang/invoke/MethodHandle" ∧ yX3_init.cls ≠ "java/lang/invoke/VarHandle" ∧ (parseMethodDescriptor yX3_init.desc).map (fun d => d.parameters.length) = some 0 := by decide +kernel
set_option maxHeartbeats 4000000 in
theorem CX3_init (l0 : Launch) (E : gE) (w : wd) (i : Nat) (k : Nat) (y : Nat) (hi0 : i ≠ 0) (hk : w y = some ((i, 6 + k), .inr (3, [.null, .int 0, .int 0, .int 0, .int 0, .int 0, .int 0, .null]))) : kC l0 yX3_init (ws_ yX3_init cX3_init 1 none) rmCX3_init 1 0 mV E w [.ref y] (fun r w' => ∃ t9 : Nat, (True) ∧ (w' y = some ((i, 6 + k), .inr (3, [.ref (eM E (v0K 1).toNatClampNeg), .int (v0K 2), .int (v0K 3), .int (v0K 12), .int (v0K 4), .int (v0K 7), .int (v0K 8), .ref t9])) ∧ stR w' i k v0K t9 ∧ True) ∧ fr (pK i k) w w') := by
  refine k_open (cc := cX3_init) (maxL := 1) (ret := none) (by decide) rfl (Nat.le_of_ble_eq_true rfl) ?_
  intro p e s m args below meth c ls Q hx hb hr hml hown hts hlocks hname hQ hG hP hl hS
  have hl : lv_has ls 1 [(0, .ref y)] := hl
  obtain ⟨w0, hw0⟩ : ∃ z, z = w := ⟨_, rfl⟩
  have hF : fr (pK i k) w0 w := by rw [hw0]; exact fr.rf
  rw [← hw0] at hQ
  refine lv_aload_n hx hb dX3_init_0 rfl (lv_at hl 0 rfl) ?_
  refine W.objInit hx hb hown (hts _ q129) (hts _ q115) (hts _ q116) rfl (by rw [hml]; exact hl.1) rfl dX3_init_1 (Nat.le_of_ble_eq_true rfl) (Nat.le_of_ble_eq_true rfl) ?_
  refine W.eq (g2 := F0 m 4 ls []) rfl ?_
  refine lv_aload_n hx hb dX3_init_4 rfl (lv_at hl 0 rfl) ?_
  refine k_getM (z := 0) hx hb hown (by decide) hG hS (hts _ q130) (fun _ h9 => h9) dX3_init_5 ?_
  refine k_putW hx hb hts in_X3 tyX3 tyX3_ok nmX3 hown hG hP hS hk rfl 0 (by decide) (hts _ q140) (fun _ h9 => h9) rfl (ty := (.object "KiteRoofs$Make")) (v := .ref (eM E 0)) rfl rfl rfl (Nat.le_of_ble_eq_true rfl) dX3_init_8 (fun w1 H locs h9 hf9 hP hS => ?_)
  have hk : w1 y = some ((i, 6 + k), .inr (3, [.ref (eM E 0), .int 0, .int 0, .int 0, .int 0, .int 0, .int 0, .null])) := h9
  have hF : fr (pK i k) w0 w1 := hF.tr (hf9.up (fun t9 h9 => by simp only [pO, pN, pK, pT] at h9 ⊢; first | exact h9 | (subst h9; simp) | (rcases h9 with h9 | h9 <;> subst h9 <;> simp)))
  refine lv_aload_n hx hb dX3_init_11 rfl (lv_at hl 0 rfl) ?_
  refine k_newW hx hb (0, 0) hts in_X5 tyX5 tyX5_ok hown (hts _ q132) (hts _ q133) (hts _ q74) hG hP hS (ci := 4) rfl (fs := []) (by decide) (show 0 + 1 ≤ 1 from by omega) (show 0 + 0 ≤ 0 from by omega) dX3_init_12 (fun q12 w2 H h9 hf9 hP hS => ?_)
  have h12 : w2 q12 = some ((0, 0), .inr (4, [])) := h9
  have hk : w2 y = some ((i, 6 + k), .inr (3, [.ref (eM E 0), .int 0, .int 0, .int 0, .int 0, .int 0, .int 0, .null])) := hf9 _ _ _ hk (fun z9 => z9)
  have hF : fr (pK i k) w0 w2 := hF.tr (hf9.up (fun _ h9 => h9.elim))
  refine lv_dup hx hb dX3_init_15 rfl ?_
  refine k_cIN hx hb hml hown hts (CX5_init l0 E w2 q12 (0, 0) h12) ⟨va_cnB 0 hts (lw_meth q136) rfl rfl rfl (hG.2.1.1 _ q134 rfl) (hts _ q74) dyX5_init.2 ⟨Nat.le_of_ble_eq_true rfl, Nat.le_of_ble_eq_true rfl⟩, rfl, hts _ q135⟩ hG hP hS (As := []) (rest := [.ref q12, .ref y]) rfl hl.1 rfl (lv_room (Nat.le_of_ble_eq_true rfl)) dX3_init_16 ⟨show (0 + 1) + 0 ≤ 1 from by omega, show (0 + 0) + 0 ≤ 0 from by omega⟩ (fun r9 w9 H locs hp hP hS => ?_)
  obtain ⟨hp1, hp0⟩ := hp
  rw [hp1] at hP
  show W p l0 e rmCX3_init s m args below meth c H locs (0 + 1) (0 + 0) Q (F0 m 19 ls [.ref q12, .ref y])
  refine k_putW hx hb hts in_X3 tyX3 tyX3_ok nmX3 hown hG hP hS hk rfl 7 (by decide) (hts _ q160) (fun _ h9 => h9) rfl (ty := (.object "KiteRoofs$State")) (v := .ref q12) rfl rfl rfl (Nat.le_of_ble_eq_true rfl) dX3_init_19 (fun w3 H locs h9 hf9 hP hS => ?_)
  have hk : w3 y = some ((i, 6 + k), .inr (3, [.ref (eM E 0), .int 0, .int 0, .int 0, .int 0, .int 0, .int 0, .ref q12])) := h9
  have h12 : w3 q12 = some ((0, 0), .inr (4, [])) := hf9 _ _ _ h12 (by intro z9; simp only [pO, pN, pK, pT, Prod.mk.injEq] at z9 <;> omega)
  have hF : fr (pK i k) w0 w3 := hF.tr (hf9.up (fun t9 h9 => by simp only [pO, pN, pK, pT] at h9 ⊢; first | exact h9 | (subst h9; simp) | (rcases h9 with h9 | h9 <;> subst h9 <;> simp)))
  exact k_vret hx hb hr hlocks hQ hP hS (by omega) (by omega) dX3_init_22 (⟨q12, trivial, ⟨hk, Or.inl ⟨rfl, h12⟩, trivial⟩, hF⟩)
