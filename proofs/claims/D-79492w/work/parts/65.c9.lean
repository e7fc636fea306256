/-! THE COMPONENT, 12: by hand -/
set_option maxRecDepth 100000
abbrev rmCX2_launch : Room := { frames := 2, cells := 1, slots := 2, locals := 52 }
theorem dyX2_launch : yX2_launch.cls = RX2 ∧ yX2_launch.cls ≠ "java/lang/invoke/MethodHandle" ∧ yX2_launch.cls ≠ "java/lang/invoke/VarHandle" ∧ (parseMethodDescriptor yX2_launch.desc).map (fun d => d.parameters.length) = some 1 := by decide +kernel
set_option maxHeartbeats 4000000 in
theorem CX2_launch (l0 : Launch) (E : gE) (w : wd) (i : Nat) (A : Nat → Nat) (g : Nat → Int32) (mn : Nat) (wn : Nat → Int32) (ly : Nat → Int32) (l : Nat) (hi0 : i ≠ 0) (hi3 : i < 93) (hl9 : l < mn) (hM : townR E w i A g mn wn ly) : kC l0 yX2_launch (ws_ yX2_launch cX2_launch 2 (some .int)) rmCX2_launch 1 2 mI E w [.ref (A 0), .int (nI l)] (fun r w' => (r = (tIn (tLn g l) 1 mn)) ∧ (townR E w' i A (tLn g l) mn wn ly ∧ True) ∧ fr (pT i) w w') := by
  refine k_open (cc := cX2_launch) (maxL := 2) (ret := (some .int)) (by decide) rfl (Nat.le_of_ble_eq_true rfl) ?_
  intro p e s m args below meth c ls Q hx hb hr hml hown hts hlocks hname hQ hG hP hl hS
  have hl : lv_has ls 2 [(0, .ref (A 0)), (1, .int (nI l))] := hl
  obtain ⟨w0, hw0⟩ : ∃ z, z = w := ⟨_, rfl⟩
  have hF : fr (pT i) w0 w := by rw [hw0]; exact fr.rf
  rw [← hw0] at hQ
  obtain ⟨hT, ⟨fs9, hS1, hs1⟩, ⟨fd9, hS2, hs2⟩, ⟨fk9, hS3, hs3⟩, hS4, hS5, ⟨hm, hmn⟩, hK⟩ := id hM
  refine lv_aload_n hx hb dX2_launch_0 rfl (lv_at hl 0 rfl) ?_
  refine k_get hx hb hts in_X2 hown hG hP hT rfl 2 (by decide) (hts _ q184) (fun _ h9 => h9) (v := .ref (A 3)) rfl dX2_launch_1 ?_
  refine lv_iload_n hx hb dX2_launch_4 rfl (lv_at hl 1 rfl) ?_
  refine k_aald hx hb hG hP (j := l) 4 hS3 rfl (by omega) (show l < 6 from by omega) dX2_launch_5 ?_
  rw [hs3 l (by omega)]
  refine k_newW hx hb (i, 12 + l) hts in_X7 tyX7 tyX7_ok hown (hts _ q673) (hts _ q348) (hts _ q89) hG hP hS (ci := 5) rfl (fs := [.int 0, .int 0]) (by decide) (show 0 + 1 ≤ 1 from by omega) (show 0 + 2 ≤ 2 from by omega) dX2_launch_6 (fun q6 w1 H h9 hf9 hP hS => ?_)
  have h6 : w1 q6 = some ((i, 12 + l), .inr (5, [.int 0, .int 0])) := h9
  have hM : townR E w1 i A g mn wn ly := hM.frm hf9 (fun z9 => z9) (fun _ z9 => z9)
  have hF : fr (pT i) w0 w1 := hF.tr (hf9.up (fun _ h9 => h9.elim))
  obtain ⟨hT, ⟨fs9, hS1, hs1⟩, ⟨fd9, hS2, hs2⟩, ⟨fk9, hS3, hs3⟩, hS4, hS5, ⟨hm, hmn⟩, hK⟩ := id hM
  refine lv_dup hx hb dX2_launch_9 rfl ?_
  refine k_cIN hx hb hml hown hts (CX7_init l0 E w1 q6 (i, 12 + l) 0 0 h6) ⟨va_cnB 0 hts (lw_meth q351) rfl rfl rfl (hG.2.1.1 _ q674 rfl) (hts _ q89) dyX7_init.2 ⟨Nat.le_of_ble_eq_true rfl, Nat.le_of_ble_eq_true rfl⟩, rfl, hts _ q350⟩ hG hP hS (As := []) (rest := [.ref q6, .ref (A (6 + l))]) rfl hl.1 rfl (lv_room (Nat.le_of_ble_eq_true rfl)) dX2_launch_10 ⟨show (0 + 1) + 0 ≤ 1 from by omega, show (0 + 2) + 0 ≤ 2 from by omega⟩ (fun r9 w9 H locs hp hP hS => ?_)
  obtain ⟨hp1, hp0⟩ := hp
  rw [hp1] at hP
  show W p l0 e rmCX2_launch s m args below meth c H locs (0 + 1) (0 + 2) Q (F0 m 13 ls [.ref q6, .ref (A (6 + l))])
  obtain ⟨tz1, hkz1, hsz1⟩ := hM.kite (k := l) (by omega)
  refine k_putNW hx hb hts in_X3 tyX3 tyX3_ok nmX3 hown hG hP hS hkz1 rfl 7 (by decide) (hG.2.1.1 _ q161 rfl) (fun _ h9 => h9) rfl (ty := (.object "KiteRoofs$State")) (v := .ref q6) rfl rfl rfl (Nat.le_of_ble_eq_true rfl) dX2_launch_13 (fun w2 H locs h9 hf9 hP hS => ?_)
  have h6 : w2 q6 = some ((i, 12 + l), .inr (5, [.int 0, .int 0])) := hf9 _ _ _ h6 (by intro z9; simp only [pO, pN, pK, pT, Prod.mk.injEq] at z9 <;> omega)
  have hM : townR E w2 i A (tLn g l) mn wn ly := hM.st hi0 (by omega) hf9 h9 (fun j hj => tLn_lo hj) (fun j hj => tLn_ne hj) tLn_c (tLn_s h6)
  have hF : fr (pT i) w0 w2 := hF.tr (fr_OT hf9)
  obtain ⟨hT, ⟨fs9, hS1, hs1⟩, ⟨fd9, hS2, hs2⟩, ⟨fk9, hS3, hs3⟩, hS4, hS5, ⟨hm, hmn⟩, hK⟩ := id hM
  refine lv_aload_n hx hb dX2_launch_16 rfl (lv_at hl 0 rfl) ?_
  refine lv_iconst (v := 1) hx hb dX2_launch_17 (by decide) ?_
  refine k_cV hx hb hml hown hts (CX2_inState l0 E w2 i A (tLn g l) mn wn ly 1 hM) (cwV 1 hts (lw_V q675 q676 q677 q70 q678) rfl rfl rfl dyX2_inState ⟨Nat.le_of_ble_eq_true rfl, Nat.le_of_ble_eq_true rfl⟩) hG hP hS hT rfl (As := [.int 1]) (rest := []) rfl hl.1 rfl (lv_room (Nat.le_of_ble_eq_true rfl)) dX2_launch_18 ⟨show (0 + 1) + 0 ≤ 1 from by omega, show (0 + 2) + 0 ≤ 2 from by omega⟩ (fun r9 w9 H locs hp hP hS => ?_)
  obtain ⟨hp1, hp0⟩ := hp
  rw [hp1] at hP
  rw [hp0]
  show W p l0 e rmCX2_launch s m args below meth c H locs (0 + 1) (0 + 2) Q (F0 m 21 ls [.int (tIn (tLn g l) 1 mn)])
  exact k_iret hx hb hr hlocks hQ hP hS (by omega) (by omega) dX2_launch_21 (⟨rfl, ⟨hM, trivial⟩, hF⟩)

abbrev rmCX2_reel : Room := { frames := 3, cells := 0, slots := 0, locals := 78 }
theorem dyX2_reel : yX2_reel.cls = RX2 ∧ yX2_reel.cls ≠ "java/lang/invoke/MethodHandle" ∧ yX2_reel.cls ≠ "java/lang/invoke/VarHandle" ∧ (parseMethodDescriptor yX2_reel.desc).map (fun d => d.parameters.length) = some 2 := by decide +kernel
set_option maxHeartbeats 4000000 in
theorem CX2_reel (l0 : Launch) (E : gE) (w : wd) (i : Nat) (A : Nat → Nat) (g : Nat → Int32) (mn : Nat) (wn : Nat → Int32) (ly : Nat → Int32) (l : Nat) (x : Int32) (hi0 : i ≠ 0) (hl9 : l < mn) (hup : tUp g l = true) (hx1 : g (kO l 5) + x ≤ g (kO l 3)) (hx2 : 0 ≤ g (kO l 5) + x) (hM : townR E w i A g mn wn ly) : kC l0 yX2_reel (ws_ yX2_reel cX2_reel 3 (some .int)) rmCX2_reel 0 0 mI E w [.ref (A 0), .int (nI l), .int x] (fun r w' => (r = (tLt g l x (kO l 5))) ∧ (townR E w' i A (tLt g l x) mn wn ly ∧ True) ∧ fr (pT i) w w') := by
  refine k_open (cc := cX2_reel) (maxL := 3) (ret := (some .int)) (by decide) rfl (Nat.le_of_ble_eq_true rfl) ?_
  intro p e s m args below meth c ls Q hx hb hr hml hown hts hlocks hname hQ hG hP hl hS
  have hl : lv_has ls 3 [(0, .ref (A 0)), (1, .int (nI l)), (2, .int x)] := hl
  obtain ⟨w0, hw0⟩ : ∃ z, z = w := ⟨_, rfl⟩
  have hF : fr (pT i) w0 w := by rw [hw0]; exact fr.rf
  rw [← hw0] at hQ
  obtain ⟨hT, ⟨fs9, hS1, hs1⟩, ⟨fd9, hS2, hs2⟩, ⟨fk9, hS3, hs3⟩, hS4, hS5, ⟨hm, hmn⟩, hK⟩ := id hM
  refine lv_aload_n hx hb dX2_reel_0 rfl (lv_at hl 0 rfl) ?_
  refine lv_aload_n hx hb dX2_reel_1 rfl (lv_at hl 0 rfl) ?_
  refine k_get hx hb hts in_X2 hown hG hP hT rfl 2 (by decide) (hts _ q184) (fun _ h9 => h9) (v := .ref (A 3)) rfl dX2_reel_2 ?_
  refine lv_iload_n hx hb dX2_reel_5 rfl (lv_at hl 1 rfl) ?_
  refine k_aald hx hb hG hP (j := l) 4 hS3 rfl (by omega) (show l < 6 from by omega) dX2_reel_6 ?_
  rw [hs3 l (by omega)]
  refine lv_iload_n hx hb dX2_reel_7 rfl (lv_at hl 2 rfl) ?_
  obtain ⟨tz1, hkz1, hsz1⟩ := hM.kite (k := l) (by omega)
  refine k_cV hx hb hml hown hts (CX3_reels l0 E w i l (A (6 + l)) (kv g l) tz1 x hkz1 hsz1) (cwV 1 hts (lw_V q720 q721 q722 q71 q723) rfl rfl rfl dyX3_reels ⟨Nat.le_of_ble_eq_true rfl, Nat.le_of_ble_eq_true rfl⟩) hG hP hS hkz1 rfl (As := [.int x]) (rest := [.ref (A 0)]) rfl hl.1 rfl (lv_room (Nat.le_of_ble_eq_true rfl)) dX2_reel_8 ⟨show 0 + 0 ≤ 0 from by omega, show 0 + 0 ≤ 0 from by omega⟩ (fun r8 w1 H locs hp hP hS => ?_)
  obtain ⟨hp0, ⟨hkz1', hsz1', -⟩, hf9⟩ := hp
  have hM : townR E w1 i A (tRl g l x) mn wn ly := hM.kup hi0 (k := l) (v := (kRv (kv g l) x)) (by omega) hf9 ⟨(by rw [kF_rv]; exact hkz1'), hsz1'⟩ (fun _ => kv_rl) (fun j hj => tRl_lo hj) (fun j _ hj => tRl_ne hj)
  have hF : fr (pT i) w0 w1 := hF.tr (fr_KT hf9)
  obtain ⟨hT, ⟨fs9, hS1, hs1⟩, ⟨fd9, hS2, hs2⟩, ⟨fk9, hS3, hs3⟩, hS4, hS5, ⟨hm, hmn⟩, hK⟩ := id hM
  rw [hp0]
  show W p l0 e rmCX2_reel s m args below meth c H locs 0 0 Q (F0 m 11 ls [.int (kRr (kv g l) x), .ref (A 0)])
  refine k_cV hx hb hml hown hts (CX2_counts l0 E w1 i A (tRl g l x) mn wn ly (kRr (kv g l) x) hi0 hM) (cwV 1 hts (lw_V q732 q734 qs6 q70 q735) rfl rfl rfl dyX2_counts ⟨Nat.le_of_ble_eq_true rfl, Nat.le_of_ble_eq_true rfl⟩) hG hP hS hT rfl (As := [.int (kRr (kv g l) x)]) (rest := []) rfl hl.1 rfl (lv_room (Nat.le_of_ble_eq_true rfl)) dX2_reel_11 ⟨show 0 + 0 ≤ 0 from by omega, show 0 + 0 ≤ 0 from by omega⟩ (fun r11 w2 H locs hp hP hS => ?_)
  obtain ⟨hp0, ⟨hM', -⟩, hf9⟩ := hp
  have hM : townR E w2 i A (tCo (tRl g l x) (kRr (kv g l) x)) mn wn ly := hM'
  have hF : fr (pT i) w0 w2 := hF.tr hf9
  obtain ⟨hT, ⟨fs9, hS1, hs1⟩, ⟨fd9, hS2, hs2⟩, ⟨fk9, hS3, hs3⟩, hS4, hS5, ⟨hm, hmn⟩, hK⟩ := id hM
  show W p l0 e rmCX2_reel s m args below meth c H locs 0 0 Q (F0 m 14 ls [])
  have hM : townR E w2 i A (tLt g l x) mn wn ly := hM.row (reel_hand hup hx1 hx2)
  obtain ⟨hT, ⟨fs9, hS1, hs1⟩, ⟨fd9, hS2, hs2⟩, ⟨fk9, hS3, hs3⟩, hS4, hS5, ⟨hm, hmn⟩, hK⟩ := id hM
  refine lv_aload_n hx hb dX2_reel_14 rfl (lv_at hl 0 rfl) ?_
  refine k_get hx hb hts in_X2 hown hG hP hT rfl 2 (by decide) (hts _ q184) (fun _ h9 => h9) (v := .ref (A 3)) rfl dX2_reel_15 ?_
  refine lv_iload_n hx hb dX2_reel_18 rfl (lv_at hl 1 rfl) ?_
  refine k_aald hx hb hG hP (j := l) 4 hS3 rfl (by omega) (show l < 6 from by omega) dX2_reel_19 ?_
  rw [hs3 l (by omega)]
  obtain ⟨tz2, hkz2, hsz2⟩ := hM.kite (k := l) (by omega)
  refine k_cV hx hb hml hown hts (CX3_out l0 E w2 i l (A (6 + l)) (kv (tLt g l x) l) tz2 hkz2 hsz2) (cwV 0 hts (lw_V q320 q321 q322 q71 q323) rfl rfl rfl dyX3_out ⟨Nat.le_of_ble_eq_true rfl, Nat.le_of_ble_eq_true rfl⟩) hG hP hS hkz2 rfl (As := []) (rest := []) rfl hl.1 rfl (lv_room (Nat.le_of_ble_eq_true rfl)) dX2_reel_20 ⟨show 0 + 0 ≤ 0 from by omega, show 0 + 0 ≤ 0 from by omega⟩ (fun r9 w9 H locs hp hP hS => ?_)
  obtain ⟨hp1, hp0⟩ := hp
  rw [hp1] at hP
  rw [hp0]
  show W p l0 e rmCX2_reel s m args below meth c H locs 0 0 Q (F0 m 23 ls [.int (kOt (kv (tLt g l x) l))])
  refine k_top (y := (tLt g l x (kO l 5))) (out_hand hup) ?_
  exact k_iret hx hb hr hlocks hQ hP hS (by omega) (by omega) dX2_reel_23 (⟨rfl, ⟨hM, trivial⟩, hF⟩)

abbrev rmCX2_land : Room := { frames := 2, cells := 1, slots := 0, locals := 52 }
theorem dyX2_land : yX2_land.cls = RX2 ∧ yX2_land.cls ≠ "java/lang/invoke/MethodHandle" ∧ yX2_land.cls ≠ "java/lang/invoke/VarHandle" ∧ (parseMethodDescriptor yX2_land.desc).map (fun d => d.parameters.length) = some 1 := by decide +kernel
set_option maxHeartbeats 4000000 in
theorem CX2_land (l0 : Launch) (E : gE) (w : wd) (i : Nat) (A : Nat → Nat) (g : Nat → Int32) (mn : Nat) (wn : Nat → Int32) (ly : Nat → Int32) (N : Nat) (l : Nat) (hI : gI g mn N) (hi0 : i ≠ 0) (hi3 : i < 93) (hl9 : l < mn) (hup : tUp g l = true) (hM : townR E w i A g mn wn ly) : kC l0 yX2_land (ws_ yX2_land cX2_land 3 (some .int)) rmCX2_land 1 0 mI E w [.ref (A 0), .int (nI l)] (fun r w' => (r = (g (kO l 5))) ∧ (townR E w' i A (tLd g l) mn wn ly ∧ True) ∧ fr (pT i) w w') := by
  refine k_open (cc := cX2_land) (maxL := 3) (ret := (some .int)) (by decide) rfl (Nat.le_of_ble_eq_true rfl) ?_
  intro p e s m args below meth c ls Q hx hb hr hml hown hts hlocks hname hQ hG hP hl hS
  have hl : lv_has ls 3 [(0, .ref (A 0)), (1, .int (nI l))] := hl
  obtain ⟨w0, hw0⟩ : ∃ z, z = w := ⟨_, rfl⟩
  have hF : fr (pT i) w0 w := by rw [hw0]; exact fr.rf
  rw [← hw0] at hQ
  obtain ⟨hT, ⟨fs9, hS1, hs1⟩, ⟨fd9, hS2, hs2⟩, ⟨fk9, hS3, hs3⟩, hS4, hS5, ⟨hm, hmn⟩, hK⟩ := id hM
  refine lv_aload_n hx hb dX2_land_0 rfl (lv_at hl 0 rfl) ?_
  refine k_get hx hb hts in_X2 hown hG hP hT rfl 2 (by decide) (hts _ q184) (fun _ h9 => h9) (v := .ref (A 3)) rfl dX2_land_1 ?_
  refine lv_iload_n hx hb dX2_land_4 rfl (lv_at hl 1 rfl) ?_
  refine k_aald hx hb hG hP (j := l) 4 hS3 rfl (by omega) (show l < 6 from by omega) dX2_land_5 ?_
  rw [hs3 l (by omega)]
  obtain ⟨tz1, hkz1, hsz1⟩ := hM.kite (k := l) (by omega)
  refine k_cV hx hb hml hown hts (CX3_out l0 E w i l (A (6 + l)) (kv g l) tz1 hkz1 hsz1) (cwV 0 hts (lw_V q320 q321 q322 q71 q323) rfl rfl rfl dyX3_out ⟨Nat.le_of_ble_eq_true rfl, Nat.le_of_ble_eq_true rfl⟩) hG hP hS hkz1 rfl (As := []) (rest := []) rfl hl.1 rfl (lv_room (Nat.le_of_ble_eq_true rfl)) dX2_land_6 ⟨show 0 + 0 ≤ 1 from by omega, show 0 + 0 ≤ 0 from by omega⟩ (fun r9 w9 H locs hp hP hS => ?_)
  obtain ⟨hp1, hp0⟩ := hp
  rw [hp1] at hP
  rw [hp0]
  show W p l0 e rmCX2_land s m args below meth c H locs 0 0 Q (F0 m 9 ls [.int (kOt (kv g l))])
  refine k_top (y := (g (kO l 5))) (kOt_up hup) ?_
  refine lv_istore_n (lv' := [(2, .int (g (kO l 5))), (0, .ref (A 0)), (1, .int (nI l))]) hx hb dX2_land_9 rfl hl (by decide) rfl (fun ls hl => ?_)
  refine lv_aload_n hx hb dX2_land_10 rfl (lv_at hl 1 rfl) ?_
  refine lv_dup hx hb dX2_land_11 rfl ?_
  refine k_get hx hb hts in_X2 hown hG hP hT rfl 6 (by decide) (hts _ q192) (fun _ h9 => h9) (v := .int (g 23)) rfl dX2_land_12 ?_
  refine lv_iload_n hx hb dX2_land_15 rfl (lv_at hl 0 rfl) ?_
  refine lv_iadd hx hb dX2_land_16 ?_
  refine k_putW hx hb hts in_X2 tyX2 tyX2_ok nmX2 hown hG hP hS hT rfl 6 (by decide) (hts _ q192) (fun _ h9 => h9) rfl (ty := .int) (v := .int ((g 23) + (g (kO l 5)))) rfl rfl rfl (Nat.le_of_ble_eq_true rfl) dX2_land_17 (fun w1 H locs h9 hf9 hP hS => ?_)
  have h9 : w1 (A 0) = some ((i, 0), .inr (2, tnF A (va_up g 23 ((g 23) + (g (kO l 5)))) mn)) := h9
  have hM : townR E w1 i A (va_up g 23 ((g 23) + (g (kO l 5)))) mn wn ly := hM.scal hi0 hf9 h9 (fun j hj => up_n (by omega))
  have hF : fr (pT i) w0 w1 := hF.tr (fr_OT hf9)
  obtain ⟨hT, ⟨fs9, hS1, hs1⟩, ⟨fd9, hS2, hs2⟩, ⟨fk9, hS3, hs3⟩, hS4, hS5, ⟨hm, hmn⟩, hK⟩ := id hM
  refine lv_aload_n hx hb dX2_land_20 rfl (lv_at hl 1 rfl) ?_
  refine k_get hx hb hts in_X2 hown hG hP hT rfl 2 (by decide) (hts _ q184) (fun _ h9 => h9) (v := .ref (A 3)) rfl dX2_land_21 ?_
  refine lv_iload_n hx hb dX2_land_24 rfl (lv_at hl 2 rfl) ?_
  refine k_aald hx hb hG hP (j := l) 4 hS3 rfl (by omega) (show l < 6 from by omega) dX2_land_25 ?_
  rw [hs3 l (by omega)]
  refine k_newW hx hb (0, 0) hts in_X5 tyX5 tyX5_ok hown (hts _ q759) (hts _ q133) (hts _ q74) hG hP hS (ci := 4) rfl (fs := []) (by decide) (show 0 + 1 ≤ 1 from by omega) (show 0 + 0 ≤ 0 from by omega) dX2_land_26 (fun q26 w2 H h9 hf9 hP hS => ?_)
  have h26 : w2 q26 = some ((0, 0), .inr (4, [])) := h9
  have hM : townR E w2 i A (va_up g 23 ((g 23) + (g (kO l 5)))) mn wn ly := hM.frm hf9 (fun z9 => z9) (fun _ z9 => z9)
  have hF : fr (pT i) w0 w2 := hF.tr (hf9.up (fun _ h9 => h9.elim))
  obtain ⟨hT, ⟨fs9, hS1, hs1⟩, ⟨fd9, hS2, hs2⟩, ⟨fk9, hS3, hs3⟩, hS4, hS5, ⟨hm, hmn⟩, hK⟩ := id hM
  refine lv_dup hx hb dX2_land_29 rfl ?_
  refine k_cIN hx hb hml hown hts (CX5_init l0 E w2 q26 (0, 0) h26) ⟨va_cnB 0 hts (lw_meth q136) rfl rfl rfl (hG.2.1.1 _ q760 rfl) (hts _ q74) dyX5_init.2 ⟨Nat.le_of_ble_eq_true rfl, Nat.le_of_ble_eq_true rfl⟩, rfl, hts _ q135⟩ hG hP hS (As := []) (rest := [.ref q26, .ref (A (6 + l))]) rfl hl.1 rfl (lv_room (Nat.le_of_ble_eq_true rfl)) dX2_land_30 ⟨show (0 + 1) + 0 ≤ 1 from by omega, show (0 + 0) + 0 ≤ 0 from by omega⟩ (fun r9 w9 H locs hp hP hS => ?_)
  obtain ⟨hp1, hp0⟩ := hp
  rw [hp1] at hP
  show W p l0 e rmCX2_land s m args below meth c H locs (0 + 1) (0 + 0) Q (F0 m 33 ls [.ref q26, .ref (A (6 + l))])
  obtain ⟨tz2, hkz2, hsz2⟩ := hM.kite (k := l) (by omega)
  refine k_putNW hx hb hts in_X3 tyX3 tyX3_ok nmX3 hown hG hP hS hkz2 rfl 7 (by decide) (hG.2.1.1 _ q161 rfl) (fun _ h9 => h9) rfl (ty := (.object "KiteRoofs$State")) (v := .ref q26) rfl rfl rfl (Nat.le_of_ble_eq_true rfl) dX2_land_33 (fun w3 H locs h9 hf9 hP hS => ?_)
  have h26 : w3 q26 = some ((0, 0), .inr (4, [])) := hf9 _ _ _ h26 (by intro z9; simp only [pO, pN, pK, pT, Prod.mk.injEq] at z9 <;> omega)
  have hM : townR E w3 i A (va_up (va_up (va_up g 23 (g 23 + g (kO l 5))) (kO l 5) (g (kO l 5) + -g (kO l 5))) (kO l 0) 0) mn wn ly := hM.st hi0 (by omega) hf9 h9 (fun j hj => tLd_lo hj) (fun j hj => tLd_ne hj) tLd_c (roof_s h26)
  have hF : fr (pT i) w0 w3 := hF.tr (fr_OT hf9)
  obtain ⟨hT, ⟨fs9, hS1, hs1⟩, ⟨fd9, hS2, hs2⟩, ⟨fk9, hS3, hs3⟩, hS4, hS5, ⟨hm, hmn⟩, hK⟩ := id hM
  refine lv_iload_n hx hb dX2_land_36 rfl (lv_at hl 0 rfl) ?_
  exact k_iret hx hb hr hlocks hQ hP hS (by omega) (by omega) dX2_land_37 (⟨rfl, ⟨hM.row (tLd_eq hI hl9).symm, trivial⟩, hF⟩)

abbrev rmCX2_tie : Room := { frames := 2, cells := 1, slots := 0, locals := 52 }
theorem dyX2_tie : yX2_tie.cls = RX2 ∧ yX2_tie.cls ≠ "java/lang/invoke/MethodHandle" ∧ yX2_tie.cls ≠ "java/lang/invoke/VarHandle" ∧ (parseMethodDescriptor yX2_tie.desc).map (fun d => d.parameters.length) = some 1 := by decide +kernel
set_option maxHeartbeats 4000000 in
theorem CX2_tie (l0 : Launch) (E : gE) (w : wd) (i : Nat) (A : Nat → Nat) (g : Nat → Int32) (mn : Nat) (wn : Nat → Int32) (ly : Nat → Int32) (l : Nat) (hi0 : i ≠ 0) (hi3 : i < 93) (hl9 : l < mn) (hM : townR E w i A g mn wn ly) : kC l0 yX2_tie (ws_ yX2_tie cX2_tie 2 (some .int)) rmCX2_tie 1 0 mI E w [.ref (A 0), .int (nI l)] (fun r w' => (r = (g (kO l 3))) ∧ (townR E w' i A (va_up g (kO l 0) 0) mn wn ly ∧ True) ∧ fr (pT i) w w') := by
  refine k_open (cc := cX2_tie) (maxL := 2) (ret := (some .int)) (by decide) rfl (Nat.le_of_ble_eq_true rfl) ?_
  intro p e s m args below meth c ls Q hx hb hr hml hown hts hlocks hname hQ hG hP hl hS
  have hl : lv_has ls 2 [(0, .ref (A 0)), (1, .int (nI l))] := hl
  obtain ⟨w0, hw0⟩ : ∃ z, z = w := ⟨_, rfl⟩
  have hF : fr (pT i) w0 w := by rw [hw0]; exact fr.rf
  rw [← hw0] at hQ
  obtain ⟨hT, ⟨fs9, hS1, hs1⟩, ⟨fd9, hS2, hs2⟩, ⟨fk9, hS3, hs3⟩, hS4, hS5, ⟨hm, hmn⟩, hK⟩ := id hM
  refine lv_aload_n hx hb dX2_tie_0 rfl (lv_at hl 0 rfl) ?_
  refine k_get hx hb hts in_X2 hown hG hP hT rfl 2 (by decide) (hts _ q184) (fun _ h9 => h9) (v := .ref (A 3)) rfl dX2_tie_1 ?_
  refine lv_iload_n hx hb dX2_tie_4 rfl (lv_at hl 1 rfl) ?_
  refine k_aald hx hb hG hP (j := l) 4 hS3 rfl (by omega) (show l < 6 from by omega) dX2_tie_5 ?_
  rw [hs3 l (by omega)]
  refine k_newW hx hb (0, 0) hts in_X5 tyX5 tyX5_ok hown (hts _ q759) (hts _ q133) (hts _ q74) hG hP hS (ci := 4) rfl (fs := []) (by decide) (show 0 + 1 ≤ 1 from by omega) (show 0 + 0 ≤ 0 from by omega) dX2_tie_6 (fun q6 w1 H h9 hf9 hP hS => ?_)
  have h6 : w1 q6 = some ((0, 0), .inr (4, [])) := h9
  have hM : townR E w1 i A g mn wn ly := hM.frm hf9 (fun z9 => z9) (fun _ z9 => z9)
  have hF : fr (pT i) w0 w1 := hF.tr (hf9.up (fun _ h9 => h9.elim))
  obtain ⟨hT, ⟨fs9, hS1, hs1⟩, ⟨fd9, hS2, hs2⟩, ⟨fk9, hS3, hs3⟩, hS4, hS5, ⟨hm, hmn⟩, hK⟩ := id hM
  refine lv_dup hx hb dX2_tie_9 rfl ?_
  refine k_cIN hx hb hml hown hts (CX5_init l0 E w1 q6 (0, 0) h6) ⟨va_cnB 0 hts (lw_meth q136) rfl rfl rfl (hG.2.1.1 _ q760 rfl) (hts _ q74) dyX5_init.2 ⟨Nat.le_of_ble_eq_true rfl, Nat.le_of_ble_eq_true rfl⟩, rfl, hts _ q135⟩ hG hP hS (As := []) (rest := [.ref q6, .ref (A (6 + l))]) rfl hl.1 rfl (lv_room (Nat.le_of_ble_eq_true rfl)) dX2_tie_10 ⟨show (0 + 1) + 0 ≤ 1 from by omega, show (0 + 0) + 0 ≤ 0 from by omega⟩ (fun r9 w9 H locs hp hP hS => ?_)
  obtain ⟨hp1, hp0⟩ := hp
  rw [hp1] at hP
  show W p l0 e rmCX2_tie s m args below meth c H locs (0 + 1) (0 + 0) Q (F0 m 13 ls [.ref q6, .ref (A (6 + l))])
  obtain ⟨tz1, hkz1, hsz1⟩ := hM.kite (k := l) (by omega)
  refine k_putNW hx hb hts in_X3 tyX3 tyX3_ok nmX3 hown hG hP hS hkz1 rfl 7 (by decide) (hG.2.1.1 _ q161 rfl) (fun _ h9 => h9) rfl (ty := (.object "KiteRoofs$State")) (v := .ref q6) rfl rfl rfl (Nat.le_of_ble_eq_true rfl) dX2_tie_13 (fun w2 H locs h9 hf9 hP hS => ?_)
  have h6 : w2 q6 = some ((0, 0), .inr (4, [])) := hf9 _ _ _ h6 (by intro z9; simp only [pO, pN, pK, pT, Prod.mk.injEq] at z9 <;> omega)
  have hM : townR E w2 i A (va_up g (kO l 0) 0) mn wn ly := hM.st hi0 (by omega) hf9 h9 (fun j hj => up_n (kO_lo hj)) (fun j hj => kv_ne hj (by decide)) roof_c (roof_s h6)
  have hF : fr (pT i) w0 w2 := hF.tr (fr_OT hf9)
  obtain ⟨hT, ⟨fs9, hS1, hs1⟩, ⟨fd9, hS2, hs2⟩, ⟨fk9, hS3, hs3⟩, hS4, hS5, ⟨hm, hmn⟩, hK⟩ := id hM
  refine lv_aload_n hx hb dX2_tie_16 rfl (lv_at hl 0 rfl) ?_
  refine k_get hx hb hts in_X2 hown hG hP hT rfl 2 (by decide) (hts _ q184) (fun _ h9 => h9) (v := .ref (A 3)) rfl dX2_tie_17 ?_
  refine lv_iload_n hx hb dX2_tie_20 rfl (lv_at hl 1 rfl) ?_
  refine k_aald hx hb hG hP (j := l) 4 hS3 rfl (by omega) (show l < 6 from by omega) dX2_tie_21 ?_
  rw [hs3 l (by omega)]
  obtain ⟨tz2, hkz2, hsz2⟩ := hM.kite (k := l) (by omega)
  refine k_getN hx hb hts in_X3 hown hG hP hkz2 rfl 2 (by decide) (hG.2.1.1 _ q147 rfl) (fun _ h9 => h9) (v := .int ((va_up g (kO l 0) 0) (kO l 3))) rfl dX2_tie_22 ?_
  refine k_top (y := (g (kO l 3))) (up_n (kO_c (by decide) (by decide) (by decide))) ?_
  exact k_iret hx hb hr hlocks hQ hP hS (by omega) (by omega) dX2_tie_25 (⟨rfl, ⟨hM, trivial⟩, hF⟩)
