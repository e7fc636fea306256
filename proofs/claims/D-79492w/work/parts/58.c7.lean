/-! THE COMPONENT, 10: cuts -/
set_option maxRecDepth 100000
abbrev rmCX8_init : Room := { frames := 1, cells := 0, slots := 0, locals := 32 }
theorem dyX8_init : yX8_init.cls = RX8 ∧ yX8_init.cls ≠ "java/lang/invoke/MethodHandle" ∧ yX8_init.cls ≠ "java/lang/invoke/VarHandle" ∧ (parseMethodDescriptor yX8_init.desc).map (fun d => d.parameters.length) = some 3 := by decide +kernel
set_option maxHeartbeats 4000000 in
theorem CX8_init (l0 : Launch) (E : gE) (w : wd) (y : Nat) (ta9 : Nat × Nat) (x1 : Int32) (x2 : Int32) (x3 : Int32) (h1 : w y = some (ta9, .inr (6, [.int 0, .int 0, .int 0]))) : kC l0 yX8_init (ws_ yX8_init cX8_init 4 none) rmCX8_init 0 0 mV E w [.ref y, .int x1, .int x2, .int x3] (fun r w' => (True) ∧ (w' y = some (ta9, .inr (6, [.int x1, .int x2, .int x3])) ∧ True) ∧ fr (pO ta9) w w') := by
  refine k_open (cc := cX8_init) (maxL := 4) (ret := none) (by decide) rfl (Nat.le_of_ble_eq_true rfl) ?_
  intro p e s m args below meth c ls Q hx hb hr hml hown hts hlocks hname hQ hG hP hl hS
  have hl : lv_has ls 4 [(0, .ref y), (1, .int x1), (2, .int x2), (3, .int x3)] := hl
  obtain ⟨w0, hw0⟩ : ∃ z, z = w := ⟨_, rfl⟩
  have hF : fr (pO ta9) w0 w := by rw [hw0]; exact fr.rf
  rw [← hw0] at hQ
  refine lv_aload_n hx hb dX8_init_0 rfl (lv_at hl 0 rfl) ?_
  refine W.objInit hx hb hown (hts _ q1017) (hts _ q115) (hts _ q116) rfl (by rw [hml]; exact hl.1) rfl dX8_init_1 (Nat.le_of_ble_eq_true rfl) (Nat.le_of_ble_eq_true rfl) ?_
  refine W.eq (g2 := F0 m 4 ls []) rfl ?_
  refine lv_aload_n hx hb dX8_init_4 rfl (lv_at hl 0 rfl) ?_
  refine lv_iload_n hx hb dX8_init_5 rfl (lv_at hl 1 rfl) ?_
  refine k_putFW hx hb hts in_X8 tyX8 tyX8_ok nmX8 hown hG hP hS h1 rfl 0 (by decide) (hts _ q1018) (fun _ h9 => h9) rfl hname rfl (ty := .int) (v := .int x1) rfl rfl rfl (Nat.le_of_ble_eq_true rfl) dX8_init_6 (fun w1 H locs h9 hf9 hP hS => ?_)
  have h1 : w1 y = some (ta9, .inr (6, [.int x1, .int 0, .int 0])) := h9
  have hF : fr (pO ta9) w0 w1 := hF.tr (hf9.up (fun _ h9 => h9))
  refine lv_aload_n hx hb dX8_init_9 rfl (lv_at hl 0 rfl) ?_
  refine lv_iload_n hx hb dX8_init_10 rfl (lv_at hl 2 rfl) ?_
  refine k_putFW hx hb hts in_X8 tyX8 tyX8_ok nmX8 hown hG hP hS h1 rfl 1 (by decide) (hts _ q1019) (fun _ h9 => h9) rfl hname rfl (ty := .int) (v := .int x2) rfl rfl rfl (Nat.le_of_ble_eq_true rfl) dX8_init_11 (fun w2 H locs h9 hf9 hP hS => ?_)
  have h1 : w2 y = some (ta9, .inr (6, [.int x1, .int x2, .int 0])) := h9
  have hF : fr (pO ta9) w0 w2 := hF.tr (hf9.up (fun _ h9 => h9))
  refine lv_aload_n hx hb dX8_init_14 rfl (lv_at hl 0 rfl) ?_
  refine lv_iload_n hx hb dX8_init_15 rfl (lv_at hl 3 rfl) ?_
  refine k_putFW hx hb hts in_X8 tyX8 tyX8_ok nmX8 hown hG hP hS h1 rfl 2 (by decide) (hts _ q1020) (fun _ h9 => h9) rfl hname rfl (ty := .int) (v := .int x3) rfl rfl rfl (Nat.le_of_ble_eq_true rfl) dX8_init_16 (fun w3 H locs h9 hf9 hP hS => ?_)
  have h1 : w3 y = some (ta9, .inr (6, [.int x1, .int x2, .int x3])) := h9
  have hF : fr (pO ta9) w0 w3 := hF.tr (hf9.up (fun _ h9 => h9))
  exact k_vret hx hb hr hlocks hQ hP hS (by omega) (by omega) dX8_init_19 (⟨trivial, ⟨h1, trivial⟩, hF⟩)

abbrev rmCX2_cut : Room := { frames := 3, cells := 1, slots := 3, locals := 79 }
theorem dyX2_cut : yX2_cut.cls = RX2 ∧ yX2_cut.cls ≠ "java/lang/invoke/MethodHandle" ∧ yX2_cut.cls ≠ "java/lang/invoke/VarHandle" ∧ (parseMethodDescriptor yX2_cut.desc).map (fun d => d.parameters.length) = some 1 := by decide +kernel
set_option maxHeartbeats 4000000 in
theorem CX2_cut (l0 : Launch) (E : gE) (w : wd) (i : Nat) (A : Nat → Nat) (g : Nat → Int32) (mn : Nat) (wn : Nat → Int32) (ly : Nat → Int32) (N : Nat) (l : Nat) (g0 : Nat → Int32) (c9 : Nat) (hI : gI g mn N) (hI0 : gI g0 mn N) (hi0 : i ≠ 0) (hi3 : i < 93) (hl9 : l < mn) (hW : ∀ o, o < mn → wn (6 * l + o) = tWb g0 l o) (hc9 : c9 ≤ 9) (hly : ly l = nI c9) (hup : tUp g l = true) (hM : townR E w i A g mn wn ly) : kC l0 yX2_cut (ws_ yX2_cut cX2_cut 5 none) rmCX2_cut 1 3 mV E w [.ref (A 0), .int (nI l)] (fun r w' => (True) ∧ (townR E w' i A (tCt g l (tBl g l c9) ((g (kO l 5)) - (tBl g l c9)) (nI c9) ((tFd g0 l mn).2.2.1) (kB g0 l mn)) mn wn ly ∧ True) ∧ fr (pT i) w w') := by
  refine k_open (cc := cX2_cut) (maxL := 5) (ret := none) (by decide) rfl (Nat.le_of_ble_eq_true rfl) ?_
  intro p e s m args below meth c ls Q hx hb hr hml hown hts hlocks hname hQ hG hP hl hS
  have hl : lv_has ls 5 [(0, .ref (A 0)), (1, .int (nI l))] := hl
  obtain ⟨w0, hw0⟩ : ∃ z, z = w := ⟨_, rfl⟩
  have hF : fr (pT i) w0 w := by rw [hw0]; exact fr.rf
  rw [← hw0] at hQ
  have hkb := kB_lt (g := g0) (x := l) (n := mn) (by omega)
  obtain ⟨hT, ⟨fs9, hS1, hs1⟩, ⟨fd9, hS2, hs2⟩, ⟨fk9, hS3, hs3⟩, hS4, hS5, ⟨hm, hmn⟩, hK⟩ := id hM
  refine lv_aload_n hx hb dX2_cut_0 rfl (lv_at hl 0 rfl) ?_
  refine k_get hx hb hts in_X2 hown hG hP hT rfl 2 (by decide) (hts _ q184) (fun _ h9 => h9) (v := .ref (A 3)) rfl dX2_cut_1 ?_
  refine lv_iload_n hx hb dX2_cut_4 rfl (lv_at hl 1 rfl) ?_
  refine k_aald hx hb hG hP (j := l) 4 hS3 rfl (by omega) (show l < 6 from by omega) dX2_cut_5 ?_
  rw [hs3 l (by omega)]
  refine lv_astore_n (lv' := [(2, .ref (A (6 + l))), (0, .ref (A 0)), (1, .int (nI l))]) hx hb dX2_cut_6 rfl hl (by decide) rfl (fun ls hl => ?_)
  refine lv_aload_n hx hb dX2_cut_7 rfl (lv_at hl 1 rfl) ?_
  refine lv_aload_n hx hb dX2_cut_8 rfl (lv_at hl 0 rfl) ?_
  refine lv_aload_n hx hb dX2_cut_9 rfl (lv_at hl 1 rfl) ?_
  refine k_get hx hb hts in_X2 hown hG hP hT rfl 10 (by decide) (hts _ q199) (fun _ h9 => h9) (v := .ref (A 5)) rfl dX2_cut_10 ?_
  refine lv_iload_n hx hb dX2_cut_13 rfl (lv_at hl 2 rfl) ?_
  refine k_iald hx hb hG hP (j := l) hS5 (by omega) (show l < 6 from by omega) dX2_cut_14 ?_
  refine k_top (y := (nI c9)) (hly) ?_
  refine k_cV hx hb hml hown hts (CX2_lineUpTo l0 E w i A g mn wn ly N l c9 hI (by omega) (by omega) hM) (cwV 2 hts (lw_V q852 q854 qs11 q70 q855) rfl rfl rfl dyX2_lineUpTo ⟨Nat.le_of_ble_eq_true rfl, Nat.le_of_ble_eq_true rfl⟩) hG hP hS hT rfl (As := [.ref (A (6 + l)), .int (nI c9)]) (rest := []) rfl hl.1 rfl (lv_room (Nat.le_of_ble_eq_true rfl)) dX2_cut_15 ⟨show 0 + 0 ≤ 1 from by omega, show 0 + 0 ≤ 3 from by omega⟩ (fun r9 w9 H locs hp hP hS => ?_)
  obtain ⟨hp1, hp0⟩ := hp
  rw [hp1] at hP
  rw [hp0]
  show W p l0 e rmCX2_cut s m args below meth c H locs 0 0 Q (F0 m 18 ls [.int (tBl g l c9)])
  refine lv_istore_n (lv' := [(3, .int (tBl g l c9)), (2, .ref (A (6 + l))), (0, .ref (A 0)), (1, .int (nI l))]) hx hb dX2_cut_18 rfl hl (by decide) rfl (fun ls hl => ?_)
  refine lv_aload_n hx hb dX2_cut_19 rfl (lv_at hl 1 rfl) ?_
  obtain ⟨tz1, hkz1, hsz1⟩ := hM.kite (k := l) (by omega)
  refine k_cV hx hb hml hown hts (CX3_out l0 E w i l (A (6 + l)) (kv g l) tz1 hkz1 hsz1) (cwV 0 hts (lw_V q320 q321 q322 q71 q323) rfl rfl rfl dyX3_out ⟨Nat.le_of_ble_eq_true rfl, Nat.le_of_ble_eq_true rfl⟩) hG hP hS hkz1 rfl (As := []) (rest := []) rfl hl.1 rfl (lv_room (Nat.le_of_ble_eq_true rfl)) dX2_cut_20 ⟨show 0 + 0 ≤ 1 from by omega, show 0 + 0 ≤ 3 from by omega⟩ (fun r9 w9 H locs hp hP hS => ?_)
  obtain ⟨hp1, hp0⟩ := hp
  rw [hp1] at hP
  rw [hp0]
  show W p l0 e rmCX2_cut s m args below meth c H locs 0 0 Q (F0 m 23 ls [.int (kOt (kv g l))])
  refine k_top (y := (g (kO l 5))) (kOt_up hup) ?_
  refine lv_iload_n hx hb dX2_cut_23 rfl (lv_at hl 0 rfl) ?_
  refine lv_isub hx hb dX2_cut_24 ?_
  refine lv_istore (lv' := [(4, .int ((g (kO l 5)) - (tBl g l c9))), (3, .int (tBl g l c9)), (2, .ref (A (6 + l))), (0, .ref (A 0)), (1, .int (nI l))]) hx hb dX2_cut_25 hl (by decide) rfl (fun ls hl => ?_)
  refine lv_aload_n hx hb dX2_cut_27 rfl (lv_at hl 3 rfl) ?_
  refine lv_dup hx hb dX2_cut_28 rfl ?_
  refine k_get hx hb hts in_X2 hown hG hP hT rfl 6 (by decide) (hts _ q192) (fun _ h9 => h9) (v := .int (g 23)) rfl dX2_cut_29 ?_
  refine lv_iload_n hx hb dX2_cut_32 rfl (lv_at hl 1 rfl) ?_
  refine lv_iadd hx hb dX2_cut_33 ?_
  refine k_putW hx hb hts in_X2 tyX2 tyX2_ok nmX2 hown hG hP hS hT rfl 6 (by decide) (hts _ q192) (fun _ h9 => h9) rfl (ty := .int) (v := .int ((g 23) + (tBl g l c9))) rfl rfl rfl (Nat.le_of_ble_eq_true rfl) dX2_cut_34 (fun w1 H locs h9 hf9 hP hS => ?_)
  have h9 : w1 (A 0) = some ((i, 0), .inr (2, tnF A (va_up g 23 ((g 23) + (tBl g l c9))) mn)) := h9
  have hM : townR E w1 i A (va_up g 23 ((g 23) + (tBl g l c9))) mn wn ly := hM.scal hi0 hf9 h9 (fun j hj => up_n (by omega))
  have hF : fr (pT i) w0 w1 := hF.tr (fr_OT hf9)
  obtain ⟨hT, ⟨fs9, hS1, hs1⟩, ⟨fd9, hS2, hs2⟩, ⟨fk9, hS3, hs3⟩, hS4, hS5, ⟨hm, hmn⟩, hK⟩ := id hM
  refine lv_aload_n hx hb dX2_cut_37 rfl (lv_at hl 3 rfl) ?_
  refine lv_dup hx hb dX2_cut_38 rfl ?_
  refine k_get hx hb hts in_X2 hown hG hP hT rfl 7 (by decide) (hts _ q194) (fun _ h9 => h9) (v := .int ((va_up g 23 ((g 23) + (tBl g l c9))) 22)) rfl dX2_cut_39 ?_
  refine k_top (y := (g 22)) (up_n (by decide)) ?_
  refine lv_iload hx hb dX2_cut_42 (lv_at hl 0 rfl) ?_
  refine lv_iadd hx hb dX2_cut_44 ?_
  refine k_putW hx hb hts in_X2 tyX2 tyX2_ok nmX2 hown hG hP hS hT rfl 7 (by decide) (hts _ q194) (fun _ h9 => h9) rfl (ty := .int) (v := .int ((g 22) + ((g (kO l 5)) - (tBl g l c9)))) rfl rfl rfl (Nat.le_of_ble_eq_true rfl) dX2_cut_45 (fun w2 H locs h9 hf9 hP hS => ?_)
  have h9 : w2 (A 0) = some ((i, 0), .inr (2, tnF A (va_up (va_up g 23 ((g 23) + (tBl g l c9))) 22 ((g 22) + ((g (kO l 5)) - (tBl g l c9)))) mn)) := h9
  have hM : townR E w2 i A (va_up (va_up g 23 ((g 23) + (tBl g l c9))) 22 ((g 22) + ((g (kO l 5)) - (tBl g l c9)))) mn wn ly := hM.scal hi0 hf9 h9 (fun j hj => up_n (by omega))
  have hF : fr (pT i) w0 w2 := hF.tr (fr_OT hf9)
  obtain ⟨hT, ⟨fs9, hS1, hs1⟩, ⟨fd9, hS2, hs2⟩, ⟨fk9, hS3, hs3⟩, hS4, hS5, ⟨hm, hmn⟩, hK⟩ := id hM
  refine lv_aload_n hx hb dX2_cut_48 rfl (lv_at hl 2 rfl) ?_
  refine lv_dup hx hb dX2_cut_49 rfl ?_
  obtain ⟨tz2, hkz2, hsz2⟩ := hM.kite (k := l) (by omega)
  refine k_getN hx hb hts in_X3 hown hG hP hkz2 rfl 2 (by decide) (hG.2.1.1 _ q147 rfl) (fun _ h9 => h9) (v := .int ((va_up (va_up g 23 ((g 23) + (tBl g l c9))) 22 ((g 22) + ((g (kO l 5)) - (tBl g l c9)))) (kO l 3))) rfl dX2_cut_50 ?_
  refine k_top (y := (g (kO l 3))) (by rw [up_n (fun z => kO_lo (by decide) z.symm), up_n (fun z => kO_lo (by decide) z.symm)]) ?_
  refine lv_iload hx hb dX2_cut_53 (lv_at hl 0 rfl) ?_
  refine lv_isub hx hb dX2_cut_55 ?_
  refine k_putNW hx hb hts in_X3 tyX3 tyX3_ok nmX3 hown hG hP hS hkz2 rfl 2 (by decide) (hG.2.1.1 _ q147 rfl) (fun _ h9 => h9) rfl (ty := .int) (v := .int ((g (kO l 3)) - ((g (kO l 5)) - (tBl g l c9)))) rfl rfl rfl (Nat.le_of_ble_eq_true rfl) dX2_cut_56 (fun w3 H locs h9 hf9 hP hS => ?_)
  have h9 : w3 (A (6 + l)) = some ((i, 6 + l), .inr (3, kF E (va_up (kv (va_up (va_up g 23 ((g 23) + (tBl g l c9))) 22 ((g 22) + ((g (kO l 5)) - (tBl g l c9)))) l) 3 ((g (kO l 3)) - ((g (kO l 5)) - (tBl g l c9)))) tz2)) := h9
  have hM : townR E w3 i A (va_up (va_up (va_up g 23 ((g 23) + (tBl g l c9))) 22 ((g 22) + ((g (kO l 5)) - (tBl g l c9)))) (kO l 3) ((g (kO l 3)) - ((g (kO l 5)) - (tBl g l c9)))) mn wn ly := hM.kup hi0 (k := l) (by omega) (fr_K hf9) (kR.put hsz2 hi0 (by omega) hf9 h9 rfl rfl rfl rfl rfl rfl) (fun _ => (kv_eq (by decide)).symm) (fun j hj => up_n (kO_lo hj)) (fun j _ hj => kv_ne hj (by decide))
  have hF : fr (pT i) w0 w3 := hF.tr (fr_OT hf9)
  obtain ⟨hT, ⟨fs9, hS1, hs1⟩, ⟨fd9, hS2, hs2⟩, ⟨fk9, hS3, hs3⟩, hS4, hS5, ⟨hm, hmn⟩, hK⟩ := id hM
  refine lv_aload_n hx hb dX2_cut_59 rfl (lv_at hl 2 rfl) ?_
  refine k_newW hx hb (93, 0) hts in_X8 tyX8 tyX8_ok hown (hts _ q772) (hts _ q1009) (hts _ q95) hG hP hS (ci := 6) rfl (fs := [.int 0, .int 0, .int 0]) (by decide) (show 0 + 1 ≤ 1 from by omega) (show 0 + 3 ≤ 3 from by omega) dX2_cut_60 (fun q60 w4 H h9 hf9 hP hS => ?_)
  have h60 : w4 q60 = some ((93, 0), .inr (6, [.int 0, .int 0, .int 0])) := h9
  have hM : townR E w4 i A (va_up (va_up (va_up g 23 ((g 23) + (tBl g l c9))) 22 ((g 22) + ((g (kO l 5)) - (tBl g l c9)))) (kO l 3) ((g (kO l 3)) - ((g (kO l 5)) - (tBl g l c9)))) mn wn ly := hM.frm hf9 (fun z9 => z9) (fun _ z9 => z9)
  have hF : fr (pT i) w0 w4 := hF.tr (hf9.up (fun _ h9 => h9.elim))
  obtain ⟨hT, ⟨fs9, hS1, hs1⟩, ⟨fd9, hS2, hs2⟩, ⟨fk9, hS3, hs3⟩, hS4, hS5, ⟨hm, hmn⟩, hK⟩ := id hM
  refine lv_dup hx hb dX2_cut_63 rfl ?_
  refine lv_aload_n hx hb dX2_cut_64 rfl (lv_at hl 3 rfl) ?_
  refine k_get hx hb hts in_X2 hown hG hP hT rfl 4 (by decide) (hts _ q188) (fun _ h9 => h9) (v := .int ((va_up (va_up (va_up g 23 ((g 23) + (tBl g l c9))) 22 ((g 22) + ((g (kO l 5)) - (tBl g l c9)))) (kO l 3) ((g (kO l 3)) - ((g (kO l 5)) - (tBl g l c9)))) 20)) rfl dX2_cut_65 ?_
  refine k_top (y := (g 20)) (cS1_20) ?_
  refine lv_aload_n hx hb dX2_cut_68 rfl (lv_at hl 3 rfl) ?_
  refine k_get hx hb hts in_X2 hown hG hP hT rfl 10 (by decide) (hts _ q199) (fun _ h9 => h9) (v := .ref (A 5)) rfl dX2_cut_69 ?_
  refine lv_iload_n hx hb dX2_cut_72 rfl (lv_at hl 4 rfl) ?_
  refine k_iald hx hb hG hP (j := l) hS5 (by omega) (show l < 6 from by omega) dX2_cut_73 ?_
  refine k_top (y := (nI c9)) (hly) ?_
  refine lv_aload_n hx hb dX2_cut_74 rfl (lv_at hl 3 rfl) ?_
  refine lv_iload_n hx hb dX2_cut_75 rfl (lv_at hl 4 rfl) ?_
  refine k_cV hx hb hml hown hts (CX2_sawers l0 E w4 i A (va_up (va_up (va_up g 23 ((g 23) + (tBl g l c9))) 22 ((g 22) + ((g (kO l 5)) - (tBl g l c9)))) (kO l 3) ((g (kO l 3)) - ((g (kO l 5)) - (tBl g l c9)))) mn wn ly N l g0 (by omega) (by omega) (by omega) hM) (cwV 1 hts (lw_V q1010 q1012 qs20 q70 q1013) rfl rfl rfl dyX2_sawers ⟨Nat.le_of_ble_eq_true rfl, Nat.le_of_ble_eq_true rfl⟩) hG hP hS hT rfl (As := [.int (nI l)]) (rest := [.int (nI c9), .int (g 20), .ref q60, .ref q60, .ref (A (6 + l))]) rfl hl.1 rfl (lv_room (Nat.le_of_ble_eq_true rfl)) dX2_cut_76 ⟨show (0 + 1) + 0 ≤ 1 from by omega, show (0 + 3) + 0 ≤ 3 from by omega⟩ (fun r9 w9 H locs hp hP hS => ?_)
  obtain ⟨hp1, hp0⟩ := hp
  rw [hp1] at hP
  rw [hp0]
  show W p l0 e rmCX2_cut s m args below meth c H locs (0 + 1) (0 + 3) Q (F0 m 79 ls [.int ((tFd g0 l mn).2.2.1), .int (nI c9), .int (g 20), .ref q60, .ref q60, .ref (A (6 + l))])
  refine k_cI hx hb hml hown hts (CX8_init l0 E w4 q60 (93, 0) (g 20) (nI c9) ((tFd g0 l mn).2.2.1) h60) (cwI 3 hts (lw_meth q1016) rfl rfl rfl (hts _ q95) (hts _ q1014) (hts _ q1015) rfl dyX8_init.2 ⟨Nat.le_of_ble_eq_true rfl, Nat.le_of_ble_eq_true rfl⟩) hG hP hS (As := [.int (g 20), .int (nI c9), .int ((tFd g0 l mn).2.2.1)]) (rest := [.ref q60, .ref (A (6 + l))]) rfl hl.1 rfl (lv_room (Nat.le_of_ble_eq_true rfl)) dX2_cut_79 ⟨show (0 + 1) + 0 ≤ 1 from by omega, show (0 + 3) + 0 ≤ 3 from by omega⟩ (fun r79 w5 H locs hp hP hS => ?_)
  obtain ⟨hp0, ⟨h60', -⟩, hf9⟩ := hp
  have hM : townR E w5 i A (va_up (va_up (va_up g 23 ((g 23) + (tBl g l c9))) 22 ((g 22) + ((g (kO l 5)) - (tBl g l c9)))) (kO l 3) ((g (kO l 3)) - ((g (kO l 5)) - (tBl g l c9)))) mn wn ly := hM.frm hf9 (by intro z9; simp only [pO, Prod.mk.injEq] at z9 <;> omega) (fun r9 z9 => by simp only [pO, Prod.mk.injEq] at z9 <;> omega)
  have hF : fr (pT i) w0 w5 := hF.tr (hf9.up (fun t9 h9 => by simp only [pO, pN, pK, pT] at h9 ⊢; first | exact h9 | (subst h9; simp) | (rcases h9 with h9 | h9 <;> subst h9 <;> simp)))
  obtain ⟨hT, ⟨fs9, hS1, hs1⟩, ⟨fd9, hS2, hs2⟩, ⟨fk9, hS3, hs3⟩, hS4, hS5, ⟨hm, hmn⟩, hK⟩ := id hM
  have h60 : w5 q60 = some ((93, 0), .inr (6, [.int (g 20), .int (nI c9), .int ((tFd g0 l mn).2.2.1)])) := h60'
  show W p l0 e rmCX2_cut s m args below meth c H locs (0 + 1) (0 + 3) Q (F0 m 82 ls [.ref q60, .ref (A (6 + l))])
  obtain ⟨w6, h9, hf9, hP⟩ := k_retag (0, 0) hP h60
  have h60 : w6 q60 = some ((0, 0), .inr (6, [.int (g 20), .int (nI c9), .int ((tFd g0 l mn).2.2.1)])) := h9
  have hM : townR E w6 i A (va_up (va_up (va_up g 23 ((g 23) + (tBl g l c9))) 22 ((g 22) + ((g (kO l 5)) - (tBl g l c9)))) (kO l 3) ((g (kO l 3)) - ((g (kO l 5)) - (tBl g l c9)))) mn wn ly := hM.frm hf9 (by intro z9; simp only [pO, Prod.mk.injEq] at z9 <;> omega) (fun r9 z9 => by simp only [pO, Prod.mk.injEq] at z9 <;> omega)
  have hF : fr (pT i) w0 w6 := hF.tr (hf9.up (fun t9 h9 => by simp only [pO, pN, pK, pT] at h9 ⊢; first | exact h9 | (subst h9; simp) | (rcases h9 with h9 | h9 <;> subst h9 <;> simp)))
  obtain ⟨hT, ⟨fs9, hS1, hs1⟩, ⟨fd9, hS2, hs2⟩, ⟨fk9, hS3, hs3⟩, hS4, hS5, ⟨hm, hmn⟩, hK⟩ := id hM
  obtain ⟨tz3, hkz3, hsz3⟩ := hM.kite (k := l) (by omega)
  refine k_putNW hx hb hts in_X3 tyX3 tyX3_ok nmX3 hown hG hP hS hkz3 rfl 7 (by decide) (hG.2.1.1 _ q161 rfl) (fun _ h9 => h9) rfl (ty := (.object "KiteRoofs$State")) (v := .ref q60) rfl rfl rfl (Nat.le_of_ble_eq_true rfl) dX2_cut_82 (fun w7 H locs h9 hf9 hP hS => ?_)
  have h60 : w7 q60 = some ((0, 0), .inr (6, [.int (g 20), .int (nI c9), .int ((tFd g0 l mn).2.2.1)])) := hf9 _ _ _ h60 (by intro z9; simp only [pO, pN, pK, pT, Prod.mk.injEq] at z9 <;> omega)
  have hM : townR E w7 i A (tZs (cS1 g l (tBl g l c9) ((g (kO l 5)) - (tBl g l c9))) l ((g (kO l 13)) + ((g (kO l 5)) - (tBl g l c9))) (g 20) (nI c9) ((tFd g0 l mn).2.2.1)) mn wn ly := hM.st hi0 (by omega) hf9 h9 (fun j hj => tZs_lo hj) (fun j hj => tZs_ne hj) tZs_c (tZs_s h60)
  have hF : fr (pT i) w0 w7 := hF.tr (fr_OT hf9)
  obtain ⟨hT, ⟨fs9, hS1, hs1⟩, ⟨fd9, hS2, hs2⟩, ⟨fk9, hS3, hs3⟩, hS4, hS5, ⟨hm, hmn⟩, hK⟩ := id hM
  refine lv_aload_n hx hb dX2_cut_85 rfl (lv_at hl 3 rfl) ?_
  refine k_get hx hb hts in_X2 hown hG hP hT rfl 2 (by decide) (hts _ q184) (fun _ h9 => h9) (v := .ref (A 3)) rfl dX2_cut_86 ?_
  refine lv_aload_n hx hb dX2_cut_89 rfl (lv_at hl 3 rfl) ?_
  refine lv_iload_n hx hb dX2_cut_90 rfl (lv_at hl 4 rfl) ?_
  refine k_cV hx hb hml hown hts (CX2_cutter l0 E w7 i A (tZs (cS1 g l (tBl g l c9) ((g (kO l 5)) - (tBl g l c9))) l ((g (kO l 13)) + ((g (kO l 5)) - (tBl g l c9))) (g 20) (nI c9) ((tFd g0 l mn).2.2.1)) mn wn ly l g0 (by omega) (by omega) hM) (cwV 1 hts (lw_V q1028 q1030 qs21 q70 q1031) rfl rfl rfl dyX2_cutter ⟨Nat.le_of_ble_eq_true rfl, Nat.le_of_ble_eq_true rfl⟩) hG hP hS hT rfl (As := [.int (nI l)]) (rest := [.ref (A 3)]) rfl hl.1 rfl (lv_room (Nat.le_of_ble_eq_true rfl)) dX2_cut_91 ⟨show (0 + 1) + 0 ≤ 1 from by omega, show (0 + 3) + 0 ≤ 3 from by omega⟩ (fun r9 w9 H locs hp hP hS => ?_)
  obtain ⟨hp1, hp0⟩ := hp
  rw [hp1] at hP
  rw [hp0]
  show W p l0 e rmCX2_cut s m args below meth c H locs (0 + 1) (0 + 3) Q (F0 m 94 ls [.int (nI (kB g0 l mn)), .ref (A 3)])
  refine k_aald hx hb hG hP (j := kB g0 l mn) 4 hS3 rfl (by omega) (show kB g0 l mn < 6 from by omega) dX2_cut_94 ?_
  rw [hs3 (kB g0 l mn) (by omega)]
  refine lv_dup hx hb dX2_cut_95 rfl ?_
  obtain ⟨tz4, hkz4, hsz4⟩ := hM.kite (k := (kB g0 l mn)) (by omega)
  refine k_getN hx hb hts in_X3 hown hG hP hkz4 rfl 6 (by decide) (hG.2.1.1 _ q158 rfl) (fun _ h9 => h9) (v := .int ((tZs (cS1 g l (tBl g l c9) ((g (kO l 5)) - (tBl g l c9))) l ((g (kO l 13)) + ((g (kO l 5)) - (tBl g l c9))) (g 20) (nI c9) ((tFd g0 l mn).2.2.1)) (kO (kB g0 l mn) 8))) rfl dX2_cut_96 ?_
  refine k_top (y := (g (kO (kB g0 l mn) 8))) (tZs_8.trans cS1_8) ?_
  refine lv_bipush (v := 10) hx hb dX2_cut_99 (by decide) ?_
  refine lv_iadd hx hb dX2_cut_101 ?_
  refine k_putNW hx hb hts in_X3 tyX3 tyX3_ok nmX3 hown hG hP hS hkz4 rfl 6 (by decide) (hG.2.1.1 _ q158 rfl) (fun _ h9 => h9) rfl (ty := .int) (v := .int ((g (kO (kB g0 l mn) 8)) + 10)) rfl rfl rfl (Nat.le_of_ble_eq_true rfl) dX2_cut_102 (fun w8 H locs h9 hf9 hP hS => ?_)
  have h9 : w8 (A (6 + (kB g0 l mn))) = some ((i, 6 + (kB g0 l mn)), .inr (3, kF E (va_up (kv (tZs (cS1 g l (tBl g l c9) ((g (kO l 5)) - (tBl g l c9))) l ((g (kO l 13)) + ((g (kO l 5)) - (tBl g l c9))) (g 20) (nI c9) ((tFd g0 l mn).2.2.1)) (kB g0 l mn)) 8 ((g (kO (kB g0 l mn) 8)) + 10)) tz4)) := h9
  have h60 : w8 q60 = some ((0, 0), .inr (6, [.int (g 20), .int (nI c9), .int ((tFd g0 l mn).2.2.1)])) := hf9 _ _ _ h60 (by intro z9; simp only [pO, pN, pK, pT, Prod.mk.injEq] at z9 <;> omega)
  have hM : townR E w8 i A (va_up (tZs (cS1 g l (tBl g l c9) ((g (kO l 5)) - (tBl g l c9))) l ((g (kO l 13)) + ((g (kO l 5)) - (tBl g l c9))) (g 20) (nI c9) ((tFd g0 l mn).2.2.1)) (kO (kB g0 l mn) 8) ((g (kO (kB g0 l mn) 8)) + 10)) mn wn ly := hM.kup hi0 (k := (kB g0 l mn)) (by omega) (fr_K hf9) (kR.put hsz4 hi0 (by omega) hf9 h9 rfl rfl rfl rfl rfl rfl) (fun _ => (kv_eq (by decide)).symm) (fun j hj => up_n (kO_lo hj)) (fun j _ hj => kv_ne hj (by decide))
  have hF : fr (pT i) w0 w8 := hF.tr (fr_OT hf9)
  obtain ⟨hT, ⟨fs9, hS1, hs1⟩, ⟨fd9, hS2, hs2⟩, ⟨fk9, hS3, hs3⟩, hS4, hS5, ⟨hm, hmn⟩, hK⟩ := id hM
  refine lv_aload_n hx hb dX2_cut_105 rfl (lv_at hl 3 rfl) ?_
  refine lv_dup hx hb dX2_cut_106 rfl ?_
  refine k_get hx hb hts in_X2 hown hG hP hT rfl 8 (by decide) (hts _ q196) (fun _ h9 => h9) (v := .int ((va_up (tZs (cS1 g l (tBl g l c9) ((g (kO l 5)) - (tBl g l c9))) l ((g (kO l 13)) + ((g (kO l 5)) - (tBl g l c9))) (g 20) (nI c9) ((tFd g0 l mn).2.2.1)) (kO (kB g0 l mn) 8) ((g (kO (kB g0 l mn) 8)) + 10)) 24)) rfl dX2_cut_107 ?_
  refine k_top (y := (g 24)) ((up_n (kO_lo (by decide))).trans ((tZs_lo (by decide)).trans cS1_24)) ?_
  refine lv_iconst (v := 1) hx hb dX2_cut_110 (by decide) ?_
  refine lv_iadd hx hb dX2_cut_111 ?_
  refine k_putW hx hb hts in_X2 tyX2 tyX2_ok nmX2 hown hG hP hS hT rfl 8 (by decide) (hts _ q196) (fun _ h9 => h9) rfl (ty := .int) (v := .int ((g 24) + 1)) rfl rfl rfl (Nat.le_of_ble_eq_true rfl) dX2_cut_112 (fun w9 H locs h9 hf9 hP hS => ?_)
  have h9 : w9 (A 0) = some ((i, 0), .inr (2, tnF A (va_up (va_up (tZs (cS1 g l (tBl g l c9) ((g (kO l 5)) - (tBl g l c9))) l ((g (kO l 13)) + ((g (kO l 5)) - (tBl g l c9))) (g 20) (nI c9) ((tFd g0 l mn).2.2.1)) (kO (kB g0 l mn) 8) ((g (kO (kB g0 l mn) 8)) + 10)) 24 ((g 24) + 1)) mn)) := h9
  have h60 : w9 q60 = some ((0, 0), .inr (6, [.int (g 20), .int (nI c9), .int ((tFd g0 l mn).2.2.1)])) := hf9 _ _ _ h60 (by intro z9; simp only [pO, pN, pK, pT, Prod.mk.injEq] at z9 <;> omega)
  have hM : townR E w9 i A (va_up (va_up (tZs (cS1 g l (tBl g l c9) ((g (kO l 5)) - (tBl g l c9))) l ((g (kO l 13)) + ((g (kO l 5)) - (tBl g l c9))) (g 20) (nI c9) ((tFd g0 l mn).2.2.1)) (kO (kB g0 l mn) 8) ((g (kO (kB g0 l mn) 8)) + 10)) 24 ((g 24) + 1)) mn wn ly := hM.scal hi0 hf9 h9 (fun j hj => up_n (by omega))
  have hF : fr (pT i) w0 w9 := hF.tr (fr_OT hf9)
  obtain ⟨hT, ⟨fs9, hS1, hs1⟩, ⟨fd9, hS2, hs2⟩, ⟨fk9, hS3, hs3⟩, hS4, hS5, ⟨hm, hmn⟩, hK⟩ := id hM
  exact k_vret hx hb hr hlocks hQ hP hS (by omega) (by omega) dX2_cut_115 (⟨trivial, ⟨hM.row tCt_eq, trivial⟩, hF⟩)
