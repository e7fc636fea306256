/-! THE COMPONENT, 14: quotients, undo, save, restore -/
set_option maxRecDepth 100000
abbrev rmCX1_meanTension : Room := { frames := 8, cells := 1, slots := 6, locals := 123 }
theorem dyX1_meanTension : yX1_meanTension.cls = RX1 ∧ yX1_meanTension.cls ≠ "java/lang/invoke/MethodHandle" ∧ yX1_meanTension.cls ≠ "java/lang/invoke/VarHandle" ∧ (parseMethodDescriptor yX1_meanTension.desc).map (fun d => d.parameters.length) = some 0 := by decide +kernel
set_option maxHeartbeats 4000000 in
theorem CX1_meanTension (l0 : Launch) (hl0 : l0.stackTraces = false) (E : gE) (w : wd) (x : Nat) (A1 : Nat → Nat) (A2 : Nat → Nat) (A3 : Nat → Nat) (d : Nat) (b : Nat) (hs : Int32) (ft : Int32) (rf : Int32) (ro : Int32) (g : Nat → Int32) (mn : Nat) (wn : Nat → Int32) (ly : Nat → Int32) (N : Nat) (hI : gI g mn N) (hX : w x = some ((94, 0), .inr (1, [.ref (A1 0), .ref (A2 0), .ref (A3 0), .int hs, .ref d, .ref b, .int ft, .int rf, .int ro]))) (hM : townR E w 1 A1 g mn wn ly) : kX l0 yX1_meanTension (ws_ yX1_meanTension cX1_meanTension 2 (some .double)) rmCX1_meanTension 1 6 mD E w [.ref x] (fun r w' => w' = w ∧ ¬ tIn g 1 mn = 0 ∧ r = FP.ddiv (FP.i2d (tTn g mn)) (FP.i2d (tIn g 1 mn))) (fun X9 q9 w' => X9 = nAE ∧ w' = w ∧ tIn g 1 mn = 0) := by
  refine kx_open (cc := cX1_meanTension) (maxL := 2) (ret := (some .double)) (by decide) rfl (Nat.le_of_ble_eq_true rfl) ?_
  intro p e s m args below meth c ls Q hx hb hr hml hown hts hlocks hname ht hQ hG hP hl hS
  have hl : lv_has ls 2 [(0, .ref x)] := hl
  have hm6 := hM.m25
  obtain ⟨ku, hku, eu⟩ := tIn_nn (g := g) (st := 1) mn
  have hz9 : tIn g 1 mn ≤ 0 ↔ tIn g 1 mn = 0 := by rw [eu]; exact nI_z (by omega)
  refine lv_aload_n hx hb dX1_meanTension_0 rfl (lv_at hl 0 rfl) ?_
  refine k_get hx hb hts in_X1 hown hG hP hX rfl 0 (by decide) (hts _ q276) (fun _ h9 => h9) (v := .ref (A1 0)) rfl dX1_meanTension_1 ?_
  refine lv_iconst (v := 1) hx hb dX1_meanTension_4 (by decide) ?_
  have hT_1 := hM.1
  refine k_cV hx hb hml hown hts (CX2_inState l0 E w 1 A1 g mn wn ly 1 hM) (cwV 1 hts (lw_V q1528 q676 q677 q70 q678) rfl rfl rfl dyX2_inState ⟨Nat.le_of_ble_eq_true rfl, Nat.le_of_ble_eq_true rfl⟩) hG hP hS hT_1 rfl (As := [.int 1]) (rest := []) rfl hl.1 rfl (lv_room (Nat.le_of_ble_eq_true rfl)) dX1_meanTension_5 ⟨show 0 + 0 ≤ 1 from by omega, show 0 + 0 ≤ 6 from by omega⟩ (fun r9 w9 H locs hp hP hS => ?_)
  obtain ⟨hp1, hp0⟩ := hp
  rw [hp1] at hP
  rw [hp0]
  show W p l0 e rmCX1_meanTension s m args below meth c H locs 0 0 Q (F0 m 8 ls [.int (tIn g 1 mn)])
  refine lv_istore_n (lv' := [(1, .int (tIn g 1 mn)), (0, .ref x)]) hx hb dX1_meanTension_8 rfl hl (by decide) rfl (fun ls hl => ?_)
  refine lv_iload_n hx hb dX1_meanTension_9 rfl (lv_at hl 0 rfl) ?_
  refine lv_if_le (tgt := 17) hx hb dX1_meanTension_10 (by decide) (fun c10 => ?_) (fun c10 => ?_)
  · skip
    refine lv_iconst (v := 0) hx hb dX1_meanTension_17 (by decide) ?_
    refine kx_cS hx hb hml hown hts hQ ht hlocks (CX1_checkAny l0 hl0 E w false) (va_cwS 1 hts (lw_S q1559 q1560 q69 q1561) rfl rfl rfl dyX1_checkAny ⟨Nat.le_of_ble_eq_true rfl, Nat.le_of_ble_eq_true rfl⟩) hG hP hS (As := [.int 0]) (rest := []) rfl hl.1 rfl (lv_room (Nat.le_of_ble_eq_true rfl)) dX1_meanTension_18 ⟨show 0 + 1 ≤ 1 from by omega, show 0 + 6 ≤ 6 from by omega⟩ ⟨show 0 + 1 ≤ 1 from by omega, show 0 + 6 ≤ 6 from by omega⟩ (fun X9 q9 w9 h9 => ⟨h9.1, h9.2.1, hz9.mp c10⟩) (fun r9 w9 H locs hp hP hS => ?_)
    obtain ⟨hp1, hp0⟩ := hp
    rw [hp1] at hP
    show W p l0 e rmCX1_meanTension s m args below meth c H locs (0 + 1) (0 + 6) Q (F0 m 21 ls [])
    exact absurd hp0 (by decide)
  · skip
    have hne : ¬ tIn g 1 mn = 0 := fun e9 => c10 (hz9.mpr e9)
    refine lv_iconst (v := 1) hx hb dX1_meanTension_13 (by decide) ?_
    refine lv_goto (tgt := 18) hx hb dX1_meanTension_14 (by decide) ?_
    refine kx_cS hx hb hml hown hts hQ ht hlocks (CX1_checkAny l0 hl0 E w true) (va_cwS 1 hts (lw_S q1559 q1560 q69 q1561) rfl rfl rfl dyX1_checkAny ⟨Nat.le_of_ble_eq_true rfl, Nat.le_of_ble_eq_true rfl⟩) hG hP hS (As := [.int 1]) (rest := []) rfl hl.1 rfl (lv_room (Nat.le_of_ble_eq_true rfl)) dX1_meanTension_18 ⟨show 0 + 1 ≤ 1 from by omega, show 0 + 6 ≤ 6 from by omega⟩ ⟨show 0 + 1 ≤ 1 from by omega, show 0 + 6 ≤ 6 from by omega⟩ (fun X9 q9 w9 h9 => absurd h9.2.2 (by decide)) (fun r9 w9 H locs hp hP hS => ?_)
    obtain ⟨hp1, hp0⟩ := hp
    rw [hp1] at hP
    show W p l0 e rmCX1_meanTension s m args below meth c H locs (0 + 1) (0 + 6) Q (F0 m 21 ls [])
    refine lv_aload_n hx hb dX1_meanTension_21 rfl (lv_at hl 1 rfl) ?_
    refine k_get hx hb hts in_X1 hown hG hP hX rfl 0 (by decide) (hts _ q276) (fun _ h9 => h9) (v := .ref (A1 0)) rfl dX1_meanTension_22 ?_
    refine k_cV hx hb hml hown hts (CX2_tensions l0 E w 1 A1 g mn wn ly N hI hM) (cwV 0 hts (lw_V q1567 q1568 q1569 q70 q1570) rfl rfl rfl dyX2_tensions ⟨Nat.le_of_ble_eq_true rfl, Nat.le_of_ble_eq_true rfl⟩) hG hP hS hT_1 rfl (As := []) (rest := []) rfl hl.1 rfl (lv_room (Nat.le_of_ble_eq_true rfl)) dX1_meanTension_25 ⟨show (0 + 1) + 0 ≤ 1 from by omega, show (0 + 6) + 0 ≤ 6 from by omega⟩ (fun r9 w9 H locs hp hP hS => ?_)
    obtain ⟨hp1, hp0⟩ := hp
    rw [hp1] at hP
    rw [hp0]
    show W p l0 e rmCX1_meanTension s m args below meth c H locs (0 + 1) (0 + 6) Q (F0 m 28 ls [.int (tTn g mn)])
    refine lv_i2d hx hb dX1_meanTension_28 ?_
    refine lv_iload_n hx hb dX1_meanTension_29 rfl (lv_at hl 0 rfl) ?_
    refine lv_i2d hx hb dX1_meanTension_30 ?_
    refine lv_ddiv hx hb dX1_meanTension_31 (fl_d hne) ?_
    exact kx_dret hx hb hr hlocks hQ hP hS (by omega) (by omega) dX1_meanTension_32 (⟨rfl, ⟨hne, rfl⟩⟩)

abbrev rmCX1_outShare : Room := { frames := 8, cells := 1, slots := 6, locals := 120 }
theorem dyX1_outShare : yX1_outShare.cls = RX1 ∧ yX1_outShare.cls ≠ "java/lang/invoke/MethodHandle" ∧ yX1_outShare.cls ≠ "java/lang/invoke/VarHandle" ∧ (parseMethodDescriptor yX1_outShare.desc).map (fun d => d.parameters.length) = some 0 := by decide +kernel
set_option maxHeartbeats 4000000 in
theorem CX1_outShare (l0 : Launch) (hl0 : l0.stackTraces = false) (E : gE) (w : wd) (x : Nat) (A1 : Nat → Nat) (A2 : Nat → Nat) (A3 : Nat → Nat) (d : Nat) (b : Nat) (hs : Int32) (ft : Int32) (rf : Int32) (ro : Int32) (g : Nat → Int32) (mn : Nat) (wn : Nat → Int32) (ly : Nat → Int32) (N : Nat) (hI : gI g mn N) (hX : w x = some ((94, 0), .inr (1, [.ref (A1 0), .ref (A2 0), .ref (A3 0), .int hs, .ref d, .ref b, .int ft, .int rf, .int ro]))) (hM : townR E w 1 A1 g mn wn ly) : kX l0 yX1_outShare (ws_ yX1_outShare cX1_outShare 2 (some .float)) rmCX1_outShare 1 6 mF E w [.ref x] (fun r w' => w' = w ∧ ¬ tSu g 3 mn = 0 ∧ r = FP.fdiv (FP.i2f (tSu g 5 mn)) (FP.i2f (tSu g 3 mn))) (fun X9 q9 w' => X9 = nAE ∧ w' = w ∧ tSu g 3 mn = 0) := by
  refine kx_open (cc := cX1_outShare) (maxL := 2) (ret := (some .float)) (by decide) rfl (Nat.le_of_ble_eq_true rfl) ?_
  intro p e s m args below meth c ls Q hx hb hr hml hown hts hlocks hname ht hQ hG hP hl hS
  have hl : lv_has ls 2 [(0, .ref x)] := hl
  have hm6 := hM.m25
  obtain ⟨k3, hk3, e3⟩ := tSu_nn hI (Or.inl rfl) mn (Nat.le_refl _)
  obtain ⟨k5, hk5, e5⟩ := tSu_nn hI (Or.inr rfl) mn (Nat.le_refl _)
  have hb3 : (tSu g 3 mn).toInt.natAbs < 16777216 := by rw [e3, nI_toInt (by omega)]; omega
  have hb5 : (tSu g 5 mn).toInt.natAbs < 16777216 := by rw [e5, nI_toInt (by omega)]; omega
  have hz9 : tSu g 3 mn ≤ 0 ↔ tSu g 3 mn = 0 := by rw [e3]; exact nI_z (by omega)
  refine lv_aload_n hx hb dX1_outShare_0 rfl (lv_at hl 0 rfl) ?_
  refine k_get hx hb hts in_X1 hown hG hP hX rfl 0 (by decide) (hts _ q276) (fun _ h9 => h9) (v := .ref (A1 0)) rfl dX1_outShare_1 ?_
  have hT_1 := hM.1
  refine k_cV hx hb hml hown hts (CX2_spools l0 E w 1 A1 g mn wn ly hM) (cwV 0 hts (lw_V q1578 q1579 q1580 q70 q1581) rfl rfl rfl dyX2_spools ⟨Nat.le_of_ble_eq_true rfl, Nat.le_of_ble_eq_true rfl⟩) hG hP hS hT_1 rfl (As := []) (rest := []) rfl hl.1 rfl (lv_room (Nat.le_of_ble_eq_true rfl)) dX1_outShare_4 ⟨show 0 + 0 ≤ 1 from by omega, show 0 + 0 ≤ 6 from by omega⟩ (fun r9 w9 H locs hp hP hS => ?_)
  obtain ⟨hp1, hp0⟩ := hp
  rw [hp1] at hP
  rw [hp0]
  show W p l0 e rmCX1_outShare s m args below meth c H locs 0 0 Q (F0 m 7 ls [.int (tSu g 3 mn)])
  refine lv_istore_n (lv' := [(1, .int (tSu g 3 mn)), (0, .ref x)]) hx hb dX1_outShare_7 rfl hl (by decide) rfl (fun ls hl => ?_)
  refine lv_iload_n hx hb dX1_outShare_8 rfl (lv_at hl 0 rfl) ?_
  refine lv_if_le (tgt := 16) hx hb dX1_outShare_9 (by decide) (fun c9 => ?_) (fun c9 => ?_)
  · skip
    refine lv_iconst (v := 0) hx hb dX1_outShare_16 (by decide) ?_
    refine kx_cS hx hb hml hown hts hQ ht hlocks (CX1_checkAny l0 hl0 E w false) (va_cwS 1 hts (lw_S q1559 q1560 q69 q1561) rfl rfl rfl dyX1_checkAny ⟨Nat.le_of_ble_eq_true rfl, Nat.le_of_ble_eq_true rfl⟩) hG hP hS (As := [.int 0]) (rest := []) rfl hl.1 rfl (lv_room (Nat.le_of_ble_eq_true rfl)) dX1_outShare_17 ⟨show 0 + 1 ≤ 1 from by omega, show 0 + 6 ≤ 6 from by omega⟩ ⟨show 0 + 1 ≤ 1 from by omega, show 0 + 6 ≤ 6 from by omega⟩ (fun X9 q9 w9 h9 => ⟨h9.1, h9.2.1, hz9.mp c9⟩) (fun r9 w9 H locs hp hP hS => ?_)
    obtain ⟨hp1, hp0⟩ := hp
    rw [hp1] at hP
    show W p l0 e rmCX1_outShare s m args below meth c H locs (0 + 1) (0 + 6) Q (F0 m 20 ls [])
    exact absurd hp0 (by decide)
  · skip
    have hne : ¬ tSu g 3 mn = 0 := fun e9 => c9 (hz9.mpr e9)
    refine lv_iconst (v := 1) hx hb dX1_outShare_12 (by decide) ?_
    refine lv_goto (tgt := 17) hx hb dX1_outShare_13 (by decide) ?_
    refine kx_cS hx hb hml hown hts hQ ht hlocks (CX1_checkAny l0 hl0 E w true) (va_cwS 1 hts (lw_S q1559 q1560 q69 q1561) rfl rfl rfl dyX1_checkAny ⟨Nat.le_of_ble_eq_true rfl, Nat.le_of_ble_eq_true rfl⟩) hG hP hS (As := [.int 1]) (rest := []) rfl hl.1 rfl (lv_room (Nat.le_of_ble_eq_true rfl)) dX1_outShare_17 ⟨show 0 + 1 ≤ 1 from by omega, show 0 + 6 ≤ 6 from by omega⟩ ⟨show 0 + 1 ≤ 1 from by omega, show 0 + 6 ≤ 6 from by omega⟩ (fun X9 q9 w9 h9 => absurd h9.2.2 (by decide)) (fun r9 w9 H locs hp hP hS => ?_)
    obtain ⟨hp1, hp0⟩ := hp
    rw [hp1] at hP
    show W p l0 e rmCX1_outShare s m args below meth c H locs (0 + 1) (0 + 6) Q (F0 m 20 ls [])
    refine lv_aload_n hx hb dX1_outShare_20 rfl (lv_at hl 1 rfl) ?_
    refine k_get hx hb hts in_X1 hown hG hP hX rfl 0 (by decide) (hts _ q276) (fun _ h9 => h9) (v := .ref (A1 0)) rfl dX1_outShare_21 ?_
    refine k_cV hx hb hml hown hts (CX2_out l0 E w 1 A1 g mn wn ly N hI hM) (cwV 0 hts (lw_V q1529 q317 q318 q70 q319) rfl rfl rfl dyX2_out ⟨Nat.le_of_ble_eq_true rfl, Nat.le_of_ble_eq_true rfl⟩) hG hP hS hT_1 rfl (As := []) (rest := []) rfl hl.1 rfl (lv_room (Nat.le_of_ble_eq_true rfl)) dX1_outShare_24 ⟨show (0 + 1) + 0 ≤ 1 from by omega, show (0 + 6) + 0 ≤ 6 from by omega⟩ (fun r9 w9 H locs hp hP hS => ?_)
    obtain ⟨hp1, hp0⟩ := hp
    rw [hp1] at hP
    rw [hp0]
    show W p l0 e rmCX1_outShare s m args below meth c H locs (0 + 1) (0 + 6) Q (F0 m 27 ls [.int (tSu g 5 mn)])
    refine lv_i2f hx hb dX1_outShare_27 ?_
    refine lv_iload_n hx hb dX1_outShare_28 rfl (lv_at hl 0 rfl) ?_
    refine lv_i2f hx hb dX1_outShare_29 ?_
    refine lv_fdiv hx hb dX1_outShare_30 (fl_f hne hb5 hb3) ?_
    exact kx_fret hx hb hr hlocks hQ hP hS (by omega) (by omega) dX1_outShare_31 (⟨rfl, ⟨hne, rfl⟩⟩)

abbrev rmCX1_save : Room := { frames := 5, cells := 6, slots := 12, locals := 119 }
theorem dyX1_save : yX1_save.cls = RX1 ∧ yX1_save.cls ≠ "java/lang/invoke/MethodHandle" ∧ yX1_save.cls ≠ "java/lang/invoke/VarHandle" ∧ (parseMethodDescriptor yX1_save.desc).map (fun d => d.parameters.length) = some 0 := by decide +kernel
set_option maxHeartbeats 4000000 in
theorem CX1_save (l0 : Launch) (E : gE) (w : wd) (x : Nat) (A1 : Nat → Nat) (A2 : Nat → Nat) (A3 : Nat → Nat) (d : Nat) (b : Nat) (hs : Int32) (ft : Int32) (rf : Int32) (ro : Int32) (g : Nat → Int32) (mn : Nat) (wn : Nat → Int32) (ly : Nat → Int32) (u3 : Nat → Int32) (m3 : Nat) (wb3 : Nat → Int32) (lb3 : Nat → Int32) (hX : w x = some ((94, 0), .inr (1, [.ref (A1 0), .ref (A2 0), .ref (A3 0), .int hs, .ref d, .ref b, .int ft, .int rf, .int ro]))) (hM : townR E w 1 A1 g mn wn ly) (hM3 : townR E w 3 A3 u3 m3 wb3 lb3) : kC l0 yX1_save (ws_ yX1_save cX1_save 1 (some .int)) rmCX1_save 6 12 mI E w [.ref x] (fun r w' => (r = (g 20)) ∧ (w' x = some ((94, 0), .inr (1, [.ref (A1 0), .ref (A2 0), .ref (A3 0), .int 1, .ref d, .ref b, .int ft, .int rf, .int ro])) ∧ townR E w' 3 A3 g mn wb3 lb3 ∧ True) ∧ fr pXs w w') := by
  refine k_open (cc := cX1_save) (maxL := 1) (ret := (some .int)) (by decide) rfl (Nat.le_of_ble_eq_true rfl) ?_
  intro p e s m args below meth c ls Q hx hb hr hml hown hts hlocks hname hQ hG hP hl hS
  have hl : lv_has ls 1 [(0, .ref x)] := hl
  obtain ⟨w0, hw0⟩ : ∃ z, z = w := ⟨_, rfl⟩
  have hF : fr pXs w0 w := by rw [hw0]; exact fr.rf
  rw [← hw0] at hQ
  refine lv_aload_n hx hb dX1_save_0 rfl (lv_at hl 0 rfl) ?_
  refine k_get hx hb hts in_X1 hown hG hP hX rfl 2 (by decide) (hts _ q278) (fun _ h9 => h9) (v := .ref (A3 0)) rfl dX1_save_1 ?_
  refine lv_aload_n hx hb dX1_save_4 rfl (lv_at hl 0 rfl) ?_
  refine k_get hx hb hts in_X1 hown hG hP hX rfl 0 (by decide) (hts _ q276) (fun _ h9 => h9) (v := .ref (A1 0)) rfl dX1_save_5 ?_
  have hT_1 := hM3.1
  refine k_cV hx hb hml hown hts (CX2_take l0 E w 3 A3 u3 m3 wb3 lb3 1 A1 g mn wn ly (by omega) (by omega) (by omega) (by omega) (by omega) hM3 hM) (cwV 1 hts (lw_V q329 q330 q331 q70 q332) rfl rfl rfl dyX2_take ⟨Nat.le_of_ble_eq_true rfl, Nat.le_of_ble_eq_true rfl⟩) hG hP hS hT_1 rfl (As := [.ref (A1 0)]) (rest := []) rfl hl.1 rfl (lv_room (Nat.le_of_ble_eq_true rfl)) dX1_save_8 ⟨show 0 + 6 ≤ 6 from by omega, show 0 + 12 ≤ 12 from by omega⟩ (fun r8 w1 H locs hp hP hS => ?_)
  obtain ⟨hp0, ⟨hM3', -⟩, hf9⟩ := hp
  have hX : w1 x = some ((94, 0), .inr (1, [.ref (A1 0), .ref (A2 0), .ref (A3 0), .int hs, .ref d, .ref b, .int ft, .int rf, .int ro])) := hf9 _ _ _ hX (by intro z9; first | (simp only [pO, pN, pD, pKp, pT, pB, pS, pR, pRd, pRo, Prod.mk.injEq, pX1, pX2, pXs, pX2t] at z9; done) | (simp only [pO, pN, pD, pKp, pT, pB, pS, pR, pRd, pRo, Prod.mk.injEq, pX1, pX2, pXs, pX2t] at z9; omega))
  have hM : townR E w1 1 A1 g mn wn ly := hM.frm hf9 (by intro z9; first | (simp only [pO, pN, pD, pKp, pT, pB, pS, pR, pRd, pRo, Prod.mk.injEq, pX1, pX2, pXs, pX2t] at z9; done) | (simp only [pO, pN, pD, pKp, pT, pB, pS, pR, pRd, pRo, Prod.mk.injEq, pX1, pX2, pXs, pX2t] at z9; omega)) (fun r9 => (by intro z9; first | (simp only [pO, pN, pD, pKp, pT, pB, pS, pR, pRd, pRo, Prod.mk.injEq, pX1, pX2, pXs, pX2t] at z9; done) | (simp only [pO, pN, pD, pKp, pT, pB, pS, pR, pRd, pRo, Prod.mk.injEq, pX1, pX2, pXs, pX2t] at z9; omega)))
  have hF : fr pXs w0 w1 := hF.tr (hf9.up (fun t9 h9 => by simp only [pO, pN, pD, pKp, pT, pB, pS, pR, pX1, pX2, pXs, pX2t] at h9 ⊢; first | exact h9 | (subst h9; simp; done) | (subst h9; simp; omega) | omega | (rcases h9 with h9 | h9 <;> first | (subst h9; simp; done) | (subst h9; simp; omega) | omega)))
  have hM3 : townR E w1 3 A3 g mn wb3 lb3 := hM3'
  show W p l0 e rmCX1_save s m args below meth c H locs (0 + 6) (0 + 12) Q (F0 m 11 ls [])
  refine lv_aload_n hx hb dX1_save_11 rfl (lv_at hl 0 rfl) ?_
  refine lv_iconst (v := 1) hx hb dX1_save_12 (by decide) ?_
  refine k_putW hx hb hts in_X1 tyX1 tyX1_ok nmX1 hown hG hP hS hX rfl 3 (by decide) (hts _ q279) (fun _ h9 => h9) rfl (ty := .boolean) (v := .int 1) rfl rfl rfl (Nat.le_of_ble_eq_true rfl) dX1_save_13 (fun w2 H locs h9 hf9 hP hS => ?_)
  have hX : w2 x = some ((94, 0), .inr (1, [.ref (A1 0), .ref (A2 0), .ref (A3 0), .int 1, .ref d, .ref b, .int ft, .int rf, .int ro])) := h9
  have hM : townR E w2 1 A1 g mn wn ly := hM.frm hf9 (by intro z9; first | (simp only [pO, pN, pD, pKp, pT, pB, pS, pR, pRd, pRo, Prod.mk.injEq, pX1, pX2, pXs, pX2t] at z9; done) | (simp only [pO, pN, pD, pKp, pT, pB, pS, pR, pRd, pRo, Prod.mk.injEq, pX1, pX2, pXs, pX2t] at z9; omega)) (fun r9 => (by intro z9; first | (simp only [pO, pN, pD, pKp, pT, pB, pS, pR, pRd, pRo, Prod.mk.injEq, pX1, pX2, pXs, pX2t] at z9; done) | (simp only [pO, pN, pD, pKp, pT, pB, pS, pR, pRd, pRo, Prod.mk.injEq, pX1, pX2, pXs, pX2t] at z9; omega)))
  have hM3 : townR E w2 3 A3 g mn wb3 lb3 := hM3.frm hf9 (by intro z9; first | (simp only [pO, pN, pD, pKp, pT, pB, pS, pR, pRd, pRo, Prod.mk.injEq, pX1, pX2, pXs, pX2t] at z9; done) | (simp only [pO, pN, pD, pKp, pT, pB, pS, pR, pRd, pRo, Prod.mk.injEq, pX1, pX2, pXs, pX2t] at z9; omega)) (fun r9 => (by intro z9; first | (simp only [pO, pN, pD, pKp, pT, pB, pS, pR, pRd, pRo, Prod.mk.injEq, pX1, pX2, pXs, pX2t] at z9; done) | (simp only [pO, pN, pD, pKp, pT, pB, pS, pR, pRd, pRo, Prod.mk.injEq, pX1, pX2, pXs, pX2t] at z9; omega)))
  have hF : fr pXs w0 w2 := hF.tr (hf9.up (fun t9 h9 => by simp only [pO, pN, pD, pKp, pT, pB, pS, pR, pX1, pX2, pXs, pX2t] at h9 ⊢; first | exact h9 | (subst h9; simp; done) | (subst h9; simp; omega) | omega | (rcases h9 with h9 | h9 <;> first | (subst h9; simp; done) | (subst h9; simp; omega) | omega)))
  refine lv_aload_n hx hb dX1_save_16 rfl (lv_at hl 0 rfl) ?_
  refine k_get hx hb hts in_X1 hown hG hP hX rfl 0 (by decide) (hts _ q276) (fun _ h9 => h9) (v := .ref (A1 0)) rfl dX1_save_17 ?_
  have hT_2 := hM.1
  refine k_getN hx hb hts in_X2 hown hG hP hT_2 rfl 4 (by decide) (hG.2.1.1 _ q189 rfl) (fun _ h9 => h9) (v := .int (g 20)) rfl dX1_save_20 ?_
  exact k_iret hx hb hr hlocks hQ hP hS (by omega) (by omega) dX1_save_23 (⟨rfl, ⟨hX, hM3, trivial⟩, hF⟩)

abbrev rmCX1_restore : Room := { frames := 8, cells := 7, slots := 18, locals := 120 }
theorem dyX1_restore : yX1_restore.cls = RX1 ∧ yX1_restore.cls ≠ "java/lang/invoke/MethodHandle" ∧ yX1_restore.cls ≠ "java/lang/invoke/VarHandle" ∧ (parseMethodDescriptor yX1_restore.desc).map (fun d => d.parameters.length) = some 0 := by decide +kernel
set_option maxHeartbeats 4000000 in
theorem CX1_restore (l0 : Launch) (hl0 : l0.stackTraces = false) (E : gE) (w : wd) (x : Nat) (A1 : Nat → Nat) (A2 : Nat → Nat) (A3 : Nat → Nat) (d : Nat) (b : Nat) (ft : Int32) (rf : Int32) (ro : Int32) (zs : Bool) (g : Nat → Int32) (mn : Nat) (wn : Nat → Int32) (ly : Nat → Int32) (u3 : Nat → Int32) (m3 : Nat) (wb3 : Nat → Int32) (lb3 : Nat → Int32) (cn : Nat) (I : Nat → Nat) (K : Nat → Nat → Int32) (mk : Nat → Nat) (hX : w x = some ((94, 0), .inr (1, [.ref (A1 0), .ref (A2 0), .ref (A3 0), .int (bI zs), .ref d, .ref b, .int ft, .int rf, .int ro]))) (hM : townR E w 1 A1 g mn wn ly) (hM3 : townR E w 3 A3 u3 m3 wb3 lb3) (hK : kpR E w d cn I K mk) : kX l0 yX1_restore (ws_ yX1_restore cX1_restore 1 (some .int)) rmCX1_restore 7 18 mI E w [.ref x] (fun r w' => (zs = true ∧ r = u3 20) ∧ (townR E w' 1 A1 u3 m3 wn ly ∧ kpR E w' d 0 I K mk ∧ True) ∧ fr pX1 w w') (fun X9 q9 w' => X9 = nIS ∧ w' = w ∧ zs = false) := by
  refine kx_open (cc := cX1_restore) (maxL := 1) (ret := (some .int)) (by decide) rfl (Nat.le_of_ble_eq_true rfl) ?_
  intro p e s m args below meth c ls Q hx hb hr hml hown hts hlocks hname ht hQ hG hP hl hS
  have hl : lv_has ls 1 [(0, .ref x)] := hl
  obtain ⟨w0, hw0⟩ : ∃ z, z = w := ⟨_, rfl⟩
  have hF : fr pX1 w0 w := by rw [hw0]; exact fr.rf
  rw [← hw0] at hQ
  obtain ⟨q, hd, f, As, ⟨⟨hhd, hc8⟩, hI9⟩, ⟨hD, hA⟩, hf8, hKt⟩ := hK
  have htl : (hd + cn) % 17 < 17 := by omega
  refine lv_aload_n hx hb dX1_restore_0 rfl (lv_at hl 0 rfl) ?_
  refine k_get hx hb hts in_X1 hown hG hP hX rfl 3 (by decide) (hts _ q279) (fun _ h9 => h9) (v := .int (bI zs)) rfl dX1_restore_1 ?_
  refine kx_cS hx hb hml hown hts hQ ht hlocks (CX1_checkState l0 hl0 E w zs) (va_cwS 1 hts (lw_S q1084 q1085 q69 q1086) rfl rfl rfl dyX1_checkState ⟨Nat.le_of_ble_eq_true rfl, Nat.le_of_ble_eq_true rfl⟩) hG hP hS (As := [.int (bI zs)]) (rest := []) rfl hl.1 rfl (lv_room (Nat.le_of_ble_eq_true rfl)) dX1_restore_4 ⟨show 0 + 1 ≤ 7 from by omega, show 0 + 6 ≤ 18 from by omega⟩ ⟨show 0 + 1 ≤ 7 from by omega, show 0 + 6 ≤ 18 from by omega⟩ (fun X9 q9 w9 h9 => ⟨h9.1, h9.2.1.trans hw0.symm, h9.2.2⟩) (fun r9 w9 H locs hp hP hS => ?_)
  obtain ⟨hp1, hp0⟩ := hp
  rw [hp1] at hP
  have hz9 := hp0
  show W p l0 e rmCX1_restore s m args below meth c H locs (0 + 1) (0 + 6) Q (F0 m 7 ls [])
  refine lv_aload_n hx hb dX1_restore_7 rfl (lv_at hl 0 rfl) ?_
  refine k_get hx hb hts in_X1 hown hG hP hX rfl 0 (by decide) (hts _ q276) (fun _ h9 => h9) (v := .ref (A1 0)) rfl dX1_restore_8 ?_
  refine lv_aload_n hx hb dX1_restore_11 rfl (lv_at hl 0 rfl) ?_
  refine k_get hx hb hts in_X1 hown hG hP hX rfl 2 (by decide) (hts _ q278) (fun _ h9 => h9) (v := .ref (A3 0)) rfl dX1_restore_12 ?_
  have hT_1 := hM.1
  refine k_cV hx hb hml hown hts (CX2_take l0 E w 1 A1 g mn wn ly 3 A3 u3 m3 wb3 lb3 (by omega) (by omega) (by omega) (by omega) (by omega) hM hM3) (cwV 1 hts (lw_V q329 q330 q331 q70 q332) rfl rfl rfl dyX2_take ⟨Nat.le_of_ble_eq_true rfl, Nat.le_of_ble_eq_true rfl⟩) hG hP hS hT_1 rfl (As := [.ref (A3 0)]) (rest := []) rfl hl.1 rfl (lv_room (Nat.le_of_ble_eq_true rfl)) dX1_restore_15 ⟨show (0 + 1) + 6 ≤ 7 from by omega, show (0 + 6) + 12 ≤ 18 from by omega⟩ (fun r15 w1 H locs hp hP hS => ?_)
  obtain ⟨hp0, ⟨hM', -⟩, hf9⟩ := hp
  have hX : w1 x = some ((94, 0), .inr (1, [.ref (A1 0), .ref (A2 0), .ref (A3 0), .int (bI zs), .ref d, .ref b, .int ft, .int rf, .int ro])) := hf9 _ _ _ hX (by intro z9; first | (simp only [pO, pN, pD, pKp, pT, pB, pS, pR, pRd, pRo, Prod.mk.injEq, pX1, pX2, pXs, pX2t] at z9; done) | (simp only [pO, pN, pD, pKp, pT, pB, pS, pR, pRd, pRo, Prod.mk.injEq, pX1, pX2, pXs, pX2t] at z9; omega))
  have hM3 : townR E w1 3 A3 u3 m3 wb3 lb3 := hM3.frm hf9 (by intro z9; first | (simp only [pO, pN, pD, pKp, pT, pB, pS, pR, pRd, pRo, Prod.mk.injEq, pX1, pX2, pXs, pX2t] at z9; done) | (simp only [pO, pN, pD, pKp, pT, pB, pS, pR, pRd, pRo, Prod.mk.injEq, pX1, pX2, pXs, pX2t] at z9; omega)) (fun r9 => (by intro z9; first | (simp only [pO, pN, pD, pKp, pT, pB, pS, pR, pRd, pRo, Prod.mk.injEq, pX1, pX2, pXs, pX2t] at z9; done) | (simp only [pO, pN, pD, pKp, pT, pB, pS, pR, pRd, pRo, Prod.mk.injEq, pX1, pX2, pXs, pX2t] at z9; omega)))
  have hD : w1 d = some ((95, 0), .inr (14, [.ref q, .int (nI hd), .int (nI ((hd + cn) % 17))])) := hf9 _ _ _ hD (by intro z9; first | (simp only [pO, pN, pD, pKp, pT, pB, pS, pR, pRd, pRo, Prod.mk.injEq, pX1, pX2, pXs, pX2t] at z9; done) | (simp only [pO, pN, pD, pKp, pT, pB, pS, pR, pRd, pRo, Prod.mk.injEq, pX1, pX2, pXs, pX2t] at z9; omega))
  have hA : w1 q = some ((95, 1), .inl (eT E 6, 17, .inr (.inr (.inr (.inr f))))) := hf9 _ _ _ hA (by intro z9; first | (simp only [pO, pN, pD, pKp, pT, pB, pS, pR, pRd, pRo, Prod.mk.injEq, pX1, pX2, pXs, pX2t] at z9; done) | (simp only [pO, pN, pD, pKp, pT, pB, pS, pR, pRd, pRo, Prod.mk.injEq, pX1, pX2, pXs, pX2t] at z9; omega))
  have hF : fr pX1 w0 w1 := hF.tr (hf9.up (fun t9 h9 => by simp only [pO, pN, pD, pKp, pT, pB, pS, pR, pX1, pX2, pXs, pX2t] at h9 ⊢; first | exact h9 | (subst h9; simp; done) | (subst h9; simp; omega) | omega | (rcases h9 with h9 | h9 <;> first | (subst h9; simp; done) | (subst h9; simp; omega) | omega)))
  have hM : townR E w1 1 A1 u3 m3 wn ly := hM'
  show W p l0 e rmCX1_restore s m args below meth c H locs ((0 + 1) + 6) ((0 + 6) + 12) Q (F0 m 18 ls [])
  refine lv_aload_n hx hb dX1_restore_18 rfl (lv_at hl 0 rfl) ?_
  refine k_get hx hb hts in_X1 hown hG hP hX rfl 4 (by decide) (hts _ q280) (fun _ h9 => h9) (v := .ref d) rfl dX1_restore_19 ?_
  refine k_cV hx hb hml hown hts (CJ2_clear l0 E w1 d q hd ((hd + cn) % 17) f (by omega) (by omega) hD hA) (cwV 0 hts (lw_V q1607 q1608 q1609 q76 q1610) rfl rfl rfl dyJ2_clear ⟨Nat.le_of_ble_eq_true rfl, Nat.le_of_ble_eq_true rfl⟩) hG hP hS hD rfl (As := []) (rest := []) rfl hl.1 rfl (lv_room (Nat.le_of_ble_eq_true rfl)) dX1_restore_22 ⟨show ((0 + 1) + 6) + 0 ≤ 7 from by omega, show ((0 + 6) + 12) + 0 ≤ 18 from by omega⟩ (fun r22 w2 H locs hp hP hS => ?_)
  obtain ⟨f9_1, hp0, ⟨hD', hA', -⟩, hf9⟩ := hp
  have hX : w2 x = some ((94, 0), .inr (1, [.ref (A1 0), .ref (A2 0), .ref (A3 0), .int (bI zs), .ref d, .ref b, .int ft, .int rf, .int ro])) := hf9 _ _ _ hX (by intro z9; first | (simp only [pO, pN, pD, pKp, pT, pB, pS, pR, pRd, pRo, Prod.mk.injEq, pX1, pX2, pXs, pX2t] at z9; done) | (simp only [pO, pN, pD, pKp, pT, pB, pS, pR, pRd, pRo, Prod.mk.injEq, pX1, pX2, pXs, pX2t] at z9; omega))
  have hM : townR E w2 1 A1 u3 m3 wn ly := hM.frm hf9 (by intro z9; first | (simp only [pO, pN, pD, pKp, pT, pB, pS, pR, pRd, pRo, Prod.mk.injEq, pX1, pX2, pXs, pX2t] at z9; done) | (simp only [pO, pN, pD, pKp, pT, pB, pS, pR, pRd, pRo, Prod.mk.injEq, pX1, pX2, pXs, pX2t] at z9; omega)) (fun r9 => (by intro z9; first | (simp only [pO, pN, pD, pKp, pT, pB, pS, pR, pRd, pRo, Prod.mk.injEq, pX1, pX2, pXs, pX2t] at z9; done) | (simp only [pO, pN, pD, pKp, pT, pB, pS, pR, pRd, pRo, Prod.mk.injEq, pX1, pX2, pXs, pX2t] at z9; omega)))
  have hM3 : townR E w2 3 A3 u3 m3 wb3 lb3 := hM3.frm hf9 (by intro z9; first | (simp only [pO, pN, pD, pKp, pT, pB, pS, pR, pRd, pRo, Prod.mk.injEq, pX1, pX2, pXs, pX2t] at z9; done) | (simp only [pO, pN, pD, pKp, pT, pB, pS, pR, pRd, pRo, Prod.mk.injEq, pX1, pX2, pXs, pX2t] at z9; omega)) (fun r9 => (by intro z9; first | (simp only [pO, pN, pD, pKp, pT, pB, pS, pR, pRd, pRo, Prod.mk.injEq, pX1, pX2, pXs, pX2t] at z9; done) | (simp only [pO, pN, pD, pKp, pT, pB, pS, pR, pRd, pRo, Prod.mk.injEq, pX1, pX2, pXs, pX2t] at z9; omega)))
  have hF : fr pX1 w0 w2 := hF.tr (hf9.up (fun t9 h9 => by simp only [pO, pN, pD, pKp, pT, pB, pS, pR, pX1, pX2, pXs, pX2t] at h9 ⊢; first | exact h9 | (subst h9; simp; done) | (subst h9; simp; omega) | omega | (rcases h9 with h9 | h9 <;> first | (subst h9; simp; done) | (subst h9; simp; omega) | omega)))
  have hD : w2 d = some ((95, 0), .inr (14, [.ref q, .int 0, .int 0])) := hD'
  have hA : w2 q = some ((95, 1), .inl (eT E 6, 17, .inr (.inr (.inr (.inr f9_1))))) := hA'
  show W p l0 e rmCX1_restore s m args below meth c H locs ((0 + 1) + 6) ((0 + 6) + 12) Q (F0 m 25 ls [])
  refine lv_aload_n hx hb dX1_restore_25 rfl (lv_at hl 0 rfl) ?_
  refine k_get hx hb hts in_X1 hown hG hP hX rfl 0 (by decide) (hts _ q276) (fun _ h9 => h9) (v := .ref (A1 0)) rfl dX1_restore_26 ?_
  have hT_2 := hM.1
  refine k_getN hx hb hts in_X2 hown hG hP hT_2 rfl 4 (by decide) (hG.2.1.1 _ q189 rfl) (fun _ h9 => h9) (v := .int (u3 20)) rfl dX1_restore_29 ?_
  exact kx_iret hx hb hr hlocks hQ hP hS (by omega) (by omega) dX1_restore_32 (⟨⟨hz9, rfl⟩, ⟨hM, ⟨_, 0, _, As, ⟨⟨by decide, by decide⟩, fun j hj => absurd hj (Nat.not_lt_zero j), fun i j hi => absurd hi (Nat.not_lt_zero i)⟩, ⟨hD, hA⟩, fun j hj => absurd hj (Nat.not_lt_zero j), fun j _ hj => absurd hj (Nat.not_lt_zero j)⟩, trivial⟩, hF⟩)

abbrev rmCX1_undo : Room := { frames := 8, cells := 7, slots := 18, locals := 120 }
theorem dyX1_undo : yX1_undo.cls = RX1 ∧ yX1_undo.cls ≠ "java/lang/invoke/MethodHandle" ∧ yX1_undo.cls ≠ "java/lang/invoke/VarHandle" ∧ (parseMethodDescriptor yX1_undo.desc).map (fun d => d.parameters.length) = some 0 := by decide +kernel
set_option maxHeartbeats 4000000 in
theorem CX1_undo (l0 : Launch) (hl0 : l0.stackTraces = false) (E : gE) (w : wd) (x : Nat) (A1 : Nat → Nat) (A2 : Nat → Nat) (A3 : Nat → Nat) (d : Nat) (b : Nat) (hs : Int32) (ft : Int32) (rf : Int32) (ro : Int32) (g : Nat → Int32) (mn : Nat) (wn : Nat → Int32) (ly : Nat → Int32) (cn : Nat) (I : Nat → Nat) (K : Nat → Nat → Int32) (mk : Nat → Nat) (hX : w x = some ((94, 0), .inr (1, [.ref (A1 0), .ref (A2 0), .ref (A3 0), .int hs, .ref d, .ref b, .int ft, .int rf, .int ro]))) (hM : townR E w 1 A1 g mn wn ly) (hK : kpR E w d cn I K mk) : kX l0 yX1_undo (ws_ yX1_undo cX1_undo 1 (some .int)) rmCX1_undo 7 18 mI E w [.ref x] (fun r w' => (0 < cn ∧ r = nI (cn - 1)) ∧ (townR E w' 1 A1 (K (cn - 1)) (mk (cn - 1)) wn ly ∧ kpR E w' d (cn - 1) I K mk ∧ True) ∧ fr pX1 w w') (fun X9 q9 w' => X9 = nIS ∧ w' = w ∧ cn = 0) := by
  refine kx_open (cc := cX1_undo) (maxL := 1) (ret := (some .int)) (by decide) rfl (Nat.le_of_ble_eq_true rfl) ?_
  intro p e s m args below meth c ls Q hx hb hr hml hown hts hlocks hname ht hQ hG hP hl hS
  have hl : lv_has ls 1 [(0, .ref x)] := hl
  obtain ⟨w0, hw0⟩ : ∃ z, z = w := ⟨_, rfl⟩
  have hF : fr pX1 w0 w := by rw [hw0]; exact fr.rf
  rw [← hw0] at hQ
  obtain ⟨q, hd, f, As, ⟨⟨hhd, hc8⟩, hI9⟩, ⟨hD, hA⟩, hf8, hKt⟩ := hK
  have htl : (hd + cn) % 17 < 17 := by omega
  refine lv_aload_n hx hb dX1_undo_0 rfl (lv_at hl 0 rfl) ?_
  refine k_get hx hb hts in_X1 hown hG hP hX rfl 4 (by decide) (hts _ q280) (fun _ h9 => h9) (v := .ref d) rfl dX1_undo_1 ?_
  refine k_cV hx hb hml hown hts (CJ2_isEmpty l0 E w d q hd ((hd + cn) % 17) (by omega) (by omega) hD) (cwV 0 hts (lw_V q1589 q1590 q1591 q76 q1592) rfl rfl rfl dyJ2_isEmpty ⟨Nat.le_of_ble_eq_true rfl, Nat.le_of_ble_eq_true rfl⟩) hG hP hS hD rfl (As := []) (rest := []) rfl hl.1 rfl (lv_room (Nat.le_of_ble_eq_true rfl)) dX1_undo_4 ⟨show 0 + 0 ≤ 7 from by omega, show 0 + 0 ≤ 18 from by omega⟩ (fun r9 w9 H locs hp hP hS => ?_)
  obtain ⟨hp1, hp0⟩ := hp
  rw [hp1] at hP
  rw [hp0]
  show W p l0 e rmCX1_undo s m args below meth c H locs 0 0 Q (F0 m 7 ls [.int (bI (decide (hd = ((hd + cn) % 17))))])
  refine k_ifneB (x := decide (hd = ((hd + cn) % 17))) (tgt := 14) hx hb dX1_undo_7 (by decide) (fun c7 => ?_) (fun c7 => ?_)
  · skip
    refine lv_iconst (v := 0) hx hb dX1_undo_14 (by decide) ?_
    refine kx_cS hx hb hml hown hts hQ ht hlocks (CX1_checkState l0 hl0 E w false) (va_cwS 1 hts (lw_S q1084 q1085 q69 q1086) rfl rfl rfl dyX1_checkState ⟨Nat.le_of_ble_eq_true rfl, Nat.le_of_ble_eq_true rfl⟩) hG hP hS (As := [.int 0]) (rest := []) rfl hl.1 rfl (lv_room (Nat.le_of_ble_eq_true rfl)) dX1_undo_15 ⟨show 0 + 1 ≤ 7 from by omega, show 0 + 6 ≤ 18 from by omega⟩ ⟨show 0 + 1 ≤ 7 from by omega, show 0 + 6 ≤ 18 from by omega⟩ (fun X9 q9 w9 h9 => ⟨h9.1, h9.2.1.trans hw0.symm, by have := of_decide_eq_true c7; omega⟩) (fun r9 w9 H locs hp hP hS => ?_)
    obtain ⟨hp1, hp0⟩ := hp
    rw [hp1] at hP
    show W p l0 e rmCX1_undo s m args below meth c H locs (0 + 1) (0 + 6) Q (F0 m 18 ls [])
    exact absurd hp0 (by decide)
  · skip
    have hcn : 0 < cn := by have := of_decide_eq_false c7; omega
    obtain ⟨wn8, ly8, hM8⟩ := hKt (cn - 1) (Nat.zero_le _) (by omega)
    have hK9 : ktR E w 0 (cn - 1) I As K mk := fun j h1 h2 => hKt j h1 (by omega)
    have hI0 := hI9.1 (cn - 1) (by omega)
    refine lv_iconst (v := 1) hx hb dX1_undo_10 (by decide) ?_
    refine lv_goto (tgt := 15) hx hb dX1_undo_11 (by decide) ?_
    refine kx_cS hx hb hml hown hts hQ ht hlocks (CX1_checkState l0 hl0 E w true) (va_cwS 1 hts (lw_S q1084 q1085 q69 q1086) rfl rfl rfl dyX1_checkState ⟨Nat.le_of_ble_eq_true rfl, Nat.le_of_ble_eq_true rfl⟩) hG hP hS (As := [.int 1]) (rest := []) rfl hl.1 rfl (lv_room (Nat.le_of_ble_eq_true rfl)) dX1_undo_15 ⟨show 0 + 1 ≤ 7 from by omega, show 0 + 6 ≤ 18 from by omega⟩ ⟨show 0 + 1 ≤ 7 from by omega, show 0 + 6 ≤ 18 from by omega⟩ (fun X9 q9 w9 h9 => absurd h9.2.2 (by decide)) (fun r9 w9 H locs hp hP hS => ?_)
    obtain ⟨hp1, hp0⟩ := hp
    rw [hp1] at hP
    show W p l0 e rmCX1_undo s m args below meth c H locs (0 + 1) (0 + 6) Q (F0 m 18 ls [])
    refine lv_aload_n hx hb dX1_undo_18 rfl (lv_at hl 0 rfl) ?_
    refine k_get hx hb hts in_X1 hown hG hP hX rfl 0 (by decide) (hts _ q276) (fun _ h9 => h9) (v := .ref (A1 0)) rfl dX1_undo_19 ?_
    refine lv_aload_n hx hb dX1_undo_22 rfl (lv_at hl 0 rfl) ?_
    refine k_get hx hb hts in_X1 hown hG hP hX rfl 4 (by decide) (hts _ q280) (fun _ h9 => h9) (v := .ref d) rfl dX1_undo_23 ?_
    refine k_cV hx hb hml hown hts (CJ2_pollLast l0 E w d q hd ((hd + cn) % 17) f (As (cn - 1) 0) (by omega) (by omega) (by rw [show (if 0 < (hd + cn) % 17 then (hd + cn) % 17 - 1 else 16) = (hd + (cn - 1)) % 17 by split <;> omega]; exact hf8 _ (by omega)) hD hA) (cwV 0 hts (lw_V q1593 q1594 q1595 q76 q1596) rfl rfl rfl dyJ2_pollLast ⟨Nat.le_of_ble_eq_true rfl, Nat.le_of_ble_eq_true rfl⟩) hG hP hS hD rfl (As := []) (rest := [.ref (A1 0)]) rfl hl.1 rfl (lv_room (Nat.le_of_ble_eq_true rfl)) dX1_undo_26 ⟨show (0 + 1) + 0 ≤ 7 from by omega, show (0 + 6) + 0 ≤ 18 from by omega⟩ (fun r26 w1 H locs hp hP hS => ?_)
    obtain ⟨hp0, ⟨hD', hA', -⟩, hf9⟩ := hp
    have hX : w1 x = some ((94, 0), .inr (1, [.ref (A1 0), .ref (A2 0), .ref (A3 0), .int hs, .ref d, .ref b, .int ft, .int rf, .int ro])) := hf9 _ _ _ hX (by intro z9; first | (simp only [pO, pN, pD, pKp, pT, pB, pS, pR, pRd, pRo, Prod.mk.injEq, pX1, pX2, pXs, pX2t] at z9; done) | (simp only [pO, pN, pD, pKp, pT, pB, pS, pR, pRd, pRo, Prod.mk.injEq, pX1, pX2, pXs, pX2t] at z9; omega))
    have hM : townR E w1 1 A1 g mn wn ly := hM.frm hf9 (by intro z9; first | (simp only [pO, pN, pD, pKp, pT, pB, pS, pR, pRd, pRo, Prod.mk.injEq, pX1, pX2, pXs, pX2t] at z9; done) | (simp only [pO, pN, pD, pKp, pT, pB, pS, pR, pRd, pRo, Prod.mk.injEq, pX1, pX2, pXs, pX2t] at z9; omega)) (fun r9 => (by intro z9; first | (simp only [pO, pN, pD, pKp, pT, pB, pS, pR, pRd, pRo, Prod.mk.injEq, pX1, pX2, pXs, pX2t] at z9; done) | (simp only [pO, pN, pD, pKp, pT, pB, pS, pR, pRd, pRo, Prod.mk.injEq, pX1, pX2, pXs, pX2t] at z9; omega)))
    have hM8 : townR E w1 (I (cn - 1)) (As (cn - 1)) (K (cn - 1)) (mk (cn - 1)) wn8 ly8 := hM8.frm hf9 (by intro z9; first | (simp only [pO, pN, pD, pKp, pT, pB, pS, pR, pRd, pRo, Prod.mk.injEq, pX1, pX2, pXs, pX2t] at z9; done) | (simp only [pO, pN, pD, pKp, pT, pB, pS, pR, pRd, pRo, Prod.mk.injEq, pX1, pX2, pXs, pX2t] at z9; omega)) (fun r9 => (by intro z9; first | (simp only [pO, pN, pD, pKp, pT, pB, pS, pR, pRd, pRo, Prod.mk.injEq, pX1, pX2, pXs, pX2t] at z9; done) | (simp only [pO, pN, pD, pKp, pT, pB, pS, pR, pRd, pRo, Prod.mk.injEq, pX1, pX2, pXs, pX2t] at z9; omega)))
    have hK9 : ktR E w1 0 (cn - 1) I As K mk := hK9.fr hf9 (by intro z9; first | (simp only [pO, pN, pD, pKp, pT, pB, pS, pR, pRd, pRo, Prod.mk.injEq, pX1, pX2, pXs, pX2t] at z9; done) | (simp only [pO, pN, pD, pKp, pT, pB, pS, pR, pRd, pRo, Prod.mk.injEq, pX1, pX2, pXs, pX2t] at z9; omega)) (fun j9 h7 h8 r9 => by have h5 := hI9.1 j9 (by omega); intro z9; simp only [pO, pN, pD, pKp, pT, pB, pS, pR, pRd, pRo, Prod.mk.injEq, pX1, pX2, pXs, pX2t] at z9; omega)
    have hF : fr pX1 w0 w1 := hF.tr (hf9.up (fun t9 h9 => by simp only [pO, pN, pD, pKp, pT, pB, pS, pR, pX1, pX2, pXs, pX2t] at h9 ⊢; first | exact h9 | (subst h9; simp; done) | (subst h9; simp; omega) | omega | (rcases h9 with h9 | h9 <;> first | (subst h9; simp; done) | (subst h9; simp; omega) | omega)))
    have hD : w1 d = some ((95, 0), .inr (14, [.ref q, .int (nI hd), .int (nI (if 0 < ((hd + cn) % 17) then ((hd + cn) % 17) - 1 else 16))])) := hD'
    have hA : w1 q = some ((95, 1), .inl (eT E 6, 17, .inr (.inr (.inr (.inr (va_up f (if 0 < ((hd + cn) % 17) then ((hd + cn) % 17) - 1 else 16) none)))))) := hA'
    rw [hp0]
    show W p l0 e rmCX1_undo s m args below meth c H locs (0 + 1) (0 + 6) Q (F0 m 29 ls [.ref (As (cn - 1) 0), .ref (A1 0)])
    have hT_1 := hM8.1
    refine k_castS hx hb hown (hts _ q117) hG hP hT_1 rfl dX1_undo_29 ?_
    have hT_2 := hM.1
    refine k_cV hx hb hml hown hts (CX2_take l0 E w1 1 A1 g mn wn ly (I (cn - 1)) (As (cn - 1)) (K (cn - 1)) (mk (cn - 1)) wn8 ly8 (by omega) (by omega) (by omega) (by omega) (by omega) hM hM8) (cwV 1 hts (lw_V q329 q330 q331 q70 q332) rfl rfl rfl dyX2_take ⟨Nat.le_of_ble_eq_true rfl, Nat.le_of_ble_eq_true rfl⟩) hG hP hS hT_2 rfl (As := [.ref (As (cn - 1) 0)]) (rest := []) rfl hl.1 rfl (lv_room (Nat.le_of_ble_eq_true rfl)) dX1_undo_32 ⟨show (0 + 1) + 6 ≤ 7 from by omega, show (0 + 6) + 12 ≤ 18 from by omega⟩ (fun r32 w2 H locs hp hP hS => ?_)
    obtain ⟨hp0, ⟨hM', -⟩, hf9⟩ := hp
    have hX : w2 x = some ((94, 0), .inr (1, [.ref (A1 0), .ref (A2 0), .ref (A3 0), .int hs, .ref d, .ref b, .int ft, .int rf, .int ro])) := hf9 _ _ _ hX (by intro z9; first | (simp only [pO, pN, pD, pKp, pT, pB, pS, pR, pRd, pRo, Prod.mk.injEq, pX1, pX2, pXs, pX2t] at z9; done) | (simp only [pO, pN, pD, pKp, pT, pB, pS, pR, pRd, pRo, Prod.mk.injEq, pX1, pX2, pXs, pX2t] at z9; omega))
    have hD : w2 d = some ((95, 0), .inr (14, [.ref q, .int (nI hd), .int (nI (if 0 < ((hd + cn) % 17) then ((hd + cn) % 17) - 1 else 16))])) := hf9 _ _ _ hD (by intro z9; first | (simp only [pO, pN, pD, pKp, pT, pB, pS, pR, pRd, pRo, Prod.mk.injEq, pX1, pX2, pXs, pX2t] at z9; done) | (simp only [pO, pN, pD, pKp, pT, pB, pS, pR, pRd, pRo, Prod.mk.injEq, pX1, pX2, pXs, pX2t] at z9; omega))
    have hA : w2 q = some ((95, 1), .inl (eT E 6, 17, .inr (.inr (.inr (.inr (va_up f (if 0 < ((hd + cn) % 17) then ((hd + cn) % 17) - 1 else 16) none)))))) := hf9 _ _ _ hA (by intro z9; first | (simp only [pO, pN, pD, pKp, pT, pB, pS, pR, pRd, pRo, Prod.mk.injEq, pX1, pX2, pXs, pX2t] at z9; done) | (simp only [pO, pN, pD, pKp, pT, pB, pS, pR, pRd, pRo, Prod.mk.injEq, pX1, pX2, pXs, pX2t] at z9; omega))
    have hM8 : townR E w2 (I (cn - 1)) (As (cn - 1)) (K (cn - 1)) (mk (cn - 1)) wn8 ly8 := hM8.frm hf9 (by intro z9; first | (simp only [pO, pN, pD, pKp, pT, pB, pS, pR, pRd, pRo, Prod.mk.injEq, pX1, pX2, pXs, pX2t] at z9; done) | (simp only [pO, pN, pD, pKp, pT, pB, pS, pR, pRd, pRo, Prod.mk.injEq, pX1, pX2, pXs, pX2t] at z9; omega)) (fun r9 => (by intro z9; first | (simp only [pO, pN, pD, pKp, pT, pB, pS, pR, pRd, pRo, Prod.mk.injEq, pX1, pX2, pXs, pX2t] at z9; done) | (simp only [pO, pN, pD, pKp, pT, pB, pS, pR, pRd, pRo, Prod.mk.injEq, pX1, pX2, pXs, pX2t] at z9; omega)))
    have hK9 : ktR E w2 0 (cn - 1) I As K mk := hK9.fr hf9 (by intro z9; first | (simp only [pO, pN, pD, pKp, pT, pB, pS, pR, pRd, pRo, Prod.mk.injEq, pX1, pX2, pXs, pX2t] at z9; done) | (simp only [pO, pN, pD, pKp, pT, pB, pS, pR, pRd, pRo, Prod.mk.injEq, pX1, pX2, pXs, pX2t] at z9; omega)) (fun j9 h7 h8 r9 => by have h5 := hI9.1 j9 (by omega); intro z9; simp only [pO, pN, pD, pKp, pT, pB, pS, pR, pRd, pRo, Prod.mk.injEq, pX1, pX2, pXs, pX2t] at z9; omega)
    have hF : fr pX1 w0 w2 := hF.tr (hf9.up (fun t9 h9 => by simp only [pO, pN, pD, pKp, pT, pB, pS, pR, pX1, pX2, pXs, pX2t] at h9 ⊢; first | exact h9 | (subst h9; simp; done) | (subst h9; simp; omega) | omega | (rcases h9 with h9 | h9 <;> first | (subst h9; simp; done) | (subst h9; simp; omega) | omega)))
    have hM : townR E w2 1 A1 (K (cn - 1)) (mk (cn - 1)) wn ly := hM'
    show W p l0 e rmCX1_undo s m args below meth c H locs ((0 + 1) + 6) ((0 + 6) + 12) Q (F0 m 35 ls [])
    refine lv_aload_n hx hb dX1_undo_35 rfl (lv_at hl 0 rfl) ?_
    refine k_get hx hb hts in_X1 hown hG hP hX rfl 4 (by decide) (hts _ q280) (fun _ h9 => h9) (v := .ref d) rfl dX1_undo_36 ?_
    refine k_cV hx hb hml hown hts (CJ2_size l0 E w2 d q hd (if 0 < ((hd + cn) % 17) then ((hd + cn) % 17) - 1 else 16) (va_up f (if 0 < ((hd + cn) % 17) then ((hd + cn) % 17) - 1 else 16) none) (by repeat (first | omega | split)) (by repeat (first | omega | split)) hD hA) (cwV 0 hts (lw_V q505 q506 q507 q76 q508) rfl rfl rfl dyJ2_size ⟨Nat.le_of_ble_eq_true rfl, Nat.le_of_ble_eq_true rfl⟩) hG hP hS hD rfl (As := []) (rest := []) rfl hl.1 rfl (lv_room (Nat.le_of_ble_eq_true rfl)) dX1_undo_39 ⟨show ((0 + 1) + 6) + 0 ≤ 7 from by omega, show ((0 + 6) + 12) + 0 ≤ 18 from by omega⟩ (fun r9 w9 H locs hp hP hS => ?_)
    obtain ⟨hp1, hp0⟩ := hp
    rw [hp1] at hP
    rw [hp0]
    show W p l0 e rmCX1_undo s m args below meth c H locs ((0 + 1) + 6) ((0 + 6) + 12) Q (F0 m 42 ls [.int (nI (((if 0 < ((hd + cn) % 17) then ((hd + cn) % 17) - 1 else 16) + 17 - hd) % 17))])
    refine k_top (y := (nI (cn - 1))) (congrArg nI (by split <;> omega)) ?_
    exact kx_iret hx hb hr hlocks hQ hP hS (by omega) (by omega) dX1_undo_42 (⟨⟨hcn, rfl⟩, ⟨hM, ⟨_, hd, _, As, ⟨⟨hhd, by omega⟩, fun j hj => hI9.1 j (by omega), fun i j hi hj e => hI9.2 i j (by omega) (by omega) e⟩, ⟨by rw [hD, show (if 0 < (hd + cn) % 17 then (hd + cn) % 17 - 1 else 16) = (hd + (cn - 1)) % 17 by split <;> omega], hA⟩, fun j hj => by rw [up_n (by split <;> omega)]; exact hf8 j (by omega), hK9⟩, trivial⟩, hF⟩)
