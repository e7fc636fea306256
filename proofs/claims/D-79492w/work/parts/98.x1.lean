/-! THE COMPONENT, 7: checks; what is kept -/
set_option maxRecDepth 100000
abbrev rmCX1_check : Room := { frames := 7, cells := 1, slots := 6, locals := 100 }
theorem dyX1_check : yX1_check.cls ≠ "java/lang/invoke/MethodHandle" ∧ yX1_check.cls ≠ "java/lang/invoke/VarHandle" ∧ (parseMethodDescriptor yX1_check.desc).map (fun d => d.parameters.length) = some 1 := by decide +kernel
set_option maxHeartbeats 4000000 in
theorem CX1_check (l0 : Launch) (hl0 : l0.stackTraces = false) (E : gE) (w : wd) (bb : Bool) : kX l0 yX1_check (ws_ yX1_check cX1_check 1 none) rmCX1_check 1 6 mV E w [.int (bI bb)] (fun _ w' => w' = w ∧ bb = true) (fun X9 q9 w' => X9 = "java/lang/IllegalArgumentException" ∧ w' = w ∧ bb = false) := by
  refine kx_open (cc := cX1_check) (maxL := 1) (ret := none) (by decide) rfl (Nat.le_of_ble_eq_true rfl) ?_
  intro p e s m args below meth c ls Q hx hb hr hml hown hts hlocks hname ht hQ hG hP hl hS
  have hl : lv_has ls 1 [(0, .int (bI bb))] := hl
  refine lv_iload_n hx hb dX1_check_0 rfl (lv_at hl 0 rfl) ?_
  refine k_ifneB (x := bb) (tgt := 12) hx hb dX1_check_1 (by decide) (fun c1 => ?_) (fun c1 => ?_)
  · skip
    exact kx_vret hx hb hr hlocks hQ hP hS (by omega) (by omega) dX1_check_12 (⟨rfl, c1⟩)
  · skip
    exact kx_throw hx hb hl0 hown (by decide +kernel) (by decide +kernel) hts q486 q87 kt_X1_check hQ ht hlocks hG hP hS (hl.1.trans hml.symm) dX1_check_4 dX1_check_7 dX1_check_8 dX1_check_11 ⟨Nat.le_of_ble_eq_true rfl, Nat.le_of_ble_eq_true rfl, show 0 + 1 ≤ 1 from by omega, show 0 + 6 ≤ 6 from by omega⟩ (show 0 + 1 ≤ 1 from by omega) (show 0 + 6 ≤ 6 from by omega) (fun q9 => ⟨rfl, rfl, c1⟩)

abbrev rmCX1_checkElement : Room := { frames := 7, cells := 1, slots := 6, locals := 100 }
theorem dyX1_checkElement : yX1_checkElement.cls ≠ "java/lang/invoke/MethodHandle" ∧ yX1_checkElement.cls ≠ "java/lang/invoke/VarHandle" ∧ (parseMethodDescriptor yX1_checkElement.desc).map (fun d => d.parameters.length) = some 1 := by decide +kernel
set_option maxHeartbeats 4000000 in
theorem CX1_checkElement (l0 : Launch) (hl0 : l0.stackTraces = false) (E : gE) (w : wd) (bb : Bool) : kX l0 yX1_checkElement (ws_ yX1_checkElement cX1_checkElement 1 none) rmCX1_checkElement 1 6 mV E w [.int (bI bb)] (fun _ w' => w' = w ∧ bb = true) (fun X9 q9 w' => X9 = "java/util/NoSuchElementException" ∧ w' = w ∧ bb = false) := by
  refine kx_open (cc := cX1_checkElement) (maxL := 1) (ret := none) (by decide) rfl (Nat.le_of_ble_eq_true rfl) ?_
  intro p e s m args below meth c ls Q hx hb hr hml hown hts hlocks hname ht hQ hG hP hl hS
  have hl : lv_has ls 1 [(0, .int (bI bb))] := hl
  refine lv_iload_n hx hb dX1_checkElement_0 rfl (lv_at hl 0 rfl) ?_
  refine k_ifneB (x := bb) (tgt := 12) hx hb dX1_checkElement_1 (by decide) (fun c1 => ?_) (fun c1 => ?_)
  · skip
    exact kx_vret hx hb hr hlocks hQ hP hS (by omega) (by omega) dX1_checkElement_12 (⟨rfl, c1⟩)
  · skip
    exact kx_throw hx hb hl0 hown (by decide +kernel) (by decide +kernel) hts q904 q94 kt_X1_checkElement hQ ht hlocks hG hP hS (hl.1.trans hml.symm) dX1_checkElement_4 dX1_checkElement_7 dX1_checkElement_8 dX1_checkElement_11 ⟨Nat.le_of_ble_eq_true rfl, Nat.le_of_ble_eq_true rfl, show 0 + 1 ≤ 1 from by omega, show 0 + 6 ≤ 6 from by omega⟩ (show 0 + 1 ≤ 1 from by omega) (show 0 + 6 ≤ 6 from by omega) (fun q9 => ⟨rfl, rfl, c1⟩)

abbrev rmCX1_checkState : Room := { frames := 7, cells := 1, slots := 6, locals := 100 }
theorem dyX1_checkState : yX1_checkState.cls ≠ "java/lang/invoke/MethodHandle" ∧ yX1_checkState.cls ≠ "java/lang/invoke/VarHandle" ∧ (parseMethodDescriptor yX1_checkState.desc).map (fun d => d.parameters.length) = some 1 := by decide +kernel
set_option maxHeartbeats 4000000 in
theorem CX1_checkState (l0 : Launch) (hl0 : l0.stackTraces = false) (E : gE) (w : wd) (bb : Bool) : kX l0 yX1_checkState (ws_ yX1_checkState cX1_checkState 1 none) rmCX1_checkState 1 6 mV E w [.int (bI bb)] (fun _ w' => w' = w ∧ bb = true) (fun X9 q9 w' => X9 = "java/lang/IllegalStateException" ∧ w' = w ∧ bb = false) := by
  refine kx_open (cc := cX1_checkState) (maxL := 1) (ret := none) (by decide) rfl (Nat.le_of_ble_eq_true rfl) ?_
  intro p e s m args below meth c ls Q hx hb hr hml hown hts hlocks hname ht hQ hG hP hl hS
  have hl : lv_has ls 1 [(0, .int (bI bb))] := hl
  refine lv_iload_n hx hb dX1_checkState_0 rfl (lv_at hl 0 rfl) ?_
  refine k_ifneB (x := bb) (tgt := 12) hx hb dX1_checkState_1 (by decide) (fun c1 => ?_) (fun c1 => ?_)
  · skip
    exact kx_vret hx hb hr hlocks hQ hP hS (by omega) (by omega) dX1_checkState_12 (⟨rfl, c1⟩)
  · skip
    exact kx_throw hx hb hl0 hown (by decide +kernel) (by decide +kernel) hts q1087 q90 kt_X1_checkState hQ ht hlocks hG hP hS (hl.1.trans hml.symm) dX1_checkState_4 dX1_checkState_7 dX1_checkState_8 dX1_checkState_11 ⟨Nat.le_of_ble_eq_true rfl, Nat.le_of_ble_eq_true rfl, show 0 + 1 ≤ 1 from by omega, show 0 + 6 ≤ 6 from by omega⟩ (show 0 + 1 ≤ 1 from by omega) (show 0 + 6 ≤ 6 from by omega) (fun q9 => ⟨rfl, rfl, c1⟩)

abbrev rmCX1_checkIndex : Room := { frames := 7, cells := 1, slots := 6, locals := 100 }
theorem dyX1_checkIndex : yX1_checkIndex.cls ≠ "java/lang/invoke/MethodHandle" ∧ yX1_checkIndex.cls ≠ "java/lang/invoke/VarHandle" ∧ (parseMethodDescriptor yX1_checkIndex.desc).map (fun d => d.parameters.length) = some 1 := by decide +kernel
set_option maxHeartbeats 4000000 in
theorem CX1_checkIndex (l0 : Launch) (hl0 : l0.stackTraces = false) (E : gE) (w : wd) (bb : Bool) : kX l0 yX1_checkIndex (ws_ yX1_checkIndex cX1_checkIndex 1 none) rmCX1_checkIndex 1 6 mV E w [.int (bI bb)] (fun _ w' => w' = w ∧ bb = true) (fun X9 q9 w' => X9 = "java/lang/IndexOutOfBoundsException" ∧ w' = w ∧ bb = false) := by
  refine kx_open (cc := cX1_checkIndex) (maxL := 1) (ret := none) (by decide) rfl (Nat.le_of_ble_eq_true rfl) ?_
  intro p e s m args below meth c ls Q hx hb hr hml hown hts hlocks hname ht hQ hG hP hl hS
  have hl : lv_has ls 1 [(0, .int (bI bb))] := hl
  refine lv_iload_n hx hb dX1_checkIndex_0 rfl (lv_at hl 0 rfl) ?_
  refine k_ifneB (x := bb) (tgt := 12) hx hb dX1_checkIndex_1 (by decide) (fun c1 => ?_) (fun c1 => ?_)
  · skip
    exact kx_vret hx hb hr hlocks hQ hP hS (by omega) (by omega) dX1_checkIndex_12 (⟨rfl, c1⟩)
  · skip
    exact kx_throw hx hb hl0 hown (by decide +kernel) (by decide +kernel) hts q459 q85 kt_X1_checkIndex hQ ht hlocks hG hP hS (hl.1.trans hml.symm) dX1_checkIndex_4 dX1_checkIndex_7 dX1_checkIndex_8 dX1_checkIndex_11 ⟨Nat.le_of_ble_eq_true rfl, Nat.le_of_ble_eq_true rfl, show 0 + 1 ≤ 1 from by omega, show 0 + 6 ≤ 6 from by omega⟩ (show 0 + 1 ≤ 1 from by omega) (show 0 + 6 ≤ 6 from by omega) (fun q9 => ⟨rfl, rfl, c1⟩)

abbrev rmCX1_checkAny : Room := { frames := 7, cells := 1, slots := 6, locals := 100 }
theorem dyX1_checkAny : yX1_checkAny.cls ≠ "java/lang/invoke/MethodHandle" ∧ yX1_checkAny.cls ≠ "java/lang/invoke/VarHandle" ∧ (parseMethodDescriptor yX1_checkAny.desc).map (fun d => d.parameters.length) = some 1 := by decide +kernel
set_option maxHeartbeats 4000000 in
theorem CX1_checkAny (l0 : Launch) (hl0 : l0.stackTraces = false) (E : gE) (w : wd) (bb : Bool) : kX l0 yX1_checkAny (ws_ yX1_checkAny cX1_checkAny 1 none) rmCX1_checkAny 1 6 mV E w [.int (bI bb)] (fun _ w' => w' = w ∧ bb = true) (fun X9 q9 w' => X9 = "java/lang/ArithmeticException" ∧ w' = w ∧ bb = false) := by
  refine kx_open (cc := cX1_checkAny) (maxL := 1) (ret := none) (by decide) rfl (Nat.le_of_ble_eq_true rfl) ?_
  intro p e s m args below meth c ls Q hx hb hr hml hown hts hlocks hname ht hQ hG hP hl hS
  have hl : lv_has ls 1 [(0, .int (bI bb))] := hl
  refine lv_iload_n hx hb dX1_checkAny_0 rfl (lv_at hl 0 rfl) ?_
  refine k_ifneB (x := bb) (tgt := 12) hx hb dX1_checkAny_1 (by decide) (fun c1 => ?_) (fun c1 => ?_)
  · skip
    exact kx_vret hx hb hr hlocks hQ hP hS (by omega) (by omega) dX1_checkAny_12 (⟨rfl, c1⟩)
  · skip
    exact kx_throw hx hb hl0 hown (by decide +kernel) (by decide +kernel) hts q1562 q108 kt_X1_checkAny hQ ht hlocks hG hP hS (hl.1.trans hml.symm) dX1_checkAny_4 dX1_checkAny_7 dX1_checkAny_8 dX1_checkAny_11 ⟨Nat.le_of_ble_eq_true rfl, Nat.le_of_ble_eq_true rfl, show 0 + 1 ≤ 1 from by omega, show 0 + 6 ≤ 6 from by omega⟩ (show 0 + 1 ≤ 1 from by omega) (show 0 + 6 ≤ 6 from by omega) (fun q9 => ⟨rfl, rfl, c1⟩)

abbrev rmCX1_checkSupported : Room := { frames := 7, cells := 1, slots := 6, locals := 100 }
theorem dyX1_checkSupported : yX1_checkSupported.cls = RX1 ∧ yX1_checkSupported.cls ≠ "java/lang/invoke/MethodHandle" ∧ yX1_checkSupported.cls ≠ "java/lang/invoke/VarHandle" ∧ (parseMethodDescriptor yX1_checkSupported.desc).map (fun d => d.parameters.length) = some 2 := by decide +kernel
set_option maxHeartbeats 4000000 in
theorem CX1_checkSupported (l0 : Launch) (hl0 : l0.stackTraces = false) (E : gE) (w : wd) (x : Nat) (A1 : Nat → Nat) (A2 : Nat → Nat) (A3 : Nat → Nat) (d : Nat) (b : Nat) (hs : Int32) (ft : Int32) (rf : Int32) (ro : Int32) (rs : Int32) (od9 : Int32) (hX : w x = some ((94, 0), .inr (1, [.ref (A1 0), .ref (A2 0), .ref (A3 0), .int hs, .ref d, .ref b, .int ft, .int rf, .int ro]))) : kX l0 yX1_checkSupported (ws_ yX1_checkSupported cX1_checkSupported 3 none) rmCX1_checkSupported 1 6 mV E w [.ref x, .int rs, .int od9] (fun _ w' => w' = w ∧ rs ≤ 0) (fun X9 q9 w' => X9 = nUO ∧ 0 < rs ∧ w' x = some ((94, 0), .inr (1, [.ref (A1 0), .ref (A2 0), .ref (A3 0), .int hs, .ref d, .ref b, .int ft, .int rs, .int od9])) ∧ fr (pO (94, 0)) w w') := by
  refine kx_open (cc := cX1_checkSupported) (maxL := 3) (ret := none) (by decide) rfl (Nat.le_of_ble_eq_true rfl) ?_
  intro p e s m args below meth c ls Q hx hb hr hml hown hts hlocks hname ht hQ hG hP hl hS
  have hl : lv_has ls 3 [(0, .ref x), (1, .int rs), (2, .int od9)] := hl
  refine lv_iload_n hx hb dX1_checkSupported_0 rfl (lv_at hl 1 rfl) ?_
  refine lv_if_le (tgt := 22) hx hb dX1_checkSupported_1 (by decide) (fun c1 => ?_) (fun c1 => ?_)
  · skip
    exact kx_vret hx hb hr hlocks hQ hP hS (by omega) (by omega) dX1_checkSupported_22 (⟨rfl, c1⟩)
  · skip
    refine lv_aload_n hx hb dX1_checkSupported_4 rfl (lv_at hl 0 rfl) ?_
    refine lv_iload_n hx hb dX1_checkSupported_5 rfl (lv_at hl 1 rfl) ?_
    refine k_putW hx hb hts in_X1 tyX1 tyX1_ok nmX1 hown hG hP hS hX rfl 7 (by decide) (hts _ q283) (fun _ h9 => h9) rfl (ty := .int) (v := .int rs) rfl rfl rfl (Nat.le_of_ble_eq_true rfl) dX1_checkSupported_6 (fun w1 H locs h9 hf9 hP hS => ?_)
    have hX : w1 x = some ((94, 0), .inr (1, [.ref (A1 0), .ref (A2 0), .ref (A3 0), .int hs, .ref d, .ref b, .int ft, .int rs, .int ro])) := h9
    have hfa := hf9
    refine lv_aload_n hx hb dX1_checkSupported_9 rfl (lv_at hl 0 rfl) ?_
    refine lv_iload_n hx hb dX1_checkSupported_10 rfl (lv_at hl 2 rfl) ?_
    refine k_putW hx hb hts in_X1 tyX1 tyX1_ok nmX1 hown hG hP hS hX rfl 8 (by decide) (hts _ q284) (fun _ h9 => h9) rfl (ty := .int) (v := .int od9) rfl rfl rfl (Nat.le_of_ble_eq_true rfl) dX1_checkSupported_11 (fun w2 H locs h9 hf9 hP hS => ?_)
    have hX : w2 x = some ((94, 0), .inr (1, [.ref (A1 0), .ref (A2 0), .ref (A3 0), .int hs, .ref d, .ref b, .int ft, .int rs, .int od9])) := h9
    have hfb := hf9
    exact kx_throw hx hb hl0 hown (by decide +kernel) (by decide +kernel) hts q618 q93 kt_X1_checkSupported hQ ht hlocks hG hP hS (hl.1.trans hml.symm) dX1_checkSupported_14 dX1_checkSupported_17 dX1_checkSupported_18 dX1_checkSupported_21 ⟨Nat.le_of_ble_eq_true rfl, Nat.le_of_ble_eq_true rfl, show 0 + 1 ≤ 1 from by omega, show 0 + 6 ≤ 6 from by omega⟩ (show 0 + 1 ≤ 1 from by omega) (show 0 + 6 ≤ 6 from by omega) (fun q9 => ⟨rfl, Int32.not_le.mp c1, hX, hfa.tr hfb⟩)

abbrev rmCX1_kiteAt : Room := { frames := 8, cells := 1, slots := 6, locals := 120 }
theorem dyX1_kiteAt : yX1_kiteAt.cls = RX1 ∧ yX1_kiteAt.cls ≠ "java/lang/invoke/MethodHandle" ∧ yX1_kiteAt.cls ≠ "java/lang/invoke/VarHandle" ∧ (parseMethodDescriptor yX1_kiteAt.desc).map (fun d => d.parameters.length) = some 1 := by decide +kernel
set_option maxHeartbeats 4000000 in
theorem CX1_kiteAt (l0 : Launch) (hl0 : l0.stackTraces = false) (E : gE) (w : wd) (x : Nat) (A1 : Nat → Nat) (A2 : Nat → Nat) (A3 : Nat → Nat) (d : Nat) (b : Nat) (hs : Int32) (ft : Int32) (rf : Int32) (ro : Int32) (g : Nat → Int32) (mn : Nat) (wn : Nat → Int32) (ly : Nat → Int32) (y : Int32) (hX : w x = some ((94, 0), .inr (1, [.ref (A1 0), .ref (A2 0), .ref (A3 0), .int hs, .ref d, .ref b, .int ft, .int rf, .int ro]))) (hM : townR E w 1 A1 g mn wn ly) : kX l0 yX1_kiteAt (ws_ yX1_kiteAt cX1_kiteAt 2 (some (.object "KiteRoofs$Kite"))) rmCX1_kiteAt 1 6 mR E w [.ref x, .int y] (fun r w' => w' = w ∧ ∃ k9, k9 < mn ∧ y = nI k9 ∧ r = A1 (6 + k9)) (fun X9 q9 w' => X9 = nIO ∧ w' = w ∧ tKt g y = false) := by
  refine kx_open (cc := cX1_kiteAt) (maxL := 2) (ret := (some (.object "KiteRoofs$Kite"))) (by decide) rfl (Nat.le_of_ble_eq_true rfl) ?_
  intro p e s m args below meth c ls Q hx hb hr hml hown hts hlocks hname ht hQ hG hP hl hS
  have hl : lv_has ls 2 [(0, .ref x), (1, .int y)] := hl
  have hm6 := hM.m25
  refine lv_aload_n hx hb dX1_kiteAt_0 rfl (lv_at hl 0 rfl) ?_
  refine k_get hx hb hts in_X1 hown hG hP hX rfl 0 (by decide) (hts _ q276) (fun _ h9 => h9) (v := .ref (A1 0)) rfl dX1_kiteAt_1 ?_
  refine lv_iload_n hx hb dX1_kiteAt_4 rfl (lv_at hl 1 rfl) ?_
  have hT_1 := hM.1
  refine k_cV hx hb hml hown hts (CX2_isKite l0 E w 1 A1 g mn wn ly y hM) (cwV 1 hts (lw_V q656 q657 q658 q70 q659) rfl rfl rfl dyX2_isKite ⟨Nat.le_of_ble_eq_true rfl, Nat.le_of_ble_eq_true rfl⟩) hG hP hS hT_1 rfl (As := [.int y]) (rest := []) rfl hl.1 rfl (lv_room (Nat.le_of_ble_eq_true rfl)) dX1_kiteAt_5 ⟨show 0 + 0 ≤ 1 from by omega, show 0 + 0 ≤ 6 from by omega⟩ (fun r9 w9 H locs hp hP hS => ?_)
  obtain ⟨hp1, hp0⟩ := hp
  rw [hp1] at hP
  rw [hp0]
  show W p l0 e rmCX1_kiteAt s m args below meth c H locs 0 0 Q (F0 m 8 ls [.int (bI (tKt g y))])
  refine kx_cS hx hb hml hown hts hQ ht hlocks (CX1_checkIndex l0 hl0 E w (tKt g y)) (va_cwS 1 hts (lw_S q456 q457 q69 q458) rfl rfl rfl dyX1_checkIndex ⟨Nat.le_of_ble_eq_true rfl, Nat.le_of_ble_eq_true rfl⟩) hG hP hS (As := [.int (bI (tKt g y))]) (rest := []) rfl hl.1 rfl (lv_room (Nat.le_of_ble_eq_true rfl)) dX1_kiteAt_8 ⟨show 0 + 1 ≤ 1 from by omega, show 0 + 6 ≤ 6 from by omega⟩ ⟨show 0 + 1 ≤ 1 from by omega, show 0 + 6 ≤ 6 from by omega⟩ (fun X9 q9 w9 h9 => h9) (fun r9 w9 H locs hp hP hS => ?_)
  obtain ⟨hp1, hp0⟩ := hp
  rw [hp1] at hP
  have hk9 := hp0
  show W p l0 e rmCX1_kiteAt s m args below meth c H locs (0 + 1) (0 + 6) Q (F0 m 11 ls [])
  obtain ⟨kz, hkz, rfl⟩ := tKt_of hm6.1 hm6.2 hk9
  have ckz : (nI kz).toNatClampNeg = kz := nI_clamp (by omega)
  refine lv_aload_n hx hb dX1_kiteAt_11 rfl (lv_at hl 0 rfl) ?_
  refine k_get hx hb hts in_X1 hown hG hP hX rfl 0 (by decide) (hts _ q276) (fun _ h9 => h9) (v := .ref (A1 0)) rfl dX1_kiteAt_12 ?_
  refine k_getN hx hb hts in_X2 hown hG hP hT_1 rfl 2 (by decide) (hG.2.1.1 _ q185 rfl) (fun _ h9 => h9) (v := .ref (A1 3)) rfl dX1_kiteAt_15 ?_
  refine lv_iload_n hx hb dX1_kiteAt_18 rfl (lv_at hl 1 rfl) ?_
  obtain ⟨fq_2, hT_2, he_2⟩ := hM.2.2.2.1
  refine k_aald hx hb hG hP (j := kz) 4 hT_2 rfl (by omega) (show kz < 6 from by omega) dX1_kiteAt_19 ?_
  rw [he_2 kz (by omega)]
  exact kx_aret hx hb hr (Or.inl ⟨_, rfl⟩) hlocks hQ hP hS (by omega) (by omega) dX1_kiteAt_20 (⟨rfl, ⟨kz, hkz, rfl, rfl⟩⟩)

abbrev rmCX1_keep : Room := { frames := 5, cells := 24, slots := 140, locals := 119 }
theorem dyX1_keep : yX1_keep.cls = RX1 ∧ yX1_keep.cls ≠ "java/lang/invoke/MethodHandle" ∧ yX1_keep.cls ≠ "java/lang/invoke/VarHandle" ∧ (parseMethodDescriptor yX1_keep.desc).map (fun d => d.parameters.length) = some 0 := by decide +kernel
set_option maxHeartbeats 4000000 in
theorem CX1_keep (l0 : Launch) (E : gE) (w : wd) (x : Nat) (A1 : Nat → Nat) (A2 : Nat → Nat) (A3 : Nat → Nat) (d : Nat) (b : Nat) (hs : Int32) (ft : Int32) (rf : Int32) (ro : Int32) (g : Nat → Int32) (mn : Nat) (wn : Nat → Int32) (ly : Nat → Int32) (cn : Nat) (I : Nat → Nat) (K : Nat → Nat → Int32) (mk : Nat → Nat) (hX : w x = some ((94, 0), .inr (1, [.ref (A1 0), .ref (A2 0), .ref (A3 0), .int hs, .ref d, .ref b, .int ft, .int rf, .int ro]))) (hM : townR E w 1 A1 g mn wn ly) (hK : kpR E w d cn I K mk) : kC l0 yX1_keep (ws_ yX1_keep cX1_keep 2 none) rmCX1_keep 24 140 mV E w [.ref x] (fun r w' => ∃ I9 : Nat → Nat, (True) ∧ (kpR E w' d (kCn cn) I9 (kSh cn K g) (kSh cn mk mn) ∧ True) ∧ fr pKp w w') := by
  refine k_open (cc := cX1_keep) (maxL := 2) (ret := none) (by decide) rfl (Nat.le_of_ble_eq_true rfl) ?_
  intro p e s m args below meth c ls Q hx hb hr hml hown hts hlocks hname hQ hG hP hl hS
  have hl : lv_has ls 2 [(0, .ref x)] := hl
  obtain ⟨w0, hw0⟩ : ∃ z, z = w := ⟨_, rfl⟩
  have hF : fr pKp w0 w := by rw [hw0]; exact fr.rf
  rw [← hw0] at hQ
  obtain ⟨q, hd, f, As, ⟨⟨hhd, hc8⟩, hI⟩, ⟨hD, hA⟩, hf8, hKt⟩ := hK
  have htl : (hd + cn) % 17 < 17 := by omega
  refine lv_aload_n hx hb dX1_keep_0 rfl (lv_at hl 0 rfl) ?_
  refine k_get hx hb hts in_X1 hown hG hP hX rfl 4 (by decide) (hts _ q280) (fun _ h9 => h9) (v := .ref d) rfl dX1_keep_1 ?_
  refine k_cV hx hb hml hown hts (CJ2_size l0 E w d q hd ((hd + cn) % 17) f (by omega) (by omega) hD hA) (cwV 0 hts (lw_V q505 q506 q507 q76 q508) rfl rfl rfl dyJ2_size ⟨Nat.le_of_ble_eq_true rfl, Nat.le_of_ble_eq_true rfl⟩) hG hP hS hD rfl (As := []) (rest := []) rfl hl.1 rfl (lv_room (Nat.le_of_ble_eq_true rfl)) dX1_keep_4 ⟨show 0 + 0 ≤ 24 from by omega, show 0 + 0 ≤ 140 from by omega⟩ (fun r9 w9 H locs hp hP hS => ?_)
  obtain ⟨hp1, hp0⟩ := hp
  rw [hp1] at hP
  rw [hp0]
  show W p l0 e rmCX1_keep s m args below meth c H locs 0 0 Q (F0 m 7 ls [.int (nI ((((hd + cn) % 17) + 17 - hd) % 17))])
  refine k_top (y := (nI cn)) (by rw [kp_sz hhd hc8]) ?_
  refine lv_bipush (v := 8) hx hb dX1_keep_7 (by decide) ?_
  refine k_icmp_neN (x := cn) (y := 8) (tgt := 25) hx hb (by omega) (by omega) dX1_keep_9 (by decide) (fun c9 => ?_) (fun c9 => ?_)
  · skip
    have hc7 : cn < 8 := by omega
    obtain ⟨i9, hi9, hiF⟩ := kIx_new (c := cn) (I := I) (by omega)
    have hK9 := hKt
    refine k_newW hx hb (i9, 0) hts in_X2 tyX2 tyX2_ok hown (hts _ q117) (hts _ q118) (hts _ q70) hG hP hS (ci := 2) rfl (fs := [.null, .null, .null, .int 0, .int 0, .int 0, .int 0, .int 0, .int 0, .null, .null]) (by decide) (show 0 + 1 ≤ 24 from by omega) (show 0 + 11 ≤ 140 from by omega) dX1_keep_25 (fun q25 w1 H h9 hf9 hP hS => ?_)
    have hN : w1 q25 = some ((i9, 0), .inr (2, [.null, .null, .null, .int 0, .int 0, .int 0, .int 0, .int 0, .int 0, .null, .null])) := h9
    have hX : w1 x = some ((94, 0), .inr (1, [.ref (A1 0), .ref (A2 0), .ref (A3 0), .int hs, .ref d, .ref b, .int ft, .int rf, .int ro])) := hf9 _ _ _ hX (fun z9 => z9)
    have hM : townR E w1 1 A1 g mn wn ly := hM.frm hf9 (fun z9 => z9) (fun _ z9 => z9)
    have hD : w1 d = some ((95, 0), .inr (14, [.ref q, .int (nI hd), .int (nI ((hd + cn) % 17))])) := hf9 _ _ _ hD (fun z9 => z9)
    have hA : w1 q = some ((95, 1), .inl (eT E 6, 17, .inr (.inr (.inr (.inr f))))) := hf9 _ _ _ hA (fun z9 => z9)
    have hK9 : ktR E w1 0 cn I As K mk := hK9.fr hf9 (fun z9 => z9) (fun _ _ _ _ z9 => z9)
    have hF : fr pKp w0 w1 := hF.tr (hf9.up (fun _ h9 => h9.elim))
    refine lv_dup hx hb dX1_keep_28 rfl ?_
    refine k_cI hx hb hml hown hts (CX2_init l0 E w1 i9 q25 (by omega) (by omega) hN) (cwI 0 hts (lw_meth q121) rfl rfl rfl (hts _ q70) (hts _ q119) (hts _ q120) rfl dyX2_init.2 ⟨Nat.le_of_ble_eq_true rfl, Nat.le_of_ble_eq_true rfl⟩) hG hP hS (As := []) (rest := [.ref q25]) rfl hl.1 rfl (lv_room (Nat.le_of_ble_eq_true rfl)) dX1_keep_29 ⟨show (0 + 1) + 17 ≤ 24 from by omega, show (0 + 11) + 116 ≤ 140 from by omega⟩ (fun r29 w2 H locs hp hP hS => ?_)
    obtain ⟨A9_1, hp0, ⟨hn2', -⟩, hf9⟩ := hp
    have hX : w2 x = some ((94, 0), .inr (1, [.ref (A1 0), .ref (A2 0), .ref (A3 0), .int hs, .ref d, .ref b, .int ft, .int rf, .int ro])) := hf9 _ _ _ hX (by intro z9; first | (simp only [pO, pN, pD, pKp, pT, pB, pS, pR, pRd, pRo, Prod.mk.injEq, pX1, pX2, pXs, pX2t] at z9; done) | (simp only [pO, pN, pD, pKp, pT, pB, pS, pR, pRd, pRo, Prod.mk.injEq, pX1, pX2, pXs, pX2t] at z9; omega))
    have hM : townR E w2 1 A1 g mn wn ly := hM.frm hf9 (by intro z9; first | (simp only [pO, pN, pD, pKp, pT, pB, pS, pR, pRd, pRo, Prod.mk.injEq, pX1, pX2, pXs, pX2t] at z9; done) | (simp only [pO, pN, pD, pKp, pT, pB, pS, pR, pRd, pRo, Prod.mk.injEq, pX1, pX2, pXs, pX2t] at z9; omega)) (fun r9 => (by intro z9; first | (simp only [pO, pN, pD, pKp, pT, pB, pS, pR, pRd, pRo, Prod.mk.injEq, pX1, pX2, pXs, pX2t] at z9; done) | (simp only [pO, pN, pD, pKp, pT, pB, pS, pR, pRd, pRo, Prod.mk.injEq, pX1, pX2, pXs, pX2t] at z9; omega)))
    have hD : w2 d = some ((95, 0), .inr (14, [.ref q, .int (nI hd), .int (nI ((hd + cn) % 17))])) := hf9 _ _ _ hD (by intro z9; first | (simp only [pO, pN, pD, pKp, pT, pB, pS, pR, pRd, pRo, Prod.mk.injEq, pX1, pX2, pXs, pX2t] at z9; done) | (simp only [pO, pN, pD, pKp, pT, pB, pS, pR, pRd, pRo, Prod.mk.injEq, pX1, pX2, pXs, pX2t] at z9; omega))
    have hA : w2 q = some ((95, 1), .inl (eT E 6, 17, .inr (.inr (.inr (.inr f))))) := hf9 _ _ _ hA (by intro z9; first | (simp only [pO, pN, pD, pKp, pT, pB, pS, pR, pRd, pRo, Prod.mk.injEq, pX1, pX2, pXs, pX2t] at z9; done) | (simp only [pO, pN, pD, pKp, pT, pB, pS, pR, pRd, pRo, Prod.mk.injEq, pX1, pX2, pXs, pX2t] at z9; omega))
    have hK9 : ktR E w2 0 cn I As K mk := hK9.fr hf9 (by intro z9; first | (simp only [pO, pN, pD, pKp, pT, pB, pS, pR, pRd, pRo, Prod.mk.injEq, pX1, pX2, pXs, pX2t] at z9; done) | (simp only [pO, pN, pD, pKp, pT, pB, pS, pR, pRd, pRo, Prod.mk.injEq, pX1, pX2, pXs, pX2t] at z9; omega)) (fun j9 h7 h8 r9 => by have h5 := hI.1 j9 h8; have h6 := hiF j9 h8; intro z9; simp only [pO, pN, pD, pKp, pT, pB, pS, pR, pRd, pRo, Prod.mk.injEq, pX1, pX2, pXs, pX2t] at z9; omega)
    have hF : fr pKp w0 w2 := hF.tr (hf9.up (fun t9 h9 => by simp only [pO, pN, pD, pKp, pT, pB, pS, pR, pX1, pX2, pXs, pX2t] at h9 ⊢; first | exact h9 | (subst h9; simp; done) | (subst h9; simp; omega) | omega | (rcases h9 with h9 | h9 <;> first | (subst h9; simp; done) | (subst h9; simp; omega) | omega)))
    have hn2 : townR E w2 i9 A9_1 tI0 0 (fun _ => 0) (fun _ => 0) := hn2'
    show W p l0 e rmCX1_keep s m args below meth c H locs ((0 + 1) + 17) ((0 + 11) + 116) Q (F0 m 32 ls [.ref q25])
    have hM8 := hn2
    subst hp0
    refine lv_astore_n (lv' := [(1, .ref (A9_1 0)), (0, .ref x)]) hx hb dX1_keep_32 rfl hl (by decide) rfl (fun ls hl => ?_)
    refine lv_aload_n hx hb dX1_keep_33 rfl (lv_at hl 0 rfl) ?_
    refine lv_aload_n hx hb dX1_keep_34 rfl (lv_at hl 1 rfl) ?_
    refine k_get hx hb hts in_X1 hown hG hP hX rfl 0 (by decide) (hts _ q276) (fun _ h9 => h9) (v := .ref (A1 0)) rfl dX1_keep_35 ?_
    have hT_1 := hM8.1
    refine k_cV hx hb hml hown hts (CX2_take l0 E w2 i9 A9_1 tI0 0 (fun _ => 0) (fun _ => 0) 1 A1 g mn wn ly (by omega) (by omega) (by omega) (by omega) (by omega) hM8 hM) (cwV 1 hts (lw_V q329 q330 q331 q70 q332) rfl rfl rfl dyX2_take ⟨Nat.le_of_ble_eq_true rfl, Nat.le_of_ble_eq_true rfl⟩) hG hP hS hT_1 rfl (As := [.ref (A1 0)]) (rest := []) rfl hl.1 rfl (lv_room (Nat.le_of_ble_eq_true rfl)) dX1_keep_38 ⟨show ((0 + 1) + 17) + 6 ≤ 24 from by omega, show ((0 + 11) + 116) + 12 ≤ 140 from by omega⟩ (fun r38 w3 H locs hp hP hS => ?_)
    obtain ⟨hp0, ⟨hM8', -⟩, hf9⟩ := hp
    have hX : w3 x = some ((94, 0), .inr (1, [.ref (A1 0), .ref (A2 0), .ref (A3 0), .int hs, .ref d, .ref b, .int ft, .int rf, .int ro])) := hf9 _ _ _ hX (by intro z9; first | (simp only [pO, pN, pD, pKp, pT, pB, pS, pR, pRd, pRo, Prod.mk.injEq, pX1, pX2, pXs, pX2t] at z9; done) | (simp only [pO, pN, pD, pKp, pT, pB, pS, pR, pRd, pRo, Prod.mk.injEq, pX1, pX2, pXs, pX2t] at z9; omega))
    have hM : townR E w3 1 A1 g mn wn ly := hM.frm hf9 (by intro z9; first | (simp only [pO, pN, pD, pKp, pT, pB, pS, pR, pRd, pRo, Prod.mk.injEq, pX1, pX2, pXs, pX2t] at z9; done) | (simp only [pO, pN, pD, pKp, pT, pB, pS, pR, pRd, pRo, Prod.mk.injEq, pX1, pX2, pXs, pX2t] at z9; omega)) (fun r9 => (by intro z9; first | (simp only [pO, pN, pD, pKp, pT, pB, pS, pR, pRd, pRo, Prod.mk.injEq, pX1, pX2, pXs, pX2t] at z9; done) | (simp only [pO, pN, pD, pKp, pT, pB, pS, pR, pRd, pRo, Prod.mk.injEq, pX1, pX2, pXs, pX2t] at z9; omega)))
    have hD : w3 d = some ((95, 0), .inr (14, [.ref q, .int (nI hd), .int (nI ((hd + cn) % 17))])) := hf9 _ _ _ hD (by intro z9; first | (simp only [pO, pN, pD, pKp, pT, pB, pS, pR, pRd, pRo, Prod.mk.injEq, pX1, pX2, pXs, pX2t] at z9; done) | (simp only [pO, pN, pD, pKp, pT, pB, pS, pR, pRd, pRo, Prod.mk.injEq, pX1, pX2, pXs, pX2t] at z9; omega))
    have hA : w3 q = some ((95, 1), .inl (eT E 6, 17, .inr (.inr (.inr (.inr f))))) := hf9 _ _ _ hA (by intro z9; first | (simp only [pO, pN, pD, pKp, pT, pB, pS, pR, pRd, pRo, Prod.mk.injEq, pX1, pX2, pXs, pX2t] at z9; done) | (simp only [pO, pN, pD, pKp, pT, pB, pS, pR, pRd, pRo, Prod.mk.injEq, pX1, pX2, pXs, pX2t] at z9; omega))
    have hK9 : ktR E w3 0 cn I As K mk := hK9.fr hf9 (by intro z9; first | (simp only [pO, pN, pD, pKp, pT, pB, pS, pR, pRd, pRo, Prod.mk.injEq, pX1, pX2, pXs, pX2t] at z9; done) | (simp only [pO, pN, pD, pKp, pT, pB, pS, pR, pRd, pRo, Prod.mk.injEq, pX1, pX2, pXs, pX2t] at z9; omega)) (fun j9 h7 h8 r9 => by have h5 := hI.1 j9 h8; have h6 := hiF j9 h8; intro z9; simp only [pO, pN, pD, pKp, pT, pB, pS, pR, pRd, pRo, Prod.mk.injEq, pX1, pX2, pXs, pX2t] at z9; omega)
    have hF : fr pKp w0 w3 := hF.tr (hf9.up (fun t9 h9 => by simp only [pO, pN, pD, pKp, pT, pB, pS, pR, pX1, pX2, pXs, pX2t] at h9 ⊢; first | exact h9 | (subst h9; simp; done) | (subst h9; simp; omega) | omega | (rcases h9 with h9 | h9 <;> first | (subst h9; simp; done) | (subst h9; simp; omega) | omega)))
    have hM8 : townR E w3 i9 A9_1 g mn (fun _ => 0) (fun _ => 0) := hM8'
    show W p l0 e rmCX1_keep s m args below meth c H locs (((0 + 1) + 17) + 6) (((0 + 11) + 116) + 12) Q (F0 m 41 ls [])
    refine lv_aload_n hx hb dX1_keep_41 rfl (lv_at hl 1 rfl) ?_
    refine k_get hx hb hts in_X1 hown hG hP hX rfl 4 (by decide) (hts _ q280) (fun _ h9 => h9) (v := .ref d) rfl dX1_keep_42 ?_
    refine lv_aload_n hx hb dX1_keep_45 rfl (lv_at hl 0 rfl) ?_
    have hT_2 := hM8.1
    refine k_cV hx hb hml hown hts (CJ2_addLast l0 E w3 d q hd ((hd + cn) % 17) f (A9_1 0) (i9, 0) [.ref (A9_1 1), .ref (A9_1 2), .ref (A9_1 3), .int (nI mn), .int (g 20), .int (g 21), .int (g 23), .int (g 22), .int (g 24), .ref (A9_1 4), .ref (A9_1 5)] (by repeat (first | omega | split)) (by repeat (first | omega | split)) (by repeat (first | omega | split)) (by intro z9; simp only [pD] at z9; omega) hD hA hT_2) (cwV 1 hts (lw_V q522 q523 q524 q76 q525) rfl rfl rfl dyJ2_addLast ⟨Nat.le_of_ble_eq_true rfl, Nat.le_of_ble_eq_true rfl⟩) hG hP hS hD rfl (As := [.ref (A9_1 0)]) (rest := []) rfl hl.1 rfl (lv_room (Nat.le_of_ble_eq_true rfl)) dX1_keep_46 ⟨show (((0 + 1) + 17) + 6) + 0 ≤ 24 from by omega, show (((0 + 11) + 116) + 12) + 0 ≤ 140 from by omega⟩ (fun r46 w4 H locs hp hP hS => ?_)
    obtain ⟨hp0, ⟨hD', hA', -⟩, hf9⟩ := hp
    have hX : w4 x = some ((94, 0), .inr (1, [.ref (A1 0), .ref (A2 0), .ref (A3 0), .int hs, .ref d, .ref b, .int ft, .int rf, .int ro])) := hf9 _ _ _ hX (by intro z9; first | (simp only [pO, pN, pD, pKp, pT, pB, pS, pR, pRd, pRo, Prod.mk.injEq, pX1, pX2, pXs, pX2t] at z9; done) | (simp only [pO, pN, pD, pKp, pT, pB, pS, pR, pRd, pRo, Prod.mk.injEq, pX1, pX2, pXs, pX2t] at z9; omega))
    have hM : townR E w4 1 A1 g mn wn ly := hM.frm hf9 (by intro z9; first | (simp only [pO, pN, pD, pKp, pT, pB, pS, pR, pRd, pRo, Prod.mk.injEq, pX1, pX2, pXs, pX2t] at z9; done) | (simp only [pO, pN, pD, pKp, pT, pB, pS, pR, pRd, pRo, Prod.mk.injEq, pX1, pX2, pXs, pX2t] at z9; omega)) (fun r9 => (by intro z9; first | (simp only [pO, pN, pD, pKp, pT, pB, pS, pR, pRd, pRo, Prod.mk.injEq, pX1, pX2, pXs, pX2t] at z9; done) | (simp only [pO, pN, pD, pKp, pT, pB, pS, pR, pRd, pRo, Prod.mk.injEq, pX1, pX2, pXs, pX2t] at z9; omega)))
    have hK9 : ktR E w4 0 cn I As K mk := hK9.fr hf9 (by intro z9; first | (simp only [pO, pN, pD, pKp, pT, pB, pS, pR, pRd, pRo, Prod.mk.injEq, pX1, pX2, pXs, pX2t] at z9; done) | (simp only [pO, pN, pD, pKp, pT, pB, pS, pR, pRd, pRo, Prod.mk.injEq, pX1, pX2, pXs, pX2t] at z9; omega)) (fun j9 h7 h8 r9 => by have h5 := hI.1 j9 h8; have h6 := hiF j9 h8; intro z9; simp only [pO, pN, pD, pKp, pT, pB, pS, pR, pRd, pRo, Prod.mk.injEq, pX1, pX2, pXs, pX2t] at z9; omega)
    have hM8 : townR E w4 i9 A9_1 g mn (fun _ => 0) (fun _ => 0) := hM8.frm hf9 (by intro z9; first | (simp only [pO, pN, pD, pKp, pT, pB, pS, pR, pRd, pRo, Prod.mk.injEq, pX1, pX2, pXs, pX2t] at z9; done) | (simp only [pO, pN, pD, pKp, pT, pB, pS, pR, pRd, pRo, Prod.mk.injEq, pX1, pX2, pXs, pX2t] at z9; omega)) (fun r9 => (by intro z9; first | (simp only [pO, pN, pD, pKp, pT, pB, pS, pR, pRd, pRo, Prod.mk.injEq, pX1, pX2, pXs, pX2t] at z9; done) | (simp only [pO, pN, pD, pKp, pT, pB, pS, pR, pRd, pRo, Prod.mk.injEq, pX1, pX2, pXs, pX2t] at z9; omega)))
    have hF : fr pKp w0 w4 := hF.tr (hf9.up (fun t9 h9 => by simp only [pO, pN, pD, pKp, pT, pB, pS, pR, pX1, pX2, pXs, pX2t] at h9 ⊢; first | exact h9 | (subst h9; simp; done) | (subst h9; simp; omega) | omega | (rcases h9 with h9 | h9 <;> first | (subst h9; simp; done) | (subst h9; simp; omega) | omega)))
    have hD : w4 d = some ((95, 0), .inr (14, [.ref q, .int (nI hd), .int (nI (if ((hd + cn) % 17) + 1 < 17 then ((hd + cn) % 17) + 1 else 0))])) := hD'
    have hA : w4 q = some ((95, 1), .inl (eT E 6, 17, .inr (.inr (.inr (.inr (va_up f ((hd + cn) % 17) (some (A9_1 0)))))))) := hA'
    show W p l0 e rmCX1_keep s m args below meth c H locs (((0 + 1) + 17) + 6) (((0 + 11) + 116) + 12) Q (F0 m 49 ls [])
    exact k_vret hx hb hr hlocks hQ hP hS (by omega) (by omega) dX1_keep_49 (⟨_, trivial, ⟨(kpR.add hc7 hhd hI hi9 hiF hD hA hf8 hK9 hM8), trivial⟩, hF⟩)
  · skip
    obtain ⟨wn8, ly8, hM8⟩ := hKt 0 (Nat.zero_le 0) (by omega)
    have hK9 : ktR E w 1 cn I As K mk := fun j h1 h2 => hKt j (by omega) h2
    have hI0 := hI.1 0 (by omega)
    refine lv_aload_n hx hb dX1_keep_12 rfl (lv_at hl 0 rfl) ?_
    refine k_get hx hb hts in_X1 hown hG hP hX rfl 4 (by decide) (hts _ q280) (fun _ h9 => h9) (v := .ref d) rfl dX1_keep_13 ?_
    refine k_cV hx hb hml hown hts (CJ2_pollFirst l0 E w d q hd ((hd + cn) % 17) f (As 0 0) (by omega) (by omega) (by have := hf8 0 (by omega); rwa [Nat.add_zero, Nat.mod_eq_of_lt hhd] at this) hD hA) (cwV 0 hts (lw_V q512 q513 q514 q76 q515) rfl rfl rfl dyJ2_pollFirst ⟨Nat.le_of_ble_eq_true rfl, Nat.le_of_ble_eq_true rfl⟩) hG hP hS hD rfl (As := []) (rest := []) rfl hl.1 rfl (lv_room (Nat.le_of_ble_eq_true rfl)) dX1_keep_16 ⟨show 0 + 0 ≤ 24 from by omega, show 0 + 0 ≤ 140 from by omega⟩ (fun r16 w5 H locs hp hP hS => ?_)
    obtain ⟨hp0, ⟨hD', hA', -⟩, hf9⟩ := hp
    have hX : w5 x = some ((94, 0), .inr (1, [.ref (A1 0), .ref (A2 0), .ref (A3 0), .int hs, .ref d, .ref b, .int ft, .int rf, .int ro])) := hf9 _ _ _ hX (by intro z9; first | (simp only [pO, pN, pD, pKp, pT, pB, pS, pR, pRd, pRo, Prod.mk.injEq, pX1, pX2, pXs, pX2t] at z9; done) | (simp only [pO, pN, pD, pKp, pT, pB, pS, pR, pRd, pRo, Prod.mk.injEq, pX1, pX2, pXs, pX2t] at z9; omega))
    have hM : townR E w5 1 A1 g mn wn ly := hM.frm hf9 (by intro z9; first | (simp only [pO, pN, pD, pKp, pT, pB, pS, pR, pRd, pRo, Prod.mk.injEq, pX1, pX2, pXs, pX2t] at z9; done) | (simp only [pO, pN, pD, pKp, pT, pB, pS, pR, pRd, pRo, Prod.mk.injEq, pX1, pX2, pXs, pX2t] at z9; omega)) (fun r9 => (by intro z9; first | (simp only [pO, pN, pD, pKp, pT, pB, pS, pR, pRd, pRo, Prod.mk.injEq, pX1, pX2, pXs, pX2t] at z9; done) | (simp only [pO, pN, pD, pKp, pT, pB, pS, pR, pRd, pRo, Prod.mk.injEq, pX1, pX2, pXs, pX2t] at z9; omega)))
    have hM8 : townR E w5 (I 0) (As 0) (K 0) (mk 0) wn8 ly8 := hM8.frm hf9 (by intro z9; first | (simp only [pO, pN, pD, pKp, pT, pB, pS, pR, pRd, pRo, Prod.mk.injEq, pX1, pX2, pXs, pX2t] at z9; done) | (simp only [pO, pN, pD, pKp, pT, pB, pS, pR, pRd, pRo, Prod.mk.injEq, pX1, pX2, pXs, pX2t] at z9; omega)) (fun r9 => (by intro z9; first | (simp only [pO, pN, pD, pKp, pT, pB, pS, pR, pRd, pRo, Prod.mk.injEq, pX1, pX2, pXs, pX2t] at z9; done) | (simp only [pO, pN, pD, pKp, pT, pB, pS, pR, pRd, pRo, Prod.mk.injEq, pX1, pX2, pXs, pX2t] at z9; omega)))
    have hK9 : ktR E w5 1 cn I As K mk := hK9.fr hf9 (by intro z9; first | (simp only [pO, pN, pD, pKp, pT, pB, pS, pR, pRd, pRo, Prod.mk.injEq, pX1, pX2, pXs, pX2t] at z9; done) | (simp only [pO, pN, pD, pKp, pT, pB, pS, pR, pRd, pRo, Prod.mk.injEq, pX1, pX2, pXs, pX2t] at z9; omega)) (fun j9 h7 h8 r9 => by have h5 := hI.1 j9 h8; have h6 : I j9 ≠ I 0 := fun e9 => absurd (hI.2 j9 0 h8 (by omega) e9) (by omega); intro z9; simp only [pO, pN, pD, pKp, pT, pB, pS, pR, pRd, pRo, Prod.mk.injEq, pX1, pX2, pXs, pX2t] at z9; omega)
    have hF : fr pKp w0 w5 := hF.tr (hf9.up (fun t9 h9 => by simp only [pO, pN, pD, pKp, pT, pB, pS, pR, pX1, pX2, pXs, pX2t] at h9 ⊢; first | exact h9 | (subst h9; simp; done) | (subst h9; simp; omega) | omega | (rcases h9 with h9 | h9 <;> first | (subst h9; simp; done) | (subst h9; simp; omega) | omega)))
    have hD : w5 d = some ((95, 0), .inr (14, [.ref q, .int (nI (if hd + 1 < 17 then hd + 1 else 0)), .int (nI ((hd + cn) % 17))])) := hD'
    have hA : w5 q = some ((95, 1), .inl (eT E 6, 17, .inr (.inr (.inr (.inr (va_up f hd none)))))) := hA'
    rw [hp0]
    show W p l0 e rmCX1_keep s m args below meth c H locs 0 0 Q (F0 m 19 ls [.ref (As 0 0)])
    have hT_3 := hM8.1
    refine k_castS hx hb hown (hts _ q117) hG hP hT_3 rfl dX1_keep_19 ?_
    refine lv_goto (tgt := 32) hx hb dX1_keep_22 (by decide) ?_
    refine lv_astore_n (lv' := [(1, .ref (As 0 0)), (0, .ref x)]) hx hb dX1_keep_32 rfl hl (by decide) rfl (fun ls hl => ?_)
    refine lv_aload_n hx hb dX1_keep_33 rfl (lv_at hl 0 rfl) ?_
    refine lv_aload_n hx hb dX1_keep_34 rfl (lv_at hl 1 rfl) ?_
    refine k_get hx hb hts in_X1 hown hG hP hX rfl 0 (by decide) (hts _ q276) (fun _ h9 => h9) (v := .ref (A1 0)) rfl dX1_keep_35 ?_
    refine k_cV hx hb hml hown hts (CX2_take l0 E w5 (I 0) (As 0) (K 0) (mk 0) wn8 ly8 1 A1 g mn wn ly (by omega) (by omega) (by omega) (by omega) (by omega) hM8 hM) (cwV 1 hts (lw_V q329 q330 q331 q70 q332) rfl rfl rfl dyX2_take ⟨Nat.le_of_ble_eq_true rfl, Nat.le_of_ble_eq_true rfl⟩) hG hP hS hT_3 rfl (As := [.ref (A1 0)]) (rest := []) rfl hl.1 rfl (lv_room (Nat.le_of_ble_eq_true rfl)) dX1_keep_38 ⟨show 0 + 6 ≤ 24 from by omega, show 0 + 12 ≤ 140 from by omega⟩ (fun r38 w6 H locs hp hP hS => ?_)
    obtain ⟨hp0, ⟨hM8', -⟩, hf9⟩ := hp
    have hX : w6 x = some ((94, 0), .inr (1, [.ref (A1 0), .ref (A2 0), .ref (A3 0), .int hs, .ref d, .ref b, .int ft, .int rf, .int ro])) := hf9 _ _ _ hX (by intro z9; first | (simp only [pO, pN, pD, pKp, pT, pB, pS, pR, pRd, pRo, Prod.mk.injEq, pX1, pX2, pXs, pX2t] at z9; done) | (simp only [pO, pN, pD, pKp, pT, pB, pS, pR, pRd, pRo, Prod.mk.injEq, pX1, pX2, pXs, pX2t] at z9; omega))
    have hM : townR E w6 1 A1 g mn wn ly := hM.frm hf9 (by intro z9; first | (simp only [pO, pN, pD, pKp, pT, pB, pS, pR, pRd, pRo, Prod.mk.injEq, pX1, pX2, pXs, pX2t] at z9; done) | (simp only [pO, pN, pD, pKp, pT, pB, pS, pR, pRd, pRo, Prod.mk.injEq, pX1, pX2, pXs, pX2t] at z9; omega)) (fun r9 => (by intro z9; first | (simp only [pO, pN, pD, pKp, pT, pB, pS, pR, pRd, pRo, Prod.mk.injEq, pX1, pX2, pXs, pX2t] at z9; done) | (simp only [pO, pN, pD, pKp, pT, pB, pS, pR, pRd, pRo, Prod.mk.injEq, pX1, pX2, pXs, pX2t] at z9; omega)))
    have hD : w6 d = some ((95, 0), .inr (14, [.ref q, .int (nI (if hd + 1 < 17 then hd + 1 else 0)), .int (nI ((hd + cn) % 17))])) := hf9 _ _ _ hD (by intro z9; first | (simp only [pO, pN, pD, pKp, pT, pB, pS, pR, pRd, pRo, Prod.mk.injEq, pX1, pX2, pXs, pX2t] at z9; done) | (simp only [pO, pN, pD, pKp, pT, pB, pS, pR, pRd, pRo, Prod.mk.injEq, pX1, pX2, pXs, pX2t] at z9; omega))
    have hA : w6 q = some ((95, 1), .inl (eT E 6, 17, .inr (.inr (.inr (.inr (va_up f hd none)))))) := hf9 _ _ _ hA (by intro z9; first | (simp only [pO, pN, pD, pKp, pT, pB, pS, pR, pRd, pRo, Prod.mk.injEq, pX1, pX2, pXs, pX2t] at z9; done) | (simp only [pO, pN, pD, pKp, pT, pB, pS, pR, pRd, pRo, Prod.mk.injEq, pX1, pX2, pXs, pX2t] at z9; omega))
    have hK9 : ktR E w6 1 cn I As K mk := hK9.fr hf9 (by intro z9; first | (simp only [pO, pN, pD, pKp, pT, pB, pS, pR, pRd, pRo, Prod.mk.injEq, pX1, pX2, pXs, pX2t] at z9; done) | (simp only [pO, pN, pD, pKp, pT, pB, pS, pR, pRd, pRo, Prod.mk.injEq, pX1, pX2, pXs, pX2t] at z9; omega)) (fun j9 h7 h8 r9 => by have h5 := hI.1 j9 h8; have h6 : I j9 ≠ I 0 := fun e9 => absurd (hI.2 j9 0 h8 (by omega) e9) (by omega); intro z9; simp only [pO, pN, pD, pKp, pT, pB, pS, pR, pRd, pRo, Prod.mk.injEq, pX1, pX2, pXs, pX2t] at z9; omega)
    have hF : fr pKp w0 w6 := hF.tr (hf9.up (fun t9 h9 => by simp only [pO, pN, pD, pKp, pT, pB, pS, pR, pX1, pX2, pXs, pX2t] at h9 ⊢; first | exact h9 | (subst h9; simp; done) | (subst h9; simp; omega) | omega | (rcases h9 with h9 | h9 <;> first | (subst h9; simp; done) | (subst h9; simp; omega) | omega)))
    have hM8 : townR E w6 (I 0) (As 0) g mn wn8 ly8 := hM8'
    show W p l0 e rmCX1_keep s m args below meth c H locs (0 + 6) (0 + 12) Q (F0 m 41 ls [])
    refine lv_aload_n hx hb dX1_keep_41 rfl (lv_at hl 1 rfl) ?_
    refine k_get hx hb hts in_X1 hown hG hP hX rfl 4 (by decide) (hts _ q280) (fun _ h9 => h9) (v := .ref d) rfl dX1_keep_42 ?_
    refine lv_aload_n hx hb dX1_keep_45 rfl (lv_at hl 0 rfl) ?_
    have hT_4 := hM8.1
    refine k_cV hx hb hml hown hts (CJ2_addLast l0 E w6 d q (if hd + 1 < 17 then hd + 1 else 0) ((hd + cn) % 17) (va_up f hd none) (As 0 0) ((I 0), 0) [.ref (As 0 1), .ref (As 0 2), .ref (As 0 3), .int (nI mn), .int (g 20), .int (g 21), .int (g 23), .int (g 22), .int (g 24), .ref (As 0 4), .ref (As 0 5)] (by repeat (first | omega | split)) (by repeat (first | omega | split)) (by repeat (first | omega | split)) (by intro z9; simp only [pD] at z9; omega) hD hA hT_4) (cwV 1 hts (lw_V q522 q523 q524 q76 q525) rfl rfl rfl dyJ2_addLast ⟨Nat.le_of_ble_eq_true rfl, Nat.le_of_ble_eq_true rfl⟩) hG hP hS hD rfl (As := [.ref (As 0 0)]) (rest := []) rfl hl.1 rfl (lv_room (Nat.le_of_ble_eq_true rfl)) dX1_keep_46 ⟨show (0 + 6) + 0 ≤ 24 from by omega, show (0 + 12) + 0 ≤ 140 from by omega⟩ (fun r46 w7 H locs hp hP hS => ?_)
    obtain ⟨hp0, ⟨hD', hA', -⟩, hf9⟩ := hp
    have hX : w7 x = some ((94, 0), .inr (1, [.ref (A1 0), .ref (A2 0), .ref (A3 0), .int hs, .ref d, .ref b, .int ft, .int rf, .int ro])) := hf9 _ _ _ hX (by intro z9; first | (simp only [pO, pN, pD, pKp, pT, pB, pS, pR, pRd, pRo, Prod.mk.injEq, pX1, pX2, pXs, pX2t] at z9; done) | (simp only [pO, pN, pD, pKp, pT, pB, pS, pR, pRd, pRo, Prod.mk.injEq, pX1, pX2, pXs, pX2t] at z9; omega))
    have hM : townR E w7 1 A1 g mn wn ly := hM.frm hf9 (by intro z9; first | (simp only [pO, pN, pD, pKp, pT, pB, pS, pR, pRd, pRo, Prod.mk.injEq, pX1, pX2, pXs, pX2t] at z9; done) | (simp only [pO, pN, pD, pKp, pT, pB, pS, pR, pRd, pRo, Prod.mk.injEq, pX1, pX2, pXs, pX2t] at z9; omega)) (fun r9 => (by intro z9; first | (simp only [pO, pN, pD, pKp, pT, pB, pS, pR, pRd, pRo, Prod.mk.injEq, pX1, pX2, pXs, pX2t] at z9; done) | (simp only [pO, pN, pD, pKp, pT, pB, pS, pR, pRd, pRo, Prod.mk.injEq, pX1, pX2, pXs, pX2t] at z9; omega)))
    have hM8 : townR E w7 (I 0) (As 0) g mn wn8 ly8 := hM8.frm hf9 (by intro z9; first | (simp only [pO, pN, pD, pKp, pT, pB, pS, pR, pRd, pRo, Prod.mk.injEq, pX1, pX2, pXs, pX2t] at z9; done) | (simp only [pO, pN, pD, pKp, pT, pB, pS, pR, pRd, pRo, Prod.mk.injEq, pX1, pX2, pXs, pX2t] at z9; omega)) (fun r9 => (by intro z9; first | (simp only [pO, pN, pD, pKp, pT, pB, pS, pR, pRd, pRo, Prod.mk.injEq, pX1, pX2, pXs, pX2t] at z9; done) | (simp only [pO, pN, pD, pKp, pT, pB, pS, pR, pRd, pRo, Prod.mk.injEq, pX1, pX2, pXs, pX2t] at z9; omega)))
    have hK9 : ktR E w7 1 cn I As K mk := hK9.fr hf9 (by intro z9; first | (simp only [pO, pN, pD, pKp, pT, pB, pS, pR, pRd, pRo, Prod.mk.injEq, pX1, pX2, pXs, pX2t] at z9; done) | (simp only [pO, pN, pD, pKp, pT, pB, pS, pR, pRd, pRo, Prod.mk.injEq, pX1, pX2, pXs, pX2t] at z9; omega)) (fun j9 h7 h8 r9 => by have h5 := hI.1 j9 h8; have h6 : I j9 ≠ I 0 := fun e9 => absurd (hI.2 j9 0 h8 (by omega) e9) (by omega); intro z9; simp only [pO, pN, pD, pKp, pT, pB, pS, pR, pRd, pRo, Prod.mk.injEq, pX1, pX2, pXs, pX2t] at z9; omega)
    have hF : fr pKp w0 w7 := hF.tr (hf9.up (fun t9 h9 => by simp only [pO, pN, pD, pKp, pT, pB, pS, pR, pX1, pX2, pXs, pX2t] at h9 ⊢; first | exact h9 | (subst h9; simp; done) | (subst h9; simp; omega) | omega | (rcases h9 with h9 | h9 <;> first | (subst h9; simp; done) | (subst h9; simp; omega) | omega)))
    have hD : w7 d = some ((95, 0), .inr (14, [.ref q, .int (nI (if hd + 1 < 17 then hd + 1 else 0)), .int (nI (if ((hd + cn) % 17) + 1 < 17 then ((hd + cn) % 17) + 1 else 0))])) := hD'
    have hA : w7 q = some ((95, 1), .inl (eT E 6, 17, .inr (.inr (.inr (.inr (va_up (va_up f hd none) ((hd + cn) % 17) (some (As 0 0)))))))) := hA'
    show W p l0 e rmCX1_keep s m args below meth c H locs (0 + 6) (0 + 12) Q (F0 m 49 ls [])
    exact k_vret hx hb hr hlocks hQ hP hS (by omega) (by omega) dX1_keep_49 (⟨_, trivial, ⟨(kpR.rot c9 hhd hI hD hA hf8 hK9 hM8), trivial⟩, hF⟩)
