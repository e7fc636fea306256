/-! THE COMPONENT, 11: questions -/
set_option maxRecDepth 100000
abbrev rmCX1_state : Room := { frames := 9, cells := 3, slots := 20, locals := 141 }
theorem dyX1_state : yX1_state.cls = RX1 ∧ yX1_state.cls ≠ "java/lang/invoke/MethodHandle" ∧ yX1_state.cls ≠ "java/lang/invoke/VarHandle" ∧ (parseMethodDescriptor yX1_state.desc).map (fun d => d.parameters.length) = some 1 := by decide +kernel
set_option maxHeartbeats 4000000 in
theorem CX1_state (l0 : Launch) (hl0 : l0.stackTraces = false) (E : gE) (w : wd) (x : Nat) (A1 : Nat → Nat) (A2 : Nat → Nat) (A3 : Nat → Nat) (d : Nat) (b : Nat) (hs : Int32) (ft : Int32) (rf : Int32) (ro : Int32) (g : Nat → Int32) (mn : Nat) (wn : Nat → Int32) (ly : Nat → Int32) (y : Int32) (hX : w x = some ((94, 0), .inr (1, [.ref (A1 0), .ref (A2 0), .ref (A3 0), .int hs, .ref d, .ref b, .int ft, .int rf, .int ro]))) (hM : townR E w 1 A1 g mn wn ly) : kX l0 yX1_state (ws_ yX1_state cX1_state 2 (some .char)) rmCX1_state 3 20 mI E w [.ref x, .int y] (fun r w' => w' = w ∧ (qSta g y).1 = 0 ∧ r = (qSta g y).2) (pxL [(nIO, 1)] w (qSta g y).1) := by
  refine kx_open (cc := cX1_state) (maxL := 2) (ret := (some .char)) (by decide) rfl (Nat.le_of_ble_eq_true rfl) ?_
  intro p e s m args below meth c ls Q hx hb hr hml hown hts hlocks hname ht hQ hG hP hl hS
  have hl : lv_has ls 2 [(0, .ref x), (1, .int y)] := hl
  have hm6 := hM.m25
  refine lv_aload_n hx hb dX1_state_0 rfl (lv_at hl 0 rfl) ?_
  refine lv_iload_n hx hb dX1_state_1 rfl (lv_at hl 1 rfl) ?_
  refine kx_cV hx hb hml hown hts hQ ht hlocks (CX1_kiteAt l0 hl0 E w x A1 A2 A3 d b hs ft rf ro g mn wn ly y hX hM) (cwV 1 hts (lw_V q743 q745 qs7 q69 q746) rfl rfl rfl dyX1_kiteAt ⟨Nat.le_of_ble_eq_true rfl, Nat.le_of_ble_eq_true rfl⟩) hG hP hS hX rfl (As := [.int y]) (rest := []) rfl hl.1 rfl (lv_room (Nat.le_of_ble_eq_true rfl)) dX1_state_2 ⟨show 0 + 1 ≤ 3 from by omega, show 0 + 6 ≤ 20 from by omega⟩ ⟨show 0 + 1 ≤ 3 from by omega, show 0 + 6 ≤ 20 from by omega⟩ (fun X9 q9 w9 h9 => pxL.mk' (k := 1) h9.1 (by simp [qSta, h9.2.2]) (by decide) h9.2.1 rfl) (fun r9 w9 H locs hp hP hS => ?_)
  obtain ⟨hp1, hp0⟩ := hp
  rw [hp1] at hP
  obtain ⟨kz, hkz, rfl, rfl⟩ := hp0
  have ckz : (nI kz).toNatClampNeg = kz := nI_clamp (by omega)
  have hk9 := tKt_N hm6.1 hm6.2 hkz
  show W p l0 e rmCX1_state s m args below meth c H locs (0 + 1) (0 + 6) Q (F0 m 5 ls [.ref (A1 (6 + kz))])
  obtain ⟨tz_1, hT_1, hz_1⟩ := hM.kite (k := kz) (by omega)
  refine k_getN hx hb hts in_X3 hown hG hP hT_1 rfl 7 (by decide) (hG.2.1.1 _ q162 rfl) (fun _ h9 => h9) (v := .ref tz_1) rfl dX1_state_5 ?_
  refine k_sgn hx hb hml hown hts q864 hz_1 hG hP hS hl.1 dX1_state_8 ⟨Nat.le_of_ble_eq_true rfl, Nat.le_of_ble_eq_true rfl⟩ (Nat.le_of_ble_eq_true rfl) ⟨show (0 + 1) ≤ 3 from by omega, show (0 + 6) ≤ 20 from by omega⟩ (fun H locs hP hS => ?_)
  refine k_top (y := (if g (kO kz 0) = 0 then 114 else if g (kO kz 0) = 1 then 117 else 99)) rfl ?_
  exact kx_zret hx hb hr hlocks hQ hP hS (by omega) (by omega) dX1_state_13 (by split <;> (try split) <;> rfl) (⟨rfl, by simp [qSta, hk9, ckz, tUp]; split <;> (try split) <;> simp⟩)

abbrev rmCX1_heightAgain : Room := { frames := 9, cells := 3, slots := 20, locals := 141 }
theorem dyX1_heightAgain : yX1_heightAgain.cls = RX1 ∧ yX1_heightAgain.cls ≠ "java/lang/invoke/MethodHandle" ∧ yX1_heightAgain.cls ≠ "java/lang/invoke/VarHandle" ∧ (parseMethodDescriptor yX1_heightAgain.desc).map (fun d => d.parameters.length) = some 1 := by decide +kernel
set_option maxHeartbeats 4000000 in
theorem CX1_heightAgain (l0 : Launch) (hl0 : l0.stackTraces = false) (E : gE) (w : wd) (x : Nat) (A1 : Nat → Nat) (A2 : Nat → Nat) (A3 : Nat → Nat) (d : Nat) (b : Nat) (hs : Int32) (ft : Int32) (rf : Int32) (ro : Int32) (g : Nat → Int32) (mn : Nat) (wn : Nat → Int32) (ly : Nat → Int32) (y : Int32) (N : Nat) (hI : gI g mn N) (hX : w x = some ((94, 0), .inr (1, [.ref (A1 0), .ref (A2 0), .ref (A3 0), .int hs, .ref d, .ref b, .int ft, .int rf, .int ro]))) (hM : townR E w 1 A1 g mn wn ly) : kX l0 yX1_heightAgain (ws_ yX1_heightAgain cX1_heightAgain 2 (some .int)) rmCX1_heightAgain 3 20 mI E w [.ref x, .int y] (fun r w' => w' = w ∧ (qHag g y).1 = 0 ∧ r = (qHag g y).2) (pxL [(nIO, 1)] w (qHag g y).1) := by
  refine kx_open (cc := cX1_heightAgain) (maxL := 2) (ret := (some .int)) (by decide) rfl (Nat.le_of_ble_eq_true rfl) ?_
  intro p e s m args below meth c ls Q hx hb hr hml hown hts hlocks hname ht hQ hG hP hl hS
  have hl : lv_has ls 2 [(0, .ref x), (1, .int y)] := hl
  have hm6 := hM.m25
  refine lv_aload_n hx hb dX1_heightAgain_0 rfl (lv_at hl 0 rfl) ?_
  refine k_get hx hb hts in_X1 hown hG hP hX rfl 0 (by decide) (hts _ q276) (fun _ h9 => h9) (v := .ref (A1 0)) rfl dX1_heightAgain_1 ?_
  refine lv_aload_n hx hb dX1_heightAgain_4 rfl (lv_at hl 0 rfl) ?_
  refine lv_iload_n hx hb dX1_heightAgain_5 rfl (lv_at hl 1 rfl) ?_
  refine kx_cV hx hb hml hown hts hQ ht hlocks (CX1_kiteAt l0 hl0 E w x A1 A2 A3 d b hs ft rf ro g mn wn ly y hX hM) (cwV 1 hts (lw_V q743 q745 qs7 q69 q746) rfl rfl rfl dyX1_kiteAt ⟨Nat.le_of_ble_eq_true rfl, Nat.le_of_ble_eq_true rfl⟩) hG hP hS hX rfl (As := [.int y]) (rest := [.ref (A1 0)]) rfl hl.1 rfl (lv_room (Nat.le_of_ble_eq_true rfl)) dX1_heightAgain_6 ⟨show 0 + 1 ≤ 3 from by omega, show 0 + 6 ≤ 20 from by omega⟩ ⟨show 0 + 1 ≤ 3 from by omega, show 0 + 6 ≤ 20 from by omega⟩ (fun X9 q9 w9 h9 => pxL.mk' (k := 1) h9.1 (by simp [qHag, h9.2.2]) (by decide) h9.2.1 rfl) (fun r9 w9 H locs hp hP hS => ?_)
  obtain ⟨hp1, hp0⟩ := hp
  rw [hp1] at hP
  obtain ⟨kz, hkz, rfl, rfl⟩ := hp0
  have ckz : (nI kz).toNatClampNeg = kz := nI_clamp (by omega)
  have hk9 := tKt_N hm6.1 hm6.2 hkz
  show W p l0 e rmCX1_heightAgain s m args below meth c H locs (0 + 1) (0 + 6) Q (F0 m 9 ls [.ref (A1 (6 + kz)), .ref (A1 0)])
  have hT_1 := hM.1
  refine k_cV hx hb hml hown hts (CX2_heightAgain l0 E w 1 A1 g mn wn ly N kz hI (by omega) hM) (cwV 1 hts (lw_V q889 q890 q891 q70 q892) rfl rfl rfl dyX2_heightAgain ⟨Nat.le_of_ble_eq_true rfl, Nat.le_of_ble_eq_true rfl⟩) hG hP hS hT_1 rfl (As := [.ref (A1 (6 + kz))]) (rest := []) rfl hl.1 rfl (lv_room (Nat.le_of_ble_eq_true rfl)) dX1_heightAgain_9 ⟨show (0 + 1) + 0 ≤ 3 from by omega, show (0 + 6) + 0 ≤ 20 from by omega⟩ (fun r9 w9 H locs hp hP hS => ?_)
  obtain ⟨hp1, hp0⟩ := hp
  rw [hp1] at hP
  rw [hp0]
  show W p l0 e rmCX1_heightAgain s m args below meth c H locs (0 + 1) (0 + 6) Q (F0 m 12 ls [.int (nI (if tUp g kz = true then tHa g kz 10 else 0))])
  exact kx_iret hx hb hr hlocks hQ hP hS (by omega) (by omega) dX1_heightAgain_12 (⟨rfl, by simp only [qHag, hk9, ckz, if_true]; split <;> simp_all [nI]⟩)

abbrev rmCX1_placeAt : Room := { frames := 9, cells := 3, slots := 20, locals := 141 }
theorem dyX1_placeAt : yX1_placeAt.cls = RX1 ∧ yX1_placeAt.cls ≠ "java/lang/invoke/MethodHandle" ∧ yX1_placeAt.cls ≠ "java/lang/invoke/VarHandle" ∧ (parseMethodDescriptor yX1_placeAt.desc).map (fun d => d.parameters.length) = some 2 := by decide +kernel
set_option maxHeartbeats 4000000 in
theorem CX1_placeAt (l0 : Launch) (hl0 : l0.stackTraces = false) (E : gE) (w : wd) (x : Nat) (A1 : Nat → Nat) (A2 : Nat → Nat) (A3 : Nat → Nat) (d : Nat) (b : Nat) (hs : Int32) (ft : Int32) (rf : Int32) (ro : Int32) (g : Nat → Int32) (mn : Nat) (wn : Nat → Int32) (ly : Nat → Int32) (y : Int32) (z : Int32) (N : Nat) (hI : gI g mn N) (hX : w x = some ((94, 0), .inr (1, [.ref (A1 0), .ref (A2 0), .ref (A3 0), .int hs, .ref d, .ref b, .int ft, .int rf, .int ro]))) (hM : townR E w 1 A1 g mn wn ly) : kX l0 yX1_placeAt (ws_ yX1_placeAt cX1_placeAt 4 (some .int)) rmCX1_placeAt 3 20 mI E w [.ref x, .int y, .int z] (fun r w' => w' = w ∧ (qPat g y z).1 = 0 ∧ r = (qPat g y z).2) (pxL [(nIO, 1), (nNS, 2)] w (qPat g y z).1) := by
  refine kx_open (cc := cX1_placeAt) (maxL := 4) (ret := (some .int)) (by decide) rfl (Nat.le_of_ble_eq_true rfl) ?_
  intro p e s m args below meth c ls Q hx hb hr hml hown hts hlocks hname ht hQ hG hP hl hS
  have hl : lv_has ls 4 [(0, .ref x), (1, .int y), (2, .int z)] := hl
  have hm6 := hM.m25
  have htp := tHt_le g
  refine lv_aload_n hx hb dX1_placeAt_0 rfl (lv_at hl 0 rfl) ?_
  refine lv_iload_n hx hb dX1_placeAt_1 rfl (lv_at hl 1 rfl) ?_
  refine kx_cV hx hb hml hown hts hQ ht hlocks (CX1_kiteAt l0 hl0 E w x A1 A2 A3 d b hs ft rf ro g mn wn ly y hX hM) (cwV 1 hts (lw_V q743 q745 qs7 q69 q746) rfl rfl rfl dyX1_kiteAt ⟨Nat.le_of_ble_eq_true rfl, Nat.le_of_ble_eq_true rfl⟩) hG hP hS hX rfl (As := [.int y]) (rest := []) rfl hl.1 rfl (lv_room (Nat.le_of_ble_eq_true rfl)) dX1_placeAt_2 ⟨show 0 + 1 ≤ 3 from by omega, show 0 + 6 ≤ 20 from by omega⟩ ⟨show 0 + 1 ≤ 3 from by omega, show 0 + 6 ≤ 20 from by omega⟩ (fun X9 q9 w9 h9 => pxL.mk' (k := 1) h9.1 (by simp [qPat, h9.2.2]) (by decide) h9.2.1 rfl) (fun r9 w9 H locs hp hP hS => ?_)
  obtain ⟨hp1, hp0⟩ := hp
  rw [hp1] at hP
  obtain ⟨kz, hkz, rfl, rfl⟩ := hp0
  have ckz : (nI kz).toNatClampNeg = kz := nI_clamp (by omega)
  have hk9 := tKt_N hm6.1 hm6.2 hkz
  show W p l0 e rmCX1_placeAt s m args below meth c H locs (0 + 1) (0 + 6) Q (F0 m 5 ls [.ref (A1 (6 + kz))])
  refine lv_astore_n (lv' := [(3, .ref (A1 (6 + kz))), (0, .ref x), (1, .int (nI kz)), (2, .int z)]) hx hb dX1_placeAt_5 rfl hl (by decide) rfl (fun ls hl => ?_)
  refine lv_iload_n hx hb dX1_placeAt_6 rfl (lv_at hl 3 rfl) ?_
  refine lv_iconst (v := 0) hx hb dX1_placeAt_7 (by decide) ?_
  refine lv_aload_n hx hb dX1_placeAt_8 rfl (lv_at hl 1 rfl) ?_
  refine k_get hx hb hts in_X1 hown hG hP hX rfl 0 (by decide) (hts _ q276) (fun _ h9 => h9) (v := .ref (A1 0)) rfl dX1_placeAt_9 ?_
  refine lv_aload_n hx hb dX1_placeAt_12 rfl (lv_at hl 0 rfl) ?_
  have hT_1 := hM.1
  refine k_cV hx hb hml hown hts (CX2_height l0 E w 1 A1 g mn wn ly N kz hI (by omega) hM) (cwV 1 hts (lw_V q803 q804 q805 q70 q806) rfl rfl rfl dyX2_height ⟨Nat.le_of_ble_eq_true rfl, Nat.le_of_ble_eq_true rfl⟩) hG hP hS hT_1 rfl (As := [.ref (A1 (6 + kz))]) (rest := [.int 0, .int z]) rfl hl.1 rfl (lv_room (Nat.le_of_ble_eq_true rfl)) dX1_placeAt_13 ⟨show (0 + 1) + 0 ≤ 3 from by omega, show (0 + 6) + 0 ≤ 20 from by omega⟩ (fun r9 w9 H locs hp hP hS => ?_)
  obtain ⟨hp1, hp0⟩ := hp
  rw [hp1] at hP
  rw [hp0]
  show W p l0 e rmCX1_placeAt s m args below meth c H locs (0 + 1) (0 + 6) Q (F0 m 16 ls [.int (nI (tHt g kz)), .int 0, .int z])
  refine lv_iconst (v := 1) hx hb dX1_placeAt_16 (by decide) ?_
  refine lv_isub hx hb dX1_placeAt_17 ?_
  refine k_cS hx hb hml hown hts (CX1_in l0 E w z 0 ((nI (tHt g kz)) - 1)) (va_cwS 3 hts (lw_S q453 q454 q69 q455) rfl rfl rfl dyX1_in ⟨Nat.le_of_ble_eq_true rfl, Nat.le_of_ble_eq_true rfl⟩) hG hP hS (As := [.int z, .int 0, .int ((nI (tHt g kz)) - 1)]) (rest := []) rfl hl.1 rfl (lv_room (Nat.le_of_ble_eq_true rfl)) dX1_placeAt_18 ⟨show (0 + 1) + 0 ≤ 3 from by omega, show (0 + 6) + 0 ≤ 20 from by omega⟩ (fun r9 w9 H locs hp hP hS => ?_)
  obtain ⟨hp1, hp0⟩ := hp
  rw [hp1] at hP
  rw [hp0]
  show W p l0 e rmCX1_placeAt s m args below meth c H locs (0 + 1) (0 + 6) Q (F0 m 21 ls [.int (bI (tin z 0 ((nI (tHt g kz)) - 1)))])
  refine kx_cS hx hb hml hown hts hQ ht hlocks (CX1_checkElement l0 hl0 E w (tin z 0 ((nI (tHt g kz)) - 1))) (va_cwS 1 hts (lw_S q901 q902 q69 q903) rfl rfl rfl dyX1_checkElement ⟨Nat.le_of_ble_eq_true rfl, Nat.le_of_ble_eq_true rfl⟩) hG hP hS (As := [.int (bI (tin z 0 ((nI (tHt g kz)) - 1)))]) (rest := []) rfl hl.1 rfl (lv_room (Nat.le_of_ble_eq_true rfl)) dX1_placeAt_21 ⟨show (0 + 1) + 1 ≤ 3 from by omega, show (0 + 6) + 6 ≤ 20 from by omega⟩ ⟨show (0 + 1) + 1 ≤ 3 from by omega, show (0 + 6) + 6 ≤ 20 from by omega⟩ (fun X9 q9 w9 h9 => pxL.mk' (k := 2) h9.1 (by simp [qPat, hk9, ckz, h9.2.2]) (by decide) h9.2.1 rfl) (fun r9 w9 H locs hp hP hS => ?_)
  obtain ⟨hp1, hp0⟩ := hp
  rw [hp1] at hP
  have hk8 := hp0
  show W p l0 e rmCX1_placeAt s m args below meth c H locs ((0 + 1) + 1) ((0 + 6) + 6) Q (F0 m 24 ls [])
  have htz := htp kz
  obtain ⟨kw, hkw, rfl⟩ := tin_N1 (n := tHt g kz) (by have := htp kz; omega) hk8
  have ckw : (nI kw).toNatClampNeg = kw := nI_clamp (by omega)
  refine lv_aload_n hx hb dX1_placeAt_24 rfl (lv_at hl 1 rfl) ?_
  refine k_get hx hb hts in_X1 hown hG hP hX rfl 0 (by decide) (hts _ q276) (fun _ h9 => h9) (v := .ref (A1 0)) rfl dX1_placeAt_25 ?_
  refine lv_aload_n hx hb dX1_placeAt_28 rfl (lv_at hl 0 rfl) ?_
  refine lv_iload_n hx hb dX1_placeAt_29 rfl (lv_at hl 3 rfl) ?_
  refine lv_iconst (v := 1) hx hb dX1_placeAt_30 (by decide) ?_
  refine k_iaddN (x := kw) (y := 1) hx hb dX1_placeAt_31 ?_
  refine k_cVN hx hb hml hown hts (CX2_place l0 E w 1 A1 g mn wn ly N kz (kw + 1) hI (by omega) (by omega) hM) ⟨va_cnB 2 hts (lw_meth q847) rfl rfl rfl (hG.2.1.1 _ q919 rfl) (hts _ q70) dyX2_place.2 ⟨Nat.le_of_ble_eq_true rfl, Nat.le_of_ble_eq_true rfl⟩, hts _ q846, hts _ qs10⟩ hG hP hS hT_1 rfl (As := [.ref (A1 (6 + kz)), .int (nI (kw + 1))]) (rest := []) rfl hl.1 rfl (lv_room (Nat.le_of_ble_eq_true rfl)) dX1_placeAt_32 ⟨show ((0 + 1) + 1) + 0 ≤ 3 from by omega, show ((0 + 6) + 6) + 0 ≤ 20 from by omega⟩ (fun r9 w9 H locs hp hP hS => ?_)
  obtain ⟨hp1, hp0⟩ := hp
  rw [hp1] at hP
  rw [hp0]
  show W p l0 e rmCX1_placeAt s m args below meth c H locs ((0 + 1) + 1) ((0 + 6) + 6) Q (F0 m 35 ls [.int (tPl g kz (kw + 1))])
  exact kx_iret hx hb hr hlocks hQ hP hS (by omega) (by omega) dX1_placeAt_35 (⟨rfl, by simp [qPat, hk9, ckz, hk8, ckw]⟩)

abbrev rmCX1_crossing : Room := { frames := 8, cells := 3, slots := 20, locals := 120 }
theorem dyX1_crossing : yX1_crossing.cls = RX1 ∧ yX1_crossing.cls ≠ "java/lang/invoke/MethodHandle" ∧ yX1_crossing.cls ≠ "java/lang/invoke/VarHandle" ∧ (parseMethodDescriptor yX1_crossing.desc).map (fun d => d.parameters.length) = some 2 := by decide +kernel
set_option maxHeartbeats 4000000 in
theorem CX1_crossing (l0 : Launch) (hl0 : l0.stackTraces = false) (E : gE) (w : wd) (x : Nat) (A1 : Nat → Nat) (A2 : Nat → Nat) (A3 : Nat → Nat) (d : Nat) (b : Nat) (hs : Int32) (ft : Int32) (rf : Int32) (ro : Int32) (g : Nat → Int32) (mn : Nat) (wn : Nat → Int32) (ly : Nat → Int32) (y : Int32) (z : Int32) (N : Nat) (hI : gI g mn N) (hX : w x = some ((94, 0), .inr (1, [.ref (A1 0), .ref (A2 0), .ref (A3 0), .int hs, .ref d, .ref b, .int ft, .int rf, .int ro]))) (hM : townR E w 1 A1 g mn wn ly) : kX l0 yX1_crossing (ws_ yX1_crossing cX1_crossing 3 (some .int)) rmCX1_crossing 3 20 mI E w [.ref x, .int y, .int z] (fun r w' => w' = w ∧ (qCro g y z).1 = 0 ∧ r = (qCro g y z).2) (pxL [(nIO, 1)] w (qCro g y z).1) := by
  refine kx_open (cc := cX1_crossing) (maxL := 3) (ret := (some .int)) (by decide) rfl (Nat.le_of_ble_eq_true rfl) ?_
  intro p e s m args below meth c ls Q hx hb hr hml hown hts hlocks hname ht hQ hG hP hl hS
  have hl : lv_has ls 3 [(0, .ref x), (1, .int y), (2, .int z)] := hl
  have hm6 := hM.m25
  refine lv_aload_n hx hb dX1_crossing_0 rfl (lv_at hl 0 rfl) ?_
  refine k_get hx hb hts in_X1 hown hG hP hX rfl 0 (by decide) (hts _ q276) (fun _ h9 => h9) (v := .ref (A1 0)) rfl dX1_crossing_1 ?_
  refine lv_iload_n hx hb dX1_crossing_4 rfl (lv_at hl 1 rfl) ?_
  have hT_1 := hM.1
  refine k_cV hx hb hml hown hts (CX2_isKite l0 E w 1 A1 g mn wn ly y hM) (cwV 1 hts (lw_V q656 q657 q658 q70 q659) rfl rfl rfl dyX2_isKite ⟨Nat.le_of_ble_eq_true rfl, Nat.le_of_ble_eq_true rfl⟩) hG hP hS hT_1 rfl (As := [.int y]) (rest := []) rfl hl.1 rfl (lv_room (Nat.le_of_ble_eq_true rfl)) dX1_crossing_5 ⟨show 0 + 0 ≤ 3 from by omega, show 0 + 0 ≤ 20 from by omega⟩ (fun r9 w9 H locs hp hP hS => ?_)
  obtain ⟨hp1, hp0⟩ := hp
  rw [hp1] at hP
  rw [hp0]
  show W p l0 e rmCX1_crossing s m args below meth c H locs 0 0 Q (F0 m 8 ls [.int (bI (tKt g y))])
  refine k_ifeqB (x := tKt g y) (tgt := 26) hx hb dX1_crossing_8 (by decide) (fun c8 => ?_) (fun c8 => ?_)
  · skip
    refine lv_iconst (v := 0) hx hb dX1_crossing_26 (by decide) ?_
    refine kx_cS hx hb hml hown hts hQ ht hlocks (CX1_checkIndex l0 hl0 E w false) (va_cwS 1 hts (lw_S q456 q457 q69 q458) rfl rfl rfl dyX1_checkIndex ⟨Nat.le_of_ble_eq_true rfl, Nat.le_of_ble_eq_true rfl⟩) hG hP hS (As := [.int 0]) (rest := []) rfl hl.1 rfl (lv_room (Nat.le_of_ble_eq_true rfl)) dX1_crossing_27 ⟨show 0 + 1 ≤ 3 from by omega, show 0 + 6 ≤ 20 from by omega⟩ ⟨show 0 + 1 ≤ 3 from by omega, show 0 + 6 ≤ 20 from by omega⟩ (fun X9 q9 w9 h9 => pxL.mk' (k := 1) h9.1 (by simp [qCro, c8]) (by decide) h9.2.1 rfl) (fun r9 w9 H locs hp hP hS => ?_)
    obtain ⟨hp1, hp0⟩ := hp
    rw [hp1] at hP
    show W p l0 e rmCX1_crossing s m args below meth c H locs (0 + 1) (0 + 6) Q (F0 m 30 ls [])
    exact absurd hp0 (by decide)
  · skip
    refine lv_aload_n hx hb dX1_crossing_11 rfl (lv_at hl 0 rfl) ?_
    refine k_get hx hb hts in_X1 hown hG hP hX rfl 0 (by decide) (hts _ q276) (fun _ h9 => h9) (v := .ref (A1 0)) rfl dX1_crossing_12 ?_
    refine lv_iload_n hx hb dX1_crossing_15 rfl (lv_at hl 2 rfl) ?_
    refine k_cV hx hb hml hown hts (CX2_isKite l0 E w 1 A1 g mn wn ly z hM) (cwV 1 hts (lw_V q656 q657 q658 q70 q659) rfl rfl rfl dyX2_isKite ⟨Nat.le_of_ble_eq_true rfl, Nat.le_of_ble_eq_true rfl⟩) hG hP hS hT_1 rfl (As := [.int z]) (rest := []) rfl hl.1 rfl (lv_room (Nat.le_of_ble_eq_true rfl)) dX1_crossing_16 ⟨show 0 + 0 ≤ 3 from by omega, show 0 + 0 ≤ 20 from by omega⟩ (fun r9 w9 H locs hp hP hS => ?_)
    obtain ⟨hp1, hp0⟩ := hp
    rw [hp1] at hP
    rw [hp0]
    show W p l0 e rmCX1_crossing s m args below meth c H locs 0 0 Q (F0 m 19 ls [.int (bI (tKt g z))])
    refine k_ifeqB (x := tKt g z) (tgt := 26) hx hb dX1_crossing_19 (by decide) (fun c19 => ?_) (fun c19 => ?_)
    · skip
      refine lv_iconst (v := 0) hx hb dX1_crossing_26 (by decide) ?_
      refine kx_cS hx hb hml hown hts hQ ht hlocks (CX1_checkIndex l0 hl0 E w false) (va_cwS 1 hts (lw_S q456 q457 q69 q458) rfl rfl rfl dyX1_checkIndex ⟨Nat.le_of_ble_eq_true rfl, Nat.le_of_ble_eq_true rfl⟩) hG hP hS (As := [.int 0]) (rest := []) rfl hl.1 rfl (lv_room (Nat.le_of_ble_eq_true rfl)) dX1_crossing_27 ⟨show 0 + 1 ≤ 3 from by omega, show 0 + 6 ≤ 20 from by omega⟩ ⟨show 0 + 1 ≤ 3 from by omega, show 0 + 6 ≤ 20 from by omega⟩ (fun X9 q9 w9 h9 => pxL.mk' (k := 1) h9.1 (by simp [qCro, c8, c19]) (by decide) h9.2.1 rfl) (fun r9 w9 H locs hp hP hS => ?_)
      obtain ⟨hp1, hp0⟩ := hp
      rw [hp1] at hP
      show W p l0 e rmCX1_crossing s m args below meth c H locs (0 + 1) (0 + 6) Q (F0 m 30 ls [])
      exact absurd hp0 (by decide)
    · skip
      refine lv_iconst (v := 1) hx hb dX1_crossing_22 (by decide) ?_
      refine lv_goto (tgt := 27) hx hb dX1_crossing_23 (by decide) ?_
      refine kx_cS hx hb hml hown hts hQ ht hlocks (CX1_checkIndex l0 hl0 E w true) (va_cwS 1 hts (lw_S q456 q457 q69 q458) rfl rfl rfl dyX1_checkIndex ⟨Nat.le_of_ble_eq_true rfl, Nat.le_of_ble_eq_true rfl⟩) hG hP hS (As := [.int 1]) (rest := []) rfl hl.1 rfl (lv_room (Nat.le_of_ble_eq_true rfl)) dX1_crossing_27 ⟨show 0 + 1 ≤ 3 from by omega, show 0 + 6 ≤ 20 from by omega⟩ ⟨show 0 + 1 ≤ 3 from by omega, show 0 + 6 ≤ 20 from by omega⟩ (fun X9 q9 w9 h9 => pxL.mk' (k := 1) h9.1 (absurd h9.2.2 (by decide)) (by decide) h9.2.1 rfl) (fun r9 w9 H locs hp hP hS => ?_)
      obtain ⟨hp1, hp0⟩ := hp
      rw [hp1] at hP
      show W p l0 e rmCX1_crossing s m args below meth c H locs (0 + 1) (0 + 6) Q (F0 m 30 ls [])
      obtain ⟨kz, hkz, rfl⟩ := tKt_of hm6.1 hm6.2 c8
      have ckz : (nI kz).toNatClampNeg = kz := nI_clamp (by omega)
      obtain ⟨kw, hkw, rfl⟩ := tKt_of hm6.1 hm6.2 c19
      have ckw : (nI kw).toNatClampNeg = kw := nI_clamp (by omega)
      refine lv_aload_n hx hb dX1_crossing_30 rfl (lv_at hl 0 rfl) ?_
      refine k_get hx hb hts in_X1 hown hG hP hX rfl 0 (by decide) (hts _ q276) (fun _ h9 => h9) (v := .ref (A1 0)) rfl dX1_crossing_31 ?_
      refine lv_iload_n hx hb dX1_crossing_34 rfl (lv_at hl 1 rfl) ?_
      refine lv_iload_n hx hb dX1_crossing_35 rfl (lv_at hl 2 rfl) ?_
      refine k_cV hx hb hml hown hts (CX2_crossing l0 E w 1 A1 g mn wn ly N kz kw hI (by omega) (by omega) hM) (cwV 2 hts (lw_V q927 q928 q929 q70 q930) rfl rfl rfl dyX2_crossing ⟨Nat.le_of_ble_eq_true rfl, Nat.le_of_ble_eq_true rfl⟩) hG hP hS hT_1 rfl (As := [.int (nI kz), .int (nI kw)]) (rest := []) rfl hl.1 rfl (lv_room (Nat.le_of_ble_eq_true rfl)) dX1_crossing_36 ⟨show (0 + 1) + 0 ≤ 3 from by omega, show (0 + 6) + 0 ≤ 20 from by omega⟩ (fun r9 w9 H locs hp hP hS => ?_)
      obtain ⟨hp1, hp0⟩ := hp
      rw [hp1] at hP
      rw [hp0]
      show W p l0 e rmCX1_crossing s m args below meth c H locs (0 + 1) (0 + 6) Q (F0 m 39 ls [.int (oI (tCr g kz kw))])
      exact kx_iret hx hb hr hlocks hQ hP hS (by omega) (by omega) dX1_crossing_39 (⟨rfl, by simp [qCro, c8, c19, ckz, ckw]⟩)

abbrev rmCX1_wears : Room := { frames := 8, cells := 3, slots := 20, locals := 150 }
theorem dyX1_wears : yX1_wears.cls = RX1 ∧ yX1_wears.cls ≠ "java/lang/invoke/MethodHandle" ∧ yX1_wears.cls ≠ "java/lang/invoke/VarHandle" ∧ (parseMethodDescriptor yX1_wears.desc).map (fun d => d.parameters.length) = some 1 := by decide +kernel
set_option maxHeartbeats 4000000 in
theorem CX1_wears (l0 : Launch) (hl0 : l0.stackTraces = false) (E : gE) (w : wd) (x : Nat) (A1 : Nat → Nat) (A2 : Nat → Nat) (A3 : Nat → Nat) (d : Nat) (b : Nat) (hs : Int32) (ft : Int32) (rf : Int32) (ro : Int32) (g : Nat → Int32) (mn : Nat) (wn : Nat → Int32) (ly : Nat → Int32) (y : Int32) (N : Nat) (hI : gI g mn N) (hX : w x = some ((94, 0), .inr (1, [.ref (A1 0), .ref (A2 0), .ref (A3 0), .int hs, .ref d, .ref b, .int ft, .int rf, .int ro]))) (hM : townR E w 1 A1 g mn wn ly) : kX l0 yX1_wears (ws_ yX1_wears cX1_wears 2 (some .int)) rmCX1_wears 3 20 mI E w [.ref x, .int y] (fun r w' => w' = w ∧ (qWea g mn y).1 = 0 ∧ r = (qWea g mn y).2) (pxL [(nIO, 1)] w (qWea g mn y).1) := by
  refine kx_open (cc := cX1_wears) (maxL := 2) (ret := (some .int)) (by decide) rfl (Nat.le_of_ble_eq_true rfl) ?_
  intro p e s m args below meth c ls Q hx hb hr hml hown hts hlocks hname ht hQ hG hP hl hS
  have hl : lv_has ls 2 [(0, .ref x), (1, .int y)] := hl
  have hm6 := hM.m25
  refine lv_aload_n hx hb dX1_wears_0 rfl (lv_at hl 0 rfl) ?_
  refine k_get hx hb hts in_X1 hown hG hP hX rfl 0 (by decide) (hts _ q276) (fun _ h9 => h9) (v := .ref (A1 0)) rfl dX1_wears_1 ?_
  refine lv_iload_n hx hb dX1_wears_4 rfl (lv_at hl 1 rfl) ?_
  have hT_1 := hM.1
  refine k_cV hx hb hml hown hts (CX2_isKite l0 E w 1 A1 g mn wn ly y hM) (cwV 1 hts (lw_V q656 q657 q658 q70 q659) rfl rfl rfl dyX2_isKite ⟨Nat.le_of_ble_eq_true rfl, Nat.le_of_ble_eq_true rfl⟩) hG hP hS hT_1 rfl (As := [.int y]) (rest := []) rfl hl.1 rfl (lv_room (Nat.le_of_ble_eq_true rfl)) dX1_wears_5 ⟨show 0 + 0 ≤ 3 from by omega, show 0 + 0 ≤ 20 from by omega⟩ (fun r9 w9 H locs hp hP hS => ?_)
  obtain ⟨hp1, hp0⟩ := hp
  rw [hp1] at hP
  rw [hp0]
  show W p l0 e rmCX1_wears s m args below meth c H locs 0 0 Q (F0 m 8 ls [.int (bI (tKt g y))])
  refine kx_cS hx hb hml hown hts hQ ht hlocks (CX1_checkIndex l0 hl0 E w (tKt g y)) (va_cwS 1 hts (lw_S q456 q457 q69 q458) rfl rfl rfl dyX1_checkIndex ⟨Nat.le_of_ble_eq_true rfl, Nat.le_of_ble_eq_true rfl⟩) hG hP hS (As := [.int (bI (tKt g y))]) (rest := []) rfl hl.1 rfl (lv_room (Nat.le_of_ble_eq_true rfl)) dX1_wears_8 ⟨show 0 + 1 ≤ 3 from by omega, show 0 + 6 ≤ 20 from by omega⟩ ⟨show 0 + 1 ≤ 3 from by omega, show 0 + 6 ≤ 20 from by omega⟩ (fun X9 q9 w9 h9 => pxL.mk' (k := 1) h9.1 (by simp [qWea, h9.2.2]) (by decide) h9.2.1 rfl) (fun r9 w9 H locs hp hP hS => ?_)
  obtain ⟨hp1, hp0⟩ := hp
  rw [hp1] at hP
  have hk9 := hp0
  show W p l0 e rmCX1_wears s m args below meth c H locs (0 + 1) (0 + 6) Q (F0 m 11 ls [])
  obtain ⟨kz, hkz, rfl⟩ := tKt_of hm6.1 hm6.2 hk9
  have ckz : (nI kz).toNatClampNeg = kz := nI_clamp (by omega)
  refine lv_aload_n hx hb dX1_wears_11 rfl (lv_at hl 0 rfl) ?_
  refine k_get hx hb hts in_X1 hown hG hP hX rfl 0 (by decide) (hts _ q276) (fun _ h9 => h9) (v := .ref (A1 0)) rfl dX1_wears_12 ?_
  refine lv_iload_n hx hb dX1_wears_15 rfl (lv_at hl 1 rfl) ?_
  refine k_cV hx hb hml hown hts (CX2_wears l0 E w 1 A1 g mn wn ly N kz hI (by omega) hM) (cwV 1 hts (lw_V q943 q944 q945 q70 q946) rfl rfl rfl dyX2_wears ⟨Nat.le_of_ble_eq_true rfl, Nat.le_of_ble_eq_true rfl⟩) hG hP hS hT_1 rfl (As := [.int (nI kz)]) (rest := []) rfl hl.1 rfl (lv_room (Nat.le_of_ble_eq_true rfl)) dX1_wears_16 ⟨show (0 + 1) + 0 ≤ 3 from by omega, show (0 + 6) + 0 ≤ 20 from by omega⟩ (fun r9 w9 H locs hp hP hS => ?_)
  obtain ⟨hp1, hp0⟩ := hp
  rw [hp1] at hP
  rw [hp0]
  show W p l0 e rmCX1_wears s m args below meth c H locs (0 + 1) (0 + 6) Q (F0 m 19 ls [.int (tWn g kz mn)])
  exact kx_iret hx hb hr hlocks hQ hP hS (by omega) (by omega) dX1_wears_19 (⟨rfl, by simp [qWea, hk9, ckz]⟩)

abbrev rmCX1_ofLine : Room := { frames := 4, cells := 0, slots := 0, locals := 101 }
theorem dyX1_ofLine : yX1_ofLine.cls = RX1 ∧ yX1_ofLine.cls ≠ "java/lang/invoke/MethodHandle" ∧ yX1_ofLine.cls ≠ "java/lang/invoke/VarHandle" ∧ (parseMethodDescriptor yX1_ofLine.desc).map (fun d => d.parameters.length) = some 2 := by decide +kernel
set_option maxHeartbeats 4000000 in
theorem CX1_ofLine (l0 : Launch) (E : gE) (w : wd) (x : Nat) (A1 : Nat → Nat) (A2 : Nat → Nat) (A3 : Nat → Nat) (d : Nat) (b : Nat) (hs : Int32) (ft : Int32) (rf : Int32) (ro : Int32) (g : Nat → Int32) (mn : Nat) (wn : Nat → Int32) (ly : Nat → Int32) (kz : Nat) (nn : Nat) (N : Nat) (hI : gI g mn N) (hkz : kz < mn) (hn5 : 5 ≤ nn ∧ nn ≤ 10) (hX : w x = some ((94, 0), .inr (1, [.ref (A1 0), .ref (A2 0), .ref (A3 0), .int hs, .ref d, .ref b, .int ft, .int rf, .int ro]))) (hM : townR E w 1 A1 g mn wn ly) : kC l0 yX1_ofLine (ws_ yX1_ofLine cX1_ofLine 3 (some .int)) rmCX1_ofLine 0 0 mI E w [.ref x, .ref (A1 (6 + kz)), .int (nI nn)] (fun r w' => w' = w ∧ r = (rKof g kz nn)) := by
  refine k_open (cc := cX1_ofLine) (maxL := 3) (ret := (some .int)) (by decide) rfl (Nat.le_of_ble_eq_true rfl) ?_
  intro p e s m args below meth c ls Q hx hb hr hml hown hts hlocks hname hQ hG hP hl hS
  have hl : lv_has ls 3 [(0, .ref x), (1, .ref (A1 (6 + kz))), (2, .int (nI nn))] := hl
  have hm6 := hM.m25
  refine lv_iload_n hx hb dX1_ofLine_0 rfl (lv_at hl 2 rfl) ?_
  rcases (show nn = 5 ∨ nn = 6 ∨ nn = 7 ∨ nn = 8 ∨ nn = 9 ∨ nn = 10 from by omega) with rfl | rfl | rfl | rfl | rfl | rfl
  · skip
    refine lv_tableIn (tgt := 36) hx hb dX1_ofLine_1 (by decide) (by decide) (off := 35) rfl (by decide) ?_
    refine lv_aload_n hx hb dX1_ofLine_36 rfl (lv_at hl 1 rfl) ?_
    obtain ⟨tz_1, hT_1, hz_1⟩ := hM.kite (k := kz) (by omega)
    refine k_cV hx hb hml hown hts (CX3_out l0 E w 1 kz (A1 (6 + kz)) (kv g kz) tz_1 hT_1 hz_1) (cwV 0 hts (lw_V q798 q321 q322 q71 q323) rfl rfl rfl dyX3_out ⟨Nat.le_of_ble_eq_true rfl, Nat.le_of_ble_eq_true rfl⟩) hG hP hS hT_1 rfl (As := []) (rest := []) rfl hl.1 rfl (lv_room (Nat.le_of_ble_eq_true rfl)) dX1_ofLine_37 ⟨show 0 + 0 ≤ 0 from by omega, show 0 + 0 ≤ 0 from by omega⟩ (fun r9 w9 H locs hp hP hS => ?_)
    obtain ⟨hp1, hp0⟩ := hp
    rw [hp1] at hP
    rw [hp0]
    show W p l0 e rmCX1_ofLine s m args below meth c H locs 0 0 Q (F0 m 40 ls [.int (kOt (kv g kz))])
    exact k_iret hx hb hr hlocks hQ hP hS (by omega) (by omega) dX1_ofLine_40 (⟨rfl, (kOt_eq hI hkz).trans (by simp [rKof])⟩)
  · skip
    refine lv_tableIn (tgt := 41) hx hb dX1_ofLine_1 (by decide) (by decide) (off := 40) rfl (by decide) ?_
    refine lv_aload_n hx hb dX1_ofLine_41 rfl (lv_at hl 1 rfl) ?_
    obtain ⟨tz_2, hT_2, hz_2⟩ := hM.kite (k := kz) (by omega)
    refine k_cV hx hb hml hown hts (CX3_wear l0 E w 1 kz (A1 (6 + kz)) (kv g kz) tz_2 hT_2 hz_2) (cwV 0 hts (lw_V q799 q800 q801 q71 q802) rfl rfl rfl dyX3_wear ⟨Nat.le_of_ble_eq_true rfl, Nat.le_of_ble_eq_true rfl⟩) hG hP hS hT_2 rfl (As := []) (rest := []) rfl hl.1 rfl (lv_room (Nat.le_of_ble_eq_true rfl)) dX1_ofLine_42 ⟨show 0 + 0 ≤ 0 from by omega, show 0 + 0 ≤ 0 from by omega⟩ (fun r9 w9 H locs hp hP hS => ?_)
    obtain ⟨hp1, hp0⟩ := hp
    rw [hp1] at hP
    rw [hp0]
    show W p l0 e rmCX1_ofLine s m args below meth c H locs 0 0 Q (F0 m 45 ls [.int (kWr (kv g kz))])
    exact k_iret hx hb hr hlocks hQ hP hS (by omega) (by omega) dX1_ofLine_45 (⟨rfl, kWr_eq.trans (by simp [rKof])⟩)
  · skip
    refine lv_tableIn (tgt := 46) hx hb dX1_ofLine_1 (by decide) (by decide) (off := 45) rfl (by decide) ?_
    refine lv_aload_n hx hb dX1_ofLine_46 rfl (lv_at hl 0 rfl) ?_
    refine k_get hx hb hts in_X1 hown hG hP hX rfl 0 (by decide) (hts _ q276) (fun _ h9 => h9) (v := .ref (A1 0)) rfl dX1_ofLine_47 ?_
    refine lv_aload_n hx hb dX1_ofLine_50 rfl (lv_at hl 1 rfl) ?_
    have hT_3 := hM.1
    refine k_cV hx hb hml hown hts (CX2_height l0 E w 1 A1 g mn wn ly N kz hI (by omega) hM) (cwV 1 hts (lw_V q803 q804 q805 q70 q806) rfl rfl rfl dyX2_height ⟨Nat.le_of_ble_eq_true rfl, Nat.le_of_ble_eq_true rfl⟩) hG hP hS hT_3 rfl (As := [.ref (A1 (6 + kz))]) (rest := []) rfl hl.1 rfl (lv_room (Nat.le_of_ble_eq_true rfl)) dX1_ofLine_51 ⟨show 0 + 0 ≤ 0 from by omega, show 0 + 0 ≤ 0 from by omega⟩ (fun r9 w9 H locs hp hP hS => ?_)
    obtain ⟨hp1, hp0⟩ := hp
    rw [hp1] at hP
    rw [hp0]
    show W p l0 e rmCX1_ofLine s m args below meth c H locs 0 0 Q (F0 m 54 ls [.int (nI (tHt g kz))])
    exact k_iret hx hb hr hlocks hQ hP hS (by omega) (by omega) dX1_ofLine_54 (⟨rfl, by simp [rKof]⟩)
  · skip
    refine lv_tableIn (tgt := 55) hx hb dX1_ofLine_1 (by decide) (by decide) (off := 54) rfl (by decide) ?_
    refine lv_aload_n hx hb dX1_ofLine_55 rfl (lv_at hl 0 rfl) ?_
    refine k_get hx hb hts in_X1 hown hG hP hX rfl 0 (by decide) (hts _ q276) (fun _ h9 => h9) (v := .ref (A1 0)) rfl dX1_ofLine_56 ?_
    refine lv_aload_n hx hb dX1_ofLine_59 rfl (lv_at hl 1 rfl) ?_
    have hT_4 := hM.1
    refine k_cV hx hb hml hown hts (CX2_tension l0 E w 1 A1 g mn wn ly N kz hI (by omega) hM) (cwV 1 hts (lw_V q823 q824 q825 q70 q826) rfl rfl rfl dyX2_tension ⟨Nat.le_of_ble_eq_true rfl, Nat.le_of_ble_eq_true rfl⟩) hG hP hS hT_4 rfl (As := [.ref (A1 (6 + kz))]) (rest := []) rfl hl.1 rfl (lv_room (Nat.le_of_ble_eq_true rfl)) dX1_ofLine_60 ⟨show 0 + 0 ≤ 0 from by omega, show 0 + 0 ≤ 0 from by omega⟩ (fun r9 w9 H locs hp hP hS => ?_)
    obtain ⟨hp1, hp0⟩ := hp
    rw [hp1] at hP
    rw [hp0]
    show W p l0 e rmCX1_ofLine s m args below meth c H locs 0 0 Q (F0 m 63 ls [.int (tTs g kz)])
    exact k_iret hx hb hr hlocks hQ hP hS (by omega) (by omega) dX1_ofLine_63 (⟨rfl, by simp [rKof]⟩)
  · skip
    refine lv_tableIn (tgt := 64) hx hb dX1_ofLine_1 (by decide) (by decide) (off := 63) rfl (by decide) ?_
    refine lv_aload_n hx hb dX1_ofLine_64 rfl (lv_at hl 0 rfl) ?_
    refine k_get hx hb hts in_X1 hown hG hP hX rfl 0 (by decide) (hts _ q276) (fun _ h9 => h9) (v := .ref (A1 0)) rfl dX1_ofLine_65 ?_
    refine lv_aload_n hx hb dX1_ofLine_68 rfl (lv_at hl 1 rfl) ?_
    have hT_5 := hM.1
    refine k_cV hx hb hml hown hts (CX2_placeNow l0 E w 1 A1 g mn wn ly N kz hI (by omega) hM) (cwV 1 hts (lw_V q840 q841 q842 q70 q843) rfl rfl rfl dyX2_placeNow ⟨Nat.le_of_ble_eq_true rfl, Nat.le_of_ble_eq_true rfl⟩) hG hP hS hT_5 rfl (As := [.ref (A1 (6 + kz))]) (rest := []) rfl hl.1 rfl (lv_room (Nat.le_of_ble_eq_true rfl)) dX1_ofLine_69 ⟨show 0 + 0 ≤ 0 from by omega, show 0 + 0 ≤ 0 from by omega⟩ (fun r9 w9 H locs hp hP hS => ?_)
    obtain ⟨hp1, hp0⟩ := hp
    rw [hp1] at hP
    rw [hp0]
    show W p l0 e rmCX1_ofLine s m args below meth c H locs 0 0 Q (F0 m 72 ls [.int (tPl g kz (tHt g kz))])
    exact k_iret hx hb hr hlocks hQ hP hS (by omega) (by omega) dX1_ofLine_72 (⟨rfl, by simp [rKof]⟩)
  · skip
    refine lv_tableOut (tgt := 73) hx hb dX1_ofLine_1 (by decide) (by decide) ?_
    refine lv_aload_n hx hb dX1_ofLine_73 rfl (lv_at hl 0 rfl) ?_
    refine k_get hx hb hts in_X1 hown hG hP hX rfl 0 (by decide) (hts _ q276) (fun _ h9 => h9) (v := .ref (A1 0)) rfl dX1_ofLine_74 ?_
    refine lv_aload_n hx hb dX1_ofLine_77 rfl (lv_at hl 1 rfl) ?_
    have hT_6 := hM.1
    refine k_cV hx hb hml hown hts (CX2_slack l0 E w 1 A1 g mn wn ly N kz hI (by omega) hM) (cwV 1 hts (lw_V q848 q849 q850 q70 q851) rfl rfl rfl dyX2_slack ⟨Nat.le_of_ble_eq_true rfl, Nat.le_of_ble_eq_true rfl⟩) hG hP hS hT_6 rfl (As := [.ref (A1 (6 + kz))]) (rest := []) rfl hl.1 rfl (lv_room (Nat.le_of_ble_eq_true rfl)) dX1_ofLine_78 ⟨show 0 + 0 ≤ 0 from by omega, show 0 + 0 ≤ 0 from by omega⟩ (fun r9 w9 H locs hp hP hS => ?_)
    obtain ⟨hp1, hp0⟩ := hp
    rw [hp1] at hP
    rw [hp0]
    show W p l0 e rmCX1_ofLine s m args below meth c H locs 0 0 Q (F0 m 81 ls [.int (if tUp g kz = true then g (kO kz 5) - tBl g kz (tHt g kz) else 0)])
    exact k_iret hx hb hr hlocks hQ hP hS (by omega) (by omega) dX1_ofLine_81 (⟨rfl, by simp [rKof]⟩)

abbrev rmCX1_kiteOf : Room := { frames := 9, cells := 3, slots := 20, locals := 141 }
theorem dyX1_kiteOf : yX1_kiteOf.cls = RX1 ∧ yX1_kiteOf.cls ≠ "java/lang/invoke/MethodHandle" ∧ yX1_kiteOf.cls ≠ "java/lang/invoke/VarHandle" ∧ (parseMethodDescriptor yX1_kiteOf.desc).map (fun d => d.parameters.length) = some 2 := by decide +kernel
set_option maxHeartbeats 4000000 in
theorem CX1_kiteOf (l0 : Launch) (hl0 : l0.stackTraces = false) (E : gE) (w : wd) (x : Nat) (A1 : Nat → Nat) (A2 : Nat → Nat) (A3 : Nat → Nat) (d : Nat) (b : Nat) (hs : Int32) (ft : Int32) (rf : Int32) (ro : Int32) (g : Nat → Int32) (mn : Nat) (wn : Nat → Int32) (ly : Nat → Int32) (y : Int32) (z : Int32) (N : Nat) (hI : gI g mn N) (hX : w x = some ((94, 0), .inr (1, [.ref (A1 0), .ref (A2 0), .ref (A3 0), .int hs, .ref d, .ref b, .int ft, .int rf, .int ro]))) (hM : townR E w 1 A1 g mn wn ly) : kX l0 yX1_kiteOf (ws_ yX1_kiteOf cX1_kiteOf 4 (some .int)) rmCX1_kiteOf 3 20 mI E w [.ref x, .int y, .int z] (fun r w' => w' = w ∧ (qKof g y z).1 = 0 ∧ r = (qKof g y z).2) (pxL [(nIO, 1), (nIA, 2)] w (qKof g y z).1) := by
  refine kx_open (cc := cX1_kiteOf) (maxL := 4) (ret := (some .int)) (by decide) rfl (Nat.le_of_ble_eq_true rfl) ?_
  intro p e s m args below meth c ls Q hx hb hr hml hown hts hlocks hname ht hQ hG hP hl hS
  have hl : lv_has ls 4 [(0, .ref x), (1, .int y), (2, .int z)] := hl
  have hm6 := hM.m25
  refine lv_aload_n hx hb dX1_kiteOf_0 rfl (lv_at hl 0 rfl) ?_
  refine lv_iload_n hx hb dX1_kiteOf_1 rfl (lv_at hl 1 rfl) ?_
  refine kx_cV hx hb hml hown hts hQ ht hlocks (CX1_kiteAt l0 hl0 E w x A1 A2 A3 d b hs ft rf ro g mn wn ly y hX hM) (cwV 1 hts (lw_V q743 q745 qs7 q69 q746) rfl rfl rfl dyX1_kiteAt ⟨Nat.le_of_ble_eq_true rfl, Nat.le_of_ble_eq_true rfl⟩) hG hP hS hX rfl (As := [.int y]) (rest := []) rfl hl.1 rfl (lv_room (Nat.le_of_ble_eq_true rfl)) dX1_kiteOf_2 ⟨show 0 + 1 ≤ 3 from by omega, show 0 + 6 ≤ 20 from by omega⟩ ⟨show 0 + 1 ≤ 3 from by omega, show 0 + 6 ≤ 20 from by omega⟩ (fun X9 q9 w9 h9 => pxL.mk' (k := 1) h9.1 (by simp [qKof, h9.2.2]) (by decide) h9.2.1 rfl) (fun r9 w9 H locs hp hP hS => ?_)
  obtain ⟨hp1, hp0⟩ := hp
  rw [hp1] at hP
  obtain ⟨kz, hkz, rfl, rfl⟩ := hp0
  have ckz : (nI kz).toNatClampNeg = kz := nI_clamp (by omega)
  have hk9 := tKt_N hm6.1 hm6.2 hkz
  show W p l0 e rmCX1_kiteOf s m args below meth c H locs (0 + 1) (0 + 6) Q (F0 m 5 ls [.ref (A1 (6 + kz))])
  refine lv_astore_n (lv' := [(3, .ref (A1 (6 + kz))), (0, .ref x), (1, .int (nI kz)), (2, .int z)]) hx hb dX1_kiteOf_5 rfl hl (by decide) rfl (fun ls hl => ?_)
  refine lv_iload_n hx hb dX1_kiteOf_6 rfl (lv_at hl 3 rfl) ?_
  refine lv_iconst (v := 0) hx hb dX1_kiteOf_7 (by decide) ?_
  refine lv_bipush (v := 12) hx hb dX1_kiteOf_8 (by decide) ?_
  refine k_cS hx hb hml hown hts (CX1_in l0 E w z 0 12) (va_cwS 3 hts (lw_S q453 q454 q69 q455) rfl rfl rfl dyX1_in ⟨Nat.le_of_ble_eq_true rfl, Nat.le_of_ble_eq_true rfl⟩) hG hP hS (As := [.int z, .int 0, .int 12]) (rest := []) rfl hl.1 rfl (lv_room (Nat.le_of_ble_eq_true rfl)) dX1_kiteOf_10 ⟨show (0 + 1) + 0 ≤ 3 from by omega, show (0 + 6) + 0 ≤ 20 from by omega⟩ (fun r9 w9 H locs hp hP hS => ?_)
  obtain ⟨hp1, hp0⟩ := hp
  rw [hp1] at hP
  rw [hp0]
  show W p l0 e rmCX1_kiteOf s m args below meth c H locs (0 + 1) (0 + 6) Q (F0 m 13 ls [.int (bI (tin z 0 12))])
  refine kx_cS hx hb hml hown hts hQ ht hlocks (CX1_check l0 hl0 E w (tin z 0 12)) (va_cwS 1 hts (lw_S q483 q484 q69 q485) rfl rfl rfl dyX1_check ⟨Nat.le_of_ble_eq_true rfl, Nat.le_of_ble_eq_true rfl⟩) hG hP hS (As := [.int (bI (tin z 0 12))]) (rest := []) rfl hl.1 rfl (lv_room (Nat.le_of_ble_eq_true rfl)) dX1_kiteOf_13 ⟨show (0 + 1) + 1 ≤ 3 from by omega, show (0 + 6) + 6 ≤ 20 from by omega⟩ ⟨show (0 + 1) + 1 ≤ 3 from by omega, show (0 + 6) + 6 ≤ 20 from by omega⟩ (fun X9 q9 w9 h9 => pxL.mk' (k := 2) h9.1 (by simp [qKof, hk9, h9.2.2]) (by decide) h9.2.1 rfl) (fun r9 w9 H locs hp hP hS => ?_)
  obtain ⟨hp1, hp0⟩ := hp
  rw [hp1] at hP
  have hk8 := hp0
  show W p l0 e rmCX1_kiteOf s m args below meth c H locs ((0 + 1) + 1) ((0 + 6) + 6) Q (F0 m 16 ls [])
  obtain ⟨kw, hkw, rfl⟩ := tin_N (n := 12) (by decide) hk8
  have ckw : (nI kw).toNatClampNeg = kw := nI_clamp (by omega)
  refine lv_iload_n hx hb dX1_kiteOf_16 rfl (lv_at hl 3 rfl) ?_
  rcases (show kw = 0 ∨ kw = 1 ∨ kw = 2 ∨ kw = 3 ∨ kw = 4 ∨ kw = 5 ∨ kw = 6 ∨ kw = 7 ∨ kw = 8 ∨ kw = 9 ∨ kw = 10 ∨ kw = 11 ∨ kw = 12 from by omega) with rfl | rfl | rfl | rfl | rfl | rfl | rfl | rfl | rfl | rfl | rfl | rfl | rfl
  · skip
    refine lv_tableIn (tgt := 84) hx hb dX1_kiteOf_17 (by decide) (by decide) (off := 67) rfl (by decide) ?_
    refine lv_aload_n hx hb dX1_kiteOf_84 rfl (lv_at hl 0 rfl) ?_
    obtain ⟨tz_1, hT_1, hz_1⟩ := hM.kite (k := kz) (by omega)
    refine k_getN hx hb hts in_X3 hown hG hP hT_1 rfl 7 (by decide) (hG.2.1.1 _ q162 rfl) (fun _ h9 => h9) (v := .ref tz_1) rfl dX1_kiteOf_85 ?_
    refine k_num hx hb hml hown hts q785 hz_1 hG hP hS hl.1 dX1_kiteOf_88 ⟨Nat.le_of_ble_eq_true rfl, Nat.le_of_ble_eq_true rfl⟩ (Nat.le_of_ble_eq_true rfl) ⟨show ((0 + 1) + 1) ≤ 3 from by omega, show ((0 + 6) + 6) ≤ 20 from by omega⟩ (fun H locs hP hS => ?_)
    refine k_top (y := (g (kO kz 0))) rfl ?_
    exact kx_iret hx hb hr hlocks hQ hP hS (by omega) (by omega) dX1_kiteOf_93 (⟨rfl, by simp [qKof, hk9, hk8, ckz, ckw, rKof]⟩)
  · skip
    refine lv_tableIn (tgt := 94) hx hb dX1_kiteOf_17 (by decide) (by decide) (off := 77) rfl (by decide) ?_
    refine lv_aload_n hx hb dX1_kiteOf_94 rfl (lv_at hl 0 rfl) ?_
    obtain ⟨tz_2, hT_2, hz_2⟩ := hM.kite (k := kz) (by omega)
    refine k_getN hx hb hts in_X3 hown hG hP hT_2 rfl 0 (by decide) (hG.2.1.1 _ q142 rfl) (fun _ h9 => h9) (v := .ref (eM E (g (kO kz 1)).toNatClampNeg)) rfl dX1_kiteOf_95 ?_
    refine k_ord hx hb hml hown hts q786 (hI.kind hkz) hG hP hS hl.1 dX1_kiteOf_98 ⟨Nat.le_of_ble_eq_true rfl, Nat.le_of_ble_eq_true rfl⟩ (Nat.le_of_ble_eq_true rfl) ⟨show ((0 + 1) + 1) + 0 ≤ 3 from by omega, show ((0 + 6) + 6) + 0 ≤ 20 from by omega⟩ (fun H locs hP hS => ?_)
    exact kx_iret hx hb hr hlocks hQ hP hS (by omega) (by omega) dX1_kiteOf_101 (⟨rfl, by simp [qKof, hk9, hk8, ckz, ckw, rKof]⟩)
  · skip
    refine lv_tableIn (tgt := 102) hx hb dX1_kiteOf_17 (by decide) (by decide) (off := 85) rfl (by decide) ?_
    refine lv_aload_n hx hb dX1_kiteOf_102 rfl (lv_at hl 0 rfl) ?_
    obtain ⟨tz_3, hT_3, hz_3⟩ := hM.kite (k := kz) (by omega)
    refine k_getN hx hb hts in_X3 hown hG hP hT_3 rfl 1 (by decide) (hG.2.1.1 _ q145 rfl) (fun _ h9 => h9) (v := .int (g (kO kz 2))) rfl dX1_kiteOf_103 ?_
    exact kx_iret hx hb hr hlocks hQ hP hS (by omega) (by omega) dX1_kiteOf_106 (⟨rfl, by simp [qKof, hk9, hk8, ckz, ckw, rKof]⟩)
  · skip
    refine lv_tableIn (tgt := 107) hx hb dX1_kiteOf_17 (by decide) (by decide) (off := 90) rfl (by decide) ?_
    refine lv_aload_n hx hb dX1_kiteOf_107 rfl (lv_at hl 0 rfl) ?_
    obtain ⟨tz_4, hT_4, hz_4⟩ := hM.kite (k := kz) (by omega)
    refine k_getN hx hb hts in_X3 hown hG hP hT_4 rfl 2 (by decide) (hG.2.1.1 _ q148 rfl) (fun _ h9 => h9) (v := .int (g (kO kz 3))) rfl dX1_kiteOf_108 ?_
    exact kx_iret hx hb hr hlocks hQ hP hS (by omega) (by omega) dX1_kiteOf_111 (⟨rfl, by simp [qKof, hk9, hk8, ckz, ckw, rKof]⟩)
  · skip
    refine lv_tableIn (tgt := 112) hx hb dX1_kiteOf_17 (by decide) (by decide) (off := 95) rfl (by decide) ?_
    refine lv_aload_n hx hb dX1_kiteOf_112 rfl (lv_at hl 0 rfl) ?_
    obtain ⟨tz_5, hT_5, hz_5⟩ := hM.kite (k := kz) (by omega)
    refine k_getN hx hb hts in_X3 hown hG hP hT_5 rfl 4 (by decide) (hG.2.1.1 _ q153 rfl) (fun _ h9 => h9) (v := .int (g (kO kz 4))) rfl dX1_kiteOf_113 ?_
    exact kx_iret hx hb hr hlocks hQ hP hS (by omega) (by omega) dX1_kiteOf_116 (⟨rfl, by simp [qKof, hk9, hk8, ckz, ckw, rKof]⟩)
  · skip
    refine lv_tableIn (tgt := 127) hx hb dX1_kiteOf_17 (by decide) (by decide) (off := 110) rfl (by decide) ?_
    refine lv_aload_n hx hb dX1_kiteOf_127 rfl (lv_at hl 1 rfl) ?_
    refine lv_aload_n hx hb dX1_kiteOf_128 rfl (lv_at hl 0 rfl) ?_
    refine lv_iload_n hx hb dX1_kiteOf_129 rfl (lv_at hl 3 rfl) ?_
    refine k_cV hx hb hml hown hts (CX1_ofLine l0 E w x A1 A2 A3 d b hs ft rf ro g mn wn ly kz 5 N hI (by omega) (by omega) hX hM) (cwV 2 hts (lw_V q794 q796 qs8 q69 q797) rfl rfl rfl dyX1_ofLine ⟨Nat.le_of_ble_eq_true rfl, Nat.le_of_ble_eq_true rfl⟩) hG hP hS hX rfl (As := [.ref (A1 (6 + kz)), .int (nI 5)]) (rest := []) rfl hl.1 rfl (lv_room (Nat.le_of_ble_eq_true rfl)) dX1_kiteOf_130 ⟨show ((0 + 1) + 1) + 0 ≤ 3 from by omega, show ((0 + 6) + 6) + 0 ≤ 20 from by omega⟩ (fun r9 w9 H locs hp hP hS => ?_)
    obtain ⟨hp1, hp0⟩ := hp
    rw [hp1] at hP
    rw [hp0]
    show W p l0 e rmCX1_kiteOf s m args below meth c H locs ((0 + 1) + 1) ((0 + 6) + 6) Q (F0 m 133 ls [.int (rKof g kz 5)])
    exact kx_iret hx hb hr hlocks hQ hP hS (by omega) (by omega) dX1_kiteOf_133 (⟨rfl, by simp [qKof, hk9, hk8, ckz, ckw, rKof]⟩)
  · skip
    refine lv_tableIn (tgt := 127) hx hb dX1_kiteOf_17 (by decide) (by decide) (off := 110) rfl (by decide) ?_
    refine lv_aload_n hx hb dX1_kiteOf_127 rfl (lv_at hl 1 rfl) ?_
    refine lv_aload_n hx hb dX1_kiteOf_128 rfl (lv_at hl 0 rfl) ?_
    refine lv_iload_n hx hb dX1_kiteOf_129 rfl (lv_at hl 3 rfl) ?_
    refine k_cV hx hb hml hown hts (CX1_ofLine l0 E w x A1 A2 A3 d b hs ft rf ro g mn wn ly kz 6 N hI (by omega) (by omega) hX hM) (cwV 2 hts (lw_V q794 q796 qs8 q69 q797) rfl rfl rfl dyX1_ofLine ⟨Nat.le_of_ble_eq_true rfl, Nat.le_of_ble_eq_true rfl⟩) hG hP hS hX rfl (As := [.ref (A1 (6 + kz)), .int (nI 6)]) (rest := []) rfl hl.1 rfl (lv_room (Nat.le_of_ble_eq_true rfl)) dX1_kiteOf_130 ⟨show ((0 + 1) + 1) + 0 ≤ 3 from by omega, show ((0 + 6) + 6) + 0 ≤ 20 from by omega⟩ (fun r9 w9 H locs hp hP hS => ?_)
    obtain ⟨hp1, hp0⟩ := hp
    rw [hp1] at hP
    rw [hp0]
    show W p l0 e rmCX1_kiteOf s m args below meth c H locs ((0 + 1) + 1) ((0 + 6) + 6) Q (F0 m 133 ls [.int (rKof g kz 6)])
    exact kx_iret hx hb hr hlocks hQ hP hS (by omega) (by omega) dX1_kiteOf_133 (⟨rfl, by simp [qKof, hk9, hk8, ckz, ckw, rKof]⟩)
  · skip
    refine lv_tableIn (tgt := 127) hx hb dX1_kiteOf_17 (by decide) (by decide) (off := 110) rfl (by decide) ?_
    refine lv_aload_n hx hb dX1_kiteOf_127 rfl (lv_at hl 1 rfl) ?_
    refine lv_aload_n hx hb dX1_kiteOf_128 rfl (lv_at hl 0 rfl) ?_
    refine lv_iload_n hx hb dX1_kiteOf_129 rfl (lv_at hl 3 rfl) ?_
    refine k_cV hx hb hml hown hts (CX1_ofLine l0 E w x A1 A2 A3 d b hs ft rf ro g mn wn ly kz 7 N hI (by omega) (by omega) hX hM) (cwV 2 hts (lw_V q794 q796 qs8 q69 q797) rfl rfl rfl dyX1_ofLine ⟨Nat.le_of_ble_eq_true rfl, Nat.le_of_ble_eq_true rfl⟩) hG hP hS hX rfl (As := [.ref (A1 (6 + kz)), .int (nI 7)]) (rest := []) rfl hl.1 rfl (lv_room (Nat.le_of_ble_eq_true rfl)) dX1_kiteOf_130 ⟨show ((0 + 1) + 1) + 0 ≤ 3 from by omega, show ((0 + 6) + 6) + 0 ≤ 20 from by omega⟩ (fun r9 w9 H locs hp hP hS => ?_)
    obtain ⟨hp1, hp0⟩ := hp
    rw [hp1] at hP
    rw [hp0]
    show W p l0 e rmCX1_kiteOf s m args below meth c H locs ((0 + 1) + 1) ((0 + 6) + 6) Q (F0 m 133 ls [.int (rKof g kz 7)])
    exact kx_iret hx hb hr hlocks hQ hP hS (by omega) (by omega) dX1_kiteOf_133 (⟨rfl, by simp [qKof, hk9, hk8, ckz, ckw, rKof]⟩)
  · skip
    refine lv_tableIn (tgt := 127) hx hb dX1_kiteOf_17 (by decide) (by decide) (off := 110) rfl (by decide) ?_
    refine lv_aload_n hx hb dX1_kiteOf_127 rfl (lv_at hl 1 rfl) ?_
    refine lv_aload_n hx hb dX1_kiteOf_128 rfl (lv_at hl 0 rfl) ?_
    refine lv_iload_n hx hb dX1_kiteOf_129 rfl (lv_at hl 3 rfl) ?_
    refine k_cV hx hb hml hown hts (CX1_ofLine l0 E w x A1 A2 A3 d b hs ft rf ro g mn wn ly kz 8 N hI (by omega) (by omega) hX hM) (cwV 2 hts (lw_V q794 q796 qs8 q69 q797) rfl rfl rfl dyX1_ofLine ⟨Nat.le_of_ble_eq_true rfl, Nat.le_of_ble_eq_true rfl⟩) hG hP hS hX rfl (As := [.ref (A1 (6 + kz)), .int (nI 8)]) (rest := []) rfl hl.1 rfl (lv_room (Nat.le_of_ble_eq_true rfl)) dX1_kiteOf_130 ⟨show ((0 + 1) + 1) + 0 ≤ 3 from by omega, show ((0 + 6) + 6) + 0 ≤ 20 from by omega⟩ (fun r9 w9 H locs hp hP hS => ?_)
    obtain ⟨hp1, hp0⟩ := hp
    rw [hp1] at hP
    rw [hp0]
    show W p l0 e rmCX1_kiteOf s m args below meth c H locs ((0 + 1) + 1) ((0 + 6) + 6) Q (F0 m 133 ls [.int (rKof g kz 8)])
    exact kx_iret hx hb hr hlocks hQ hP hS (by omega) (by omega) dX1_kiteOf_133 (⟨rfl, by simp [qKof, hk9, hk8, ckz, ckw, rKof]⟩)
  · skip
    refine lv_tableIn (tgt := 127) hx hb dX1_kiteOf_17 (by decide) (by decide) (off := 110) rfl (by decide) ?_
    refine lv_aload_n hx hb dX1_kiteOf_127 rfl (lv_at hl 1 rfl) ?_
    refine lv_aload_n hx hb dX1_kiteOf_128 rfl (lv_at hl 0 rfl) ?_
    refine lv_iload_n hx hb dX1_kiteOf_129 rfl (lv_at hl 3 rfl) ?_
    refine k_cV hx hb hml hown hts (CX1_ofLine l0 E w x A1 A2 A3 d b hs ft rf ro g mn wn ly kz 9 N hI (by omega) (by omega) hX hM) (cwV 2 hts (lw_V q794 q796 qs8 q69 q797) rfl rfl rfl dyX1_ofLine ⟨Nat.le_of_ble_eq_true rfl, Nat.le_of_ble_eq_true rfl⟩) hG hP hS hX rfl (As := [.ref (A1 (6 + kz)), .int (nI 9)]) (rest := []) rfl hl.1 rfl (lv_room (Nat.le_of_ble_eq_true rfl)) dX1_kiteOf_130 ⟨show ((0 + 1) + 1) + 0 ≤ 3 from by omega, show ((0 + 6) + 6) + 0 ≤ 20 from by omega⟩ (fun r9 w9 H locs hp hP hS => ?_)
    obtain ⟨hp1, hp0⟩ := hp
    rw [hp1] at hP
    rw [hp0]
    show W p l0 e rmCX1_kiteOf s m args below meth c H locs ((0 + 1) + 1) ((0 + 6) + 6) Q (F0 m 133 ls [.int (rKof g kz 9)])
    exact kx_iret hx hb hr hlocks hQ hP hS (by omega) (by omega) dX1_kiteOf_133 (⟨rfl, by simp [qKof, hk9, hk8, ckz, ckw, rKof]⟩)
  · skip
    refine lv_tableIn (tgt := 127) hx hb dX1_kiteOf_17 (by decide) (by decide) (off := 110) rfl (by decide) ?_
    refine lv_aload_n hx hb dX1_kiteOf_127 rfl (lv_at hl 1 rfl) ?_
    refine lv_aload_n hx hb dX1_kiteOf_128 rfl (lv_at hl 0 rfl) ?_
    refine lv_iload_n hx hb dX1_kiteOf_129 rfl (lv_at hl 3 rfl) ?_
    refine k_cV hx hb hml hown hts (CX1_ofLine l0 E w x A1 A2 A3 d b hs ft rf ro g mn wn ly kz 10 N hI (by omega) (by omega) hX hM) (cwV 2 hts (lw_V q794 q796 qs8 q69 q797) rfl rfl rfl dyX1_ofLine ⟨Nat.le_of_ble_eq_true rfl, Nat.le_of_ble_eq_true rfl⟩) hG hP hS hX rfl (As := [.ref (A1 (6 + kz)), .int (nI 10)]) (rest := []) rfl hl.1 rfl (lv_room (Nat.le_of_ble_eq_true rfl)) dX1_kiteOf_130 ⟨show ((0 + 1) + 1) + 0 ≤ 3 from by omega, show ((0 + 6) + 6) + 0 ≤ 20 from by omega⟩ (fun r9 w9 H locs hp hP hS => ?_)
    obtain ⟨hp1, hp0⟩ := hp
    rw [hp1] at hP
    rw [hp0]
    show W p l0 e rmCX1_kiteOf s m args below meth c H locs ((0 + 1) + 1) ((0 + 6) + 6) Q (F0 m 133 ls [.int (rKof g kz 10)])
    exact kx_iret hx hb hr hlocks hQ hP hS (by omega) (by omega) dX1_kiteOf_133 (⟨rfl, by simp [qKof, hk9, hk8, ckz, ckw, rKof]⟩)
  · skip
    refine lv_tableIn (tgt := 117) hx hb dX1_kiteOf_17 (by decide) (by decide) (off := 100) rfl (by decide) ?_
    refine lv_aload_n hx hb dX1_kiteOf_117 rfl (lv_at hl 0 rfl) ?_
    obtain ⟨tz_6, hT_6, hz_6⟩ := hM.kite (k := kz) (by omega)
    refine k_getN hx hb hts in_X3 hown hG hP hT_6 rfl 5 (by decide) (hG.2.1.1 _ q155 rfl) (fun _ h9 => h9) (v := .int (g (kO kz 7))) rfl dX1_kiteOf_118 ?_
    exact kx_iret hx hb hr hlocks hQ hP hS (by omega) (by omega) dX1_kiteOf_121 (⟨rfl, by simp [qKof, hk9, hk8, ckz, ckw, rKof]⟩)
  · skip
    refine lv_tableIn (tgt := 122) hx hb dX1_kiteOf_17 (by decide) (by decide) (off := 105) rfl (by decide) ?_
    refine lv_aload_n hx hb dX1_kiteOf_122 rfl (lv_at hl 0 rfl) ?_
    obtain ⟨tz_7, hT_7, hz_7⟩ := hM.kite (k := kz) (by omega)
    refine k_getN hx hb hts in_X3 hown hG hP hT_7 rfl 6 (by decide) (hG.2.1.1 _ q159 rfl) (fun _ h9 => h9) (v := .int (g (kO kz 8))) rfl dX1_kiteOf_123 ?_
    exact kx_iret hx hb hr hlocks hQ hP hS (by omega) (by omega) dX1_kiteOf_126 (⟨rfl, by simp [qKof, hk9, hk8, ckz, ckw, rKof]⟩)
