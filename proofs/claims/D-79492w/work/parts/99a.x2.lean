/-! THE COMPONENT, 9: winds and kites -/
set_option maxRecDepth 100000
abbrev rmCX1_wind : Room := { frames := 8, cells := 30, slots := 200, locals := 140 }
theorem dyX1_wind : yX1_wind.cls = RX1 ∧ yX1_wind.cls ≠ "java/lang/invoke/MethodHandle" ∧ yX1_wind.cls ≠ "java/lang/invoke/VarHandle" ∧ (parseMethodDescriptor yX1_wind.desc).map (fun d => d.parameters.length) = some 3 := by decide +kernel
set_option maxHeartbeats 4000000 in
theorem CX1_wind (l0 : Launch) (hl0 : l0.stackTraces = false) (E : gE) (w : wd) (x : Nat) (A1 : Nat → Nat) (A2 : Nat → Nat) (A3 : Nat → Nat) (d : Nat) (b : Nat) (hs : Int32) (ft : Int32) (rf : Int32) (ro : Int32) (g : Nat → Int32) (mn : Nat) (wn : Nat → Int32) (ly : Nat → Int32) (cn : Nat) (I : Nat → Nat) (K : Nat → Nat → Int32) (mk : Nat → Nat) (y : Int32) (s0 : Int32) (d0 : Int32) (hX : w x = some ((94, 0), .inr (1, [.ref (A1 0), .ref (A2 0), .ref (A3 0), .int hs, .ref d, .ref b, .int ft, .int rf, .int ro]))) (hM : townR E w 1 A1 g mn wn ly) (hK : kpR E w d cn I K mk) : kX l0 yX1_wind (ws_ yX1_wind cX1_wind 5 (some .int)) rmCX1_wind 30 200 mI E w [.ref x, .int y, .int s0, .int d0] (fun r w' => ∃ I9 : Nat → Nat, ((qWind g y s0 d0).1 = 0 ∧ r = (qWind g y s0 d0).2.2.1) ∧ (townR E w' 1 A1 ((qWind g y s0 d0).2.2.2) mn wn ly ∧ kpR E w' d (kCn cn) I9 (kSh cn K g) (kSh cn mk mn) ∧ True) ∧ fr pX1 w w') (pxL [(nIO, 1), (nIA, 2)] w (qWind g y s0 d0).1) := by
  refine kx_open (cc := cX1_wind) (maxL := 5) (ret := (some .int)) (by decide) rfl (Nat.le_of_ble_eq_true rfl) ?_
  intro p e s m args below meth c ls Q hx hb hr hml hown hts hlocks hname ht hQ hG hP hl hS
  have hl : lv_has ls 5 [(0, .ref x), (1, .int y), (2, .int s0), (3, .int d0)] := hl
  obtain ⟨w0, hw0⟩ : ∃ z, z = w := ⟨_, rfl⟩
  have hF : fr pX1 w0 w := by rw [hw0]; exact fr.rf
  rw [← hw0] at hQ
  have hm6 := hM.m25
  refine lv_iload_n hx hb dX1_wind_0 rfl (lv_at hl 1 rfl) ?_
  refine k_cS hx hb hml hown hts (CX1_isLayer l0 E w y) (va_cwS 1 hts (lw_S q450 q451 q69 q452) rfl rfl rfl dyX1_isLayer ⟨Nat.le_of_ble_eq_true rfl, Nat.le_of_ble_eq_true rfl⟩) hG hP hS (As := [.int y]) (rest := []) rfl hl.1 rfl (lv_room (Nat.le_of_ble_eq_true rfl)) dX1_wind_1 ⟨show 0 + 0 ≤ 30 from by omega, show 0 + 0 ≤ 200 from by omega⟩ (fun r9 w9 H locs hp hP hS => ?_)
  obtain ⟨hp1, hp0⟩ := hp
  rw [hp1] at hP
  rw [hp0]
  show W p l0 e rmCX1_wind s m args below meth c H locs 0 0 Q (F0 m 4 ls [.int (bI (tin y 0 9))])
  refine kx_cS hx hb hml hown hts hQ ht hlocks (CX1_checkIndex l0 hl0 E w (tin y 0 9)) (va_cwS 1 hts (lw_S q456 q457 q69 q458) rfl rfl rfl dyX1_checkIndex ⟨Nat.le_of_ble_eq_true rfl, Nat.le_of_ble_eq_true rfl⟩) hG hP hS (As := [.int (bI (tin y 0 9))]) (rest := []) rfl hl.1 rfl (lv_room (Nat.le_of_ble_eq_true rfl)) dX1_wind_4 ⟨show 0 + 1 ≤ 30 from by omega, show 0 + 6 ≤ 200 from by omega⟩ ⟨show 0 + 1 ≤ 30 from by omega, show 0 + 6 ≤ 200 from by omega⟩ (fun X9 q9 w9 h9 => pxL.mk' (k := 1) h9.1 (qWind_1 h9.2.2) (by decide) h9.2.1 hw0) (fun r9 w9 H locs hp hP hS => ?_)
  obtain ⟨hp1, hp0⟩ := hp
  rw [hp1] at hP
  have hk9 := hp0
  show W p l0 e rmCX1_wind s m args below meth c H locs (0 + 1) (0 + 6) Q (F0 m 7 ls [])
  obtain ⟨kz, hkz, rfl⟩ := tin_N (n := 9) (by decide) hk9
  have ckz : (nI kz).toNatClampNeg = kz := nI_clamp (by omega)
  refine lv_iload_n hx hb dX1_wind_7 rfl (lv_at hl 2 rfl) ?_
  refine lv_iload_n hx hb dX1_wind_8 rfl (lv_at hl 3 rfl) ?_
  refine k_cS hx hb hml hown hts (CX1_isWind l0 E w s0 d0) (va_cwS 2 hts (lw_S q480 q481 q69 q482) rfl rfl rfl dyX1_isWind ⟨Nat.le_of_ble_eq_true rfl, Nat.le_of_ble_eq_true rfl⟩) hG hP hS (As := [.int s0, .int d0]) (rest := []) rfl hl.1 rfl (lv_room (Nat.le_of_ble_eq_true rfl)) dX1_wind_9 ⟨show (0 + 1) + 0 ≤ 30 from by omega, show (0 + 6) + 0 ≤ 200 from by omega⟩ (fun r9 w9 H locs hp hP hS => ?_)
  obtain ⟨hp1, hp0⟩ := hp
  rw [hp1] at hP
  rw [hp0]
  show W p l0 e rmCX1_wind s m args below meth c H locs (0 + 1) (0 + 6) Q (F0 m 12 ls [.int (bI (tin s0 0 9 && tin d0 (-3) 3))])
  refine kx_cS hx hb hml hown hts hQ ht hlocks (CX1_check l0 hl0 E w (tin s0 0 9 && tin d0 (-3) 3)) (va_cwS 1 hts (lw_S q483 q484 q69 q485) rfl rfl rfl dyX1_check ⟨Nat.le_of_ble_eq_true rfl, Nat.le_of_ble_eq_true rfl⟩) hG hP hS (As := [.int (bI (tin s0 0 9 && tin d0 (-3) 3))]) (rest := []) rfl hl.1 rfl (lv_room (Nat.le_of_ble_eq_true rfl)) dX1_wind_12 ⟨show (0 + 1) + 1 ≤ 30 from by omega, show (0 + 6) + 6 ≤ 200 from by omega⟩ ⟨show (0 + 1) + 1 ≤ 30 from by omega, show (0 + 6) + 6 ≤ 200 from by omega⟩ (fun X9 q9 w9 h9 => pxL.mk' (k := 2) h9.1 (qWind_2 hk9 h9.2.2) (by decide) h9.2.1 hw0) (fun r9 w9 H locs hp hP hS => ?_)
  obtain ⟨hp1, hp0⟩ := hp
  rw [hp1] at hP
  have hk8 := hp0
  show W p l0 e rmCX1_wind s m args below meth c H locs ((0 + 1) + 1) ((0 + 6) + 6) Q (F0 m 15 ls [])
  refine lv_aload_n hx hb dX1_wind_15 rfl (lv_at hl 0 rfl) ?_
  refine k_cV hx hb hml hown hts (CX1_keep l0 E w x A1 A2 A3 d b hs ft rf ro g mn wn ly cn I K mk hX hM hK) (cwV 0 hts (lw_V q501 q503 qs2 q69 q504) rfl rfl rfl dyX1_keep ⟨Nat.le_of_ble_eq_true rfl, Nat.le_of_ble_eq_true rfl⟩) hG hP hS hX rfl (As := []) (rest := []) rfl hl.1 rfl (lv_room (Nat.le_of_ble_eq_true rfl)) dX1_wind_16 ⟨show ((0 + 1) + 1) + 24 ≤ 30 from by omega, show ((0 + 6) + 6) + 140 ≤ 200 from by omega⟩ (fun r16 w1 H locs hp hP hS => ?_)
  obtain ⟨I9_1, hp0, ⟨hK', -⟩, hf9⟩ := hp
  have hX : w1 x = some ((94, 0), .inr (1, [.ref (A1 0), .ref (A2 0), .ref (A3 0), .int hs, .ref d, .ref b, .int ft, .int rf, .int ro])) := hf9 _ _ _ hX (by intro z9; first | (simp only [pO, pN, pD, pKp, pT, pB, pS, pR, pRd, pRo, Prod.mk.injEq, pX1, pX2, pXs, pX2t] at z9; done) | (simp only [pO, pN, pD, pKp, pT, pB, pS, pR, pRd, pRo, Prod.mk.injEq, pX1, pX2, pXs, pX2t] at z9; omega))
  have hM : townR E w1 1 A1 g mn wn ly := hM.frm hf9 (by intro z9; first | (simp only [pO, pN, pD, pKp, pT, pB, pS, pR, pRd, pRo, Prod.mk.injEq, pX1, pX2, pXs, pX2t] at z9; done) | (simp only [pO, pN, pD, pKp, pT, pB, pS, pR, pRd, pRo, Prod.mk.injEq, pX1, pX2, pXs, pX2t] at z9; omega)) (fun r9 => (by intro z9; first | (simp only [pO, pN, pD, pKp, pT, pB, pS, pR, pRd, pRo, Prod.mk.injEq, pX1, pX2, pXs, pX2t] at z9; done) | (simp only [pO, pN, pD, pKp, pT, pB, pS, pR, pRd, pRo, Prod.mk.injEq, pX1, pX2, pXs, pX2t] at z9; omega)))
  have hF : fr pX1 w0 w1 := hF.tr (hf9.up (fun t9 h9 => by simp only [pO, pN, pD, pKp, pT, pB, pS, pR, pX1, pX2, pXs, pX2t] at h9 ⊢; first | exact h9 | (subst h9; simp; done) | (subst h9; simp; omega) | omega | (rcases h9 with h9 | h9 <;> first | (subst h9; simp; done) | (subst h9; simp; omega) | omega)))
  have hK : kpR E w1 d (kCn cn) I9_1 (kSh cn K g) (kSh cn mk mn) := hK'
  show W p l0 e rmCX1_wind s m args below meth c H locs (((0 + 1) + 1) + 24) (((0 + 6) + 6) + 140) Q (F0 m 19 ls [])
  refine lv_aload_n hx hb dX1_wind_19 rfl (lv_at hl 0 rfl) ?_
  refine k_get hx hb hts in_X1 hown hG hP hX rfl 0 (by decide) (hts _ q276) (fun _ h9 => h9) (v := .ref (A1 0)) rfl dX1_wind_20 ?_
  have hT_1 := hM.1
  refine k_getN hx hb hts in_X2 hown hG hP hT_1 rfl 0 (by decide) (hG.2.1.1 _ q181 rfl) (fun _ h9 => h9) (v := .ref (A1 1)) rfl dX1_wind_23 ?_
  refine lv_iload_n hx hb dX1_wind_26 rfl (lv_at hl 1 rfl) ?_
  obtain ⟨fs_2, hT_2, he_2⟩ := hM.2.1
  refine k_iald hx hb hG hP (j := kz) hT_2 (by omega) (show kz < 10 from by omega) dX1_wind_27 ?_
  refine k_top (y := (g (2 * kz))) (he_2 kz (by omega)) ?_
  refine lv_istore (lv' := [(4, .int (g (2 * kz))), (0, .ref x), (1, .int (nI kz)), (2, .int s0), (3, .int d0)]) hx hb dX1_wind_28 hl (by decide) rfl (fun ls hl => ?_)
  refine lv_aload_n hx hb dX1_wind_30 rfl (lv_at hl 1 rfl) ?_
  refine k_get hx hb hts in_X1 hown hG hP hX rfl 0 (by decide) (hts _ q276) (fun _ h9 => h9) (v := .ref (A1 0)) rfl dX1_wind_31 ?_
  refine k_getN hx hb hts in_X2 hown hG hP hT_1 rfl 0 (by decide) (hG.2.1.1 _ q181 rfl) (fun _ h9 => h9) (v := .ref (A1 1)) rfl dX1_wind_34 ?_
  refine lv_iload_n hx hb dX1_wind_37 rfl (lv_at hl 2 rfl) ?_
  refine lv_iload_n hx hb dX1_wind_38 rfl (lv_at hl 3 rfl) ?_
  refine k_iastW hx hb hG hP hS (j := kz) hT_2 (by omega) (show kz < 10 from by omega) (x := s0) dX1_wind_39 (fun w2 H locs h9 hf9 hP hS => ?_)
  have hM : townR E w2 1 A1 (va_up g (2 * kz) s0) mn wn ly := hM.str (by omega) hf9 h9 (by omega) he_2
  have hX : w2 x = some ((94, 0), .inr (1, [.ref (A1 0), .ref (A2 0), .ref (A3 0), .int hs, .ref d, .ref b, .int ft, .int rf, .int ro])) := hf9 _ _ _ hX (by intro z9; first | (simp only [pO, pN, pD, pKp, pT, pB, pS, pR, pRd, pRo, Prod.mk.injEq, pX1, pX2, pXs, pX2t] at z9; done) | (simp only [pO, pN, pD, pKp, pT, pB, pS, pR, pRd, pRo, Prod.mk.injEq, pX1, pX2, pXs, pX2t] at z9; omega))
  have hK : kpR E w2 d (kCn cn) I9_1 (kSh cn K g) (kSh cn mk mn) := hK.fr hf9 (by intro z9; first | (simp only [pO, pN, pD, pKp, pT, pB, pS, pR, pRd, pRo, Prod.mk.injEq, pX1, pX2, pXs, pX2t] at z9; done) | (simp only [pO, pN, pD, pKp, pT, pB, pS, pR, pRd, pRo, Prod.mk.injEq, pX1, pX2, pXs, pX2t] at z9; omega)) (fun i9 r9 h7 h8 => (by intro z9; first | (simp only [pO, pN, pD, pKp, pT, pB, pS, pR, pRd, pRo, Prod.mk.injEq, pX1, pX2, pXs, pX2t] at z9; done) | (simp only [pO, pN, pD, pKp, pT, pB, pS, pR, pRd, pRo, Prod.mk.injEq, pX1, pX2, pXs, pX2t] at z9; omega)))
  have hF : fr pX1 w0 w2 := hF.tr (hf9.up (fun t9 h9 => by simp only [pO, pN, pD, pKp, pT, pB, pS, pR, pX1, pX2, pXs, pX2t] at h9 ⊢; first | exact h9 | (subst h9; simp; done) | (subst h9; simp; omega) | omega | (rcases h9 with h9 | h9 <;> first | (subst h9; simp; done) | (subst h9; simp; omega) | omega)))
  refine lv_aload_n hx hb dX1_wind_40 rfl (lv_at hl 1 rfl) ?_
  refine k_get hx hb hts in_X1 hown hG hP hX rfl 0 (by decide) (hts _ q276) (fun _ h9 => h9) (v := .ref (A1 0)) rfl dX1_wind_41 ?_
  have hT_3 := hM.1
  refine k_getN hx hb hts in_X2 hown hG hP hT_3 rfl 1 (by decide) (hG.2.1.1 _ q183 rfl) (fun _ h9 => h9) (v := .ref (A1 2)) rfl dX1_wind_44 ?_
  refine lv_iload_n hx hb dX1_wind_47 rfl (lv_at hl 2 rfl) ?_
  refine lv_iload_n hx hb dX1_wind_48 rfl (lv_at hl 4 rfl) ?_
  obtain ⟨fs_4, hT_4, he_4⟩ := hM.2.2.1
  refine k_iastW hx hb hG hP hS (j := kz) hT_4 (by omega) (show kz < 10 from by omega) (x := d0) dX1_wind_49 (fun w3 H locs h9 hf9 hP hS => ?_)
  have hM : townR E w3 1 A1 (va_up (va_up g (2 * kz) s0) (2 * kz + 1) d0) mn wn ly := hM.dri (by omega) hf9 h9 (by omega) he_4
  have hX : w3 x = some ((94, 0), .inr (1, [.ref (A1 0), .ref (A2 0), .ref (A3 0), .int hs, .ref d, .ref b, .int ft, .int rf, .int ro])) := hf9 _ _ _ hX (by intro z9; first | (simp only [pO, pN, pD, pKp, pT, pB, pS, pR, pRd, pRo, Prod.mk.injEq, pX1, pX2, pXs, pX2t] at z9; done) | (simp only [pO, pN, pD, pKp, pT, pB, pS, pR, pRd, pRo, Prod.mk.injEq, pX1, pX2, pXs, pX2t] at z9; omega))
  have hK : kpR E w3 d (kCn cn) I9_1 (kSh cn K g) (kSh cn mk mn) := hK.fr hf9 (by intro z9; first | (simp only [pO, pN, pD, pKp, pT, pB, pS, pR, pRd, pRo, Prod.mk.injEq, pX1, pX2, pXs, pX2t] at z9; done) | (simp only [pO, pN, pD, pKp, pT, pB, pS, pR, pRd, pRo, Prod.mk.injEq, pX1, pX2, pXs, pX2t] at z9; omega)) (fun i9 r9 h7 h8 => (by intro z9; first | (simp only [pO, pN, pD, pKp, pT, pB, pS, pR, pRd, pRo, Prod.mk.injEq, pX1, pX2, pXs, pX2t] at z9; done) | (simp only [pO, pN, pD, pKp, pT, pB, pS, pR, pRd, pRo, Prod.mk.injEq, pX1, pX2, pXs, pX2t] at z9; omega)))
  have hF : fr pX1 w0 w3 := hF.tr (hf9.up (fun t9 h9 => by simp only [pO, pN, pD, pKp, pT, pB, pS, pR, pX1, pX2, pXs, pX2t] at h9 ⊢; first | exact h9 | (subst h9; simp; done) | (subst h9; simp; omega) | omega | (rcases h9 with h9 | h9 <;> first | (subst h9; simp; done) | (subst h9; simp; omega) | omega)))
  have e9 := qWind_ok (g := g) hk9 hk8 ckz
  refine lv_iload hx hb dX1_wind_50 (lv_at hl 0 rfl) ?_
  exact kx_iret hx hb hr hlocks hQ hP hS (by omega) (by omega) dX1_wind_52 (⟨_, ⟨by rw [e9], by rw [e9]⟩, ⟨(hM.row (by rw [e9])), hK, trivial⟩, hF⟩)

abbrev rmCX1_windOf : Room := { frames := 8, cells := 1, slots := 6, locals := 120 }
theorem dyX1_windOf : yX1_windOf.cls = RX1 ∧ yX1_windOf.cls ≠ "java/lang/invoke/MethodHandle" ∧ yX1_windOf.cls ≠ "java/lang/invoke/VarHandle" ∧ (parseMethodDescriptor yX1_windOf.desc).map (fun d => d.parameters.length) = some 2 := by decide +kernel
set_option maxHeartbeats 4000000 in
theorem CX1_windOf (l0 : Launch) (hl0 : l0.stackTraces = false) (E : gE) (w : wd) (x : Nat) (A1 : Nat → Nat) (A2 : Nat → Nat) (A3 : Nat → Nat) (d : Nat) (b : Nat) (hs : Int32) (ft : Int32) (rf : Int32) (ro : Int32) (g : Nat → Int32) (mn : Nat) (wn : Nat → Int32) (ly : Nat → Int32) (y : Int32) (zb : Bool) (hX : w x = some ((94, 0), .inr (1, [.ref (A1 0), .ref (A2 0), .ref (A3 0), .int hs, .ref d, .ref b, .int ft, .int rf, .int ro]))) (hM : townR E w 1 A1 g mn wn ly) : kX l0 yX1_windOf (ws_ yX1_windOf cX1_windOf 3 (some .int)) rmCX1_windOf 1 6 mI E w [.ref x, .int y, .int (bI zb)] (fun r w' => w' = w ∧ (qWof g y zb).1 = 0 ∧ r = (qWof g y zb).2) (pxL [(nIO, 1)] w (qWof g y zb).1) := by
  refine kx_open (cc := cX1_windOf) (maxL := 3) (ret := (some .int)) (by decide) rfl (Nat.le_of_ble_eq_true rfl) ?_
  intro p e s m args below meth c ls Q hx hb hr hml hown hts hlocks hname ht hQ hG hP hl hS
  have hl : lv_has ls 3 [(0, .ref x), (1, .int y), (2, .int (bI zb))] := hl
  refine lv_iload_n hx hb dX1_windOf_0 rfl (lv_at hl 1 rfl) ?_
  refine k_cS hx hb hml hown hts (CX1_isLayer l0 E w y) (va_cwS 1 hts (lw_S q450 q451 q69 q452) rfl rfl rfl dyX1_isLayer ⟨Nat.le_of_ble_eq_true rfl, Nat.le_of_ble_eq_true rfl⟩) hG hP hS (As := [.int y]) (rest := []) rfl hl.1 rfl (lv_room (Nat.le_of_ble_eq_true rfl)) dX1_windOf_1 ⟨show 0 + 0 ≤ 1 from by omega, show 0 + 0 ≤ 6 from by omega⟩ (fun r9 w9 H locs hp hP hS => ?_)
  obtain ⟨hp1, hp0⟩ := hp
  rw [hp1] at hP
  rw [hp0]
  show W p l0 e rmCX1_windOf s m args below meth c H locs 0 0 Q (F0 m 4 ls [.int (bI (tin y 0 9))])
  refine kx_cS hx hb hml hown hts hQ ht hlocks (CX1_checkIndex l0 hl0 E w (tin y 0 9)) (va_cwS 1 hts (lw_S q456 q457 q69 q458) rfl rfl rfl dyX1_checkIndex ⟨Nat.le_of_ble_eq_true rfl, Nat.le_of_ble_eq_true rfl⟩) hG hP hS (As := [.int (bI (tin y 0 9))]) (rest := []) rfl hl.1 rfl (lv_room (Nat.le_of_ble_eq_true rfl)) dX1_windOf_4 ⟨show 0 + 1 ≤ 1 from by omega, show 0 + 6 ≤ 6 from by omega⟩ ⟨show 0 + 1 ≤ 1 from by omega, show 0 + 6 ≤ 6 from by omega⟩ (fun X9 q9 w9 h9 => pxL.mk' (k := 1) h9.1 (by simp [qWof, h9.2.2]) (by decide) h9.2.1 rfl) (fun r9 w9 H locs hp hP hS => ?_)
  obtain ⟨hp1, hp0⟩ := hp
  rw [hp1] at hP
  have hk9 := hp0
  show W p l0 e rmCX1_windOf s m args below meth c H locs (0 + 1) (0 + 6) Q (F0 m 7 ls [])
  obtain ⟨kz, hkz, rfl⟩ := tin_N (n := 9) (by decide) hk9
  have ckz : (nI kz).toNatClampNeg = kz := nI_clamp (by omega)
  refine lv_iload_n hx hb dX1_windOf_7 rfl (lv_at hl 2 rfl) ?_
  refine k_ifeqB (x := zb) (tgt := 23) hx hb dX1_windOf_8 (by decide) (fun c8 => ?_) (fun c8 => ?_)
  · skip
    refine lv_aload_n hx hb dX1_windOf_23 rfl (lv_at hl 0 rfl) ?_
    refine k_get hx hb hts in_X1 hown hG hP hX rfl 0 (by decide) (hts _ q276) (fun _ h9 => h9) (v := .ref (A1 0)) rfl dX1_windOf_24 ?_
    have hT_1 := hM.1
    refine k_getN hx hb hts in_X2 hown hG hP hT_1 rfl 0 (by decide) (hG.2.1.1 _ q181 rfl) (fun _ h9 => h9) (v := .ref (A1 1)) rfl dX1_windOf_27 ?_
    refine lv_iload_n hx hb dX1_windOf_30 rfl (lv_at hl 1 rfl) ?_
    obtain ⟨fs_2, hT_2, he_2⟩ := hM.2.1
    refine k_iald hx hb hG hP (j := kz) hT_2 (by omega) (show kz < 10 from by omega) dX1_windOf_31 ?_
    refine k_top (y := (g (2 * kz))) (he_2 kz (by omega)) ?_
    exact kx_iret hx hb hr hlocks hQ hP hS (by omega) (by omega) dX1_windOf_32 (⟨rfl, by simp [qWof, hk9, ckz, c8]⟩)
  · skip
    refine lv_aload_n hx hb dX1_windOf_11 rfl (lv_at hl 0 rfl) ?_
    refine k_get hx hb hts in_X1 hown hG hP hX rfl 0 (by decide) (hts _ q276) (fun _ h9 => h9) (v := .ref (A1 0)) rfl dX1_windOf_12 ?_
    have hT_3 := hM.1
    refine k_getN hx hb hts in_X2 hown hG hP hT_3 rfl 1 (by decide) (hG.2.1.1 _ q183 rfl) (fun _ h9 => h9) (v := .ref (A1 2)) rfl dX1_windOf_15 ?_
    refine lv_iload_n hx hb dX1_windOf_18 rfl (lv_at hl 1 rfl) ?_
    obtain ⟨fs_4, hT_4, he_4⟩ := hM.2.2.1
    refine k_iald hx hb hG hP (j := kz) hT_4 (by omega) (show kz < 10 from by omega) dX1_windOf_19 ?_
    refine k_top (y := (g (2 * kz + 1))) (he_4 kz (by omega)) ?_
    refine lv_goto (tgt := 32) hx hb dX1_windOf_20 (by decide) ?_
    exact kx_iret hx hb hr hlocks hQ hP hS (by omega) (by omega) dX1_windOf_32 (⟨rfl, by simp [qWof, hk9, ckz, c8]⟩)

abbrev rmCX1_kite : Room := { frames := 8, cells := 30, slots := 200, locals := 140 }
theorem dyX1_kite : yX1_kite.cls = RX1 ∧ yX1_kite.cls ≠ "java/lang/invoke/MethodHandle" ∧ yX1_kite.cls ≠ "java/lang/invoke/VarHandle" ∧ (parseMethodDescriptor yX1_kite.desc).map (fun d => d.parameters.length) = some 4 := by decide +kernel
set_option maxHeartbeats 4000000 in
theorem CX1_kite (l0 : Launch) (hl0 : l0.stackTraces = false) (E : gE) (w : wd) (x : Nat) (A1 : Nat → Nat) (A2 : Nat → Nat) (A3 : Nat → Nat) (d : Nat) (b : Nat) (hs : Int32) (ft : Int32) (rf : Int32) (ro : Int32) (g : Nat → Int32) (mn : Nat) (wn : Nat → Int32) (ly : Nat → Int32) (cn : Nat) (I : Nat → Nat) (K : Nat → Nat → Int32) (mk : Nat → Nat) (x1 : Int32) (x2 : Int32) (x3 : Int32) (x4 : Int32) (hX : w x = some ((94, 0), .inr (1, [.ref (A1 0), .ref (A2 0), .ref (A3 0), .int hs, .ref d, .ref b, .int ft, .int rf, .int ro]))) (hM : townR E w 1 A1 g mn wn ly) (hK : kpR E w d cn I K mk) : kX l0 yX1_kite (ws_ yX1_kite cX1_kite 5 (some .int)) rmCX1_kite 30 200 mI E w [.ref x, .int x1, .int x2, .int x3, .int x4] (fun r w' => ∃ I9 : Nat → Nat, ((qKite g mn x1 x2 x3 x4).1 = 0 ∧ r = (qKite g mn x1 x2 x3 x4).2.2.1) ∧ (townR E w' 1 A1 ((qKite g mn x1 x2 x3 x4).2.2.2) (mn + 1) wn ly ∧ kpR E w' d (kCn cn) I9 (kSh cn K g) (kSh cn mk mn) ∧ True) ∧ fr pX1 w w') (pxM [(nIA, 1)] w (qKite g mn x1 x2 x3 x4).1 2 (qKite g mn x1 x2 x3 x4).2.1 x (fun rs od => .inr (1, [.ref (A1 0), .ref (A2 0), .ref (A3 0), .int hs, .ref d, .ref b, .int ft, .int rs, .int od]))) := by
  refine kx_open (cc := cX1_kite) (maxL := 5) (ret := (some .int)) (by decide) rfl (Nat.le_of_ble_eq_true rfl) ?_
  intro p e s m args below meth c ls Q hx hb hr hml hown hts hlocks hname ht hQ hG hP hl hS
  have hl : lv_has ls 5 [(0, .ref x), (1, .int x1), (2, .int x2), (3, .int x3), (4, .int x4)] := hl
  obtain ⟨w0, hw0⟩ : ∃ z, z = w := ⟨_, rfl⟩
  have hF : fr pX1 w0 w := by rw [hw0]; exact fr.rf
  rw [← hw0] at hQ
  have hm6 := hM.m25
  refine lv_iload_n hx hb dX1_kite_0 rfl (lv_at hl 1 rfl) ?_
  refine lv_iload_n hx hb dX1_kite_1 rfl (lv_at hl 2 rfl) ?_
  refine lv_iload_n hx hb dX1_kite_2 rfl (lv_at hl 3 rfl) ?_
  refine lv_iload hx hb dX1_kite_3 (lv_at hl 4 rfl) ?_
  refine k_cS hx hb hml hown hts (CX1_mayBeKite l0 E w x1 x2 x3 x4) (va_cwS 4 hts (lw_S q611 q612 q69 q613) rfl rfl rfl dyX1_mayBeKite ⟨Nat.le_of_ble_eq_true rfl, Nat.le_of_ble_eq_true rfl⟩) hG hP hS (As := [.int x1, .int x2, .int x3, .int x4]) (rest := []) rfl hl.1 rfl (lv_room (Nat.le_of_ble_eq_true rfl)) dX1_kite_5 ⟨show 0 + 0 ≤ 30 from by omega, show 0 + 0 ≤ 200 from by omega⟩ (fun r9 w9 H locs hp hP hS => ?_)
  obtain ⟨hp1, hp0⟩ := hp
  rw [hp1] at hP
  rw [hp0]
  show W p l0 e rmCX1_kite s m args below meth c H locs 0 0 Q (F0 m 8 ls [.int (bI (tin x1 0 2 && (tin x2 0 40 && (tin x3 10 99 && tin x4 0 9))))])
  refine kx_cS hx hb hml hown hts hQ ht hlocks (CX1_check l0 hl0 E w (tin x1 0 2 && (tin x2 0 40 && (tin x3 10 99 && tin x4 0 9)))) (va_cwS 1 hts (lw_S q483 q484 q69 q485) rfl rfl rfl dyX1_check ⟨Nat.le_of_ble_eq_true rfl, Nat.le_of_ble_eq_true rfl⟩) hG hP hS (As := [.int (bI (tin x1 0 2 && (tin x2 0 40 && (tin x3 10 99 && tin x4 0 9))))]) (rest := []) rfl hl.1 rfl (lv_room (Nat.le_of_ble_eq_true rfl)) dX1_kite_8 ⟨show 0 + 1 ≤ 30 from by omega, show 0 + 6 ≤ 200 from by omega⟩ ⟨show 0 + 1 ≤ 30 from by omega, show 0 + 6 ≤ 200 from by omega⟩ (fun X9 q9 w9 h9 => pxM.mk' (k := 1) h9.1 (qKite_1 h9.2.2) (by decide) h9.2.1 hw0) (fun r9 w9 H locs hp hP hS => ?_)
  obtain ⟨hp1, hp0⟩ := hp
  rw [hp1] at hP
  have hk9 := hp0
  show W p l0 e rmCX1_kite s m args below meth c H locs (0 + 1) (0 + 6) Q (F0 m 11 ls [])
  refine lv_aload_n hx hb dX1_kite_11 rfl (lv_at hl 0 rfl) ?_
  refine lv_aload_n hx hb dX1_kite_12 rfl (lv_at hl 0 rfl) ?_
  refine k_get hx hb hts in_X1 hown hG hP hX rfl 0 (by decide) (hts _ q276) (fun _ h9 => h9) (v := .ref (A1 0)) rfl dX1_kite_13 ?_
  have hT_1 := hM.1
  refine k_getN hx hb hts in_X2 hown hG hP hT_1 rfl 3 (by decide) (hG.2.1.1 _ q187 rfl) (fun _ h9 => h9) (v := .int (nI mn)) rfl dX1_kite_16 ?_
  refine lv_bipush (v := 6) hx hb dX1_kite_19 (by decide) ?_
  refine k_icmp_neN (x := mn) (y := 6) (tgt := 28) hx hb (by omega) (by omega) dX1_kite_21 (by decide) (fun c21 => ?_) (fun c21 => ?_)
  · skip
    refine lv_iconst (v := 0) hx hb dX1_kite_28 (by decide) ?_
    refine lv_iconst (v := (-1)) hx hb dX1_kite_29 (by decide) ?_
    refine kx_cV hx hb hml hown hts hQ ht hlocks (CX1_checkSupported l0 hl0 E w x A1 A2 A3 d b hs ft rf ro 0 (-1) hX) (cwV 2 hts (lw_V q614 q616 qs5 q69 q617) rfl rfl rfl dyX1_checkSupported ⟨Nat.le_of_ble_eq_true rfl, Nat.le_of_ble_eq_true rfl⟩) hG hP hS hX rfl (As := [.int 0, .int (-1)]) (rest := []) rfl hl.1 rfl (lv_room (Nat.le_of_ble_eq_true rfl)) dX1_kite_30 ⟨show (0 + 1) + 1 ≤ 30 from by omega, show (0 + 6) + 6 ≤ 200 from by omega⟩ ⟨show (0 + 1) + 1 ≤ 30 from by omega, show (0 + 6) + 6 ≤ 200 from by omega⟩ (fun X9 q9 w9 h9 => absurd h9.2.1 (by decide)) (fun r9 w9 H locs hp hP hS => ?_)
    obtain ⟨hp1, hp0⟩ := hp
    rw [hp1] at hP
    show W p l0 e rmCX1_kite s m args below meth c H locs ((0 + 1) + 1) ((0 + 6) + 6) Q (F0 m 33 ls [])
    refine lv_aload_n hx hb dX1_kite_33 rfl (lv_at hl 0 rfl) ?_
    refine k_cV hx hb hml hown hts (CX1_keep l0 E w x A1 A2 A3 d b hs ft rf ro g mn wn ly cn I K mk hX hM hK) (cwV 0 hts (lw_V q501 q503 qs2 q69 q504) rfl rfl rfl dyX1_keep ⟨Nat.le_of_ble_eq_true rfl, Nat.le_of_ble_eq_true rfl⟩) hG hP hS hX rfl (As := []) (rest := []) rfl hl.1 rfl (lv_room (Nat.le_of_ble_eq_true rfl)) dX1_kite_34 ⟨show ((0 + 1) + 1) + 24 ≤ 30 from by omega, show ((0 + 6) + 6) + 140 ≤ 200 from by omega⟩ (fun r34 w1 H locs hp hP hS => ?_)
    obtain ⟨I9_1, hp0, ⟨hK', -⟩, hf9⟩ := hp
    have hX : w1 x = some ((94, 0), .inr (1, [.ref (A1 0), .ref (A2 0), .ref (A3 0), .int hs, .ref d, .ref b, .int ft, .int rf, .int ro])) := hf9 _ _ _ hX (by intro z9; first | (simp only [pO, pN, pD, pKp, pT, pB, pS, pR, pRd, pRo, Prod.mk.injEq, pX1, pX2, pXs, pX2t] at z9; done) | (simp only [pO, pN, pD, pKp, pT, pB, pS, pR, pRd, pRo, Prod.mk.injEq, pX1, pX2, pXs, pX2t] at z9; omega))
    have hM : townR E w1 1 A1 g mn wn ly := hM.frm hf9 (by intro z9; first | (simp only [pO, pN, pD, pKp, pT, pB, pS, pR, pRd, pRo, Prod.mk.injEq, pX1, pX2, pXs, pX2t] at z9; done) | (simp only [pO, pN, pD, pKp, pT, pB, pS, pR, pRd, pRo, Prod.mk.injEq, pX1, pX2, pXs, pX2t] at z9; omega)) (fun r9 => (by intro z9; first | (simp only [pO, pN, pD, pKp, pT, pB, pS, pR, pRd, pRo, Prod.mk.injEq, pX1, pX2, pXs, pX2t] at z9; done) | (simp only [pO, pN, pD, pKp, pT, pB, pS, pR, pRd, pRo, Prod.mk.injEq, pX1, pX2, pXs, pX2t] at z9; omega)))
    have hF : fr pX1 w0 w1 := hF.tr (hf9.up (fun t9 h9 => by simp only [pO, pN, pD, pKp, pT, pB, pS, pR, pX1, pX2, pXs, pX2t] at h9 ⊢; first | exact h9 | (subst h9; simp; done) | (subst h9; simp; omega) | omega | (rcases h9 with h9 | h9 <;> first | (subst h9; simp; done) | (subst h9; simp; omega) | omega)))
    have hK : kpR E w1 d (kCn cn) I9_1 (kSh cn K g) (kSh cn mk mn) := hK'
    show W p l0 e rmCX1_kite s m args below meth c H locs (((0 + 1) + 1) + 24) (((0 + 6) + 6) + 140) Q (F0 m 37 ls [])
    refine lv_aload_n hx hb dX1_kite_37 rfl (lv_at hl 0 rfl) ?_
    refine k_get hx hb hts in_X1 hown hG hP hX rfl 0 (by decide) (hts _ q276) (fun _ h9 => h9) (v := .ref (A1 0)) rfl dX1_kite_38 ?_
    obtain ⟨kz, hkz, rfl⟩ := tin_N (n := 2) (by decide) (Bool.and_eq_true_iff.mp hk9).1
    have ckz : (nI kz).toNatClampNeg = kz := nI_clamp (by omega)
    refine lv_iload_n hx hb dX1_kite_41 rfl (lv_at hl 1 rfl) ?_
    refine k_cS hx hb hml hown hts (CX4_of l0 E w1 (nI kz) (kd3 (by omega))) (va_cwS 1 hts (lw_S q633 q634 q73 q635) rfl rfl rfl dyX4_of ⟨Nat.le_of_ble_eq_true rfl, Nat.le_of_ble_eq_true rfl⟩) hG hP hS (As := [.int (nI kz)]) (rest := [.ref (A1 0)]) rfl hl.1 rfl (lv_room (Nat.le_of_ble_eq_true rfl)) dX1_kite_42 ⟨show (((0 + 1) + 1) + 24) + 0 ≤ 30 from by omega, show (((0 + 6) + 6) + 140) + 0 ≤ 200 from by omega⟩ (fun r9 w9 H locs hp hP hS => ?_)
    obtain ⟨hp1, hp0⟩ := hp
    rw [hp1] at hP
    rw [ckz] at hp0
    rw [hp0]
    show W p l0 e rmCX1_kite s m args below meth c H locs (((0 + 1) + 1) + 24) (((0 + 6) + 6) + 140) Q (F0 m 45 ls [.ref (eM E kz), .ref (A1 0)])
    refine lv_iload_n hx hb dX1_kite_45 rfl (lv_at hl 2 rfl) ?_
    refine lv_iload_n hx hb dX1_kite_46 rfl (lv_at hl 3 rfl) ?_
    refine lv_iload hx hb dX1_kite_47 (lv_at hl 4 rfl) ?_
    have hT_2 := hM.1
    refine k_cV hx hb hml hown hts (CX2_add l0 E w1 1 A1 g mn wn ly kz x2 x3 x4 (by omega) (by omega) (by omega) (by omega) hM) (cwV 4 hts (lw_V q641 q642 q643 q70 q644) rfl rfl rfl dyX2_add ⟨Nat.le_of_ble_eq_true rfl, Nat.le_of_ble_eq_true rfl⟩) hG hP hS hT_2 rfl (As := [.ref (eM E kz), .int x2, .int x3, .int x4]) (rest := []) rfl hl.1 rfl (lv_room (Nat.le_of_ble_eq_true rfl)) dX1_kite_49 ⟨show (((0 + 1) + 1) + 24) + 1 ≤ 30 from by omega, show (((0 + 6) + 6) + 140) + 0 ≤ 200 from by omega⟩ (fun r49 w2 H locs hp hP hS => ?_)
    obtain ⟨hp0, ⟨hM', -⟩, hf9⟩ := hp
    have hX : w2 x = some ((94, 0), .inr (1, [.ref (A1 0), .ref (A2 0), .ref (A3 0), .int hs, .ref d, .ref b, .int ft, .int rf, .int ro])) := hf9 _ _ _ hX (by intro z9; first | (simp only [pO, pN, pD, pKp, pT, pB, pS, pR, pRd, pRo, Prod.mk.injEq, pX1, pX2, pXs, pX2t] at z9; done) | (simp only [pO, pN, pD, pKp, pT, pB, pS, pR, pRd, pRo, Prod.mk.injEq, pX1, pX2, pXs, pX2t] at z9; omega))
    have hK : kpR E w2 d (kCn cn) I9_1 (kSh cn K g) (kSh cn mk mn) := hK.fr hf9 (by intro z9; first | (simp only [pO, pN, pD, pKp, pT, pB, pS, pR, pRd, pRo, Prod.mk.injEq, pX1, pX2, pXs, pX2t] at z9; done) | (simp only [pO, pN, pD, pKp, pT, pB, pS, pR, pRd, pRo, Prod.mk.injEq, pX1, pX2, pXs, pX2t] at z9; omega)) (fun i9 r9 h7 h8 => (by intro z9; first | (simp only [pO, pN, pD, pKp, pT, pB, pS, pR, pRd, pRo, Prod.mk.injEq, pX1, pX2, pXs, pX2t] at z9; done) | (simp only [pO, pN, pD, pKp, pT, pB, pS, pR, pRd, pRo, Prod.mk.injEq, pX1, pX2, pXs, pX2t] at z9; omega)))
    have hF : fr pX1 w0 w2 := hF.tr (hf9.up (fun t9 h9 => by simp only [pO, pN, pD, pKp, pT, pB, pS, pR, pX1, pX2, pXs, pX2t] at h9 ⊢; first | exact h9 | (subst h9; simp; done) | (subst h9; simp; omega) | omega | (rcases h9 with h9 | h9 <;> first | (subst h9; simp; done) | (subst h9; simp; omega) | omega)))
    have hM : townR E w2 1 A1 (tNk g mn (nI kz) x2 x3 x4) (mn + 1) wn ly := hM'
    rw [hp0]
    show W p l0 e rmCX1_kite s m args below meth c H locs ((((0 + 1) + 1) + 24) + 1) (((0 + 6) + 6) + 140) Q (F0 m 52 ls [.int (nI mn)])
    have e9 := qKite_ok (g := g) hk9 c21
    exact kx_iret hx hb hr hlocks hQ hP hS (by omega) (by omega) dX1_kite_52 (⟨_, ⟨by rw [e9], by rw [e9]⟩, ⟨(hM.row (by rw [e9])), hK, trivial⟩, hF⟩)
  · skip
    refine lv_iconst (v := 1) hx hb dX1_kite_24 (by decide) ?_
    refine lv_goto (tgt := 29) hx hb dX1_kite_25 (by decide) ?_
    refine lv_iconst (v := (-1)) hx hb dX1_kite_29 (by decide) ?_
    refine kx_cV hx hb hml hown hts hQ ht hlocks (CX1_checkSupported l0 hl0 E w x A1 A2 A3 d b hs ft rf ro 1 (-1) hX) (cwV 2 hts (lw_V q614 q616 qs5 q69 q617) rfl rfl rfl dyX1_checkSupported ⟨Nat.le_of_ble_eq_true rfl, Nat.le_of_ble_eq_true rfl⟩) hG hP hS hX rfl (As := [.int 1, .int (-1)]) (rest := []) rfl hl.1 rfl (lv_room (Nat.le_of_ble_eq_true rfl)) dX1_kite_30 ⟨show (0 + 1) + 1 ≤ 30 from by omega, show (0 + 6) + 6 ≤ 200 from by omega⟩ ⟨show (0 + 1) + 1 ≤ 30 from by omega, show (0 + 6) + 6 ≤ 200 from by omega⟩ (fun X9 q9 w9 h9 => pxM.su (r2 := 1) h9.1 (by rw [qKite_2 hk9 c21]; exact ⟨rfl, rfl⟩) (by decide) h9.2.2.1 h9.2.2.2 hw0) (fun r9 w9 H locs hp hP hS => ?_)
    obtain ⟨hp1, hp0⟩ := hp
    rw [hp1] at hP
    show W p l0 e rmCX1_kite s m args below meth c H locs ((0 + 1) + 1) ((0 + 6) + 6) Q (F0 m 33 ls [])
    exact absurd hp0 (by decide)

abbrev rmCX1_launch : Room := { frames := 8, cells := 30, slots := 200, locals := 140 }
theorem dyX1_launch : yX1_launch.cls = RX1 ∧ yX1_launch.cls ≠ "java/lang/invoke/MethodHandle" ∧ yX1_launch.cls ≠ "java/lang/invoke/VarHandle" ∧ (parseMethodDescriptor yX1_launch.desc).map (fun d => d.parameters.length) = some 1 := by decide +kernel
set_option maxHeartbeats 4000000 in
theorem CX1_launch (l0 : Launch) (hl0 : l0.stackTraces = false) (E : gE) (w : wd) (x : Nat) (A1 : Nat → Nat) (A2 : Nat → Nat) (A3 : Nat → Nat) (d : Nat) (b : Nat) (hs : Int32) (ft : Int32) (rf : Int32) (ro : Int32) (g : Nat → Int32) (mn : Nat) (wn : Nat → Int32) (ly : Nat → Int32) (cn : Nat) (I : Nat → Nat) (K : Nat → Nat → Int32) (mk : Nat → Nat) (y : Int32) (hX : w x = some ((94, 0), .inr (1, [.ref (A1 0), .ref (A2 0), .ref (A3 0), .int hs, .ref d, .ref b, .int ft, .int rf, .int ro]))) (hM : townR E w 1 A1 g mn wn ly) (hK : kpR E w d cn I K mk) : kX l0 yX1_launch (ws_ yX1_launch cX1_launch 2 (some .int)) rmCX1_launch 30 200 mI E w [.ref x, .int y] (fun r w' => ∃ I9 : Nat → Nat, ((qLnch g mn y).1 = 0 ∧ r = (qLnch g mn y).2.2.1) ∧ (townR E w' 1 A1 ((qLnch g mn y).2.2.2) mn wn ly ∧ kpR E w' d (kCn cn) I9 (kSh cn K g) (kSh cn mk mn) ∧ True) ∧ fr pX1 w w') (pxM [(nIO, 1)] w (qLnch g mn y).1 2 (qLnch g mn y).2.1 x (fun rs od => .inr (1, [.ref (A1 0), .ref (A2 0), .ref (A3 0), .int hs, .ref d, .ref b, .int ft, .int rs, .int od]))) := by
  refine kx_open (cc := cX1_launch) (maxL := 2) (ret := (some .int)) (by decide) rfl (Nat.le_of_ble_eq_true rfl) ?_
  intro p e s m args below meth c ls Q hx hb hr hml hown hts hlocks hname ht hQ hG hP hl hS
  have hl : lv_has ls 2 [(0, .ref x), (1, .int y)] := hl
  obtain ⟨w0, hw0⟩ : ∃ z, z = w := ⟨_, rfl⟩
  have hF : fr pX1 w0 w := by rw [hw0]; exact fr.rf
  rw [← hw0] at hQ
  have hm6 := hM.m25
  refine lv_aload_n hx hb dX1_launch_0 rfl (lv_at hl 0 rfl) ?_
  refine k_get hx hb hts in_X1 hown hG hP hX rfl 0 (by decide) (hts _ q276) (fun _ h9 => h9) (v := .ref (A1 0)) rfl dX1_launch_1 ?_
  refine lv_iload_n hx hb dX1_launch_4 rfl (lv_at hl 1 rfl) ?_
  have hT_1 := hM.1
  refine k_cV hx hb hml hown hts (CX2_isKite l0 E w 1 A1 g mn wn ly y hM) (cwV 1 hts (lw_V q656 q657 q658 q70 q659) rfl rfl rfl dyX2_isKite ⟨Nat.le_of_ble_eq_true rfl, Nat.le_of_ble_eq_true rfl⟩) hG hP hS hT_1 rfl (As := [.int y]) (rest := []) rfl hl.1 rfl (lv_room (Nat.le_of_ble_eq_true rfl)) dX1_launch_5 ⟨show 0 + 0 ≤ 30 from by omega, show 0 + 0 ≤ 200 from by omega⟩ (fun r9 w9 H locs hp hP hS => ?_)
  obtain ⟨hp1, hp0⟩ := hp
  rw [hp1] at hP
  rw [hp0]
  show W p l0 e rmCX1_launch s m args below meth c H locs 0 0 Q (F0 m 8 ls [.int (bI (tKt g y))])
  refine kx_cS hx hb hml hown hts hQ ht hlocks (CX1_checkIndex l0 hl0 E w (tKt g y)) (va_cwS 1 hts (lw_S q456 q457 q69 q458) rfl rfl rfl dyX1_checkIndex ⟨Nat.le_of_ble_eq_true rfl, Nat.le_of_ble_eq_true rfl⟩) hG hP hS (As := [.int (bI (tKt g y))]) (rest := []) rfl hl.1 rfl (lv_room (Nat.le_of_ble_eq_true rfl)) dX1_launch_8 ⟨show 0 + 1 ≤ 30 from by omega, show 0 + 6 ≤ 200 from by omega⟩ ⟨show 0 + 1 ≤ 30 from by omega, show 0 + 6 ≤ 200 from by omega⟩ (fun X9 q9 w9 h9 => pxM.mk' (k := 1) h9.1 (qLnch_1 h9.2.2) (by decide) h9.2.1 hw0) (fun r9 w9 H locs hp hP hS => ?_)
  obtain ⟨hp1, hp0⟩ := hp
  rw [hp1] at hP
  have hk9 := hp0
  show W p l0 e rmCX1_launch s m args below meth c H locs (0 + 1) (0 + 6) Q (F0 m 11 ls [])
  obtain ⟨kz, hkz, rfl⟩ := tKt_of hm6.1 hm6.2 hk9
  have ckz : (nI kz).toNatClampNeg = kz := nI_clamp (by omega)
  refine lv_aload_n hx hb dX1_launch_11 rfl (lv_at hl 0 rfl) ?_
  refine lv_aload_n hx hb dX1_launch_12 rfl (lv_at hl 0 rfl) ?_
  refine k_get hx hb hts in_X1 hown hG hP hX rfl 0 (by decide) (hts _ q276) (fun _ h9 => h9) (v := .ref (A1 0)) rfl dX1_launch_13 ?_
  refine lv_iload_n hx hb dX1_launch_16 rfl (lv_at hl 1 rfl) ?_
  refine k_cV hx hb hml hown hts (CX2_reasonToLaunch l0 E w 1 A1 g mn wn ly kz (by omega) hM) (cwV 1 hts (lw_V q661 q662 q663 q70 q664) rfl rfl rfl dyX2_reasonToLaunch ⟨Nat.le_of_ble_eq_true rfl, Nat.le_of_ble_eq_true rfl⟩) hG hP hS hT_1 rfl (As := [.int (nI kz)]) (rest := [.ref x]) rfl hl.1 rfl (lv_room (Nat.le_of_ble_eq_true rfl)) dX1_launch_17 ⟨show (0 + 1) + 0 ≤ 30 from by omega, show (0 + 6) + 0 ≤ 200 from by omega⟩ (fun r9 w9 H locs hp hP hS => ?_)
  obtain ⟨hp1, hp0⟩ := hp
  rw [hp1] at hP
  rw [hp0]
  show W p l0 e rmCX1_launch s m args below meth c H locs (0 + 1) (0 + 6) Q (F0 m 20 ls [.int (if g (kO kz 0) = 0 then (if g 0 = 0 then 3 else 0) else 2), .ref x])
  refine lv_iconst (v := (-1)) hx hb dX1_launch_20 (by decide) ?_
  refine kx_cV hx hb hml hown hts hQ ht hlocks (CX1_checkSupported l0 hl0 E w x A1 A2 A3 d b hs ft rf ro (if g (kO kz 0) = 0 then (if g 0 = 0 then 3 else 0) else 2) (-1) hX) (cwV 2 hts (lw_V q614 q616 qs5 q69 q617) rfl rfl rfl dyX1_checkSupported ⟨Nat.le_of_ble_eq_true rfl, Nat.le_of_ble_eq_true rfl⟩) hG hP hS hX rfl (As := [.int (if g (kO kz 0) = 0 then (if g 0 = 0 then 3 else 0) else 2), .int (-1)]) (rest := []) rfl hl.1 rfl (lv_room (Nat.le_of_ble_eq_true rfl)) dX1_launch_21 ⟨show (0 + 1) + 1 ≤ 30 from by omega, show (0 + 6) + 6 ≤ 200 from by omega⟩ ⟨show (0 + 1) + 1 ≤ 30 from by omega, show (0 + 6) + 6 ≤ 200 from by omega⟩ (fun X9 q9 w9 h9 => pxM.su h9.1 ((qLnch_r hk9 ckz).1 h9.2.1) h9.2.1 h9.2.2.1 h9.2.2.2 hw0) (fun r9 w9 H locs hp hP hS => ?_)
  obtain ⟨hp1, hp0⟩ := hp
  rw [hp1] at hP
  have hrs := hp0
  show W p l0 e rmCX1_launch s m args below meth c H locs ((0 + 1) + 1) ((0 + 6) + 6) Q (F0 m 24 ls [])
  refine lv_aload_n hx hb dX1_launch_24 rfl (lv_at hl 0 rfl) ?_
  refine k_cV hx hb hml hown hts (CX1_keep l0 E w x A1 A2 A3 d b hs ft rf ro g mn wn ly cn I K mk hX hM hK) (cwV 0 hts (lw_V q501 q503 qs2 q69 q504) rfl rfl rfl dyX1_keep ⟨Nat.le_of_ble_eq_true rfl, Nat.le_of_ble_eq_true rfl⟩) hG hP hS hX rfl (As := []) (rest := []) rfl hl.1 rfl (lv_room (Nat.le_of_ble_eq_true rfl)) dX1_launch_25 ⟨show ((0 + 1) + 1) + 24 ≤ 30 from by omega, show ((0 + 6) + 6) + 140 ≤ 200 from by omega⟩ (fun r25 w1 H locs hp hP hS => ?_)
  obtain ⟨I9_1, hp0, ⟨hK', -⟩, hf9⟩ := hp
  have hX : w1 x = some ((94, 0), .inr (1, [.ref (A1 0), .ref (A2 0), .ref (A3 0), .int hs, .ref d, .ref b, .int ft, .int rf, .int ro])) := hf9 _ _ _ hX (by intro z9; first | (simp only [pO, pN, pD, pKp, pT, pB, pS, pR, pRd, pRo, Prod.mk.injEq, pX1, pX2, pXs, pX2t] at z9; done) | (simp only [pO, pN, pD, pKp, pT, pB, pS, pR, pRd, pRo, Prod.mk.injEq, pX1, pX2, pXs, pX2t] at z9; omega))
  have hM : townR E w1 1 A1 g mn wn ly := hM.frm hf9 (by intro z9; first | (simp only [pO, pN, pD, pKp, pT, pB, pS, pR, pRd, pRo, Prod.mk.injEq, pX1, pX2, pXs, pX2t] at z9; done) | (simp only [pO, pN, pD, pKp, pT, pB, pS, pR, pRd, pRo, Prod.mk.injEq, pX1, pX2, pXs, pX2t] at z9; omega)) (fun r9 => (by intro z9; first | (simp only [pO, pN, pD, pKp, pT, pB, pS, pR, pRd, pRo, Prod.mk.injEq, pX1, pX2, pXs, pX2t] at z9; done) | (simp only [pO, pN, pD, pKp, pT, pB, pS, pR, pRd, pRo, Prod.mk.injEq, pX1, pX2, pXs, pX2t] at z9; omega)))
  have hF : fr pX1 w0 w1 := hF.tr (hf9.up (fun t9 h9 => by simp only [pO, pN, pD, pKp, pT, pB, pS, pR, pX1, pX2, pXs, pX2t] at h9 ⊢; first | exact h9 | (subst h9; simp; done) | (subst h9; simp; omega) | omega | (rcases h9 with h9 | h9 <;> first | (subst h9; simp; done) | (subst h9; simp; omega) | omega)))
  have hK : kpR E w1 d (kCn cn) I9_1 (kSh cn K g) (kSh cn mk mn) := hK'
  show W p l0 e rmCX1_launch s m args below meth c H locs (((0 + 1) + 1) + 24) (((0 + 6) + 6) + 140) Q (F0 m 28 ls [])
  refine lv_aload_n hx hb dX1_launch_28 rfl (lv_at hl 0 rfl) ?_
  refine k_get hx hb hts in_X1 hown hG hP hX rfl 0 (by decide) (hts _ q276) (fun _ h9 => h9) (v := .ref (A1 0)) rfl dX1_launch_29 ?_
  refine lv_iload_n hx hb dX1_launch_32 rfl (lv_at hl 1 rfl) ?_
  have hT_2 := hM.1
  refine k_cV hx hb hml hown hts (CX2_launch l0 E w1 1 A1 g mn wn ly kz (by omega) (by omega) (by omega) hM) (cwV 1 hts (lw_V q669 q670 q671 q70 q672) rfl rfl rfl dyX2_launch ⟨Nat.le_of_ble_eq_true rfl, Nat.le_of_ble_eq_true rfl⟩) hG hP hS hT_2 rfl (As := [.int (nI kz)]) (rest := []) rfl hl.1 rfl (lv_room (Nat.le_of_ble_eq_true rfl)) dX1_launch_33 ⟨show (((0 + 1) + 1) + 24) + 1 ≤ 30 from by omega, show (((0 + 6) + 6) + 140) + 2 ≤ 200 from by omega⟩ (fun r33 w2 H locs hp hP hS => ?_)
  obtain ⟨hp0, ⟨hM', -⟩, hf9⟩ := hp
  have hX : w2 x = some ((94, 0), .inr (1, [.ref (A1 0), .ref (A2 0), .ref (A3 0), .int hs, .ref d, .ref b, .int ft, .int rf, .int ro])) := hf9 _ _ _ hX (by intro z9; first | (simp only [pO, pN, pD, pKp, pT, pB, pS, pR, pRd, pRo, Prod.mk.injEq, pX1, pX2, pXs, pX2t] at z9; done) | (simp only [pO, pN, pD, pKp, pT, pB, pS, pR, pRd, pRo, Prod.mk.injEq, pX1, pX2, pXs, pX2t] at z9; omega))
  have hK : kpR E w2 d (kCn cn) I9_1 (kSh cn K g) (kSh cn mk mn) := hK.fr hf9 (by intro z9; first | (simp only [pO, pN, pD, pKp, pT, pB, pS, pR, pRd, pRo, Prod.mk.injEq, pX1, pX2, pXs, pX2t] at z9; done) | (simp only [pO, pN, pD, pKp, pT, pB, pS, pR, pRd, pRo, Prod.mk.injEq, pX1, pX2, pXs, pX2t] at z9; omega)) (fun i9 r9 h7 h8 => (by intro z9; first | (simp only [pO, pN, pD, pKp, pT, pB, pS, pR, pRd, pRo, Prod.mk.injEq, pX1, pX2, pXs, pX2t] at z9; done) | (simp only [pO, pN, pD, pKp, pT, pB, pS, pR, pRd, pRo, Prod.mk.injEq, pX1, pX2, pXs, pX2t] at z9; omega)))
  have hF : fr pX1 w0 w2 := hF.tr (hf9.up (fun t9 h9 => by simp only [pO, pN, pD, pKp, pT, pB, pS, pR, pX1, pX2, pXs, pX2t] at h9 ⊢; first | exact h9 | (subst h9; simp; done) | (subst h9; simp; omega) | omega | (rcases h9 with h9 | h9 <;> first | (subst h9; simp; done) | (subst h9; simp; omega) | omega)))
  have hM : townR E w2 1 A1 (tLn g kz) mn wn ly := hM'
  rw [hp0]
  show W p l0 e rmCX1_launch s m args below meth c H locs ((((0 + 1) + 1) + 24) + 1) ((((0 + 6) + 6) + 140) + 2) Q (F0 m 36 ls [.int (tIn (tLn g kz) 1 mn)])
  have e9 := (qLnch_r (mn := mn) hk9 ckz).2 hrs
  exact kx_iret hx hb hr hlocks hQ hP hS (by omega) (by omega) dX1_launch_36 (⟨_, ⟨by rw [e9], by rw [e9]⟩, ⟨(hM.row (by rw [e9])), hK, trivial⟩, hF⟩)

abbrev rmCX1_reel : Room := { frames := 8, cells := 30, slots := 200, locals := 140 }
theorem dyX1_reel : yX1_reel.cls = RX1 ∧ yX1_reel.cls ≠ "java/lang/invoke/MethodHandle" ∧ yX1_reel.cls ≠ "java/lang/invoke/VarHandle" ∧ (parseMethodDescriptor yX1_reel.desc).map (fun d => d.parameters.length) = some 2 := by decide +kernel
set_option maxHeartbeats 4000000 in
theorem CX1_reel (l0 : Launch) (hl0 : l0.stackTraces = false) (E : gE) (w : wd) (x : Nat) (A1 : Nat → Nat) (A2 : Nat → Nat) (A3 : Nat → Nat) (d : Nat) (b : Nat) (hs : Int32) (ft : Int32) (rf : Int32) (ro : Int32) (g : Nat → Int32) (mn : Nat) (wn : Nat → Int32) (ly : Nat → Int32) (cn : Nat) (I : Nat → Nat) (K : Nat → Nat → Int32) (mk : Nat → Nat) (y : Int32) (z : Int32) (hX : w x = some ((94, 0), .inr (1, [.ref (A1 0), .ref (A2 0), .ref (A3 0), .int hs, .ref d, .ref b, .int ft, .int rf, .int ro]))) (hM : townR E w 1 A1 g mn wn ly) (hK : kpR E w d cn I K mk) : kX l0 yX1_reel (ws_ yX1_reel cX1_reel 3 (some .int)) rmCX1_reel 30 200 mI E w [.ref x, .int y, .int z] (fun r w' => ∃ I9 : Nat → Nat, ((qReel g y z).1 = 0 ∧ r = (qReel g y z).2.2.1) ∧ (townR E w' 1 A1 ((qReel g y z).2.2.2) mn wn ly ∧ kpR E w' d (kCn cn) I9 (kSh cn K g) (kSh cn mk mn) ∧ True) ∧ fr pX1 w w') (pxM [(nIO, 1), (nIA, 2)] w (qReel g y z).1 3 (qReel g y z).2.1 x (fun rs od => .inr (1, [.ref (A1 0), .ref (A2 0), .ref (A3 0), .int hs, .ref d, .ref b, .int ft, .int rs, .int od]))) := by
  refine kx_open (cc := cX1_reel) (maxL := 3) (ret := (some .int)) (by decide) rfl (Nat.le_of_ble_eq_true rfl) ?_
  intro p e s m args below meth c ls Q hx hb hr hml hown hts hlocks hname ht hQ hG hP hl hS
  have hl : lv_has ls 3 [(0, .ref x), (1, .int y), (2, .int z)] := hl
  obtain ⟨w0, hw0⟩ : ∃ z, z = w := ⟨_, rfl⟩
  have hF : fr pX1 w0 w := by rw [hw0]; exact fr.rf
  rw [← hw0] at hQ
  have hm6 := hM.m25
  refine lv_aload_n hx hb dX1_reel_0 rfl (lv_at hl 0 rfl) ?_
  refine k_get hx hb hts in_X1 hown hG hP hX rfl 0 (by decide) (hts _ q276) (fun _ h9 => h9) (v := .ref (A1 0)) rfl dX1_reel_1 ?_
  refine lv_iload_n hx hb dX1_reel_4 rfl (lv_at hl 1 rfl) ?_
  have hT_1 := hM.1
  refine k_cV hx hb hml hown hts (CX2_isKite l0 E w 1 A1 g mn wn ly y hM) (cwV 1 hts (lw_V q656 q657 q658 q70 q659) rfl rfl rfl dyX2_isKite ⟨Nat.le_of_ble_eq_true rfl, Nat.le_of_ble_eq_true rfl⟩) hG hP hS hT_1 rfl (As := [.int y]) (rest := []) rfl hl.1 rfl (lv_room (Nat.le_of_ble_eq_true rfl)) dX1_reel_5 ⟨show 0 + 0 ≤ 30 from by omega, show 0 + 0 ≤ 200 from by omega⟩ (fun r9 w9 H locs hp hP hS => ?_)
  obtain ⟨hp1, hp0⟩ := hp
  rw [hp1] at hP
  rw [hp0]
  show W p l0 e rmCX1_reel s m args below meth c H locs 0 0 Q (F0 m 8 ls [.int (bI (tKt g y))])
  refine kx_cS hx hb hml hown hts hQ ht hlocks (CX1_checkIndex l0 hl0 E w (tKt g y)) (va_cwS 1 hts (lw_S q456 q457 q69 q458) rfl rfl rfl dyX1_checkIndex ⟨Nat.le_of_ble_eq_true rfl, Nat.le_of_ble_eq_true rfl⟩) hG hP hS (As := [.int (bI (tKt g y))]) (rest := []) rfl hl.1 rfl (lv_room (Nat.le_of_ble_eq_true rfl)) dX1_reel_8 ⟨show 0 + 1 ≤ 30 from by omega, show 0 + 6 ≤ 200 from by omega⟩ ⟨show 0 + 1 ≤ 30 from by omega, show 0 + 6 ≤ 200 from by omega⟩ (fun X9 q9 w9 h9 => pxM.mk' (k := 1) h9.1 (qReel_1 h9.2.2) (by decide) h9.2.1 hw0) (fun r9 w9 H locs hp hP hS => ?_)
  obtain ⟨hp1, hp0⟩ := hp
  rw [hp1] at hP
  have hk9 := hp0
  show W p l0 e rmCX1_reel s m args below meth c H locs (0 + 1) (0 + 6) Q (F0 m 11 ls [])
  obtain ⟨kz, hkz, rfl⟩ := tKt_of hm6.1 hm6.2 hk9
  have ckz : (nI kz).toNatClampNeg = kz := nI_clamp (by omega)
  refine lv_iload_n hx hb dX1_reel_11 rfl (lv_at hl 2 rfl) ?_
  refine lv_bipush (v := (-20)) hx hb dX1_reel_12 (by decide) ?_
  refine lv_bipush (v := 20) hx hb dX1_reel_14 (by decide) ?_
  refine k_cS hx hb hml hown hts (CX1_in l0 E w z (-20) 20) (va_cwS 3 hts (lw_S q453 q454 q69 q455) rfl rfl rfl dyX1_in ⟨Nat.le_of_ble_eq_true rfl, Nat.le_of_ble_eq_true rfl⟩) hG hP hS (As := [.int z, .int (-20), .int 20]) (rest := []) rfl hl.1 rfl (lv_room (Nat.le_of_ble_eq_true rfl)) dX1_reel_16 ⟨show (0 + 1) + 0 ≤ 30 from by omega, show (0 + 6) + 0 ≤ 200 from by omega⟩ (fun r9 w9 H locs hp hP hS => ?_)
  obtain ⟨hp1, hp0⟩ := hp
  rw [hp1] at hP
  rw [hp0]
  show W p l0 e rmCX1_reel s m args below meth c H locs (0 + 1) (0 + 6) Q (F0 m 19 ls [.int (bI (tin z (-20) 20))])
  refine kx_cS hx hb hml hown hts hQ ht hlocks (CX1_check l0 hl0 E w (tin z (-20) 20)) (va_cwS 1 hts (lw_S q483 q484 q69 q485) rfl rfl rfl dyX1_check ⟨Nat.le_of_ble_eq_true rfl, Nat.le_of_ble_eq_true rfl⟩) hG hP hS (As := [.int (bI (tin z (-20) 20))]) (rest := []) rfl hl.1 rfl (lv_room (Nat.le_of_ble_eq_true rfl)) dX1_reel_19 ⟨show (0 + 1) + 1 ≤ 30 from by omega, show (0 + 6) + 6 ≤ 200 from by omega⟩ ⟨show (0 + 1) + 1 ≤ 30 from by omega, show (0 + 6) + 6 ≤ 200 from by omega⟩ (fun X9 q9 w9 h9 => pxM.mk' (k := 2) h9.1 (qReel_2 hk9 h9.2.2) (by decide) h9.2.1 hw0) (fun r9 w9 H locs hp hP hS => ?_)
  obtain ⟨hp1, hp0⟩ := hp
  rw [hp1] at hP
  have hk8 := hp0
  show W p l0 e rmCX1_reel s m args below meth c H locs ((0 + 1) + 1) ((0 + 6) + 6) Q (F0 m 22 ls [])
  refine lv_aload_n hx hb dX1_reel_22 rfl (lv_at hl 0 rfl) ?_
  refine lv_aload_n hx hb dX1_reel_23 rfl (lv_at hl 0 rfl) ?_
  refine k_get hx hb hts in_X1 hown hG hP hX rfl 0 (by decide) (hts _ q276) (fun _ h9 => h9) (v := .ref (A1 0)) rfl dX1_reel_24 ?_
  refine lv_iload_n hx hb dX1_reel_27 rfl (lv_at hl 1 rfl) ?_
  refine lv_iload_n hx hb dX1_reel_28 rfl (lv_at hl 2 rfl) ?_
  refine k_cV hx hb hml hown hts (CX2_reasonToReel l0 E w 1 A1 g mn wn ly kz z (by omega) hM) (cwV 2 hts (lw_V q708 q709 q710 q70 q711) rfl rfl rfl dyX2_reasonToReel ⟨Nat.le_of_ble_eq_true rfl, Nat.le_of_ble_eq_true rfl⟩) hG hP hS hT_1 rfl (As := [.int (nI kz), .int z]) (rest := [.ref x]) rfl hl.1 rfl (lv_room (Nat.le_of_ble_eq_true rfl)) dX1_reel_29 ⟨show ((0 + 1) + 1) + 0 ≤ 30 from by omega, show ((0 + 6) + 6) + 0 ≤ 200 from by omega⟩ (fun r9 w9 H locs hp hP hS => ?_)
  obtain ⟨hp1, hp0⟩ := hp
  rw [hp1] at hP
  rw [hp0]
  show W p l0 e rmCX1_reel s m args below meth c H locs ((0 + 1) + 1) ((0 + 6) + 6) Q (F0 m 32 ls [.int (if tUp g kz = true then (if g (kO kz 5) + z ≤ g (kO kz 3) then (if 0 ≤ g (kO kz 5) + z then 0 else 6) else 5) else 4), .ref x])
  refine lv_iconst (v := (-1)) hx hb dX1_reel_32 (by decide) ?_
  refine kx_cV hx hb hml hown hts hQ ht hlocks (CX1_checkSupported l0 hl0 E w x A1 A2 A3 d b hs ft rf ro (if tUp g kz = true then (if g (kO kz 5) + z ≤ g (kO kz 3) then (if 0 ≤ g (kO kz 5) + z then 0 else 6) else 5) else 4) (-1) hX) (cwV 2 hts (lw_V q614 q616 qs5 q69 q617) rfl rfl rfl dyX1_checkSupported ⟨Nat.le_of_ble_eq_true rfl, Nat.le_of_ble_eq_true rfl⟩) hG hP hS hX rfl (As := [.int (if tUp g kz = true then (if g (kO kz 5) + z ≤ g (kO kz 3) then (if 0 ≤ g (kO kz 5) + z then 0 else 6) else 5) else 4), .int (-1)]) (rest := []) rfl hl.1 rfl (lv_room (Nat.le_of_ble_eq_true rfl)) dX1_reel_33 ⟨show ((0 + 1) + 1) + 1 ≤ 30 from by omega, show ((0 + 6) + 6) + 6 ≤ 200 from by omega⟩ ⟨show ((0 + 1) + 1) + 1 ≤ 30 from by omega, show ((0 + 6) + 6) + 6 ≤ 200 from by omega⟩ (fun X9 q9 w9 h9 => pxM.su h9.1 ((qReel_r hk9 hk8 ckz).1 h9.2.1) h9.2.1 h9.2.2.1 h9.2.2.2 hw0) (fun r9 w9 H locs hp hP hS => ?_)
  obtain ⟨hp1, hp0⟩ := hp
  rw [hp1] at hP
  have hrs := hp0
  obtain ⟨⟨hup, hx1, hx2⟩, e9⟩ := (qReel_r hk9 hk8 ckz).2 hrs
  show W p l0 e rmCX1_reel s m args below meth c H locs (((0 + 1) + 1) + 1) (((0 + 6) + 6) + 6) Q (F0 m 36 ls [])
  refine lv_aload_n hx hb dX1_reel_36 rfl (lv_at hl 0 rfl) ?_
  refine k_cV hx hb hml hown hts (CX1_keep l0 E w x A1 A2 A3 d b hs ft rf ro g mn wn ly cn I K mk hX hM hK) (cwV 0 hts (lw_V q501 q503 qs2 q69 q504) rfl rfl rfl dyX1_keep ⟨Nat.le_of_ble_eq_true rfl, Nat.le_of_ble_eq_true rfl⟩) hG hP hS hX rfl (As := []) (rest := []) rfl hl.1 rfl (lv_room (Nat.le_of_ble_eq_true rfl)) dX1_reel_37 ⟨show (((0 + 1) + 1) + 1) + 24 ≤ 30 from by omega, show (((0 + 6) + 6) + 6) + 140 ≤ 200 from by omega⟩ (fun r37 w1 H locs hp hP hS => ?_)
  obtain ⟨I9_1, hp0, ⟨hK', -⟩, hf9⟩ := hp
  have hX : w1 x = some ((94, 0), .inr (1, [.ref (A1 0), .ref (A2 0), .ref (A3 0), .int hs, .ref d, .ref b, .int ft, .int rf, .int ro])) := hf9 _ _ _ hX (by intro z9; first | (simp only [pO, pN, pD, pKp, pT, pB, pS, pR, pRd, pRo, Prod.mk.injEq, pX1, pX2, pXs, pX2t] at z9; done) | (simp only [pO, pN, pD, pKp, pT, pB, pS, pR, pRd, pRo, Prod.mk.injEq, pX1, pX2, pXs, pX2t] at z9; omega))
  have hM : townR E w1 1 A1 g mn wn ly := hM.frm hf9 (by intro z9; first | (simp only [pO, pN, pD, pKp, pT, pB, pS, pR, pRd, pRo, Prod.mk.injEq, pX1, pX2, pXs, pX2t] at z9; done) | (simp only [pO, pN, pD, pKp, pT, pB, pS, pR, pRd, pRo, Prod.mk.injEq, pX1, pX2, pXs, pX2t] at z9; omega)) (fun r9 => (by intro z9; first | (simp only [pO, pN, pD, pKp, pT, pB, pS, pR, pRd, pRo, Prod.mk.injEq, pX1, pX2, pXs, pX2t] at z9; done) | (simp only [pO, pN, pD, pKp, pT, pB, pS, pR, pRd, pRo, Prod.mk.injEq, pX1, pX2, pXs, pX2t] at z9; omega)))
  have hF : fr pX1 w0 w1 := hF.tr (hf9.up (fun t9 h9 => by simp only [pO, pN, pD, pKp, pT, pB, pS, pR, pX1, pX2, pXs, pX2t] at h9 ⊢; first | exact h9 | (subst h9; simp; done) | (subst h9; simp; omega) | omega | (rcases h9 with h9 | h9 <;> first | (subst h9; simp; done) | (subst h9; simp; omega) | omega)))
  have hK : kpR E w1 d (kCn cn) I9_1 (kSh cn K g) (kSh cn mk mn) := hK'
  show W p l0 e rmCX1_reel s m args below meth c H locs ((((0 + 1) + 1) + 1) + 24) ((((0 + 6) + 6) + 6) + 140) Q (F0 m 40 ls [])
  refine lv_aload_n hx hb dX1_reel_40 rfl (lv_at hl 0 rfl) ?_
  refine k_get hx hb hts in_X1 hown hG hP hX rfl 0 (by decide) (hts _ q276) (fun _ h9 => h9) (v := .ref (A1 0)) rfl dX1_reel_41 ?_
  refine lv_iload_n hx hb dX1_reel_44 rfl (lv_at hl 1 rfl) ?_
  refine lv_iload_n hx hb dX1_reel_45 rfl (lv_at hl 2 rfl) ?_
  have hT_2 := hM.1
  refine k_cV hx hb hml hown hts (CX2_reel l0 E w1 1 A1 g mn wn ly kz z (by omega) (by omega) hup hx1 hx2 hM) (cwV 2 hts (lw_V q716 q717 q718 q70 q719) rfl rfl rfl dyX2_reel ⟨Nat.le_of_ble_eq_true rfl, Nat.le_of_ble_eq_true rfl⟩) hG hP hS hT_2 rfl (As := [.int (nI kz), .int z]) (rest := []) rfl hl.1 rfl (lv_room (Nat.le_of_ble_eq_true rfl)) dX1_reel_46 ⟨show ((((0 + 1) + 1) + 1) + 24) + 0 ≤ 30 from by omega, show ((((0 + 6) + 6) + 6) + 140) + 0 ≤ 200 from by omega⟩ (fun r46 w2 H locs hp hP hS => ?_)
  obtain ⟨hp0, ⟨hM', -⟩, hf9⟩ := hp
  have hX : w2 x = some ((94, 0), .inr (1, [.ref (A1 0), .ref (A2 0), .ref (A3 0), .int hs, .ref d, .ref b, .int ft, .int rf, .int ro])) := hf9 _ _ _ hX (by intro z9; first | (simp only [pO, pN, pD, pKp, pT, pB, pS, pR, pRd, pRo, Prod.mk.injEq, pX1, pX2, pXs, pX2t] at z9; done) | (simp only [pO, pN, pD, pKp, pT, pB, pS, pR, pRd, pRo, Prod.mk.injEq, pX1, pX2, pXs, pX2t] at z9; omega))
  have hK : kpR E w2 d (kCn cn) I9_1 (kSh cn K g) (kSh cn mk mn) := hK.fr hf9 (by intro z9; first | (simp only [pO, pN, pD, pKp, pT, pB, pS, pR, pRd, pRo, Prod.mk.injEq, pX1, pX2, pXs, pX2t] at z9; done) | (simp only [pO, pN, pD, pKp, pT, pB, pS, pR, pRd, pRo, Prod.mk.injEq, pX1, pX2, pXs, pX2t] at z9; omega)) (fun i9 r9 h7 h8 => (by intro z9; first | (simp only [pO, pN, pD, pKp, pT, pB, pS, pR, pRd, pRo, Prod.mk.injEq, pX1, pX2, pXs, pX2t] at z9; done) | (simp only [pO, pN, pD, pKp, pT, pB, pS, pR, pRd, pRo, Prod.mk.injEq, pX1, pX2, pXs, pX2t] at z9; omega)))
  have hF : fr pX1 w0 w2 := hF.tr (hf9.up (fun t9 h9 => by simp only [pO, pN, pD, pKp, pT, pB, pS, pR, pX1, pX2, pXs, pX2t] at h9 ⊢; first | exact h9 | (subst h9; simp; done) | (subst h9; simp; omega) | omega | (rcases h9 with h9 | h9 <;> first | (subst h9; simp; done) | (subst h9; simp; omega) | omega)))
  have hM : townR E w2 1 A1 (tLt g kz z) mn wn ly := hM'
  rw [hp0]
  show W p l0 e rmCX1_reel s m args below meth c H locs ((((0 + 1) + 1) + 1) + 24) ((((0 + 6) + 6) + 6) + 140) Q (F0 m 49 ls [.int (tLt g kz z (kO kz 5))])
  exact kx_iret hx hb hr hlocks hQ hP hS (by omega) (by omega) dX1_reel_49 (⟨_, ⟨by rw [e9], by rw [e9]⟩, ⟨(hM.row (by rw [e9])), hK, trivial⟩, hF⟩)

abbrev rmCX1_setSpeed : Room := { frames := 9, cells := 30, slots := 200, locals := 141 }
theorem dyX1_setSpeed : yX1_setSpeed.cls = RX1 ∧ yX1_setSpeed.cls ≠ "java/lang/invoke/MethodHandle" ∧ yX1_setSpeed.cls ≠ "java/lang/invoke/VarHandle" ∧ (parseMethodDescriptor yX1_setSpeed.desc).map (fun d => d.parameters.length) = some 2 := by decide +kernel
set_option maxHeartbeats 4000000 in
theorem CX1_setSpeed (l0 : Launch) (hl0 : l0.stackTraces = false) (E : gE) (w : wd) (x : Nat) (A1 : Nat → Nat) (A2 : Nat → Nat) (A3 : Nat → Nat) (d : Nat) (b : Nat) (hs : Int32) (ft : Int32) (rf : Int32) (ro : Int32) (g : Nat → Int32) (mn : Nat) (wn : Nat → Int32) (ly : Nat → Int32) (cn : Nat) (I : Nat → Nat) (K : Nat → Nat → Int32) (mk : Nat → Nat) (y : Int32) (z : Int32) (hX : w x = some ((94, 0), .inr (1, [.ref (A1 0), .ref (A2 0), .ref (A3 0), .int hs, .ref d, .ref b, .int ft, .int rf, .int ro]))) (hM : townR E w 1 A1 g mn wn ly) (hK : kpR E w d cn I K mk) : kX l0 yX1_setSpeed (ws_ yX1_setSpeed cX1_setSpeed 5 (some .int)) rmCX1_setSpeed 30 200 mI E w [.ref x, .int y, .int z] (fun r w' => ∃ I9 : Nat → Nat, ((qSpeed g y z).1 = 0 ∧ r = (qSpeed g y z).2.2.1) ∧ (townR E w' 1 A1 ((qSpeed g y z).2.2.2) mn wn ly ∧ kpR E w' d (kCn cn) I9 (kSh cn K g) (kSh cn mk mn) ∧ True) ∧ fr pX1 w w') (pxL [(nIO, 1), (nIA, 2)] w (qSpeed g y z).1) := by
  refine kx_open (cc := cX1_setSpeed) (maxL := 5) (ret := (some .int)) (by decide) rfl (Nat.le_of_ble_eq_true rfl) ?_
  intro p e s m args below meth c ls Q hx hb hr hml hown hts hlocks hname ht hQ hG hP hl hS
  have hl : lv_has ls 5 [(0, .ref x), (1, .int y), (2, .int z)] := hl
  obtain ⟨w0, hw0⟩ : ∃ z, z = w := ⟨_, rfl⟩
  have hF : fr pX1 w0 w := by rw [hw0]; exact fr.rf
  rw [← hw0] at hQ
  have hm6 := hM.m25
  refine lv_aload_n hx hb dX1_setSpeed_0 rfl (lv_at hl 0 rfl) ?_
  refine lv_iload_n hx hb dX1_setSpeed_1 rfl (lv_at hl 1 rfl) ?_
  refine kx_cV hx hb hml hown hts hQ ht hlocks (CX1_kiteAt l0 hl0 E w x A1 A2 A3 d b hs ft rf ro g mn wn ly y hX hM) (cwV 1 hts (lw_V q743 q745 qs7 q69 q746) rfl rfl rfl dyX1_kiteAt ⟨Nat.le_of_ble_eq_true rfl, Nat.le_of_ble_eq_true rfl⟩) hG hP hS hX rfl (As := [.int y]) (rest := []) rfl hl.1 rfl (lv_room (Nat.le_of_ble_eq_true rfl)) dX1_setSpeed_2 ⟨show 0 + 1 ≤ 30 from by omega, show 0 + 6 ≤ 200 from by omega⟩ ⟨show 0 + 1 ≤ 30 from by omega, show 0 + 6 ≤ 200 from by omega⟩ (fun X9 q9 w9 h9 => pxL.mk' (k := 1) h9.1 (qSpeed_1 h9.2.2) (by decide) h9.2.1 hw0) (fun r9 w9 H locs hp hP hS => ?_)
  obtain ⟨hp1, hp0⟩ := hp
  rw [hp1] at hP
  obtain ⟨kz, hkz, rfl, rfl⟩ := hp0
  have ckz : (nI kz).toNatClampNeg = kz := nI_clamp (by omega)
  have hk9 := tKt_N hm6.1 hm6.2 hkz
  show W p l0 e rmCX1_setSpeed s m args below meth c H locs (0 + 1) (0 + 6) Q (F0 m 5 ls [.ref (A1 (6 + kz))])
  refine lv_astore_n (lv' := [(3, .ref (A1 (6 + kz))), (0, .ref x), (1, .int (nI kz)), (2, .int z)]) hx hb dX1_setSpeed_5 rfl hl (by decide) rfl (fun ls hl => ?_)
  refine lv_iload_n hx hb dX1_setSpeed_6 rfl (lv_at hl 3 rfl) ?_
  refine lv_bipush (v := (-9)) hx hb dX1_setSpeed_7 (by decide) ?_
  refine lv_bipush (v := 9) hx hb dX1_setSpeed_9 (by decide) ?_
  refine k_cS hx hb hml hown hts (CX1_in l0 E w z (-9) 9) (va_cwS 3 hts (lw_S q453 q454 q69 q455) rfl rfl rfl dyX1_in ⟨Nat.le_of_ble_eq_true rfl, Nat.le_of_ble_eq_true rfl⟩) hG hP hS (As := [.int z, .int (-9), .int 9]) (rest := []) rfl hl.1 rfl (lv_room (Nat.le_of_ble_eq_true rfl)) dX1_setSpeed_11 ⟨show (0 + 1) + 0 ≤ 30 from by omega, show (0 + 6) + 0 ≤ 200 from by omega⟩ (fun r9 w9 H locs hp hP hS => ?_)
  obtain ⟨hp1, hp0⟩ := hp
  rw [hp1] at hP
  rw [hp0]
  show W p l0 e rmCX1_setSpeed s m args below meth c H locs (0 + 1) (0 + 6) Q (F0 m 14 ls [.int (bI (tin z (-9) 9))])
  refine kx_cS hx hb hml hown hts hQ ht hlocks (CX1_check l0 hl0 E w (tin z (-9) 9)) (va_cwS 1 hts (lw_S q483 q484 q69 q485) rfl rfl rfl dyX1_check ⟨Nat.le_of_ble_eq_true rfl, Nat.le_of_ble_eq_true rfl⟩) hG hP hS (As := [.int (bI (tin z (-9) 9))]) (rest := []) rfl hl.1 rfl (lv_room (Nat.le_of_ble_eq_true rfl)) dX1_setSpeed_14 ⟨show (0 + 1) + 1 ≤ 30 from by omega, show (0 + 6) + 6 ≤ 200 from by omega⟩ ⟨show (0 + 1) + 1 ≤ 30 from by omega, show (0 + 6) + 6 ≤ 200 from by omega⟩ (fun X9 q9 w9 h9 => pxL.mk' (k := 2) h9.1 (qSpeed_2 hk9 h9.2.2) (by decide) h9.2.1 hw0) (fun r9 w9 H locs hp hP hS => ?_)
  obtain ⟨hp1, hp0⟩ := hp
  rw [hp1] at hP
  have hk8 := hp0
  show W p l0 e rmCX1_setSpeed s m args below meth c H locs ((0 + 1) + 1) ((0 + 6) + 6) Q (F0 m 17 ls [])
  refine lv_aload_n hx hb dX1_setSpeed_17 rfl (lv_at hl 1 rfl) ?_
  refine k_cV hx hb hml hown hts (CX1_keep l0 E w x A1 A2 A3 d b hs ft rf ro g mn wn ly cn I K mk hX hM hK) (cwV 0 hts (lw_V q501 q503 qs2 q69 q504) rfl rfl rfl dyX1_keep ⟨Nat.le_of_ble_eq_true rfl, Nat.le_of_ble_eq_true rfl⟩) hG hP hS hX rfl (As := []) (rest := []) rfl hl.1 rfl (lv_room (Nat.le_of_ble_eq_true rfl)) dX1_setSpeed_18 ⟨show ((0 + 1) + 1) + 24 ≤ 30 from by omega, show ((0 + 6) + 6) + 140 ≤ 200 from by omega⟩ (fun r18 w1 H locs hp hP hS => ?_)
  obtain ⟨I9_1, hp0, ⟨hK', -⟩, hf9⟩ := hp
  have hX : w1 x = some ((94, 0), .inr (1, [.ref (A1 0), .ref (A2 0), .ref (A3 0), .int hs, .ref d, .ref b, .int ft, .int rf, .int ro])) := hf9 _ _ _ hX (by intro z9; first | (simp only [pO, pN, pD, pKp, pT, pB, pS, pR, pRd, pRo, Prod.mk.injEq, pX1, pX2, pXs, pX2t] at z9; done) | (simp only [pO, pN, pD, pKp, pT, pB, pS, pR, pRd, pRo, Prod.mk.injEq, pX1, pX2, pXs, pX2t] at z9; omega))
  have hM : townR E w1 1 A1 g mn wn ly := hM.frm hf9 (by intro z9; first | (simp only [pO, pN, pD, pKp, pT, pB, pS, pR, pRd, pRo, Prod.mk.injEq, pX1, pX2, pXs, pX2t] at z9; done) | (simp only [pO, pN, pD, pKp, pT, pB, pS, pR, pRd, pRo, Prod.mk.injEq, pX1, pX2, pXs, pX2t] at z9; omega)) (fun r9 => (by intro z9; first | (simp only [pO, pN, pD, pKp, pT, pB, pS, pR, pRd, pRo, Prod.mk.injEq, pX1, pX2, pXs, pX2t] at z9; done) | (simp only [pO, pN, pD, pKp, pT, pB, pS, pR, pRd, pRo, Prod.mk.injEq, pX1, pX2, pXs, pX2t] at z9; omega)))
  have hF : fr pX1 w0 w1 := hF.tr (hf9.up (fun t9 h9 => by simp only [pO, pN, pD, pKp, pT, pB, pS, pR, pX1, pX2, pXs, pX2t] at h9 ⊢; first | exact h9 | (subst h9; simp; done) | (subst h9; simp; omega) | omega | (rcases h9 with h9 | h9 <;> first | (subst h9; simp; done) | (subst h9; simp; omega) | omega)))
  have hK : kpR E w1 d (kCn cn) I9_1 (kSh cn K g) (kSh cn mk mn) := hK'
  show W p l0 e rmCX1_setSpeed s m args below meth c H locs (((0 + 1) + 1) + 24) (((0 + 6) + 6) + 140) Q (F0 m 21 ls [])
  refine lv_aload_n hx hb dX1_setSpeed_21 rfl (lv_at hl 0 rfl) ?_
  obtain ⟨tz_1, hT_1, hz_1⟩ := hM.kite (k := kz) (by omega)
  refine k_getN hx hb hts in_X3 hown hG hP hT_1 rfl 5 (by decide) (hG.2.1.1 _ q155 rfl) (fun _ h9 => h9) (v := .int (g (kO kz 7))) rfl dX1_setSpeed_22 ?_
  refine lv_istore (lv' := [(4, .int (g (kO kz 7))), (3, .ref (A1 (6 + kz))), (0, .ref x), (1, .int (nI kz)), (2, .int z)]) hx hb dX1_setSpeed_25 hl (by decide) rfl (fun ls hl => ?_)
  refine lv_aload_n hx hb dX1_setSpeed_27 rfl (lv_at hl 1 rfl) ?_
  refine lv_iload_n hx hb dX1_setSpeed_28 rfl (lv_at hl 4 rfl) ?_
  refine k_putNW hx hb hts in_X3 tyX3 tyX3_ok nmX3 hown hG hP hS hT_1 rfl 5 (by decide) (hG.2.1.1 _ q155 rfl) (fun _ h9 => h9) rfl (ty := .int) (v := .int z) rfl rfl rfl (Nat.le_of_ble_eq_true rfl) dX1_setSpeed_29 (fun w2 H locs h9 hf9 hP hS => ?_)
  have h9 : w2 (A1 (6 + kz)) = some ((1, 6 + kz), .inr (3, kF E (va_up (kv g kz) 7 z) tz_1)) := h9
  have hM : townR E w2 1 A1 (va_up g (kO kz 7) z) mn wn ly := hM.kup (by omega) (k := kz) (by omega) (fr_K hf9) (kR.put hz_1 (by omega) (by omega) hf9 h9 rfl rfl rfl rfl rfl rfl) (fun _ => (kv_eq (by decide)).symm) (fun j hj => up_n (kO_lo hj)) (fun j _ hj => kv_ne hj (by decide))
  have hX : w2 x = some ((94, 0), .inr (1, [.ref (A1 0), .ref (A2 0), .ref (A3 0), .int hs, .ref d, .ref b, .int ft, .int rf, .int ro])) := hf9 _ _ _ hX (by intro z9; first | (simp only [pO, pN, pD, pKp, pT, pB, pS, pR, pRd, pRo, Prod.mk.injEq, pX1, pX2, pXs, pX2t] at z9; done) | (simp only [pO, pN, pD, pKp, pT, pB, pS, pR, pRd, pRo, Prod.mk.injEq, pX1, pX2, pXs, pX2t] at z9; omega))
  have hK : kpR E w2 d (kCn cn) I9_1 (kSh cn K g) (kSh cn mk mn) := hK.fr hf9 (by intro z9; first | (simp only [pO, pN, pD, pKp, pT, pB, pS, pR, pRd, pRo, Prod.mk.injEq, pX1, pX2, pXs, pX2t] at z9; done) | (simp only [pO, pN, pD, pKp, pT, pB, pS, pR, pRd, pRo, Prod.mk.injEq, pX1, pX2, pXs, pX2t] at z9; omega)) (fun i9 r9 h7 h8 => (by intro z9; first | (simp only [pO, pN, pD, pKp, pT, pB, pS, pR, pRd, pRo, Prod.mk.injEq, pX1, pX2, pXs, pX2t] at z9; done) | (simp only [pO, pN, pD, pKp, pT, pB, pS, pR, pRd, pRo, Prod.mk.injEq, pX1, pX2, pXs, pX2t] at z9; omega)))
  have hF : fr pX1 w0 w2 := hF.tr (hf9.up (fun t9 h9 => by simp only [pO, pN, pD, pKp, pT, pB, pS, pR, pX1, pX2, pXs, pX2t] at h9 ⊢; first | exact h9 | (subst h9; simp; done) | (subst h9; simp; omega) | omega | (rcases h9 with h9 | h9 <;> first | (subst h9; simp; done) | (subst h9; simp; omega) | omega)))
  have e9 := qSpeed_ok hk9 hk8 ckz
  refine lv_iload hx hb dX1_setSpeed_32 (lv_at hl 0 rfl) ?_
  exact kx_iret hx hb hr hlocks hQ hP hS (by omega) (by omega) dX1_setSpeed_34 (⟨_, ⟨by rw [e9], by rw [e9]⟩, ⟨(hM.row (by rw [e9])), hK, trivial⟩, hF⟩)

abbrev rmCX1_land : Room := { frames := 9, cells := 30, slots := 200, locals := 141 }
theorem dyX1_land : yX1_land.cls = RX1 ∧ yX1_land.cls ≠ "java/lang/invoke/MethodHandle" ∧ yX1_land.cls ≠ "java/lang/invoke/VarHandle" ∧ (parseMethodDescriptor yX1_land.desc).map (fun d => d.parameters.length) = some 1 := by decide +kernel
set_option maxHeartbeats 4000000 in
theorem CX1_land (l0 : Launch) (hl0 : l0.stackTraces = false) (E : gE) (w : wd) (x : Nat) (A1 : Nat → Nat) (A2 : Nat → Nat) (A3 : Nat → Nat) (d : Nat) (b : Nat) (hs : Int32) (ft : Int32) (rf : Int32) (ro : Int32) (g : Nat → Int32) (mn : Nat) (wn : Nat → Int32) (ly : Nat → Int32) (cn : Nat) (I : Nat → Nat) (K : Nat → Nat → Int32) (mk : Nat → Nat) (y : Int32) (N : Nat) (hI : gI g mn N) (hX : w x = some ((94, 0), .inr (1, [.ref (A1 0), .ref (A2 0), .ref (A3 0), .int hs, .ref d, .ref b, .int ft, .int rf, .int ro]))) (hM : townR E w 1 A1 g mn wn ly) (hK : kpR E w d cn I K mk) : kX l0 yX1_land (ws_ yX1_land cX1_land 3 (some .int)) rmCX1_land 30 200 mI E w [.ref x, .int y] (fun r w' => ∃ I9 : Nat → Nat, ((qLand g y).1 = 0 ∧ r = (qLand g y).2.2.1) ∧ (townR E w' 1 A1 ((qLand g y).2.2.2) mn wn ly ∧ kpR E w' d (kCn cn) I9 (kSh cn K g) (kSh cn mk mn) ∧ True) ∧ fr pX1 w w') (pxM [(nIO, 1)] w (qLand g y).1 2 (qLand g y).2.1 x (fun rs od => .inr (1, [.ref (A1 0), .ref (A2 0), .ref (A3 0), .int hs, .ref d, .ref b, .int ft, .int rs, .int od]))) := by
  refine kx_open (cc := cX1_land) (maxL := 3) (ret := (some .int)) (by decide) rfl (Nat.le_of_ble_eq_true rfl) ?_
  intro p e s m args below meth c ls Q hx hb hr hml hown hts hlocks hname ht hQ hG hP hl hS
  have hl : lv_has ls 3 [(0, .ref x), (1, .int y)] := hl
  obtain ⟨w0, hw0⟩ : ∃ z, z = w := ⟨_, rfl⟩
  have hF : fr pX1 w0 w := by rw [hw0]; exact fr.rf
  rw [← hw0] at hQ
  have hm6 := hM.m25
  refine lv_aload_n hx hb dX1_land_0 rfl (lv_at hl 0 rfl) ?_
  refine lv_iload_n hx hb dX1_land_1 rfl (lv_at hl 1 rfl) ?_
  refine kx_cV hx hb hml hown hts hQ ht hlocks (CX1_kiteAt l0 hl0 E w x A1 A2 A3 d b hs ft rf ro g mn wn ly y hX hM) (cwV 1 hts (lw_V q743 q745 qs7 q69 q746) rfl rfl rfl dyX1_kiteAt ⟨Nat.le_of_ble_eq_true rfl, Nat.le_of_ble_eq_true rfl⟩) hG hP hS hX rfl (As := [.int y]) (rest := []) rfl hl.1 rfl (lv_room (Nat.le_of_ble_eq_true rfl)) dX1_land_2 ⟨show 0 + 1 ≤ 30 from by omega, show 0 + 6 ≤ 200 from by omega⟩ ⟨show 0 + 1 ≤ 30 from by omega, show 0 + 6 ≤ 200 from by omega⟩ (fun X9 q9 w9 h9 => pxM.mk' (k := 1) h9.1 (qLand_1 h9.2.2) (by decide) h9.2.1 hw0) (fun r9 w9 H locs hp hP hS => ?_)
  obtain ⟨hp1, hp0⟩ := hp
  rw [hp1] at hP
  obtain ⟨kz, hkz, rfl, rfl⟩ := hp0
  have ckz : (nI kz).toNatClampNeg = kz := nI_clamp (by omega)
  have hk9 := tKt_N hm6.1 hm6.2 hkz
  show W p l0 e rmCX1_land s m args below meth c H locs (0 + 1) (0 + 6) Q (F0 m 5 ls [.ref (A1 (6 + kz))])
  refine lv_astore_n (lv' := [(2, .ref (A1 (6 + kz))), (0, .ref x), (1, .int (nI kz))]) hx hb dX1_land_5 rfl hl (by decide) rfl (fun ls hl => ?_)
  refine lv_aload_n hx hb dX1_land_6 rfl (lv_at hl 1 rfl) ?_
  refine lv_aload_n hx hb dX1_land_7 rfl (lv_at hl 0 rfl) ?_
  obtain ⟨tz_1, hT_1, hz_1⟩ := hM.kite (k := kz) (by omega)
  refine k_cV hx hb hml hown hts (CX3_isUp l0 E w 1 kz (A1 (6 + kz)) (kv g kz) tz_1 hT_1 hz_1) (cwV 0 hts (lw_V q754 q713 q714 q71 q715) rfl rfl rfl dyX3_isUp ⟨Nat.le_of_ble_eq_true rfl, Nat.le_of_ble_eq_true rfl⟩) hG hP hS hT_1 rfl (As := []) (rest := [.ref x]) rfl hl.1 rfl (lv_room (Nat.le_of_ble_eq_true rfl)) dX1_land_8 ⟨show (0 + 1) + 0 ≤ 30 from by omega, show (0 + 6) + 0 ≤ 200 from by omega⟩ (fun r9 w9 H locs hp hP hS => ?_)
  obtain ⟨hp1, hp0⟩ := hp
  rw [hp1] at hP
  rw [hp0]
  show W p l0 e rmCX1_land s m args below meth c H locs (0 + 1) (0 + 6) Q (F0 m 11 ls [.int (bI (decide (((kv g kz) 0) = 1))), .ref x])
  refine k_ifeqB (x := decide (((kv g kz) 0) = 1)) (tgt := 18) hx hb dX1_land_11 (by decide) (fun c11 => ?_) (fun c11 => ?_)
  · skip
    refine lv_iconst (v := 4) hx hb dX1_land_18 (by decide) ?_
    refine lv_iconst (v := (-1)) hx hb dX1_land_19 (by decide) ?_
    refine kx_cV hx hb hml hown hts hQ ht hlocks (CX1_checkSupported l0 hl0 E w x A1 A2 A3 d b hs ft rf ro 4 (-1) hX) (cwV 2 hts (lw_V q614 q616 qs5 q69 q617) rfl rfl rfl dyX1_checkSupported ⟨Nat.le_of_ble_eq_true rfl, Nat.le_of_ble_eq_true rfl⟩) hG hP hS hX rfl (As := [.int 4, .int (-1)]) (rest := []) rfl hl.1 rfl (lv_room (Nat.le_of_ble_eq_true rfl)) dX1_land_20 ⟨show (0 + 1) + 1 ≤ 30 from by omega, show (0 + 6) + 6 ≤ 200 from by omega⟩ ⟨show (0 + 1) + 1 ≤ 30 from by omega, show (0 + 6) + 6 ≤ 200 from by omega⟩ (fun X9 q9 w9 h9 => pxM.su (r2 := 4) h9.1 (qLand_n hk9 ckz c11) (by decide) h9.2.2.1 h9.2.2.2 hw0) (fun r9 w9 H locs hp hP hS => ?_)
    obtain ⟨hp1, hp0⟩ := hp
    rw [hp1] at hP
    show W p l0 e rmCX1_land s m args below meth c H locs ((0 + 1) + 1) ((0 + 6) + 6) Q (F0 m 23 ls [])
    exact absurd hp0 (by decide)
  · skip
    refine lv_iconst (v := 0) hx hb dX1_land_14 (by decide) ?_
    refine lv_goto (tgt := 19) hx hb dX1_land_15 (by decide) ?_
    refine lv_iconst (v := (-1)) hx hb dX1_land_19 (by decide) ?_
    refine kx_cV hx hb hml hown hts hQ ht hlocks (CX1_checkSupported l0 hl0 E w x A1 A2 A3 d b hs ft rf ro 0 (-1) hX) (cwV 2 hts (lw_V q614 q616 qs5 q69 q617) rfl rfl rfl dyX1_checkSupported ⟨Nat.le_of_ble_eq_true rfl, Nat.le_of_ble_eq_true rfl⟩) hG hP hS hX rfl (As := [.int 0, .int (-1)]) (rest := []) rfl hl.1 rfl (lv_room (Nat.le_of_ble_eq_true rfl)) dX1_land_20 ⟨show (0 + 1) + 1 ≤ 30 from by omega, show (0 + 6) + 6 ≤ 200 from by omega⟩ ⟨show (0 + 1) + 1 ≤ 30 from by omega, show (0 + 6) + 6 ≤ 200 from by omega⟩ (fun X9 q9 w9 h9 => absurd h9.2.1 (by decide)) (fun r9 w9 H locs hp hP hS => ?_)
    obtain ⟨hp1, hp0⟩ := hp
    rw [hp1] at hP
    show W p l0 e rmCX1_land s m args below meth c H locs ((0 + 1) + 1) ((0 + 6) + 6) Q (F0 m 23 ls [])
    refine lv_aload_n hx hb dX1_land_23 rfl (lv_at hl 1 rfl) ?_
    refine k_cV hx hb hml hown hts (CX1_keep l0 E w x A1 A2 A3 d b hs ft rf ro g mn wn ly cn I K mk hX hM hK) (cwV 0 hts (lw_V q501 q503 qs2 q69 q504) rfl rfl rfl dyX1_keep ⟨Nat.le_of_ble_eq_true rfl, Nat.le_of_ble_eq_true rfl⟩) hG hP hS hX rfl (As := []) (rest := []) rfl hl.1 rfl (lv_room (Nat.le_of_ble_eq_true rfl)) dX1_land_24 ⟨show ((0 + 1) + 1) + 24 ≤ 30 from by omega, show ((0 + 6) + 6) + 140 ≤ 200 from by omega⟩ (fun r24 w1 H locs hp hP hS => ?_)
    obtain ⟨I9_1, hp0, ⟨hK', -⟩, hf9⟩ := hp
    have hX : w1 x = some ((94, 0), .inr (1, [.ref (A1 0), .ref (A2 0), .ref (A3 0), .int hs, .ref d, .ref b, .int ft, .int rf, .int ro])) := hf9 _ _ _ hX (by intro z9; first | (simp only [pO, pN, pD, pKp, pT, pB, pS, pR, pRd, pRo, Prod.mk.injEq, pX1, pX2, pXs, pX2t] at z9; done) | (simp only [pO, pN, pD, pKp, pT, pB, pS, pR, pRd, pRo, Prod.mk.injEq, pX1, pX2, pXs, pX2t] at z9; omega))
    have hM : townR E w1 1 A1 g mn wn ly := hM.frm hf9 (by intro z9; first | (simp only [pO, pN, pD, pKp, pT, pB, pS, pR, pRd, pRo, Prod.mk.injEq, pX1, pX2, pXs, pX2t] at z9; done) | (simp only [pO, pN, pD, pKp, pT, pB, pS, pR, pRd, pRo, Prod.mk.injEq, pX1, pX2, pXs, pX2t] at z9; omega)) (fun r9 => (by intro z9; first | (simp only [pO, pN, pD, pKp, pT, pB, pS, pR, pRd, pRo, Prod.mk.injEq, pX1, pX2, pXs, pX2t] at z9; done) | (simp only [pO, pN, pD, pKp, pT, pB, pS, pR, pRd, pRo, Prod.mk.injEq, pX1, pX2, pXs, pX2t] at z9; omega)))
    have hF : fr pX1 w0 w1 := hF.tr (hf9.up (fun t9 h9 => by simp only [pO, pN, pD, pKp, pT, pB, pS, pR, pX1, pX2, pXs, pX2t] at h9 ⊢; first | exact h9 | (subst h9; simp; done) | (subst h9; simp; omega) | omega | (rcases h9 with h9 | h9 <;> first | (subst h9; simp; done) | (subst h9; simp; omega) | omega)))
    have hK : kpR E w1 d (kCn cn) I9_1 (kSh cn K g) (kSh cn mk mn) := hK'
    show W p l0 e rmCX1_land s m args below meth c H locs (((0 + 1) + 1) + 24) (((0 + 6) + 6) + 140) Q (F0 m 27 ls [])
    refine lv_aload_n hx hb dX1_land_27 rfl (lv_at hl 1 rfl) ?_
    refine k_get hx hb hts in_X1 hown hG hP hX rfl 0 (by decide) (hts _ q276) (fun _ h9 => h9) (v := .ref (A1 0)) rfl dX1_land_28 ?_
    refine lv_iload_n hx hb dX1_land_31 rfl (lv_at hl 2 rfl) ?_
    have hT_2 := hM.1
    refine k_cV hx hb hml hown hts (CX2_land l0 E w1 1 A1 g mn wn ly N kz hI (by omega) (by omega) (by omega) c11 hM) (cwV 1 hts (lw_V q755 q756 q757 q70 q758) rfl rfl rfl dyX2_land ⟨Nat.le_of_ble_eq_true rfl, Nat.le_of_ble_eq_true rfl⟩) hG hP hS hT_2 rfl (As := [.int (nI kz)]) (rest := []) rfl hl.1 rfl (lv_room (Nat.le_of_ble_eq_true rfl)) dX1_land_32 ⟨show (((0 + 1) + 1) + 24) + 1 ≤ 30 from by omega, show (((0 + 6) + 6) + 140) + 0 ≤ 200 from by omega⟩ (fun r32 w2 H locs hp hP hS => ?_)
    obtain ⟨hp0, ⟨hM', -⟩, hf9⟩ := hp
    have hX : w2 x = some ((94, 0), .inr (1, [.ref (A1 0), .ref (A2 0), .ref (A3 0), .int hs, .ref d, .ref b, .int ft, .int rf, .int ro])) := hf9 _ _ _ hX (by intro z9; first | (simp only [pO, pN, pD, pKp, pT, pB, pS, pR, pRd, pRo, Prod.mk.injEq, pX1, pX2, pXs, pX2t] at z9; done) | (simp only [pO, pN, pD, pKp, pT, pB, pS, pR, pRd, pRo, Prod.mk.injEq, pX1, pX2, pXs, pX2t] at z9; omega))
    have hK : kpR E w2 d (kCn cn) I9_1 (kSh cn K g) (kSh cn mk mn) := hK.fr hf9 (by intro z9; first | (simp only [pO, pN, pD, pKp, pT, pB, pS, pR, pRd, pRo, Prod.mk.injEq, pX1, pX2, pXs, pX2t] at z9; done) | (simp only [pO, pN, pD, pKp, pT, pB, pS, pR, pRd, pRo, Prod.mk.injEq, pX1, pX2, pXs, pX2t] at z9; omega)) (fun i9 r9 h7 h8 => (by intro z9; first | (simp only [pO, pN, pD, pKp, pT, pB, pS, pR, pRd, pRo, Prod.mk.injEq, pX1, pX2, pXs, pX2t] at z9; done) | (simp only [pO, pN, pD, pKp, pT, pB, pS, pR, pRd, pRo, Prod.mk.injEq, pX1, pX2, pXs, pX2t] at z9; omega)))
    have hF : fr pX1 w0 w2 := hF.tr (hf9.up (fun t9 h9 => by simp only [pO, pN, pD, pKp, pT, pB, pS, pR, pX1, pX2, pXs, pX2t] at h9 ⊢; first | exact h9 | (subst h9; simp; done) | (subst h9; simp; omega) | omega | (rcases h9 with h9 | h9 <;> first | (subst h9; simp; done) | (subst h9; simp; omega) | omega)))
    have hM : townR E w2 1 A1 (tLd g kz) mn wn ly := hM'
    rw [hp0]
    show W p l0 e rmCX1_land s m args below meth c H locs ((((0 + 1) + 1) + 24) + 1) (((0 + 6) + 6) + 140) Q (F0 m 35 ls [.int (g (kO kz 5))])
    have e9 := qLand_ok hk9 ckz c11
    exact kx_iret hx hb hr hlocks hQ hP hS (by omega) (by omega) dX1_land_35 (⟨_, ⟨by rw [e9], by rw [e9]⟩, ⟨(hM.row (by rw [e9])), hK, trivial⟩, hF⟩)

abbrev rmCX1_tie : Room := { frames := 8, cells := 30, slots := 200, locals := 140 }
theorem dyX1_tie : yX1_tie.cls = RX1 ∧ yX1_tie.cls ≠ "java/lang/invoke/MethodHandle" ∧ yX1_tie.cls ≠ "java/lang/invoke/VarHandle" ∧ (parseMethodDescriptor yX1_tie.desc).map (fun d => d.parameters.length) = some 1 := by decide +kernel
set_option maxHeartbeats 4000000 in
theorem CX1_tie (l0 : Launch) (hl0 : l0.stackTraces = false) (E : gE) (w : wd) (x : Nat) (A1 : Nat → Nat) (A2 : Nat → Nat) (A3 : Nat → Nat) (d : Nat) (b : Nat) (hs : Int32) (ft : Int32) (rf : Int32) (ro : Int32) (g : Nat → Int32) (mn : Nat) (wn : Nat → Int32) (ly : Nat → Int32) (cn : Nat) (I : Nat → Nat) (K : Nat → Nat → Int32) (mk : Nat → Nat) (y : Int32) (hX : w x = some ((94, 0), .inr (1, [.ref (A1 0), .ref (A2 0), .ref (A3 0), .int hs, .ref d, .ref b, .int ft, .int rf, .int ro]))) (hM : townR E w 1 A1 g mn wn ly) (hK : kpR E w d cn I K mk) : kX l0 yX1_tie (ws_ yX1_tie cX1_tie 2 (some .int)) rmCX1_tie 30 200 mI E w [.ref x, .int y] (fun r w' => ∃ I9 : Nat → Nat, ((qTie g y).1 = 0 ∧ r = (qTie g y).2.2.1) ∧ (townR E w' 1 A1 ((qTie g y).2.2.2) mn wn ly ∧ kpR E w' d (kCn cn) I9 (kSh cn K g) (kSh cn mk mn) ∧ True) ∧ fr pX1 w w') (pxM [(nIO, 1)] w (qTie g y).1 2 (qTie g y).2.1 x (fun rs od => .inr (1, [.ref (A1 0), .ref (A2 0), .ref (A3 0), .int hs, .ref d, .ref b, .int ft, .int rs, .int od]))) := by
  refine kx_open (cc := cX1_tie) (maxL := 2) (ret := (some .int)) (by decide) rfl (Nat.le_of_ble_eq_true rfl) ?_
  intro p e s m args below meth c ls Q hx hb hr hml hown hts hlocks hname ht hQ hG hP hl hS
  have hl : lv_has ls 2 [(0, .ref x), (1, .int y)] := hl
  obtain ⟨w0, hw0⟩ : ∃ z, z = w := ⟨_, rfl⟩
  have hF : fr pX1 w0 w := by rw [hw0]; exact fr.rf
  rw [← hw0] at hQ
  have hm6 := hM.m25
  refine lv_aload_n hx hb dX1_tie_0 rfl (lv_at hl 0 rfl) ?_
  refine k_get hx hb hts in_X1 hown hG hP hX rfl 0 (by decide) (hts _ q276) (fun _ h9 => h9) (v := .ref (A1 0)) rfl dX1_tie_1 ?_
  refine lv_iload_n hx hb dX1_tie_4 rfl (lv_at hl 1 rfl) ?_
  have hT_1 := hM.1
  refine k_cV hx hb hml hown hts (CX2_isKite l0 E w 1 A1 g mn wn ly y hM) (cwV 1 hts (lw_V q656 q657 q658 q70 q659) rfl rfl rfl dyX2_isKite ⟨Nat.le_of_ble_eq_true rfl, Nat.le_of_ble_eq_true rfl⟩) hG hP hS hT_1 rfl (As := [.int y]) (rest := []) rfl hl.1 rfl (lv_room (Nat.le_of_ble_eq_true rfl)) dX1_tie_5 ⟨show 0 + 0 ≤ 30 from by omega, show 0 + 0 ≤ 200 from by omega⟩ (fun r9 w9 H locs hp hP hS => ?_)
  obtain ⟨hp1, hp0⟩ := hp
  rw [hp1] at hP
  rw [hp0]
  show W p l0 e rmCX1_tie s m args below meth c H locs 0 0 Q (F0 m 8 ls [.int (bI (tKt g y))])
  refine kx_cS hx hb hml hown hts hQ ht hlocks (CX1_checkIndex l0 hl0 E w (tKt g y)) (va_cwS 1 hts (lw_S q456 q457 q69 q458) rfl rfl rfl dyX1_checkIndex ⟨Nat.le_of_ble_eq_true rfl, Nat.le_of_ble_eq_true rfl⟩) hG hP hS (As := [.int (bI (tKt g y))]) (rest := []) rfl hl.1 rfl (lv_room (Nat.le_of_ble_eq_true rfl)) dX1_tie_8 ⟨show 0 + 1 ≤ 30 from by omega, show 0 + 6 ≤ 200 from by omega⟩ ⟨show 0 + 1 ≤ 30 from by omega, show 0 + 6 ≤ 200 from by omega⟩ (fun X9 q9 w9 h9 => pxM.mk' (k := 1) h9.1 (qTie_1 h9.2.2) (by decide) h9.2.1 hw0) (fun r9 w9 H locs hp hP hS => ?_)
  obtain ⟨hp1, hp0⟩ := hp
  rw [hp1] at hP
  have hk9 := hp0
  show W p l0 e rmCX1_tie s m args below meth c H locs (0 + 1) (0 + 6) Q (F0 m 11 ls [])
  obtain ⟨kz, hkz, rfl⟩ := tKt_of hm6.1 hm6.2 hk9
  have ckz : (nI kz).toNatClampNeg = kz := nI_clamp (by omega)
  refine lv_aload_n hx hb dX1_tie_11 rfl (lv_at hl 0 rfl) ?_
  refine lv_aload_n hx hb dX1_tie_12 rfl (lv_at hl 0 rfl) ?_
  refine k_get hx hb hts in_X1 hown hG hP hX rfl 0 (by decide) (hts _ q276) (fun _ h9 => h9) (v := .ref (A1 0)) rfl dX1_tie_13 ?_
  refine lv_iload_n hx hb dX1_tie_16 rfl (lv_at hl 1 rfl) ?_
  refine k_cV hx hb hml hown hts (CX2_reasonToTie l0 E w 1 A1 g mn wn ly kz (by omega) hM) (cwV 1 hts (lw_V q768 q769 q770 q70 q771) rfl rfl rfl dyX2_reasonToTie ⟨Nat.le_of_ble_eq_true rfl, Nat.le_of_ble_eq_true rfl⟩) hG hP hS hT_1 rfl (As := [.int (nI kz)]) (rest := [.ref x]) rfl hl.1 rfl (lv_room (Nat.le_of_ble_eq_true rfl)) dX1_tie_17 ⟨show (0 + 1) + 0 ≤ 30 from by omega, show (0 + 6) + 0 ≤ 200 from by omega⟩ (fun r9 w9 H locs hp hP hS => ?_)
  obtain ⟨hp1, hp0⟩ := hp
  rw [hp1] at hP
  rw [hp0]
  show W p l0 e rmCX1_tie s m args below meth c H locs (0 + 1) (0 + 6) Q (F0 m 20 ls [.int (if g (kO kz 0) = 2 then (if 10 ≤ g (kO kz 3) then 0 else 8) else 7), .ref x])
  refine lv_iconst (v := (-1)) hx hb dX1_tie_20 (by decide) ?_
  refine kx_cV hx hb hml hown hts hQ ht hlocks (CX1_checkSupported l0 hl0 E w x A1 A2 A3 d b hs ft rf ro (if g (kO kz 0) = 2 then (if 10 ≤ g (kO kz 3) then 0 else 8) else 7) (-1) hX) (cwV 2 hts (lw_V q614 q616 qs5 q69 q617) rfl rfl rfl dyX1_checkSupported ⟨Nat.le_of_ble_eq_true rfl, Nat.le_of_ble_eq_true rfl⟩) hG hP hS hX rfl (As := [.int (if g (kO kz 0) = 2 then (if 10 ≤ g (kO kz 3) then 0 else 8) else 7), .int (-1)]) (rest := []) rfl hl.1 rfl (lv_room (Nat.le_of_ble_eq_true rfl)) dX1_tie_21 ⟨show (0 + 1) + 1 ≤ 30 from by omega, show (0 + 6) + 6 ≤ 200 from by omega⟩ ⟨show (0 + 1) + 1 ≤ 30 from by omega, show (0 + 6) + 6 ≤ 200 from by omega⟩ (fun X9 q9 w9 h9 => pxM.su h9.1 ((qTie_r hk9 ckz).1 h9.2.1) h9.2.1 h9.2.2.1 h9.2.2.2 hw0) (fun r9 w9 H locs hp hP hS => ?_)
  obtain ⟨hp1, hp0⟩ := hp
  rw [hp1] at hP
  have hrs := hp0
  show W p l0 e rmCX1_tie s m args below meth c H locs ((0 + 1) + 1) ((0 + 6) + 6) Q (F0 m 24 ls [])
  refine lv_aload_n hx hb dX1_tie_24 rfl (lv_at hl 0 rfl) ?_
  refine k_cV hx hb hml hown hts (CX1_keep l0 E w x A1 A2 A3 d b hs ft rf ro g mn wn ly cn I K mk hX hM hK) (cwV 0 hts (lw_V q501 q503 qs2 q69 q504) rfl rfl rfl dyX1_keep ⟨Nat.le_of_ble_eq_true rfl, Nat.le_of_ble_eq_true rfl⟩) hG hP hS hX rfl (As := []) (rest := []) rfl hl.1 rfl (lv_room (Nat.le_of_ble_eq_true rfl)) dX1_tie_25 ⟨show ((0 + 1) + 1) + 24 ≤ 30 from by omega, show ((0 + 6) + 6) + 140 ≤ 200 from by omega⟩ (fun r25 w1 H locs hp hP hS => ?_)
  obtain ⟨I9_1, hp0, ⟨hK', -⟩, hf9⟩ := hp
  have hX : w1 x = some ((94, 0), .inr (1, [.ref (A1 0), .ref (A2 0), .ref (A3 0), .int hs, .ref d, .ref b, .int ft, .int rf, .int ro])) := hf9 _ _ _ hX (by intro z9; first | (simp only [pO, pN, pD, pKp, pT, pB, pS, pR, pRd, pRo, Prod.mk.injEq, pX1, pX2, pXs, pX2t] at z9; done) | (simp only [pO, pN, pD, pKp, pT, pB, pS, pR, pRd, pRo, Prod.mk.injEq, pX1, pX2, pXs, pX2t] at z9; omega))
  have hM : townR E w1 1 A1 g mn wn ly := hM.frm hf9 (by intro z9; first | (simp only [pO, pN, pD, pKp, pT, pB, pS, pR, pRd, pRo, Prod.mk.injEq, pX1, pX2, pXs, pX2t] at z9; done) | (simp only [pO, pN, pD, pKp, pT, pB, pS, pR, pRd, pRo, Prod.mk.injEq, pX1, pX2, pXs, pX2t] at z9; omega)) (fun r9 => (by intro z9; first | (simp only [pO, pN, pD, pKp, pT, pB, pS, pR, pRd, pRo, Prod.mk.injEq, pX1, pX2, pXs, pX2t] at z9; done) | (simp only [pO, pN, pD, pKp, pT, pB, pS, pR, pRd, pRo, Prod.mk.injEq, pX1, pX2, pXs, pX2t] at z9; omega)))
  have hF : fr pX1 w0 w1 := hF.tr (hf9.up (fun t9 h9 => by simp only [pO, pN, pD, pKp, pT, pB, pS, pR, pX1, pX2, pXs, pX2t] at h9 ⊢; first | exact h9 | (subst h9; simp; done) | (subst h9; simp; omega) | omega | (rcases h9 with h9 | h9 <;> first | (subst h9; simp; done) | (subst h9; simp; omega) | omega)))
  have hK : kpR E w1 d (kCn cn) I9_1 (kSh cn K g) (kSh cn mk mn) := hK'
  show W p l0 e rmCX1_tie s m args below meth c H locs (((0 + 1) + 1) + 24) (((0 + 6) + 6) + 140) Q (F0 m 28 ls [])
  refine lv_aload_n hx hb dX1_tie_28 rfl (lv_at hl 0 rfl) ?_
  refine k_get hx hb hts in_X1 hown hG hP hX rfl 0 (by decide) (hts _ q276) (fun _ h9 => h9) (v := .ref (A1 0)) rfl dX1_tie_29 ?_
  refine lv_iload_n hx hb dX1_tie_32 rfl (lv_at hl 1 rfl) ?_
  have hT_2 := hM.1
  refine k_cV hx hb hml hown hts (CX2_tie l0 E w1 1 A1 g mn wn ly kz (by omega) (by omega) (by omega) hM) (cwV 1 hts (lw_V q773 q774 q775 q70 q776) rfl rfl rfl dyX2_tie ⟨Nat.le_of_ble_eq_true rfl, Nat.le_of_ble_eq_true rfl⟩) hG hP hS hT_2 rfl (As := [.int (nI kz)]) (rest := []) rfl hl.1 rfl (lv_room (Nat.le_of_ble_eq_true rfl)) dX1_tie_33 ⟨show (((0 + 1) + 1) + 24) + 1 ≤ 30 from by omega, show (((0 + 6) + 6) + 140) + 0 ≤ 200 from by omega⟩ (fun r33 w2 H locs hp hP hS => ?_)
  obtain ⟨hp0, ⟨hM', -⟩, hf9⟩ := hp
  have hX : w2 x = some ((94, 0), .inr (1, [.ref (A1 0), .ref (A2 0), .ref (A3 0), .int hs, .ref d, .ref b, .int ft, .int rf, .int ro])) := hf9 _ _ _ hX (by intro z9; first | (simp only [pO, pN, pD, pKp, pT, pB, pS, pR, pRd, pRo, Prod.mk.injEq, pX1, pX2, pXs, pX2t] at z9; done) | (simp only [pO, pN, pD, pKp, pT, pB, pS, pR, pRd, pRo, Prod.mk.injEq, pX1, pX2, pXs, pX2t] at z9; omega))
  have hK : kpR E w2 d (kCn cn) I9_1 (kSh cn K g) (kSh cn mk mn) := hK.fr hf9 (by intro z9; first | (simp only [pO, pN, pD, pKp, pT, pB, pS, pR, pRd, pRo, Prod.mk.injEq, pX1, pX2, pXs, pX2t] at z9; done) | (simp only [pO, pN, pD, pKp, pT, pB, pS, pR, pRd, pRo, Prod.mk.injEq, pX1, pX2, pXs, pX2t] at z9; omega)) (fun i9 r9 h7 h8 => (by intro z9; first | (simp only [pO, pN, pD, pKp, pT, pB, pS, pR, pRd, pRo, Prod.mk.injEq, pX1, pX2, pXs, pX2t] at z9; done) | (simp only [pO, pN, pD, pKp, pT, pB, pS, pR, pRd, pRo, Prod.mk.injEq, pX1, pX2, pXs, pX2t] at z9; omega)))
  have hF : fr pX1 w0 w2 := hF.tr (hf9.up (fun t9 h9 => by simp only [pO, pN, pD, pKp, pT, pB, pS, pR, pX1, pX2, pXs, pX2t] at h9 ⊢; first | exact h9 | (subst h9; simp; done) | (subst h9; simp; omega) | omega | (rcases h9 with h9 | h9 <;> first | (subst h9; simp; done) | (subst h9; simp; omega) | omega)))
  have hM : townR E w2 1 A1 (va_up g (kO kz 0) 0) mn wn ly := hM'
  rw [hp0]
  show W p l0 e rmCX1_tie s m args below meth c H locs ((((0 + 1) + 1) + 24) + 1) (((0 + 6) + 6) + 140) Q (F0 m 36 ls [.int (g (kO kz 3))])
  have e9 := (qTie_r hk9 ckz).2 hrs
  exact kx_iret hx hb hr hlocks hQ hP hS (by omega) (by omega) dX1_tie_36 (⟨_, ⟨by rw [e9], by rw [e9]⟩, ⟨(hM.row (by rw [e9])), hK, trivial⟩, hF⟩)
