/-! THE COMPONENT, 13: more questions; the text -/
set_option maxRecDepth 100000
abbrev rmCX1_cause : Room := { frames := 9, cells := 3, slots := 20, locals := 141 }
theorem dyX1_cause : yX1_cause.cls = RX1 ∧ yX1_cause.cls ≠ "java/lang/invoke/MethodHandle" ∧ yX1_cause.cls ≠ "java/lang/invoke/VarHandle" ∧ (parseMethodDescriptor yX1_cause.desc).map (fun d => d.parameters.length) = some 2 := by decide +kernel
set_option maxHeartbeats 4000000 in
theorem CX1_cause (l0 : Launch) (hl0 : l0.stackTraces = false) (E : gE) (w : wd) (x : Nat) (A1 : Nat → Nat) (A2 : Nat → Nat) (A3 : Nat → Nat) (d : Nat) (b : Nat) (hs : Int32) (ft : Int32) (rf : Int32) (ro : Int32) (g : Nat → Int32) (mn : Nat) (wn : Nat → Int32) (ly : Nat → Int32) (y : Int32) (z : Int32) (N : Nat) (hI : gI g mn N) (hX : w x = some ((94, 0), .inr (1, [.ref (A1 0), .ref (A2 0), .ref (A3 0), .int hs, .ref d, .ref b, .int ft, .int rf, .int ro]))) (hM : townR E w 1 A1 g mn wn ly) : kX l0 yX1_cause (ws_ yX1_cause cX1_cause 7 (some .int)) rmCX1_cause 3 20 mI E w [.ref x, .int y, .int z] (fun r w' => w' = w ∧ (qCau g y z).1 = 0 ∧ r = (qCau g y z).2) (pxL [(nIO, 1), (nNS, 2)] w (qCau g y z).1) := by
  refine kx_open (cc := cX1_cause) (maxL := 7) (ret := (some .int)) (by decide) rfl (Nat.le_of_ble_eq_true rfl) ?_
  intro p e s m args below meth c ls Q hx hb hr hml hown hts hlocks hname ht hQ hG hP hl hS
  have hl : lv_has ls 7 [(0, .ref x), (1, .int y), (2, .int z)] := hl
  have hm6 := hM.m25
  refine lv_aload_n hx hb dX1_cause_0 rfl (lv_at hl 0 rfl) ?_
  refine lv_iload_n hx hb dX1_cause_1 rfl (lv_at hl 1 rfl) ?_
  refine kx_cV hx hb hml hown hts hQ ht hlocks (CX1_kiteAt l0 hl0 E w x A1 A2 A3 d b hs ft rf ro g mn wn ly y hX hM) (cwV 1 hts (lw_V q743 q745 qs7 q69 q746) rfl rfl rfl dyX1_kiteAt ⟨Nat.le_of_ble_eq_true rfl, Nat.le_of_ble_eq_true rfl⟩) hG hP hS hX rfl (As := [.int y]) (rest := []) rfl hl.1 rfl (lv_room (Nat.le_of_ble_eq_true rfl)) dX1_cause_2 ⟨show 0 + 1 ≤ 3 from by omega, show 0 + 6 ≤ 20 from by omega⟩ ⟨show 0 + 1 ≤ 3 from by omega, show 0 + 6 ≤ 20 from by omega⟩ (fun X9 q9 w9 h9 => pxL.mk' (k := 1) h9.1 (qCau_1 h9.2.2) (by decide) h9.2.1 rfl) (fun r9 w9 H locs hp hP hS => ?_)
  obtain ⟨hp1, hp0⟩ := hp
  rw [hp1] at hP
  obtain ⟨kz, hkz, rfl, rfl⟩ := hp0
  have ckz : (nI kz).toNatClampNeg = kz := nI_clamp (by omega)
  have hk9 := tKt_N hm6.1 hm6.2 hkz
  show W p l0 e rmCX1_cause s m args below meth c H locs (0 + 1) (0 + 6) Q (F0 m 5 ls [.ref (A1 (6 + kz))])
  refine lv_astore_n (lv' := [(3, .ref (A1 (6 + kz))), (0, .ref x), (1, .int (nI kz)), (2, .int z)]) hx hb dX1_cause_5 rfl hl (by decide) rfl (fun ls hl => ?_)
  refine lv_aload_n hx hb dX1_cause_6 rfl (lv_at hl 0 rfl) ?_
  obtain ⟨tz_1, hT_1, hz_1⟩ := hM.kite (k := kz) (by omega)
  refine k_getN hx hb hts in_X3 hown hG hP hT_1 rfl 7 (by decide) (hG.2.1.1 _ q162 rfl) (fun _ h9 => h9) (v := .ref tz_1) rfl dX1_cause_7 ?_
  refine lv_astore (lv' := [(6, .ref tz_1), (3, .ref (A1 (6 + kz))), (0, .ref x), (1, .int (nI kz)), (2, .int z)]) hx hb dX1_cause_10 hl (by decide) rfl (fun ls hl => ?_)
  rcases hz_1 with ⟨e0, hSt⟩ | ⟨e0, hSt⟩ | ⟨e0, hSt⟩
  · skip
    refine lv_aload hx hb dX1_cause_12 (lv_at hl 0 rfl) ?_
    refine k_instNo hx hb hown (hts _ q1057) hG hP hSt rfl (List.mem_of_getElem? (i := 1) rfl) dX1_cause_14 ?_
    refine lv_if_eq (tgt := 40) hx hb dX1_cause_17 (by decide) (fun c17 => ?_) (fun c17 => ?_)
    · skip
      refine lv_iconst (v := (-1)) hx hb dX1_cause_40 (by decide) ?_
      refine lv_istore (lv' := [(4, .int (-1)), (6, .ref tz_1), (3, .ref (A1 (6 + kz))), (0, .ref x), (1, .int (nI kz)), (2, .int z)]) hx hb dX1_cause_41 hl (by decide) rfl (fun ls hl => ?_)
      refine lv_iload hx hb dX1_cause_43 (lv_at hl 0 rfl) ?_
      refine lv_iconst (v := (-1)) hx hb dX1_cause_45 (by decide) ?_
      refine lv_icmp_eq (tgt := 53) hx hb dX1_cause_46 (by decide) (fun c46 => ?_) (fun c46 => ?_)
      · skip
        refine lv_iconst (v := 0) hx hb dX1_cause_53 (by decide) ?_
        refine kx_cS hx hb hml hown hts hQ ht hlocks (CX1_checkElement l0 hl0 E w false) (va_cwS 1 hts (lw_S q901 q902 q69 q903) rfl rfl rfl dyX1_checkElement ⟨Nat.le_of_ble_eq_true rfl, Nat.le_of_ble_eq_true rfl⟩) hG hP hS (As := [.int 0]) (rest := []) rfl hl.1 rfl (lv_room (Nat.le_of_ble_eq_true rfl)) dX1_cause_54 ⟨show (0 + 1) + 1 ≤ 3 from by omega, show (0 + 6) + 6 ≤ 20 from by omega⟩ ⟨show (0 + 1) + 1 ≤ 3 from by omega, show (0 + 6) + 6 ≤ 20 from by omega⟩ (fun X9 q9 w9 h9 => pxL.mk' (k := 2) h9.1 (qCau_n hk9 ckz (by rw [show g (kO kz 0) = _ from e0]; decide)) (by decide) h9.2.1 rfl) (fun r9 w9 H locs hp hP hS => ?_)
        obtain ⟨hp1, hp0⟩ := hp
        rw [hp1] at hP
        show W p l0 e rmCX1_cause s m args below meth c H locs ((0 + 1) + 1) ((0 + 6) + 6) Q (F0 m 57 ls [])
        exact absurd hp0 (by decide)
      · skip
        exact absurd rfl c46
    · skip
      exact absurd c17 (by decide)
  · skip
    refine lv_aload hx hb dX1_cause_12 (lv_at hl 0 rfl) ?_
    refine k_instNo hx hb hown (hts _ q1057) hG hP hSt rfl (List.mem_of_getElem? (i := 3) rfl) dX1_cause_14 ?_
    refine lv_if_eq (tgt := 40) hx hb dX1_cause_17 (by decide) (fun c17 => ?_) (fun c17 => ?_)
    · skip
      refine lv_iconst (v := (-1)) hx hb dX1_cause_40 (by decide) ?_
      refine lv_istore (lv' := [(4, .int (-1)), (6, .ref tz_1), (3, .ref (A1 (6 + kz))), (0, .ref x), (1, .int (nI kz)), (2, .int z)]) hx hb dX1_cause_41 hl (by decide) rfl (fun ls hl => ?_)
      refine lv_iload hx hb dX1_cause_43 (lv_at hl 0 rfl) ?_
      refine lv_iconst (v := (-1)) hx hb dX1_cause_45 (by decide) ?_
      refine lv_icmp_eq (tgt := 53) hx hb dX1_cause_46 (by decide) (fun c46 => ?_) (fun c46 => ?_)
      · skip
        refine lv_iconst (v := 0) hx hb dX1_cause_53 (by decide) ?_
        refine kx_cS hx hb hml hown hts hQ ht hlocks (CX1_checkElement l0 hl0 E w false) (va_cwS 1 hts (lw_S q901 q902 q69 q903) rfl rfl rfl dyX1_checkElement ⟨Nat.le_of_ble_eq_true rfl, Nat.le_of_ble_eq_true rfl⟩) hG hP hS (As := [.int 0]) (rest := []) rfl hl.1 rfl (lv_room (Nat.le_of_ble_eq_true rfl)) dX1_cause_54 ⟨show (0 + 1) + 1 ≤ 3 from by omega, show (0 + 6) + 6 ≤ 20 from by omega⟩ ⟨show (0 + 1) + 1 ≤ 3 from by omega, show (0 + 6) + 6 ≤ 20 from by omega⟩ (fun X9 q9 w9 h9 => pxL.mk' (k := 2) h9.1 (qCau_n hk9 ckz (by rw [show g (kO kz 0) = _ from e0]; decide)) (by decide) h9.2.1 rfl) (fun r9 w9 H locs hp hP hS => ?_)
        obtain ⟨hp1, hp0⟩ := hp
        rw [hp1] at hP
        show W p l0 e rmCX1_cause s m args below meth c H locs ((0 + 1) + 1) ((0 + 6) + 6) Q (F0 m 57 ls [])
        exact absurd hp0 (by decide)
      · skip
        exact absurd rfl c46
    · skip
      exact absurd c17 (by decide)
  · skip
    refine lv_aload hx hb dX1_cause_12 (lv_at hl 0 rfl) ?_
    refine k_instS hx hb hown (hts _ q1057) hG hP hSt rfl dX1_cause_14 ?_
    refine lv_if_eq (tgt := 40) hx hb dX1_cause_17 (by decide) (fun c17 => ?_) (fun c17 => ?_)
    · skip
      exact absurd c17 (by decide)
    · skip
      refine lv_aload hx hb dX1_cause_20 (lv_at hl 0 rfl) ?_
      refine k_castS hx hb hown (hts _ q1057) hG hP hSt rfl dX1_cause_22 ?_
      refine lv_astore (lv' := [(5, .ref tz_1), (6, .ref tz_1), (3, .ref (A1 (6 + kz))), (0, .ref x), (1, .int (nI kz)), (2, .int z)]) hx hb dX1_cause_25 hl (by decide) rfl (fun ls hl => ?_)
      refine lv_iload_n hx hb dX1_cause_27 rfl (lv_at hl 5 rfl) ?_
      refine lv_if_lt (tgt := 40) hx hb dX1_cause_28 (by decide) (fun c28 => ?_) (fun c28 => ?_)
      · skip
        refine lv_iconst (v := (-1)) hx hb dX1_cause_40 (by decide) ?_
        refine lv_istore (lv' := [(4, .int (-1)), (5, .ref tz_1), (6, .ref tz_1), (3, .ref (A1 (6 + kz))), (0, .ref x), (1, .int (nI kz)), (2, .int z)]) hx hb dX1_cause_41 hl (by decide) rfl (fun ls hl => ?_)
        refine lv_iload hx hb dX1_cause_43 (lv_at hl 0 rfl) ?_
        refine lv_iconst (v := (-1)) hx hb dX1_cause_45 (by decide) ?_
        refine lv_icmp_eq (tgt := 53) hx hb dX1_cause_46 (by decide) (fun c46 => ?_) (fun c46 => ?_)
        · skip
          refine lv_iconst (v := 0) hx hb dX1_cause_53 (by decide) ?_
          refine kx_cS hx hb hml hown hts hQ ht hlocks (CX1_checkElement l0 hl0 E w false) (va_cwS 1 hts (lw_S q901 q902 q69 q903) rfl rfl rfl dyX1_checkElement ⟨Nat.le_of_ble_eq_true rfl, Nat.le_of_ble_eq_true rfl⟩) hG hP hS (As := [.int 0]) (rest := []) rfl hl.1 rfl (lv_room (Nat.le_of_ble_eq_true rfl)) dX1_cause_54 ⟨show (0 + 1) + 1 ≤ 3 from by omega, show (0 + 6) + 6 ≤ 20 from by omega⟩ ⟨show (0 + 1) + 1 ≤ 3 from by omega, show (0 + 6) + 6 ≤ 20 from by omega⟩ (fun X9 q9 w9 h9 => pxL.mk' (k := 2) h9.1 (qCau_m hk9 ckz c28) (by decide) h9.2.1 rfl) (fun r9 w9 H locs hp hP hS => ?_)
          obtain ⟨hp1, hp0⟩ := hp
          rw [hp1] at hP
          show W p l0 e rmCX1_cause s m args below meth c H locs ((0 + 1) + 1) ((0 + 6) + 6) Q (F0 m 57 ls [])
          exact absurd hp0 (by decide)
        · skip
          exact absurd rfl c46
      · skip
        refine lv_aload hx hb dX1_cause_31 (lv_at hl 0 rfl) ?_
        refine lv_iload_n hx hb dX1_cause_33 rfl (lv_at hl 5 rfl) ?_
        refine k_cV hx hb hml hown hts (CX8_known l0 E w tz_1 (0, 0) (g (kO kz 9)) (g (kO kz 10)) (g (kO kz 11)) z hSt) (cwV 1 hts (lw_V q1058 q1059 q1060 q95 q1061) rfl rfl rfl dyX8_known ⟨Nat.le_of_ble_eq_true rfl, Nat.le_of_ble_eq_true rfl⟩) hG hP hS hSt rfl (As := [.int z]) (rest := []) rfl hl.1 rfl (lv_room (Nat.le_of_ble_eq_true rfl)) dX1_cause_34 ⟨show (0 + 1) + 0 ≤ 3 from by omega, show (0 + 6) + 0 ≤ 20 from by omega⟩ (fun r9 w9 H locs hp hP hS => ?_)
        obtain ⟨hp1, hp0⟩ := hp
        rw [hp1] at hP
        rw [hp0]
        show W p l0 e rmCX1_cause s m args below meth c H locs (0 + 1) (0 + 6) Q (F0 m 37 ls [.int (kKn (g (kO kz 9)) (g (kO kz 10)) (g (kO kz 11)) z)])
        refine lv_goto (tgt := 41) hx hb dX1_cause_37 (by decide) ?_
        refine lv_istore (lv' := [(4, .int (kKn (g (kO kz 9)) (g (kO kz 10)) (g (kO kz 11)) z)), (5, .ref tz_1), (6, .ref tz_1), (3, .ref (A1 (6 + kz))), (0, .ref x), (1, .int (nI kz)), (2, .int z)]) hx hb dX1_cause_41 hl (by decide) rfl (fun ls hl => ?_)
        refine lv_iload hx hb dX1_cause_43 (lv_at hl 0 rfl) ?_
        refine lv_iconst (v := (-1)) hx hb dX1_cause_45 (by decide) ?_
        refine lv_icmp_eq (tgt := 53) hx hb dX1_cause_46 (by decide) (fun c46 => ?_) (fun c46 => ?_)
        · skip
          refine lv_iconst (v := 0) hx hb dX1_cause_53 (by decide) ?_
          refine kx_cS hx hb hml hown hts hQ ht hlocks (CX1_checkElement l0 hl0 E w false) (va_cwS 1 hts (lw_S q901 q902 q69 q903) rfl rfl rfl dyX1_checkElement ⟨Nat.le_of_ble_eq_true rfl, Nat.le_of_ble_eq_true rfl⟩) hG hP hS (As := [.int 0]) (rest := []) rfl hl.1 rfl (lv_room (Nat.le_of_ble_eq_true rfl)) dX1_cause_54 ⟨show (0 + 1) + 1 ≤ 3 from by omega, show (0 + 6) + 6 ≤ 20 from by omega⟩ ⟨show (0 + 1) + 1 ≤ 3 from by omega, show (0 + 6) + 6 ≤ 20 from by omega⟩ (fun X9 q9 w9 h9 => pxL.mk' (k := 2) h9.1 ((qCau_c hI hkz hk9 ckz e0 c28).1 c46) (by decide) h9.2.1 rfl) (fun r9 w9 H locs hp hP hS => ?_)
          obtain ⟨hp1, hp0⟩ := hp
          rw [hp1] at hP
          show W p l0 e rmCX1_cause s m args below meth c H locs ((0 + 1) + 1) ((0 + 6) + 6) Q (F0 m 57 ls [])
          exact absurd hp0 (by decide)
        · skip
          refine lv_iconst (v := 1) hx hb dX1_cause_49 (by decide) ?_
          refine lv_goto (tgt := 54) hx hb dX1_cause_50 (by decide) ?_
          refine kx_cS hx hb hml hown hts hQ ht hlocks (CX1_checkElement l0 hl0 E w true) (va_cwS 1 hts (lw_S q901 q902 q69 q903) rfl rfl rfl dyX1_checkElement ⟨Nat.le_of_ble_eq_true rfl, Nat.le_of_ble_eq_true rfl⟩) hG hP hS (As := [.int 1]) (rest := []) rfl hl.1 rfl (lv_room (Nat.le_of_ble_eq_true rfl)) dX1_cause_54 ⟨show (0 + 1) + 1 ≤ 3 from by omega, show (0 + 6) + 6 ≤ 20 from by omega⟩ ⟨show (0 + 1) + 1 ≤ 3 from by omega, show (0 + 6) + 6 ≤ 20 from by omega⟩ (fun X9 q9 w9 h9 => pxL.mk' (k := 2) h9.1 (absurd h9.2.2 (by decide)) (by decide) h9.2.1 rfl) (fun r9 w9 H locs hp hP hS => ?_)
          obtain ⟨hp1, hp0⟩ := hp
          rw [hp1] at hP
          show W p l0 e rmCX1_cause s m args below meth c H locs ((0 + 1) + 1) ((0 + 6) + 6) Q (F0 m 57 ls [])
          refine lv_iload hx hb dX1_cause_57 (lv_at hl 0 rfl) ?_
          exact kx_iret hx hb hr hlocks hQ hP hS (by omega) (by omega) dX1_cause_59 (⟨rfl, by rw [(qCau_c hI hkz hk9 ckz e0 c28).2 c46]; exact ⟨rfl, rfl⟩⟩)

abbrev rmCX1_leader : Room := { frames := 8, cells := 3, slots := 20, locals := 120 }
theorem dyX1_leader : yX1_leader.cls = RX1 ∧ yX1_leader.cls ≠ "java/lang/invoke/MethodHandle" ∧ yX1_leader.cls ≠ "java/lang/invoke/VarHandle" ∧ (parseMethodDescriptor yX1_leader.desc).map (fun d => d.parameters.length) = some 0 := by decide +kernel
set_option maxHeartbeats 4000000 in
theorem CX1_leader (l0 : Launch) (hl0 : l0.stackTraces = false) (E : gE) (w : wd) (x : Nat) (A1 : Nat → Nat) (A2 : Nat → Nat) (A3 : Nat → Nat) (d : Nat) (b : Nat) (hs : Int32) (ft : Int32) (rf : Int32) (ro : Int32) (g : Nat → Int32) (mn : Nat) (wn : Nat → Int32) (ly : Nat → Int32) (hX : w x = some ((94, 0), .inr (1, [.ref (A1 0), .ref (A2 0), .ref (A3 0), .int hs, .ref d, .ref b, .int ft, .int rf, .int ro]))) (hM : townR E w 1 A1 g mn wn ly) : kX l0 yX1_leader (ws_ yX1_leader cX1_leader 3 (some .int)) rmCX1_leader 3 20 mI E w [.ref x] (fun r w' => w' = w ∧ (qLea g mn).1 = 0 ∧ r = (qLea g mn).2) (pxL [(nNS, 1)] w (qLea g mn).1) := by
  refine kx_open (cc := cX1_leader) (maxL := 3) (ret := (some .int)) (by decide) rfl (Nat.le_of_ble_eq_true rfl) ?_
  intro p e s m args below meth c ls Q hx hb hr hml hown hts hlocks hname ht hQ hG hP hl hS
  have hl : lv_has ls 3 [(0, .ref x)] := hl
  have hm6 := hM.m25
  refine lv_aload_n hx hb dX1_leader_0 rfl (lv_at hl 0 rfl) ?_
  refine k_get hx hb hts in_X1 hown hG hP hX rfl 0 (by decide) (hts _ q276) (fun _ h9 => h9) (v := .ref (A1 0)) rfl dX1_leader_1 ?_
  have hT_1 := hM.1
  refine k_getN hx hb hts in_X2 hown hG hP hT_1 rfl 3 (by decide) (hG.2.1.1 _ q187 rfl) (fun _ h9 => h9) (v := .int (nI mn)) rfl dX1_leader_4 ?_
  refine lv_if_le (tgt := 14) hx hb dX1_leader_7 (by decide) (fun c7 => ?_) (fun c7 => ?_)
  · skip
    refine lv_iconst (v := 0) hx hb dX1_leader_14 (by decide) ?_
    refine kx_cS hx hb hml hown hts hQ ht hlocks (CX1_checkElement l0 hl0 E w false) (va_cwS 1 hts (lw_S q901 q902 q69 q903) rfl rfl rfl dyX1_checkElement ⟨Nat.le_of_ble_eq_true rfl, Nat.le_of_ble_eq_true rfl⟩) hG hP hS (As := [.int 0]) (rest := []) rfl hl.1 rfl (lv_room (Nat.le_of_ble_eq_true rfl)) dX1_leader_15 ⟨show 0 + 1 ≤ 3 from by omega, show 0 + 6 ≤ 20 from by omega⟩ ⟨show 0 + 1 ≤ 3 from by omega, show 0 + 6 ≤ 20 from by omega⟩ (fun X9 q9 w9 h9 => pxL.mk' (k := 1) h9.1 (qLea_0 ((nI_le0 (by omega)).mp c7)) (by decide) h9.2.1 rfl) (fun r9 w9 H locs hp hP hS => ?_)
    obtain ⟨hp1, hp0⟩ := hp
    rw [hp1] at hP
    show W p l0 e rmCX1_leader s m args below meth c H locs (0 + 1) (0 + 6) Q (F0 m 18 ls [])
    exact absurd hp0 (by decide)
  · skip
    have hmn0 : 0 < mn := Nat.pos_of_ne_zero (fun e9 => c7 ((nI_le0 (by omega)).mpr e9))
    refine lv_iconst (v := 1) hx hb dX1_leader_10 (by decide) ?_
    refine lv_goto (tgt := 15) hx hb dX1_leader_11 (by decide) ?_
    refine kx_cS hx hb hml hown hts hQ ht hlocks (CX1_checkElement l0 hl0 E w true) (va_cwS 1 hts (lw_S q901 q902 q69 q903) rfl rfl rfl dyX1_checkElement ⟨Nat.le_of_ble_eq_true rfl, Nat.le_of_ble_eq_true rfl⟩) hG hP hS (As := [.int 1]) (rest := []) rfl hl.1 rfl (lv_room (Nat.le_of_ble_eq_true rfl)) dX1_leader_15 ⟨show 0 + 1 ≤ 3 from by omega, show 0 + 6 ≤ 20 from by omega⟩ ⟨show 0 + 1 ≤ 3 from by omega, show 0 + 6 ≤ 20 from by omega⟩ (fun X9 q9 w9 h9 => pxL.mk' (k := 1) h9.1 (absurd h9.2.2 (by decide)) (by decide) h9.2.1 rfl) (fun r9 w9 H locs hp hP hS => ?_)
    obtain ⟨hp1, hp0⟩ := hp
    rw [hp1] at hP
    show W p l0 e rmCX1_leader s m args below meth c H locs (0 + 1) (0 + 6) Q (F0 m 18 ls [])
    refine lv_iconst (v := 0) hx hb dX1_leader_18 (by decide) ?_
    refine lv_istore_n (lv' := [(1, .int 0), (0, .ref x)]) hx hb dX1_leader_19 rfl hl (by decide) rfl (fun ls hl => ?_)
    refine lv_iconst (v := 1) hx hb dX1_leader_20 (by decide) ?_
    refine lv_istore_n (lv' := [(2, .int 1), (1, .int 0), (0, .ref x)]) hx hb dX1_leader_21 rfl hl (by decide) rfl (fun ls hl => ?_)
    have hloop_22 : ∀ (n9_22 : Nat) (b9 : Nat) (i9 : Nat), (i9 ≤ mn) → (b9 < i9) → (tLo g i9 = some b9) → (mn - i9) < n9_22 → ∀ (H : Heap) (locs : List Loc) (ls : Array Slot), wP E w H → va_S (gA E) s.heap H locs → lv_has ls 3 [(2, .int (nI i9)), (1, .int (nI b9)), (0, .ref x)] → W p l0 e rmCX1_leader s m args below meth c H locs (0 + 1) (0 + 6) Q (F0 m 22 ls []) := by
      intro n9_22
      induction n9_22 with
      | zero => intro b9 i9 hi9 hb9 hv hn; exact absurd hn (Nat.not_lt_zero _)
      | succ n9_22 ih_22 =>
        intro b9 i9 hi9 hb9 hv hn_22 H locs ls  hP hS hl
        refine lv_iload_n hx hb dX1_leader_22 rfl (lv_at hl 0 rfl) ?_
        refine lv_aload_n hx hb dX1_leader_23 rfl (lv_at hl 2 rfl) ?_
        refine k_get hx hb hts in_X1 hown hG hP hX rfl 0 (by decide) (hts _ q276) (fun _ h9 => h9) (v := .ref (A1 0)) rfl dX1_leader_24 ?_
        refine k_getN hx hb hts in_X2 hown hG hP hT_1 rfl 3 (by decide) (hG.2.1.1 _ q187 rfl) (fun _ h9 => h9) (v := .int (nI mn)) rfl dX1_leader_27 ?_
        refine k_icmp_geN (x := i9) (y := mn) (tgt := 68) hx hb (by omega) (by omega) dX1_leader_30 (by decide) (fun c30 => ?_) (fun c30 => ?_)
        · skip
          refine lv_iload_n hx hb dX1_leader_68 rfl (lv_at hl 1 rfl) ?_
          exact kx_iret hx hb hr hlocks hQ hP hS (by omega) (by omega) dX1_leader_69 (⟨rfl, by rw [qLea_s (b := b9) (by rw [show mn = i9 from by omega]; exact hv) (by omega)]; exact ⟨rfl, rfl⟩⟩)
        · skip
          refine lv_aload_n hx hb dX1_leader_33 rfl (lv_at hl 2 rfl) ?_
          refine k_get hx hb hts in_X1 hown hG hP hX rfl 0 (by decide) (hts _ q276) (fun _ h9 => h9) (v := .ref (A1 0)) rfl dX1_leader_34 ?_
          refine k_getN hx hb hts in_X2 hown hG hP hT_1 rfl 2 (by decide) (hG.2.1.1 _ q185 rfl) (fun _ h9 => h9) (v := .ref (A1 3)) rfl dX1_leader_37 ?_
          refine lv_iload_n hx hb dX1_leader_40 rfl (lv_at hl 0 rfl) ?_
          obtain ⟨fq_2, hT_2, he_2⟩ := hM.2.2.2.1
          refine k_aald hx hb hG hP (j := i9) 4 hT_2 rfl (by omega) (show i9 < 6 from by omega) dX1_leader_41 ?_
          rw [he_2 i9 (by omega)]
          obtain ⟨tz_3, hT_3, hz_3⟩ := hM.kite (k := i9) (by omega)
          refine k_getN hx hb hts in_X3 hown hG hP hT_3 rfl 6 (by decide) (hG.2.1.1 _ q159 rfl) (fun _ h9 => h9) (v := .int (g (kO i9 8))) rfl dX1_leader_42 ?_
          refine lv_aload_n hx hb dX1_leader_45 rfl (lv_at hl 2 rfl) ?_
          refine k_get hx hb hts in_X1 hown hG hP hX rfl 0 (by decide) (hts _ q276) (fun _ h9 => h9) (v := .ref (A1 0)) rfl dX1_leader_46 ?_
          refine k_getN hx hb hts in_X2 hown hG hP hT_1 rfl 2 (by decide) (hG.2.1.1 _ q185 rfl) (fun _ h9 => h9) (v := .ref (A1 3)) rfl dX1_leader_49 ?_
          refine lv_iload_n hx hb dX1_leader_52 rfl (lv_at hl 1 rfl) ?_
          refine k_aald hx hb hG hP (j := b9) 4 hT_2 rfl (by omega) (show b9 < 6 from by omega) dX1_leader_53 ?_
          rw [he_2 b9 (by omega)]
          obtain ⟨tz_4, hT_4, hz_4⟩ := hM.kite (k := b9) (by omega)
          refine k_getN hx hb hts in_X3 hown hG hP hT_4 rfl 6 (by decide) (hG.2.1.1 _ q159 rfl) (fun _ h9 => h9) (v := .int (g (kO b9 8))) rfl dX1_leader_54 ?_
          refine lv_icmp_le (tgt := 62) hx hb dX1_leader_57 (by decide) (fun c57 => ?_) (fun c57 => ?_)
          · skip
            refine lv_iinc (v := (nI (i9 + 1))) (lv' := [(2, .int (nI (i9 + 1))), (1, .int (nI b9)), (0, .ref x)]) hx hb dX1_leader_62 hl (k := 0) rfl (nI_add i9 1) (by decide) rfl (fun ls hl => ?_)
            refine lv_goto (tgt := 22) hx hb dX1_leader_65 (by decide) ?_
            have hl : lv_has ls 3 [(2, .int (nI (i9 + 1))), (1, .int (nI b9)), (0, .ref x)] := hl
            exact ih_22 b9 (i9 + 1) (by omega) (by omega) (tLo_s1 hv c57) (by omega) _ _ _ hP hS hl
          · skip
            refine lv_iload_n hx hb dX1_leader_60 rfl (lv_at hl 0 rfl) ?_
            refine lv_istore_n (lv' := [(1, .int (nI i9)), (2, .int (nI i9)), (0, .ref x)]) hx hb dX1_leader_61 rfl hl (by decide) rfl (fun ls hl => ?_)
            refine lv_iinc (v := (nI (i9 + 1))) (lv' := [(2, .int (nI (i9 + 1))), (1, .int (nI i9)), (0, .ref x)]) hx hb dX1_leader_62 hl (k := 1) rfl (nI_add i9 1) (by decide) rfl (fun ls hl => ?_)
            refine lv_goto (tgt := 22) hx hb dX1_leader_65 (by decide) ?_
            have hl : lv_has ls 3 [(2, .int (nI (i9 + 1))), (1, .int (nI i9)), (0, .ref x)] := hl
            exact ih_22 i9 (i9 + 1) (by omega) (by omega) (tLo_s2 hv c57) (by omega) _ _ _ hP hS hl
    have hl : lv_has ls 3 [(2, .int (nI 1)), (1, .int (nI 0)), (0, .ref x)] := hl
    exact hloop_22 _ 0 1 (by omega) (by omega) rfl (Nat.lt_succ_self _) _ _ _ hP hS hl

abbrev rmCX1_refusal : Room := { frames := 8, cells := 1, slots := 6, locals := 120 }
theorem dyX1_refusal : yX1_refusal.cls = RX1 ∧ yX1_refusal.cls ≠ "java/lang/invoke/MethodHandle" ∧ yX1_refusal.cls ≠ "java/lang/invoke/VarHandle" ∧ (parseMethodDescriptor yX1_refusal.desc).map (fun d => d.parameters.length) = some 1 := by decide +kernel
set_option maxHeartbeats 4000000 in
theorem CX1_refusal (l0 : Launch) (hl0 : l0.stackTraces = false) (E : gE) (w : wd) (x : Nat) (A1 : Nat → Nat) (A2 : Nat → Nat) (A3 : Nat → Nat) (d : Nat) (b : Nat) (hs : Int32) (ft : Int32) (rf : Int32) (ro : Int32) (zb : Bool) (hrf : 0 ≤ rf) (hX : w x = some ((94, 0), .inr (1, [.ref (A1 0), .ref (A2 0), .ref (A3 0), .int hs, .ref d, .ref b, .int ft, .int rf, .int ro]))) : kX l0 yX1_refusal (ws_ yX1_refusal cX1_refusal 2 (some .int)) rmCX1_refusal 1 6 mI E w [.ref x, .int (bI zb)] (fun r w' => w' = w ∧ (qRf rf ro zb).1 = 0 ∧ r = (qRf rf ro zb).2) (pxL [(nNS, 1)] w (qRf rf ro zb).1) := by
  refine kx_open (cc := cX1_refusal) (maxL := 2) (ret := (some .int)) (by decide) rfl (Nat.le_of_ble_eq_true rfl) ?_
  intro p e s m args below meth c ls Q hx hb hr hml hown hts hlocks hname ht hQ hG hP hl hS
  have hl : lv_has ls 2 [(0, .ref x), (1, .int (bI zb))] := hl
  refine lv_aload_n hx hb dX1_refusal_0 rfl (lv_at hl 0 rfl) ?_
  refine k_get hx hb hts in_X1 hown hG hP hX rfl 7 (by decide) (hts _ q283) (fun _ h9 => h9) (v := .int rf) rfl dX1_refusal_1 ?_
  refine lv_if_le (tgt := 11) hx hb dX1_refusal_4 (by decide) (fun c4 => ?_) (fun c4 => ?_)
  · skip
    refine lv_iconst (v := 0) hx hb dX1_refusal_11 (by decide) ?_
    refine kx_cS hx hb hml hown hts hQ ht hlocks (CX1_checkElement l0 hl0 E w false) (va_cwS 1 hts (lw_S q901 q902 q69 q903) rfl rfl rfl dyX1_checkElement ⟨Nat.le_of_ble_eq_true rfl, Nat.le_of_ble_eq_true rfl⟩) hG hP hS (As := [.int 0]) (rest := []) rfl hl.1 rfl (lv_room (Nat.le_of_ble_eq_true rfl)) dX1_refusal_12 ⟨show 0 + 1 ≤ 1 from by omega, show 0 + 6 ≤ 6 from by omega⟩ ⟨show 0 + 1 ≤ 1 from by omega, show 0 + 6 ≤ 6 from by omega⟩ (fun X9 q9 w9 h9 => pxL.mk' (k := 1) h9.1 (by rw [qRf, if_pos (le0_0 hrf c4)]) (by decide) h9.2.1 rfl) (fun r9 w9 H locs hp hP hS => ?_)
    obtain ⟨hp1, hp0⟩ := hp
    rw [hp1] at hP
    show W p l0 e rmCX1_refusal s m args below meth c H locs (0 + 1) (0 + 6) Q (F0 m 15 ls [])
    exact absurd hp0 (by decide)
  · skip
    have hne : ¬ rf = 0 := fun e9 => c4 (by rw [e9]; decide)
    refine lv_iconst (v := 1) hx hb dX1_refusal_7 (by decide) ?_
    refine lv_goto (tgt := 12) hx hb dX1_refusal_8 (by decide) ?_
    refine kx_cS hx hb hml hown hts hQ ht hlocks (CX1_checkElement l0 hl0 E w true) (va_cwS 1 hts (lw_S q901 q902 q69 q903) rfl rfl rfl dyX1_checkElement ⟨Nat.le_of_ble_eq_true rfl, Nat.le_of_ble_eq_true rfl⟩) hG hP hS (As := [.int 1]) (rest := []) rfl hl.1 rfl (lv_room (Nat.le_of_ble_eq_true rfl)) dX1_refusal_12 ⟨show 0 + 1 ≤ 1 from by omega, show 0 + 6 ≤ 6 from by omega⟩ ⟨show 0 + 1 ≤ 1 from by omega, show 0 + 6 ≤ 6 from by omega⟩ (fun X9 q9 w9 h9 => pxL.mk' (k := 1) h9.1 (absurd h9.2.2 (by decide)) (by decide) h9.2.1 rfl) (fun r9 w9 H locs hp hP hS => ?_)
    obtain ⟨hp1, hp0⟩ := hp
    rw [hp1] at hP
    show W p l0 e rmCX1_refusal s m args below meth c H locs (0 + 1) (0 + 6) Q (F0 m 15 ls [])
    refine lv_iload_n hx hb dX1_refusal_15 rfl (lv_at hl 1 rfl) ?_
    refine k_ifeqB (x := zb) (tgt := 26) hx hb dX1_refusal_16 (by decide) (fun c16 => ?_) (fun c16 => ?_)
    · skip
      refine lv_aload_n hx hb dX1_refusal_26 rfl (lv_at hl 0 rfl) ?_
      refine k_get hx hb hts in_X1 hown hG hP hX rfl 7 (by decide) (hts _ q283) (fun _ h9 => h9) (v := .int rf) rfl dX1_refusal_27 ?_
      exact kx_iret hx hb hr hlocks hQ hP hS (by omega) (by omega) dX1_refusal_30 (⟨rfl, by simp [qRf, hne, c16]⟩)
    · skip
      refine lv_aload_n hx hb dX1_refusal_19 rfl (lv_at hl 0 rfl) ?_
      refine k_get hx hb hts in_X1 hown hG hP hX rfl 8 (by decide) (hts _ q284) (fun _ h9 => h9) (v := .int ro) rfl dX1_refusal_20 ?_
      refine lv_goto (tgt := 30) hx hb dX1_refusal_23 (by decide) ?_
      exact kx_iret hx hb hr hlocks hQ hP hS (by omega) (by omega) dX1_refusal_30 (⟨rfl, by simp [qRf, hne, c16]⟩)

abbrev rmCX1_faultPosition : Room := { frames := 0, cells := 0, slots := 0, locals := 0 }
theorem dyX1_faultPosition : yX1_faultPosition.cls = RX1 ∧ yX1_faultPosition.cls ≠ "java/lang/invoke/MethodHandle" ∧ yX1_faultPosition.cls ≠ "java/lang/invoke/VarHandle" ∧ (parseMethodDescriptor yX1_faultPosition.desc).map (fun d => d.parameters.length) = some 0 := by decide +kernel
set_option maxHeartbeats 4000000 in
theorem CX1_faultPosition (l0 : Launch) (E : gE) (w : wd) (x : Nat) (A1 : Nat → Nat) (A2 : Nat → Nat) (A3 : Nat → Nat) (d : Nat) (b : Nat) (hs : Int32) (ft : Int32) (rf : Int32) (ro : Int32) (hX : w x = some ((94, 0), .inr (1, [.ref (A1 0), .ref (A2 0), .ref (A3 0), .int hs, .ref d, .ref b, .int ft, .int rf, .int ro]))) : kC l0 yX1_faultPosition (ws_ yX1_faultPosition cX1_faultPosition 1 (some .int)) rmCX1_faultPosition 0 0 mI E w [.ref x] (fun r w' => w' = w ∧ r = ft) := by
  refine k_open (cc := cX1_faultPosition) (maxL := 1) (ret := (some .int)) (by decide) rfl (Nat.le_of_ble_eq_true rfl) ?_
  intro p e s m args below meth c ls Q hx hb hr hml hown hts hlocks hname hQ hG hP hl hS
  have hl : lv_has ls 1 [(0, .ref x)] := hl
  refine lv_aload_n hx hb dX1_faultPosition_0 rfl (lv_at hl 0 rfl) ?_
  refine k_get hx hb hts in_X1 hown hG hP hX rfl 6 (by decide) (hts _ q282) (fun _ h9 => h9) (v := .int ft) rfl dX1_faultPosition_1 ?_
  exact k_iret hx hb hr hlocks hQ hP hS (by omega) (by omega) dX1_faultPosition_4 (⟨rfl, rfl⟩)

abbrev rmCX1_isBalanced : Room := { frames := 3, cells := 0, slots := 0, locals := 66 }
theorem dyX1_isBalanced : yX1_isBalanced.cls = RX1 ∧ yX1_isBalanced.cls ≠ "java/lang/invoke/MethodHandle" ∧ yX1_isBalanced.cls ≠ "java/lang/invoke/VarHandle" ∧ (parseMethodDescriptor yX1_isBalanced.desc).map (fun d => d.parameters.length) = some 0 := by decide +kernel
set_option maxHeartbeats 4000000 in
theorem CX1_isBalanced (l0 : Launch) (E : gE) (w : wd) (x : Nat) (A1 : Nat → Nat) (A2 : Nat → Nat) (A3 : Nat → Nat) (d : Nat) (b : Nat) (hs : Int32) (ft : Int32) (rf : Int32) (ro : Int32) (g : Nat → Int32) (mn : Nat) (wn : Nat → Int32) (ly : Nat → Int32) (N : Nat) (hI : gI g mn N) (hX : w x = some ((94, 0), .inr (1, [.ref (A1 0), .ref (A2 0), .ref (A3 0), .int hs, .ref d, .ref b, .int ft, .int rf, .int ro]))) (hM : townR E w 1 A1 g mn wn ly) : kC l0 yX1_isBalanced (ws_ yX1_isBalanced cX1_isBalanced 1 (some .boolean)) rmCX1_isBalanced 0 0 mI E w [.ref x] (fun r w' => w' = w ∧ r = (bI (tBal g mn))) := by
  refine k_open (cc := cX1_isBalanced) (maxL := 1) (ret := (some .boolean)) (by decide) rfl (Nat.le_of_ble_eq_true rfl) ?_
  intro p e s m args below meth c ls Q hx hb hr hml hown hts hlocks hname hQ hG hP hl hS
  have hl : lv_has ls 1 [(0, .ref x)] := hl
  refine lv_aload_n hx hb dX1_isBalanced_0 rfl (lv_at hl 0 rfl) ?_
  refine k_get hx hb hts in_X1 hown hG hP hX rfl 0 (by decide) (hts _ q276) (fun _ h9 => h9) (v := .ref (A1 0)) rfl dX1_isBalanced_1 ?_
  have hT_1 := hM.1
  refine k_cV hx hb hml hown hts (CX2_isBalanced l0 E w 1 A1 g mn wn ly N hI hM) (cwV 0 hts (lw_V q312 q313 q314 q70 q315) rfl rfl rfl dyX2_isBalanced ⟨Nat.le_of_ble_eq_true rfl, Nat.le_of_ble_eq_true rfl⟩) hG hP hS hT_1 rfl (As := []) (rest := []) rfl hl.1 rfl (lv_room (Nat.le_of_ble_eq_true rfl)) dX1_isBalanced_4 ⟨show 0 + 0 ≤ 0 from by omega, show 0 + 0 ≤ 0 from by omega⟩ (fun r9 w9 H locs hp hP hS => ?_)
  obtain ⟨hp1, hp0⟩ := hp
  rw [hp1] at hP
  rw [hp0]
  show W p l0 e rmCX1_isBalanced s m args below meth c H locs 0 0 Q (F0 m 7 ls [.int (bI (tBal g mn))])
  exact k_zret hx hb hr hlocks hQ hP hS (by omega) (by omega) dX1_isBalanced_7 (bI_nar _) (⟨rfl, rfl⟩)

abbrev rmCX1_account : Room := { frames := 8, cells := 1, slots := 6, locals := 127 }
theorem dyX1_account : yX1_account.cls = RX1 ∧ yX1_account.cls ≠ "java/lang/invoke/MethodHandle" ∧ yX1_account.cls ≠ "java/lang/invoke/VarHandle" ∧ (parseMethodDescriptor yX1_account.desc).map (fun d => d.parameters.length) = some 1 := by decide +kernel
set_option maxHeartbeats 4000000 in
theorem CX1_account (l0 : Launch) (hl0 : l0.stackTraces = false) (E : gE) (w : wd) (x : Nat) (A1 : Nat → Nat) (A2 : Nat → Nat) (A3 : Nat → Nat) (d : Nat) (b : Nat) (hs : Int32) (ft : Int32) (rf : Int32) (ro : Int32) (g : Nat → Int32) (mn : Nat) (wn : Nat → Int32) (ly : Nat → Int32) (cn : Nat) (I : Nat → Nat) (K : Nat → Nat → Int32) (mk : Nat → Nat) (B : Nat → Int32) (nb : Nat) (N : Nat) (y : Int32) (fc : Nat → Int32) (hI : gI g mn N) (hf9 : fc 9 = nI nb) (hf6 : fc 6 = nI cn) (hX : w x = some ((94, 0), .inr (1, [.ref (A1 0), .ref (A2 0), .ref (A3 0), .int hs, .ref d, .ref b, .int ft, .int rf, .int ro]))) (hM : townR E w 1 A1 g mn wn ly) (hK : kpR E w d cn I K mk) (hSB : sbR E w b B nb) : kX l0 yX1_account (ws_ yX1_account cX1_account 2 (some .int)) rmCX1_account 1 6 mI E w [.ref x, .int y] (fun r w' => w' = w ∧ (qAcc fc g mn y).1 = 0 ∧ r = (qAcc fc g mn y).2) (pxL [(nIA, 1)] w (qAcc fc g mn y).1) := by
  refine kx_open (cc := cX1_account) (maxL := 2) (ret := (some .int)) (by decide) rfl (Nat.le_of_ble_eq_true rfl) ?_
  intro p e s m args below meth c ls Q hx hb hr hml hown hts hlocks hname ht hQ hG hP hl hS
  have hl : lv_has ls 2 [(0, .ref x), (1, .int y)] := hl
  have hm6 := hM.m25
  obtain ⟨q, hd, f, As, ⟨⟨hhd, hc8⟩, hI9⟩, ⟨hD, hA⟩, hf8, hKt⟩ := hK
  have htl : (hd + cn) % 17 < 17 := by omega
  obtain ⟨qb, cb, hB9⟩ := hSB.obj
  refine lv_iload_n hx hb dX1_account_0 rfl (lv_at hl 1 rfl) ?_
  refine lv_iconst (v := 0) hx hb dX1_account_1 (by decide) ?_
  refine lv_bipush (v := 13) hx hb dX1_account_2 (by decide) ?_
  refine k_cS hx hb hml hown hts (CX1_in l0 E w y 0 13) (va_cwS 3 hts (lw_S q453 q454 q69 q455) rfl rfl rfl dyX1_in ⟨Nat.le_of_ble_eq_true rfl, Nat.le_of_ble_eq_true rfl⟩) hG hP hS (As := [.int y, .int 0, .int 13]) (rest := []) rfl hl.1 rfl (lv_room (Nat.le_of_ble_eq_true rfl)) dX1_account_4 ⟨show 0 + 0 ≤ 1 from by omega, show 0 + 0 ≤ 6 from by omega⟩ (fun r9 w9 H locs hp hP hS => ?_)
  obtain ⟨hp1, hp0⟩ := hp
  rw [hp1] at hP
  rw [hp0]
  show W p l0 e rmCX1_account s m args below meth c H locs 0 0 Q (F0 m 7 ls [.int (bI (tin y 0 13))])
  refine kx_cS hx hb hml hown hts hQ ht hlocks (CX1_check l0 hl0 E w (tin y 0 13)) (va_cwS 1 hts (lw_S q483 q484 q69 q485) rfl rfl rfl dyX1_check ⟨Nat.le_of_ble_eq_true rfl, Nat.le_of_ble_eq_true rfl⟩) hG hP hS (As := [.int (bI (tin y 0 13))]) (rest := []) rfl hl.1 rfl (lv_room (Nat.le_of_ble_eq_true rfl)) dX1_account_7 ⟨show 0 + 1 ≤ 1 from by omega, show 0 + 6 ≤ 6 from by omega⟩ ⟨show 0 + 1 ≤ 1 from by omega, show 0 + 6 ≤ 6 from by omega⟩ (fun X9 q9 w9 h9 => pxL.mk' (k := 1) h9.1 (by simp [qAcc, h9.2.2]) (by decide) h9.2.1 rfl) (fun r9 w9 H locs hp hP hS => ?_)
  obtain ⟨hp1, hp0⟩ := hp
  rw [hp1] at hP
  have hk9 := hp0
  show W p l0 e rmCX1_account s m args below meth c H locs (0 + 1) (0 + 6) Q (F0 m 10 ls [])
  obtain ⟨kw, hkw, rfl⟩ := tin_N (n := 13) (by decide) hk9
  have ckw : (nI kw).toNatClampNeg = kw := nI_clamp (by omega)
  refine lv_iload_n hx hb dX1_account_10 rfl (lv_at hl 1 rfl) ?_
  rcases (show kw = 0 ∨ kw = 1 ∨ kw = 2 ∨ kw = 3 ∨ kw = 4 ∨ kw = 5 ∨ kw = 6 ∨ kw = 7 ∨ kw = 8 ∨ kw = 9 ∨ kw = 10 ∨ kw = 11 ∨ kw = 12 ∨ kw = 13 from by omega) with rfl | rfl | rfl | rfl | rfl | rfl | rfl | rfl | rfl | rfl | rfl | rfl | rfl | rfl
  · skip
    refine lv_tableIn (tgt := 76) hx hb dX1_account_11 (by decide) (by decide) (off := 65) rfl (by decide) ?_
    refine lv_aload_n hx hb dX1_account_76 rfl (lv_at hl 0 rfl) ?_
    refine k_get hx hb hts in_X1 hown hG hP hX rfl 0 (by decide) (hts _ q276) (fun _ h9 => h9) (v := .ref (A1 0)) rfl dX1_account_77 ?_
    have hT_1 := hM.1
    refine k_getN hx hb hts in_X2 hown hG hP hT_1 rfl 3 (by decide) (hG.2.1.1 _ q187 rfl) (fun _ h9 => h9) (v := .int (nI mn)) rfl dX1_account_80 ?_
    exact kx_iret hx hb hr hlocks hQ hP hS (by omega) (by omega) dX1_account_83 (⟨rfl, by rw [qAcc, if_pos hk9, ckw]; first | exact ⟨rfl, rfl⟩ | exact ⟨rfl, hf9.symm⟩ | exact ⟨rfl, hf6.symm⟩⟩)
  · skip
    refine lv_tableIn (tgt := 84) hx hb dX1_account_11 (by decide) (by decide) (off := 73) rfl (by decide) ?_
    refine lv_aload_n hx hb dX1_account_84 rfl (lv_at hl 0 rfl) ?_
    refine k_get hx hb hts in_X1 hown hG hP hX rfl 0 (by decide) (hts _ q276) (fun _ h9 => h9) (v := .ref (A1 0)) rfl dX1_account_85 ?_
    refine lv_iload_n hx hb dX1_account_88 rfl (lv_at hl 1 rfl) ?_
    refine lv_iconst (v := 1) hx hb dX1_account_89 (by decide) ?_
    refine k_isubN (x := 1) (y := 1) hx hb ((by decide)) dX1_account_90 ?_
    have hT_2 := hM.1
    refine k_cV hx hb hml hown hts (CX2_inState l0 E w 1 A1 g mn wn ly (nI (1 - 1)) hM) (cwV 1 hts (lw_V q1528 q676 q677 q70 q678) rfl rfl rfl dyX2_inState ⟨Nat.le_of_ble_eq_true rfl, Nat.le_of_ble_eq_true rfl⟩) hG hP hS hT_2 rfl (As := [.int (nI (1 - 1))]) (rest := []) rfl hl.1 rfl (lv_room (Nat.le_of_ble_eq_true rfl)) dX1_account_91 ⟨show (0 + 1) + 0 ≤ 1 from by omega, show (0 + 6) + 0 ≤ 6 from by omega⟩ (fun r9 w9 H locs hp hP hS => ?_)
    obtain ⟨hp1, hp0⟩ := hp
    rw [hp1] at hP
    rw [hp0]
    show W p l0 e rmCX1_account s m args below meth c H locs (0 + 1) (0 + 6) Q (F0 m 94 ls [.int (tIn g (nI (1 - 1)) mn)])
    exact kx_iret hx hb hr hlocks hQ hP hS (by omega) (by omega) dX1_account_94 (⟨rfl, by rw [qAcc, if_pos hk9, ckw]; first | exact ⟨rfl, rfl⟩ | exact ⟨rfl, hf9.symm⟩ | exact ⟨rfl, hf6.symm⟩⟩)
  · skip
    refine lv_tableIn (tgt := 84) hx hb dX1_account_11 (by decide) (by decide) (off := 73) rfl (by decide) ?_
    refine lv_aload_n hx hb dX1_account_84 rfl (lv_at hl 0 rfl) ?_
    refine k_get hx hb hts in_X1 hown hG hP hX rfl 0 (by decide) (hts _ q276) (fun _ h9 => h9) (v := .ref (A1 0)) rfl dX1_account_85 ?_
    refine lv_iload_n hx hb dX1_account_88 rfl (lv_at hl 1 rfl) ?_
    refine lv_iconst (v := 1) hx hb dX1_account_89 (by decide) ?_
    refine k_isubN (x := 2) (y := 1) hx hb ((by decide)) dX1_account_90 ?_
    have hT_3 := hM.1
    refine k_cV hx hb hml hown hts (CX2_inState l0 E w 1 A1 g mn wn ly (nI (2 - 1)) hM) (cwV 1 hts (lw_V q1528 q676 q677 q70 q678) rfl rfl rfl dyX2_inState ⟨Nat.le_of_ble_eq_true rfl, Nat.le_of_ble_eq_true rfl⟩) hG hP hS hT_3 rfl (As := [.int (nI (2 - 1))]) (rest := []) rfl hl.1 rfl (lv_room (Nat.le_of_ble_eq_true rfl)) dX1_account_91 ⟨show (0 + 1) + 0 ≤ 1 from by omega, show (0 + 6) + 0 ≤ 6 from by omega⟩ (fun r9 w9 H locs hp hP hS => ?_)
    obtain ⟨hp1, hp0⟩ := hp
    rw [hp1] at hP
    rw [hp0]
    show W p l0 e rmCX1_account s m args below meth c H locs (0 + 1) (0 + 6) Q (F0 m 94 ls [.int (tIn g (nI (2 - 1)) mn)])
    exact kx_iret hx hb hr hlocks hQ hP hS (by omega) (by omega) dX1_account_94 (⟨rfl, by rw [qAcc, if_pos hk9, ckw]; first | exact ⟨rfl, rfl⟩ | exact ⟨rfl, hf9.symm⟩ | exact ⟨rfl, hf6.symm⟩⟩)
  · skip
    refine lv_tableIn (tgt := 84) hx hb dX1_account_11 (by decide) (by decide) (off := 73) rfl (by decide) ?_
    refine lv_aload_n hx hb dX1_account_84 rfl (lv_at hl 0 rfl) ?_
    refine k_get hx hb hts in_X1 hown hG hP hX rfl 0 (by decide) (hts _ q276) (fun _ h9 => h9) (v := .ref (A1 0)) rfl dX1_account_85 ?_
    refine lv_iload_n hx hb dX1_account_88 rfl (lv_at hl 1 rfl) ?_
    refine lv_iconst (v := 1) hx hb dX1_account_89 (by decide) ?_
    refine k_isubN (x := 3) (y := 1) hx hb ((by decide)) dX1_account_90 ?_
    have hT_4 := hM.1
    refine k_cV hx hb hml hown hts (CX2_inState l0 E w 1 A1 g mn wn ly (nI (3 - 1)) hM) (cwV 1 hts (lw_V q1528 q676 q677 q70 q678) rfl rfl rfl dyX2_inState ⟨Nat.le_of_ble_eq_true rfl, Nat.le_of_ble_eq_true rfl⟩) hG hP hS hT_4 rfl (As := [.int (nI (3 - 1))]) (rest := []) rfl hl.1 rfl (lv_room (Nat.le_of_ble_eq_true rfl)) dX1_account_91 ⟨show (0 + 1) + 0 ≤ 1 from by omega, show (0 + 6) + 0 ≤ 6 from by omega⟩ (fun r9 w9 H locs hp hP hS => ?_)
    obtain ⟨hp1, hp0⟩ := hp
    rw [hp1] at hP
    rw [hp0]
    show W p l0 e rmCX1_account s m args below meth c H locs (0 + 1) (0 + 6) Q (F0 m 94 ls [.int (tIn g (nI (3 - 1)) mn)])
    exact kx_iret hx hb hr hlocks hQ hP hS (by omega) (by omega) dX1_account_94 (⟨rfl, by rw [qAcc, if_pos hk9, ckw]; first | exact ⟨rfl, rfl⟩ | exact ⟨rfl, hf9.symm⟩ | exact ⟨rfl, hf6.symm⟩⟩)
  · skip
    refine lv_tableIn (tgt := 95) hx hb dX1_account_11 (by decide) (by decide) (off := 84) rfl (by decide) ?_
    refine lv_aload_n hx hb dX1_account_95 rfl (lv_at hl 0 rfl) ?_
    refine k_get hx hb hts in_X1 hown hG hP hX rfl 0 (by decide) (hts _ q276) (fun _ h9 => h9) (v := .ref (A1 0)) rfl dX1_account_96 ?_
    have hT_5 := hM.1
    refine k_getN hx hb hts in_X2 hown hG hP hT_5 rfl 4 (by decide) (hG.2.1.1 _ q189 rfl) (fun _ h9 => h9) (v := .int (g 20)) rfl dX1_account_99 ?_
    exact kx_iret hx hb hr hlocks hQ hP hS (by omega) (by omega) dX1_account_102 (⟨rfl, by rw [qAcc, if_pos hk9, ckw]; first | exact ⟨rfl, rfl⟩ | exact ⟨rfl, hf9.symm⟩ | exact ⟨rfl, hf6.symm⟩⟩)
  · skip
    refine lv_tableIn (tgt := 103) hx hb dX1_account_11 (by decide) (by decide) (off := 92) rfl (by decide) ?_
    refine lv_aload_n hx hb dX1_account_103 rfl (lv_at hl 0 rfl) ?_
    refine k_get hx hb hts in_X1 hown hG hP hX rfl 0 (by decide) (hts _ q276) (fun _ h9 => h9) (v := .ref (A1 0)) rfl dX1_account_104 ?_
    have hT_6 := hM.1
    refine k_getN hx hb hts in_X2 hown hG hP hT_6 rfl 5 (by decide) (hG.2.1.1 _ q191 rfl) (fun _ h9 => h9) (v := .int (g 21)) rfl dX1_account_107 ?_
    exact kx_iret hx hb hr hlocks hQ hP hS (by omega) (by omega) dX1_account_110 (⟨rfl, by rw [qAcc, if_pos hk9, ckw]; first | exact ⟨rfl, rfl⟩ | exact ⟨rfl, hf9.symm⟩ | exact ⟨rfl, hf6.symm⟩⟩)
  · skip
    refine lv_tableIn (tgt := 111) hx hb dX1_account_11 (by decide) (by decide) (off := 100) rfl (by decide) ?_
    refine lv_aload_n hx hb dX1_account_111 rfl (lv_at hl 0 rfl) ?_
    refine k_get hx hb hts in_X1 hown hG hP hX rfl 0 (by decide) (hts _ q276) (fun _ h9 => h9) (v := .ref (A1 0)) rfl dX1_account_112 ?_
    have hT_7 := hM.1
    refine k_cV hx hb hml hown hts (CX2_out l0 E w 1 A1 g mn wn ly N hI hM) (cwV 0 hts (lw_V q1529 q317 q318 q70 q319) rfl rfl rfl dyX2_out ⟨Nat.le_of_ble_eq_true rfl, Nat.le_of_ble_eq_true rfl⟩) hG hP hS hT_7 rfl (As := []) (rest := []) rfl hl.1 rfl (lv_room (Nat.le_of_ble_eq_true rfl)) dX1_account_115 ⟨show (0 + 1) + 0 ≤ 1 from by omega, show (0 + 6) + 0 ≤ 6 from by omega⟩ (fun r9 w9 H locs hp hP hS => ?_)
    obtain ⟨hp1, hp0⟩ := hp
    rw [hp1] at hP
    rw [hp0]
    show W p l0 e rmCX1_account s m args below meth c H locs (0 + 1) (0 + 6) Q (F0 m 118 ls [.int (tSu g 5 mn)])
    exact kx_iret hx hb hr hlocks hQ hP hS (by omega) (by omega) dX1_account_118 (⟨rfl, by rw [qAcc, if_pos hk9, ckw]; first | exact ⟨rfl, rfl⟩ | exact ⟨rfl, hf9.symm⟩ | exact ⟨rfl, hf6.symm⟩⟩)
  · skip
    refine lv_tableIn (tgt := 119) hx hb dX1_account_11 (by decide) (by decide) (off := 108) rfl (by decide) ?_
    refine lv_aload_n hx hb dX1_account_119 rfl (lv_at hl 0 rfl) ?_
    refine k_get hx hb hts in_X1 hown hG hP hX rfl 0 (by decide) (hts _ q276) (fun _ h9 => h9) (v := .ref (A1 0)) rfl dX1_account_120 ?_
    have hT_8 := hM.1
    refine k_getN hx hb hts in_X2 hown hG hP hT_8 rfl 7 (by decide) (hG.2.1.1 _ q195 rfl) (fun _ h9 => h9) (v := .int (g 22)) rfl dX1_account_123 ?_
    exact kx_iret hx hb hr hlocks hQ hP hS (by omega) (by omega) dX1_account_126 (⟨rfl, by rw [qAcc, if_pos hk9, ckw]; first | exact ⟨rfl, rfl⟩ | exact ⟨rfl, hf9.symm⟩ | exact ⟨rfl, hf6.symm⟩⟩)
  · skip
    refine lv_tableIn (tgt := 127) hx hb dX1_account_11 (by decide) (by decide) (off := 116) rfl (by decide) ?_
    refine lv_aload_n hx hb dX1_account_127 rfl (lv_at hl 0 rfl) ?_
    refine k_get hx hb hts in_X1 hown hG hP hX rfl 0 (by decide) (hts _ q276) (fun _ h9 => h9) (v := .ref (A1 0)) rfl dX1_account_128 ?_
    have hT_9 := hM.1
    refine k_getN hx hb hts in_X2 hown hG hP hT_9 rfl 6 (by decide) (hG.2.1.1 _ q193 rfl) (fun _ h9 => h9) (v := .int (g 23)) rfl dX1_account_131 ?_
    exact kx_iret hx hb hr hlocks hQ hP hS (by omega) (by omega) dX1_account_134 (⟨rfl, by rw [qAcc, if_pos hk9, ckw]; first | exact ⟨rfl, rfl⟩ | exact ⟨rfl, hf9.symm⟩ | exact ⟨rfl, hf6.symm⟩⟩)
  · skip
    refine lv_tableIn (tgt := 135) hx hb dX1_account_11 (by decide) (by decide) (off := 124) rfl (by decide) ?_
    refine lv_aload_n hx hb dX1_account_135 rfl (lv_at hl 0 rfl) ?_
    refine k_get hx hb hts in_X1 hown hG hP hX rfl 0 (by decide) (hts _ q276) (fun _ h9 => h9) (v := .ref (A1 0)) rfl dX1_account_136 ?_
    have hT_10 := hM.1
    refine k_getN hx hb hts in_X2 hown hG hP hT_10 rfl 8 (by decide) (hG.2.1.1 _ q197 rfl) (fun _ h9 => h9) (v := .int (g 24)) rfl dX1_account_139 ?_
    exact kx_iret hx hb hr hlocks hQ hP hS (by omega) (by omega) dX1_account_142 (⟨rfl, by rw [qAcc, if_pos hk9, ckw]; first | exact ⟨rfl, rfl⟩ | exact ⟨rfl, hf9.symm⟩ | exact ⟨rfl, hf6.symm⟩⟩)
  · skip
    refine lv_tableIn (tgt := 143) hx hb dX1_account_11 (by decide) (by decide) (off := 132) rfl (by decide) ?_
    refine lv_aload_n hx hb dX1_account_143 rfl (lv_at hl 0 rfl) ?_
    refine k_get hx hb hts in_X1 hown hG hP hX rfl 0 (by decide) (hts _ q276) (fun _ h9 => h9) (v := .ref (A1 0)) rfl dX1_account_144 ?_
    have hT_11 := hM.1
    refine k_cV hx hb hml hown hts (CX2_crossings l0 E w 1 A1 g mn wn ly N hI hM) (cwV 0 hts (lw_V q1530 q1531 q1532 q70 q1533) rfl rfl rfl dyX2_crossings ⟨Nat.le_of_ble_eq_true rfl, Nat.le_of_ble_eq_true rfl⟩) hG hP hS hT_11 rfl (As := []) (rest := []) rfl hl.1 rfl (lv_room (Nat.le_of_ble_eq_true rfl)) dX1_account_147 ⟨show (0 + 1) + 0 ≤ 1 from by omega, show (0 + 6) + 0 ≤ 6 from by omega⟩ (fun r9 w9 H locs hp hP hS => ?_)
    obtain ⟨hp1, hp0⟩ := hp
    rw [hp1] at hP
    rw [hp0]
    show W p l0 e rmCX1_account s m args below meth c H locs (0 + 1) (0 + 6) Q (F0 m 150 ls [.int (tPr g mn)])
    exact kx_iret hx hb hr hlocks hQ hP hS (by omega) (by omega) dX1_account_150 (⟨rfl, by rw [qAcc, if_pos hk9, ckw]; first | exact ⟨rfl, rfl⟩ | exact ⟨rfl, hf9.symm⟩ | exact ⟨rfl, hf6.symm⟩⟩)
  · skip
    refine lv_tableIn (tgt := 151) hx hb dX1_account_11 (by decide) (by decide) (off := 140) rfl (by decide) ?_
    refine lv_aload_n hx hb dX1_account_151 rfl (lv_at hl 0 rfl) ?_
    refine k_get hx hb hts in_X1 hown hG hP hX rfl 0 (by decide) (hts _ q276) (fun _ h9 => h9) (v := .ref (A1 0)) rfl dX1_account_152 ?_
    have hT_12 := hM.1
    refine k_cV hx hb hml hown hts (CX2_points l0 E w 1 A1 g mn wn ly hM) (cwV 0 hts (lw_V q1534 q1535 q1536 q70 q1537) rfl rfl rfl dyX2_points ⟨Nat.le_of_ble_eq_true rfl, Nat.le_of_ble_eq_true rfl⟩) hG hP hS hT_12 rfl (As := []) (rest := []) rfl hl.1 rfl (lv_room (Nat.le_of_ble_eq_true rfl)) dX1_account_155 ⟨show (0 + 1) + 0 ≤ 1 from by omega, show (0 + 6) + 0 ≤ 6 from by omega⟩ (fun r9 w9 H locs hp hP hS => ?_)
    obtain ⟨hp1, hp0⟩ := hp
    rw [hp1] at hP
    rw [hp0]
    show W p l0 e rmCX1_account s m args below meth c H locs (0 + 1) (0 + 6) Q (F0 m 158 ls [.int (tSu g 8 mn)])
    exact kx_iret hx hb hr hlocks hQ hP hS (by omega) (by omega) dX1_account_158 (⟨rfl, by rw [qAcc, if_pos hk9, ckw]; first | exact ⟨rfl, rfl⟩ | exact ⟨rfl, hf9.symm⟩ | exact ⟨rfl, hf6.symm⟩⟩)
  · skip
    refine lv_tableIn (tgt := 159) hx hb dX1_account_11 (by decide) (by decide) (off := 148) rfl (by decide) ?_
    refine lv_aload_n hx hb dX1_account_159 rfl (lv_at hl 0 rfl) ?_
    refine k_get hx hb hts in_X1 hown hG hP hX rfl 5 (by decide) (hts _ q281) (fun _ h9 => h9) (v := .ref b) rfl dX1_account_160 ?_
    refine k_cV hx hb hml hown hts (CJ4_length l0 E w b qb nb cb hB9) (cwV 0 hts (lw_V q1077 q1078 q1079 q78 q1080) rfl rfl rfl dyJ4_length ⟨Nat.le_of_ble_eq_true rfl, Nat.le_of_ble_eq_true rfl⟩) hG hP hS hB9 rfl (As := []) (rest := []) rfl hl.1 rfl (lv_room (Nat.le_of_ble_eq_true rfl)) dX1_account_163 ⟨show (0 + 1) + 0 ≤ 1 from by omega, show (0 + 6) + 0 ≤ 6 from by omega⟩ (fun r9 w9 H locs hp hP hS => ?_)
    obtain ⟨hp1, hp0⟩ := hp
    rw [hp1] at hP
    rw [hp0]
    show W p l0 e rmCX1_account s m args below meth c H locs (0 + 1) (0 + 6) Q (F0 m 166 ls [.int (nI nb)])
    exact kx_iret hx hb hr hlocks hQ hP hS (by omega) (by omega) dX1_account_166 (⟨rfl, by rw [qAcc, if_pos hk9, ckw]; first | exact ⟨rfl, rfl⟩ | exact ⟨rfl, hf9.symm⟩ | exact ⟨rfl, hf6.symm⟩⟩)
  · skip
    refine lv_tableOut (tgt := 167) hx hb dX1_account_11 (by decide) (by decide) ?_
    refine lv_aload_n hx hb dX1_account_167 rfl (lv_at hl 0 rfl) ?_
    refine k_get hx hb hts in_X1 hown hG hP hX rfl 4 (by decide) (hts _ q280) (fun _ h9 => h9) (v := .ref d) rfl dX1_account_168 ?_
    refine k_cV hx hb hml hown hts (CJ2_size l0 E w d q hd ((hd + cn) % 17) f (by omega) (by omega) hD hA) (cwV 0 hts (lw_V q505 q506 q507 q76 q508) rfl rfl rfl dyJ2_size ⟨Nat.le_of_ble_eq_true rfl, Nat.le_of_ble_eq_true rfl⟩) hG hP hS hD rfl (As := []) (rest := []) rfl hl.1 rfl (lv_room (Nat.le_of_ble_eq_true rfl)) dX1_account_171 ⟨show (0 + 1) + 0 ≤ 1 from by omega, show (0 + 6) + 0 ≤ 6 from by omega⟩ (fun r9 w9 H locs hp hP hS => ?_)
    obtain ⟨hp1, hp0⟩ := hp
    rw [hp1] at hP
    rw [hp0]
    show W p l0 e rmCX1_account s m args below meth c H locs (0 + 1) (0 + 6) Q (F0 m 174 ls [.int (nI ((((hd + cn) % 17) + 17 - hd) % 17))])
    refine k_top (y := (nI cn)) (by rw [kp_sz hhd hc8]) ?_
    exact kx_iret hx hb hr hlocks hQ hP hS (by omega) (by omega) dX1_account_174 (⟨rfl, by rw [qAcc, if_pos hk9, ckw]; first | exact ⟨rfl, rfl⟩ | exact ⟨rfl, hf9.symm⟩ | exact ⟨rfl, hf6.symm⟩⟩)

abbrev rmCX1_append : Room := { frames := 8, cells := 3, slots := 320, locals := 179 }
theorem dyX1_append : yX1_append.cls = RX1 ∧ yX1_append.cls ≠ "java/lang/invoke/MethodHandle" ∧ yX1_append.cls ≠ "java/lang/invoke/VarHandle" ∧ (parseMethodDescriptor yX1_append.desc).map (fun d => d.parameters.length) = some 1 := by decide +kernel
set_option maxHeartbeats 4000000 in
theorem CX1_append (l0 : Launch) (hl0 : l0.stackTraces = false) (E : gE) (w : wd) (x : Nat) (A1 : Nat → Nat) (A2 : Nat → Nat) (A3 : Nat → Nat) (d : Nat) (b : Nat) (hs : Int32) (ft : Int32) (rf : Int32) (ro : Int32) (B : Nat → Int32) (nb : Nat) (k : Nat) (hk : k < 65536) (hX : w x = some ((94, 0), .inr (1, [.ref (A1 0), .ref (A2 0), .ref (A3 0), .int hs, .ref d, .ref b, .int ft, .int rf, .int ro]))) (hSB : sbR E w b B nb) : kX l0 yX1_append (ws_ yX1_append cX1_append 2 (some .int)) rmCX1_append 3 320 mI E w [.ref x, .int (nI k)] (fun r w' => (nb < 60 ∧ r = nI (nb + 1)) ∧ (sbR E w' b (va_up B nb (nI k)) (nb + 1) ∧ True) ∧ fr pB w w') (fun X9 q9 w' => X9 = nIS ∧ w' = w ∧ nb = 60) := by
  refine kx_open (cc := cX1_append) (maxL := 2) (ret := (some .int)) (by decide) rfl (Nat.le_of_ble_eq_true rfl) ?_
  intro p e s m args below meth c ls Q hx hb hr hml hown hts hlocks hname ht hQ hG hP hl hS
  have hl : lv_has ls 2 [(0, .ref x), (1, .int (nI k))] := hl
  obtain ⟨w0, hw0⟩ : ∃ z, z = w := ⟨_, rfl⟩
  have hF : fr pB w0 w := by rw [hw0]; exact fr.rf
  rw [← hw0] at hQ
  have hn60 := hSB.le
  obtain ⟨qb, cb, hB9⟩ := hSB.obj
  refine lv_aload_n hx hb dX1_append_0 rfl (lv_at hl 0 rfl) ?_
  refine k_get hx hb hts in_X1 hown hG hP hX rfl 5 (by decide) (hts _ q281) (fun _ h9 => h9) (v := .ref b) rfl dX1_append_1 ?_
  refine k_cV hx hb hml hown hts (CJ4_length l0 E w b qb nb cb hB9) (cwV 0 hts (lw_V q1077 q1078 q1079 q78 q1080) rfl rfl rfl dyJ4_length ⟨Nat.le_of_ble_eq_true rfl, Nat.le_of_ble_eq_true rfl⟩) hG hP hS hB9 rfl (As := []) (rest := []) rfl hl.1 rfl (lv_room (Nat.le_of_ble_eq_true rfl)) dX1_append_4 ⟨show 0 + 0 ≤ 3 from by omega, show 0 + 0 ≤ 320 from by omega⟩ (fun r9 w9 H locs hp hP hS => ?_)
  obtain ⟨hp1, hp0⟩ := hp
  rw [hp1] at hP
  rw [hp0]
  show W p l0 e rmCX1_append s m args below meth c H locs 0 0 Q (F0 m 7 ls [.int (nI nb)])
  refine lv_bipush (v := 60) hx hb dX1_append_7 (by decide) ?_
  refine k_icmp_geN (x := nb) (y := 60) (tgt := 16) hx hb (by omega) (by omega) dX1_append_9 (by decide) (fun c9 => ?_) (fun c9 => ?_)
  · skip
    refine lv_iconst (v := 0) hx hb dX1_append_16 (by decide) ?_
    refine kx_cS hx hb hml hown hts hQ ht hlocks (CX1_checkState l0 hl0 E w false) (va_cwS 1 hts (lw_S q1084 q1085 q69 q1086) rfl rfl rfl dyX1_checkState ⟨Nat.le_of_ble_eq_true rfl, Nat.le_of_ble_eq_true rfl⟩) hG hP hS (As := [.int 0]) (rest := []) rfl hl.1 rfl (lv_room (Nat.le_of_ble_eq_true rfl)) dX1_append_17 ⟨show 0 + 1 ≤ 3 from by omega, show 0 + 6 ≤ 320 from by omega⟩ ⟨show 0 + 1 ≤ 3 from by omega, show 0 + 6 ≤ 320 from by omega⟩ (fun X9 q9 w9 h9 => ⟨h9.1, h9.2.1.trans hw0.symm, by omega⟩) (fun r9 w9 H locs hp hP hS => ?_)
    obtain ⟨hp1, hp0⟩ := hp
    rw [hp1] at hP
    show W p l0 e rmCX1_append s m args below meth c H locs (0 + 1) (0 + 6) Q (F0 m 20 ls [])
    exact absurd hp0 (by decide)
  · skip
    refine lv_iconst (v := 1) hx hb dX1_append_12 (by decide) ?_
    refine lv_goto (tgt := 17) hx hb dX1_append_13 (by decide) ?_
    refine kx_cS hx hb hml hown hts hQ ht hlocks (CX1_checkState l0 hl0 E w true) (va_cwS 1 hts (lw_S q1084 q1085 q69 q1086) rfl rfl rfl dyX1_checkState ⟨Nat.le_of_ble_eq_true rfl, Nat.le_of_ble_eq_true rfl⟩) hG hP hS (As := [.int 1]) (rest := []) rfl hl.1 rfl (lv_room (Nat.le_of_ble_eq_true rfl)) dX1_append_17 ⟨show 0 + 1 ≤ 3 from by omega, show 0 + 6 ≤ 320 from by omega⟩ ⟨show 0 + 1 ≤ 3 from by omega, show 0 + 6 ≤ 320 from by omega⟩ (fun X9 q9 w9 h9 => absurd h9.2.2 (by decide)) (fun r9 w9 H locs hp hP hS => ?_)
    obtain ⟨hp1, hp0⟩ := hp
    rw [hp1] at hP
    show W p l0 e rmCX1_append s m args below meth c H locs (0 + 1) (0 + 6) Q (F0 m 20 ls [])
    refine lv_aload_n hx hb dX1_append_20 rfl (lv_at hl 0 rfl) ?_
    refine k_get hx hb hts in_X1 hown hG hP hX rfl 5 (by decide) (hts _ q281) (fun _ h9 => h9) (v := .ref b) rfl dX1_append_21 ?_
    refine lv_iload_n hx hb dX1_append_24 rfl (lv_at hl 1 rfl) ?_
    refine k_cV hx hb hml hown hts (CJ4_append l0 E w b B nb k (by omega) (by omega) hSB) (cwV 1 hts (lw_V q1092 q1093 q1094 q78 q1095) rfl rfl rfl dyJ4_append ⟨Nat.le_of_ble_eq_true rfl, Nat.le_of_ble_eq_true rfl⟩) hG hP hS hB9 rfl (As := [.int (nI k)]) (rest := []) rfl hl.1 rfl (lv_room (Nat.le_of_ble_eq_true rfl)) dX1_append_25 ⟨show (0 + 1) + 2 ≤ 3 from by omega, show (0 + 6) + 300 ≤ 320 from by omega⟩ (fun r25 w1 H locs hp hP hS => ?_)
    obtain ⟨hp0, ⟨hSB', -⟩, hf9⟩ := hp
    have hX : w1 x = some ((94, 0), .inr (1, [.ref (A1 0), .ref (A2 0), .ref (A3 0), .int hs, .ref d, .ref b, .int ft, .int rf, .int ro])) := hf9 _ _ _ hX (by intro z9; first | (simp only [pO, pN, pD, pKp, pT, pB, pS, pR, pRd, pRo, Prod.mk.injEq, pX1, pX2, pXs, pX2t] at z9; done) | (simp only [pO, pN, pD, pKp, pT, pB, pS, pR, pRd, pRo, Prod.mk.injEq, pX1, pX2, pXs, pX2t] at z9; omega))
    have hF : fr pB w0 w1 := hF.tr (hf9.up (fun _ h9 => h9))
    have hSB : sbR E w1 b (va_up B nb (nI k)) (nb + 1) := hSB'
    rw [hp0]
    show W p l0 e rmCX1_append s m args below meth c H locs ((0 + 1) + 2) ((0 + 6) + 300) Q (F0 m 28 ls [.ref b])
    obtain ⟨qb2, cb2, hB9⟩ := hSB.obj
    skip
    refine lv_pop hx hb dX1_append_28 rfl ?_
    refine lv_aload_n hx hb dX1_append_29 rfl (lv_at hl 0 rfl) ?_
    refine k_get hx hb hts in_X1 hown hG hP hX rfl 5 (by decide) (hts _ q281) (fun _ h9 => h9) (v := .ref b) rfl dX1_append_30 ?_
    refine k_cV hx hb hml hown hts (CJ4_length l0 E w1 b qb2 (nb + 1) cb2 hB9) (cwV 0 hts (lw_V q1077 q1078 q1079 q78 q1080) rfl rfl rfl dyJ4_length ⟨Nat.le_of_ble_eq_true rfl, Nat.le_of_ble_eq_true rfl⟩) hG hP hS hB9 rfl (As := []) (rest := []) rfl hl.1 rfl (lv_room (Nat.le_of_ble_eq_true rfl)) dX1_append_33 ⟨show ((0 + 1) + 2) + 0 ≤ 3 from by omega, show ((0 + 6) + 300) + 0 ≤ 320 from by omega⟩ (fun r9 w9 H locs hp hP hS => ?_)
    obtain ⟨hp1, hp0⟩ := hp
    rw [hp1] at hP
    rw [hp0]
    show W p l0 e rmCX1_append s m args below meth c H locs ((0 + 1) + 2) ((0 + 6) + 300) Q (F0 m 36 ls [.int (nI (nb + 1))])
    exact kx_iret hx hb hr hlocks hQ hP hS (by omega) (by omega) dX1_append_36 (⟨⟨c9, rfl⟩, ⟨hSB, trivial⟩, hF⟩)
