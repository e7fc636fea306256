/-! THE COMPONENT, 18: orders -/
set_option maxRecDepth 100000
abbrev rmCX1_mayBeKiteOf : Room := { frames := 2, cells := 0, slots := 0, locals := 45 }
theorem dyX1_mayBeKiteOf : yX1_mayBeKiteOf.cls ≠ "java/lang/invoke/MethodHandle" ∧ yX1_mayBeKiteOf.cls ≠ "java/lang/invoke/VarHandle" ∧ (parseMethodDescriptor yX1_mayBeKiteOf.desc).map (fun d => d.parameters.length) = some 1 := by decide +kernel
set_option maxHeartbeats 4000000 in
theorem CX1_mayBeKiteOf (l0 : Launch) (E : gE) (w : wd) (v : Nat → Int32) (y : Nat) (hO : w y = some ((98, 2), .inr (10, [.int (v 1), .int (v 2), .int (v 3), .int (v 4)]))) : kC l0 yX1_mayBeKiteOf (ws_ yX1_mayBeKiteOf cX1_mayBeKiteOf 1 (some .boolean)) rmCX1_mayBeKiteOf 0 0 mI E w [.ref y] (fun r w' => w' = w ∧ r = (bI (tin (v 1) 0 2 && (tin (v 2) 0 40 && (tin (v 3) 10 99 && tin (v 4) 0 9))))) := by
  refine k_open (cc := cX1_mayBeKiteOf) (maxL := 1) (ret := (some .boolean)) (by decide) rfl (Nat.le_of_ble_eq_true rfl) ?_
  intro p e s m args below meth c ls Q hx hb hr hml hown hts hlocks hname hQ hG hP hl hS
  have hl : lv_has ls 1 [(0, .ref y)] := hl
  refine lv_aload_n hx hb dX1_mayBeKiteOf_0 rfl (lv_at hl 0 rfl) ?_
  refine k_getN hx hb hts in_X12 hown hG hP hO rfl 0 (by decide) (hG.2.1.1 _ q1441 rfl) (fun _ h9 => h9) (v := .int (v 1)) rfl dX1_mayBeKiteOf_1 ?_
  refine lv_aload_n hx hb dX1_mayBeKiteOf_4 rfl (lv_at hl 0 rfl) ?_
  refine k_getN hx hb hts in_X12 hown hG hP hO rfl 1 (by decide) (hG.2.1.1 _ q1443 rfl) (fun _ h9 => h9) (v := .int (v 2)) rfl dX1_mayBeKiteOf_5 ?_
  refine lv_aload_n hx hb dX1_mayBeKiteOf_8 rfl (lv_at hl 0 rfl) ?_
  refine k_getN hx hb hts in_X12 hown hG hP hO rfl 2 (by decide) (hG.2.1.1 _ q1445 rfl) (fun _ h9 => h9) (v := .int (v 3)) rfl dX1_mayBeKiteOf_9 ?_
  refine lv_aload_n hx hb dX1_mayBeKiteOf_12 rfl (lv_at hl 0 rfl) ?_
  refine k_getN hx hb hts in_X12 hown hG hP hO rfl 3 (by decide) (hG.2.1.1 _ q1447 rfl) (fun _ h9 => h9) (v := .int (v 4)) rfl dX1_mayBeKiteOf_13 ?_
  refine k_cS hx hb hml hown hts (CX1_mayBeKite l0 E w (v 1) (v 2) (v 3) (v 4)) (va_cwS 4 hts (lw_S q611 q612 q69 q613) rfl rfl rfl dyX1_mayBeKite ⟨Nat.le_of_ble_eq_true rfl, Nat.le_of_ble_eq_true rfl⟩) hG hP hS (As := [.int (v 1), .int (v 2), .int (v 3), .int (v 4)]) (rest := []) rfl hl.1 rfl (lv_room (Nat.le_of_ble_eq_true rfl)) dX1_mayBeKiteOf_16 ⟨show 0 + 0 ≤ 0 from by omega, show 0 + 0 ≤ 0 from by omega⟩ (fun r9 w9 H locs hp hP hS => ?_)
  obtain ⟨hp1, hp0⟩ := hp
  rw [hp1] at hP
  rw [hp0]
  show W p l0 e rmCX1_mayBeKiteOf s m args below meth c H locs 0 0 Q (F0 m 19 ls [.int (bI (tin (v 1) 0 2 && (tin (v 2) 0 40 && (tin (v 3) 10 99 && tin (v 4) 0 9))))])
  exact k_zret hx hb hr hlocks hQ hP hS (by omega) (by omega) dX1_mayBeKiteOf_19 (bI_nar _) (⟨rfl, rfl⟩)

abbrev rmCX1_mayBe : Room := { frames := 3, cells := 0, slots := 0, locals := 65 }
theorem dyX1_mayBe : yX1_mayBe.cls = RX1 ∧ yX1_mayBe.cls ≠ "java/lang/invoke/MethodHandle" ∧ yX1_mayBe.cls ≠ "java/lang/invoke/VarHandle" ∧ (parseMethodDescriptor yX1_mayBe.desc).map (fun d => d.parameters.length) = some 1 := by decide +kernel
set_option maxHeartbeats 4000000 in
theorem CX1_mayBe (l0 : Launch) (E : gE) (w : wd) (x : Nat) (A1 : Nat → Nat) (A2 : Nat → Nat) (A3 : Nat → Nat) (d : Nat) (b : Nat) (hs : Int32) (ft : Int32) (rf : Int32) (ro : Int32) (u2 : Nat → Int32) (m2 : Nat) (wb2 : Nat → Int32) (lb2 : Nat → Int32) (v : Nat → Int32) (y : Nat) (hX : w x = some ((94, 0), .inr (1, [.ref (A1 0), .ref (A2 0), .ref (A3 0), .int hs, .ref d, .ref b, .int ft, .int rf, .int ro]))) (hM2 : townR E w 2 A2 u2 m2 wb2 lb2) (hO : odR w y v) : kC l0 yX1_mayBe (ws_ yX1_mayBe cX1_mayBe 3 (some .boolean)) rmCX1_mayBe 0 0 mI E w [.ref x, .ref y] (fun r w' => w' = w ∧ r = (bI (cMB u2 v))) := by
  refine k_open (cc := cX1_mayBe) (maxL := 3) (ret := (some .boolean)) (by decide) rfl (Nat.le_of_ble_eq_true rfl) ?_
  intro p e s m args below meth c ls Q hx hb hr hml hown hts hlocks hname hQ hG hP hl hS
  have hl : lv_has ls 3 [(0, .ref x), (1, .ref y)] := hl
  rcases ordE_cases hO with ⟨hc0, hO⟩ | ⟨hc0, hO⟩ | ⟨hc0, hO⟩ | ⟨hc0, hO⟩ | ⟨hc0, hO⟩
  · skip
    refine lv_aload_n hx hb dX1_mayBe_0 rfl (lv_at hl 1 rfl) ?_
    refine k_instS hx hb hown (hts _ q1498) hG hP hO rfl dX1_mayBe_1 ?_
    refine lv_if_eq (tgt := 24) hx hb dX1_mayBe_4 (by decide) (fun c4 => ?_) (fun c4 => ?_)
    · skip
      exact absurd c4 (by decide)
    · skip
      refine lv_aload_n hx hb dX1_mayBe_7 rfl (lv_at hl 1 rfl) ?_
      refine k_castS hx hb hown (hts _ q1498) hG hP hO rfl dX1_mayBe_8 ?_
      refine lv_astore_n (lv' := [(2, .ref y), (0, .ref x), (1, .ref y)]) hx hb dX1_mayBe_11 rfl hl (by decide) rfl (fun ls hl => ?_)
      refine lv_aload_n hx hb dX1_mayBe_12 rfl (lv_at hl 0 rfl) ?_
      refine k_getN hx hb hts in_X11 hown hG hP hO rfl 1 (by decide) (hG.2.1.1 _ q1412 rfl) (fun _ h9 => h9) (v := .int (v 2)) rfl dX1_mayBe_13 ?_
      refine lv_aload_n hx hb dX1_mayBe_16 rfl (lv_at hl 0 rfl) ?_
      refine k_getN hx hb hts in_X11 hown hG hP hO rfl 2 (by decide) (hG.2.1.1 _ q1414 rfl) (fun _ h9 => h9) (v := .int (v 3)) rfl dX1_mayBe_17 ?_
      refine k_cS hx hb hml hown hts (CX1_isWind l0 E w (v 2) (v 3)) (va_cwS 2 hts (lw_S q480 q481 q69 q482) rfl rfl rfl dyX1_isWind ⟨Nat.le_of_ble_eq_true rfl, Nat.le_of_ble_eq_true rfl⟩) hG hP hS (As := [.int (v 2), .int (v 3)]) (rest := []) rfl hl.1 rfl (lv_room (Nat.le_of_ble_eq_true rfl)) dX1_mayBe_20 ⟨show 0 + 0 ≤ 0 from by omega, show 0 + 0 ≤ 0 from by omega⟩ (fun r9 w9 H locs hp hP hS => ?_)
      obtain ⟨hp1, hp0⟩ := hp
      rw [hp1] at hP
      rw [hp0]
      show W p l0 e rmCX1_mayBe s m args below meth c H locs 0 0 Q (F0 m 23 ls [.int (bI (tin (v 2) 0 9 && tin (v 3) (-3) 3))])
      exact k_zret hx hb hr hlocks hQ hP hS (by omega) (by omega) dX1_mayBe_23 (bI_nar _) (⟨rfl, by simp [cMB, hc0, bI]⟩)
  · skip
    refine lv_aload_n hx hb dX1_mayBe_0 rfl (lv_at hl 1 rfl) ?_
    refine k_instNo hx hb hown (hts _ q1498) hG hP hO rfl (List.mem_of_getElem? (i := 10) rfl) dX1_mayBe_1 ?_
    refine lv_if_eq (tgt := 24) hx hb dX1_mayBe_4 (by decide) (fun c4 => ?_) (fun c4 => ?_)
    · skip
      refine lv_aload_n hx hb dX1_mayBe_24 rfl (lv_at hl 1 rfl) ?_
      refine k_instS hx hb hown (hts _ q1499) hG hP hO rfl dX1_mayBe_25 ?_
      refine lv_if_eq (tgt := 41) hx hb dX1_mayBe_28 (by decide) (fun c28 => ?_) (fun c28 => ?_)
      · skip
        exact absurd c28 (by decide)
      · skip
        refine lv_aload_n hx hb dX1_mayBe_31 rfl (lv_at hl 1 rfl) ?_
        refine k_castS hx hb hown (hts _ q1499) hG hP hO rfl dX1_mayBe_32 ?_
        refine lv_astore_n (lv' := [(2, .ref y), (0, .ref x), (1, .ref y)]) hx hb dX1_mayBe_35 rfl hl (by decide) rfl (fun ls hl => ?_)
        refine lv_aload_n hx hb dX1_mayBe_36 rfl (lv_at hl 0 rfl) ?_
        refine k_cS hx hb hml hown hts (CX1_mayBeKiteOf l0 E w v y hO) (va_cwS 1 hts (lw_S q1500 q1501 q69 q1502) rfl rfl rfl dyX1_mayBeKiteOf ⟨Nat.le_of_ble_eq_true rfl, Nat.le_of_ble_eq_true rfl⟩) hG hP hS (As := [.ref y]) (rest := []) rfl hl.1 rfl (lv_room (Nat.le_of_ble_eq_true rfl)) dX1_mayBe_37 ⟨show 0 + 0 ≤ 0 from by omega, show 0 + 0 ≤ 0 from by omega⟩ (fun r9 w9 H locs hp hP hS => ?_)
        obtain ⟨hp1, hp0⟩ := hp
        rw [hp1] at hP
        rw [hp0]
        show W p l0 e rmCX1_mayBe s m args below meth c H locs 0 0 Q (F0 m 40 ls [.int (bI (tin (v 1) 0 2 && (tin (v 2) 0 40 && (tin (v 3) 10 99 && tin (v 4) 0 9))))])
        exact k_zret hx hb hr hlocks hQ hP hS (by omega) (by omega) dX1_mayBe_40 (bI_nar _) (⟨rfl, by simp [cMB, hc0, bI]⟩)
    · skip
      exact absurd c4 (by decide)
  · skip
    refine lv_aload_n hx hb dX1_mayBe_0 rfl (lv_at hl 1 rfl) ?_
    refine k_instNo hx hb hown (hts _ q1498) hG hP hO rfl (List.mem_of_getElem? (i := 14) rfl) dX1_mayBe_1 ?_
    refine lv_if_eq (tgt := 24) hx hb dX1_mayBe_4 (by decide) (fun c4 => ?_) (fun c4 => ?_)
    · skip
      refine lv_aload_n hx hb dX1_mayBe_24 rfl (lv_at hl 1 rfl) ?_
      refine k_instNo hx hb hown (hts _ q1499) hG hP hO rfl (List.mem_of_getElem? (i := 15) rfl) dX1_mayBe_25 ?_
      refine lv_if_eq (tgt := 41) hx hb dX1_mayBe_28 (by decide) (fun c28 => ?_) (fun c28 => ?_)
      · skip
        refine lv_aload_n hx hb dX1_mayBe_41 rfl (lv_at hl 1 rfl) ?_
        refine k_instS hx hb hown (hts _ q1503) hG hP hO rfl dX1_mayBe_42 ?_
        refine lv_if_eq (tgt := 65) hx hb dX1_mayBe_45 (by decide) (fun c45 => ?_) (fun c45 => ?_)
        · skip
          exact absurd c45 (by decide)
        · skip
          refine lv_aload_n hx hb dX1_mayBe_48 rfl (lv_at hl 1 rfl) ?_
          refine k_castS hx hb hown (hts _ q1503) hG hP hO rfl dX1_mayBe_49 ?_
          refine lv_astore_n (lv' := [(2, .ref y), (0, .ref x), (1, .ref y)]) hx hb dX1_mayBe_52 rfl hl (by decide) rfl (fun ls hl => ?_)
          refine lv_aload_n hx hb dX1_mayBe_53 rfl (lv_at hl 1 rfl) ?_
          refine k_get hx hb hts in_X1 hown hG hP hX rfl 1 (by decide) (hts _ q277) (fun _ h9 => h9) (v := .ref (A2 0)) rfl dX1_mayBe_54 ?_
          refine lv_aload_n hx hb dX1_mayBe_57 rfl (lv_at hl 0 rfl) ?_
          refine k_getN hx hb hts in_X13 hown hG hP hO rfl 0 (by decide) (hG.2.1.1 _ q1464 rfl) (fun _ h9 => h9) (v := .int (v 1)) rfl dX1_mayBe_58 ?_
          have hT_1 := hM2.1
          refine k_cV hx hb hml hown hts (CX2_isKite l0 E w 2 A2 u2 m2 wb2 lb2 (v 1) hM2) (cwV 1 hts (lw_V q656 q657 q658 q70 q659) rfl rfl rfl dyX2_isKite ⟨Nat.le_of_ble_eq_true rfl, Nat.le_of_ble_eq_true rfl⟩) hG hP hS hT_1 rfl (As := [.int (v 1)]) (rest := []) rfl hl.1 rfl (lv_room (Nat.le_of_ble_eq_true rfl)) dX1_mayBe_61 ⟨show 0 + 0 ≤ 0 from by omega, show 0 + 0 ≤ 0 from by omega⟩ (fun r9 w9 H locs hp hP hS => ?_)
          obtain ⟨hp1, hp0⟩ := hp
          rw [hp1] at hP
          rw [hp0]
          show W p l0 e rmCX1_mayBe s m args below meth c H locs 0 0 Q (F0 m 64 ls [.int (bI (tKt u2 (v 1)))])
          exact k_zret hx hb hr hlocks hQ hP hS (by omega) (by omega) dX1_mayBe_64 (bI_nar _) (⟨rfl, by simp [cMB, hc0, bI]⟩)
      · skip
        exact absurd c28 (by decide)
    · skip
      exact absurd c4 (by decide)
  · skip
    refine lv_aload_n hx hb dX1_mayBe_0 rfl (lv_at hl 1 rfl) ?_
    refine k_instNo hx hb hown (hts _ q1498) hG hP hO rfl (List.mem_of_getElem? (i := 18) rfl) dX1_mayBe_1 ?_
    refine lv_if_eq (tgt := 24) hx hb dX1_mayBe_4 (by decide) (fun c4 => ?_) (fun c4 => ?_)
    · skip
      refine lv_aload_n hx hb dX1_mayBe_24 rfl (lv_at hl 1 rfl) ?_
      refine k_instNo hx hb hown (hts _ q1499) hG hP hO rfl (List.mem_of_getElem? (i := 19) rfl) dX1_mayBe_25 ?_
      refine lv_if_eq (tgt := 41) hx hb dX1_mayBe_28 (by decide) (fun c28 => ?_) (fun c28 => ?_)
      · skip
        refine lv_aload_n hx hb dX1_mayBe_41 rfl (lv_at hl 1 rfl) ?_
        refine k_instNo hx hb hown (hts _ q1503) hG hP hO rfl (List.mem_of_getElem? (i := 20) rfl) dX1_mayBe_42 ?_
        refine lv_if_eq (tgt := 65) hx hb dX1_mayBe_45 (by decide) (fun c45 => ?_) (fun c45 => ?_)
        · skip
          refine lv_aload_n hx hb dX1_mayBe_65 rfl (lv_at hl 1 rfl) ?_
          refine k_instS hx hb hown (hts _ q1504) hG hP hO rfl dX1_mayBe_66 ?_
          refine lv_if_eq (tgt := 111) hx hb dX1_mayBe_69 (by decide) (fun c69 => ?_) (fun c69 => ?_)
          · skip
            exact absurd c69 (by decide)
          · skip
            refine lv_aload_n hx hb dX1_mayBe_72 rfl (lv_at hl 1 rfl) ?_
            refine k_castS hx hb hown (hts _ q1504) hG hP hO rfl dX1_mayBe_73 ?_
            refine lv_astore_n (lv' := [(2, .ref y), (0, .ref x), (1, .ref y)]) hx hb dX1_mayBe_76 rfl hl (by decide) rfl (fun ls hl => ?_)
            refine lv_aload_n hx hb dX1_mayBe_77 rfl (lv_at hl 1 rfl) ?_
            refine k_get hx hb hts in_X1 hown hG hP hX rfl 1 (by decide) (hts _ q277) (fun _ h9 => h9) (v := .ref (A2 0)) rfl dX1_mayBe_78 ?_
            refine lv_aload_n hx hb dX1_mayBe_81 rfl (lv_at hl 0 rfl) ?_
            refine k_getN hx hb hts in_X14 hown hG hP hO rfl 0 (by decide) (hG.2.1.1 _ q1475 rfl) (fun _ h9 => h9) (v := .int (v 1)) rfl dX1_mayBe_82 ?_
            have hT_2 := hM2.1
            refine k_cV hx hb hml hown hts (CX2_isKite l0 E w 2 A2 u2 m2 wb2 lb2 (v 1) hM2) (cwV 1 hts (lw_V q656 q657 q658 q70 q659) rfl rfl rfl dyX2_isKite ⟨Nat.le_of_ble_eq_true rfl, Nat.le_of_ble_eq_true rfl⟩) hG hP hS hT_2 rfl (As := [.int (v 1)]) (rest := []) rfl hl.1 rfl (lv_room (Nat.le_of_ble_eq_true rfl)) dX1_mayBe_85 ⟨show 0 + 0 ≤ 0 from by omega, show 0 + 0 ≤ 0 from by omega⟩ (fun r9 w9 H locs hp hP hS => ?_)
            obtain ⟨hp1, hp0⟩ := hp
            rw [hp1] at hP
            rw [hp0]
            show W p l0 e rmCX1_mayBe s m args below meth c H locs 0 0 Q (F0 m 88 ls [.int (bI (tKt u2 (v 1)))])
            refine k_ifeqB (x := tKt u2 (v 1)) (tgt := 109) hx hb dX1_mayBe_88 (by decide) (fun c88 => ?_) (fun c88 => ?_)
            · skip
              refine lv_iconst (v := 0) hx hb dX1_mayBe_109 (by decide) ?_
              exact k_zret hx hb hr hlocks hQ hP hS (by omega) (by omega) dX1_mayBe_110 rfl (⟨rfl, by simp [cMB, hc0, bI, c88]⟩)
            · skip
              refine lv_aload_n hx hb dX1_mayBe_91 rfl (lv_at hl 0 rfl) ?_
              refine k_getN hx hb hts in_X14 hown hG hP hO rfl 1 (by decide) (hG.2.1.1 _ q1477 rfl) (fun _ h9 => h9) (v := .int (v 2)) rfl dX1_mayBe_92 ?_
              refine lv_bipush (v := (-20)) hx hb dX1_mayBe_95 (by decide) ?_
              refine lv_bipush (v := 20) hx hb dX1_mayBe_97 (by decide) ?_
              refine k_cS hx hb hml hown hts (CX1_in l0 E w (v 2) (-20) 20) (va_cwS 3 hts (lw_S q453 q454 q69 q455) rfl rfl rfl dyX1_in ⟨Nat.le_of_ble_eq_true rfl, Nat.le_of_ble_eq_true rfl⟩) hG hP hS (As := [.int (v 2), .int (-20), .int 20]) (rest := []) rfl hl.1 rfl (lv_room (Nat.le_of_ble_eq_true rfl)) dX1_mayBe_99 ⟨show 0 + 0 ≤ 0 from by omega, show 0 + 0 ≤ 0 from by omega⟩ (fun r9 w9 H locs hp hP hS => ?_)
              obtain ⟨hp1, hp0⟩ := hp
              rw [hp1] at hP
              rw [hp0]
              show W p l0 e rmCX1_mayBe s m args below meth c H locs 0 0 Q (F0 m 102 ls [.int (bI (tin (v 2) (-20) 20))])
              refine k_ifeqB (x := tin (v 2) (-20) 20) (tgt := 109) hx hb dX1_mayBe_102 (by decide) (fun c102 => ?_) (fun c102 => ?_)
              · skip
                refine lv_iconst (v := 0) hx hb dX1_mayBe_109 (by decide) ?_
                exact k_zret hx hb hr hlocks hQ hP hS (by omega) (by omega) dX1_mayBe_110 rfl (⟨rfl, by simp [cMB, hc0, bI, c88, c102]⟩)
              · skip
                refine lv_iconst (v := 1) hx hb dX1_mayBe_105 (by decide) ?_
                refine lv_goto (tgt := 110) hx hb dX1_mayBe_106 (by decide) ?_
                exact k_zret hx hb hr hlocks hQ hP hS (by omega) (by omega) dX1_mayBe_110 rfl (⟨rfl, by simp [cMB, hc0, bI, c88, c102]⟩)
        · skip
          exact absurd c45 (by decide)
      · skip
        exact absurd c28 (by decide)
    · skip
      exact absurd c4 (by decide)
  · skip
    refine lv_aload_n hx hb dX1_mayBe_0 rfl (lv_at hl 1 rfl) ?_
    refine k_instNo hx hb hown (hts _ q1498) hG hP hO rfl (List.mem_of_getElem? (i := 22) rfl) dX1_mayBe_1 ?_
    refine lv_if_eq (tgt := 24) hx hb dX1_mayBe_4 (by decide) (fun c4 => ?_) (fun c4 => ?_)
    · skip
      refine lv_aload_n hx hb dX1_mayBe_24 rfl (lv_at hl 1 rfl) ?_
      refine k_instNo hx hb hown (hts _ q1499) hG hP hO rfl (List.mem_of_getElem? (i := 23) rfl) dX1_mayBe_25 ?_
      refine lv_if_eq (tgt := 41) hx hb dX1_mayBe_28 (by decide) (fun c28 => ?_) (fun c28 => ?_)
      · skip
        refine lv_aload_n hx hb dX1_mayBe_41 rfl (lv_at hl 1 rfl) ?_
        refine k_instNo hx hb hown (hts _ q1503) hG hP hO rfl (List.mem_of_getElem? (i := 24) rfl) dX1_mayBe_42 ?_
        refine lv_if_eq (tgt := 65) hx hb dX1_mayBe_45 (by decide) (fun c45 => ?_) (fun c45 => ?_)
        · skip
          refine lv_aload_n hx hb dX1_mayBe_65 rfl (lv_at hl 1 rfl) ?_
          refine k_instNo hx hb hown (hts _ q1504) hG hP hO rfl (List.mem_of_getElem? (i := 25) rfl) dX1_mayBe_66 ?_
          refine lv_if_eq (tgt := 111) hx hb dX1_mayBe_69 (by decide) (fun c69 => ?_) (fun c69 => ?_)
          · skip
            refine lv_aload_n hx hb dX1_mayBe_111 rfl (lv_at hl 1 rfl) ?_
            refine k_instS hx hb hown (hts _ q1505) hG hP hO rfl dX1_mayBe_112 ?_
            refine lv_if_eq (tgt := 140) hx hb dX1_mayBe_115 (by decide) (fun c115 => ?_) (fun c115 => ?_)
            · skip
              exact absurd c115 (by decide)
            · skip
              refine lv_aload_n hx hb dX1_mayBe_118 rfl (lv_at hl 1 rfl) ?_
              refine k_castS hx hb hown (hts _ q1505) hG hP hO rfl dX1_mayBe_119 ?_
              refine lv_astore_n (lv' := [(2, .ref y), (0, .ref x), (1, .ref y)]) hx hb dX1_mayBe_122 rfl hl (by decide) rfl (fun ls hl => ?_)
              refine lv_aload_n hx hb dX1_mayBe_123 rfl (lv_at hl 0 rfl) ?_
              refine k_getN hx hb hts in_X15 hown hG hP hO rfl 0 (by decide) (hG.2.1.1 _ q1490 rfl) (fun _ h9 => h9) (v := .int (v 1)) rfl dX1_mayBe_124 ?_
              refine lv_iconst (v := 1) hx hb dX1_mayBe_127 (by decide) ?_
              refine lv_bipush (v := 30) hx hb dX1_mayBe_128 (by decide) ?_
              refine k_cS hx hb hml hown hts (CX1_in l0 E w (v 1) 1 30) (va_cwS 3 hts (lw_S q453 q454 q69 q455) rfl rfl rfl dyX1_in ⟨Nat.le_of_ble_eq_true rfl, Nat.le_of_ble_eq_true rfl⟩) hG hP hS (As := [.int (v 1), .int 1, .int 30]) (rest := []) rfl hl.1 rfl (lv_room (Nat.le_of_ble_eq_true rfl)) dX1_mayBe_130 ⟨show 0 + 0 ≤ 0 from by omega, show 0 + 0 ≤ 0 from by omega⟩ (fun r9 w9 H locs hp hP hS => ?_)
              obtain ⟨hp1, hp0⟩ := hp
              rw [hp1] at hP
              rw [hp0]
              show W p l0 e rmCX1_mayBe s m args below meth c H locs 0 0 Q (F0 m 133 ls [.int (bI (tin (v 1) 1 30))])
              refine k_ifeqB (x := tin (v 1) 1 30) (tgt := 140) hx hb dX1_mayBe_133 (by decide) (fun c133 => ?_) (fun c133 => ?_)
              · skip
                refine lv_iconst (v := 0) hx hb dX1_mayBe_140 (by decide) ?_
                exact k_zret hx hb hr hlocks hQ hP hS (by omega) (by omega) dX1_mayBe_141 rfl (⟨rfl, by simp [cMB, hc0, bI, c133]⟩)
              · skip
                refine lv_iconst (v := 1) hx hb dX1_mayBe_136 (by decide) ?_
                refine lv_goto (tgt := 141) hx hb dX1_mayBe_137 (by decide) ?_
                exact k_zret hx hb hr hlocks hQ hP hS (by omega) (by omega) dX1_mayBe_141 rfl (⟨rfl, by simp [cMB, hc0, bI, c133]⟩)
          · skip
            exact absurd c69 (by decide)
        · skip
          exact absurd c45 (by decide)
      · skip
        exact absurd c28 (by decide)
    · skip
      exact absurd c4 (by decide)

abbrev rmCX1_reasonOf : Room := { frames := 2, cells := 0, slots := 0, locals := 45 }
theorem dyX1_reasonOf : yX1_reasonOf.cls = RX1 ∧ yX1_reasonOf.cls ≠ "java/lang/invoke/MethodHandle" ∧ yX1_reasonOf.cls ≠ "java/lang/invoke/VarHandle" ∧ (parseMethodDescriptor yX1_reasonOf.desc).map (fun d => d.parameters.length) = some 1 := by decide +kernel
set_option maxHeartbeats 4000000 in
theorem CX1_reasonOf (l0 : Launch) (E : gE) (w : wd) (x : Nat) (A1 : Nat → Nat) (A2 : Nat → Nat) (A3 : Nat → Nat) (d : Nat) (b : Nat) (hs : Int32) (ft : Int32) (rf : Int32) (ro : Int32) (u2 : Nat → Int32) (m2 : Nat) (wb2 : Nat → Int32) (lb2 : Nat → Int32) (v : Nat → Int32) (y : Nat) (hmb : cMB u2 v = true) (hX : w x = some ((94, 0), .inr (1, [.ref (A1 0), .ref (A2 0), .ref (A3 0), .int hs, .ref d, .ref b, .int ft, .int rf, .int ro]))) (hM2 : townR E w 2 A2 u2 m2 wb2 lb2) (hO : odR w y v) : kC l0 yX1_reasonOf (ws_ yX1_reasonOf cX1_reasonOf 3 (some .int)) rmCX1_reasonOf 0 0 mI E w [.ref x, .ref y] (fun r w' => w' = w ∧ r = (cRs u2 m2 v)) := by
  refine k_open (cc := cX1_reasonOf) (maxL := 3) (ret := (some .int)) (by decide) rfl (Nat.le_of_ble_eq_true rfl) ?_
  intro p e s m args below meth c ls Q hx hb hr hml hown hts hlocks hname hQ hG hP hl hS
  have hl : lv_has ls 3 [(0, .ref x), (1, .ref y)] := hl
  have hm6 := hM2.m25
  rcases ordE_cases hO with ⟨hc0, hO⟩ | ⟨hc0, hO⟩ | ⟨hc0, hO⟩ | ⟨hc0, hO⟩ | ⟨hc0, hO⟩
  · skip
    refine lv_aload_n hx hb dX1_reasonOf_0 rfl (lv_at hl 1 rfl) ?_
    refine k_instNo hx hb hown (hts _ q1499) hG hP hO rfl (List.mem_of_getElem? (i := 6) rfl) dX1_reasonOf_1 ?_
    refine lv_if_eq (tgt := 25) hx hb dX1_reasonOf_4 (by decide) (fun c4 => ?_) (fun c4 => ?_)
    · skip
      refine lv_aload_n hx hb dX1_reasonOf_25 rfl (lv_at hl 1 rfl) ?_
      refine k_instNo hx hb hown (hts _ q1503) hG hP hO rfl (List.mem_of_getElem? (i := 7) rfl) dX1_reasonOf_26 ?_
      refine lv_if_eq (tgt := 49) hx hb dX1_reasonOf_29 (by decide) (fun c29 => ?_) (fun c29 => ?_)
      · skip
        refine lv_aload_n hx hb dX1_reasonOf_49 rfl (lv_at hl 1 rfl) ?_
        refine k_instNo hx hb hown (hts _ q1504) hG hP hO rfl (List.mem_of_getElem? (i := 8) rfl) dX1_reasonOf_50 ?_
        refine lv_if_eq (tgt := 79) hx hb dX1_reasonOf_53 (by decide) (fun c53 => ?_) (fun c53 => ?_)
        · skip
          refine lv_iconst (v := 0) hx hb dX1_reasonOf_79 (by decide) ?_
          exact k_iret hx hb hr hlocks hQ hP hS (by omega) (by omega) dX1_reasonOf_80 (⟨rfl, by simp [cRs, hc0]⟩)
        · skip
          exact absurd c53 (by decide)
      · skip
        exact absurd c29 (by decide)
    · skip
      exact absurd c4 (by decide)
  · skip
    refine lv_aload_n hx hb dX1_reasonOf_0 rfl (lv_at hl 1 rfl) ?_
    refine k_instS hx hb hown (hts _ q1499) hG hP hO rfl dX1_reasonOf_1 ?_
    refine lv_if_eq (tgt := 25) hx hb dX1_reasonOf_4 (by decide) (fun c4 => ?_) (fun c4 => ?_)
    · skip
      exact absurd c4 (by decide)
    · skip
      refine lv_aload_n hx hb dX1_reasonOf_7 rfl (lv_at hl 0 rfl) ?_
      refine k_get hx hb hts in_X1 hown hG hP hX rfl 1 (by decide) (hts _ q277) (fun _ h9 => h9) (v := .ref (A2 0)) rfl dX1_reasonOf_8 ?_
      have hT_1 := hM2.1
      refine k_getN hx hb hts in_X2 hown hG hP hT_1 rfl 3 (by decide) (hG.2.1.1 _ q187 rfl) (fun _ h9 => h9) (v := .int (nI m2)) rfl dX1_reasonOf_11 ?_
      refine lv_bipush (v := 6) hx hb dX1_reasonOf_14 (by decide) ?_
      refine k_icmp_neN (x := m2) (y := 6) (tgt := 23) hx hb (by omega) (by omega) dX1_reasonOf_16 (by decide) (fun c16 => ?_) (fun c16 => ?_)
      · skip
        refine lv_iconst (v := 0) hx hb dX1_reasonOf_23 (by decide) ?_
        exact k_iret hx hb hr hlocks hQ hP hS (by omega) (by omega) dX1_reasonOf_24 (⟨rfl, by simp [cRs, hc0, c16]⟩)
      · skip
        refine lv_iconst (v := 1) hx hb dX1_reasonOf_19 (by decide) ?_
        refine lv_goto (tgt := 24) hx hb dX1_reasonOf_20 (by decide) ?_
        exact k_iret hx hb hr hlocks hQ hP hS (by omega) (by omega) dX1_reasonOf_24 (⟨rfl, by simp [cRs, hc0, c16]⟩)
  · skip
    have hkt : tKt u2 (v 1) = true := by simp [cMB, hc0] at hmb; first | exact hmb | exact hmb.1
    obtain ⟨kz, hkz, e1⟩ := tKt_of hm6.1 hm6.2 hkt
    have ckz : (nI kz).toNatClampNeg = kz := nI_clamp (by omega)
    rw [e1] at hO
    refine lv_aload_n hx hb dX1_reasonOf_0 rfl (lv_at hl 1 rfl) ?_
    refine k_instNo hx hb hown (hts _ q1499) hG hP hO rfl (List.mem_of_getElem? (i := 15) rfl) dX1_reasonOf_1 ?_
    refine lv_if_eq (tgt := 25) hx hb dX1_reasonOf_4 (by decide) (fun c4 => ?_) (fun c4 => ?_)
    · skip
      refine lv_aload_n hx hb dX1_reasonOf_25 rfl (lv_at hl 1 rfl) ?_
      refine k_instS hx hb hown (hts _ q1503) hG hP hO rfl dX1_reasonOf_26 ?_
      refine lv_if_eq (tgt := 49) hx hb dX1_reasonOf_29 (by decide) (fun c29 => ?_) (fun c29 => ?_)
      · skip
        exact absurd c29 (by decide)
      · skip
        refine lv_aload_n hx hb dX1_reasonOf_32 rfl (lv_at hl 1 rfl) ?_
        refine k_castS hx hb hown (hts _ q1503) hG hP hO rfl dX1_reasonOf_33 ?_
        refine lv_astore_n (lv' := [(2, .ref y), (0, .ref x), (1, .ref y)]) hx hb dX1_reasonOf_36 rfl hl (by decide) rfl (fun ls hl => ?_)
        refine lv_aload_n hx hb dX1_reasonOf_37 rfl (lv_at hl 1 rfl) ?_
        refine k_get hx hb hts in_X1 hown hG hP hX rfl 1 (by decide) (hts _ q277) (fun _ h9 => h9) (v := .ref (A2 0)) rfl dX1_reasonOf_38 ?_
        refine lv_aload_n hx hb dX1_reasonOf_41 rfl (lv_at hl 0 rfl) ?_
        refine k_getN hx hb hts in_X13 hown hG hP hO rfl 0 (by decide) (hG.2.1.1 _ q1464 rfl) (fun _ h9 => h9) (v := .int (nI kz)) rfl dX1_reasonOf_42 ?_
        have hT_2 := hM2.1
        refine k_cV hx hb hml hown hts (CX2_reasonToLaunch l0 E w 2 A2 u2 m2 wb2 lb2 kz (by omega) hM2) (cwV 1 hts (lw_V q661 q662 q663 q70 q664) rfl rfl rfl dyX2_reasonToLaunch ⟨Nat.le_of_ble_eq_true rfl, Nat.le_of_ble_eq_true rfl⟩) hG hP hS hT_2 rfl (As := [.int (nI kz)]) (rest := []) rfl hl.1 rfl (lv_room (Nat.le_of_ble_eq_true rfl)) dX1_reasonOf_45 ⟨show 0 + 0 ≤ 0 from by omega, show 0 + 0 ≤ 0 from by omega⟩ (fun r9 w9 H locs hp hP hS => ?_)
        obtain ⟨hp1, hp0⟩ := hp
        rw [hp1] at hP
        rw [hp0]
        show W p l0 e rmCX1_reasonOf s m args below meth c H locs 0 0 Q (F0 m 48 ls [.int (if u2 (kO kz 0) = 0 then (if u2 0 = 0 then 3 else 0) else 2)])
        exact k_iret hx hb hr hlocks hQ hP hS (by omega) (by omega) dX1_reasonOf_48 (⟨rfl, by simp [cRs, hc0, rsL, ckz, e1]⟩)
    · skip
      exact absurd c4 (by decide)
  · skip
    have hkt : tKt u2 (v 1) = true := by simp [cMB, hc0] at hmb; first | exact hmb | exact hmb.1
    obtain ⟨kz, hkz, e1⟩ := tKt_of hm6.1 hm6.2 hkt
    have ckz : (nI kz).toNatClampNeg = kz := nI_clamp (by omega)
    rw [e1] at hO
    refine lv_aload_n hx hb dX1_reasonOf_0 rfl (lv_at hl 1 rfl) ?_
    refine k_instNo hx hb hown (hts _ q1499) hG hP hO rfl (List.mem_of_getElem? (i := 19) rfl) dX1_reasonOf_1 ?_
    refine lv_if_eq (tgt := 25) hx hb dX1_reasonOf_4 (by decide) (fun c4 => ?_) (fun c4 => ?_)
    · skip
      refine lv_aload_n hx hb dX1_reasonOf_25 rfl (lv_at hl 1 rfl) ?_
      refine k_instNo hx hb hown (hts _ q1503) hG hP hO rfl (List.mem_of_getElem? (i := 20) rfl) dX1_reasonOf_26 ?_
      refine lv_if_eq (tgt := 49) hx hb dX1_reasonOf_29 (by decide) (fun c29 => ?_) (fun c29 => ?_)
      · skip
        refine lv_aload_n hx hb dX1_reasonOf_49 rfl (lv_at hl 1 rfl) ?_
        refine k_instS hx hb hown (hts _ q1504) hG hP hO rfl dX1_reasonOf_50 ?_
        refine lv_if_eq (tgt := 79) hx hb dX1_reasonOf_53 (by decide) (fun c53 => ?_) (fun c53 => ?_)
        · skip
          exact absurd c53 (by decide)
        · skip
          refine lv_aload_n hx hb dX1_reasonOf_56 rfl (lv_at hl 1 rfl) ?_
          refine k_castS hx hb hown (hts _ q1504) hG hP hO rfl dX1_reasonOf_57 ?_
          refine lv_astore_n (lv' := [(2, .ref y), (0, .ref x), (1, .ref y)]) hx hb dX1_reasonOf_60 rfl hl (by decide) rfl (fun ls hl => ?_)
          refine lv_aload_n hx hb dX1_reasonOf_61 rfl (lv_at hl 1 rfl) ?_
          refine k_get hx hb hts in_X1 hown hG hP hX rfl 1 (by decide) (hts _ q277) (fun _ h9 => h9) (v := .ref (A2 0)) rfl dX1_reasonOf_62 ?_
          refine lv_aload_n hx hb dX1_reasonOf_65 rfl (lv_at hl 0 rfl) ?_
          refine k_getN hx hb hts in_X14 hown hG hP hO rfl 0 (by decide) (hG.2.1.1 _ q1475 rfl) (fun _ h9 => h9) (v := .int (nI kz)) rfl dX1_reasonOf_66 ?_
          refine lv_aload_n hx hb dX1_reasonOf_69 rfl (lv_at hl 0 rfl) ?_
          refine k_getN hx hb hts in_X14 hown hG hP hO rfl 1 (by decide) (hG.2.1.1 _ q1477 rfl) (fun _ h9 => h9) (v := .int (v 2)) rfl dX1_reasonOf_70 ?_
          have hT_3 := hM2.1
          refine k_cV hx hb hml hown hts (CX2_reasonToReel l0 E w 2 A2 u2 m2 wb2 lb2 kz (v 2) (by omega) hM2) (cwV 2 hts (lw_V q708 q709 q710 q70 q711) rfl rfl rfl dyX2_reasonToReel ⟨Nat.le_of_ble_eq_true rfl, Nat.le_of_ble_eq_true rfl⟩) hG hP hS hT_3 rfl (As := [.int (nI kz), .int (v 2)]) (rest := []) rfl hl.1 rfl (lv_room (Nat.le_of_ble_eq_true rfl)) dX1_reasonOf_73 ⟨show 0 + 0 ≤ 0 from by omega, show 0 + 0 ≤ 0 from by omega⟩ (fun r9 w9 H locs hp hP hS => ?_)
          obtain ⟨hp1, hp0⟩ := hp
          rw [hp1] at hP
          rw [hp0]
          show W p l0 e rmCX1_reasonOf s m args below meth c H locs 0 0 Q (F0 m 76 ls [.int (if tUp u2 kz = true then (if u2 (kO kz 5) + (v 2) ≤ u2 (kO kz 3) then (if 0 ≤ u2 (kO kz 5) + (v 2) then 0 else 6) else 5) else 4)])
          refine lv_goto (tgt := 80) hx hb dX1_reasonOf_76 (by decide) ?_
          exact k_iret hx hb hr hlocks hQ hP hS (by omega) (by omega) dX1_reasonOf_80 (⟨rfl, by simp [cRs, hc0, rsR, ckz, e1]⟩)
      · skip
        exact absurd c29 (by decide)
    · skip
      exact absurd c4 (by decide)
  · skip
    refine lv_aload_n hx hb dX1_reasonOf_0 rfl (lv_at hl 1 rfl) ?_
    refine k_instNo hx hb hown (hts _ q1499) hG hP hO rfl (List.mem_of_getElem? (i := 23) rfl) dX1_reasonOf_1 ?_
    refine lv_if_eq (tgt := 25) hx hb dX1_reasonOf_4 (by decide) (fun c4 => ?_) (fun c4 => ?_)
    · skip
      refine lv_aload_n hx hb dX1_reasonOf_25 rfl (lv_at hl 1 rfl) ?_
      refine k_instNo hx hb hown (hts _ q1503) hG hP hO rfl (List.mem_of_getElem? (i := 24) rfl) dX1_reasonOf_26 ?_
      refine lv_if_eq (tgt := 49) hx hb dX1_reasonOf_29 (by decide) (fun c29 => ?_) (fun c29 => ?_)
      · skip
        refine lv_aload_n hx hb dX1_reasonOf_49 rfl (lv_at hl 1 rfl) ?_
        refine k_instNo hx hb hown (hts _ q1504) hG hP hO rfl (List.mem_of_getElem? (i := 25) rfl) dX1_reasonOf_50 ?_
        refine lv_if_eq (tgt := 79) hx hb dX1_reasonOf_53 (by decide) (fun c53 => ?_) (fun c53 => ?_)
        · skip
          refine lv_iconst (v := 0) hx hb dX1_reasonOf_79 (by decide) ?_
          exact k_iret hx hb hr hlocks hQ hP hS (by omega) (by omega) dX1_reasonOf_80 (⟨rfl, by simp [cRs, hc0]⟩)
        · skip
          exact absurd c53 (by decide)
      · skip
        exact absurd c29 (by decide)
    · skip
      exact absurd c4 (by decide)

abbrev rmCX1_does : Room := { frames := 7, cells := 200, slots := 600, locals := 172 }
theorem dyX1_does : yX1_does.cls = RX1 ∧ yX1_does.cls ≠ "java/lang/invoke/MethodHandle" ∧ yX1_does.cls ≠ "java/lang/invoke/VarHandle" ∧ (parseMethodDescriptor yX1_does.desc).map (fun d => d.parameters.length) = some 1 := by decide +kernel
set_option maxHeartbeats 4000000 in
theorem CX1_does (l0 : Launch) (E : gE) (w : wd) (x : Nat) (A1 : Nat → Nat) (A2 : Nat → Nat) (A3 : Nat → Nat) (d : Nat) (b : Nat) (hs : Int32) (ft : Int32) (rf : Int32) (ro : Int32) (u2 : Nat → Int32) (m2 : Nat) (wb2 : Nat → Int32) (lb2 : Nat → Int32) (v : Nat → Int32) (y : Nat) (N : Nat) (hI : gI u2 m2 N) (hN9 : N + 71 * 31 < 2 ^ 31) (hmb : cMB u2 v = true) (hrs : cRs u2 m2 v ≤ 0) (hvo : vOK v) (hX : w x = some ((94, 0), .inr (1, [.ref (A1 0), .ref (A2 0), .ref (A3 0), .int hs, .ref d, .ref b, .int ft, .int rf, .int ro]))) (hM2 : townR E w 2 A2 u2 m2 wb2 lb2) (hO : odR w y v) : kC l0 yX1_does (ws_ yX1_does cX1_does 8 none) rmCX1_does 200 600 mV E w [.ref x, .ref y] (fun r w' => ∃ wa9 : Nat → Int32, ∃ la9 : Nat → Int32, (True) ∧ (townR E w' 2 A2 (cDo u2 m2 v) (cDm m2 v) wa9 la9 ∧ True) ∧ fr pX2t w w') := by
  refine k_open (cc := cX1_does) (maxL := 8) (ret := none) (by decide) rfl (Nat.le_of_ble_eq_true rfl) ?_
  intro p e s m args below meth c ls Q hx hb hr hml hown hts hlocks hname hQ hG hP hl hS
  have hl : lv_has ls 8 [(0, .ref x), (1, .ref y)] := hl
  obtain ⟨w0, hw0⟩ : ∃ z, z = w := ⟨_, rfl⟩
  have hF : fr pX2t w0 w := by rw [hw0]; exact fr.rf
  rw [← hw0] at hQ
  have hm6 := hM2.m25
  rcases ordE_cases hO with ⟨hc0, hO⟩ | ⟨hc0, hO⟩ | ⟨hc0, hO⟩ | ⟨hc0, hO⟩ | ⟨hc0, hO⟩
  · skip
    obtain ⟨kz, hkz, e1⟩ := tin_N (n := 9) (by decide) (hvo hc0)
    have ckz : (nI kz).toNatClampNeg = kz := nI_clamp (by omega)
    rw [e1] at hO
    refine lv_aload_n hx hb dX1_does_0 rfl (lv_at hl 1 rfl) ?_
    refine k_instS hx hb hown (hts _ q1498) hG hP hO rfl dX1_does_1 ?_
    refine lv_if_eq (tgt := 47) hx hb dX1_does_4 (by decide) (fun c4 => ?_) (fun c4 => ?_)
    · skip
      exact absurd c4 (by decide)
    · skip
      refine lv_aload_n hx hb dX1_does_7 rfl (lv_at hl 1 rfl) ?_
      refine k_castS hx hb hown (hts _ q1498) hG hP hO rfl dX1_does_8 ?_
      refine lv_astore_n (lv' := [(2, .ref y), (0, .ref x), (1, .ref y)]) hx hb dX1_does_11 rfl hl (by decide) rfl (fun ls hl => ?_)
      refine lv_aload_n hx hb dX1_does_12 rfl (lv_at hl 1 rfl) ?_
      refine k_get hx hb hts in_X1 hown hG hP hX rfl 1 (by decide) (hts _ q277) (fun _ h9 => h9) (v := .ref (A2 0)) rfl dX1_does_13 ?_
      have hT_1 := hM2.1
      refine k_getN hx hb hts in_X2 hown hG hP hT_1 rfl 0 (by decide) (hG.2.1.1 _ q181 rfl) (fun _ h9 => h9) (v := .ref (A2 1)) rfl dX1_does_16 ?_
      refine lv_aload_n hx hb dX1_does_19 rfl (lv_at hl 0 rfl) ?_
      refine k_getN hx hb hts in_X11 hown hG hP hO rfl 0 (by decide) (hG.2.1.1 _ q1410 rfl) (fun _ h9 => h9) (v := .int (nI kz)) rfl dX1_does_20 ?_
      refine lv_aload_n hx hb dX1_does_23 rfl (lv_at hl 0 rfl) ?_
      refine k_getN hx hb hts in_X11 hown hG hP hO rfl 1 (by decide) (hG.2.1.1 _ q1412 rfl) (fun _ h9 => h9) (v := .int (v 2)) rfl dX1_does_24 ?_
      obtain ⟨fs_2, hT_2, he_2⟩ := hM2.2.1
      refine k_iastW hx hb hG hP hS (j := kz) hT_2 (by omega) (show kz < 10 from by omega) (x := (v 2)) dX1_does_27 (fun w1 H locs h9 hf9 hP hS => ?_)
      have hM2 : townR E w1 2 A2 (va_up u2 (2 * kz) (v 2)) m2 wb2 lb2 := hM2.str (by omega) hf9 h9 (by omega) he_2
      have hX : w1 x = some ((94, 0), .inr (1, [.ref (A1 0), .ref (A2 0), .ref (A3 0), .int hs, .ref d, .ref b, .int ft, .int rf, .int ro])) := hf9 _ _ _ hX (by intro z9; first | (simp only [pO, pN, pD, pKp, pT, pB, pS, pR, pRd, pRo, Prod.mk.injEq, pX1, pX2, pXs, pX2t] at z9; done) | (simp only [pO, pN, pD, pKp, pT, pB, pS, pR, pRd, pRo, Prod.mk.injEq, pX1, pX2, pXs, pX2t] at z9; omega))
      have hO : w1 y = some ((98, 2), .inr (9, [.int (nI kz), .int (v 2), .int (v 3)])) := hf9 _ _ _ hO (by intro z9; first | (simp only [pO, pN, pD, pKp, pT, pB, pS, pR, pRd, pRo, Prod.mk.injEq, pX1, pX2, pXs, pX2t] at z9; done) | (simp only [pO, pN, pD, pKp, pT, pB, pS, pR, pRd, pRo, Prod.mk.injEq, pX1, pX2, pXs, pX2t] at z9; omega))
      have hF : fr pX2t w0 w1 := hF.tr (hf9.up (fun t9 h9 => by simp only [pO, pN, pD, pKp, pT, pB, pS, pR, pX1, pX2, pXs, pX2t] at h9 ⊢; first | exact h9 | (subst h9; simp; done) | (subst h9; simp; omega) | omega | (rcases h9 with h9 | h9 <;> first | (subst h9; simp; done) | (subst h9; simp; omega) | omega)))
      refine lv_aload_n hx hb dX1_does_28 rfl (lv_at hl 1 rfl) ?_
      refine k_get hx hb hts in_X1 hown hG hP hX rfl 1 (by decide) (hts _ q277) (fun _ h9 => h9) (v := .ref (A2 0)) rfl dX1_does_29 ?_
      have hT_3 := hM2.1
      refine k_getN hx hb hts in_X2 hown hG hP hT_3 rfl 1 (by decide) (hG.2.1.1 _ q183 rfl) (fun _ h9 => h9) (v := .ref (A2 2)) rfl dX1_does_32 ?_
      refine lv_aload_n hx hb dX1_does_35 rfl (lv_at hl 0 rfl) ?_
      refine k_getN hx hb hts in_X11 hown hG hP hO rfl 0 (by decide) (hG.2.1.1 _ q1410 rfl) (fun _ h9 => h9) (v := .int (nI kz)) rfl dX1_does_36 ?_
      refine lv_aload_n hx hb dX1_does_39 rfl (lv_at hl 0 rfl) ?_
      refine k_getN hx hb hts in_X11 hown hG hP hO rfl 2 (by decide) (hG.2.1.1 _ q1414 rfl) (fun _ h9 => h9) (v := .int (v 3)) rfl dX1_does_40 ?_
      obtain ⟨fs_4, hT_4, he_4⟩ := hM2.2.2.1
      refine k_iastW hx hb hG hP hS (j := kz) hT_4 (by omega) (show kz < 10 from by omega) (x := (v 3)) dX1_does_43 (fun w2 H locs h9 hf9 hP hS => ?_)
      have hM2 : townR E w2 2 A2 (va_up (va_up u2 (2 * kz) (v 2)) (2 * kz + 1) (v 3)) m2 wb2 lb2 := hM2.dri (by omega) hf9 h9 (by omega) he_4
      have hX : w2 x = some ((94, 0), .inr (1, [.ref (A1 0), .ref (A2 0), .ref (A3 0), .int hs, .ref d, .ref b, .int ft, .int rf, .int ro])) := hf9 _ _ _ hX (by intro z9; first | (simp only [pO, pN, pD, pKp, pT, pB, pS, pR, pRd, pRo, Prod.mk.injEq, pX1, pX2, pXs, pX2t] at z9; done) | (simp only [pO, pN, pD, pKp, pT, pB, pS, pR, pRd, pRo, Prod.mk.injEq, pX1, pX2, pXs, pX2t] at z9; omega))
      have hO : w2 y = some ((98, 2), .inr (9, [.int (nI kz), .int (v 2), .int (v 3)])) := hf9 _ _ _ hO (by intro z9; first | (simp only [pO, pN, pD, pKp, pT, pB, pS, pR, pRd, pRo, Prod.mk.injEq, pX1, pX2, pXs, pX2t] at z9; done) | (simp only [pO, pN, pD, pKp, pT, pB, pS, pR, pRd, pRo, Prod.mk.injEq, pX1, pX2, pXs, pX2t] at z9; omega))
      have hF : fr pX2t w0 w2 := hF.tr (hf9.up (fun t9 h9 => by simp only [pO, pN, pD, pKp, pT, pB, pS, pR, pX1, pX2, pXs, pX2t] at h9 ⊢; first | exact h9 | (subst h9; simp; done) | (subst h9; simp; omega) | omega | (rcases h9 with h9 | h9 <;> first | (subst h9; simp; done) | (subst h9; simp; omega) | omega)))
      refine lv_goto (tgt := 192) hx hb dX1_does_44 (by decide) ?_
      exact k_vret hx hb hr hlocks hQ hP hS (by omega) (by omega) dX1_does_192 (⟨_, _, trivial, ⟨(hM2.rowm (by simp [cDo, hc0, e1, ckz]) (by simp [cDm, hc0])), trivial⟩, hF⟩)
  · skip
    have hmk : (tin (v 1) 0 2 && (tin (v 2) 0 40 && (tin (v 3) 10 99 && tin (v 4) 0 9))) = true := by rw [cMB, if_neg (by rw [hc0]; decide), if_pos hc0] at hmb; exact hmb
    obtain ⟨kz, hkz, e1⟩ := tin_N (n := 2) (by decide) (Bool.and_eq_true_iff.mp hmk).1
    have ckz : (nI kz).toNatClampNeg = kz := nI_clamp (by omega)
    have hm7 : ¬ m2 = 6 := fun e9 => by rw [cRs, if_pos hc0, if_pos e9] at hrs; exact absurd hrs (by decide)
    rw [e1] at hO
    refine lv_aload_n hx hb dX1_does_0 rfl (lv_at hl 1 rfl) ?_
    refine k_instNo hx hb hown (hts _ q1498) hG hP hO rfl (List.mem_of_getElem? (i := 10) rfl) dX1_does_1 ?_
    refine lv_if_eq (tgt := 47) hx hb dX1_does_4 (by decide) (fun c4 => ?_) (fun c4 => ?_)
    · skip
      refine lv_aload_n hx hb dX1_does_47 rfl (lv_at hl 1 rfl) ?_
      refine k_instS hx hb hown (hts _ q1499) hG hP hO rfl dX1_does_48 ?_
      refine lv_if_eq (tgt := 89) hx hb dX1_does_51 (by decide) (fun c51 => ?_) (fun c51 => ?_)
      · skip
        exact absurd c51 (by decide)
      · skip
        refine lv_aload_n hx hb dX1_does_54 rfl (lv_at hl 1 rfl) ?_
        refine k_castS hx hb hown (hts _ q1499) hG hP hO rfl dX1_does_55 ?_
        refine lv_astore_n (lv' := [(3, .ref y), (0, .ref x), (1, .ref y)]) hx hb dX1_does_58 rfl hl (by decide) rfl (fun ls hl => ?_)
        refine lv_aload_n hx hb dX1_does_59 rfl (lv_at hl 1 rfl) ?_
        refine k_get hx hb hts in_X1 hown hG hP hX rfl 1 (by decide) (hts _ q277) (fun _ h9 => h9) (v := .ref (A2 0)) rfl dX1_does_60 ?_
        refine lv_aload_n hx hb dX1_does_63 rfl (lv_at hl 0 rfl) ?_
        refine k_getN hx hb hts in_X12 hown hG hP hO rfl 0 (by decide) (hG.2.1.1 _ q1441 rfl) (fun _ h9 => h9) (v := .int (nI kz)) rfl dX1_does_64 ?_
        refine k_cS hx hb hml hown hts (CX4_of l0 E w (nI kz) (kd3 (by omega))) (va_cwS 1 hts (lw_S q633 q634 q73 q635) rfl rfl rfl dyX4_of ⟨Nat.le_of_ble_eq_true rfl, Nat.le_of_ble_eq_true rfl⟩) hG hP hS (As := [.int (nI kz)]) (rest := [.ref (A2 0)]) rfl hl.1 rfl (lv_room (Nat.le_of_ble_eq_true rfl)) dX1_does_67 ⟨show 0 + 0 ≤ 200 from by omega, show 0 + 0 ≤ 600 from by omega⟩ (fun r9 w9 H locs hp hP hS => ?_)
        obtain ⟨hp1, hp0⟩ := hp
        rw [hp1] at hP
        rw [ckz] at hp0
        rw [hp0]
        show W p l0 e rmCX1_does s m args below meth c H locs 0 0 Q (F0 m 70 ls [.ref (eM E kz), .ref (A2 0)])
        refine lv_aload_n hx hb dX1_does_70 rfl (lv_at hl 0 rfl) ?_
        refine k_getN hx hb hts in_X12 hown hG hP hO rfl 1 (by decide) (hG.2.1.1 _ q1443 rfl) (fun _ h9 => h9) (v := .int (v 2)) rfl dX1_does_71 ?_
        refine lv_aload_n hx hb dX1_does_74 rfl (lv_at hl 0 rfl) ?_
        refine k_getN hx hb hts in_X12 hown hG hP hO rfl 2 (by decide) (hG.2.1.1 _ q1445 rfl) (fun _ h9 => h9) (v := .int (v 3)) rfl dX1_does_75 ?_
        refine lv_aload_n hx hb dX1_does_78 rfl (lv_at hl 0 rfl) ?_
        refine k_getN hx hb hts in_X12 hown hG hP hO rfl 3 (by decide) (hG.2.1.1 _ q1447 rfl) (fun _ h9 => h9) (v := .int (v 4)) rfl dX1_does_79 ?_
        have hT_5 := hM2.1
        refine k_cV hx hb hml hown hts (CX2_add l0 E w 2 A2 u2 m2 wb2 lb2 kz (v 2) (v 3) (v 4) (by omega) (by omega) (by omega) (by omega) hM2) (cwV 4 hts (lw_V q641 q642 q643 q70 q644) rfl rfl rfl dyX2_add ⟨Nat.le_of_ble_eq_true rfl, Nat.le_of_ble_eq_true rfl⟩) hG hP hS hT_5 rfl (As := [.ref (eM E kz), .int (v 2), .int (v 3), .int (v 4)]) (rest := []) rfl hl.1 rfl (lv_room (Nat.le_of_ble_eq_true rfl)) dX1_does_82 ⟨show 0 + 1 ≤ 200 from by omega, show 0 + 0 ≤ 600 from by omega⟩ (fun r82 w3 H locs hp hP hS => ?_)
        obtain ⟨hp0, ⟨hM2', -⟩, hf9⟩ := hp
        have hX : w3 x = some ((94, 0), .inr (1, [.ref (A1 0), .ref (A2 0), .ref (A3 0), .int hs, .ref d, .ref b, .int ft, .int rf, .int ro])) := hf9 _ _ _ hX (by intro z9; first | (simp only [pO, pN, pD, pKp, pT, pB, pS, pR, pRd, pRo, Prod.mk.injEq, pX1, pX2, pXs, pX2t] at z9; done) | (simp only [pO, pN, pD, pKp, pT, pB, pS, pR, pRd, pRo, Prod.mk.injEq, pX1, pX2, pXs, pX2t] at z9; omega))
        have hO : w3 y = some ((98, 2), .inr (10, [.int (nI kz), .int (v 2), .int (v 3), .int (v 4)])) := hf9 _ _ _ hO (by intro z9; first | (simp only [pO, pN, pD, pKp, pT, pB, pS, pR, pRd, pRo, Prod.mk.injEq, pX1, pX2, pXs, pX2t] at z9; done) | (simp only [pO, pN, pD, pKp, pT, pB, pS, pR, pRd, pRo, Prod.mk.injEq, pX1, pX2, pXs, pX2t] at z9; omega))
        have hF : fr pX2t w0 w3 := hF.tr (hf9.up (fun t9 h9 => by simp only [pO, pN, pD, pKp, pT, pB, pS, pR, pX1, pX2, pXs, pX2t] at h9 ⊢; first | exact h9 | (subst h9; simp; done) | (subst h9; simp; omega) | omega | (rcases h9 with h9 | h9 <;> first | (subst h9; simp; done) | (subst h9; simp; omega) | omega)))
        have hM2 : townR E w3 2 A2 (tNk u2 m2 (nI kz) (v 2) (v 3) (v 4)) (m2 + 1) wb2 lb2 := hM2'
        rw [hp0]
        show W p l0 e rmCX1_does s m args below meth c H locs (0 + 1) 0 Q (F0 m 85 ls [.int (nI m2)])
        refine lv_pop hx hb dX1_does_85 rfl ?_
        refine lv_goto (tgt := 192) hx hb dX1_does_86 (by decide) ?_
        exact k_vret hx hb hr hlocks hQ hP hS (by omega) (by omega) dX1_does_192 (⟨_, _, trivial, ⟨(hM2.rowm (by simp [cDo, hc0, e1]) (by simp [cDm, hc0])), trivial⟩, hF⟩)
    · skip
      exact absurd c4 (by decide)
  · skip
    have hkt : tKt u2 (v 1) = true := by simp [cMB, hc0] at hmb; first | exact hmb | exact hmb.1
    obtain ⟨kz, hkz, e1⟩ := tKt_of hm6.1 hm6.2 hkt
    have ckz : (nI kz).toNatClampNeg = kz := nI_clamp (by omega)
    rw [e1] at hO
    refine lv_aload_n hx hb dX1_does_0 rfl (lv_at hl 1 rfl) ?_
    refine k_instNo hx hb hown (hts _ q1498) hG hP hO rfl (List.mem_of_getElem? (i := 14) rfl) dX1_does_1 ?_
    refine lv_if_eq (tgt := 47) hx hb dX1_does_4 (by decide) (fun c4 => ?_) (fun c4 => ?_)
    · skip
      refine lv_aload_n hx hb dX1_does_47 rfl (lv_at hl 1 rfl) ?_
      refine k_instNo hx hb hown (hts _ q1499) hG hP hO rfl (List.mem_of_getElem? (i := 15) rfl) dX1_does_48 ?_
      refine lv_if_eq (tgt := 89) hx hb dX1_does_51 (by decide) (fun c51 => ?_) (fun c51 => ?_)
      · skip
        refine lv_aload_n hx hb dX1_does_89 rfl (lv_at hl 1 rfl) ?_
        refine k_instS hx hb hown (hts _ q1503) hG hP hO rfl dX1_does_90 ?_
        refine lv_if_eq (tgt := 118) hx hb dX1_does_93 (by decide) (fun c93 => ?_) (fun c93 => ?_)
        · skip
          exact absurd c93 (by decide)
        · skip
          refine lv_aload_n hx hb dX1_does_96 rfl (lv_at hl 1 rfl) ?_
          refine k_castS hx hb hown (hts _ q1503) hG hP hO rfl dX1_does_97 ?_
          refine lv_astore (lv' := [(4, .ref y), (0, .ref x), (1, .ref y)]) hx hb dX1_does_100 hl (by decide) rfl (fun ls hl => ?_)
          refine lv_aload_n hx hb dX1_does_102 rfl (lv_at hl 1 rfl) ?_
          refine k_get hx hb hts in_X1 hown hG hP hX rfl 1 (by decide) (hts _ q277) (fun _ h9 => h9) (v := .ref (A2 0)) rfl dX1_does_103 ?_
          refine lv_aload hx hb dX1_does_106 (lv_at hl 0 rfl) ?_
          refine k_getN hx hb hts in_X13 hown hG hP hO rfl 0 (by decide) (hG.2.1.1 _ q1464 rfl) (fun _ h9 => h9) (v := .int (nI kz)) rfl dX1_does_108 ?_
          have hT_6 := hM2.1
          refine k_cV hx hb hml hown hts (CX2_launch l0 E w 2 A2 u2 m2 wb2 lb2 kz (by omega) (by omega) (by omega) hM2) (cwV 1 hts (lw_V q669 q670 q671 q70 q672) rfl rfl rfl dyX2_launch ⟨Nat.le_of_ble_eq_true rfl, Nat.le_of_ble_eq_true rfl⟩) hG hP hS hT_6 rfl (As := [.int (nI kz)]) (rest := []) rfl hl.1 rfl (lv_room (Nat.le_of_ble_eq_true rfl)) dX1_does_111 ⟨show 0 + 1 ≤ 200 from by omega, show 0 + 2 ≤ 600 from by omega⟩ (fun r111 w4 H locs hp hP hS => ?_)
          obtain ⟨hp0, ⟨hM2', -⟩, hf9⟩ := hp
          have hX : w4 x = some ((94, 0), .inr (1, [.ref (A1 0), .ref (A2 0), .ref (A3 0), .int hs, .ref d, .ref b, .int ft, .int rf, .int ro])) := hf9 _ _ _ hX (by intro z9; first | (simp only [pO, pN, pD, pKp, pT, pB, pS, pR, pRd, pRo, Prod.mk.injEq, pX1, pX2, pXs, pX2t] at z9; done) | (simp only [pO, pN, pD, pKp, pT, pB, pS, pR, pRd, pRo, Prod.mk.injEq, pX1, pX2, pXs, pX2t] at z9; omega))
          have hO : w4 y = some ((98, 2), .inr (11, [.int (nI kz)])) := hf9 _ _ _ hO (by intro z9; first | (simp only [pO, pN, pD, pKp, pT, pB, pS, pR, pRd, pRo, Prod.mk.injEq, pX1, pX2, pXs, pX2t] at z9; done) | (simp only [pO, pN, pD, pKp, pT, pB, pS, pR, pRd, pRo, Prod.mk.injEq, pX1, pX2, pXs, pX2t] at z9; omega))
          have hF : fr pX2t w0 w4 := hF.tr (hf9.up (fun t9 h9 => by simp only [pO, pN, pD, pKp, pT, pB, pS, pR, pX1, pX2, pXs, pX2t] at h9 ⊢; first | exact h9 | (subst h9; simp; done) | (subst h9; simp; omega) | omega | (rcases h9 with h9 | h9 <;> first | (subst h9; simp; done) | (subst h9; simp; omega) | omega)))
          have hM2 : townR E w4 2 A2 (tLn u2 kz) m2 wb2 lb2 := hM2'
          rw [hp0]
          show W p l0 e rmCX1_does s m args below meth c H locs (0 + 1) (0 + 2) Q (F0 m 114 ls [.int (tIn (tLn u2 kz) 1 m2)])
          refine lv_pop hx hb dX1_does_114 rfl ?_
          refine lv_goto (tgt := 192) hx hb dX1_does_115 (by decide) ?_
          exact k_vret hx hb hr hlocks hQ hP hS (by omega) (by omega) dX1_does_192 (⟨_, _, trivial, ⟨(hM2.rowm (by simp [cDo, hc0, e1, ckz]) (by simp [cDm, hc0])), trivial⟩, hF⟩)
      · skip
        exact absurd c51 (by decide)
    · skip
      exact absurd c4 (by decide)
  · skip
    have hkt : tKt u2 (v 1) = true := by simp [cMB, hc0] at hmb; first | exact hmb | exact hmb.1
    obtain ⟨kz, hkz, e1⟩ := tKt_of hm6.1 hm6.2 hkt
    have ckz : (nI kz).toNatClampNeg = kz := nI_clamp (by omega)
    rw [e1] at hO
    have hkb : tin (v 2) (-20) 20 = true := by simp [cMB, hc0] at hmb; exact hmb.2
    rw [e1] at hkt
    obtain ⟨⟨hup, hx1, hx2⟩, -⟩ := (qReel_r hkt hkb ckz).2 (by have h9 := hrs; simp only [cRs, hc0] at h9; rw [e1, ckz] at h9; exact h9)
    refine lv_aload_n hx hb dX1_does_0 rfl (lv_at hl 1 rfl) ?_
    refine k_instNo hx hb hown (hts _ q1498) hG hP hO rfl (List.mem_of_getElem? (i := 18) rfl) dX1_does_1 ?_
    refine lv_if_eq (tgt := 47) hx hb dX1_does_4 (by decide) (fun c4 => ?_) (fun c4 => ?_)
    · skip
      refine lv_aload_n hx hb dX1_does_47 rfl (lv_at hl 1 rfl) ?_
      refine k_instNo hx hb hown (hts _ q1499) hG hP hO rfl (List.mem_of_getElem? (i := 19) rfl) dX1_does_48 ?_
      refine lv_if_eq (tgt := 89) hx hb dX1_does_51 (by decide) (fun c51 => ?_) (fun c51 => ?_)
      · skip
        refine lv_aload_n hx hb dX1_does_89 rfl (lv_at hl 1 rfl) ?_
        refine k_instNo hx hb hown (hts _ q1503) hG hP hO rfl (List.mem_of_getElem? (i := 20) rfl) dX1_does_90 ?_
        refine lv_if_eq (tgt := 118) hx hb dX1_does_93 (by decide) (fun c93 => ?_) (fun c93 => ?_)
        · skip
          refine lv_aload_n hx hb dX1_does_118 rfl (lv_at hl 1 rfl) ?_
          refine k_instS hx hb hown (hts _ q1504) hG hP hO rfl dX1_does_119 ?_
          refine lv_if_eq (tgt := 152) hx hb dX1_does_122 (by decide) (fun c122 => ?_) (fun c122 => ?_)
          · skip
            exact absurd c122 (by decide)
          · skip
            refine lv_aload_n hx hb dX1_does_125 rfl (lv_at hl 1 rfl) ?_
            refine k_castS hx hb hown (hts _ q1504) hG hP hO rfl dX1_does_126 ?_
            refine lv_astore (lv' := [(5, .ref y), (0, .ref x), (1, .ref y)]) hx hb dX1_does_129 hl (by decide) rfl (fun ls hl => ?_)
            refine lv_aload_n hx hb dX1_does_131 rfl (lv_at hl 1 rfl) ?_
            refine k_get hx hb hts in_X1 hown hG hP hX rfl 1 (by decide) (hts _ q277) (fun _ h9 => h9) (v := .ref (A2 0)) rfl dX1_does_132 ?_
            refine lv_aload hx hb dX1_does_135 (lv_at hl 0 rfl) ?_
            refine k_getN hx hb hts in_X14 hown hG hP hO rfl 0 (by decide) (hG.2.1.1 _ q1475 rfl) (fun _ h9 => h9) (v := .int (nI kz)) rfl dX1_does_137 ?_
            refine lv_aload hx hb dX1_does_140 (lv_at hl 0 rfl) ?_
            refine k_getN hx hb hts in_X14 hown hG hP hO rfl 1 (by decide) (hG.2.1.1 _ q1477 rfl) (fun _ h9 => h9) (v := .int (v 2)) rfl dX1_does_142 ?_
            have hT_7 := hM2.1
            refine k_cV hx hb hml hown hts (CX2_reel l0 E w 2 A2 u2 m2 wb2 lb2 kz (v 2) (by omega) (by omega) hup hx1 hx2 hM2) (cwV 2 hts (lw_V q716 q717 q718 q70 q719) rfl rfl rfl dyX2_reel ⟨Nat.le_of_ble_eq_true rfl, Nat.le_of_ble_eq_true rfl⟩) hG hP hS hT_7 rfl (As := [.int (nI kz), .int (v 2)]) (rest := []) rfl hl.1 rfl (lv_room (Nat.le_of_ble_eq_true rfl)) dX1_does_145 ⟨show 0 + 0 ≤ 200 from by omega, show 0 + 0 ≤ 600 from by omega⟩ (fun r145 w5 H locs hp hP hS => ?_)
            obtain ⟨hp0, ⟨hM2', -⟩, hf9⟩ := hp
            have hX : w5 x = some ((94, 0), .inr (1, [.ref (A1 0), .ref (A2 0), .ref (A3 0), .int hs, .ref d, .ref b, .int ft, .int rf, .int ro])) := hf9 _ _ _ hX (by intro z9; first | (simp only [pO, pN, pD, pKp, pT, pB, pS, pR, pRd, pRo, Prod.mk.injEq, pX1, pX2, pXs, pX2t] at z9; done) | (simp only [pO, pN, pD, pKp, pT, pB, pS, pR, pRd, pRo, Prod.mk.injEq, pX1, pX2, pXs, pX2t] at z9; omega))
            have hO : w5 y = some ((98, 2), .inr (12, [.int (nI kz), .int (v 2)])) := hf9 _ _ _ hO (by intro z9; first | (simp only [pO, pN, pD, pKp, pT, pB, pS, pR, pRd, pRo, Prod.mk.injEq, pX1, pX2, pXs, pX2t] at z9; done) | (simp only [pO, pN, pD, pKp, pT, pB, pS, pR, pRd, pRo, Prod.mk.injEq, pX1, pX2, pXs, pX2t] at z9; omega))
            have hF : fr pX2t w0 w5 := hF.tr (hf9.up (fun t9 h9 => by simp only [pO, pN, pD, pKp, pT, pB, pS, pR, pX1, pX2, pXs, pX2t] at h9 ⊢; first | exact h9 | (subst h9; simp; done) | (subst h9; simp; omega) | omega | (rcases h9 with h9 | h9 <;> first | (subst h9; simp; done) | (subst h9; simp; omega) | omega)))
            have hM2 : townR E w5 2 A2 (tLt u2 kz (v 2)) m2 wb2 lb2 := hM2'
            rw [hp0]
            show W p l0 e rmCX1_does s m args below meth c H locs 0 0 Q (F0 m 148 ls [.int (tLt u2 kz (v 2) (kO kz 5))])
            refine lv_pop hx hb dX1_does_148 rfl ?_
            refine lv_goto (tgt := 192) hx hb dX1_does_149 (by decide) ?_
            exact k_vret hx hb hr hlocks hQ hP hS (by omega) (by omega) dX1_does_192 (⟨_, _, trivial, ⟨(hM2.rowm (by simp [cDo, hc0, e1, ckz]) (by simp [cDm, hc0])), trivial⟩, hF⟩)
        · skip
          exact absurd c93 (by decide)
      · skip
        exact absurd c51 (by decide)
    · skip
      exact absurd c4 (by decide)
  · skip
    have hmt : tin (v 1) 1 30 = true := by rw [cMB, if_neg hc0.1, if_neg hc0.2.1, if_neg hc0.2.2.1, if_neg hc0.2.2.2] at hmb; exact hmb
    obtain ⟨kr, hkr, e1⟩ := tin_1N (n := 30) (by decide) hmt
    have ckr : (nI kr).toNatClampNeg = kr := nI_clamp (by omega)
    rw [e1] at hO
    refine lv_aload_n hx hb dX1_does_0 rfl (lv_at hl 1 rfl) ?_
    refine k_instNo hx hb hown (hts _ q1498) hG hP hO rfl (List.mem_of_getElem? (i := 22) rfl) dX1_does_1 ?_
    refine lv_if_eq (tgt := 47) hx hb dX1_does_4 (by decide) (fun c4 => ?_) (fun c4 => ?_)
    · skip
      refine lv_aload_n hx hb dX1_does_47 rfl (lv_at hl 1 rfl) ?_
      refine k_instNo hx hb hown (hts _ q1499) hG hP hO rfl (List.mem_of_getElem? (i := 23) rfl) dX1_does_48 ?_
      refine lv_if_eq (tgt := 89) hx hb dX1_does_51 (by decide) (fun c51 => ?_) (fun c51 => ?_)
      · skip
        refine lv_aload_n hx hb dX1_does_89 rfl (lv_at hl 1 rfl) ?_
        refine k_instNo hx hb hown (hts _ q1503) hG hP hO rfl (List.mem_of_getElem? (i := 24) rfl) dX1_does_90 ?_
        refine lv_if_eq (tgt := 118) hx hb dX1_does_93 (by decide) (fun c93 => ?_) (fun c93 => ?_)
        · skip
          refine lv_aload_n hx hb dX1_does_118 rfl (lv_at hl 1 rfl) ?_
          refine k_instNo hx hb hown (hts _ q1504) hG hP hO rfl (List.mem_of_getElem? (i := 25) rfl) dX1_does_119 ?_
          refine lv_if_eq (tgt := 152) hx hb dX1_does_122 (by decide) (fun c122 => ?_) (fun c122 => ?_)
          · skip
            refine lv_aload_n hx hb dX1_does_152 rfl (lv_at hl 1 rfl) ?_
            refine k_instS hx hb hown (hts _ q1505) hG hP hO rfl dX1_does_153 ?_
            refine lv_if_eq (tgt := 192) hx hb dX1_does_156 (by decide) (fun c156 => ?_) (fun c156 => ?_)
            · skip
              exact absurd c156 (by decide)
            · skip
              refine lv_aload_n hx hb dX1_does_159 rfl (lv_at hl 1 rfl) ?_
              refine k_castS hx hb hown (hts _ q1505) hG hP hO rfl dX1_does_160 ?_
              refine lv_astore (lv' := [(6, .ref y), (0, .ref x), (1, .ref y)]) hx hb dX1_does_163 hl (by decide) rfl (fun ls hl => ?_)
              refine lv_iconst (v := 0) hx hb dX1_does_165 (by decide) ?_
              refine lv_istore (lv' := [(7, .int 0), (6, .ref y), (0, .ref x), (1, .ref y)]) hx hb dX1_does_166 hl (by decide) rfl (fun ls hl => ?_)
              have hloop_168 : ∀ (n9_168 : Nat) (i9 : Nat) (wn2 : Nat → Int32) (ly2 : Nat → Int32), (i9 ≤ kr) → (kr - i9) < n9_168 → ∀ (w : wd) (H : Heap) (locs : List Loc) (ls : Array Slot), (w x = some ((94, 0), .inr (1, [.ref (A1 0), .ref (A2 0), .ref (A3 0), .int hs, .ref d, .ref b, .int ft, .int rf, .int ro]))) → (townR E w 2 A2 (tRn u2 m2 i9) m2 wn2 ly2) → (w y = some ((98, 2), .inr (13, [.int (nI kr)]))) → fr pX2t w0 w → wP E w H → va_S (gA E) s.heap H locs → lv_has ls 8 [(7, .int (nI i9)), (6, .ref y), (0, .ref x), (1, .ref y)] → W p l0 e rmCX1_does s m args below meth c H locs (6 * i9) (18 * i9) Q (F0 m 168 ls []) := by
                intro n9_168
                induction n9_168 with
                | zero => intro i9 wn2 ly2 hi9 hn; exact absurd hn (Nat.not_lt_zero _)
                | succ n9_168 ih_168 =>
                  intro i9 wn2 ly2 hi9 hn_168 w H locs ls hX hM2 hO hF hP hS hl
                  refine lv_iload hx hb dX1_does_168 (lv_at hl 0 rfl) ?_
                  refine lv_aload hx hb dX1_does_170 (lv_at hl 1 rfl) ?_
                  refine k_getN hx hb hts in_X15 hown hG hP hO rfl 0 (by decide) (hG.2.1.1 _ q1490 rfl) (fun _ h9 => h9) (v := .int (nI kr)) rfl dX1_does_172 ?_
                  refine k_icmp_geN (x := i9) (y := kr) (tgt := 192) hx hb (by omega) (by omega) dX1_does_175 (by decide) (fun c175 => ?_) (fun c175 => ?_)
                  · skip
                    exact k_vret hx hb hr hlocks hQ hP hS (by omega) (by omega) dX1_does_192 (⟨_, _, trivial, ⟨(hM2.rowm (by simp [cDo, hc0, e1, ckr, show i9 = kr from by omega]) (by simp [cDm, hc0])), trivial⟩, hF⟩)
                  · skip
                    refine lv_aload_n hx hb dX1_does_178 rfl (lv_at hl 2 rfl) ?_
                    refine k_get hx hb hts in_X1 hown hG hP hX rfl 1 (by decide) (hts _ q277) (fun _ h9 => h9) (v := .ref (A2 0)) rfl dX1_does_179 ?_
                    have hT_8 := hM2.1
                    refine k_cV hx hb hml hown hts (CX2_round l0 E w 2 A2 (tRn u2 m2 i9) m2 wn2 ly2 (N + 71 * i9) (gI_Rn hI i9 (by omega)) (by omega) (by omega) (by omega) hM2) (cwV 0 hts (lw_V q960 q961 q962 q70 q963) rfl rfl rfl dyX2_round ⟨Nat.le_of_ble_eq_true rfl, Nat.le_of_ble_eq_true rfl⟩) hG hP hS hT_8 rfl (As := []) (rest := []) rfl hl.1 rfl (lv_room (Nat.le_of_ble_eq_true rfl)) dX1_does_182 ⟨show (6 * i9) + 6 ≤ 200 from by omega, show (18 * i9) + 18 ≤ 600 from by omega⟩ (fun r182 w6 H locs hp hP hS => ?_)
                    obtain ⟨wn9_1, ly9_2, hp0, ⟨hM2', -⟩, hf9⟩ := hp
                    have hX : w6 x = some ((94, 0), .inr (1, [.ref (A1 0), .ref (A2 0), .ref (A3 0), .int hs, .ref d, .ref b, .int ft, .int rf, .int ro])) := hf9 _ _ _ hX (by intro z9; first | (simp only [pO, pN, pD, pKp, pT, pB, pS, pR, pRd, pRo, Prod.mk.injEq, pX1, pX2, pXs, pX2t] at z9; done) | (simp only [pO, pN, pD, pKp, pT, pB, pS, pR, pRd, pRo, Prod.mk.injEq, pX1, pX2, pXs, pX2t] at z9; omega))
                    have hO : w6 y = some ((98, 2), .inr (13, [.int (nI kr)])) := hf9 _ _ _ hO (by intro z9; first | (simp only [pO, pN, pD, pKp, pT, pB, pS, pR, pRd, pRo, Prod.mk.injEq, pX1, pX2, pXs, pX2t] at z9; done) | (simp only [pO, pN, pD, pKp, pT, pB, pS, pR, pRd, pRo, Prod.mk.injEq, pX1, pX2, pXs, pX2t] at z9; omega))
                    have hF : fr pX2t w0 w6 := hF.tr (hf9.up (fun t9 h9 => by simp only [pO, pN, pD, pKp, pT, pB, pS, pR, pX1, pX2, pXs, pX2t] at h9 ⊢; first | exact h9 | (subst h9; simp; done) | (subst h9; simp; omega) | omega | (rcases h9 with h9 | h9 <;> first | (subst h9; simp; done) | (subst h9; simp; omega) | omega)))
                    have hM2 : townR E w6 2 A2 (tRx (tRn u2 m2 i9) m2) m2 wn9_1 ly9_2 := hM2'
                    rw [hp0]
                    show W p l0 e rmCX1_does s m args below meth c H locs ((6 * i9) + 6) ((18 * i9) + 18) Q (F0 m 185 ls [.int (tRk (tRn u2 m2 i9) m2)])
                    refine lv_pop hx hb dX1_does_185 rfl ?_
                    refine lv_iinc (v := (nI (i9 + 1))) (lv' := [(7, .int (nI (i9 + 1))), (6, .ref y), (0, .ref x), (1, .ref y)]) hx hb dX1_does_186 hl (k := 0) rfl (nI_add i9 1) (by decide) rfl (fun ls hl => ?_)
                    refine lv_goto (tgt := 168) hx hb dX1_does_189 (by decide) ?_
                    have hl : lv_has ls 8 [(7, .int (nI (i9 + 1))), (6, .ref y), (0, .ref x), (1, .ref y)] := hl
                    refine W.widen (show ((6 * i9) + 6) ≤ (6 * (i9 + 1)) from by omega) (show ((18 * i9) + 18) ≤ (18 * (i9 + 1)) from by omega) ?_
                    exact ih_168 (i9 + 1) wn9_1 ly9_2 (by omega) (by omega) _ _ _ _ hX hM2 hO hF hP hS hl
              have hl : lv_has ls 8 [(7, .int (nI 0)), (6, .ref y), (0, .ref x), (1, .ref y)] := hl
              refine W.widen (show 0 ≤ (6 * 0) from by omega) (show 0 ≤ (18 * 0) from by omega) ?_
              exact hloop_168 _ 0 wb2 lb2 (by omega) (Nat.lt_succ_self _) _ _ _ _ hX hM2 hO hF hP hS hl
          · skip
            exact absurd c122 (by decide)
        · skip
          exact absurd c93 (by decide)
      · skip
        exact absurd c51 (by decide)
    · skip
      exact absurd c4 (by decide)
