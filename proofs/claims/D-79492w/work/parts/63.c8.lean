/-! THE COMPONENT, 11: a round -/
set_option maxRecDepth 100000
abbrev rmCX2_round : Room := { frames := 6, cells := 6, slots := 18, locals := 150 }
theorem dyX2_round : yX2_round.cls = RX2 ∧ yX2_round.cls ≠ "java/lang/invoke/MethodHandle" ∧ yX2_round.cls ≠ "java/lang/invoke/VarHandle" ∧ (parseMethodDescriptor yX2_round.desc).map (fun d => d.parameters.length) = some 0 := by decide +kernel
set_option maxHeartbeats 4000000 in
theorem CX2_round (l0 : Launch) (E : gE) (w : wd) (i : Nat) (A : Nat → Nat) (g : Nat → Int32) (mn : Nat) (wn : Nat → Int32) (ly : Nat → Int32) (N : Nat) (hI : gI g mn N) (hi0 : i ≠ 0) (hi3 : i < 93) (hN : N + 71 < 2 ^ 31) (hM : townR E w i A g mn wn ly) : kC l0 yX2_round (ws_ yX2_round cX2_round 3 (some .int)) rmCX2_round 6 18 mI E w [.ref (A 0)] (fun r w' => ∃ wn9 : Nat → Int32, ∃ ly9 : Nat → Int32, (r = (tRk g mn)) ∧ (townR E w' i A (tRx g mn) mn wn9 ly9 ∧ True) ∧ fr (pT i) w w') := by
  refine k_open (cc := cX2_round) (maxL := 3) (ret := (some .int)) (by decide) rfl (Nat.le_of_ble_eq_true rfl) ?_
  intro p e s m args below meth c ls Q hx hb hr hml hown hts hlocks hname hQ hG hP hl hS
  have hl : lv_has ls 3 [(0, .ref (A 0))] := hl
  obtain ⟨w0, hw0⟩ : ∃ z, z = w := ⟨_, rfl⟩
  have hF : fr (pT i) w0 w := by rw [hw0]; exact fr.rf
  rw [← hw0] at hQ
  have hR1 := gI_R1 hI (by omega)
  obtain ⟨hT, ⟨fs9, hS1, hs1⟩, ⟨fd9, hS2, hs2⟩, ⟨fk9, hS3, hs3⟩, hS4, hS5, ⟨hm, hmn⟩, hK⟩ := id hM
  refine lv_aload_n hx hb dX2_round_0 rfl (lv_at hl 0 rfl) ?_
  refine k_get hx hb hts in_X2 hown hG hP hT rfl 8 (by decide) (hts _ q196) (fun _ h9 => h9) (v := .int (g 24)) rfl dX2_round_1 ?_
  refine lv_istore_n (lv' := [(1, .int (g 24)), (0, .ref (A 0))]) hx hb dX2_round_4 rfl hl (by decide) rfl (fun ls hl => ?_)
  refine lv_aload_n hx hb dX2_round_5 rfl (lv_at hl 1 rfl) ?_
  refine lv_dup hx hb dX2_round_6 rfl ?_
  refine k_get hx hb hts in_X2 hown hG hP hT rfl 4 (by decide) (hts _ q188) (fun _ h9 => h9) (v := .int (g 20)) rfl dX2_round_7 ?_
  refine lv_iconst (v := 1) hx hb dX2_round_10 (by decide) ?_
  refine lv_iadd hx hb dX2_round_11 ?_
  refine k_putW hx hb hts in_X2 tyX2 tyX2_ok nmX2 hown hG hP hS hT rfl 4 (by decide) (hts _ q188) (fun _ h9 => h9) rfl (ty := .int) (v := .int ((g 20) + 1)) rfl rfl rfl (Nat.le_of_ble_eq_true rfl) dX2_round_12 (fun w1 H locs h9 hf9 hP hS => ?_)
  have h9 : w1 (A 0) = some ((i, 0), .inr (2, tnF A (va_up g 20 ((g 20) + 1)) mn)) := h9
  have hM : townR E w1 i A (va_up g 20 ((g 20) + 1)) mn wn ly := hM.scal hi0 hf9 h9 (fun j hj => up_n (by omega))
  have hF : fr (pT i) w0 w1 := hF.tr (fr_OT hf9)
  obtain ⟨hT, ⟨fs9, hS1, hs1⟩, ⟨fd9, hS2, hs2⟩, ⟨fk9, hS3, hs3⟩, hS4, hS5, ⟨hm, hmn⟩, hK⟩ := id hM
  refine lv_aload_n hx hb dX2_round_15 rfl (lv_at hl 1 rfl) ?_
  refine k_cV hx hb hml hown hts (CX2_reels l0 E w1 i A (va_up g 20 ((g 20) + 1)) mn wn ly (N + 1) (gI_G0 hI (by omega)) hi0 hM) (cwV 0 hts (lw_V q964 q966 qs14 q70 q967) rfl rfl rfl dyX2_reels ⟨Nat.le_of_ble_eq_true rfl, Nat.le_of_ble_eq_true rfl⟩) hG hP hS hT rfl (As := []) (rest := []) rfl hl.1 rfl (lv_room (Nat.le_of_ble_eq_true rfl)) dX2_round_16 ⟨show 0 + 0 ≤ 6 from by omega, show 0 + 0 ≤ 18 from by omega⟩ (fun r16 w2 H locs hp hP hS => ?_)
  obtain ⟨hp0, ⟨hM', -⟩, hf9⟩ := hp
  have hM : townR E w2 i A (tP1 (va_up g 20 ((g 20) + 1)) mn) mn wn ly := hM'
  have hF : fr (pT i) w0 w2 := hF.tr hf9
  obtain ⟨hT, ⟨fs9, hS1, hs1⟩, ⟨fd9, hS2, hs2⟩, ⟨fk9, hS3, hs3⟩, hS4, hS5, ⟨hm, hmn⟩, hK⟩ := id hM
  show W p l0 e rmCX2_round s m args below meth c H locs 0 0 Q (F0 m 19 ls [])
  have hM : townR E w2 i A (tR1 g mn) mn wn ly := hM.row (rfl)
  obtain ⟨hT, ⟨fs9, hS1, hs1⟩, ⟨fd9, hS2, hs2⟩, ⟨fk9, hS3, hs3⟩, hS4, hS5, ⟨hm, hmn⟩, hK⟩ := id hM
  refine lv_aload_n hx hb dX2_round_19 rfl (lv_at hl 1 rfl) ?_
  refine k_cV hx hb hml hown hts (CX2_saws l0 E w2 i A (tR1 g mn) mn wn ly (N + 1) hR1 hi0 hM) (cwV 0 hts (lw_V q968 q970 qs15 q70 q971) rfl rfl rfl dyX2_saws ⟨Nat.le_of_ble_eq_true rfl, Nat.le_of_ble_eq_true rfl⟩) hG hP hS hT rfl (As := []) (rest := []) rfl hl.1 rfl (lv_room (Nat.le_of_ble_eq_true rfl)) dX2_round_20 ⟨show 0 + 0 ≤ 6 from by omega, show 0 + 0 ≤ 18 from by omega⟩ (fun r20 w3 H locs hp hP hS => ?_)
  obtain ⟨wn9_1, hp0, ⟨hM', -⟩, hf9⟩ := hp
  have hM : townR E w3 i A (tR1 g mn) mn wn9_1 ly := hM'
  have hF : fr (pT i) w0 w3 := hF.tr hf9
  obtain ⟨hT, ⟨fs9, hS1, hs1⟩, ⟨fd9, hS2, hs2⟩, ⟨fk9, hS3, hs3⟩, hS4, hS5, ⟨hm, hmn⟩, hK⟩ := id hM
  show W p l0 e rmCX2_round s m args below meth c H locs 0 0 Q (F0 m 23 ls [])
  have hW1 := hp0
  refine lv_aload_n hx hb dX2_round_23 rfl (lv_at hl 1 rfl) ?_
  refine k_cV hx hb hml hown hts (CX2_wearsAll l0 E w3 i A (tR1 g mn) mn wn9_1 ly (N + 1) hR1 hi0 hW1 hM) (cwV 0 hts (lw_V q972 q974 qs16 q70 q975) rfl rfl rfl dyX2_wearsAll ⟨Nat.le_of_ble_eq_true rfl, Nat.le_of_ble_eq_true rfl⟩) hG hP hS hT rfl (As := []) (rest := []) rfl hl.1 rfl (lv_room (Nat.le_of_ble_eq_true rfl)) dX2_round_24 ⟨show 0 + 0 ≤ 6 from by omega, show 0 + 0 ≤ 18 from by omega⟩ (fun r24 w4 H locs hp hP hS => ?_)
  obtain ⟨hp0, ⟨hM', -⟩, hf9⟩ := hp
  have hM : townR E w4 i A (tWA (tR1 g mn) mn mn) mn wn9_1 ly := hM'
  have hF : fr (pT i) w0 w4 := hF.tr hf9
  obtain ⟨hT, ⟨fs9, hS1, hs1⟩, ⟨fd9, hS2, hs2⟩, ⟨fk9, hS3, hs3⟩, hS4, hS5, ⟨hm, hmn⟩, hK⟩ := id hM
  show W p l0 e rmCX2_round s m args below meth c H locs 0 0 Q (F0 m 27 ls [])
  have hM : townR E w4 i A (tP2 (tR1 g mn) mn mn) mn wn9_1 ly := hM.row (tWA_P2 mn)
  obtain ⟨hT, ⟨fs9, hS1, hs1⟩, ⟨fd9, hS2, hs2⟩, ⟨fk9, hS3, hs3⟩, hS4, hS5, ⟨hm, hmn⟩, hK⟩ := id hM
  refine lv_aload_n hx hb dX2_round_27 rfl (lv_at hl 1 rfl) ?_
  refine k_cV hx hb hml hown hts (CX2_marks l0 E w4 i A (tP2 (tR1 g mn) mn mn) mn wn9_1 ly (N + 1) (gI_P2 hR1 mn) hi0 (fun l hl o ho => (hW1 l hl o ho).trans (aG_wb (aG_P2 mn) l o).symm) hM) (cwV 0 hts (lw_V q984 q986 qs17 q70 q987) rfl rfl rfl dyX2_marks ⟨Nat.le_of_ble_eq_true rfl, Nat.le_of_ble_eq_true rfl⟩) hG hP hS hT rfl (As := []) (rest := []) rfl hl.1 rfl (lv_room (Nat.le_of_ble_eq_true rfl)) dX2_round_28 ⟨show 0 + 0 ≤ 6 from by omega, show 0 + 0 ≤ 18 from by omega⟩ (fun r28 w5 H locs hp hP hS => ?_)
  obtain ⟨ly9_2, hp0, ⟨hM', -⟩, hf9⟩ := hp
  have hM : townR E w5 i A (tP2 (tR1 g mn) mn mn) mn wn9_1 ly9_2 := hM'
  have hF : fr (pT i) w0 w5 := hF.tr hf9
  obtain ⟨hT, ⟨fs9, hS1, hs1⟩, ⟨fd9, hS2, hs2⟩, ⟨fk9, hS3, hs3⟩, hS4, hS5, ⟨hm, hmn⟩, hK⟩ := id hM
  show W p l0 e rmCX2_round s m args below meth c H locs 0 0 Q (F0 m 31 ls [])
  have hL1 := hp0
  refine lv_iconst (v := 0) hx hb dX2_round_31 (by decide) ?_
  refine lv_istore_n (lv' := [(2, .int 0), (1, .int (g 24)), (0, .ref (A 0))]) hx hb dX2_round_32 rfl hl (by decide) rfl (fun ls hl => ?_)
  have hloop_33 : ∀ (n9_33 : Nat) (z : Nat), (z ≤ mn) → (mn - z) < n9_33 → ∀ (w : wd) (H : Heap) (locs : List Loc) (ls : Array Slot), (townR E w i A (rX3 (tR1 g mn) mn z) mn wn9_1 ly9_2) → fr (pT i) w0 w → wP E w H → va_S (gA E) s.heap H locs → lv_has ls 3 [(2, .int (nI z)), (1, .int (g 24)), (0, .ref (A 0))] → W p l0 e rmCX2_round s m args below meth c H locs z (3 * z) Q (F0 m 33 ls []) := by
    intro n9_33
    induction n9_33 with
    | zero => intro z hz hn; exact absurd hn (Nat.not_lt_zero _)
    | succ n9_33 ih_33 =>
      intro z hz hn_33 w H locs ls hM hF hP hS hl
      obtain ⟨hT, ⟨fs9, hS1, hs1⟩, ⟨fd9, hS2, hs2⟩, ⟨fk9, hS3, hs3⟩, hS4, hS5, ⟨hm, hmn⟩, hK⟩ := id hM
      refine lv_iload_n hx hb dX2_round_33 rfl (lv_at hl 0 rfl) ?_
      refine lv_aload_n hx hb dX2_round_34 rfl (lv_at hl 2 rfl) ?_
      refine k_get hx hb hts in_X2 hown hG hP hT rfl 3 (by decide) (hts _ q186) (fun _ h9 => h9) (v := .int (nI mn)) rfl dX2_round_35 ?_
      refine k_icmp_geN (x := z) (y := mn) (tgt := 62) hx hb (by omega) (by omega) dX2_round_38 (by decide) (fun c38 => ?_) (fun c38 => ?_)
      · skip
        have hzm : z = mn := by omega
        refine lv_iconst (v := 0) hx hb dX2_round_62 (by decide) ?_
        refine lv_istore_n (lv' := [(2, .int 0), (1, .int (g 24)), (0, .ref (A 0))]) hx hb dX2_round_63 rfl hl (by decide) rfl (fun ls hl => ?_)
        have hloop_64 : ∀ (n9_64 : Nat) (u : Nat), (u ≤ mn) → (mn - u) < n9_64 → ∀ (w : wd) (H : Heap) (locs : List Loc) (ls : Array Slot), (townR E w i A (tX4 (rX3 (tR1 g mn) mn z) u) mn wn9_1 ly9_2) → fr (pT i) w0 w → wP E w H → va_S (gA E) s.heap H locs → lv_has ls 3 [(2, .int (nI u)), (1, .int (g 24)), (0, .ref (A 0))] → W p l0 e rmCX2_round s m args below meth c H locs z (3 * z) Q (F0 m 64 ls []) := by
          intro n9_64
          induction n9_64 with
          | zero => intro u hu hn; exact absurd hn (Nat.not_lt_zero _)
          | succ n9_64 ih_64 =>
            intro u hu hn_64 w H locs ls hM hF hP hS hl
            obtain ⟨hT, ⟨fs9, hS1, hs1⟩, ⟨fd9, hS2, hs2⟩, ⟨fk9, hS3, hs3⟩, hS4, hS5, ⟨hm, hmn⟩, hK⟩ := id hM
            refine lv_iload_n hx hb dX2_round_64 rfl (lv_at hl 0 rfl) ?_
            refine lv_aload_n hx hb dX2_round_65 rfl (lv_at hl 2 rfl) ?_
            refine k_get hx hb hts in_X2 hown hG hP hT rfl 3 (by decide) (hts _ q186) (fun _ h9 => h9) (v := .int (nI mn)) rfl dX2_round_66 ?_
            refine k_icmp_geN (x := u) (y := mn) (tgt := 118) hx hb (by omega) (by omega) dX2_round_69 (by decide) (fun c69 => ?_) (fun c69 => ?_)
            · skip
              refine lv_aload_n hx hb dX2_round_118 rfl (lv_at hl 2 rfl) ?_
              refine k_get hx hb hts in_X2 hown hG hP hT rfl 8 (by decide) (hts _ q196) (fun _ h9 => h9) (v := .int ((tX4 (rX3 (tR1 g mn) mn z) u) 24)) rfl dX2_round_119 ?_
              refine k_top (y := ((g 24) + tNc (tDb (tR1 g mn) mn) z)) (rX_24) ?_
              refine lv_iload_n hx hb dX2_round_122 rfl (lv_at hl 1 rfl) ?_
              refine lv_isub hx hb dX2_round_123 ?_
              exact k_iret hx hb hr hlocks hQ hP hS (by omega) (by omega) dX2_round_124 (⟨_, _, by rw [hzm, tRk]; grind, ⟨hM.row (by rw [show u = mn from by omega, hzm]; exact (tRx_eq hR1).symm), trivial⟩, hF⟩)
            · skip
              refine lv_aload_n hx hb dX2_round_72 rfl (lv_at hl 2 rfl) ?_
              refine k_get hx hb hts in_X2 hown hG hP hT rfl 2 (by decide) (hts _ q184) (fun _ h9 => h9) (v := .ref (A 3)) rfl dX2_round_73 ?_
              refine lv_iload_n hx hb dX2_round_76 rfl (lv_at hl 0 rfl) ?_
              refine k_aald hx hb hG hP (j := u) 4 hS3 rfl (by omega) (show u < 6 from by omega) dX2_round_77 ?_
              rw [hs3 u (by omega)]
              refine lv_dup hx hb dX2_round_78 rfl ?_
              obtain ⟨tz1, hkz1, hsz1⟩ := hM.kite (k := u) (by omega)
              refine k_getN hx hb hts in_X3 hown hG hP hkz1 rfl 6 (by decide) (hG.2.1.1 _ q158 rfl) (fun _ h9 => h9) (v := .int ((tX4 (rX3 (tR1 g mn) mn z) u) (kO u 8))) rfl dX2_round_79 ?_
              refine lv_aload_n hx hb dX2_round_82 rfl (lv_at hl 2 rfl) ?_
              refine k_get hx hb hts in_X2 hown hG hP hT rfl 2 (by decide) (hts _ q184) (fun _ h9 => h9) (v := .ref (A 3)) rfl dX2_round_83 ?_
              refine lv_iload_n hx hb dX2_round_86 rfl (lv_at hl 0 rfl) ?_
              refine k_aald hx hb hG hP (j := u) 4 hS3 rfl (by omega) (show u < 6 from by omega) dX2_round_87 ?_
              rw [hs3 u (by omega)]
              refine k_cV hx hb hml hown hts (CX3_isUp l0 E w i u (A (6 + u)) (kv (tX4 (rX3 (tR1 g mn) mn z) u) u) tz1 hkz1 hsz1) (cwV 0 hts (lw_V q712 q713 q714 q71 q715) rfl rfl rfl dyX3_isUp ⟨Nat.le_of_ble_eq_true rfl, Nat.le_of_ble_eq_true rfl⟩) hG hP hS hkz1 rfl (As := []) (rest := [.int ((tX4 (rX3 (tR1 g mn) mn z) u) (kO u 8)), .ref (A (6 + u))]) rfl hl.1 rfl (lv_room (Nat.le_of_ble_eq_true rfl)) dX2_round_88 ⟨show z + 0 ≤ 6 from by omega, show (3 * z) + 0 ≤ 18 from by omega⟩ (fun r9 w9 H locs hp hP hS => ?_)
              obtain ⟨hp1, hp0⟩ := hp
              rw [hp1] at hP
              rw [hp0]
              show W p l0 e rmCX2_round s m args below meth c H locs z (3 * z) Q (F0 m 91 ls [.int (bI (decide (((kv (tX4 (rX3 (tR1 g mn) mn z) u) u) 0) = 1))), .int ((tX4 (rX3 (tR1 g mn) mn z) u) (kO u 8)), .ref (A (6 + u))])
              refine k_top (y := (bI (tUp (tX4 (rX3 (tR1 g mn) mn z) u) u))) (rfl) ?_
              refine k_ifeqB (x := tUp (tX4 (rX3 (tR1 g mn) mn z) u) u) (tgt := 107) hx hb dX2_round_91 (by decide) (fun c91 => ?_) (fun c91 => ?_)
              · skip
                refine lv_iconst (v := 0) hx hb dX2_round_107 (by decide) ?_
                refine lv_iadd hx hb dX2_round_108 ?_
                refine k_putNW hx hb hts in_X3 tyX3 tyX3_ok nmX3 hown hG hP hS hkz1 rfl 6 (by decide) (hG.2.1.1 _ q158 rfl) (fun _ h9 => h9) rfl (ty := .int) (v := .int (((tX4 (rX3 (tR1 g mn) mn z) u) (kO u 8)) + 0)) rfl rfl rfl (Nat.le_of_ble_eq_true rfl) dX2_round_109 (fun w6 H locs h9 hf9 hP hS => ?_)
                have h9 : w6 (A (6 + u)) = some ((i, 6 + u), .inr (3, kF E (va_up (kv (tX4 (rX3 (tR1 g mn) mn z) u) u) 8 (((tX4 (rX3 (tR1 g mn) mn z) u) (kO u 8)) + 0)) tz1)) := h9
                have hM : townR E w6 i A (va_up (tX4 (rX3 (tR1 g mn) mn z) u) (kO u 8) (((tX4 (rX3 (tR1 g mn) mn z) u) (kO u 8)) + 0)) mn wn9_1 ly9_2 := hM.kup hi0 (k := u) (by omega) (fr_K hf9) (kR.put hsz1 hi0 (by omega) hf9 h9 rfl rfl rfl rfl rfl rfl) (fun _ => (kv_eq (by decide)).symm) (fun j hj => up_n (kO_lo hj)) (fun j _ hj => kv_ne hj (by decide))
                have hF : fr (pT i) w0 w6 := hF.tr (fr_OT hf9)
                obtain ⟨hT, ⟨fs9, hS1, hs1⟩, ⟨fd9, hS2, hs2⟩, ⟨fk9, hS3, hs3⟩, hS4, hS5, ⟨hm, hmn⟩, hK⟩ := id hM
                refine lv_iinc (v := (nI (u + 1))) (lv' := [(2, .int (nI (u + 1))), (1, .int (g 24)), (0, .ref (A 0))]) hx hb dX2_round_112 hl (k := 0) rfl (nI_add u 1) (by decide) rfl (fun ls hl => ?_)
                refine lv_goto (tgt := 64) hx hb dX2_round_115 (by decide) ?_
                have hl : lv_has ls 3 [(2, .int (nI (u + 1))), (1, .int (g 24)), (0, .ref (A 0))] := hl
                have hM : townR E w6 i A (tX4 (rX3 (tR1 g mn) mn z) (u + 1)) mn wn9_1 ly9_2 := hM.row (by first | rfl | (rw [tX4, tHt_nu c91]; rfl))
                exact ih_64 (u + 1) (by omega) (by omega) _ _ _ _ hM hF hP hS hl
              · skip
                refine lv_aload_n hx hb dX2_round_94 rfl (lv_at hl 2 rfl) ?_
                refine lv_aload_n hx hb dX2_round_95 rfl (lv_at hl 2 rfl) ?_
                refine k_get hx hb hts in_X2 hown hG hP hT rfl 2 (by decide) (hts _ q184) (fun _ h9 => h9) (v := .ref (A 3)) rfl dX2_round_96 ?_
                refine lv_iload_n hx hb dX2_round_99 rfl (lv_at hl 0 rfl) ?_
                refine k_aald hx hb hG hP (j := u) 4 hS3 rfl (by omega) (show u < 6 from by omega) dX2_round_100 ?_
                rw [hs3 u (by omega)]
                refine k_cV hx hb hml hown hts (CX2_height l0 E w i A (tX4 (rX3 (tR1 g mn) mn z) u) mn wn9_1 ly9_2 (N + 71) u ((gI_X4 ((gI_X3 hR1 (by omega) z (by omega)).up (N1 := N + 61) (by omega)) (by omega) u).up (by omega)) (by omega) hM) (cwV 1 hts (lw_V q827 q804 q805 q70 q806) rfl rfl rfl dyX2_height ⟨Nat.le_of_ble_eq_true rfl, Nat.le_of_ble_eq_true rfl⟩) hG hP hS hT rfl (As := [.ref (A (6 + u))]) (rest := [.int ((tX4 (rX3 (tR1 g mn) mn z) u) (kO u 8)), .ref (A (6 + u))]) rfl hl.1 rfl (lv_room (Nat.le_of_ble_eq_true rfl)) dX2_round_101 ⟨show z + 0 ≤ 6 from by omega, show (3 * z) + 0 ≤ 18 from by omega⟩ (fun r9 w9 H locs hp hP hS => ?_)
                obtain ⟨hp1, hp0⟩ := hp
                rw [hp1] at hP
                rw [hp0]
                show W p l0 e rmCX2_round s m args below meth c H locs z (3 * z) Q (F0 m 104 ls [.int (nI (tHt (tX4 (rX3 (tR1 g mn) mn z) u) u)), .int ((tX4 (rX3 (tR1 g mn) mn z) u) (kO u 8)), .ref (A (6 + u))])
                refine lv_goto (tgt := 108) hx hb dX2_round_104 (by decide) ?_
                refine lv_iadd hx hb dX2_round_108 ?_
                refine k_putNW hx hb hts in_X3 tyX3 tyX3_ok nmX3 hown hG hP hS hkz1 rfl 6 (by decide) (hG.2.1.1 _ q158 rfl) (fun _ h9 => h9) rfl (ty := .int) (v := .int (((tX4 (rX3 (tR1 g mn) mn z) u) (kO u 8)) + (nI (tHt (tX4 (rX3 (tR1 g mn) mn z) u) u)))) rfl rfl rfl (Nat.le_of_ble_eq_true rfl) dX2_round_109 (fun w7 H locs h9 hf9 hP hS => ?_)
                have h9 : w7 (A (6 + u)) = some ((i, 6 + u), .inr (3, kF E (va_up (kv (tX4 (rX3 (tR1 g mn) mn z) u) u) 8 (((tX4 (rX3 (tR1 g mn) mn z) u) (kO u 8)) + (nI (tHt (tX4 (rX3 (tR1 g mn) mn z) u) u)))) tz1)) := h9
                have hM : townR E w7 i A (va_up (tX4 (rX3 (tR1 g mn) mn z) u) (kO u 8) (((tX4 (rX3 (tR1 g mn) mn z) u) (kO u 8)) + (nI (tHt (tX4 (rX3 (tR1 g mn) mn z) u) u)))) mn wn9_1 ly9_2 := hM.kup hi0 (k := u) (by omega) (fr_K hf9) (kR.put hsz1 hi0 (by omega) hf9 h9 rfl rfl rfl rfl rfl rfl) (fun _ => (kv_eq (by decide)).symm) (fun j hj => up_n (kO_lo hj)) (fun j _ hj => kv_ne hj (by decide))
                have hF : fr (pT i) w0 w7 := hF.tr (fr_OT hf9)
                obtain ⟨hT, ⟨fs9, hS1, hs1⟩, ⟨fd9, hS2, hs2⟩, ⟨fk9, hS3, hs3⟩, hS4, hS5, ⟨hm, hmn⟩, hK⟩ := id hM
                refine lv_iinc (v := (nI (u + 1))) (lv' := [(2, .int (nI (u + 1))), (1, .int (g 24)), (0, .ref (A 0))]) hx hb dX2_round_112 hl (k := 0) rfl (nI_add u 1) (by decide) rfl (fun ls hl => ?_)
                refine lv_goto (tgt := 64) hx hb dX2_round_115 (by decide) ?_
                have hl : lv_has ls 3 [(2, .int (nI (u + 1))), (1, .int (g 24)), (0, .ref (A 0))] := hl
                have hM : townR E w7 i A (tX4 (rX3 (tR1 g mn) mn z) (u + 1)) mn wn9_1 ly9_2 := hM.row (by first | rfl | (rw [tX4, tHt_nu c91]; rfl))
                exact ih_64 (u + 1) (by omega) (by omega) _ _ _ _ hM hF hP hS hl
        have hl : lv_has ls 3 [(2, .int (nI 0)), (1, .int (g 24)), (0, .ref (A 0))] := hl
        have hM : townR E w i A (tX4 (rX3 (tR1 g mn) mn z) 0) mn wn9_1 ly9_2 := hM
        exact hloop_64 _ 0 (by omega) (Nat.lt_succ_self _) _ _ _ _ hM hF hP hS hl
      · skip
        refine lv_aload_n hx hb dX2_round_41 rfl (lv_at hl 2 rfl) ?_
        refine k_get hx hb hts in_X2 hown hG hP hT rfl 10 (by decide) (hts _ q199) (fun _ h9 => h9) (v := .ref (A 5)) rfl dX2_round_42 ?_
        refine lv_iload_n hx hb dX2_round_45 rfl (lv_at hl 0 rfl) ?_
        refine k_iald hx hb hG hP (j := z) hS5 (by omega) (show z < 6 from by omega) dX2_round_46 ?_
        refine lv_iconst (v := (-1)) hx hb dX2_round_47 (by decide) ?_
        refine lv_icmp_eq (tgt := 56) hx hb dX2_round_48 (by decide) (fun c48 => ?_) (fun c48 => ?_)
        · skip
          have hnd := due_f (by omega) (hL1 z (by omega)) c48
          refine lv_iinc (v := (nI (z + 1))) (lv' := [(2, .int (nI (z + 1))), (1, .int (g 24)), (0, .ref (A 0))]) hx hb dX2_round_56 hl (k := 0) rfl (nI_add z 1) (by decide) rfl (fun ls hl => ?_)
          refine lv_goto (tgt := 33) hx hb dX2_round_59 (by decide) ?_
          have hl : lv_has ls 3 [(2, .int (nI (z + 1))), (1, .int (g 24)), (0, .ref (A 0))] := hl
          have hM : townR E w i A (rX3 (tR1 g mn) mn (z + 1)) mn wn9_1 ly9_2 := hM.row (by first | exact rX3_t hdue | exact rX3_f hnd)
          refine W.widen (show z ≤ (z + 1) from by omega) (show (3 * z) ≤ (3 * (z + 1)) from by omega) ?_
          exact ih_33 (z + 1) (by omega) (by omega) _ _ _ _ hM hF hP hS hl
        · skip
          have hdue := due_t (by omega) (hL1 z (by omega)) c48
          obtain ⟨hd1, hd2, hd3⟩ := due_of hdue
          refine lv_aload_n hx hb dX2_round_51 rfl (lv_at hl 2 rfl) ?_
          refine lv_iload_n hx hb dX2_round_52 rfl (lv_at hl 0 rfl) ?_
          refine k_cV hx hb hml hown hts (CX2_cut l0 E w i A (rX3 (tR1 g mn) mn z) mn wn9_1 ly9_2 (N + 61) z (tR1 g mn) (cA (tR1 g mn) mn z) ((gI_X3 hR1 (by omega) z (by omega)).up (by omega)) (hR1.up (by omega)) hi0 hi3 (by omega) (hW1 z (by omega)) (by have := tHt_le (tR1 g mn) z; omega) (due_ly (by omega) (hL1 z (by omega)) hdue) ((kG_up rX3_kG).trans hd1) hM) (cwV 1 hts (lw_V q1005 q1007 qs19 q70 q1008) rfl rfl rfl dyX2_cut ⟨Nat.le_of_ble_eq_true rfl, Nat.le_of_ble_eq_true rfl⟩) hG hP hS hT rfl (As := [.int (nI z)]) (rest := []) rfl hl.1 rfl (lv_room (Nat.le_of_ble_eq_true rfl)) dX2_round_53 ⟨show z + 1 ≤ 6 from by omega, show (3 * z) + 3 ≤ 18 from by omega⟩ (fun r53 w8 H locs hp hP hS => ?_)
          obtain ⟨hp0, ⟨hM', -⟩, hf9⟩ := hp
          have hM : townR E w8 i A (tCt (rX3 (tR1 g mn) mn z) z (tBl (rX3 (tR1 g mn) mn z) z (cA (tR1 g mn) mn z)) (((rX3 (tR1 g mn) mn z) (kO z 5)) - (tBl (rX3 (tR1 g mn) mn z) z (cA (tR1 g mn) mn z))) (nI (cA (tR1 g mn) mn z)) ((tFd (tR1 g mn) z mn).2.2.1) (kB (tR1 g mn) z mn)) mn wn9_1 ly9_2 := hM'
          have hF : fr (pT i) w0 w8 := hF.tr hf9
          obtain ⟨hT, ⟨fs9, hS1, hs1⟩, ⟨fd9, hS2, hs2⟩, ⟨fk9, hS3, hs3⟩, hS4, hS5, ⟨hm, hmn⟩, hK⟩ := id hM
          show W p l0 e rmCX2_round s m args below meth c H locs (z + 1) ((3 * z) + 3) Q (F0 m 56 ls [])
          refine lv_iinc (v := (nI (z + 1))) (lv' := [(2, .int (nI (z + 1))), (1, .int (g 24)), (0, .ref (A 0))]) hx hb dX2_round_56 hl (k := 0) rfl (nI_add z 1) (by decide) rfl (fun ls hl => ?_)
          refine lv_goto (tgt := 33) hx hb dX2_round_59 (by decide) ?_
          have hl : lv_has ls 3 [(2, .int (nI (z + 1))), (1, .int (g 24)), (0, .ref (A 0))] := hl
          have hM : townR E w8 i A (rX3 (tR1 g mn) mn (z + 1)) mn wn9_1 ly9_2 := hM.row (by first | exact rX3_t hdue | exact rX3_f hnd)
          refine W.widen (show (z + 1) ≤ (z + 1) from by omega) (show ((3 * z) + 3) ≤ (3 * (z + 1)) from by omega) ?_
          exact ih_33 (z + 1) (by omega) (by omega) _ _ _ _ hM hF hP hS hl
  have hl : lv_has ls 3 [(2, .int (nI 0)), (1, .int (g 24)), (0, .ref (A 0))] := hl
  have hM : townR E w5 i A (rX3 (tR1 g mn) mn 0) mn wn9_1 ly9_2 := hM
  refine W.widen (show 0 ≤ 0 from by omega) (show 0 ≤ (3 * 0) from by omega) ?_
  exact hloop_33 _ 0 (by omega) (Nat.lt_succ_self _) _ _ _ _ hM hF hP hS hl
