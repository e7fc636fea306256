/-! THE COMPONENT, 16: rounds -/
set_option maxRecDepth 100000
abbrev rmCX1_round : Room := { frames := 8, cells := 210, slots := 700, locals := 172 }
theorem dyX1_round : yX1_round.cls = RX1 ∧ yX1_round.cls ≠ "java/lang/invoke/MethodHandle" ∧ yX1_round.cls ≠ "java/lang/invoke/VarHandle" ∧ (parseMethodDescriptor yX1_round.desc).map (fun d => d.parameters.length) = some 1 := by decide +kernel
set_option maxHeartbeats 4000000 in
theorem CX1_round (l0 : Launch) (hl0 : l0.stackTraces = false) (E : gE) (w : wd) (x : Nat) (A1 : Nat → Nat) (A2 : Nat → Nat) (A3 : Nat → Nat) (d : Nat) (b : Nat) (hs : Int32) (ft : Int32) (rf : Int32) (ro : Int32) (g : Nat → Int32) (mn : Nat) (wn : Nat → Int32) (ly : Nat → Int32) (cn : Nat) (I : Nat → Nat) (K : Nat → Nat → Int32) (mk : Nat → Nat) (y : Int32) (N : Nat) (hI : gI g mn N) (hN9 : N + 71 * 31 < 2 ^ 31) (hX : w x = some ((94, 0), .inr (1, [.ref (A1 0), .ref (A2 0), .ref (A3 0), .int hs, .ref d, .ref b, .int ft, .int rf, .int ro]))) (hM : townR E w 1 A1 g mn wn ly) (hK : kpR E w d cn I K mk) : kX l0 yX1_round (ws_ yX1_round cX1_round 4 (some .int)) rmCX1_round 210 700 mI E w [.ref x, .int y] (fun r w' => ∃ I9 : Nat → Nat, ∃ wn9 : Nat → Int32, ∃ ly9 : Nat → Int32, ((qRound g mn y).1 = 0 ∧ r = (qRound g mn y).2.2.1) ∧ (townR E w' 1 A1 ((qRound g mn y).2.2.2) mn wn9 ly9 ∧ kpR E w' d (kCn cn) I9 (kSh cn K g) (kSh cn mk mn) ∧ True) ∧ fr pX1 w w') (pxL [(nIA, 1)] w (qRound g mn y).1) := by
  refine kx_open (cc := cX1_round) (maxL := 4) (ret := (some .int)) (by decide) rfl (Nat.le_of_ble_eq_true rfl) ?_
  intro p e s m args below meth c ls Q hx hb hr hml hown hts hlocks hname ht hQ hG hP hl hS
  have hl : lv_has ls 4 [(0, .ref x), (1, .int y)] := hl
  obtain ⟨w0, hw0⟩ : ∃ z, z = w := ⟨_, rfl⟩
  have hF : fr pX1 w0 w := by rw [hw0]; exact fr.rf
  rw [← hw0] at hQ
  have hm6 := hM.m25
  refine lv_iload_n hx hb dX1_round_0 rfl (lv_at hl 1 rfl) ?_
  refine lv_iconst (v := 1) hx hb dX1_round_1 (by decide) ?_
  refine lv_bipush (v := 30) hx hb dX1_round_2 (by decide) ?_
  refine k_cS hx hb hml hown hts (CX1_in l0 E w y 1 30) (va_cwS 3 hts (lw_S q453 q454 q69 q455) rfl rfl rfl dyX1_in ⟨Nat.le_of_ble_eq_true rfl, Nat.le_of_ble_eq_true rfl⟩) hG hP hS (As := [.int y, .int 1, .int 30]) (rest := []) rfl hl.1 rfl (lv_room (Nat.le_of_ble_eq_true rfl)) dX1_round_4 ⟨show 0 + 0 ≤ 210 from by omega, show 0 + 0 ≤ 700 from by omega⟩ (fun r9 w9 H locs hp hP hS => ?_)
  obtain ⟨hp1, hp0⟩ := hp
  rw [hp1] at hP
  rw [hp0]
  show W p l0 e rmCX1_round s m args below meth c H locs 0 0 Q (F0 m 7 ls [.int (bI (tin y 1 30))])
  refine kx_cS hx hb hml hown hts hQ ht hlocks (CX1_check l0 hl0 E w (tin y 1 30)) (va_cwS 1 hts (lw_S q483 q484 q69 q485) rfl rfl rfl dyX1_check ⟨Nat.le_of_ble_eq_true rfl, Nat.le_of_ble_eq_true rfl⟩) hG hP hS (As := [.int (bI (tin y 1 30))]) (rest := []) rfl hl.1 rfl (lv_room (Nat.le_of_ble_eq_true rfl)) dX1_round_7 ⟨show 0 + 1 ≤ 210 from by omega, show 0 + 6 ≤ 700 from by omega⟩ ⟨show 0 + 1 ≤ 210 from by omega, show 0 + 6 ≤ 700 from by omega⟩ (fun X9 q9 w9 h9 => pxL.mk' (k := 1) h9.1 (qRound_1 h9.2.2) (by decide) h9.2.1 hw0) (fun r9 w9 H locs hp hP hS => ?_)
  obtain ⟨hp1, hp0⟩ := hp
  rw [hp1] at hP
  have hk9 := hp0
  show W p l0 e rmCX1_round s m args below meth c H locs (0 + 1) (0 + 6) Q (F0 m 10 ls [])
  obtain ⟨kr, hkr, rfl⟩ := tin_1N (n := 30) (by decide) hk9
  have ckr : (nI kr).toNatClampNeg = kr := nI_clamp (by omega)
  refine lv_aload_n hx hb dX1_round_10 rfl (lv_at hl 0 rfl) ?_
  refine k_cV hx hb hml hown hts (CX1_keep l0 E w x A1 A2 A3 d b hs ft rf ro g mn wn ly cn I K mk hX hM hK) (cwV 0 hts (lw_V q501 q503 qs2 q69 q504) rfl rfl rfl dyX1_keep ⟨Nat.le_of_ble_eq_true rfl, Nat.le_of_ble_eq_true rfl⟩) hG hP hS hX rfl (As := []) (rest := []) rfl hl.1 rfl (lv_room (Nat.le_of_ble_eq_true rfl)) dX1_round_11 ⟨show (0 + 1) + 24 ≤ 210 from by omega, show (0 + 6) + 140 ≤ 700 from by omega⟩ (fun r11 w1 H locs hp hP hS => ?_)
  obtain ⟨I9_1, hp0, ⟨hK', -⟩, hf9⟩ := hp
  have hX : w1 x = some ((94, 0), .inr (1, [.ref (A1 0), .ref (A2 0), .ref (A3 0), .int hs, .ref d, .ref b, .int ft, .int rf, .int ro])) := hf9 _ _ _ hX (by intro z9; first | (simp only [pO, pN, pD, pKp, pT, pB, pS, pR, pRd, pRo, Prod.mk.injEq, pX1, pX2, pXs, pX2t] at z9; done) | (simp only [pO, pN, pD, pKp, pT, pB, pS, pR, pRd, pRo, Prod.mk.injEq, pX1, pX2, pXs, pX2t] at z9; omega))
  have hM : townR E w1 1 A1 g mn wn ly := hM.frm hf9 (by intro z9; first | (simp only [pO, pN, pD, pKp, pT, pB, pS, pR, pRd, pRo, Prod.mk.injEq, pX1, pX2, pXs, pX2t] at z9; done) | (simp only [pO, pN, pD, pKp, pT, pB, pS, pR, pRd, pRo, Prod.mk.injEq, pX1, pX2, pXs, pX2t] at z9; omega)) (fun r9 => (by intro z9; first | (simp only [pO, pN, pD, pKp, pT, pB, pS, pR, pRd, pRo, Prod.mk.injEq, pX1, pX2, pXs, pX2t] at z9; done) | (simp only [pO, pN, pD, pKp, pT, pB, pS, pR, pRd, pRo, Prod.mk.injEq, pX1, pX2, pXs, pX2t] at z9; omega)))
  have hF : fr pX1 w0 w1 := hF.tr (hf9.up (fun t9 h9 => by simp only [pO, pN, pD, pKp, pT, pB, pS, pR, pX1, pX2, pXs, pX2t] at h9 ⊢; first | exact h9 | (subst h9; simp; done) | (subst h9; simp; omega) | omega | (rcases h9 with h9 | h9 <;> first | (subst h9; simp; done) | (subst h9; simp; omega) | omega)))
  have hK : kpR E w1 d (kCn cn) I9_1 (kSh cn K g) (kSh cn mk mn) := hK'
  show W p l0 e rmCX1_round s m args below meth c H locs ((0 + 1) + 24) ((0 + 6) + 140) Q (F0 m 14 ls [])
  refine lv_iconst (v := 0) hx hb dX1_round_14 (by decide) ?_
  refine lv_istore_n (lv' := [(2, .int 0), (0, .ref x), (1, .int (nI kr))]) hx hb dX1_round_15 rfl hl (by decide) rfl (fun ls hl => ?_)
  refine lv_iconst (v := 0) hx hb dX1_round_16 (by decide) ?_
  refine lv_istore_n (lv' := [(3, .int 0), (2, .int 0), (0, .ref x), (1, .int (nI kr))]) hx hb dX1_round_17 rfl hl (by decide) rfl (fun ls hl => ?_)
  have hloop_18 : ∀ (n9_18 : Nat) (i9 : Nat) (wn : Nat → Int32) (ly : Nat → Int32), (i9 ≤ kr) → (kr - i9) < n9_18 → ∀ (w : wd) (H : Heap) (locs : List Loc) (ls : Array Slot), (w x = some ((94, 0), .inr (1, [.ref (A1 0), .ref (A2 0), .ref (A3 0), .int hs, .ref d, .ref b, .int ft, .int rf, .int ro]))) → (townR E w 1 A1 (tRn g mn i9) mn wn ly) → (kpR E w d (kCn cn) I9_1 (kSh cn K g) (kSh cn mk mn)) → fr pX1 w0 w → wP E w H → va_S (gA E) s.heap H locs → lv_has ls 4 [(3, .int (nI i9)), (2, .int (tRc g mn i9)), (0, .ref x), (1, .int (nI kr))] → W p l0 e rmCX1_round s m args below meth c H locs (30 + 6 * i9) (160 + 18 * i9) Q (F0 m 18 ls []) := by
    intro n9_18
    induction n9_18 with
    | zero => intro i9 wn ly hi9 hn; exact absurd hn (Nat.not_lt_zero _)
    | succ n9_18 ih_18 =>
      intro i9 wn ly hi9 hn_18 w H locs ls hX hM hK hF hP hS hl
      refine lv_iload_n hx hb dX1_round_18 rfl (lv_at hl 0 rfl) ?_
      refine lv_iload_n hx hb dX1_round_19 rfl (lv_at hl 3 rfl) ?_
      refine k_icmp_geN (x := i9) (y := kr) (tgt := 39) hx hb (by omega) (by omega) dX1_round_20 (by decide) (fun c20 => ?_) (fun c20 => ?_)
      · skip
        have e9 := qRound_ok (g := g) (mn := mn) hk9 ckr
        have hir : i9 = kr := by omega
        refine lv_iload_n hx hb dX1_round_39 rfl (lv_at hl 1 rfl) ?_
        exact kx_iret hx hb hr hlocks hQ hP hS (by omega) (by omega) dX1_round_40 (⟨_, _, _, ⟨by rw [e9], by rw [e9, hir]⟩, ⟨(hM.row (by rw [e9, hir])), hK, trivial⟩, hF⟩)
      · skip
        refine lv_iload_n hx hb dX1_round_23 rfl (lv_at hl 1 rfl) ?_
        refine lv_aload_n hx hb dX1_round_24 rfl (lv_at hl 2 rfl) ?_
        refine k_get hx hb hts in_X1 hown hG hP hX rfl 0 (by decide) (hts _ q276) (fun _ h9 => h9) (v := .ref (A1 0)) rfl dX1_round_25 ?_
        have hT_1 := hM.1
        refine k_cV hx hb hml hown hts (CX2_round l0 E w 1 A1 (tRn g mn i9) mn wn ly (N + 71 * i9) (gI_Rn hI i9 (by omega)) (by omega) (by omega) (by omega) hM) (cwV 0 hts (lw_V q960 q961 q962 q70 q963) rfl rfl rfl dyX2_round ⟨Nat.le_of_ble_eq_true rfl, Nat.le_of_ble_eq_true rfl⟩) hG hP hS hT_1 rfl (As := []) (rest := [.int (tRc g mn i9)]) rfl hl.1 rfl (lv_room (Nat.le_of_ble_eq_true rfl)) dX1_round_28 ⟨show (30 + 6 * i9) + 6 ≤ 210 from by omega, show (160 + 18 * i9) + 18 ≤ 700 from by omega⟩ (fun r28 w2 H locs hp hP hS => ?_)
        obtain ⟨wn9_2, ly9_3, hp0, ⟨hM', -⟩, hf9⟩ := hp
        have hX : w2 x = some ((94, 0), .inr (1, [.ref (A1 0), .ref (A2 0), .ref (A3 0), .int hs, .ref d, .ref b, .int ft, .int rf, .int ro])) := hf9 _ _ _ hX (by intro z9; first | (simp only [pO, pN, pD, pKp, pT, pB, pS, pR, pRd, pRo, Prod.mk.injEq, pX1, pX2, pXs, pX2t] at z9; done) | (simp only [pO, pN, pD, pKp, pT, pB, pS, pR, pRd, pRo, Prod.mk.injEq, pX1, pX2, pXs, pX2t] at z9; omega))
        have hK : kpR E w2 d (kCn cn) I9_1 (kSh cn K g) (kSh cn mk mn) := hK.fr hf9 (by intro z9; first | (simp only [pO, pN, pD, pKp, pT, pB, pS, pR, pRd, pRo, Prod.mk.injEq, pX1, pX2, pXs, pX2t] at z9; done) | (simp only [pO, pN, pD, pKp, pT, pB, pS, pR, pRd, pRo, Prod.mk.injEq, pX1, pX2, pXs, pX2t] at z9; omega)) (fun i9 r9 h7 h8 => (by intro z9; first | (simp only [pO, pN, pD, pKp, pT, pB, pS, pR, pRd, pRo, Prod.mk.injEq, pX1, pX2, pXs, pX2t] at z9; done) | (simp only [pO, pN, pD, pKp, pT, pB, pS, pR, pRd, pRo, Prod.mk.injEq, pX1, pX2, pXs, pX2t] at z9; omega)))
        have hF : fr pX1 w0 w2 := hF.tr (hf9.up (fun t9 h9 => by simp only [pO, pN, pD, pKp, pT, pB, pS, pR, pX1, pX2, pXs, pX2t] at h9 ⊢; first | exact h9 | (subst h9; simp; done) | (subst h9; simp; omega) | omega | (rcases h9 with h9 | h9 <;> first | (subst h9; simp; done) | (subst h9; simp; omega) | omega)))
        have hM : townR E w2 1 A1 (tRx (tRn g mn i9) mn) mn wn9_2 ly9_3 := hM'
        rw [hp0]
        show W p l0 e rmCX1_round s m args below meth c H locs ((30 + 6 * i9) + 6) ((160 + 18 * i9) + 18) Q (F0 m 31 ls [.int (tRk (tRn g mn i9) mn), .int (tRc g mn i9)])
        refine lv_iadd hx hb dX1_round_31 ?_
        refine lv_istore_n (lv' := [(2, .int ((tRc g mn i9) + (tRk (tRn g mn i9) mn))), (3, .int (nI i9)), (0, .ref x), (1, .int (nI kr))]) hx hb dX1_round_32 rfl hl (by decide) rfl (fun ls hl => ?_)
        refine lv_iinc (v := (nI (i9 + 1))) (lv' := [(3, .int (nI (i9 + 1))), (2, .int ((tRc g mn i9) + (tRk (tRn g mn i9) mn))), (0, .ref x), (1, .int (nI kr))]) hx hb dX1_round_33 hl (k := 1) rfl (nI_add i9 1) (by decide) rfl (fun ls hl => ?_)
        refine lv_goto (tgt := 18) hx hb dX1_round_36 (by decide) ?_
        have hl : lv_has ls 4 [(3, .int (nI (i9 + 1))), (2, .int (tRc g mn (i9 + 1))), (0, .ref x), (1, .int (nI kr))] := hl
        refine W.widen (show ((30 + 6 * i9) + 6) ≤ (30 + 6 * (i9 + 1)) from by omega) (show ((160 + 18 * i9) + 18) ≤ (160 + 18 * (i9 + 1)) from by omega) ?_
        exact ih_18 (i9 + 1) wn9_2 ly9_3 (by omega) (by omega) _ _ _ _ hX hM hK hF hP hS hl
  have hl : lv_has ls 4 [(3, .int (nI 0)), (2, .int (tRc g mn 0)), (0, .ref x), (1, .int (nI kr))] := hl
  refine W.widen (show ((0 + 1) + 24) ≤ (30 + 6 * 0) from by omega) (show ((0 + 6) + 140) ≤ (160 + 18 * 0) from by omega) ?_
  exact hloop_18 _ 0 wn ly (by omega) (Nat.lt_succ_self _) _ _ _ _ hX hM hK hF hP hS hl

abbrev rmCX1_cutIn : Room := { frames := 9, cells := 200, slots := 600, locals := 172 }
theorem dyX1_cutIn : yX1_cutIn.cls = RX1 ∧ yX1_cutIn.cls ≠ "java/lang/invoke/MethodHandle" ∧ yX1_cutIn.cls ≠ "java/lang/invoke/VarHandle" ∧ (parseMethodDescriptor yX1_cutIn.desc).map (fun d => d.parameters.length) = some 2 := by decide +kernel
set_option maxHeartbeats 4000000 in
theorem CX1_cutIn (l0 : Launch) (hl0 : l0.stackTraces = false) (E : gE) (w : wd) (x : Nat) (A1 : Nat → Nat) (A2 : Nat → Nat) (A3 : Nat → Nat) (d : Nat) (b : Nat) (hs : Int32) (ft : Int32) (rf : Int32) (ro : Int32) (g : Nat → Int32) (mn : Nat) (wn : Nat → Int32) (ly : Nat → Int32) (u2 : Nat → Int32) (m2 : Nat) (wb2 : Nat → Int32) (lb2 : Nat → Int32) (y : Int32) (z : Int32) (N : Nat) (hI : gI g mn N) (hN9 : N + 71 * 31 < 2 ^ 31) (hX : w x = some ((94, 0), .inr (1, [.ref (A1 0), .ref (A2 0), .ref (A3 0), .int hs, .ref d, .ref b, .int ft, .int rf, .int ro]))) (hM : townR E w 1 A1 g mn wn ly) (hM2 : townR E w 2 A2 u2 m2 wb2 lb2) : kX l0 yX1_cutIn (ws_ yX1_cutIn cX1_cutIn 5 (some .int)) rmCX1_cutIn 200 600 mI E w [.ref x, .int y, .int z] (fun r w' => ∃ g9 : Nat → Int32, ∃ m9 : Nat, ∃ wa9 : Nat → Int32, ∃ la9 : Nat → Int32, ((qCin g mn y z).1 = 0 ∧ r = (qCin g mn y z).2.2) ∧ (townR E w' 2 A2 g9 m9 wa9 la9 ∧ True) ∧ fr pX2t w w') (pxM [(nIO, 1), (nIA, 2)] w (qCin g mn y z).1 3 (qCin g mn y z).2.1 x (fun rs od => .inr (1, [.ref (A1 0), .ref (A2 0), .ref (A3 0), .int hs, .ref d, .ref b, .int ft, .int rs, .int od]))) := by
  refine kx_open (cc := cX1_cutIn) (maxL := 5) (ret := (some .int)) (by decide) rfl (Nat.le_of_ble_eq_true rfl) ?_
  intro p e s m args below meth c ls Q hx hb hr hml hown hts hlocks hname ht hQ hG hP hl hS
  have hl : lv_has ls 5 [(0, .ref x), (1, .int y), (2, .int z)] := hl
  obtain ⟨w0, hw0⟩ : ∃ z, z = w := ⟨_, rfl⟩
  have hF : fr pX2t w0 w := by rw [hw0]; exact fr.rf
  rw [← hw0] at hQ
  have hm6 := hM.m25
  refine lv_aload_n hx hb dX1_cutIn_0 rfl (lv_at hl 0 rfl) ?_
  refine lv_iload_n hx hb dX1_cutIn_1 rfl (lv_at hl 1 rfl) ?_
  refine kx_cV hx hb hml hown hts hQ ht hlocks (CX1_kiteAt l0 hl0 E w x A1 A2 A3 d b hs ft rf ro g mn wn ly y hX hM) (cwV 1 hts (lw_V q743 q745 qs7 q69 q746) rfl rfl rfl dyX1_kiteAt ⟨Nat.le_of_ble_eq_true rfl, Nat.le_of_ble_eq_true rfl⟩) hG hP hS hX rfl (As := [.int y]) (rest := []) rfl hl.1 rfl (lv_room (Nat.le_of_ble_eq_true rfl)) dX1_cutIn_2 ⟨show 0 + 1 ≤ 200 from by omega, show 0 + 6 ≤ 600 from by omega⟩ ⟨show 0 + 1 ≤ 200 from by omega, show 0 + 6 ≤ 600 from by omega⟩ (fun X9 q9 w9 h9 => pxM.mk' (k := 1) h9.1 (qCin_1 h9.2.2) (by decide) h9.2.1 hw0) (fun r9 w9 H locs hp hP hS => ?_)
  obtain ⟨hp1, hp0⟩ := hp
  rw [hp1] at hP
  obtain ⟨kz, hkz, rfl, rfl⟩ := hp0
  have ckz : (nI kz).toNatClampNeg = kz := nI_clamp (by omega)
  have hk9 := tKt_N hm6.1 hm6.2 hkz
  show W p l0 e rmCX1_cutIn s m args below meth c H locs (0 + 1) (0 + 6) Q (F0 m 5 ls [.ref (A1 (6 + kz))])
  refine lv_astore_n (lv' := [(3, .ref (A1 (6 + kz))), (0, .ref x), (1, .int (nI kz)), (2, .int z)]) hx hb dX1_cutIn_5 rfl hl (by decide) rfl (fun ls hl => ?_)
  refine lv_iload_n hx hb dX1_cutIn_6 rfl (lv_at hl 3 rfl) ?_
  refine lv_iconst (v := 1) hx hb dX1_cutIn_7 (by decide) ?_
  refine lv_bipush (v := 30) hx hb dX1_cutIn_8 (by decide) ?_
  refine k_cS hx hb hml hown hts (CX1_in l0 E w z 1 30) (va_cwS 3 hts (lw_S q453 q454 q69 q455) rfl rfl rfl dyX1_in ⟨Nat.le_of_ble_eq_true rfl, Nat.le_of_ble_eq_true rfl⟩) hG hP hS (As := [.int z, .int 1, .int 30]) (rest := []) rfl hl.1 rfl (lv_room (Nat.le_of_ble_eq_true rfl)) dX1_cutIn_10 ⟨show (0 + 1) + 0 ≤ 200 from by omega, show (0 + 6) + 0 ≤ 600 from by omega⟩ (fun r9 w9 H locs hp hP hS => ?_)
  obtain ⟨hp1, hp0⟩ := hp
  rw [hp1] at hP
  rw [hp0]
  show W p l0 e rmCX1_cutIn s m args below meth c H locs (0 + 1) (0 + 6) Q (F0 m 13 ls [.int (bI (tin z 1 30))])
  refine kx_cS hx hb hml hown hts hQ ht hlocks (CX1_check l0 hl0 E w (tin z 1 30)) (va_cwS 1 hts (lw_S q483 q484 q69 q485) rfl rfl rfl dyX1_check ⟨Nat.le_of_ble_eq_true rfl, Nat.le_of_ble_eq_true rfl⟩) hG hP hS (As := [.int (bI (tin z 1 30))]) (rest := []) rfl hl.1 rfl (lv_room (Nat.le_of_ble_eq_true rfl)) dX1_cutIn_13 ⟨show (0 + 1) + 1 ≤ 200 from by omega, show (0 + 6) + 6 ≤ 600 from by omega⟩ ⟨show (0 + 1) + 1 ≤ 200 from by omega, show (0 + 6) + 6 ≤ 600 from by omega⟩ (fun X9 q9 w9 h9 => pxM.mk' (k := 2) h9.1 (qCin_2 hk9 h9.2.2) (by decide) h9.2.1 hw0) (fun r9 w9 H locs hp hP hS => ?_)
  obtain ⟨hp1, hp0⟩ := hp
  rw [hp1] at hP
  have hk8 := hp0
  show W p l0 e rmCX1_cutIn s m args below meth c H locs ((0 + 1) + 1) ((0 + 6) + 6) Q (F0 m 16 ls [])
  refine lv_aload_n hx hb dX1_cutIn_16 rfl (lv_at hl 1 rfl) ?_
  refine lv_aload_n hx hb dX1_cutIn_17 rfl (lv_at hl 0 rfl) ?_
  obtain ⟨tz_1, hT_1, hz_1⟩ := hM.kite (k := kz) (by omega)
  refine k_cV hx hb hml hown hts (CX3_isUp l0 E w 1 kz (A1 (6 + kz)) (kv g kz) tz_1 hT_1 hz_1) (cwV 0 hts (lw_V q754 q713 q714 q71 q715) rfl rfl rfl dyX3_isUp ⟨Nat.le_of_ble_eq_true rfl, Nat.le_of_ble_eq_true rfl⟩) hG hP hS hT_1 rfl (As := []) (rest := [.ref x]) rfl hl.1 rfl (lv_room (Nat.le_of_ble_eq_true rfl)) dX1_cutIn_18 ⟨show ((0 + 1) + 1) + 0 ≤ 200 from by omega, show ((0 + 6) + 6) + 0 ≤ 600 from by omega⟩ (fun r9 w9 H locs hp hP hS => ?_)
  obtain ⟨hp1, hp0⟩ := hp
  rw [hp1] at hP
  rw [hp0]
  show W p l0 e rmCX1_cutIn s m args below meth c H locs ((0 + 1) + 1) ((0 + 6) + 6) Q (F0 m 21 ls [.int (bI (decide (((kv g kz) 0) = 1))), .ref x])
  refine k_ifeqB (x := decide (((kv g kz) 0) = 1)) (tgt := 28) hx hb dX1_cutIn_21 (by decide) (fun c21 => ?_) (fun c21 => ?_)
  · skip
    refine lv_iconst (v := 4) hx hb dX1_cutIn_28 (by decide) ?_
    refine lv_iconst (v := (-1)) hx hb dX1_cutIn_29 (by decide) ?_
    refine kx_cV hx hb hml hown hts hQ ht hlocks (CX1_checkSupported l0 hl0 E w x A1 A2 A3 d b hs ft rf ro 4 (-1) hX) (cwV 2 hts (lw_V q614 q616 qs5 q69 q617) rfl rfl rfl dyX1_checkSupported ⟨Nat.le_of_ble_eq_true rfl, Nat.le_of_ble_eq_true rfl⟩) hG hP hS hX rfl (As := [.int 4, .int (-1)]) (rest := []) rfl hl.1 rfl (lv_room (Nat.le_of_ble_eq_true rfl)) dX1_cutIn_30 ⟨show ((0 + 1) + 1) + 1 ≤ 200 from by omega, show ((0 + 6) + 6) + 6 ≤ 600 from by omega⟩ ⟨show ((0 + 1) + 1) + 1 ≤ 200 from by omega, show ((0 + 6) + 6) + 6 ≤ 600 from by omega⟩ (fun X9 q9 w9 h9 => pxM.su (r2 := 4) h9.1 (qCin_n hk9 hk8 ckz c21) (by decide) h9.2.2.1 h9.2.2.2 hw0) (fun r9 w9 H locs hp hP hS => ?_)
    obtain ⟨hp1, hp0⟩ := hp
    rw [hp1] at hP
    show W p l0 e rmCX1_cutIn s m args below meth c H locs (((0 + 1) + 1) + 1) (((0 + 6) + 6) + 6) Q (F0 m 33 ls [])
    exact absurd hp0 (by decide)
  · skip
    refine lv_iconst (v := 0) hx hb dX1_cutIn_24 (by decide) ?_
    refine lv_goto (tgt := 29) hx hb dX1_cutIn_25 (by decide) ?_
    refine lv_iconst (v := (-1)) hx hb dX1_cutIn_29 (by decide) ?_
    refine kx_cV hx hb hml hown hts hQ ht hlocks (CX1_checkSupported l0 hl0 E w x A1 A2 A3 d b hs ft rf ro 0 (-1) hX) (cwV 2 hts (lw_V q614 q616 qs5 q69 q617) rfl rfl rfl dyX1_checkSupported ⟨Nat.le_of_ble_eq_true rfl, Nat.le_of_ble_eq_true rfl⟩) hG hP hS hX rfl (As := [.int 0, .int (-1)]) (rest := []) rfl hl.1 rfl (lv_room (Nat.le_of_ble_eq_true rfl)) dX1_cutIn_30 ⟨show ((0 + 1) + 1) + 1 ≤ 200 from by omega, show ((0 + 6) + 6) + 6 ≤ 600 from by omega⟩ ⟨show ((0 + 1) + 1) + 1 ≤ 200 from by omega, show ((0 + 6) + 6) + 6 ≤ 600 from by omega⟩ (fun X9 q9 w9 h9 => absurd h9.2.1 (by decide)) (fun r9 w9 H locs hp hP hS => ?_)
    obtain ⟨hp1, hp0⟩ := hp
    rw [hp1] at hP
    show W p l0 e rmCX1_cutIn s m args below meth c H locs (((0 + 1) + 1) + 1) (((0 + 6) + 6) + 6) Q (F0 m 33 ls [])
    obtain ⟨kr, hkr, rfl⟩ := tin_1N (n := 30) (by decide) hk8
    have ckr : (nI kr).toNatClampNeg = kr := nI_clamp (by omega)
    refine lv_aload_n hx hb dX1_cutIn_33 rfl (lv_at hl 1 rfl) ?_
    have hu0 : tUp (tRn g mn 0) kz = true := c21
    refine k_get hx hb hts in_X1 hown hG hP hX rfl 1 (by decide) (hts _ q277) (fun _ h9 => h9) (v := .ref (A2 0)) rfl dX1_cutIn_34 ?_
    refine lv_aload_n hx hb dX1_cutIn_37 rfl (lv_at hl 1 rfl) ?_
    refine k_get hx hb hts in_X1 hown hG hP hX rfl 0 (by decide) (hts _ q276) (fun _ h9 => h9) (v := .ref (A1 0)) rfl dX1_cutIn_38 ?_
    have hT_2 := hM2.1
    refine k_cV hx hb hml hown hts (CX2_take l0 E w 2 A2 u2 m2 wb2 lb2 1 A1 g mn wn ly (by omega) (by omega) (by omega) (by omega) (by omega) hM2 hM) (cwV 1 hts (lw_V q329 q330 q331 q70 q332) rfl rfl rfl dyX2_take ⟨Nat.le_of_ble_eq_true rfl, Nat.le_of_ble_eq_true rfl⟩) hG hP hS hT_2 rfl (As := [.ref (A1 0)]) (rest := []) rfl hl.1 rfl (lv_room (Nat.le_of_ble_eq_true rfl)) dX1_cutIn_41 ⟨show (((0 + 1) + 1) + 1) + 6 ≤ 200 from by omega, show (((0 + 6) + 6) + 6) + 12 ≤ 600 from by omega⟩ (fun r41 w1 H locs hp hP hS => ?_)
    obtain ⟨hp0, ⟨hM2', -⟩, hf9⟩ := hp
    have hX : w1 x = some ((94, 0), .inr (1, [.ref (A1 0), .ref (A2 0), .ref (A3 0), .int hs, .ref d, .ref b, .int ft, .int rf, .int ro])) := hf9 _ _ _ hX (by intro z9; first | (simp only [pO, pN, pD, pKp, pT, pB, pS, pR, pRd, pRo, Prod.mk.injEq, pX1, pX2, pXs, pX2t] at z9; done) | (simp only [pO, pN, pD, pKp, pT, pB, pS, pR, pRd, pRo, Prod.mk.injEq, pX1, pX2, pXs, pX2t] at z9; omega))
    have hM : townR E w1 1 A1 g mn wn ly := hM.frm hf9 (by intro z9; first | (simp only [pO, pN, pD, pKp, pT, pB, pS, pR, pRd, pRo, Prod.mk.injEq, pX1, pX2, pXs, pX2t] at z9; done) | (simp only [pO, pN, pD, pKp, pT, pB, pS, pR, pRd, pRo, Prod.mk.injEq, pX1, pX2, pXs, pX2t] at z9; omega)) (fun r9 => (by intro z9; first | (simp only [pO, pN, pD, pKp, pT, pB, pS, pR, pRd, pRo, Prod.mk.injEq, pX1, pX2, pXs, pX2t] at z9; done) | (simp only [pO, pN, pD, pKp, pT, pB, pS, pR, pRd, pRo, Prod.mk.injEq, pX1, pX2, pXs, pX2t] at z9; omega)))
    have hF : fr pX2t w0 w1 := hF.tr (hf9.up (fun t9 h9 => by simp only [pO, pN, pD, pKp, pT, pB, pS, pR, pX1, pX2, pXs, pX2t] at h9 ⊢; first | exact h9 | (subst h9; simp; done) | (subst h9; simp; omega) | omega | (rcases h9 with h9 | h9 <;> first | (subst h9; simp; done) | (subst h9; simp; omega) | omega)))
    have hM2 : townR E w1 2 A2 g mn wb2 lb2 := hM2'
    show W p l0 e rmCX1_cutIn s m args below meth c H locs ((((0 + 1) + 1) + 1) + 6) ((((0 + 6) + 6) + 6) + 12) Q (F0 m 44 ls [])
    refine lv_iconst (v := 1) hx hb dX1_cutIn_44 (by decide) ?_
    refine lv_istore (lv' := [(4, .int 1), (3, .ref (A1 (6 + kz))), (0, .ref x), (1, .int (nI kz)), (2, .int (nI kr))]) hx hb dX1_cutIn_45 hl (by decide) rfl (fun ls hl => ?_)
    have hloop_47 : ∀ (n9_47 : Nat) (i9 : Nat) (wn2 : Nat → Int32) (ly2 : Nat → Int32), (i9 ≤ kr) → (tUp (tRn g mn i9) kz = true) → (tKn g mn kz kr (kr - i9) i9 = tKn g mn kz kr kr 0) → (kr - i9) < n9_47 → ∀ (w : wd) (H : Heap) (locs : List Loc) (ls : Array Slot), (w x = some ((94, 0), .inr (1, [.ref (A1 0), .ref (A2 0), .ref (A3 0), .int hs, .ref d, .ref b, .int ft, .int rf, .int ro]))) → (townR E w 1 A1 g mn wn ly) → (townR E w 2 A2 (tRn g mn i9) mn wn2 ly2) → fr pX2t w0 w → wP E w H → va_S (gA E) s.heap H locs → lv_has ls 5 [(4, .int (nI (i9 + 1))), (3, .ref (A1 (6 + kz))), (0, .ref x), (1, .int (nI kz)), (2, .int (nI kr))] → W p l0 e rmCX1_cutIn s m args below meth c H locs (12 + 6 * i9) (40 + 18 * i9) Q (F0 m 47 ls []) := by
      intro n9_47
      induction n9_47 with
      | zero => intro i9 wn2 ly2 hi9 hu9 ht9 hn; exact absurd hn (Nat.not_lt_zero _)
      | succ n9_47 ih_47 =>
        intro i9 wn2 ly2 hi9 hu9 ht9 hn_47 w H locs ls hX hM hM2 hF hP hS hl
        refine lv_iload hx hb dX1_cutIn_47 (lv_at hl 0 rfl) ?_
        refine lv_iload_n hx hb dX1_cutIn_49 rfl (lv_at hl 4 rfl) ?_
        refine k_icmp_gtN (x := i9 + 1) (y := kr) (tgt := 85) hx hb (by omega) (by omega) dX1_cutIn_50 (by decide) (fun c50 => ?_) (fun c50 => ?_)
        · skip
          refine lv_iconst (v := (-1)) hx hb dX1_cutIn_85 (by decide) ?_
          exact kx_iret hx hb hr hlocks hQ hP hS (by omega) (by omega) dX1_cutIn_86 (⟨_, _, _, _, ⟨by rw [qCin_ok hk9 hk8 ckz ckr c21], by rw [qCin_ok hk9 hk8 ckz ckr c21, rCin_n (by rw [show kr = i9 from by omega]; exact hu9) (by rw [show kr = i9 from by omega] at ht9 ⊢; exact ht9)]⟩, ⟨hM2, trivial⟩, hF⟩)
        · skip
          refine lv_aload_n hx hb dX1_cutIn_53 rfl (lv_at hl 2 rfl) ?_
          refine k_get hx hb hts in_X1 hown hG hP hX rfl 1 (by decide) (hts _ q277) (fun _ h9 => h9) (v := .ref (A2 0)) rfl dX1_cutIn_54 ?_
          have hT_3 := hM2.1
          refine k_cV hx hb hml hown hts (CX2_round l0 E w 2 A2 (tRn g mn i9) mn wn2 ly2 (N + 71 * i9) (gI_Rn hI i9 (by omega)) (by omega) (by omega) (by omega) hM2) (cwV 0 hts (lw_V q960 q961 q962 q70 q963) rfl rfl rfl dyX2_round ⟨Nat.le_of_ble_eq_true rfl, Nat.le_of_ble_eq_true rfl⟩) hG hP hS hT_3 rfl (As := []) (rest := []) rfl hl.1 rfl (lv_room (Nat.le_of_ble_eq_true rfl)) dX1_cutIn_57 ⟨show (12 + 6 * i9) + 6 ≤ 200 from by omega, show (40 + 18 * i9) + 18 ≤ 600 from by omega⟩ (fun r57 w2 H locs hp hP hS => ?_)
          obtain ⟨wn9_1, ly9_2, hp0, ⟨hM2', -⟩, hf9⟩ := hp
          have hX : w2 x = some ((94, 0), .inr (1, [.ref (A1 0), .ref (A2 0), .ref (A3 0), .int hs, .ref d, .ref b, .int ft, .int rf, .int ro])) := hf9 _ _ _ hX (by intro z9; first | (simp only [pO, pN, pD, pKp, pT, pB, pS, pR, pRd, pRo, Prod.mk.injEq, pX1, pX2, pXs, pX2t] at z9; done) | (simp only [pO, pN, pD, pKp, pT, pB, pS, pR, pRd, pRo, Prod.mk.injEq, pX1, pX2, pXs, pX2t] at z9; omega))
          have hM : townR E w2 1 A1 g mn wn ly := hM.frm hf9 (by intro z9; first | (simp only [pO, pN, pD, pKp, pT, pB, pS, pR, pRd, pRo, Prod.mk.injEq, pX1, pX2, pXs, pX2t] at z9; done) | (simp only [pO, pN, pD, pKp, pT, pB, pS, pR, pRd, pRo, Prod.mk.injEq, pX1, pX2, pXs, pX2t] at z9; omega)) (fun r9 => (by intro z9; first | (simp only [pO, pN, pD, pKp, pT, pB, pS, pR, pRd, pRo, Prod.mk.injEq, pX1, pX2, pXs, pX2t] at z9; done) | (simp only [pO, pN, pD, pKp, pT, pB, pS, pR, pRd, pRo, Prod.mk.injEq, pX1, pX2, pXs, pX2t] at z9; omega)))
          have hF : fr pX2t w0 w2 := hF.tr (hf9.up (fun t9 h9 => by simp only [pO, pN, pD, pKp, pT, pB, pS, pR, pX1, pX2, pXs, pX2t] at h9 ⊢; first | exact h9 | (subst h9; simp; done) | (subst h9; simp; omega) | omega | (rcases h9 with h9 | h9 <;> first | (subst h9; simp; done) | (subst h9; simp; omega) | omega)))
          have hM2 : townR E w2 2 A2 (tRx (tRn g mn i9) mn) mn wn9_1 ly9_2 := hM2'
          rw [hp0]
          show W p l0 e rmCX1_cutIn s m args below meth c H locs ((12 + 6 * i9) + 6) ((40 + 18 * i9) + 18) Q (F0 m 60 ls [.int (tRk (tRn g mn i9) mn)])
          refine lv_pop hx hb dX1_cutIn_60 rfl ?_
          refine lv_aload_n hx hb dX1_cutIn_61 rfl (lv_at hl 2 rfl) ?_
          refine k_get hx hb hts in_X1 hown hG hP hX rfl 1 (by decide) (hts _ q277) (fun _ h9 => h9) (v := .ref (A2 0)) rfl dX1_cutIn_62 ?_
          have hT_4 := hM2.1
          refine k_getN hx hb hts in_X2 hown hG hP hT_4 rfl 2 (by decide) (hG.2.1.1 _ q185 rfl) (fun _ h9 => h9) (v := .ref (A2 3)) rfl dX1_cutIn_65 ?_
          refine lv_iload_n hx hb dX1_cutIn_68 rfl (lv_at hl 3 rfl) ?_
          obtain ⟨fq_5, hT_5, he_5⟩ := hM2.2.2.2.1
          refine k_aald hx hb hG hP (j := kz) 4 hT_5 rfl (by omega) (show kz < 6 from by omega) dX1_cutIn_69 ?_
          rw [he_5 kz (by omega)]
          obtain ⟨tz_6, hT_6, hz_6⟩ := hM2.kite (k := kz) (by omega)
          refine k_cV hx hb hml hown hts (CX3_isUp l0 E w2 2 kz (A2 (6 + kz)) (kv (tRx (tRn g mn i9) mn) kz) tz_6 hT_6 hz_6) (cwV 0 hts (lw_V q754 q713 q714 q71 q715) rfl rfl rfl dyX3_isUp ⟨Nat.le_of_ble_eq_true rfl, Nat.le_of_ble_eq_true rfl⟩) hG hP hS hT_6 rfl (As := []) (rest := []) rfl hl.1 rfl (lv_room (Nat.le_of_ble_eq_true rfl)) dX1_cutIn_70 ⟨show ((12 + 6 * i9) + 6) + 0 ≤ 200 from by omega, show ((40 + 18 * i9) + 18) + 0 ≤ 600 from by omega⟩ (fun r9 w9 H locs hp hP hS => ?_)
          obtain ⟨hp1, hp0⟩ := hp
          rw [hp1] at hP
          rw [hp0]
          show W p l0 e rmCX1_cutIn s m args below meth c H locs ((12 + 6 * i9) + 6) ((40 + 18 * i9) + 18) Q (F0 m 73 ls [.int (bI (decide (((kv (tRx (tRn g mn i9) mn) kz) 0) = 1)))])
          refine k_ifneB (x := decide (((kv (tRx (tRn g mn i9) mn) kz) 0) = 1)) (tgt := 79) hx hb dX1_cutIn_73 (by decide) (fun c73 => ?_) (fun c73 => ?_)
          · skip
            refine lv_iinc (v := (nI (i9 + 1 + 1))) (lv' := [(4, .int (nI (i9 + 1 + 1))), (3, .ref (A1 (6 + kz))), (0, .ref x), (1, .int (nI kz)), (2, .int (nI kr))]) hx hb dX1_cutIn_79 hl (k := 0) rfl (nI_add (i9 + 1) 1) (by decide) rfl (fun ls hl => ?_)
            refine lv_goto (tgt := 47) hx hb dX1_cutIn_82 (by decide) ?_
            have hl : lv_has ls 5 [(4, .int (nI ((i9 + 1) + 1))), (3, .ref (A1 (6 + kz))), (0, .ref x), (1, .int (nI kz)), (2, .int (nI kr))] := hl
            refine W.widen (show ((12 + 6 * i9) + 6) ≤ (12 + 6 * (i9 + 1)) from by omega) (show ((40 + 18 * i9) + 18) ≤ (40 + 18 * (i9 + 1)) from by omega) ?_
            exact ih_47 (i9 + 1) wn9_1 ly9_2 (by omega) c73 ((tKn_go (q := kr - i9) hu9 (by omega)).symm.trans ht9) (by omega) _ _ _ _ hX hM hM2 hF hP hS hl
          · skip
            refine lv_iload hx hb dX1_cutIn_76 (lv_at hl 0 rfl) ?_
            exact kx_iret hx hb hr hlocks hQ hP hS (by omega) (by omega) dX1_cutIn_78 (⟨_, _, _, _, ⟨by rw [qCin_ok hk9 hk8 ckz ckr c21], by rw [qCin_ok hk9 hk8 ckz ckr c21, rCin_y (i := i9 + 1) c73 ((tKn_go (q := kr - i9) hu9 (by omega)).symm.trans ht9)]⟩, ⟨hM2, trivial⟩, hF⟩)
    have hl : lv_has ls 5 [(4, .int (nI (0 + 1))), (3, .ref (A1 (6 + kz))), (0, .ref x), (1, .int (nI kz)), (2, .int (nI kr))] := hl
    refine W.widen (show ((((0 + 1) + 1) + 1) + 6) ≤ (12 + 6 * 0) from by omega) (show ((((0 + 6) + 6) + 6) + 12) ≤ (40 + 18 * 0) from by omega) ?_
    exact hloop_47 _ 0 wb2 lb2 (by omega) hu0 rfl (Nat.lt_succ_self _) _ _ _ _ hX hM hM2 hF hP hS hl

abbrev rmCX1_pointsWith : Room := { frames := 7, cells := 60, slots := 200, locals := 172 }
theorem dyX1_pointsWith : yX1_pointsWith.cls = RX1 ∧ yX1_pointsWith.cls ≠ "java/lang/invoke/MethodHandle" ∧ yX1_pointsWith.cls ≠ "java/lang/invoke/VarHandle" ∧ (parseMethodDescriptor yX1_pointsWith.desc).map (fun d => d.parameters.length) = some 3 := by decide +kernel
set_option maxHeartbeats 4000000 in
theorem CX1_pointsWith (l0 : Launch) (E : gE) (w : wd) (x : Nat) (A1 : Nat → Nat) (A2 : Nat → Nat) (A3 : Nat → Nat) (d : Nat) (b : Nat) (hs : Int32) (ft : Int32) (rf : Int32) (ro : Int32) (g : Nat → Int32) (mn : Nat) (wn : Nat → Int32) (ly : Nat → Int32) (u2 : Nat → Int32) (m2 : Nat) (wb2 : Nat → Int32) (lb2 : Nat → Int32) (kz : Nat) (z : Int32) (kr : Nat) (N : Nat) (hI : gI g mn N) (hN9 : N + 71 * 31 < 2 ^ 31) (hkz : kz < mn) (hz9 : -9 ≤ z ∧ z ≤ 9) (hkr : kr ≤ 6) (hX : w x = some ((94, 0), .inr (1, [.ref (A1 0), .ref (A2 0), .ref (A3 0), .int hs, .ref d, .ref b, .int ft, .int rf, .int ro]))) (hM : townR E w 1 A1 g mn wn ly) (hM2 : townR E w 2 A2 u2 m2 wb2 lb2) : kC l0 yX1_pointsWith (ws_ yX1_pointsWith cX1_pointsWith 5 (some .int)) rmCX1_pointsWith 60 200 mI E w [.ref x, .int (nI kz), .int z, .int (nI kr)] (fun r w' => ∃ wa9 : Nat → Int32, ∃ la9 : Nat → Int32, (r = (tRn (va_up g (kO kz 7) z) mn kr (kO kz 8))) ∧ (townR E w' 2 A2 (tRn (va_up g (kO kz 7) z) mn kr) mn wa9 la9 ∧ True) ∧ fr pX2t w w') := by
  refine k_open (cc := cX1_pointsWith) (maxL := 5) (ret := (some .int)) (by decide) rfl (Nat.le_of_ble_eq_true rfl) ?_
  intro p e s m args below meth c ls Q hx hb hr hml hown hts hlocks hname hQ hG hP hl hS
  have hl : lv_has ls 5 [(0, .ref x), (1, .int (nI kz)), (2, .int z), (3, .int (nI kr))] := hl
  obtain ⟨w0, hw0⟩ : ∃ z, z = w := ⟨_, rfl⟩
  have hF : fr pX2t w0 w := by rw [hw0]; exact fr.rf
  rw [← hw0] at hQ
  have hm6 := hM.m25
  have hIs := gI_sp hI hkz hz9
  refine lv_aload_n hx hb dX1_pointsWith_0 rfl (lv_at hl 0 rfl) ?_
  refine k_get hx hb hts in_X1 hown hG hP hX rfl 1 (by decide) (hts _ q277) (fun _ h9 => h9) (v := .ref (A2 0)) rfl dX1_pointsWith_1 ?_
  refine lv_aload_n hx hb dX1_pointsWith_4 rfl (lv_at hl 0 rfl) ?_
  refine k_get hx hb hts in_X1 hown hG hP hX rfl 0 (by decide) (hts _ q276) (fun _ h9 => h9) (v := .ref (A1 0)) rfl dX1_pointsWith_5 ?_
  have hT_1 := hM2.1
  refine k_cV hx hb hml hown hts (CX2_take l0 E w 2 A2 u2 m2 wb2 lb2 1 A1 g mn wn ly (by omega) (by omega) (by omega) (by omega) (by omega) hM2 hM) (cwV 1 hts (lw_V q329 q330 q331 q70 q332) rfl rfl rfl dyX2_take ⟨Nat.le_of_ble_eq_true rfl, Nat.le_of_ble_eq_true rfl⟩) hG hP hS hT_1 rfl (As := [.ref (A1 0)]) (rest := []) rfl hl.1 rfl (lv_room (Nat.le_of_ble_eq_true rfl)) dX1_pointsWith_8 ⟨show 0 + 6 ≤ 60 from by omega, show 0 + 12 ≤ 200 from by omega⟩ (fun r8 w1 H locs hp hP hS => ?_)
  obtain ⟨hp0, ⟨hM2', -⟩, hf9⟩ := hp
  have hX : w1 x = some ((94, 0), .inr (1, [.ref (A1 0), .ref (A2 0), .ref (A3 0), .int hs, .ref d, .ref b, .int ft, .int rf, .int ro])) := hf9 _ _ _ hX (by intro z9; first | (simp only [pO, pN, pD, pKp, pT, pB, pS, pR, pRd, pRo, Prod.mk.injEq, pX1, pX2, pXs, pX2t] at z9; done) | (simp only [pO, pN, pD, pKp, pT, pB, pS, pR, pRd, pRo, Prod.mk.injEq, pX1, pX2, pXs, pX2t] at z9; omega))
  have hM : townR E w1 1 A1 g mn wn ly := hM.frm hf9 (by intro z9; first | (simp only [pO, pN, pD, pKp, pT, pB, pS, pR, pRd, pRo, Prod.mk.injEq, pX1, pX2, pXs, pX2t] at z9; done) | (simp only [pO, pN, pD, pKp, pT, pB, pS, pR, pRd, pRo, Prod.mk.injEq, pX1, pX2, pXs, pX2t] at z9; omega)) (fun r9 => (by intro z9; first | (simp only [pO, pN, pD, pKp, pT, pB, pS, pR, pRd, pRo, Prod.mk.injEq, pX1, pX2, pXs, pX2t] at z9; done) | (simp only [pO, pN, pD, pKp, pT, pB, pS, pR, pRd, pRo, Prod.mk.injEq, pX1, pX2, pXs, pX2t] at z9; omega)))
  have hF : fr pX2t w0 w1 := hF.tr (hf9.up (fun t9 h9 => by simp only [pO, pN, pD, pKp, pT, pB, pS, pR, pX1, pX2, pXs, pX2t] at h9 ⊢; first | exact h9 | (subst h9; simp; done) | (subst h9; simp; omega) | omega | (rcases h9 with h9 | h9 <;> first | (subst h9; simp; done) | (subst h9; simp; omega) | omega)))
  have hM2 : townR E w1 2 A2 g mn wb2 lb2 := hM2'
  show W p l0 e rmCX1_pointsWith s m args below meth c H locs (0 + 6) (0 + 12) Q (F0 m 11 ls [])
  refine lv_aload_n hx hb dX1_pointsWith_11 rfl (lv_at hl 0 rfl) ?_
  refine k_get hx hb hts in_X1 hown hG hP hX rfl 1 (by decide) (hts _ q277) (fun _ h9 => h9) (v := .ref (A2 0)) rfl dX1_pointsWith_12 ?_
  have hT_2 := hM2.1
  refine k_getN hx hb hts in_X2 hown hG hP hT_2 rfl 2 (by decide) (hG.2.1.1 _ q185 rfl) (fun _ h9 => h9) (v := .ref (A2 3)) rfl dX1_pointsWith_15 ?_
  refine lv_iload_n hx hb dX1_pointsWith_18 rfl (lv_at hl 1 rfl) ?_
  obtain ⟨fq_3, hT_3, he_3⟩ := hM2.2.2.2.1
  refine k_aald hx hb hG hP (j := kz) 4 hT_3 rfl (by omega) (show kz < 6 from by omega) dX1_pointsWith_19 ?_
  rw [he_3 kz (by omega)]
  refine lv_iload_n hx hb dX1_pointsWith_20 rfl (lv_at hl 2 rfl) ?_
  obtain ⟨tz_4, hT_4, hz_4⟩ := hM2.kite (k := kz) (by omega)
  refine k_putNW hx hb hts in_X3 tyX3 tyX3_ok nmX3 hown hG hP hS hT_4 rfl 5 (by decide) (hG.2.1.1 _ q155 rfl) (fun _ h9 => h9) rfl (ty := .int) (v := .int z) rfl rfl rfl (Nat.le_of_ble_eq_true rfl) dX1_pointsWith_21 (fun w2 H locs h9 hf9 hP hS => ?_)
  have h9 : w2 (A2 (6 + kz)) = some ((2, 6 + kz), .inr (3, kF E (va_up (kv g kz) 7 z) tz_4)) := h9
  have hM2 : townR E w2 2 A2 (va_up g (kO kz 7) z) mn wb2 lb2 := hM2.kup (by omega) (k := kz) (by omega) (fr_K hf9) (kR.put hz_4 (by omega) (by omega) hf9 h9 rfl rfl rfl rfl rfl rfl) (fun _ => (kv_eq (by decide)).symm) (fun j hj => up_n (kO_lo hj)) (fun j _ hj => kv_ne hj (by decide))
  have hX : w2 x = some ((94, 0), .inr (1, [.ref (A1 0), .ref (A2 0), .ref (A3 0), .int hs, .ref d, .ref b, .int ft, .int rf, .int ro])) := hf9 _ _ _ hX (by intro z9; first | (simp only [pO, pN, pD, pKp, pT, pB, pS, pR, pRd, pRo, Prod.mk.injEq, pX1, pX2, pXs, pX2t] at z9; done) | (simp only [pO, pN, pD, pKp, pT, pB, pS, pR, pRd, pRo, Prod.mk.injEq, pX1, pX2, pXs, pX2t] at z9; omega))
  have hM : townR E w2 1 A1 g mn wn ly := hM.frm hf9 (by intro z9; first | (simp only [pO, pN, pD, pKp, pT, pB, pS, pR, pRd, pRo, Prod.mk.injEq, pX1, pX2, pXs, pX2t] at z9; done) | (simp only [pO, pN, pD, pKp, pT, pB, pS, pR, pRd, pRo, Prod.mk.injEq, pX1, pX2, pXs, pX2t] at z9; omega)) (fun r9 => (by intro z9; first | (simp only [pO, pN, pD, pKp, pT, pB, pS, pR, pRd, pRo, Prod.mk.injEq, pX1, pX2, pXs, pX2t] at z9; done) | (simp only [pO, pN, pD, pKp, pT, pB, pS, pR, pRd, pRo, Prod.mk.injEq, pX1, pX2, pXs, pX2t] at z9; omega)))
  have hF : fr pX2t w0 w2 := hF.tr (hf9.up (fun t9 h9 => by simp only [pO, pN, pD, pKp, pT, pB, pS, pR, pX1, pX2, pXs, pX2t] at h9 ⊢; first | exact h9 | (subst h9; simp; done) | (subst h9; simp; omega) | omega | (rcases h9 with h9 | h9 <;> first | (subst h9; simp; done) | (subst h9; simp; omega) | omega)))
  refine lv_iconst (v := 0) hx hb dX1_pointsWith_24 (by decide) ?_
  refine lv_istore (lv' := [(4, .int 0), (0, .ref x), (1, .int (nI kz)), (2, .int z), (3, .int (nI kr))]) hx hb dX1_pointsWith_25 hl (by decide) rfl (fun ls hl => ?_)
  have hloop_27 : ∀ (n9_27 : Nat) (i9 : Nat) (wn2 : Nat → Int32) (ly2 : Nat → Int32), (i9 ≤ kr) → (kr - i9) < n9_27 → ∀ (w : wd) (H : Heap) (locs : List Loc) (ls : Array Slot), (w x = some ((94, 0), .inr (1, [.ref (A1 0), .ref (A2 0), .ref (A3 0), .int hs, .ref d, .ref b, .int ft, .int rf, .int ro]))) → (townR E w 1 A1 g mn wn ly) → (townR E w 2 A2 (tRn (va_up g (kO kz 7) z) mn i9) mn wn2 ly2) → fr pX2t w0 w → wP E w H → va_S (gA E) s.heap H locs → lv_has ls 5 [(4, .int (nI i9)), (0, .ref x), (1, .int (nI kz)), (2, .int z), (3, .int (nI kr))] → W p l0 e rmCX1_pointsWith s m args below meth c H locs (12 + 6 * i9) (40 + 18 * i9) Q (F0 m 27 ls []) := by
    intro n9_27
    induction n9_27 with
    | zero => intro i9 wn2 ly2 hi9 hn; exact absurd hn (Nat.not_lt_zero _)
    | succ n9_27 ih_27 =>
      intro i9 wn2 ly2 hi9 hn_27 w H locs ls hX hM hM2 hF hP hS hl
      refine lv_iload hx hb dX1_pointsWith_27 (lv_at hl 0 rfl) ?_
      refine lv_iload_n hx hb dX1_pointsWith_29 rfl (lv_at hl 4 rfl) ?_
      refine k_icmp_geN (x := i9) (y := kr) (tgt := 47) hx hb (by omega) (by omega) dX1_pointsWith_30 (by decide) (fun c30 => ?_) (fun c30 => ?_)
      · skip
        have hir : i9 = kr := by omega
        refine lv_aload_n hx hb dX1_pointsWith_47 rfl (lv_at hl 1 rfl) ?_
        refine k_get hx hb hts in_X1 hown hG hP hX rfl 1 (by decide) (hts _ q277) (fun _ h9 => h9) (v := .ref (A2 0)) rfl dX1_pointsWith_48 ?_
        have hT_5 := hM2.1
        refine k_getN hx hb hts in_X2 hown hG hP hT_5 rfl 2 (by decide) (hG.2.1.1 _ q185 rfl) (fun _ h9 => h9) (v := .ref (A2 3)) rfl dX1_pointsWith_51 ?_
        refine lv_iload_n hx hb dX1_pointsWith_54 rfl (lv_at hl 2 rfl) ?_
        obtain ⟨fq_6, hT_6, he_6⟩ := hM2.2.2.2.1
        refine k_aald hx hb hG hP (j := kz) 4 hT_6 rfl (by omega) (show kz < 6 from by omega) dX1_pointsWith_55 ?_
        rw [he_6 kz (by omega)]
        obtain ⟨tz_7, hT_7, hz_7⟩ := hM2.kite (k := kz) (by omega)
        refine k_getN hx hb hts in_X3 hown hG hP hT_7 rfl 6 (by decide) (hG.2.1.1 _ q159 rfl) (fun _ h9 => h9) (v := .int ((tRn (va_up g (kO kz 7) z) mn i9) (kO kz 8))) rfl dX1_pointsWith_56 ?_
        exact k_iret hx hb hr hlocks hQ hP hS (by omega) (by omega) dX1_pointsWith_59 (⟨_, _, by rw [hir], ⟨(hM2.row (by rw [hir])), trivial⟩, hF⟩)
      · skip
        refine lv_aload_n hx hb dX1_pointsWith_33 rfl (lv_at hl 1 rfl) ?_
        refine k_get hx hb hts in_X1 hown hG hP hX rfl 1 (by decide) (hts _ q277) (fun _ h9 => h9) (v := .ref (A2 0)) rfl dX1_pointsWith_34 ?_
        have hT_8 := hM2.1
        refine k_cV hx hb hml hown hts (CX2_round l0 E w 2 A2 (tRn (va_up g (kO kz 7) z) mn i9) mn wn2 ly2 (N + 71 * i9) (gI_Rn hIs i9 (by omega)) (by omega) (by omega) (by omega) hM2) (cwV 0 hts (lw_V q960 q961 q962 q70 q963) rfl rfl rfl dyX2_round ⟨Nat.le_of_ble_eq_true rfl, Nat.le_of_ble_eq_true rfl⟩) hG hP hS hT_8 rfl (As := []) (rest := []) rfl hl.1 rfl (lv_room (Nat.le_of_ble_eq_true rfl)) dX1_pointsWith_37 ⟨show (12 + 6 * i9) + 6 ≤ 60 from by omega, show (40 + 18 * i9) + 18 ≤ 200 from by omega⟩ (fun r37 w3 H locs hp hP hS => ?_)
        obtain ⟨wn9_1, ly9_2, hp0, ⟨hM2', -⟩, hf9⟩ := hp
        have hX : w3 x = some ((94, 0), .inr (1, [.ref (A1 0), .ref (A2 0), .ref (A3 0), .int hs, .ref d, .ref b, .int ft, .int rf, .int ro])) := hf9 _ _ _ hX (by intro z9; first | (simp only [pO, pN, pD, pKp, pT, pB, pS, pR, pRd, pRo, Prod.mk.injEq, pX1, pX2, pXs, pX2t] at z9; done) | (simp only [pO, pN, pD, pKp, pT, pB, pS, pR, pRd, pRo, Prod.mk.injEq, pX1, pX2, pXs, pX2t] at z9; omega))
        have hM : townR E w3 1 A1 g mn wn ly := hM.frm hf9 (by intro z9; first | (simp only [pO, pN, pD, pKp, pT, pB, pS, pR, pRd, pRo, Prod.mk.injEq, pX1, pX2, pXs, pX2t] at z9; done) | (simp only [pO, pN, pD, pKp, pT, pB, pS, pR, pRd, pRo, Prod.mk.injEq, pX1, pX2, pXs, pX2t] at z9; omega)) (fun r9 => (by intro z9; first | (simp only [pO, pN, pD, pKp, pT, pB, pS, pR, pRd, pRo, Prod.mk.injEq, pX1, pX2, pXs, pX2t] at z9; done) | (simp only [pO, pN, pD, pKp, pT, pB, pS, pR, pRd, pRo, Prod.mk.injEq, pX1, pX2, pXs, pX2t] at z9; omega)))
        have hF : fr pX2t w0 w3 := hF.tr (hf9.up (fun t9 h9 => by simp only [pO, pN, pD, pKp, pT, pB, pS, pR, pX1, pX2, pXs, pX2t] at h9 ⊢; first | exact h9 | (subst h9; simp; done) | (subst h9; simp; omega) | omega | (rcases h9 with h9 | h9 <;> first | (subst h9; simp; done) | (subst h9; simp; omega) | omega)))
        have hM2 : townR E w3 2 A2 (tRx (tRn (va_up g (kO kz 7) z) mn i9) mn) mn wn9_1 ly9_2 := hM2'
        rw [hp0]
        show W p l0 e rmCX1_pointsWith s m args below meth c H locs ((12 + 6 * i9) + 6) ((40 + 18 * i9) + 18) Q (F0 m 40 ls [.int (tRk (tRn (va_up g (kO kz 7) z) mn i9) mn)])
        refine lv_pop hx hb dX1_pointsWith_40 rfl ?_
        refine lv_iinc (v := (nI (i9 + 1))) (lv' := [(4, .int (nI (i9 + 1))), (0, .ref x), (1, .int (nI kz)), (2, .int z), (3, .int (nI kr))]) hx hb dX1_pointsWith_41 hl (k := 0) rfl (nI_add i9 1) (by decide) rfl (fun ls hl => ?_)
        refine lv_goto (tgt := 27) hx hb dX1_pointsWith_44 (by decide) ?_
        have hl : lv_has ls 5 [(4, .int (nI (i9 + 1))), (0, .ref x), (1, .int (nI kz)), (2, .int z), (3, .int (nI kr))] := hl
        refine W.widen (show ((12 + 6 * i9) + 6) ≤ (12 + 6 * (i9 + 1)) from by omega) (show ((40 + 18 * i9) + 18) ≤ (40 + 18 * (i9 + 1)) from by omega) ?_
        exact ih_27 (i9 + 1) wn9_1 ly9_2 (by omega) (by omega) _ _ _ _ hX hM hM2 hF hP hS hl
  have hl : lv_has ls 5 [(4, .int (nI 0)), (0, .ref x), (1, .int (nI kz)), (2, .int z), (3, .int (nI kr))] := hl
  refine W.widen (show (0 + 6) ≤ (12 + 6 * 0) from by omega) (show (0 + 12) ≤ (40 + 18 * 0) from by omega) ?_
  exact hloop_27 _ 0 wb2 lb2 (by omega) (Nat.lt_succ_self _) _ _ _ _ hX hM hM2 hF hP hS hl

abbrev rmCX1_bestSpeed : Room := { frames := 9, cells := 1300, slots := 4200, locals := 196 }
theorem dyX1_bestSpeed : yX1_bestSpeed.cls = RX1 ∧ yX1_bestSpeed.cls ≠ "java/lang/invoke/MethodHandle" ∧ yX1_bestSpeed.cls ≠ "java/lang/invoke/VarHandle" ∧ (parseMethodDescriptor yX1_bestSpeed.desc).map (fun d => d.parameters.length) = some 2 := by decide +kernel
set_option maxHeartbeats 4000000 in
theorem CX1_bestSpeed (l0 : Launch) (hl0 : l0.stackTraces = false) (E : gE) (w : wd) (x : Nat) (A1 : Nat → Nat) (A2 : Nat → Nat) (A3 : Nat → Nat) (d : Nat) (b : Nat) (hs : Int32) (ft : Int32) (rf : Int32) (ro : Int32) (g : Nat → Int32) (mn : Nat) (wn : Nat → Int32) (ly : Nat → Int32) (u2 : Nat → Int32) (m2 : Nat) (wb2 : Nat → Int32) (lb2 : Nat → Int32) (y : Int32) (z : Int32) (N : Nat) (hI : gI g mn N) (hN9 : N + 71 * 31 < 2 ^ 31) (hX : w x = some ((94, 0), .inr (1, [.ref (A1 0), .ref (A2 0), .ref (A3 0), .int hs, .ref d, .ref b, .int ft, .int rf, .int ro]))) (hM : townR E w 1 A1 g mn wn ly) (hM2 : townR E w 2 A2 u2 m2 wb2 lb2) : kX l0 yX1_bestSpeed (ws_ yX1_bestSpeed cX1_bestSpeed 8 (some .int)) rmCX1_bestSpeed 1300 4200 mI E w [.ref x, .int y, .int z] (fun r w' => ∃ g9 : Nat → Int32, ∃ m9 : Nat, ∃ wa9 : Nat → Int32, ∃ la9 : Nat → Int32, ((qBsp g mn y z).1 = 0 ∧ r = (qBsp g mn y z).2.2) ∧ (townR E w' 2 A2 g9 m9 wa9 la9 ∧ True) ∧ fr pX2t w w') (pxM [(nIO, 1), (nIA, 2)] w (qBsp g mn y z).1 3 (qBsp g mn y z).2.1 x (fun rs od => .inr (1, [.ref (A1 0), .ref (A2 0), .ref (A3 0), .int hs, .ref d, .ref b, .int ft, .int rs, .int od]))) := by
  refine kx_open (cc := cX1_bestSpeed) (maxL := 8) (ret := (some .int)) (by decide) rfl (Nat.le_of_ble_eq_true rfl) ?_
  intro p e s m args below meth c ls Q hx hb hr hml hown hts hlocks hname ht hQ hG hP hl hS
  have hl : lv_has ls 8 [(0, .ref x), (1, .int y), (2, .int z)] := hl
  obtain ⟨w0, hw0⟩ : ∃ z, z = w := ⟨_, rfl⟩
  have hF : fr pX2t w0 w := by rw [hw0]; exact fr.rf
  rw [← hw0] at hQ
  have hm6 := hM.m25
  refine lv_aload_n hx hb dX1_bestSpeed_0 rfl (lv_at hl 0 rfl) ?_
  refine lv_iload_n hx hb dX1_bestSpeed_1 rfl (lv_at hl 1 rfl) ?_
  refine kx_cV hx hb hml hown hts hQ ht hlocks (CX1_kiteAt l0 hl0 E w x A1 A2 A3 d b hs ft rf ro g mn wn ly y hX hM) (cwV 1 hts (lw_V q743 q745 qs7 q69 q746) rfl rfl rfl dyX1_kiteAt ⟨Nat.le_of_ble_eq_true rfl, Nat.le_of_ble_eq_true rfl⟩) hG hP hS hX rfl (As := [.int y]) (rest := []) rfl hl.1 rfl (lv_room (Nat.le_of_ble_eq_true rfl)) dX1_bestSpeed_2 ⟨show 0 + 1 ≤ 1300 from by omega, show 0 + 6 ≤ 4200 from by omega⟩ ⟨show 0 + 1 ≤ 1300 from by omega, show 0 + 6 ≤ 4200 from by omega⟩ (fun X9 q9 w9 h9 => pxM.mk' (k := 1) h9.1 (qBsp_1 h9.2.2) (by decide) h9.2.1 hw0) (fun r9 w9 H locs hp hP hS => ?_)
  obtain ⟨hp1, hp0⟩ := hp
  rw [hp1] at hP
  obtain ⟨kz, hkz, rfl, rfl⟩ := hp0
  have ckz : (nI kz).toNatClampNeg = kz := nI_clamp (by omega)
  have hk9 := tKt_N hm6.1 hm6.2 hkz
  show W p l0 e rmCX1_bestSpeed s m args below meth c H locs (0 + 1) (0 + 6) Q (F0 m 5 ls [.ref (A1 (6 + kz))])
  refine lv_astore_n (lv' := [(3, .ref (A1 (6 + kz))), (0, .ref x), (1, .int (nI kz)), (2, .int z)]) hx hb dX1_bestSpeed_5 rfl hl (by decide) rfl (fun ls hl => ?_)
  refine lv_iload_n hx hb dX1_bestSpeed_6 rfl (lv_at hl 3 rfl) ?_
  refine lv_iconst (v := 1) hx hb dX1_bestSpeed_7 (by decide) ?_
  refine lv_bipush (v := 6) hx hb dX1_bestSpeed_8 (by decide) ?_
  refine k_cS hx hb hml hown hts (CX1_in l0 E w z 1 6) (va_cwS 3 hts (lw_S q453 q454 q69 q455) rfl rfl rfl dyX1_in ⟨Nat.le_of_ble_eq_true rfl, Nat.le_of_ble_eq_true rfl⟩) hG hP hS (As := [.int z, .int 1, .int 6]) (rest := []) rfl hl.1 rfl (lv_room (Nat.le_of_ble_eq_true rfl)) dX1_bestSpeed_10 ⟨show (0 + 1) + 0 ≤ 1300 from by omega, show (0 + 6) + 0 ≤ 4200 from by omega⟩ (fun r9 w9 H locs hp hP hS => ?_)
  obtain ⟨hp1, hp0⟩ := hp
  rw [hp1] at hP
  rw [hp0]
  show W p l0 e rmCX1_bestSpeed s m args below meth c H locs (0 + 1) (0 + 6) Q (F0 m 13 ls [.int (bI (tin z 1 6))])
  refine kx_cS hx hb hml hown hts hQ ht hlocks (CX1_check l0 hl0 E w (tin z 1 6)) (va_cwS 1 hts (lw_S q483 q484 q69 q485) rfl rfl rfl dyX1_check ⟨Nat.le_of_ble_eq_true rfl, Nat.le_of_ble_eq_true rfl⟩) hG hP hS (As := [.int (bI (tin z 1 6))]) (rest := []) rfl hl.1 rfl (lv_room (Nat.le_of_ble_eq_true rfl)) dX1_bestSpeed_13 ⟨show (0 + 1) + 1 ≤ 1300 from by omega, show (0 + 6) + 6 ≤ 4200 from by omega⟩ ⟨show (0 + 1) + 1 ≤ 1300 from by omega, show (0 + 6) + 6 ≤ 4200 from by omega⟩ (fun X9 q9 w9 h9 => pxM.mk' (k := 2) h9.1 (qBsp_2 hk9 h9.2.2) (by decide) h9.2.1 hw0) (fun r9 w9 H locs hp hP hS => ?_)
  obtain ⟨hp1, hp0⟩ := hp
  rw [hp1] at hP
  have hk8 := hp0
  show W p l0 e rmCX1_bestSpeed s m args below meth c H locs ((0 + 1) + 1) ((0 + 6) + 6) Q (F0 m 16 ls [])
  refine lv_aload_n hx hb dX1_bestSpeed_16 rfl (lv_at hl 1 rfl) ?_
  refine lv_aload_n hx hb dX1_bestSpeed_17 rfl (lv_at hl 0 rfl) ?_
  obtain ⟨tz_1, hT_1, hz_1⟩ := hM.kite (k := kz) (by omega)
  refine k_cV hx hb hml hown hts (CX3_isUp l0 E w 1 kz (A1 (6 + kz)) (kv g kz) tz_1 hT_1 hz_1) (cwV 0 hts (lw_V q754 q713 q714 q71 q715) rfl rfl rfl dyX3_isUp ⟨Nat.le_of_ble_eq_true rfl, Nat.le_of_ble_eq_true rfl⟩) hG hP hS hT_1 rfl (As := []) (rest := [.ref x]) rfl hl.1 rfl (lv_room (Nat.le_of_ble_eq_true rfl)) dX1_bestSpeed_18 ⟨show ((0 + 1) + 1) + 0 ≤ 1300 from by omega, show ((0 + 6) + 6) + 0 ≤ 4200 from by omega⟩ (fun r9 w9 H locs hp hP hS => ?_)
  obtain ⟨hp1, hp0⟩ := hp
  rw [hp1] at hP
  rw [hp0]
  show W p l0 e rmCX1_bestSpeed s m args below meth c H locs ((0 + 1) + 1) ((0 + 6) + 6) Q (F0 m 21 ls [.int (bI (decide (((kv g kz) 0) = 1))), .ref x])
  refine k_ifeqB (x := decide (((kv g kz) 0) = 1)) (tgt := 28) hx hb dX1_bestSpeed_21 (by decide) (fun c21 => ?_) (fun c21 => ?_)
  · skip
    refine lv_iconst (v := 4) hx hb dX1_bestSpeed_28 (by decide) ?_
    refine lv_iconst (v := (-1)) hx hb dX1_bestSpeed_29 (by decide) ?_
    refine kx_cV hx hb hml hown hts hQ ht hlocks (CX1_checkSupported l0 hl0 E w x A1 A2 A3 d b hs ft rf ro 4 (-1) hX) (cwV 2 hts (lw_V q614 q616 qs5 q69 q617) rfl rfl rfl dyX1_checkSupported ⟨Nat.le_of_ble_eq_true rfl, Nat.le_of_ble_eq_true rfl⟩) hG hP hS hX rfl (As := [.int 4, .int (-1)]) (rest := []) rfl hl.1 rfl (lv_room (Nat.le_of_ble_eq_true rfl)) dX1_bestSpeed_30 ⟨show ((0 + 1) + 1) + 1 ≤ 1300 from by omega, show ((0 + 6) + 6) + 6 ≤ 4200 from by omega⟩ ⟨show ((0 + 1) + 1) + 1 ≤ 1300 from by omega, show ((0 + 6) + 6) + 6 ≤ 4200 from by omega⟩ (fun X9 q9 w9 h9 => pxM.su (r2 := 4) h9.1 (qBsp_n hk9 hk8 ckz c21) (by decide) h9.2.2.1 h9.2.2.2 hw0) (fun r9 w9 H locs hp hP hS => ?_)
    obtain ⟨hp1, hp0⟩ := hp
    rw [hp1] at hP
    show W p l0 e rmCX1_bestSpeed s m args below meth c H locs (((0 + 1) + 1) + 1) (((0 + 6) + 6) + 6) Q (F0 m 33 ls [])
    exact absurd hp0 (by decide)
  · skip
    refine lv_iconst (v := 0) hx hb dX1_bestSpeed_24 (by decide) ?_
    refine lv_goto (tgt := 29) hx hb dX1_bestSpeed_25 (by decide) ?_
    refine lv_iconst (v := (-1)) hx hb dX1_bestSpeed_29 (by decide) ?_
    refine kx_cV hx hb hml hown hts hQ ht hlocks (CX1_checkSupported l0 hl0 E w x A1 A2 A3 d b hs ft rf ro 0 (-1) hX) (cwV 2 hts (lw_V q614 q616 qs5 q69 q617) rfl rfl rfl dyX1_checkSupported ⟨Nat.le_of_ble_eq_true rfl, Nat.le_of_ble_eq_true rfl⟩) hG hP hS hX rfl (As := [.int 0, .int (-1)]) (rest := []) rfl hl.1 rfl (lv_room (Nat.le_of_ble_eq_true rfl)) dX1_bestSpeed_30 ⟨show ((0 + 1) + 1) + 1 ≤ 1300 from by omega, show ((0 + 6) + 6) + 6 ≤ 4200 from by omega⟩ ⟨show ((0 + 1) + 1) + 1 ≤ 1300 from by omega, show ((0 + 6) + 6) + 6 ≤ 4200 from by omega⟩ (fun X9 q9 w9 h9 => absurd h9.2.1 (by decide)) (fun r9 w9 H locs hp hP hS => ?_)
    obtain ⟨hp1, hp0⟩ := hp
    rw [hp1] at hP
    show W p l0 e rmCX1_bestSpeed s m args below meth c H locs (((0 + 1) + 1) + 1) (((0 + 6) + 6) + 6) Q (F0 m 33 ls [])
    obtain ⟨kr, hkr, rfl⟩ := tin_1N (n := 6) (by decide) hk8
    have ckr : (nI kr).toNatClampNeg = kr := nI_clamp (by omega)
    refine lv_bipush (v := (-9)) hx hb dX1_bestSpeed_33 (by decide) ?_
    refine lv_istore (lv' := [(4, .int (-9)), (3, .ref (A1 (6 + kz))), (0, .ref x), (1, .int (nI kz)), (2, .int (nI kr))]) hx hb dX1_bestSpeed_35 hl (by decide) rfl (fun ls hl => ?_)
    refine lv_iconst (v := (-1)) hx hb dX1_bestSpeed_37 (by decide) ?_
    refine lv_istore (lv' := [(5, .int (-1)), (4, .int (-9)), (3, .ref (A1 (6 + kz))), (0, .ref x), (1, .int (nI kz)), (2, .int (nI kr))]) hx hb dX1_bestSpeed_38 hl (by decide) rfl (fun ls hl => ?_)
    refine lv_bipush (v := (-9)) hx hb dX1_bestSpeed_40 (by decide) ?_
    refine lv_istore (lv' := [(6, .int (-9)), (5, .int (-1)), (4, .int (-9)), (3, .ref (A1 (6 + kz))), (0, .ref x), (1, .int (nI kz)), (2, .int (nI kr))]) hx hb dX1_bestSpeed_42 hl (by decide) rfl (fun ls hl => ?_)
    have hloop_44 : ∀ (n9_44 : Nat) (i9 : Nat) (u2 : Nat → Int32) (m2 : Nat) (wn2 : Nat → Int32) (ly2 : Nat → Int32), (i9 ≤ 19) → (19 - i9) < n9_44 → ∀ (w : wd) (H : Heap) (locs : List Loc) (ls : Array Slot), (w x = some ((94, 0), .inr (1, [.ref (A1 0), .ref (A2 0), .ref (A3 0), .int hs, .ref d, .ref b, .int ft, .int rf, .int ro]))) → (townR E w 1 A1 g mn wn ly) → (townR E w 2 A2 u2 m2 wn2 ly2) → fr pX2t w0 w → wP E w H → va_S (gA E) s.heap H locs → lv_has ls 8 [(6, .int (nI i9 - 9)), (5, .int ((cBs g mn kz kr i9).2)), (4, .int ((cBs g mn kz kr i9).1)), (3, .ref (A1 (6 + kz))), (0, .ref x), (1, .int (nI kz)), (2, .int (nI kr))] → W p l0 e rmCX1_bestSpeed s m args below meth c H locs (6 + 60 * i9) (24 + 200 * i9) Q (F0 m 44 ls []) := by
      intro n9_44
      induction n9_44 with
      | zero => intro i9 u2 m2 wn2 ly2 hi9 hn; exact absurd hn (Nat.not_lt_zero _)
      | succ n9_44 ih_44 =>
        intro i9 u2 m2 wn2 ly2 hi9 hn_44 w H locs ls hX hM hM2 hF hP hS hl
        refine lv_iload hx hb dX1_bestSpeed_44 (lv_at hl 0 rfl) ?_
        refine lv_bipush (v := 9) hx hb dX1_bestSpeed_46 (by decide) ?_
        refine lv_icmp_gt (tgt := 82) hx hb dX1_bestSpeed_48 (by decide) (fun c48 => ?_) (fun c48 => ?_)
        · skip
          have hi19 : i9 = 19 := by have := (sp_g9 (by omega)).mp c48; omega
          refine lv_iload hx hb dX1_bestSpeed_82 (lv_at hl 2 rfl) ?_
          exact kx_iret hx hb hr hlocks hQ hP hS (by omega) (by omega) dX1_bestSpeed_84 (⟨_, _, _, _, ⟨by rw [qBsp_ok hk9 hk8 ckz ckr c21], by rw [qBsp_ok hk9 hk8 ckz ckr c21, hi19, cBs_eq (gI_p0 hI hN9 hkz)]⟩, ⟨hM2, trivial⟩, hF⟩)
        · skip
          have hi18 : i9 ≤ 18 := Nat.le_of_not_lt (fun e9 => c48 ((sp_g9 (by omega)).mpr e9))
          refine lv_aload_n hx hb dX1_bestSpeed_51 rfl (lv_at hl 4 rfl) ?_
          refine lv_iload_n hx hb dX1_bestSpeed_52 rfl (lv_at hl 5 rfl) ?_
          refine lv_iload hx hb dX1_bestSpeed_53 (lv_at hl 0 rfl) ?_
          refine lv_iload_n hx hb dX1_bestSpeed_55 rfl (lv_at hl 6 rfl) ?_
          refine k_cV hx hb hml hown hts (CX1_pointsWith l0 E w x A1 A2 A3 d b hs ft rf ro g mn wn ly u2 m2 wn2 ly2 kz (nI i9 - 9) kr N hI hN9 (by omega) (sp_b9 (by omega)) (by omega) hX hM hM2) (cwV 3 hts (lw_V q1046 q1048 qs22 q69 q1049) rfl rfl rfl dyX1_pointsWith ⟨Nat.le_of_ble_eq_true rfl, Nat.le_of_ble_eq_true rfl⟩) hG hP hS hX rfl (As := [.int (nI kz), .int (nI i9 - 9), .int (nI kr)]) (rest := []) rfl hl.1 rfl (lv_room (Nat.le_of_ble_eq_true rfl)) dX1_bestSpeed_56 ⟨show (6 + 60 * i9) + 60 ≤ 1300 from by omega, show (24 + 200 * i9) + 200 ≤ 4200 from by omega⟩ (fun r56 w1 H locs hp hP hS => ?_)
          obtain ⟨wa9_1, la9_2, hp0, ⟨hM2', -⟩, hf9⟩ := hp
          have hX : w1 x = some ((94, 0), .inr (1, [.ref (A1 0), .ref (A2 0), .ref (A3 0), .int hs, .ref d, .ref b, .int ft, .int rf, .int ro])) := hf9 _ _ _ hX (by intro z9; first | (simp only [pO, pN, pD, pKp, pT, pB, pS, pR, pRd, pRo, Prod.mk.injEq, pX1, pX2, pXs, pX2t] at z9; done) | (simp only [pO, pN, pD, pKp, pT, pB, pS, pR, pRd, pRo, Prod.mk.injEq, pX1, pX2, pXs, pX2t] at z9; omega))
          have hM : townR E w1 1 A1 g mn wn ly := hM.frm hf9 (by intro z9; first | (simp only [pO, pN, pD, pKp, pT, pB, pS, pR, pRd, pRo, Prod.mk.injEq, pX1, pX2, pXs, pX2t] at z9; done) | (simp only [pO, pN, pD, pKp, pT, pB, pS, pR, pRd, pRo, Prod.mk.injEq, pX1, pX2, pXs, pX2t] at z9; omega)) (fun r9 => (by intro z9; first | (simp only [pO, pN, pD, pKp, pT, pB, pS, pR, pRd, pRo, Prod.mk.injEq, pX1, pX2, pXs, pX2t] at z9; done) | (simp only [pO, pN, pD, pKp, pT, pB, pS, pR, pRd, pRo, Prod.mk.injEq, pX1, pX2, pXs, pX2t] at z9; omega)))
          have hF : fr pX2t w0 w1 := hF.tr (hf9.up (fun _ h9 => h9))
          have hM2 : townR E w1 2 A2 (tRn (va_up g (kO kz 7) (nI i9 - 9)) mn kr) mn wa9_1 la9_2 := hM2'
          rw [hp0]
          show W p l0 e rmCX1_bestSpeed s m args below meth c H locs ((6 + 60 * i9) + 60) ((24 + 200 * i9) + 200) Q (F0 m 59 ls [.int (tRn (va_up g (kO kz 7) (nI i9 - 9)) mn kr (kO kz 8))])
          refine lv_istore (lv' := [(7, .int (tRn (va_up g (kO kz 7) (nI i9 - 9)) mn kr (kO kz 8))), (6, .int (nI i9 - 9)), (5, .int ((cBs g mn kz kr i9).2)), (4, .int ((cBs g mn kz kr i9).1)), (3, .ref (A1 (6 + kz))), (0, .ref x), (1, .int (nI kz)), (2, .int (nI kr))]) hx hb dX1_bestSpeed_59 hl (by decide) rfl (fun ls hl => ?_)
          refine lv_iload hx hb dX1_bestSpeed_61 (lv_at hl 0 rfl) ?_
          refine lv_iload hx hb dX1_bestSpeed_63 (lv_at hl 2 rfl) ?_
          refine lv_icmp_le (tgt := 76) hx hb dX1_bestSpeed_65 (by decide) (fun c65 => ?_) (fun c65 => ?_)
          · skip
            refine lv_iinc (v := ((nI i9 - 9) + 1)) (lv' := [(6, .int ((nI i9 - 9) + 1)), (7, .int (tRn (va_up g (kO kz 7) (nI i9 - 9)) mn kr (kO kz 8))), (5, .int ((cBs g mn kz kr i9).2)), (4, .int ((cBs g mn kz kr i9).1)), (3, .ref (A1 (6 + kz))), (0, .ref x), (1, .int (nI kz)), (2, .int (nI kr))]) hx hb dX1_bestSpeed_76 hl (k := 1) rfl rfl (by decide) rfl (fun ls hl => ?_)
            refine lv_goto (tgt := 44) hx hb dX1_bestSpeed_79 (by decide) ?_
            have hl := Eq.mp (congrArg (fun z9 => lv_has ls 8 [(6, .int z9), (7, .int (tRn (va_up g (kO kz 7) (nI i9 - 9)) mn kr (kO kz 8))), (5, .int ((cBs g mn kz kr i9).2)), (4, .int ((cBs g mn kz kr i9).1)), (3, .ref (A1 (6 + kz))), (0, .ref x), (1, .int (nI kz)), (2, .int (nI kr))]) (show ((nI i9 - 9) + 1) = (nI (i9 + 1) - 9) from sp_s9 i9)) hl
            have hl := Eq.mp (congrArg (fun z9 => lv_has ls 8 [(6, .int (nI (i9 + 1) - 9)), (7, .int (tRn (va_up g (kO kz 7) (nI i9 - 9)) mn kr (kO kz 8))), (5, .int z9), (4, .int ((cBs g mn kz kr i9).1)), (3, .ref (A1 (6 + kz))), (0, .ref x), (1, .int (nI kz)), (2, .int (nI kr))]) (show (cBs g mn kz kr i9).2 = (cBs g mn kz kr (i9 + 1)).2 from by rw [cBs_1 c65])) hl
            have hl := Eq.mp (congrArg (fun z9 => lv_has ls 8 [(6, .int (nI (i9 + 1) - 9)), (7, .int (tRn (va_up g (kO kz 7) (nI i9 - 9)) mn kr (kO kz 8))), (5, .int ((cBs g mn kz kr (i9 + 1)).2)), (4, .int z9), (3, .ref (A1 (6 + kz))), (0, .ref x), (1, .int (nI kz)), (2, .int (nI kr))]) (show (cBs g mn kz kr i9).1 = (cBs g mn kz kr (i9 + 1)).1 from by rw [cBs_1 c65])) hl
            have hl := lv_sub (l' := [(6, .int (nI (i9 + 1) - 9)), (5, .int ((cBs g mn kz kr (i9 + 1)).2)), (4, .int ((cBs g mn kz kr (i9 + 1)).1)), (3, .ref (A1 (6 + kz))), (0, .ref x), (1, .int (nI kz)), (2, .int (nI kr))]) hl [0, 2, 3, 4, 5, 6, 7] rfl
            refine W.widen (show ((6 + 60 * i9) + 60) ≤ (6 + 60 * (i9 + 1)) from by omega) (show ((24 + 200 * i9) + 200) ≤ (24 + 200 * (i9 + 1)) from by omega) ?_
            exact ih_44 (i9 + 1) (tRn (va_up g (kO kz 7) (nI i9 - 9)) mn kr) mn wa9_1 la9_2 (by omega) (by omega) _ _ _ _ hX hM hM2 hF hP hS hl
          · skip
            refine lv_iload hx hb dX1_bestSpeed_68 (lv_at hl 0 rfl) ?_
            refine lv_istore (lv' := [(5, .int (tRn (va_up g (kO kz 7) (nI i9 - 9)) mn kr (kO kz 8))), (7, .int (tRn (va_up g (kO kz 7) (nI i9 - 9)) mn kr (kO kz 8))), (6, .int (nI i9 - 9)), (4, .int ((cBs g mn kz kr i9).1)), (3, .ref (A1 (6 + kz))), (0, .ref x), (1, .int (nI kz)), (2, .int (nI kr))]) hx hb dX1_bestSpeed_70 hl (by decide) rfl (fun ls hl => ?_)
            refine lv_iload hx hb dX1_bestSpeed_72 (lv_at hl 2 rfl) ?_
            refine lv_istore (lv' := [(4, .int (nI i9 - 9)), (5, .int (tRn (va_up g (kO kz 7) (nI i9 - 9)) mn kr (kO kz 8))), (7, .int (tRn (va_up g (kO kz 7) (nI i9 - 9)) mn kr (kO kz 8))), (6, .int (nI i9 - 9)), (3, .ref (A1 (6 + kz))), (0, .ref x), (1, .int (nI kz)), (2, .int (nI kr))]) hx hb dX1_bestSpeed_74 hl (by decide) rfl (fun ls hl => ?_)
            refine lv_iinc (v := ((nI i9 - 9) + 1)) (lv' := [(6, .int ((nI i9 - 9) + 1)), (4, .int (nI i9 - 9)), (5, .int (tRn (va_up g (kO kz 7) (nI i9 - 9)) mn kr (kO kz 8))), (7, .int (tRn (va_up g (kO kz 7) (nI i9 - 9)) mn kr (kO kz 8))), (3, .ref (A1 (6 + kz))), (0, .ref x), (1, .int (nI kz)), (2, .int (nI kr))]) hx hb dX1_bestSpeed_76 hl (k := 3) rfl rfl (by decide) rfl (fun ls hl => ?_)
            refine lv_goto (tgt := 44) hx hb dX1_bestSpeed_79 (by decide) ?_
            have hl := Eq.mp (congrArg (fun z9 => lv_has ls 8 [(6, .int z9), (4, .int (nI i9 - 9)), (5, .int (tRn (va_up g (kO kz 7) (nI i9 - 9)) mn kr (kO kz 8))), (7, .int (tRn (va_up g (kO kz 7) (nI i9 - 9)) mn kr (kO kz 8))), (3, .ref (A1 (6 + kz))), (0, .ref x), (1, .int (nI kz)), (2, .int (nI kr))]) (show ((nI i9 - 9) + 1) = (nI (i9 + 1) - 9) from sp_s9 i9)) hl
            have hl := Eq.mp (congrArg (fun z9 => lv_has ls 8 [(6, .int (nI (i9 + 1) - 9)), (4, .int (nI i9 - 9)), (5, .int z9), (7, .int (tRn (va_up g (kO kz 7) (nI i9 - 9)) mn kr (kO kz 8))), (3, .ref (A1 (6 + kz))), (0, .ref x), (1, .int (nI kz)), (2, .int (nI kr))]) (show (tRn (va_up g (kO kz 7) (nI i9 - 9)) mn kr (kO kz 8)) = (cBs g mn kz kr (i9 + 1)).2 from by rw [cBs_2 c65])) hl
            have hl := Eq.mp (congrArg (fun z9 => lv_has ls 8 [(6, .int (nI (i9 + 1) - 9)), (4, .int z9), (5, .int ((cBs g mn kz kr (i9 + 1)).2)), (7, .int (tRn (va_up g (kO kz 7) (nI i9 - 9)) mn kr (kO kz 8))), (3, .ref (A1 (6 + kz))), (0, .ref x), (1, .int (nI kz)), (2, .int (nI kr))]) (show (nI i9 - 9) = (cBs g mn kz kr (i9 + 1)).1 from by rw [cBs_2 c65])) hl
            have hl := lv_sub (l' := [(6, .int (nI (i9 + 1) - 9)), (5, .int ((cBs g mn kz kr (i9 + 1)).2)), (4, .int ((cBs g mn kz kr (i9 + 1)).1)), (3, .ref (A1 (6 + kz))), (0, .ref x), (1, .int (nI kz)), (2, .int (nI kr))]) hl [0, 2, 1, 4, 5, 6, 7] rfl
            refine W.widen (show ((6 + 60 * i9) + 60) ≤ (6 + 60 * (i9 + 1)) from by omega) (show ((24 + 200 * i9) + 200) ≤ (24 + 200 * (i9 + 1)) from by omega) ?_
            exact ih_44 (i9 + 1) (tRn (va_up g (kO kz 7) (nI i9 - 9)) mn kr) mn wa9_1 la9_2 (by omega) (by omega) _ _ _ _ hX hM hM2 hF hP hS hl
    have hl := Eq.mp (congrArg (fun z9 => lv_has ls 8 [(6, .int z9), (5, .int (-1)), (4, .int (-9)), (3, .ref (A1 (6 + kz))), (0, .ref x), (1, .int (nI kz)), (2, .int (nI kr))]) (show (-9) = (nI 0 - 9) from by decide)) hl
    have hl := Eq.mp (congrArg (fun z9 => lv_has ls 8 [(6, .int (nI 0 - 9)), (5, .int z9), (4, .int (-9)), (3, .ref (A1 (6 + kz))), (0, .ref x), (1, .int (nI kz)), (2, .int (nI kr))]) (show (-1) = (cBs g mn kz kr 0).2 from rfl)) hl
    have hl := Eq.mp (congrArg (fun z9 => lv_has ls 8 [(6, .int (nI 0 - 9)), (5, .int ((cBs g mn kz kr 0).2)), (4, .int z9), (3, .ref (A1 (6 + kz))), (0, .ref x), (1, .int (nI kz)), (2, .int (nI kr))]) (show (-9) = (cBs g mn kz kr 0).1 from rfl)) hl
    have hl : lv_has ls 8 [(6, .int (nI 0 - 9)), (5, .int ((cBs g mn kz kr 0).2)), (4, .int ((cBs g mn kz kr 0).1)), (3, .ref (A1 (6 + kz))), (0, .ref x), (1, .int (nI kz)), (2, .int (nI kr))] := hl
    refine W.widen (show (((0 + 1) + 1) + 1) ≤ (6 + 60 * 0) from by omega) (show (((0 + 6) + 6) + 6) ≤ (24 + 200 * 0) from by omega) ?_
    exact hloop_44 _ 0 u2 m2 wb2 lb2 (by omega) (Nat.lt_succ_self _) _ _ _ _ hX hM hM2 hF hP hS hl
