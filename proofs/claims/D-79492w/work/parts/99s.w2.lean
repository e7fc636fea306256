/-! LAW, 5: calls that read, under their handlers -/
set_option maxRecDepth 100000
abbrev rmCX0_windOf : Room := { frames := 9, cells := 40, slots := 220, locals := 142 }
theorem dyX0_windOf : yX0_windOf.cls ≠ "java/lang/invoke/MethodHandle" ∧ yX0_windOf.cls ≠ "java/lang/invoke/VarHandle" ∧ (parseMethodDescriptor yX0_windOf.desc).map (fun d => d.parameters.length) = some 4 := by decide +kernel
set_option maxHeartbeats 4000000 in
theorem CX0_windOf (l0 : Launch) (hl0 : l0.stackTraces = false) (E : gE) (w : wd) (x : Nat) (o : Nat) (f : Nat → Int32) (a : Nat → Nat → Int32) (mn : Nat) (cn : Nat) (nb : Nat) (N : Nat) (v0 : Int64) (y : Int32) (zb : Bool) (hC : coS E w x N f a mn cn nb) (hO : lA E w o v0) : kX l0 yX0_windOf (wsW_ yX0_windOf cX0_windOf 5 (some .int) [(0, 10, 13, 13)]) rmCX0_windOf 40 220 mI E w [.ref x, .int y, .int (bI zb), .ref o] (fun r w' => ∃ v9 : Int64, (r = (qWof (a 0) y zb).1 ∧ ((qWof (a 0) y zb).1 = 0 → v9 = ((qWof (a 0) y zb).2).toInt64)) ∧ (lA E w' o v9 ∧ coS E w' x N f a mn cn nb ∧ True) ∧ fr pW w w') (fun _ _ _ => False) := by
  refine kx_openH (hh := [(0, 10, 13, 13)]) (cc := cX0_windOf) (maxL := 5) (ret := (some .int)) (by decide) rfl (Nat.le_of_ble_eq_true rfl) ?_
  intro p e s m args below meth c ls Q hx hb hr hml hown hts hlocks hname ht hQ hG hP hl hS
  have hl : lv_has ls 5 [(0, .ref x), (1, .int y), (2, .int (bI zb)), (3, .ref o)] := hl
  obtain ⟨w0, hw0⟩ : ∃ z, z = w := ⟨_, rfl⟩
  have hF : fr pW w0 w := by rw [hw0]; exact fr.rf
  rw [← hw0] at hQ
  have hC0 := hC
  obtain ⟨A1, A2, A3, d, b, wn, ly, I, mk, hX, ⟨hM, hI⟩, ⟨u2, m2, wb2, lb2, hM2⟩, ⟨u3, m3, wb3, lb3, hM3, hs3⟩, ⟨hK, hKI⟩, ⟨hSB, hcB⟩, ⟨hf9n, hf6, hf7, hf11⟩⟩ := hC0
  have hc8 := hK.le
  have hm6 := hM.m25
  refine lv_aload_n hx hb dX0_windOf_0 rfl (lv_at hl 3 rfl) ?_
  refine lv_iconst (v := 0) hx hb dX0_windOf_1 (by decide) ?_
  refine lv_aload_n hx hb dX0_windOf_2 rfl (lv_at hl 0 rfl) ?_
  refine lv_iload_n hx hb dX0_windOf_3 rfl (lv_at hl 1 rfl) ?_
  refine lv_iload_n hx hb dX0_windOf_4 rfl (lv_at hl 2 rfl) ?_
  refine kx_cVG hx hb hml hown hts (CX1_windOf l0 hl0 E w x A1 A2 A3 d b (f 5) (f 10) (f 11) (f 12) (a 0) mn wn ly y zb hX hM) (cwV 2 hts (lw_V q599 q600 q601 q69 q602) rfl rfl rfl dyX1_windOf ⟨Nat.le_of_ble_eq_true rfl, Nat.le_of_ble_eq_true rfl⟩) hG hP hS hX rfl (As := [.int y, .int (bI zb)]) (rest := [.int 0, .ref o]) rfl hl.1 rfl (lv_room (Nat.le_of_ble_eq_true rfl)) dX0_windOf_5 ⟨show 0 + 1 ≤ 40 from by omega, show 0 + 6 ≤ 220 from by omega⟩ (fun X9 ce9 q9 w9 H locs hp hP hS hcell hcv hcl => ?_) (fun r9 w9 H locs hp hP hS => ?_)
  · skip
    obtain ⟨hm, hw9⟩ := hp
    rw [hw9] at hP
    simp only [List.mem_cons, List.not_mem_nil, or_false, Prod.mk.injEq] at hm
    obtain ⟨hX9, hq⟩ := hm
    subst hX9
    refine vx_catch (own := "KiteRoofsLaw") (name := "java/lang/IndexOutOfBoundsException") hown [] ⟨0, 10, 13, 13⟩ [] (by rw [ht]; rfl) (fun z hz => nomatch hz) (by decide) (by decide) (hts _ q365) (va_Nw.use rfl (hG.2.1.1 _ q461 rfl)) hcell hcv hcl ?_
    show W p l0 e rmCX0_windOf s m args below meth c H locs (0 + 1) (0 + 6) Q (F0 m 13 ls [.ref q9])
    refine lv_astore (lv' := [(4, .ref q9), (0, .ref x), (1, .int y), (2, .int (bI zb)), (3, .ref o)]) hx hb dX0_windOf_13 hl (by decide) rfl (fun ls hl => ?_)
    refine lv_iconst (v := 1) hx hb dX0_windOf_15 (by decide) ?_
    exact kx_iret hx hb hr hlocks hQ hP hS (by omega) (by omega) dX0_windOf_16 (⟨v0, ⟨hq.symm, fun e9 => absurd (hq.symm.trans e9) (by decide)⟩, ⟨hO, hC, trivial⟩, hF⟩)
  obtain ⟨hp1, hp0⟩ := hp
  rw [hp1] at hP
  obtain ⟨hq0, hq1⟩ := hp0
  show W p l0 e rmCX0_windOf s m args below meth c H locs (0 + 1) (0 + 6) Q (F0 m 8 ls [.int r9, .int 0, .ref o])
  refine lv_i2l hx hb dX0_windOf_8 rfl ?_
  refine k_last hx hb hG hP hS hO dX0_windOf_9 (fun w1 H locs h9 hf9 hP hS => ?_)
  have hO : lA E w1 o ((r9).toInt64) := h9
  have hC : coS E w1 x N f a mn cn nb := hC.fr hf9 (fun t9 h9 => by simp only [pO] at h9; subst h9; decide)
  have hX : w1 x = some ((94, 0), .inr (1, [.ref (A1 0), .ref (A2 0), .ref (A3 0), .int (f 5), .ref d, .ref b, .int (f 10), .int (f 11), .int (f 12)])) := hf9 _ _ _ hX (by intro z9; first | (simp only [pO, pN, pD, pKp, pT, pB, pBs, pS, pR, pX1, pX2, pXs, pX2t, pX9, Prod.mk.injEq] at z9; done) | (simp only [pO, pN, pD, pKp, pT, pB, pBs, pS, pR, pX1, pX2, pXs, pX2t, pX9, Prod.mk.injEq] at z9; omega))
  have hM : townR E w1 1 A1 (a 0) mn wn ly := hM.frm hf9 (by intro z9; first | (simp only [pO, pN, pD, pKp, pT, pB, pBs, pS, pR, pRd, pRo, Prod.mk.injEq, pX1, pX2, pXs, pX2t] at z9; done) | (simp only [pO, pN, pD, pKp, pT, pB, pBs, pS, pR, pRd, pRo, Prod.mk.injEq, pX1, pX2, pXs, pX2t] at z9; omega)) (fun r9 => (by intro z9; first | (simp only [pO, pN, pD, pKp, pT, pB, pBs, pS, pR, pRd, pRo, Prod.mk.injEq, pX1, pX2, pXs, pX2t] at z9; done) | (simp only [pO, pN, pD, pKp, pT, pB, pBs, pS, pR, pRd, pRo, Prod.mk.injEq, pX1, pX2, pXs, pX2t] at z9; omega)))
  have hM2 : townR E w1 2 A2 u2 m2 wb2 lb2 := hM2.frm hf9 (by intro z9; first | (simp only [pO, pN, pD, pKp, pT, pB, pBs, pS, pR, pRd, pRo, Prod.mk.injEq, pX1, pX2, pXs, pX2t] at z9; done) | (simp only [pO, pN, pD, pKp, pT, pB, pBs, pS, pR, pRd, pRo, Prod.mk.injEq, pX1, pX2, pXs, pX2t] at z9; omega)) (fun r9 => (by intro z9; first | (simp only [pO, pN, pD, pKp, pT, pB, pBs, pS, pR, pRd, pRo, Prod.mk.injEq, pX1, pX2, pXs, pX2t] at z9; done) | (simp only [pO, pN, pD, pKp, pT, pB, pBs, pS, pR, pRd, pRo, Prod.mk.injEq, pX1, pX2, pXs, pX2t] at z9; omega)))
  have hM3 : townR E w1 3 A3 u3 m3 wb3 lb3 := hM3.frm hf9 (by intro z9; first | (simp only [pO, pN, pD, pKp, pT, pB, pBs, pS, pR, pRd, pRo, Prod.mk.injEq, pX1, pX2, pXs, pX2t] at z9; done) | (simp only [pO, pN, pD, pKp, pT, pB, pBs, pS, pR, pRd, pRo, Prod.mk.injEq, pX1, pX2, pXs, pX2t] at z9; omega)) (fun r9 => (by intro z9; first | (simp only [pO, pN, pD, pKp, pT, pB, pBs, pS, pR, pRd, pRo, Prod.mk.injEq, pX1, pX2, pXs, pX2t] at z9; done) | (simp only [pO, pN, pD, pKp, pT, pB, pBs, pS, pR, pRd, pRo, Prod.mk.injEq, pX1, pX2, pXs, pX2t] at z9; omega)))
  have hK : kpR E w1 d cn I (kRw a) mk := hK.fr hf9 (by intro z9; first | (simp only [pO, pN, pD, pKp, pT, pB, pBs, pS, pR, pRd, pRo, Prod.mk.injEq, pX1, pX2, pXs, pX2t] at z9; done) | (simp only [pO, pN, pD, pKp, pT, pB, pBs, pS, pR, pRd, pRo, Prod.mk.injEq, pX1, pX2, pXs, pX2t] at z9; omega)) (fun i9 r9 h7 h8 => (by intro z9; first | (simp only [pO, pN, pD, pKp, pT, pB, pBs, pS, pR, pRd, pRo, Prod.mk.injEq, pX1, pX2, pXs, pX2t] at z9; done) | (simp only [pO, pN, pD, pKp, pT, pB, pBs, pS, pR, pRd, pRo, Prod.mk.injEq, pX1, pX2, pXs, pX2t] at z9; omega)))
  have hSB : sbR E w1 b (a 8) nb := hSB.fr hf9 (by intro z9; first | (simp only [pO, pN, pD, pKp, pT, pB, pBs, pS, pR, pRd, pRo, Prod.mk.injEq, pX1, pX2, pXs, pX2t] at z9; done) | (simp only [pO, pN, pD, pKp, pT, pB, pBs, pS, pR, pRd, pRo, Prod.mk.injEq, pX1, pX2, pXs, pX2t] at z9; omega)) (by intro z9; first | (simp only [pO, pN, pD, pKp, pT, pB, pBs, pS, pR, pRd, pRo, Prod.mk.injEq, pX1, pX2, pXs, pX2t] at z9; done) | (simp only [pO, pN, pD, pKp, pT, pB, pBs, pS, pR, pRd, pRo, Prod.mk.injEq, pX1, pX2, pXs, pX2t] at z9; omega))
  have hF : fr pW w0 w1 := hF.tr (hf9.up (fun t9 h9 => by simp only [pO, pN, pD, pKp, pT, pB, pBs, pS, pR, pX1, pX2, pXs, pX2t, pX9, pW, pWd] at h9 ⊢; first | (subst h9; simp; done) | (subst h9; omega) | omega | (rcases h9 with h9 | h9 <;> first | (subst h9; simp; done) | (subst h9; omega) | omega)))
  refine lv_goto (tgt := 17) hx hb dX0_windOf_10 (by decide) ?_
  refine lv_iconst (v := 0) hx hb dX0_windOf_17 (by decide) ?_
  exact kx_iret hx hb hr hlocks hQ hP hS (by omega) (by omega) dX0_windOf_18 (⟨((r9).toInt64), ⟨hq0.symm, fun _ => by rw [hq1]⟩, ⟨hO, hC, trivial⟩, hF⟩)

abbrev rmCX0_kiteOf : Room := { frames := 10, cells := 40, slots := 220, locals := 164 }
theorem dyX0_kiteOf : yX0_kiteOf.cls ≠ "java/lang/invoke/MethodHandle" ∧ yX0_kiteOf.cls ≠ "java/lang/invoke/VarHandle" ∧ (parseMethodDescriptor yX0_kiteOf.desc).map (fun d => d.parameters.length) = some 4 := by decide +kernel
set_option maxHeartbeats 4000000 in
theorem CX0_kiteOf (l0 : Launch) (hl0 : l0.stackTraces = false) (E : gE) (w : wd) (x : Nat) (o : Nat) (f : Nat → Int32) (a : Nat → Nat → Int32) (mn : Nat) (cn : Nat) (nb : Nat) (N : Nat) (v0 : Int64) (y : Int32) (z : Int32) (hC : coS E w x N f a mn cn nb) (hO : lA E w o v0) : kX l0 yX0_kiteOf (wsW_ yX0_kiteOf cX0_kiteOf 5 (some .int) [(0, 10, 13, 13), (0, 10, 17, 15)]) rmCX0_kiteOf 40 220 mI E w [.ref x, .int y, .int z, .ref o] (fun r w' => ∃ v9 : Int64, (r = (qKof (a 0) y z).1 ∧ ((qKof (a 0) y z).1 = 0 → v9 = ((qKof (a 0) y z).2).toInt64)) ∧ (lA E w' o v9 ∧ coS E w' x N f a mn cn nb ∧ True) ∧ fr pW w w') (fun _ _ _ => False) := by
  refine kx_openH (hh := [(0, 10, 13, 13), (0, 10, 17, 15)]) (cc := cX0_kiteOf) (maxL := 5) (ret := (some .int)) (by decide) rfl (Nat.le_of_ble_eq_true rfl) ?_
  intro p e s m args below meth c ls Q hx hb hr hml hown hts hlocks hname ht hQ hG hP hl hS
  have hl : lv_has ls 5 [(0, .ref x), (1, .int y), (2, .int z), (3, .ref o)] := hl
  obtain ⟨w0, hw0⟩ : ∃ z, z = w := ⟨_, rfl⟩
  have hF : fr pW w0 w := by rw [hw0]; exact fr.rf
  rw [← hw0] at hQ
  have hC0 := hC
  obtain ⟨A1, A2, A3, d, b, wn, ly, I, mk, hX, ⟨hM, hI⟩, ⟨u2, m2, wb2, lb2, hM2⟩, ⟨u3, m3, wb3, lb3, hM3, hs3⟩, ⟨hK, hKI⟩, ⟨hSB, hcB⟩, ⟨hf9n, hf6, hf7, hf11⟩⟩ := hC0
  have hc8 := hK.le
  have hm6 := hM.m25
  refine lv_aload_n hx hb dX0_kiteOf_0 rfl (lv_at hl 3 rfl) ?_
  refine lv_iconst (v := 0) hx hb dX0_kiteOf_1 (by decide) ?_
  refine lv_aload_n hx hb dX0_kiteOf_2 rfl (lv_at hl 0 rfl) ?_
  refine lv_iload_n hx hb dX0_kiteOf_3 rfl (lv_at hl 1 rfl) ?_
  refine lv_iload_n hx hb dX0_kiteOf_4 rfl (lv_at hl 2 rfl) ?_
  refine kx_cVG hx hb hml hown hts (CX1_kiteOf l0 hl0 E w x A1 A2 A3 d b (f 5) (f 10) (f 11) (f 12) (a 0) mn wn ly y z N hI hX hM) (cwV 2 hts (lw_V q780 q781 q782 q69 q783) rfl rfl rfl dyX1_kiteOf ⟨Nat.le_of_ble_eq_true rfl, Nat.le_of_ble_eq_true rfl⟩) hG hP hS hX rfl (As := [.int y, .int z]) (rest := [.int 0, .ref o]) rfl hl.1 rfl (lv_room (Nat.le_of_ble_eq_true rfl)) dX0_kiteOf_5 ⟨show 0 + 3 ≤ 40 from by omega, show 0 + 20 ≤ 220 from by omega⟩ (fun X9 ce9 q9 w9 H locs hp hP hS hcell hcv hcl => ?_) (fun r9 w9 H locs hp hP hS => ?_)
  · skip
    obtain ⟨hm, hw9⟩ := hp
    rw [hw9] at hP
    simp only [List.mem_cons, List.not_mem_nil, or_false, Prod.mk.injEq] at hm
    rcases hm with ⟨hX9, hq⟩ | ⟨hX9, hq⟩
    · skip
      subst hX9
      refine vx_catch (own := "KiteRoofsLaw") (name := "java/lang/IndexOutOfBoundsException") hown [] ⟨0, 10, 13, 13⟩ [⟨0, 10, 17, 15⟩] (by rw [ht]; rfl) (fun z hz => nomatch hz) (by decide) (by decide) (hts _ q365) (va_Nw.use rfl (hG.2.1.1 _ q461 rfl)) hcell hcv hcl ?_
      show W p l0 e rmCX0_kiteOf s m args below meth c H locs (0 + 3) (0 + 20) Q (F0 m 13 ls [.ref q9])
      refine lv_astore (lv' := [(4, .ref q9), (0, .ref x), (1, .int y), (2, .int z), (3, .ref o)]) hx hb dX0_kiteOf_13 hl (by decide) rfl (fun ls hl => ?_)
      refine lv_iconst (v := 1) hx hb dX0_kiteOf_15 (by decide) ?_
      exact kx_iret hx hb hr hlocks hQ hP hS (by omega) (by omega) dX0_kiteOf_16 (⟨v0, ⟨hq.symm, fun e9 => absurd (hq.symm.trans e9) (by decide)⟩, ⟨hO, hC, trivial⟩, hF⟩)
    · skip
      subst hX9
      refine vx_catch (own := "KiteRoofsLaw") (name := "java/lang/IllegalArgumentException") hown [⟨0, 10, 13, 13⟩] ⟨0, 10, 17, 15⟩ [] (by rw [ht]; rfl) (by intro z hz; simp only [List.mem_cons, List.not_mem_nil, or_false] at hz; rcases hz with rfl; exact Or.inr ⟨by decide, _, hts _ q365, hG.2.1.2.1 (RJ12, RJ10) (List.mem_of_getElem? (i := 26) rfl)⟩) (by decide) (by decide) (hts _ q445) (va_Nw.use rfl (hG.2.1.1 _ q488 rfl)) hcell hcv hcl ?_
      show W p l0 e rmCX0_kiteOf s m args below meth c H locs (0 + 3) (0 + 20) Q (F0 m 17 ls [.ref q9])
      refine lv_astore (lv' := [(4, .ref q9), (0, .ref x), (1, .int y), (2, .int z), (3, .ref o)]) hx hb dX0_kiteOf_17 hl (by decide) rfl (fun ls hl => ?_)
      refine lv_iconst (v := 2) hx hb dX0_kiteOf_19 (by decide) ?_
      exact kx_iret hx hb hr hlocks hQ hP hS (by omega) (by omega) dX0_kiteOf_20 (⟨v0, ⟨hq.symm, fun e9 => absurd (hq.symm.trans e9) (by decide)⟩, ⟨hO, hC, trivial⟩, hF⟩)
  obtain ⟨hp1, hp0⟩ := hp
  rw [hp1] at hP
  obtain ⟨hq0, hq1⟩ := hp0
  show W p l0 e rmCX0_kiteOf s m args below meth c H locs (0 + 3) (0 + 20) Q (F0 m 8 ls [.int r9, .int 0, .ref o])
  refine lv_i2l hx hb dX0_kiteOf_8 rfl ?_
  refine k_last hx hb hG hP hS hO dX0_kiteOf_9 (fun w1 H locs h9 hf9 hP hS => ?_)
  have hO : lA E w1 o ((r9).toInt64) := h9
  have hC : coS E w1 x N f a mn cn nb := hC.fr hf9 (fun t9 h9 => by simp only [pO] at h9; subst h9; decide)
  have hX : w1 x = some ((94, 0), .inr (1, [.ref (A1 0), .ref (A2 0), .ref (A3 0), .int (f 5), .ref d, .ref b, .int (f 10), .int (f 11), .int (f 12)])) := hf9 _ _ _ hX (by intro z9; first | (simp only [pO, pN, pD, pKp, pT, pB, pBs, pS, pR, pX1, pX2, pXs, pX2t, pX9, Prod.mk.injEq] at z9; done) | (simp only [pO, pN, pD, pKp, pT, pB, pBs, pS, pR, pX1, pX2, pXs, pX2t, pX9, Prod.mk.injEq] at z9; omega))
  have hM : townR E w1 1 A1 (a 0) mn wn ly := hM.frm hf9 (by intro z9; first | (simp only [pO, pN, pD, pKp, pT, pB, pBs, pS, pR, pRd, pRo, Prod.mk.injEq, pX1, pX2, pXs, pX2t] at z9; done) | (simp only [pO, pN, pD, pKp, pT, pB, pBs, pS, pR, pRd, pRo, Prod.mk.injEq, pX1, pX2, pXs, pX2t] at z9; omega)) (fun r9 => (by intro z9; first | (simp only [pO, pN, pD, pKp, pT, pB, pBs, pS, pR, pRd, pRo, Prod.mk.injEq, pX1, pX2, pXs, pX2t] at z9; done) | (simp only [pO, pN, pD, pKp, pT, pB, pBs, pS, pR, pRd, pRo, Prod.mk.injEq, pX1, pX2, pXs, pX2t] at z9; omega)))
  have hM2 : townR E w1 2 A2 u2 m2 wb2 lb2 := hM2.frm hf9 (by intro z9; first | (simp only [pO, pN, pD, pKp, pT, pB, pBs, pS, pR, pRd, pRo, Prod.mk.injEq, pX1, pX2, pXs, pX2t] at z9; done) | (simp only [pO, pN, pD, pKp, pT, pB, pBs, pS, pR, pRd, pRo, Prod.mk.injEq, pX1, pX2, pXs, pX2t] at z9; omega)) (fun r9 => (by intro z9; first | (simp only [pO, pN, pD, pKp, pT, pB, pBs, pS, pR, pRd, pRo, Prod.mk.injEq, pX1, pX2, pXs, pX2t] at z9; done) | (simp only [pO, pN, pD, pKp, pT, pB, pBs, pS, pR, pRd, pRo, Prod.mk.injEq, pX1, pX2, pXs, pX2t] at z9; omega)))
  have hM3 : townR E w1 3 A3 u3 m3 wb3 lb3 := hM3.frm hf9 (by intro z9; first | (simp only [pO, pN, pD, pKp, pT, pB, pBs, pS, pR, pRd, pRo, Prod.mk.injEq, pX1, pX2, pXs, pX2t] at z9; done) | (simp only [pO, pN, pD, pKp, pT, pB, pBs, pS, pR, pRd, pRo, Prod.mk.injEq, pX1, pX2, pXs, pX2t] at z9; omega)) (fun r9 => (by intro z9; first | (simp only [pO, pN, pD, pKp, pT, pB, pBs, pS, pR, pRd, pRo, Prod.mk.injEq, pX1, pX2, pXs, pX2t] at z9; done) | (simp only [pO, pN, pD, pKp, pT, pB, pBs, pS, pR, pRd, pRo, Prod.mk.injEq, pX1, pX2, pXs, pX2t] at z9; omega)))
  have hK : kpR E w1 d cn I (kRw a) mk := hK.fr hf9 (by intro z9; first | (simp only [pO, pN, pD, pKp, pT, pB, pBs, pS, pR, pRd, pRo, Prod.mk.injEq, pX1, pX2, pXs, pX2t] at z9; done) | (simp only [pO, pN, pD, pKp, pT, pB, pBs, pS, pR, pRd, pRo, Prod.mk.injEq, pX1, pX2, pXs, pX2t] at z9; omega)) (fun i9 r9 h7 h8 => (by intro z9; first | (simp only [pO, pN, pD, pKp, pT, pB, pBs, pS, pR, pRd, pRo, Prod.mk.injEq, pX1, pX2, pXs, pX2t] at z9; done) | (simp only [pO, pN, pD, pKp, pT, pB, pBs, pS, pR, pRd, pRo, Prod.mk.injEq, pX1, pX2, pXs, pX2t] at z9; omega)))
  have hSB : sbR E w1 b (a 8) nb := hSB.fr hf9 (by intro z9; first | (simp only [pO, pN, pD, pKp, pT, pB, pBs, pS, pR, pRd, pRo, Prod.mk.injEq, pX1, pX2, pXs, pX2t] at z9; done) | (simp only [pO, pN, pD, pKp, pT, pB, pBs, pS, pR, pRd, pRo, Prod.mk.injEq, pX1, pX2, pXs, pX2t] at z9; omega)) (by intro z9; first | (simp only [pO, pN, pD, pKp, pT, pB, pBs, pS, pR, pRd, pRo, Prod.mk.injEq, pX1, pX2, pXs, pX2t] at z9; done) | (simp only [pO, pN, pD, pKp, pT, pB, pBs, pS, pR, pRd, pRo, Prod.mk.injEq, pX1, pX2, pXs, pX2t] at z9; omega))
  have hF : fr pW w0 w1 := hF.tr (hf9.up (fun t9 h9 => by simp only [pO, pN, pD, pKp, pT, pB, pBs, pS, pR, pX1, pX2, pXs, pX2t, pX9, pW, pWd] at h9 ⊢; first | (subst h9; simp; done) | (subst h9; omega) | omega | (rcases h9 with h9 | h9 <;> first | (subst h9; simp; done) | (subst h9; omega) | omega)))
  refine lv_goto (tgt := 21) hx hb dX0_kiteOf_10 (by decide) ?_
  refine lv_iconst (v := 0) hx hb dX0_kiteOf_21 (by decide) ?_
  exact kx_iret hx hb hr hlocks hQ hP hS (by omega) (by omega) dX0_kiteOf_22 (⟨((r9).toInt64), ⟨hq0.symm, fun _ => by rw [hq1]⟩, ⟨hO, hC, trivial⟩, hF⟩)

abbrev rmCX0_state : Room := { frames := 10, cells := 40, slots := 220, locals := 162 }
theorem dyX0_state : yX0_state.cls ≠ "java/lang/invoke/MethodHandle" ∧ yX0_state.cls ≠ "java/lang/invoke/VarHandle" ∧ (parseMethodDescriptor yX0_state.desc).map (fun d => d.parameters.length) = some 3 := by decide +kernel
set_option maxHeartbeats 4000000 in
theorem CX0_state (l0 : Launch) (hl0 : l0.stackTraces = false) (E : gE) (w : wd) (x : Nat) (o : Nat) (f : Nat → Int32) (a : Nat → Nat → Int32) (mn : Nat) (cn : Nat) (nb : Nat) (N : Nat) (v0 : Int64) (y : Int32) (hC : coS E w x N f a mn cn nb) (hO : lA E w o v0) : kX l0 yX0_state (wsW_ yX0_state cX0_state 4 (some .int) [(0, 9, 12, 13)]) rmCX0_state 40 220 mI E w [.ref x, .int y, .ref o] (fun r w' => ∃ v9 : Int64, (r = (qSta (a 0) y).1 ∧ ((qSta (a 0) y).1 = 0 → v9 = ((qSta (a 0) y).2).toInt64)) ∧ (lA E w' o v9 ∧ coS E w' x N f a mn cn nb ∧ True) ∧ fr pW w w') (fun _ _ _ => False) := by
  refine kx_openH (hh := [(0, 9, 12, 13)]) (cc := cX0_state) (maxL := 4) (ret := (some .int)) (by decide) rfl (Nat.le_of_ble_eq_true rfl) ?_
  intro p e s m args below meth c ls Q hx hb hr hml hown hts hlocks hname ht hQ hG hP hl hS
  have hl : lv_has ls 4 [(0, .ref x), (1, .int y), (2, .ref o)] := hl
  obtain ⟨w0, hw0⟩ : ∃ z, z = w := ⟨_, rfl⟩
  have hF : fr pW w0 w := by rw [hw0]; exact fr.rf
  rw [← hw0] at hQ
  have hC0 := hC
  obtain ⟨A1, A2, A3, d, b, wn, ly, I, mk, hX, ⟨hM, hI⟩, ⟨u2, m2, wb2, lb2, hM2⟩, ⟨u3, m3, wb3, lb3, hM3, hs3⟩, ⟨hK, hKI⟩, ⟨hSB, hcB⟩, ⟨hf9n, hf6, hf7, hf11⟩⟩ := hC0
  have hc8 := hK.le
  have hm6 := hM.m25
  refine lv_aload_n hx hb dX0_state_0 rfl (lv_at hl 2 rfl) ?_
  refine lv_iconst (v := 0) hx hb dX0_state_1 (by decide) ?_
  refine lv_aload_n hx hb dX0_state_2 rfl (lv_at hl 0 rfl) ?_
  refine lv_iload_n hx hb dX0_state_3 rfl (lv_at hl 1 rfl) ?_
  refine kx_cVG hx hb hml hown hts (CX1_state l0 hl0 E w x A1 A2 A3 d b (f 5) (f 10) (f 11) (f 12) (a 0) mn wn ly y hX hM) (cwV 1 hts (lw_V q859 q860 q861 q69 q862) rfl rfl rfl dyX1_state ⟨Nat.le_of_ble_eq_true rfl, Nat.le_of_ble_eq_true rfl⟩) hG hP hS hX rfl (As := [.int y]) (rest := [.int 0, .ref o]) rfl hl.1 rfl (lv_room (Nat.le_of_ble_eq_true rfl)) dX0_state_4 ⟨show 0 + 3 ≤ 40 from by omega, show 0 + 20 ≤ 220 from by omega⟩ (fun X9 ce9 q9 w9 H locs hp hP hS hcell hcv hcl => ?_) (fun r9 w9 H locs hp hP hS => ?_)
  · skip
    obtain ⟨hm, hw9⟩ := hp
    rw [hw9] at hP
    simp only [List.mem_cons, List.not_mem_nil, or_false, Prod.mk.injEq] at hm
    obtain ⟨hX9, hq⟩ := hm
    subst hX9
    refine vx_catch (own := "KiteRoofsLaw") (name := "java/lang/IndexOutOfBoundsException") hown [] ⟨0, 9, 12, 13⟩ [] (by rw [ht]; rfl) (fun z hz => nomatch hz) (by decide) (by decide) (hts _ q365) (va_Nw.use rfl (hG.2.1.1 _ q461 rfl)) hcell hcv hcl ?_
    show W p l0 e rmCX0_state s m args below meth c H locs (0 + 3) (0 + 20) Q (F0 m 12 ls [.ref q9])
    refine lv_astore_n (lv' := [(3, .ref q9), (0, .ref x), (1, .int y), (2, .ref o)]) hx hb dX0_state_12 rfl hl (by decide) rfl (fun ls hl => ?_)
    refine lv_iconst (v := 1) hx hb dX0_state_13 (by decide) ?_
    exact kx_iret hx hb hr hlocks hQ hP hS (by omega) (by omega) dX0_state_14 (⟨v0, ⟨hq.symm, fun e9 => absurd (hq.symm.trans e9) (by decide)⟩, ⟨hO, hC, trivial⟩, hF⟩)
  obtain ⟨hp1, hp0⟩ := hp
  rw [hp1] at hP
  obtain ⟨hq0, hq1⟩ := hp0
  show W p l0 e rmCX0_state s m args below meth c H locs (0 + 3) (0 + 20) Q (F0 m 7 ls [.int r9, .int 0, .ref o])
  refine lv_i2l hx hb dX0_state_7 rfl ?_
  refine k_last hx hb hG hP hS hO dX0_state_8 (fun w1 H locs h9 hf9 hP hS => ?_)
  have hO : lA E w1 o ((r9).toInt64) := h9
  have hC : coS E w1 x N f a mn cn nb := hC.fr hf9 (fun t9 h9 => by simp only [pO] at h9; subst h9; decide)
  have hX : w1 x = some ((94, 0), .inr (1, [.ref (A1 0), .ref (A2 0), .ref (A3 0), .int (f 5), .ref d, .ref b, .int (f 10), .int (f 11), .int (f 12)])) := hf9 _ _ _ hX (by intro z9; first | (simp only [pO, pN, pD, pKp, pT, pB, pBs, pS, pR, pX1, pX2, pXs, pX2t, pX9, Prod.mk.injEq] at z9; done) | (simp only [pO, pN, pD, pKp, pT, pB, pBs, pS, pR, pX1, pX2, pXs, pX2t, pX9, Prod.mk.injEq] at z9; omega))
  have hM : townR E w1 1 A1 (a 0) mn wn ly := hM.frm hf9 (by intro z9; first | (simp only [pO, pN, pD, pKp, pT, pB, pBs, pS, pR, pRd, pRo, Prod.mk.injEq, pX1, pX2, pXs, pX2t] at z9; done) | (simp only [pO, pN, pD, pKp, pT, pB, pBs, pS, pR, pRd, pRo, Prod.mk.injEq, pX1, pX2, pXs, pX2t] at z9; omega)) (fun r9 => (by intro z9; first | (simp only [pO, pN, pD, pKp, pT, pB, pBs, pS, pR, pRd, pRo, Prod.mk.injEq, pX1, pX2, pXs, pX2t] at z9; done) | (simp only [pO, pN, pD, pKp, pT, pB, pBs, pS, pR, pRd, pRo, Prod.mk.injEq, pX1, pX2, pXs, pX2t] at z9; omega)))
  have hM2 : townR E w1 2 A2 u2 m2 wb2 lb2 := hM2.frm hf9 (by intro z9; first | (simp only [pO, pN, pD, pKp, pT, pB, pBs, pS, pR, pRd, pRo, Prod.mk.injEq, pX1, pX2, pXs, pX2t] at z9; done) | (simp only [pO, pN, pD, pKp, pT, pB, pBs, pS, pR, pRd, pRo, Prod.mk.injEq, pX1, pX2, pXs, pX2t] at z9; omega)) (fun r9 => (by intro z9; first | (simp only [pO, pN, pD, pKp, pT, pB, pBs, pS, pR, pRd, pRo, Prod.mk.injEq, pX1, pX2, pXs, pX2t] at z9; done) | (simp only [pO, pN, pD, pKp, pT, pB, pBs, pS, pR, pRd, pRo, Prod.mk.injEq, pX1, pX2, pXs, pX2t] at z9; omega)))
  have hM3 : townR E w1 3 A3 u3 m3 wb3 lb3 := hM3.frm hf9 (by intro z9; first | (simp only [pO, pN, pD, pKp, pT, pB, pBs, pS, pR, pRd, pRo, Prod.mk.injEq, pX1, pX2, pXs, pX2t] at z9; done) | (simp only [pO, pN, pD, pKp, pT, pB, pBs, pS, pR, pRd, pRo, Prod.mk.injEq, pX1, pX2, pXs, pX2t] at z9; omega)) (fun r9 => (by intro z9; first | (simp only [pO, pN, pD, pKp, pT, pB, pBs, pS, pR, pRd, pRo, Prod.mk.injEq, pX1, pX2, pXs, pX2t] at z9; done) | (simp only [pO, pN, pD, pKp, pT, pB, pBs, pS, pR, pRd, pRo, Prod.mk.injEq, pX1, pX2, pXs, pX2t] at z9; omega)))
  have hK : kpR E w1 d cn I (kRw a) mk := hK.fr hf9 (by intro z9; first | (simp only [pO, pN, pD, pKp, pT, pB, pBs, pS, pR, pRd, pRo, Prod.mk.injEq, pX1, pX2, pXs, pX2t] at z9; done) | (simp only [pO, pN, pD, pKp, pT, pB, pBs, pS, pR, pRd, pRo, Prod.mk.injEq, pX1, pX2, pXs, pX2t] at z9; omega)) (fun i9 r9 h7 h8 => (by intro z9; first | (simp only [pO, pN, pD, pKp, pT, pB, pBs, pS, pR, pRd, pRo, Prod.mk.injEq, pX1, pX2, pXs, pX2t] at z9; done) | (simp only [pO, pN, pD, pKp, pT, pB, pBs, pS, pR, pRd, pRo, Prod.mk.injEq, pX1, pX2, pXs, pX2t] at z9; omega)))
  have hSB : sbR E w1 b (a 8) nb := hSB.fr hf9 (by intro z9; first | (simp only [pO, pN, pD, pKp, pT, pB, pBs, pS, pR, pRd, pRo, Prod.mk.injEq, pX1, pX2, pXs, pX2t] at z9; done) | (simp only [pO, pN, pD, pKp, pT, pB, pBs, pS, pR, pRd, pRo, Prod.mk.injEq, pX1, pX2, pXs, pX2t] at z9; omega)) (by intro z9; first | (simp only [pO, pN, pD, pKp, pT, pB, pBs, pS, pR, pRd, pRo, Prod.mk.injEq, pX1, pX2, pXs, pX2t] at z9; done) | (simp only [pO, pN, pD, pKp, pT, pB, pBs, pS, pR, pRd, pRo, Prod.mk.injEq, pX1, pX2, pXs, pX2t] at z9; omega))
  have hF : fr pW w0 w1 := hF.tr (hf9.up (fun t9 h9 => by simp only [pO, pN, pD, pKp, pT, pB, pBs, pS, pR, pX1, pX2, pXs, pX2t, pX9, pW, pWd] at h9 ⊢; first | (subst h9; simp; done) | (subst h9; omega) | omega | (rcases h9 with h9 | h9 <;> first | (subst h9; simp; done) | (subst h9; omega) | omega)))
  refine lv_goto (tgt := 15) hx hb dX0_state_9 (by decide) ?_
  refine lv_iconst (v := 0) hx hb dX0_state_15 (by decide) ?_
  exact kx_iret hx hb hr hlocks hQ hP hS (by omega) (by omega) dX0_state_16 (⟨((r9).toInt64), ⟨hq0.symm, fun _ => by rw [hq1]⟩, ⟨hO, hC, trivial⟩, hF⟩)

abbrev rmCX0_heightAgain : Room := { frames := 10, cells := 40, slots := 220, locals := 162 }
theorem dyX0_heightAgain : yX0_heightAgain.cls ≠ "java/lang/invoke/MethodHandle" ∧ yX0_heightAgain.cls ≠ "java/lang/invoke/VarHandle" ∧ (parseMethodDescriptor yX0_heightAgain.desc).map (fun d => d.parameters.length) = some 3 := by decide +kernel
set_option maxHeartbeats 4000000 in
theorem CX0_heightAgain (l0 : Launch) (hl0 : l0.stackTraces = false) (E : gE) (w : wd) (x : Nat) (o : Nat) (f : Nat → Int32) (a : Nat → Nat → Int32) (mn : Nat) (cn : Nat) (nb : Nat) (N : Nat) (v0 : Int64) (y : Int32) (hC : coS E w x N f a mn cn nb) (hO : lA E w o v0) : kX l0 yX0_heightAgain (wsW_ yX0_heightAgain cX0_heightAgain 4 (some .int) [(0, 9, 12, 13)]) rmCX0_heightAgain 40 220 mI E w [.ref x, .int y, .ref o] (fun r w' => ∃ v9 : Int64, (r = (qHag (a 0) y).1 ∧ ((qHag (a 0) y).1 = 0 → v9 = ((qHag (a 0) y).2).toInt64)) ∧ (lA E w' o v9 ∧ coS E w' x N f a mn cn nb ∧ True) ∧ fr pW w w') (fun _ _ _ => False) := by
  refine kx_openH (hh := [(0, 9, 12, 13)]) (cc := cX0_heightAgain) (maxL := 4) (ret := (some .int)) (by decide) rfl (Nat.le_of_ble_eq_true rfl) ?_
  intro p e s m args below meth c ls Q hx hb hr hml hown hts hlocks hname ht hQ hG hP hl hS
  have hl : lv_has ls 4 [(0, .ref x), (1, .int y), (2, .ref o)] := hl
  obtain ⟨w0, hw0⟩ : ∃ z, z = w := ⟨_, rfl⟩
  have hF : fr pW w0 w := by rw [hw0]; exact fr.rf
  rw [← hw0] at hQ
  have hC0 := hC
  obtain ⟨A1, A2, A3, d, b, wn, ly, I, mk, hX, ⟨hM, hI⟩, ⟨u2, m2, wb2, lb2, hM2⟩, ⟨u3, m3, wb3, lb3, hM3, hs3⟩, ⟨hK, hKI⟩, ⟨hSB, hcB⟩, ⟨hf9n, hf6, hf7, hf11⟩⟩ := hC0
  have hc8 := hK.le
  have hm6 := hM.m25
  refine lv_aload_n hx hb dX0_heightAgain_0 rfl (lv_at hl 2 rfl) ?_
  refine lv_iconst (v := 0) hx hb dX0_heightAgain_1 (by decide) ?_
  refine lv_aload_n hx hb dX0_heightAgain_2 rfl (lv_at hl 0 rfl) ?_
  refine lv_iload_n hx hb dX0_heightAgain_3 rfl (lv_at hl 1 rfl) ?_
  refine kx_cVG hx hb hml hown hts (CX1_heightAgain l0 hl0 E w x A1 A2 A3 d b (f 5) (f 10) (f 11) (f 12) (a 0) mn wn ly y N hI hX hM) (cwV 1 hts (lw_V q885 q886 q887 q69 q888) rfl rfl rfl dyX1_heightAgain ⟨Nat.le_of_ble_eq_true rfl, Nat.le_of_ble_eq_true rfl⟩) hG hP hS hX rfl (As := [.int y]) (rest := [.int 0, .ref o]) rfl hl.1 rfl (lv_room (Nat.le_of_ble_eq_true rfl)) dX0_heightAgain_4 ⟨show 0 + 3 ≤ 40 from by omega, show 0 + 20 ≤ 220 from by omega⟩ (fun X9 ce9 q9 w9 H locs hp hP hS hcell hcv hcl => ?_) (fun r9 w9 H locs hp hP hS => ?_)
  · skip
    obtain ⟨hm, hw9⟩ := hp
    rw [hw9] at hP
    simp only [List.mem_cons, List.not_mem_nil, or_false, Prod.mk.injEq] at hm
    obtain ⟨hX9, hq⟩ := hm
    subst hX9
    refine vx_catch (own := "KiteRoofsLaw") (name := "java/lang/IndexOutOfBoundsException") hown [] ⟨0, 9, 12, 13⟩ [] (by rw [ht]; rfl) (fun z hz => nomatch hz) (by decide) (by decide) (hts _ q365) (va_Nw.use rfl (hG.2.1.1 _ q461 rfl)) hcell hcv hcl ?_
    show W p l0 e rmCX0_heightAgain s m args below meth c H locs (0 + 3) (0 + 20) Q (F0 m 12 ls [.ref q9])
    refine lv_astore_n (lv' := [(3, .ref q9), (0, .ref x), (1, .int y), (2, .ref o)]) hx hb dX0_heightAgain_12 rfl hl (by decide) rfl (fun ls hl => ?_)
    refine lv_iconst (v := 1) hx hb dX0_heightAgain_13 (by decide) ?_
    exact kx_iret hx hb hr hlocks hQ hP hS (by omega) (by omega) dX0_heightAgain_14 (⟨v0, ⟨hq.symm, fun e9 => absurd (hq.symm.trans e9) (by decide)⟩, ⟨hO, hC, trivial⟩, hF⟩)
  obtain ⟨hp1, hp0⟩ := hp
  rw [hp1] at hP
  obtain ⟨hq0, hq1⟩ := hp0
  show W p l0 e rmCX0_heightAgain s m args below meth c H locs (0 + 3) (0 + 20) Q (F0 m 7 ls [.int r9, .int 0, .ref o])
  refine lv_i2l hx hb dX0_heightAgain_7 rfl ?_
  refine k_last hx hb hG hP hS hO dX0_heightAgain_8 (fun w1 H locs h9 hf9 hP hS => ?_)
  have hO : lA E w1 o ((r9).toInt64) := h9
  have hC : coS E w1 x N f a mn cn nb := hC.fr hf9 (fun t9 h9 => by simp only [pO] at h9; subst h9; decide)
  have hX : w1 x = some ((94, 0), .inr (1, [.ref (A1 0), .ref (A2 0), .ref (A3 0), .int (f 5), .ref d, .ref b, .int (f 10), .int (f 11), .int (f 12)])) := hf9 _ _ _ hX (by intro z9; first | (simp only [pO, pN, pD, pKp, pT, pB, pBs, pS, pR, pX1, pX2, pXs, pX2t, pX9, Prod.mk.injEq] at z9; done) | (simp only [pO, pN, pD, pKp, pT, pB, pBs, pS, pR, pX1, pX2, pXs, pX2t, pX9, Prod.mk.injEq] at z9; omega))
  have hM : townR E w1 1 A1 (a 0) mn wn ly := hM.frm hf9 (by intro z9; first | (simp only [pO, pN, pD, pKp, pT, pB, pBs, pS, pR, pRd, pRo, Prod.mk.injEq, pX1, pX2, pXs, pX2t] at z9; done) | (simp only [pO, pN, pD, pKp, pT, pB, pBs, pS, pR, pRd, pRo, Prod.mk.injEq, pX1, pX2, pXs, pX2t] at z9; omega)) (fun r9 => (by intro z9; first | (simp only [pO, pN, pD, pKp, pT, pB, pBs, pS, pR, pRd, pRo, Prod.mk.injEq, pX1, pX2, pXs, pX2t] at z9; done) | (simp only [pO, pN, pD, pKp, pT, pB, pBs, pS, pR, pRd, pRo, Prod.mk.injEq, pX1, pX2, pXs, pX2t] at z9; omega)))
  have hM2 : townR E w1 2 A2 u2 m2 wb2 lb2 := hM2.frm hf9 (by intro z9; first | (simp only [pO, pN, pD, pKp, pT, pB, pBs, pS, pR, pRd, pRo, Prod.mk.injEq, pX1, pX2, pXs, pX2t] at z9; done) | (simp only [pO, pN, pD, pKp, pT, pB, pBs, pS, pR, pRd, pRo, Prod.mk.injEq, pX1, pX2, pXs, pX2t] at z9; omega)) (fun r9 => (by intro z9; first | (simp only [pO, pN, pD, pKp, pT, pB, pBs, pS, pR, pRd, pRo, Prod.mk.injEq, pX1, pX2, pXs, pX2t] at z9; done) | (simp only [pO, pN, pD, pKp, pT, pB, pBs, pS, pR, pRd, pRo, Prod.mk.injEq, pX1, pX2, pXs, pX2t] at z9; omega)))
  have hM3 : townR E w1 3 A3 u3 m3 wb3 lb3 := hM3.frm hf9 (by intro z9; first | (simp only [pO, pN, pD, pKp, pT, pB, pBs, pS, pR, pRd, pRo, Prod.mk.injEq, pX1, pX2, pXs, pX2t] at z9; done) | (simp only [pO, pN, pD, pKp, pT, pB, pBs, pS, pR, pRd, pRo, Prod.mk.injEq, pX1, pX2, pXs, pX2t] at z9; omega)) (fun r9 => (by intro z9; first | (simp only [pO, pN, pD, pKp, pT, pB, pBs, pS, pR, pRd, pRo, Prod.mk.injEq, pX1, pX2, pXs, pX2t] at z9; done) | (simp only [pO, pN, pD, pKp, pT, pB, pBs, pS, pR, pRd, pRo, Prod.mk.injEq, pX1, pX2, pXs, pX2t] at z9; omega)))
  have hK : kpR E w1 d cn I (kRw a) mk := hK.fr hf9 (by intro z9; first | (simp only [pO, pN, pD, pKp, pT, pB, pBs, pS, pR, pRd, pRo, Prod.mk.injEq, pX1, pX2, pXs, pX2t] at z9; done) | (simp only [pO, pN, pD, pKp, pT, pB, pBs, pS, pR, pRd, pRo, Prod.mk.injEq, pX1, pX2, pXs, pX2t] at z9; omega)) (fun i9 r9 h7 h8 => (by intro z9; first | (simp only [pO, pN, pD, pKp, pT, pB, pBs, pS, pR, pRd, pRo, Prod.mk.injEq, pX1, pX2, pXs, pX2t] at z9; done) | (simp only [pO, pN, pD, pKp, pT, pB, pBs, pS, pR, pRd, pRo, Prod.mk.injEq, pX1, pX2, pXs, pX2t] at z9; omega)))
  have hSB : sbR E w1 b (a 8) nb := hSB.fr hf9 (by intro z9; first | (simp only [pO, pN, pD, pKp, pT, pB, pBs, pS, pR, pRd, pRo, Prod.mk.injEq, pX1, pX2, pXs, pX2t] at z9; done) | (simp only [pO, pN, pD, pKp, pT, pB, pBs, pS, pR, pRd, pRo, Prod.mk.injEq, pX1, pX2, pXs, pX2t] at z9; omega)) (by intro z9; first | (simp only [pO, pN, pD, pKp, pT, pB, pBs, pS, pR, pRd, pRo, Prod.mk.injEq, pX1, pX2, pXs, pX2t] at z9; done) | (simp only [pO, pN, pD, pKp, pT, pB, pBs, pS, pR, pRd, pRo, Prod.mk.injEq, pX1, pX2, pXs, pX2t] at z9; omega))
  have hF : fr pW w0 w1 := hF.tr (hf9.up (fun t9 h9 => by simp only [pO, pN, pD, pKp, pT, pB, pBs, pS, pR, pX1, pX2, pXs, pX2t, pX9, pW, pWd] at h9 ⊢; first | (subst h9; simp; done) | (subst h9; omega) | omega | (rcases h9 with h9 | h9 <;> first | (subst h9; simp; done) | (subst h9; omega) | omega)))
  refine lv_goto (tgt := 15) hx hb dX0_heightAgain_9 (by decide) ?_
  refine lv_iconst (v := 0) hx hb dX0_heightAgain_15 (by decide) ?_
  exact kx_iret hx hb hr hlocks hQ hP hS (by omega) (by omega) dX0_heightAgain_16 (⟨((r9).toInt64), ⟨hq0.symm, fun _ => by rw [hq1]⟩, ⟨hO, hC, trivial⟩, hF⟩)

abbrev rmCX0_placeAt : Room := { frames := 10, cells := 40, slots := 220, locals := 164 }
theorem dyX0_placeAt : yX0_placeAt.cls ≠ "java/lang/invoke/MethodHandle" ∧ yX0_placeAt.cls ≠ "java/lang/invoke/VarHandle" ∧ (parseMethodDescriptor yX0_placeAt.desc).map (fun d => d.parameters.length) = some 4 := by decide +kernel
set_option maxHeartbeats 4000000 in
theorem CX0_placeAt (l0 : Launch) (hl0 : l0.stackTraces = false) (E : gE) (w : wd) (x : Nat) (o : Nat) (f : Nat → Int32) (a : Nat → Nat → Int32) (mn : Nat) (cn : Nat) (nb : Nat) (N : Nat) (v0 : Int64) (y : Int32) (z : Int32) (hC : coS E w x N f a mn cn nb) (hO : lA E w o v0) : kX l0 yX0_placeAt (wsW_ yX0_placeAt cX0_placeAt 5 (some .int) [(0, 10, 13, 13), (0, 10, 17, 57)]) rmCX0_placeAt 40 220 mI E w [.ref x, .int y, .int z, .ref o] (fun r w' => ∃ v9 : Int64, (r = (qPat (a 0) y z).1 ∧ ((qPat (a 0) y z).1 = 0 → v9 = ((qPat (a 0) y z).2).toInt64)) ∧ (lA E w' o v9 ∧ coS E w' x N f a mn cn nb ∧ True) ∧ fr pW w w') (fun _ _ _ => False) := by
  refine kx_openH (hh := [(0, 10, 13, 13), (0, 10, 17, 57)]) (cc := cX0_placeAt) (maxL := 5) (ret := (some .int)) (by decide) rfl (Nat.le_of_ble_eq_true rfl) ?_
  intro p e s m args below meth c ls Q hx hb hr hml hown hts hlocks hname ht hQ hG hP hl hS
  have hl : lv_has ls 5 [(0, .ref x), (1, .int y), (2, .int z), (3, .ref o)] := hl
  obtain ⟨w0, hw0⟩ : ∃ z, z = w := ⟨_, rfl⟩
  have hF : fr pW w0 w := by rw [hw0]; exact fr.rf
  rw [← hw0] at hQ
  have hC0 := hC
  obtain ⟨A1, A2, A3, d, b, wn, ly, I, mk, hX, ⟨hM, hI⟩, ⟨u2, m2, wb2, lb2, hM2⟩, ⟨u3, m3, wb3, lb3, hM3, hs3⟩, ⟨hK, hKI⟩, ⟨hSB, hcB⟩, ⟨hf9n, hf6, hf7, hf11⟩⟩ := hC0
  have hc8 := hK.le
  have hm6 := hM.m25
  refine lv_aload_n hx hb dX0_placeAt_0 rfl (lv_at hl 3 rfl) ?_
  refine lv_iconst (v := 0) hx hb dX0_placeAt_1 (by decide) ?_
  refine lv_aload_n hx hb dX0_placeAt_2 rfl (lv_at hl 0 rfl) ?_
  refine lv_iload_n hx hb dX0_placeAt_3 rfl (lv_at hl 1 rfl) ?_
  refine lv_iload_n hx hb dX0_placeAt_4 rfl (lv_at hl 2 rfl) ?_
  refine kx_cVG hx hb hml hown hts (CX1_placeAt l0 hl0 E w x A1 A2 A3 d b (f 5) (f 10) (f 11) (f 12) (a 0) mn wn ly y z N hI hX hM) (cwV 2 hts (lw_V q897 q898 q899 q69 q900) rfl rfl rfl dyX1_placeAt ⟨Nat.le_of_ble_eq_true rfl, Nat.le_of_ble_eq_true rfl⟩) hG hP hS hX rfl (As := [.int y, .int z]) (rest := [.int 0, .ref o]) rfl hl.1 rfl (lv_room (Nat.le_of_ble_eq_true rfl)) dX0_placeAt_5 ⟨show 0 + 3 ≤ 40 from by omega, show 0 + 20 ≤ 220 from by omega⟩ (fun X9 ce9 q9 w9 H locs hp hP hS hcell hcv hcl => ?_) (fun r9 w9 H locs hp hP hS => ?_)
  · skip
    obtain ⟨hm, hw9⟩ := hp
    rw [hw9] at hP
    simp only [List.mem_cons, List.not_mem_nil, or_false, Prod.mk.injEq] at hm
    rcases hm with ⟨hX9, hq⟩ | ⟨hX9, hq⟩
    · skip
      subst hX9
      refine vx_catch (own := "KiteRoofsLaw") (name := "java/lang/IndexOutOfBoundsException") hown [] ⟨0, 10, 13, 13⟩ [⟨0, 10, 17, 57⟩] (by rw [ht]; rfl) (fun z hz => nomatch hz) (by decide) (by decide) (hts _ q365) (va_Nw.use rfl (hG.2.1.1 _ q461 rfl)) hcell hcv hcl ?_
      show W p l0 e rmCX0_placeAt s m args below meth c H locs (0 + 3) (0 + 20) Q (F0 m 13 ls [.ref q9])
      refine lv_astore (lv' := [(4, .ref q9), (0, .ref x), (1, .int y), (2, .int z), (3, .ref o)]) hx hb dX0_placeAt_13 hl (by decide) rfl (fun ls hl => ?_)
      refine lv_iconst (v := 1) hx hb dX0_placeAt_15 (by decide) ?_
      exact kx_iret hx hb hr hlocks hQ hP hS (by omega) (by omega) dX0_placeAt_16 (⟨v0, ⟨hq.symm, fun e9 => absurd (hq.symm.trans e9) (by decide)⟩, ⟨hO, hC, trivial⟩, hF⟩)
    · skip
      subst hX9
      refine vx_catch (own := "KiteRoofsLaw") (name := "java/util/NoSuchElementException") hown [⟨0, 10, 13, 13⟩] ⟨0, 10, 17, 57⟩ [] (by rw [ht]; rfl) (by intro z hz; simp only [List.mem_cons, List.not_mem_nil, or_false] at hz; rcases hz with rfl; exact Or.inr ⟨by decide, _, hts _ q365, hG.2.1.2.1 (RJ17, RJ10) (List.mem_of_getElem? (i := 29) rfl)⟩) (by decide) (by decide) (hts _ q896) (va_Nw.use rfl (hG.2.1.1 _ q906 rfl)) hcell hcv hcl ?_
      show W p l0 e rmCX0_placeAt s m args below meth c H locs (0 + 3) (0 + 20) Q (F0 m 17 ls [.ref q9])
      refine lv_astore (lv' := [(4, .ref q9), (0, .ref x), (1, .int y), (2, .int z), (3, .ref o)]) hx hb dX0_placeAt_17 hl (by decide) rfl (fun ls hl => ?_)
      refine lv_iconst (v := 2) hx hb dX0_placeAt_19 (by decide) ?_
      exact kx_iret hx hb hr hlocks hQ hP hS (by omega) (by omega) dX0_placeAt_20 (⟨v0, ⟨hq.symm, fun e9 => absurd (hq.symm.trans e9) (by decide)⟩, ⟨hO, hC, trivial⟩, hF⟩)
  obtain ⟨hp1, hp0⟩ := hp
  rw [hp1] at hP
  obtain ⟨hq0, hq1⟩ := hp0
  show W p l0 e rmCX0_placeAt s m args below meth c H locs (0 + 3) (0 + 20) Q (F0 m 8 ls [.int r9, .int 0, .ref o])
  refine lv_i2l hx hb dX0_placeAt_8 rfl ?_
  refine k_last hx hb hG hP hS hO dX0_placeAt_9 (fun w1 H locs h9 hf9 hP hS => ?_)
  have hO : lA E w1 o ((r9).toInt64) := h9
  have hC : coS E w1 x N f a mn cn nb := hC.fr hf9 (fun t9 h9 => by simp only [pO] at h9; subst h9; decide)
  have hX : w1 x = some ((94, 0), .inr (1, [.ref (A1 0), .ref (A2 0), .ref (A3 0), .int (f 5), .ref d, .ref b, .int (f 10), .int (f 11), .int (f 12)])) := hf9 _ _ _ hX (by intro z9; first | (simp only [pO, pN, pD, pKp, pT, pB, pBs, pS, pR, pX1, pX2, pXs, pX2t, pX9, Prod.mk.injEq] at z9; done) | (simp only [pO, pN, pD, pKp, pT, pB, pBs, pS, pR, pX1, pX2, pXs, pX2t, pX9, Prod.mk.injEq] at z9; omega))
  have hM : townR E w1 1 A1 (a 0) mn wn ly := hM.frm hf9 (by intro z9; first | (simp only [pO, pN, pD, pKp, pT, pB, pBs, pS, pR, pRd, pRo, Prod.mk.injEq, pX1, pX2, pXs, pX2t] at z9; done) | (simp only [pO, pN, pD, pKp, pT, pB, pBs, pS, pR, pRd, pRo, Prod.mk.injEq, pX1, pX2, pXs, pX2t] at z9; omega)) (fun r9 => (by intro z9; first | (simp only [pO, pN, pD, pKp, pT, pB, pBs, pS, pR, pRd, pRo, Prod.mk.injEq, pX1, pX2, pXs, pX2t] at z9; done) | (simp only [pO, pN, pD, pKp, pT, pB, pBs, pS, pR, pRd, pRo, Prod.mk.injEq, pX1, pX2, pXs, pX2t] at z9; omega)))
  have hM2 : townR E w1 2 A2 u2 m2 wb2 lb2 := hM2.frm hf9 (by intro z9; first | (simp only [pO, pN, pD, pKp, pT, pB, pBs, pS, pR, pRd, pRo, Prod.mk.injEq, pX1, pX2, pXs, pX2t] at z9; done) | (simp only [pO, pN, pD, pKp, pT, pB, pBs, pS, pR, pRd, pRo, Prod.mk.injEq, pX1, pX2, pXs, pX2t] at z9; omega)) (fun r9 => (by intro z9; first | (simp only [pO, pN, pD, pKp, pT, pB, pBs, pS, pR, pRd, pRo, Prod.mk.injEq, pX1, pX2, pXs, pX2t] at z9; done) | (simp only [pO, pN, pD, pKp, pT, pB, pBs, pS, pR, pRd, pRo, Prod.mk.injEq, pX1, pX2, pXs, pX2t] at z9; omega)))
  have hM3 : townR E w1 3 A3 u3 m3 wb3 lb3 := hM3.frm hf9 (by intro z9; first | (simp only [pO, pN, pD, pKp, pT, pB, pBs, pS, pR, pRd, pRo, Prod.mk.injEq, pX1, pX2, pXs, pX2t] at z9; done) | (simp only [pO, pN, pD, pKp, pT, pB, pBs, pS, pR, pRd, pRo, Prod.mk.injEq, pX1, pX2, pXs, pX2t] at z9; omega)) (fun r9 => (by intro z9; first | (simp only [pO, pN, pD, pKp, pT, pB, pBs, pS, pR, pRd, pRo, Prod.mk.injEq, pX1, pX2, pXs, pX2t] at z9; done) | (simp only [pO, pN, pD, pKp, pT, pB, pBs, pS, pR, pRd, pRo, Prod.mk.injEq, pX1, pX2, pXs, pX2t] at z9; omega)))
  have hK : kpR E w1 d cn I (kRw a) mk := hK.fr hf9 (by intro z9; first | (simp only [pO, pN, pD, pKp, pT, pB, pBs, pS, pR, pRd, pRo, Prod.mk.injEq, pX1, pX2, pXs, pX2t] at z9; done) | (simp only [pO, pN, pD, pKp, pT, pB, pBs, pS, pR, pRd, pRo, Prod.mk.injEq, pX1, pX2, pXs, pX2t] at z9; omega)) (fun i9 r9 h7 h8 => (by intro z9; first | (simp only [pO, pN, pD, pKp, pT, pB, pBs, pS, pR, pRd, pRo, Prod.mk.injEq, pX1, pX2, pXs, pX2t] at z9; done) | (simp only [pO, pN, pD, pKp, pT, pB, pBs, pS, pR, pRd, pRo, Prod.mk.injEq, pX1, pX2, pXs, pX2t] at z9; omega)))
  have hSB : sbR E w1 b (a 8) nb := hSB.fr hf9 (by intro z9; first | (simp only [pO, pN, pD, pKp, pT, pB, pBs, pS, pR, pRd, pRo, Prod.mk.injEq, pX1, pX2, pXs, pX2t] at z9; done) | (simp only [pO, pN, pD, pKp, pT, pB, pBs, pS, pR, pRd, pRo, Prod.mk.injEq, pX1, pX2, pXs, pX2t] at z9; omega)) (by intro z9; first | (simp only [pO, pN, pD, pKp, pT, pB, pBs, pS, pR, pRd, pRo, Prod.mk.injEq, pX1, pX2, pXs, pX2t] at z9; done) | (simp only [pO, pN, pD, pKp, pT, pB, pBs, pS, pR, pRd, pRo, Prod.mk.injEq, pX1, pX2, pXs, pX2t] at z9; omega))
  have hF : fr pW w0 w1 := hF.tr (hf9.up (fun t9 h9 => by simp only [pO, pN, pD, pKp, pT, pB, pBs, pS, pR, pX1, pX2, pXs, pX2t, pX9, pW, pWd] at h9 ⊢; first | (subst h9; simp; done) | (subst h9; omega) | omega | (rcases h9 with h9 | h9 <;> first | (subst h9; simp; done) | (subst h9; omega) | omega)))
  refine lv_goto (tgt := 21) hx hb dX0_placeAt_10 (by decide) ?_
  refine lv_iconst (v := 0) hx hb dX0_placeAt_21 (by decide) ?_
  exact kx_iret hx hb hr hlocks hQ hP hS (by omega) (by omega) dX0_placeAt_22 (⟨((r9).toInt64), ⟨hq0.symm, fun _ => by rw [hq1]⟩, ⟨hO, hC, trivial⟩, hF⟩)

abbrev rmCX0_crossing : Room := { frames := 9, cells := 40, slots := 220, locals := 142 }
theorem dyX0_crossing : yX0_crossing.cls ≠ "java/lang/invoke/MethodHandle" ∧ yX0_crossing.cls ≠ "java/lang/invoke/VarHandle" ∧ (parseMethodDescriptor yX0_crossing.desc).map (fun d => d.parameters.length) = some 4 := by decide +kernel
set_option maxHeartbeats 4000000 in
theorem CX0_crossing (l0 : Launch) (hl0 : l0.stackTraces = false) (E : gE) (w : wd) (x : Nat) (o : Nat) (f : Nat → Int32) (a : Nat → Nat → Int32) (mn : Nat) (cn : Nat) (nb : Nat) (N : Nat) (v0 : Int64) (y : Int32) (z : Int32) (hC : coS E w x N f a mn cn nb) (hO : lA E w o v0) : kX l0 yX0_crossing (wsW_ yX0_crossing cX0_crossing 5 (some .int) [(0, 10, 13, 13)]) rmCX0_crossing 40 220 mI E w [.ref x, .int y, .int z, .ref o] (fun r w' => ∃ v9 : Int64, (r = (qCro (a 0) y z).1 ∧ ((qCro (a 0) y z).1 = 0 → v9 = ((qCro (a 0) y z).2).toInt64)) ∧ (lA E w' o v9 ∧ coS E w' x N f a mn cn nb ∧ True) ∧ fr pW w w') (fun _ _ _ => False) := by
  refine kx_openH (hh := [(0, 10, 13, 13)]) (cc := cX0_crossing) (maxL := 5) (ret := (some .int)) (by decide) rfl (Nat.le_of_ble_eq_true rfl) ?_
  intro p e s m args below meth c ls Q hx hb hr hml hown hts hlocks hname ht hQ hG hP hl hS
  have hl : lv_has ls 5 [(0, .ref x), (1, .int y), (2, .int z), (3, .ref o)] := hl
  obtain ⟨w0, hw0⟩ : ∃ z, z = w := ⟨_, rfl⟩
  have hF : fr pW w0 w := by rw [hw0]; exact fr.rf
  rw [← hw0] at hQ
  have hC0 := hC
  obtain ⟨A1, A2, A3, d, b, wn, ly, I, mk, hX, ⟨hM, hI⟩, ⟨u2, m2, wb2, lb2, hM2⟩, ⟨u3, m3, wb3, lb3, hM3, hs3⟩, ⟨hK, hKI⟩, ⟨hSB, hcB⟩, ⟨hf9n, hf6, hf7, hf11⟩⟩ := hC0
  have hc8 := hK.le
  have hm6 := hM.m25
  refine lv_aload_n hx hb dX0_crossing_0 rfl (lv_at hl 3 rfl) ?_
  refine lv_iconst (v := 0) hx hb dX0_crossing_1 (by decide) ?_
  refine lv_aload_n hx hb dX0_crossing_2 rfl (lv_at hl 0 rfl) ?_
  refine lv_iload_n hx hb dX0_crossing_3 rfl (lv_at hl 1 rfl) ?_
  refine lv_iload_n hx hb dX0_crossing_4 rfl (lv_at hl 2 rfl) ?_
  refine kx_cVG hx hb hml hown hts (CX1_crossing l0 hl0 E w x A1 A2 A3 d b (f 5) (f 10) (f 11) (f 12) (a 0) mn wn ly y z N hI hX hM) (cwV 2 hts (lw_V q923 q924 q925 q69 q926) rfl rfl rfl dyX1_crossing ⟨Nat.le_of_ble_eq_true rfl, Nat.le_of_ble_eq_true rfl⟩) hG hP hS hX rfl (As := [.int y, .int z]) (rest := [.int 0, .ref o]) rfl hl.1 rfl (lv_room (Nat.le_of_ble_eq_true rfl)) dX0_crossing_5 ⟨show 0 + 3 ≤ 40 from by omega, show 0 + 20 ≤ 220 from by omega⟩ (fun X9 ce9 q9 w9 H locs hp hP hS hcell hcv hcl => ?_) (fun r9 w9 H locs hp hP hS => ?_)
  · skip
    obtain ⟨hm, hw9⟩ := hp
    rw [hw9] at hP
    simp only [List.mem_cons, List.not_mem_nil, or_false, Prod.mk.injEq] at hm
    obtain ⟨hX9, hq⟩ := hm
    subst hX9
    refine vx_catch (own := "KiteRoofsLaw") (name := "java/lang/IndexOutOfBoundsException") hown [] ⟨0, 10, 13, 13⟩ [] (by rw [ht]; rfl) (fun z hz => nomatch hz) (by decide) (by decide) (hts _ q365) (va_Nw.use rfl (hG.2.1.1 _ q461 rfl)) hcell hcv hcl ?_
    show W p l0 e rmCX0_crossing s m args below meth c H locs (0 + 3) (0 + 20) Q (F0 m 13 ls [.ref q9])
    refine lv_astore (lv' := [(4, .ref q9), (0, .ref x), (1, .int y), (2, .int z), (3, .ref o)]) hx hb dX0_crossing_13 hl (by decide) rfl (fun ls hl => ?_)
    refine lv_iconst (v := 1) hx hb dX0_crossing_15 (by decide) ?_
    exact kx_iret hx hb hr hlocks hQ hP hS (by omega) (by omega) dX0_crossing_16 (⟨v0, ⟨hq.symm, fun e9 => absurd (hq.symm.trans e9) (by decide)⟩, ⟨hO, hC, trivial⟩, hF⟩)
  obtain ⟨hp1, hp0⟩ := hp
  rw [hp1] at hP
  obtain ⟨hq0, hq1⟩ := hp0
  show W p l0 e rmCX0_crossing s m args below meth c H locs (0 + 3) (0 + 20) Q (F0 m 8 ls [.int r9, .int 0, .ref o])
  refine lv_i2l hx hb dX0_crossing_8 rfl ?_
  refine k_last hx hb hG hP hS hO dX0_crossing_9 (fun w1 H locs h9 hf9 hP hS => ?_)
  have hO : lA E w1 o ((r9).toInt64) := h9
  have hC : coS E w1 x N f a mn cn nb := hC.fr hf9 (fun t9 h9 => by simp only [pO] at h9; subst h9; decide)
  have hX : w1 x = some ((94, 0), .inr (1, [.ref (A1 0), .ref (A2 0), .ref (A3 0), .int (f 5), .ref d, .ref b, .int (f 10), .int (f 11), .int (f 12)])) := hf9 _ _ _ hX (by intro z9; first | (simp only [pO, pN, pD, pKp, pT, pB, pBs, pS, pR, pX1, pX2, pXs, pX2t, pX9, Prod.mk.injEq] at z9; done) | (simp only [pO, pN, pD, pKp, pT, pB, pBs, pS, pR, pX1, pX2, pXs, pX2t, pX9, Prod.mk.injEq] at z9; omega))
  have hM : townR E w1 1 A1 (a 0) mn wn ly := hM.frm hf9 (by intro z9; first | (simp only [pO, pN, pD, pKp, pT, pB, pBs, pS, pR, pRd, pRo, Prod.mk.injEq, pX1, pX2, pXs, pX2t] at z9; done) | (simp only [pO, pN, pD, pKp, pT, pB, pBs, pS, pR, pRd, pRo, Prod.mk.injEq, pX1, pX2, pXs, pX2t] at z9; omega)) (fun r9 => (by intro z9; first | (simp only [pO, pN, pD, pKp, pT, pB, pBs, pS, pR, pRd, pRo, Prod.mk.injEq, pX1, pX2, pXs, pX2t] at z9; done) | (simp only [pO, pN, pD, pKp, pT, pB, pBs, pS, pR, pRd, pRo, Prod.mk.injEq, pX1, pX2, pXs, pX2t] at z9; omega)))
  have hM2 : townR E w1 2 A2 u2 m2 wb2 lb2 := hM2.frm hf9 (by intro z9; first | (simp only [pO, pN, pD, pKp, pT, pB, pBs, pS, pR, pRd, pRo, Prod.mk.injEq, pX1, pX2, pXs, pX2t] at z9; done) | (simp only [pO, pN, pD, pKp, pT, pB, pBs, pS, pR, pRd, pRo, Prod.mk.injEq, pX1, pX2, pXs, pX2t] at z9; omega)) (fun r9 => (by intro z9; first | (simp only [pO, pN, pD, pKp, pT, pB, pBs, pS, pR, pRd, pRo, Prod.mk.injEq, pX1, pX2, pXs, pX2t] at z9; done) | (simp only [pO, pN, pD, pKp, pT, pB, pBs, pS, pR, pRd, pRo, Prod.mk.injEq, pX1, pX2, pXs, pX2t] at z9; omega)))
  have hM3 : townR E w1 3 A3 u3 m3 wb3 lb3 := hM3.frm hf9 (by intro z9; first | (simp only [pO, pN, pD, pKp, pT, pB, pBs, pS, pR, pRd, pRo, Prod.mk.injEq, pX1, pX2, pXs, pX2t] at z9; done) | (simp only [pO, pN, pD, pKp, pT, pB, pBs, pS, pR, pRd, pRo, Prod.mk.injEq, pX1, pX2, pXs, pX2t] at z9; omega)) (fun r9 => (by intro z9; first | (simp only [pO, pN, pD, pKp, pT, pB, pBs, pS, pR, pRd, pRo, Prod.mk.injEq, pX1, pX2, pXs, pX2t] at z9; done) | (simp only [pO, pN, pD, pKp, pT, pB, pBs, pS, pR, pRd, pRo, Prod.mk.injEq, pX1, pX2, pXs, pX2t] at z9; omega)))
  have hK : kpR E w1 d cn I (kRw a) mk := hK.fr hf9 (by intro z9; first | (simp only [pO, pN, pD, pKp, pT, pB, pBs, pS, pR, pRd, pRo, Prod.mk.injEq, pX1, pX2, pXs, pX2t] at z9; done) | (simp only [pO, pN, pD, pKp, pT, pB, pBs, pS, pR, pRd, pRo, Prod.mk.injEq, pX1, pX2, pXs, pX2t] at z9; omega)) (fun i9 r9 h7 h8 => (by intro z9; first | (simp only [pO, pN, pD, pKp, pT, pB, pBs, pS, pR, pRd, pRo, Prod.mk.injEq, pX1, pX2, pXs, pX2t] at z9; done) | (simp only [pO, pN, pD, pKp, pT, pB, pBs, pS, pR, pRd, pRo, Prod.mk.injEq, pX1, pX2, pXs, pX2t] at z9; omega)))
  have hSB : sbR E w1 b (a 8) nb := hSB.fr hf9 (by intro z9; first | (simp only [pO, pN, pD, pKp, pT, pB, pBs, pS, pR, pRd, pRo, Prod.mk.injEq, pX1, pX2, pXs, pX2t] at z9; done) | (simp only [pO, pN, pD, pKp, pT, pB, pBs, pS, pR, pRd, pRo, Prod.mk.injEq, pX1, pX2, pXs, pX2t] at z9; omega)) (by intro z9; first | (simp only [pO, pN, pD, pKp, pT, pB, pBs, pS, pR, pRd, pRo, Prod.mk.injEq, pX1, pX2, pXs, pX2t] at z9; done) | (simp only [pO, pN, pD, pKp, pT, pB, pBs, pS, pR, pRd, pRo, Prod.mk.injEq, pX1, pX2, pXs, pX2t] at z9; omega))
  have hF : fr pW w0 w1 := hF.tr (hf9.up (fun t9 h9 => by simp only [pO, pN, pD, pKp, pT, pB, pBs, pS, pR, pX1, pX2, pXs, pX2t, pX9, pW, pWd] at h9 ⊢; first | (subst h9; simp; done) | (subst h9; omega) | omega | (rcases h9 with h9 | h9 <;> first | (subst h9; simp; done) | (subst h9; omega) | omega)))
  refine lv_goto (tgt := 17) hx hb dX0_crossing_10 (by decide) ?_
  refine lv_iconst (v := 0) hx hb dX0_crossing_17 (by decide) ?_
  exact kx_iret hx hb hr hlocks hQ hP hS (by omega) (by omega) dX0_crossing_18 (⟨((r9).toInt64), ⟨hq0.symm, fun _ => by rw [hq1]⟩, ⟨hO, hC, trivial⟩, hF⟩)

abbrev rmCX0_wears : Room := { frames := 9, cells := 40, slots := 220, locals := 171 }
theorem dyX0_wears : yX0_wears.cls ≠ "java/lang/invoke/MethodHandle" ∧ yX0_wears.cls ≠ "java/lang/invoke/VarHandle" ∧ (parseMethodDescriptor yX0_wears.desc).map (fun d => d.parameters.length) = some 3 := by decide +kernel
set_option maxHeartbeats 4000000 in
theorem CX0_wears (l0 : Launch) (hl0 : l0.stackTraces = false) (E : gE) (w : wd) (x : Nat) (o : Nat) (f : Nat → Int32) (a : Nat → Nat → Int32) (mn : Nat) (cn : Nat) (nb : Nat) (N : Nat) (v0 : Int64) (y : Int32) (hC : coS E w x N f a mn cn nb) (hO : lA E w o v0) : kX l0 yX0_wears (wsW_ yX0_wears cX0_wears 4 (some .int) [(0, 9, 12, 13)]) rmCX0_wears 40 220 mI E w [.ref x, .int y, .ref o] (fun r w' => ∃ v9 : Int64, (r = (qWea (a 0) mn y).1 ∧ ((qWea (a 0) mn y).1 = 0 → v9 = ((qWea (a 0) mn y).2).toInt64)) ∧ (lA E w' o v9 ∧ coS E w' x N f a mn cn nb ∧ True) ∧ fr pW w w') (fun _ _ _ => False) := by
  refine kx_openH (hh := [(0, 9, 12, 13)]) (cc := cX0_wears) (maxL := 4) (ret := (some .int)) (by decide) rfl (Nat.le_of_ble_eq_true rfl) ?_
  intro p e s m args below meth c ls Q hx hb hr hml hown hts hlocks hname ht hQ hG hP hl hS
  have hl : lv_has ls 4 [(0, .ref x), (1, .int y), (2, .ref o)] := hl
  obtain ⟨w0, hw0⟩ : ∃ z, z = w := ⟨_, rfl⟩
  have hF : fr pW w0 w := by rw [hw0]; exact fr.rf
  rw [← hw0] at hQ
  have hC0 := hC
  obtain ⟨A1, A2, A3, d, b, wn, ly, I, mk, hX, ⟨hM, hI⟩, ⟨u2, m2, wb2, lb2, hM2⟩, ⟨u3, m3, wb3, lb3, hM3, hs3⟩, ⟨hK, hKI⟩, ⟨hSB, hcB⟩, ⟨hf9n, hf6, hf7, hf11⟩⟩ := hC0
  have hc8 := hK.le
  have hm6 := hM.m25
  refine lv_aload_n hx hb dX0_wears_0 rfl (lv_at hl 2 rfl) ?_
  refine lv_iconst (v := 0) hx hb dX0_wears_1 (by decide) ?_
  refine lv_aload_n hx hb dX0_wears_2 rfl (lv_at hl 0 rfl) ?_
  refine lv_iload_n hx hb dX0_wears_3 rfl (lv_at hl 1 rfl) ?_
  refine kx_cVG hx hb hml hown hts (CX1_wears l0 hl0 E w x A1 A2 A3 d b (f 5) (f 10) (f 11) (f 12) (a 0) mn wn ly y N hI hX hM) (cwV 1 hts (lw_V q939 q940 q941 q69 q942) rfl rfl rfl dyX1_wears ⟨Nat.le_of_ble_eq_true rfl, Nat.le_of_ble_eq_true rfl⟩) hG hP hS hX rfl (As := [.int y]) (rest := [.int 0, .ref o]) rfl hl.1 rfl (lv_room (Nat.le_of_ble_eq_true rfl)) dX0_wears_4 ⟨show 0 + 3 ≤ 40 from by omega, show 0 + 20 ≤ 220 from by omega⟩ (fun X9 ce9 q9 w9 H locs hp hP hS hcell hcv hcl => ?_) (fun r9 w9 H locs hp hP hS => ?_)
  · skip
    obtain ⟨hm, hw9⟩ := hp
    rw [hw9] at hP
    simp only [List.mem_cons, List.not_mem_nil, or_false, Prod.mk.injEq] at hm
    obtain ⟨hX9, hq⟩ := hm
    subst hX9
    refine vx_catch (own := "KiteRoofsLaw") (name := "java/lang/IndexOutOfBoundsException") hown [] ⟨0, 9, 12, 13⟩ [] (by rw [ht]; rfl) (fun z hz => nomatch hz) (by decide) (by decide) (hts _ q365) (va_Nw.use rfl (hG.2.1.1 _ q461 rfl)) hcell hcv hcl ?_
    show W p l0 e rmCX0_wears s m args below meth c H locs (0 + 3) (0 + 20) Q (F0 m 12 ls [.ref q9])
    refine lv_astore_n (lv' := [(3, .ref q9), (0, .ref x), (1, .int y), (2, .ref o)]) hx hb dX0_wears_12 rfl hl (by decide) rfl (fun ls hl => ?_)
    refine lv_iconst (v := 1) hx hb dX0_wears_13 (by decide) ?_
    exact kx_iret hx hb hr hlocks hQ hP hS (by omega) (by omega) dX0_wears_14 (⟨v0, ⟨hq.symm, fun e9 => absurd (hq.symm.trans e9) (by decide)⟩, ⟨hO, hC, trivial⟩, hF⟩)
  obtain ⟨hp1, hp0⟩ := hp
  rw [hp1] at hP
  obtain ⟨hq0, hq1⟩ := hp0
  show W p l0 e rmCX0_wears s m args below meth c H locs (0 + 3) (0 + 20) Q (F0 m 7 ls [.int r9, .int 0, .ref o])
  refine lv_i2l hx hb dX0_wears_7 rfl ?_
  refine k_last hx hb hG hP hS hO dX0_wears_8 (fun w1 H locs h9 hf9 hP hS => ?_)
  have hO : lA E w1 o ((r9).toInt64) := h9
  have hC : coS E w1 x N f a mn cn nb := hC.fr hf9 (fun t9 h9 => by simp only [pO] at h9; subst h9; decide)
  have hX : w1 x = some ((94, 0), .inr (1, [.ref (A1 0), .ref (A2 0), .ref (A3 0), .int (f 5), .ref d, .ref b, .int (f 10), .int (f 11), .int (f 12)])) := hf9 _ _ _ hX (by intro z9; first | (simp only [pO, pN, pD, pKp, pT, pB, pBs, pS, pR, pX1, pX2, pXs, pX2t, pX9, Prod.mk.injEq] at z9; done) | (simp only [pO, pN, pD, pKp, pT, pB, pBs, pS, pR, pX1, pX2, pXs, pX2t, pX9, Prod.mk.injEq] at z9; omega))
  have hM : townR E w1 1 A1 (a 0) mn wn ly := hM.frm hf9 (by intro z9; first | (simp only [pO, pN, pD, pKp, pT, pB, pBs, pS, pR, pRd, pRo, Prod.mk.injEq, pX1, pX2, pXs, pX2t] at z9; done) | (simp only [pO, pN, pD, pKp, pT, pB, pBs, pS, pR, pRd, pRo, Prod.mk.injEq, pX1, pX2, pXs, pX2t] at z9; omega)) (fun r9 => (by intro z9; first | (simp only [pO, pN, pD, pKp, pT, pB, pBs, pS, pR, pRd, pRo, Prod.mk.injEq, pX1, pX2, pXs, pX2t] at z9; done) | (simp only [pO, pN, pD, pKp, pT, pB, pBs, pS, pR, pRd, pRo, Prod.mk.injEq, pX1, pX2, pXs, pX2t] at z9; omega)))
  have hM2 : townR E w1 2 A2 u2 m2 wb2 lb2 := hM2.frm hf9 (by intro z9; first | (simp only [pO, pN, pD, pKp, pT, pB, pBs, pS, pR, pRd, pRo, Prod.mk.injEq, pX1, pX2, pXs, pX2t] at z9; done) | (simp only [pO, pN, pD, pKp, pT, pB, pBs, pS, pR, pRd, pRo, Prod.mk.injEq, pX1, pX2, pXs, pX2t] at z9; omega)) (fun r9 => (by intro z9; first | (simp only [pO, pN, pD, pKp, pT, pB, pBs, pS, pR, pRd, pRo, Prod.mk.injEq, pX1, pX2, pXs, pX2t] at z9; done) | (simp only [pO, pN, pD, pKp, pT, pB, pBs, pS, pR, pRd, pRo, Prod.mk.injEq, pX1, pX2, pXs, pX2t] at z9; omega)))
  have hM3 : townR E w1 3 A3 u3 m3 wb3 lb3 := hM3.frm hf9 (by intro z9; first | (simp only [pO, pN, pD, pKp, pT, pB, pBs, pS, pR, pRd, pRo, Prod.mk.injEq, pX1, pX2, pXs, pX2t] at z9; done) | (simp only [pO, pN, pD, pKp, pT, pB, pBs, pS, pR, pRd, pRo, Prod.mk.injEq, pX1, pX2, pXs, pX2t] at z9; omega)) (fun r9 => (by intro z9; first | (simp only [pO, pN, pD, pKp, pT, pB, pBs, pS, pR, pRd, pRo, Prod.mk.injEq, pX1, pX2, pXs, pX2t] at z9; done) | (simp only [pO, pN, pD, pKp, pT, pB, pBs, pS, pR, pRd, pRo, Prod.mk.injEq, pX1, pX2, pXs, pX2t] at z9; omega)))
  have hK : kpR E w1 d cn I (kRw a) mk := hK.fr hf9 (by intro z9; first | (simp only [pO, pN, pD, pKp, pT, pB, pBs, pS, pR, pRd, pRo, Prod.mk.injEq, pX1, pX2, pXs, pX2t] at z9; done) | (simp only [pO, pN, pD, pKp, pT, pB, pBs, pS, pR, pRd, pRo, Prod.mk.injEq, pX1, pX2, pXs, pX2t] at z9; omega)) (fun i9 r9 h7 h8 => (by intro z9; first | (simp only [pO, pN, pD, pKp, pT, pB, pBs, pS, pR, pRd, pRo, Prod.mk.injEq, pX1, pX2, pXs, pX2t] at z9; done) | (simp only [pO, pN, pD, pKp, pT, pB, pBs, pS, pR, pRd, pRo, Prod.mk.injEq, pX1, pX2, pXs, pX2t] at z9; omega)))
  have hSB : sbR E w1 b (a 8) nb := hSB.fr hf9 (by intro z9; first | (simp only [pO, pN, pD, pKp, pT, pB, pBs, pS, pR, pRd, pRo, Prod.mk.injEq, pX1, pX2, pXs, pX2t] at z9; done) | (simp only [pO, pN, pD, pKp, pT, pB, pBs, pS, pR, pRd, pRo, Prod.mk.injEq, pX1, pX2, pXs, pX2t] at z9; omega)) (by intro z9; first | (simp only [pO, pN, pD, pKp, pT, pB, pBs, pS, pR, pRd, pRo, Prod.mk.injEq, pX1, pX2, pXs, pX2t] at z9; done) | (simp only [pO, pN, pD, pKp, pT, pB, pBs, pS, pR, pRd, pRo, Prod.mk.injEq, pX1, pX2, pXs, pX2t] at z9; omega))
  have hF : fr pW w0 w1 := hF.tr (hf9.up (fun t9 h9 => by simp only [pO, pN, pD, pKp, pT, pB, pBs, pS, pR, pX1, pX2, pXs, pX2t, pX9, pW, pWd] at h9 ⊢; first | (subst h9; simp; done) | (subst h9; omega) | omega | (rcases h9 with h9 | h9 <;> first | (subst h9; simp; done) | (subst h9; omega) | omega)))
  refine lv_goto (tgt := 15) hx hb dX0_wears_9 (by decide) ?_
  refine lv_iconst (v := 0) hx hb dX0_wears_15 (by decide) ?_
  exact kx_iret hx hb hr hlocks hQ hP hS (by omega) (by omega) dX0_wears_16 (⟨((r9).toInt64), ⟨hq0.symm, fun _ => by rw [hq1]⟩, ⟨hO, hC, trivial⟩, hF⟩)

abbrev rmCX0_cause : Room := { frames := 10, cells := 40, slots := 220, locals := 167 }
theorem dyX0_cause : yX0_cause.cls ≠ "java/lang/invoke/MethodHandle" ∧ yX0_cause.cls ≠ "java/lang/invoke/VarHandle" ∧ (parseMethodDescriptor yX0_cause.desc).map (fun d => d.parameters.length) = some 4 := by decide +kernel
set_option maxHeartbeats 4000000 in
theorem CX0_cause (l0 : Launch) (hl0 : l0.stackTraces = false) (E : gE) (w : wd) (x : Nat) (o : Nat) (f : Nat → Int32) (a : Nat → Nat → Int32) (mn : Nat) (cn : Nat) (nb : Nat) (N : Nat) (v0 : Int64) (y : Int32) (z : Int32) (hC : coS E w x N f a mn cn nb) (hO : lA E w o v0) : kX l0 yX0_cause (wsW_ yX0_cause cX0_cause 5 (some .int) [(0, 10, 13, 13), (0, 10, 17, 57)]) rmCX0_cause 40 220 mI E w [.ref x, .int y, .int z, .ref o] (fun r w' => ∃ v9 : Int64, (r = (qCau (a 0) y z).1 ∧ ((qCau (a 0) y z).1 = 0 → v9 = ((qCau (a 0) y z).2).toInt64)) ∧ (lA E w' o v9 ∧ coS E w' x N f a mn cn nb ∧ True) ∧ fr pW w w') (fun _ _ _ => False) := by
  refine kx_openH (hh := [(0, 10, 13, 13), (0, 10, 17, 57)]) (cc := cX0_cause) (maxL := 5) (ret := (some .int)) (by decide) rfl (Nat.le_of_ble_eq_true rfl) ?_
  intro p e s m args below meth c ls Q hx hb hr hml hown hts hlocks hname ht hQ hG hP hl hS
  have hl : lv_has ls 5 [(0, .ref x), (1, .int y), (2, .int z), (3, .ref o)] := hl
  obtain ⟨w0, hw0⟩ : ∃ z, z = w := ⟨_, rfl⟩
  have hF : fr pW w0 w := by rw [hw0]; exact fr.rf
  rw [← hw0] at hQ
  have hC0 := hC
  obtain ⟨A1, A2, A3, d, b, wn, ly, I, mk, hX, ⟨hM, hI⟩, ⟨u2, m2, wb2, lb2, hM2⟩, ⟨u3, m3, wb3, lb3, hM3, hs3⟩, ⟨hK, hKI⟩, ⟨hSB, hcB⟩, ⟨hf9n, hf6, hf7, hf11⟩⟩ := hC0
  have hc8 := hK.le
  have hm6 := hM.m25
  refine lv_aload_n hx hb dX0_cause_0 rfl (lv_at hl 3 rfl) ?_
  refine lv_iconst (v := 0) hx hb dX0_cause_1 (by decide) ?_
  refine lv_aload_n hx hb dX0_cause_2 rfl (lv_at hl 0 rfl) ?_
  refine lv_iload_n hx hb dX0_cause_3 rfl (lv_at hl 1 rfl) ?_
  refine lv_iload_n hx hb dX0_cause_4 rfl (lv_at hl 2 rfl) ?_
  refine kx_cVG hx hb hml hown hts (CX1_cause l0 hl0 E w x A1 A2 A3 d b (f 5) (f 10) (f 11) (f 12) (a 0) mn wn ly y z N hI hX hM) (cwV 2 hts (lw_V q1053 q1054 q1055 q69 q1056) rfl rfl rfl dyX1_cause ⟨Nat.le_of_ble_eq_true rfl, Nat.le_of_ble_eq_true rfl⟩) hG hP hS hX rfl (As := [.int y, .int z]) (rest := [.int 0, .ref o]) rfl hl.1 rfl (lv_room (Nat.le_of_ble_eq_true rfl)) dX0_cause_5 ⟨show 0 + 3 ≤ 40 from by omega, show 0 + 20 ≤ 220 from by omega⟩ (fun X9 ce9 q9 w9 H locs hp hP hS hcell hcv hcl => ?_) (fun r9 w9 H locs hp hP hS => ?_)
  · skip
    obtain ⟨hm, hw9⟩ := hp
    rw [hw9] at hP
    simp only [List.mem_cons, List.not_mem_nil, or_false, Prod.mk.injEq] at hm
    rcases hm with ⟨hX9, hq⟩ | ⟨hX9, hq⟩
    · skip
      subst hX9
      refine vx_catch (own := "KiteRoofsLaw") (name := "java/lang/IndexOutOfBoundsException") hown [] ⟨0, 10, 13, 13⟩ [⟨0, 10, 17, 57⟩] (by rw [ht]; rfl) (fun z hz => nomatch hz) (by decide) (by decide) (hts _ q365) (va_Nw.use rfl (hG.2.1.1 _ q461 rfl)) hcell hcv hcl ?_
      show W p l0 e rmCX0_cause s m args below meth c H locs (0 + 3) (0 + 20) Q (F0 m 13 ls [.ref q9])
      refine lv_astore (lv' := [(4, .ref q9), (0, .ref x), (1, .int y), (2, .int z), (3, .ref o)]) hx hb dX0_cause_13 hl (by decide) rfl (fun ls hl => ?_)
      refine lv_iconst (v := 1) hx hb dX0_cause_15 (by decide) ?_
      exact kx_iret hx hb hr hlocks hQ hP hS (by omega) (by omega) dX0_cause_16 (⟨v0, ⟨hq.symm, fun e9 => absurd (hq.symm.trans e9) (by decide)⟩, ⟨hO, hC, trivial⟩, hF⟩)
    · skip
      subst hX9
      refine vx_catch (own := "KiteRoofsLaw") (name := "java/util/NoSuchElementException") hown [⟨0, 10, 13, 13⟩] ⟨0, 10, 17, 57⟩ [] (by rw [ht]; rfl) (by intro z hz; simp only [List.mem_cons, List.not_mem_nil, or_false] at hz; rcases hz with rfl; exact Or.inr ⟨by decide, _, hts _ q365, hG.2.1.2.1 (RJ17, RJ10) (List.mem_of_getElem? (i := 29) rfl)⟩) (by decide) (by decide) (hts _ q896) (va_Nw.use rfl (hG.2.1.1 _ q906 rfl)) hcell hcv hcl ?_
      show W p l0 e rmCX0_cause s m args below meth c H locs (0 + 3) (0 + 20) Q (F0 m 17 ls [.ref q9])
      refine lv_astore (lv' := [(4, .ref q9), (0, .ref x), (1, .int y), (2, .int z), (3, .ref o)]) hx hb dX0_cause_17 hl (by decide) rfl (fun ls hl => ?_)
      refine lv_iconst (v := 2) hx hb dX0_cause_19 (by decide) ?_
      exact kx_iret hx hb hr hlocks hQ hP hS (by omega) (by omega) dX0_cause_20 (⟨v0, ⟨hq.symm, fun e9 => absurd (hq.symm.trans e9) (by decide)⟩, ⟨hO, hC, trivial⟩, hF⟩)
  obtain ⟨hp1, hp0⟩ := hp
  rw [hp1] at hP
  obtain ⟨hq0, hq1⟩ := hp0
  show W p l0 e rmCX0_cause s m args below meth c H locs (0 + 3) (0 + 20) Q (F0 m 8 ls [.int r9, .int 0, .ref o])
  refine lv_i2l hx hb dX0_cause_8 rfl ?_
  refine k_last hx hb hG hP hS hO dX0_cause_9 (fun w1 H locs h9 hf9 hP hS => ?_)
  have hO : lA E w1 o ((r9).toInt64) := h9
  have hC : coS E w1 x N f a mn cn nb := hC.fr hf9 (fun t9 h9 => by simp only [pO] at h9; subst h9; decide)
  have hX : w1 x = some ((94, 0), .inr (1, [.ref (A1 0), .ref (A2 0), .ref (A3 0), .int (f 5), .ref d, .ref b, .int (f 10), .int (f 11), .int (f 12)])) := hf9 _ _ _ hX (by intro z9; first | (simp only [pO, pN, pD, pKp, pT, pB, pBs, pS, pR, pX1, pX2, pXs, pX2t, pX9, Prod.mk.injEq] at z9; done) | (simp only [pO, pN, pD, pKp, pT, pB, pBs, pS, pR, pX1, pX2, pXs, pX2t, pX9, Prod.mk.injEq] at z9; omega))
  have hM : townR E w1 1 A1 (a 0) mn wn ly := hM.frm hf9 (by intro z9; first | (simp only [pO, pN, pD, pKp, pT, pB, pBs, pS, pR, pRd, pRo, Prod.mk.injEq, pX1, pX2, pXs, pX2t] at z9; done) | (simp only [pO, pN, pD, pKp, pT, pB, pBs, pS, pR, pRd, pRo, Prod.mk.injEq, pX1, pX2, pXs, pX2t] at z9; omega)) (fun r9 => (by intro z9; first | (simp only [pO, pN, pD, pKp, pT, pB, pBs, pS, pR, pRd, pRo, Prod.mk.injEq, pX1, pX2, pXs, pX2t] at z9; done) | (simp only [pO, pN, pD, pKp, pT, pB, pBs, pS, pR, pRd, pRo, Prod.mk.injEq, pX1, pX2, pXs, pX2t] at z9; omega)))
  have hM2 : townR E w1 2 A2 u2 m2 wb2 lb2 := hM2.frm hf9 (by intro z9; first | (simp only [pO, pN, pD, pKp, pT, pB, pBs, pS, pR, pRd, pRo, Prod.mk.injEq, pX1, pX2, pXs, pX2t] at z9; done) | (simp only [pO, pN, pD, pKp, pT, pB, pBs, pS, pR, pRd, pRo, Prod.mk.injEq, pX1, pX2, pXs, pX2t] at z9; omega)) (fun r9 => (by intro z9; first | (simp only [pO, pN, pD, pKp, pT, pB, pBs, pS, pR, pRd, pRo, Prod.mk.injEq, pX1, pX2, pXs, pX2t] at z9; done) | (simp only [pO, pN, pD, pKp, pT, pB, pBs, pS, pR, pRd, pRo, Prod.mk.injEq, pX1, pX2, pXs, pX2t] at z9; omega)))
  have hM3 : townR E w1 3 A3 u3 m3 wb3 lb3 := hM3.frm hf9 (by intro z9; first | (simp only [pO, pN, pD, pKp, pT, pB, pBs, pS, pR, pRd, pRo, Prod.mk.injEq, pX1, pX2, pXs, pX2t] at z9; done) | (simp only [pO, pN, pD, pKp, pT, pB, pBs, pS, pR, pRd, pRo, Prod.mk.injEq, pX1, pX2, pXs, pX2t] at z9; omega)) (fun r9 => (by intro z9; first | (simp only [pO, pN, pD, pKp, pT, pB, pBs, pS, pR, pRd, pRo, Prod.mk.injEq, pX1, pX2, pXs, pX2t] at z9; done) | (simp only [pO, pN, pD, pKp, pT, pB, pBs, pS, pR, pRd, pRo, Prod.mk.injEq, pX1, pX2, pXs, pX2t] at z9; omega)))
  have hK : kpR E w1 d cn I (kRw a) mk := hK.fr hf9 (by intro z9; first | (simp only [pO, pN, pD, pKp, pT, pB, pBs, pS, pR, pRd, pRo, Prod.mk.injEq, pX1, pX2, pXs, pX2t] at z9; done) | (simp only [pO, pN, pD, pKp, pT, pB, pBs, pS, pR, pRd, pRo, Prod.mk.injEq, pX1, pX2, pXs, pX2t] at z9; omega)) (fun i9 r9 h7 h8 => (by intro z9; first | (simp only [pO, pN, pD, pKp, pT, pB, pBs, pS, pR, pRd, pRo, Prod.mk.injEq, pX1, pX2, pXs, pX2t] at z9; done) | (simp only [pO, pN, pD, pKp, pT, pB, pBs, pS, pR, pRd, pRo, Prod.mk.injEq, pX1, pX2, pXs, pX2t] at z9; omega)))
  have hSB : sbR E w1 b (a 8) nb := hSB.fr hf9 (by intro z9; first | (simp only [pO, pN, pD, pKp, pT, pB, pBs, pS, pR, pRd, pRo, Prod.mk.injEq, pX1, pX2, pXs, pX2t] at z9; done) | (simp only [pO, pN, pD, pKp, pT, pB, pBs, pS, pR, pRd, pRo, Prod.mk.injEq, pX1, pX2, pXs, pX2t] at z9; omega)) (by intro z9; first | (simp only [pO, pN, pD, pKp, pT, pB, pBs, pS, pR, pRd, pRo, Prod.mk.injEq, pX1, pX2, pXs, pX2t] at z9; done) | (simp only [pO, pN, pD, pKp, pT, pB, pBs, pS, pR, pRd, pRo, Prod.mk.injEq, pX1, pX2, pXs, pX2t] at z9; omega))
  have hF : fr pW w0 w1 := hF.tr (hf9.up (fun t9 h9 => by simp only [pO, pN, pD, pKp, pT, pB, pBs, pS, pR, pX1, pX2, pXs, pX2t, pX9, pW, pWd] at h9 ⊢; first | (subst h9; simp; done) | (subst h9; omega) | omega | (rcases h9 with h9 | h9 <;> first | (subst h9; simp; done) | (subst h9; omega) | omega)))
  refine lv_goto (tgt := 21) hx hb dX0_cause_10 (by decide) ?_
  refine lv_iconst (v := 0) hx hb dX0_cause_21 (by decide) ?_
  exact kx_iret hx hb hr hlocks hQ hP hS (by omega) (by omega) dX0_cause_22 (⟨((r9).toInt64), ⟨hq0.symm, fun _ => by rw [hq1]⟩, ⟨hO, hC, trivial⟩, hF⟩)

abbrev rmCX0_leader : Room := { frames := 9, cells := 40, slots := 220, locals := 142 }
theorem dyX0_leader : yX0_leader.cls ≠ "java/lang/invoke/MethodHandle" ∧ yX0_leader.cls ≠ "java/lang/invoke/VarHandle" ∧ (parseMethodDescriptor yX0_leader.desc).map (fun d => d.parameters.length) = some 2 := by decide +kernel
set_option maxHeartbeats 4000000 in
theorem CX0_leader (l0 : Launch) (hl0 : l0.stackTraces = false) (E : gE) (w : wd) (x : Nat) (o : Nat) (f : Nat → Int32) (a : Nat → Nat → Int32) (mn : Nat) (cn : Nat) (nb : Nat) (N : Nat) (v0 : Int64) (hC : coS E w x N f a mn cn nb) (hO : lA E w o v0) : kX l0 yX0_leader (wsW_ yX0_leader cX0_leader 3 (some .int) [(0, 8, 11, 57)]) rmCX0_leader 40 220 mI E w [.ref x, .ref o] (fun r w' => ∃ v9 : Int64, (r = (qLea (a 0) mn).1 ∧ ((qLea (a 0) mn).1 = 0 → v9 = ((qLea (a 0) mn).2).toInt64)) ∧ (lA E w' o v9 ∧ coS E w' x N f a mn cn nb ∧ True) ∧ fr pW w w') (fun _ _ _ => False) := by
  refine kx_openH (hh := [(0, 8, 11, 57)]) (cc := cX0_leader) (maxL := 3) (ret := (some .int)) (by decide) rfl (Nat.le_of_ble_eq_true rfl) ?_
  intro p e s m args below meth c ls Q hx hb hr hml hown hts hlocks hname ht hQ hG hP hl hS
  have hl : lv_has ls 3 [(0, .ref x), (1, .ref o)] := hl
  obtain ⟨w0, hw0⟩ : ∃ z, z = w := ⟨_, rfl⟩
  have hF : fr pW w0 w := by rw [hw0]; exact fr.rf
  rw [← hw0] at hQ
  have hC0 := hC
  obtain ⟨A1, A2, A3, d, b, wn, ly, I, mk, hX, ⟨hM, hI⟩, ⟨u2, m2, wb2, lb2, hM2⟩, ⟨u3, m3, wb3, lb3, hM3, hs3⟩, ⟨hK, hKI⟩, ⟨hSB, hcB⟩, ⟨hf9n, hf6, hf7, hf11⟩⟩ := hC0
  have hc8 := hK.le
  have hm6 := hM.m25
  refine lv_aload_n hx hb dX0_leader_0 rfl (lv_at hl 1 rfl) ?_
  refine lv_iconst (v := 0) hx hb dX0_leader_1 (by decide) ?_
  refine lv_aload_n hx hb dX0_leader_2 rfl (lv_at hl 0 rfl) ?_
  refine kx_cVG hx hb hml hown hts (CX1_leader l0 hl0 E w x A1 A2 A3 d b (f 5) (f 10) (f 11) (f 12) (a 0) mn wn ly hX hM) (cwV 0 hts (lw_V q1065 q1066 q1067 q69 q1068) rfl rfl rfl dyX1_leader ⟨Nat.le_of_ble_eq_true rfl, Nat.le_of_ble_eq_true rfl⟩) hG hP hS hX rfl (As := []) (rest := [.int 0, .ref o]) rfl hl.1 rfl (lv_room (Nat.le_of_ble_eq_true rfl)) dX0_leader_3 ⟨show 0 + 3 ≤ 40 from by omega, show 0 + 20 ≤ 220 from by omega⟩ (fun X9 ce9 q9 w9 H locs hp hP hS hcell hcv hcl => ?_) (fun r9 w9 H locs hp hP hS => ?_)
  · skip
    obtain ⟨hm, hw9⟩ := hp
    rw [hw9] at hP
    simp only [List.mem_cons, List.not_mem_nil, or_false, Prod.mk.injEq] at hm
    obtain ⟨hX9, hq⟩ := hm
    subst hX9
    refine vx_catch (own := "KiteRoofsLaw") (name := "java/util/NoSuchElementException") hown [] ⟨0, 8, 11, 57⟩ [] (by rw [ht]; rfl) (fun z hz => nomatch hz) (by decide) (by decide) (hts _ q896) (va_Nw.use rfl (hG.2.1.1 _ q906 rfl)) hcell hcv hcl ?_
    show W p l0 e rmCX0_leader s m args below meth c H locs (0 + 3) (0 + 20) Q (F0 m 11 ls [.ref q9])
    refine lv_astore_n (lv' := [(2, .ref q9), (0, .ref x), (1, .ref o)]) hx hb dX0_leader_11 rfl hl (by decide) rfl (fun ls hl => ?_)
    refine lv_iconst (v := 1) hx hb dX0_leader_12 (by decide) ?_
    exact kx_iret hx hb hr hlocks hQ hP hS (by omega) (by omega) dX0_leader_13 (⟨v0, ⟨hq.symm, fun e9 => absurd (hq.symm.trans e9) (by decide)⟩, ⟨hO, hC, trivial⟩, hF⟩)
  obtain ⟨hp1, hp0⟩ := hp
  rw [hp1] at hP
  obtain ⟨hq0, hq1⟩ := hp0
  show W p l0 e rmCX0_leader s m args below meth c H locs (0 + 3) (0 + 20) Q (F0 m 6 ls [.int r9, .int 0, .ref o])
  refine lv_i2l hx hb dX0_leader_6 rfl ?_
  refine k_last hx hb hG hP hS hO dX0_leader_7 (fun w1 H locs h9 hf9 hP hS => ?_)
  have hO : lA E w1 o ((r9).toInt64) := h9
  have hC : coS E w1 x N f a mn cn nb := hC.fr hf9 (fun t9 h9 => by simp only [pO] at h9; subst h9; decide)
  have hX : w1 x = some ((94, 0), .inr (1, [.ref (A1 0), .ref (A2 0), .ref (A3 0), .int (f 5), .ref d, .ref b, .int (f 10), .int (f 11), .int (f 12)])) := hf9 _ _ _ hX (by intro z9; first | (simp only [pO, pN, pD, pKp, pT, pB, pBs, pS, pR, pX1, pX2, pXs, pX2t, pX9, Prod.mk.injEq] at z9; done) | (simp only [pO, pN, pD, pKp, pT, pB, pBs, pS, pR, pX1, pX2, pXs, pX2t, pX9, Prod.mk.injEq] at z9; omega))
  have hM : townR E w1 1 A1 (a 0) mn wn ly := hM.frm hf9 (by intro z9; first | (simp only [pO, pN, pD, pKp, pT, pB, pBs, pS, pR, pRd, pRo, Prod.mk.injEq, pX1, pX2, pXs, pX2t] at z9; done) | (simp only [pO, pN, pD, pKp, pT, pB, pBs, pS, pR, pRd, pRo, Prod.mk.injEq, pX1, pX2, pXs, pX2t] at z9; omega)) (fun r9 => (by intro z9; first | (simp only [pO, pN, pD, pKp, pT, pB, pBs, pS, pR, pRd, pRo, Prod.mk.injEq, pX1, pX2, pXs, pX2t] at z9; done) | (simp only [pO, pN, pD, pKp, pT, pB, pBs, pS, pR, pRd, pRo, Prod.mk.injEq, pX1, pX2, pXs, pX2t] at z9; omega)))
  have hM2 : townR E w1 2 A2 u2 m2 wb2 lb2 := hM2.frm hf9 (by intro z9; first | (simp only [pO, pN, pD, pKp, pT, pB, pBs, pS, pR, pRd, pRo, Prod.mk.injEq, pX1, pX2, pXs, pX2t] at z9; done) | (simp only [pO, pN, pD, pKp, pT, pB, pBs, pS, pR, pRd, pRo, Prod.mk.injEq, pX1, pX2, pXs, pX2t] at z9; omega)) (fun r9 => (by intro z9; first | (simp only [pO, pN, pD, pKp, pT, pB, pBs, pS, pR, pRd, pRo, Prod.mk.injEq, pX1, pX2, pXs, pX2t] at z9; done) | (simp only [pO, pN, pD, pKp, pT, pB, pBs, pS, pR, pRd, pRo, Prod.mk.injEq, pX1, pX2, pXs, pX2t] at z9; omega)))
  have hM3 : townR E w1 3 A3 u3 m3 wb3 lb3 := hM3.frm hf9 (by intro z9; first | (simp only [pO, pN, pD, pKp, pT, pB, pBs, pS, pR, pRd, pRo, Prod.mk.injEq, pX1, pX2, pXs, pX2t] at z9; done) | (simp only [pO, pN, pD, pKp, pT, pB, pBs, pS, pR, pRd, pRo, Prod.mk.injEq, pX1, pX2, pXs, pX2t] at z9; omega)) (fun r9 => (by intro z9; first | (simp only [pO, pN, pD, pKp, pT, pB, pBs, pS, pR, pRd, pRo, Prod.mk.injEq, pX1, pX2, pXs, pX2t] at z9; done) | (simp only [pO, pN, pD, pKp, pT, pB, pBs, pS, pR, pRd, pRo, Prod.mk.injEq, pX1, pX2, pXs, pX2t] at z9; omega)))
  have hK : kpR E w1 d cn I (kRw a) mk := hK.fr hf9 (by intro z9; first | (simp only [pO, pN, pD, pKp, pT, pB, pBs, pS, pR, pRd, pRo, Prod.mk.injEq, pX1, pX2, pXs, pX2t] at z9; done) | (simp only [pO, pN, pD, pKp, pT, pB, pBs, pS, pR, pRd, pRo, Prod.mk.injEq, pX1, pX2, pXs, pX2t] at z9; omega)) (fun i9 r9 h7 h8 => (by intro z9; first | (simp only [pO, pN, pD, pKp, pT, pB, pBs, pS, pR, pRd, pRo, Prod.mk.injEq, pX1, pX2, pXs, pX2t] at z9; done) | (simp only [pO, pN, pD, pKp, pT, pB, pBs, pS, pR, pRd, pRo, Prod.mk.injEq, pX1, pX2, pXs, pX2t] at z9; omega)))
  have hSB : sbR E w1 b (a 8) nb := hSB.fr hf9 (by intro z9; first | (simp only [pO, pN, pD, pKp, pT, pB, pBs, pS, pR, pRd, pRo, Prod.mk.injEq, pX1, pX2, pXs, pX2t] at z9; done) | (simp only [pO, pN, pD, pKp, pT, pB, pBs, pS, pR, pRd, pRo, Prod.mk.injEq, pX1, pX2, pXs, pX2t] at z9; omega)) (by intro z9; first | (simp only [pO, pN, pD, pKp, pT, pB, pBs, pS, pR, pRd, pRo, Prod.mk.injEq, pX1, pX2, pXs, pX2t] at z9; done) | (simp only [pO, pN, pD, pKp, pT, pB, pBs, pS, pR, pRd, pRo, Prod.mk.injEq, pX1, pX2, pXs, pX2t] at z9; omega))
  have hF : fr pW w0 w1 := hF.tr (hf9.up (fun t9 h9 => by simp only [pO, pN, pD, pKp, pT, pB, pBs, pS, pR, pX1, pX2, pXs, pX2t, pX9, pW, pWd] at h9 ⊢; first | (subst h9; simp; done) | (subst h9; omega) | omega | (rcases h9 with h9 | h9 <;> first | (subst h9; simp; done) | (subst h9; omega) | omega)))
  refine lv_goto (tgt := 14) hx hb dX0_leader_8 (by decide) ?_
  refine lv_iconst (v := 0) hx hb dX0_leader_14 (by decide) ?_
  exact kx_iret hx hb hr hlocks hQ hP hS (by omega) (by omega) dX0_leader_15 (⟨((r9).toInt64), ⟨hq0.symm, fun _ => by rw [hq1]⟩, ⟨hO, hC, trivial⟩, hF⟩)

abbrev rmCX0_refusal : Room := { frames := 9, cells := 40, slots := 220, locals := 141 }
theorem dyX0_refusal : yX0_refusal.cls ≠ "java/lang/invoke/MethodHandle" ∧ yX0_refusal.cls ≠ "java/lang/invoke/VarHandle" ∧ (parseMethodDescriptor yX0_refusal.desc).map (fun d => d.parameters.length) = some 3 := by decide +kernel
set_option maxHeartbeats 4000000 in
theorem CX0_refusal (l0 : Launch) (hl0 : l0.stackTraces = false) (E : gE) (w : wd) (x : Nat) (o : Nat) (f : Nat → Int32) (a : Nat → Nat → Int32) (mn : Nat) (cn : Nat) (nb : Nat) (N : Nat) (v0 : Int64) (zb : Bool) (hC : coS E w x N f a mn cn nb) (hO : lA E w o v0) : kX l0 yX0_refusal (wsW_ yX0_refusal cX0_refusal 4 (some .int) [(0, 9, 12, 57)]) rmCX0_refusal 40 220 mI E w [.ref x, .int (bI zb), .ref o] (fun r w' => ∃ v9 : Int64, (r = (qRf (f 11) (f 12) zb).1 ∧ ((qRf (f 11) (f 12) zb).1 = 0 → v9 = ((qRf (f 11) (f 12) zb).2).toInt64)) ∧ (lA E w' o v9 ∧ coS E w' x N f a mn cn nb ∧ True) ∧ fr pW w w') (fun _ _ _ => False) := by
  refine kx_openH (hh := [(0, 9, 12, 57)]) (cc := cX0_refusal) (maxL := 4) (ret := (some .int)) (by decide) rfl (Nat.le_of_ble_eq_true rfl) ?_
  intro p e s m args below meth c ls Q hx hb hr hml hown hts hlocks hname ht hQ hG hP hl hS
  have hl : lv_has ls 4 [(0, .ref x), (1, .int (bI zb)), (2, .ref o)] := hl
  obtain ⟨w0, hw0⟩ : ∃ z, z = w := ⟨_, rfl⟩
  have hF : fr pW w0 w := by rw [hw0]; exact fr.rf
  rw [← hw0] at hQ
  have hC0 := hC
  obtain ⟨A1, A2, A3, d, b, wn, ly, I, mk, hX, ⟨hM, hI⟩, ⟨u2, m2, wb2, lb2, hM2⟩, ⟨u3, m3, wb3, lb3, hM3, hs3⟩, ⟨hK, hKI⟩, ⟨hSB, hcB⟩, ⟨hf9n, hf6, hf7, hf11⟩⟩ := hC0
  have hc8 := hK.le
  have hm6 := hM.m25
  refine lv_aload_n hx hb dX0_refusal_0 rfl (lv_at hl 2 rfl) ?_
  refine lv_iconst (v := 0) hx hb dX0_refusal_1 (by decide) ?_
  refine lv_aload_n hx hb dX0_refusal_2 rfl (lv_at hl 0 rfl) ?_
  refine lv_iload_n hx hb dX0_refusal_3 rfl (lv_at hl 1 rfl) ?_
  refine kx_cVG hx hb hml hown hts (CX1_refusal l0 hl0 E w x A1 A2 A3 d b (f 5) (f 10) (f 11) (f 12) zb hf11 hX) (cwV 1 hts (lw_V q1517 q1518 q1519 q69 q1520) rfl rfl rfl dyX1_refusal ⟨Nat.le_of_ble_eq_true rfl, Nat.le_of_ble_eq_true rfl⟩) hG hP hS hX rfl (As := [.int (bI zb)]) (rest := [.int 0, .ref o]) rfl hl.1 rfl (lv_room (Nat.le_of_ble_eq_true rfl)) dX0_refusal_4 ⟨show 0 + 1 ≤ 40 from by omega, show 0 + 6 ≤ 220 from by omega⟩ (fun X9 ce9 q9 w9 H locs hp hP hS hcell hcv hcl => ?_) (fun r9 w9 H locs hp hP hS => ?_)
  · skip
    obtain ⟨hm, hw9⟩ := hp
    rw [hw9] at hP
    simp only [List.mem_cons, List.not_mem_nil, or_false, Prod.mk.injEq] at hm
    obtain ⟨hX9, hq⟩ := hm
    subst hX9
    refine vx_catch (own := "KiteRoofsLaw") (name := "java/util/NoSuchElementException") hown [] ⟨0, 9, 12, 57⟩ [] (by rw [ht]; rfl) (fun z hz => nomatch hz) (by decide) (by decide) (hts _ q896) (va_Nw.use rfl (hG.2.1.1 _ q906 rfl)) hcell hcv hcl ?_
    show W p l0 e rmCX0_refusal s m args below meth c H locs (0 + 1) (0 + 6) Q (F0 m 12 ls [.ref q9])
    refine lv_astore_n (lv' := [(3, .ref q9), (0, .ref x), (1, .int (bI zb)), (2, .ref o)]) hx hb dX0_refusal_12 rfl hl (by decide) rfl (fun ls hl => ?_)
    refine lv_iconst (v := 1) hx hb dX0_refusal_13 (by decide) ?_
    exact kx_iret hx hb hr hlocks hQ hP hS (by omega) (by omega) dX0_refusal_14 (⟨v0, ⟨hq.symm, fun e9 => absurd (hq.symm.trans e9) (by decide)⟩, ⟨hO, hC, trivial⟩, hF⟩)
  obtain ⟨hp1, hp0⟩ := hp
  rw [hp1] at hP
  obtain ⟨hq0, hq1⟩ := hp0
  show W p l0 e rmCX0_refusal s m args below meth c H locs (0 + 1) (0 + 6) Q (F0 m 7 ls [.int r9, .int 0, .ref o])
  refine lv_i2l hx hb dX0_refusal_7 rfl ?_
  refine k_last hx hb hG hP hS hO dX0_refusal_8 (fun w1 H locs h9 hf9 hP hS => ?_)
  have hO : lA E w1 o ((r9).toInt64) := h9
  have hC : coS E w1 x N f a mn cn nb := hC.fr hf9 (fun t9 h9 => by simp only [pO] at h9; subst h9; decide)
  have hX : w1 x = some ((94, 0), .inr (1, [.ref (A1 0), .ref (A2 0), .ref (A3 0), .int (f 5), .ref d, .ref b, .int (f 10), .int (f 11), .int (f 12)])) := hf9 _ _ _ hX (by intro z9; first | (simp only [pO, pN, pD, pKp, pT, pB, pBs, pS, pR, pX1, pX2, pXs, pX2t, pX9, Prod.mk.injEq] at z9; done) | (simp only [pO, pN, pD, pKp, pT, pB, pBs, pS, pR, pX1, pX2, pXs, pX2t, pX9, Prod.mk.injEq] at z9; omega))
  have hM : townR E w1 1 A1 (a 0) mn wn ly := hM.frm hf9 (by intro z9; first | (simp only [pO, pN, pD, pKp, pT, pB, pBs, pS, pR, pRd, pRo, Prod.mk.injEq, pX1, pX2, pXs, pX2t] at z9; done) | (simp only [pO, pN, pD, pKp, pT, pB, pBs, pS, pR, pRd, pRo, Prod.mk.injEq, pX1, pX2, pXs, pX2t] at z9; omega)) (fun r9 => (by intro z9; first | (simp only [pO, pN, pD, pKp, pT, pB, pBs, pS, pR, pRd, pRo, Prod.mk.injEq, pX1, pX2, pXs, pX2t] at z9; done) | (simp only [pO, pN, pD, pKp, pT, pB, pBs, pS, pR, pRd, pRo, Prod.mk.injEq, pX1, pX2, pXs, pX2t] at z9; omega)))
  have hM2 : townR E w1 2 A2 u2 m2 wb2 lb2 := hM2.frm hf9 (by intro z9; first | (simp only [pO, pN, pD, pKp, pT, pB, pBs, pS, pR, pRd, pRo, Prod.mk.injEq, pX1, pX2, pXs, pX2t] at z9; done) | (simp only [pO, pN, pD, pKp, pT, pB, pBs, pS, pR, pRd, pRo, Prod.mk.injEq, pX1, pX2, pXs, pX2t] at z9; omega)) (fun r9 => (by intro z9; first | (simp only [pO, pN, pD, pKp, pT, pB, pBs, pS, pR, pRd, pRo, Prod.mk.injEq, pX1, pX2, pXs, pX2t] at z9; done) | (simp only [pO, pN, pD, pKp, pT, pB, pBs, pS, pR, pRd, pRo, Prod.mk.injEq, pX1, pX2, pXs, pX2t] at z9; omega)))
  have hM3 : townR E w1 3 A3 u3 m3 wb3 lb3 := hM3.frm hf9 (by intro z9; first | (simp only [pO, pN, pD, pKp, pT, pB, pBs, pS, pR, pRd, pRo, Prod.mk.injEq, pX1, pX2, pXs, pX2t] at z9; done) | (simp only [pO, pN, pD, pKp, pT, pB, pBs, pS, pR, pRd, pRo, Prod.mk.injEq, pX1, pX2, pXs, pX2t] at z9; omega)) (fun r9 => (by intro z9; first | (simp only [pO, pN, pD, pKp, pT, pB, pBs, pS, pR, pRd, pRo, Prod.mk.injEq, pX1, pX2, pXs, pX2t] at z9; done) | (simp only [pO, pN, pD, pKp, pT, pB, pBs, pS, pR, pRd, pRo, Prod.mk.injEq, pX1, pX2, pXs, pX2t] at z9; omega)))
  have hK : kpR E w1 d cn I (kRw a) mk := hK.fr hf9 (by intro z9; first | (simp only [pO, pN, pD, pKp, pT, pB, pBs, pS, pR, pRd, pRo, Prod.mk.injEq, pX1, pX2, pXs, pX2t] at z9; done) | (simp only [pO, pN, pD, pKp, pT, pB, pBs, pS, pR, pRd, pRo, Prod.mk.injEq, pX1, pX2, pXs, pX2t] at z9; omega)) (fun i9 r9 h7 h8 => (by intro z9; first | (simp only [pO, pN, pD, pKp, pT, pB, pBs, pS, pR, pRd, pRo, Prod.mk.injEq, pX1, pX2, pXs, pX2t] at z9; done) | (simp only [pO, pN, pD, pKp, pT, pB, pBs, pS, pR, pRd, pRo, Prod.mk.injEq, pX1, pX2, pXs, pX2t] at z9; omega)))
  have hSB : sbR E w1 b (a 8) nb := hSB.fr hf9 (by intro z9; first | (simp only [pO, pN, pD, pKp, pT, pB, pBs, pS, pR, pRd, pRo, Prod.mk.injEq, pX1, pX2, pXs, pX2t] at z9; done) | (simp only [pO, pN, pD, pKp, pT, pB, pBs, pS, pR, pRd, pRo, Prod.mk.injEq, pX1, pX2, pXs, pX2t] at z9; omega)) (by intro z9; first | (simp only [pO, pN, pD, pKp, pT, pB, pBs, pS, pR, pRd, pRo, Prod.mk.injEq, pX1, pX2, pXs, pX2t] at z9; done) | (simp only [pO, pN, pD, pKp, pT, pB, pBs, pS, pR, pRd, pRo, Prod.mk.injEq, pX1, pX2, pXs, pX2t] at z9; omega))
  have hF : fr pW w0 w1 := hF.tr (hf9.up (fun t9 h9 => by simp only [pO, pN, pD, pKp, pT, pB, pBs, pS, pR, pX1, pX2, pXs, pX2t, pX9, pW, pWd] at h9 ⊢; first | (subst h9; simp; done) | (subst h9; omega) | omega | (rcases h9 with h9 | h9 <;> first | (subst h9; simp; done) | (subst h9; omega) | omega)))
  refine lv_goto (tgt := 15) hx hb dX0_refusal_9 (by decide) ?_
  refine lv_iconst (v := 0) hx hb dX0_refusal_15 (by decide) ?_
  exact kx_iret hx hb hr hlocks hQ hP hS (by omega) (by omega) dX0_refusal_16 (⟨((r9).toInt64), ⟨hq0.symm, fun _ => by rw [hq1]⟩, ⟨hO, hC, trivial⟩, hF⟩)

abbrev rmCX0_account : Room := { frames := 9, cells := 40, slots := 220, locals := 148 }
theorem dyX0_account : yX0_account.cls ≠ "java/lang/invoke/MethodHandle" ∧ yX0_account.cls ≠ "java/lang/invoke/VarHandle" ∧ (parseMethodDescriptor yX0_account.desc).map (fun d => d.parameters.length) = some 3 := by decide +kernel
set_option maxHeartbeats 4000000 in
theorem CX0_account (l0 : Launch) (hl0 : l0.stackTraces = false) (E : gE) (w : wd) (x : Nat) (o : Nat) (f : Nat → Int32) (a : Nat → Nat → Int32) (mn : Nat) (cn : Nat) (nb : Nat) (N : Nat) (v0 : Int64) (y : Int32) (hC : coS E w x N f a mn cn nb) (hO : lA E w o v0) : kX l0 yX0_account (wsW_ yX0_account cX0_account 4 (some .int) [(0, 9, 12, 15)]) rmCX0_account 40 220 mI E w [.ref x, .int y, .ref o] (fun r w' => ∃ v9 : Int64, (r = (qAcc f (a 0) mn y).1 ∧ ((qAcc f (a 0) mn y).1 = 0 → v9 = ((qAcc f (a 0) mn y).2).toInt64)) ∧ (lA E w' o v9 ∧ coS E w' x N f a mn cn nb ∧ True) ∧ fr pW w w') (fun _ _ _ => False) := by
  refine kx_openH (hh := [(0, 9, 12, 15)]) (cc := cX0_account) (maxL := 4) (ret := (some .int)) (by decide) rfl (Nat.le_of_ble_eq_true rfl) ?_
  intro p e s m args below meth c ls Q hx hb hr hml hown hts hlocks hname ht hQ hG hP hl hS
  have hl : lv_has ls 4 [(0, .ref x), (1, .int y), (2, .ref o)] := hl
  obtain ⟨w0, hw0⟩ : ∃ z, z = w := ⟨_, rfl⟩
  have hF : fr pW w0 w := by rw [hw0]; exact fr.rf
  rw [← hw0] at hQ
  have hC0 := hC
  obtain ⟨A1, A2, A3, d, b, wn, ly, I, mk, hX, ⟨hM, hI⟩, ⟨u2, m2, wb2, lb2, hM2⟩, ⟨u3, m3, wb3, lb3, hM3, hs3⟩, ⟨hK, hKI⟩, ⟨hSB, hcB⟩, ⟨hf9n, hf6, hf7, hf11⟩⟩ := hC0
  have hc8 := hK.le
  have hm6 := hM.m25
  refine lv_aload_n hx hb dX0_account_0 rfl (lv_at hl 2 rfl) ?_
  refine lv_iconst (v := 0) hx hb dX0_account_1 (by decide) ?_
  refine lv_aload_n hx hb dX0_account_2 rfl (lv_at hl 0 rfl) ?_
  refine lv_iload_n hx hb dX0_account_3 rfl (lv_at hl 1 rfl) ?_
  refine kx_cVG hx hb hml hown hts (CX1_account l0 hl0 E w x A1 A2 A3 d b (f 5) (f 10) (f 11) (f 12) (a 0) mn wn ly cn I (kRw a) mk (a 8) nb N y f hI hf9n hf6 hX hM hK hSB) (cwV 1 hts (lw_V q1524 q1525 q1526 q69 q1527) rfl rfl rfl dyX1_account ⟨Nat.le_of_ble_eq_true rfl, Nat.le_of_ble_eq_true rfl⟩) hG hP hS hX rfl (As := [.int y]) (rest := [.int 0, .ref o]) rfl hl.1 rfl (lv_room (Nat.le_of_ble_eq_true rfl)) dX0_account_4 ⟨show 0 + 1 ≤ 40 from by omega, show 0 + 6 ≤ 220 from by omega⟩ (fun X9 ce9 q9 w9 H locs hp hP hS hcell hcv hcl => ?_) (fun r9 w9 H locs hp hP hS => ?_)
  · skip
    obtain ⟨hm, hw9⟩ := hp
    rw [hw9] at hP
    simp only [List.mem_cons, List.not_mem_nil, or_false, Prod.mk.injEq] at hm
    obtain ⟨hX9, hq⟩ := hm
    subst hX9
    refine vx_catch (own := "KiteRoofsLaw") (name := "java/lang/IllegalArgumentException") hown [] ⟨0, 9, 12, 15⟩ [] (by rw [ht]; rfl) (fun z hz => nomatch hz) (by decide) (by decide) (hts _ q445) (va_Nw.use rfl (hG.2.1.1 _ q488 rfl)) hcell hcv hcl ?_
    show W p l0 e rmCX0_account s m args below meth c H locs (0 + 1) (0 + 6) Q (F0 m 12 ls [.ref q9])
    refine lv_astore_n (lv' := [(3, .ref q9), (0, .ref x), (1, .int y), (2, .ref o)]) hx hb dX0_account_12 rfl hl (by decide) rfl (fun ls hl => ?_)
    refine lv_iconst (v := 1) hx hb dX0_account_13 (by decide) ?_
    exact kx_iret hx hb hr hlocks hQ hP hS (by omega) (by omega) dX0_account_14 (⟨v0, ⟨hq.symm, fun e9 => absurd (hq.symm.trans e9) (by decide)⟩, ⟨hO, hC, trivial⟩, hF⟩)
  obtain ⟨hp1, hp0⟩ := hp
  rw [hp1] at hP
  obtain ⟨hq0, hq1⟩ := hp0
  show W p l0 e rmCX0_account s m args below meth c H locs (0 + 1) (0 + 6) Q (F0 m 7 ls [.int r9, .int 0, .ref o])
  refine lv_i2l hx hb dX0_account_7 rfl ?_
  refine k_last hx hb hG hP hS hO dX0_account_8 (fun w1 H locs h9 hf9 hP hS => ?_)
  have hO : lA E w1 o ((r9).toInt64) := h9
  have hC : coS E w1 x N f a mn cn nb := hC.fr hf9 (fun t9 h9 => by simp only [pO] at h9; subst h9; decide)
  have hX : w1 x = some ((94, 0), .inr (1, [.ref (A1 0), .ref (A2 0), .ref (A3 0), .int (f 5), .ref d, .ref b, .int (f 10), .int (f 11), .int (f 12)])) := hf9 _ _ _ hX (by intro z9; first | (simp only [pO, pN, pD, pKp, pT, pB, pBs, pS, pR, pX1, pX2, pXs, pX2t, pX9, Prod.mk.injEq] at z9; done) | (simp only [pO, pN, pD, pKp, pT, pB, pBs, pS, pR, pX1, pX2, pXs, pX2t, pX9, Prod.mk.injEq] at z9; omega))
  have hM : townR E w1 1 A1 (a 0) mn wn ly := hM.frm hf9 (by intro z9; first | (simp only [pO, pN, pD, pKp, pT, pB, pBs, pS, pR, pRd, pRo, Prod.mk.injEq, pX1, pX2, pXs, pX2t] at z9; done) | (simp only [pO, pN, pD, pKp, pT, pB, pBs, pS, pR, pRd, pRo, Prod.mk.injEq, pX1, pX2, pXs, pX2t] at z9; omega)) (fun r9 => (by intro z9; first | (simp only [pO, pN, pD, pKp, pT, pB, pBs, pS, pR, pRd, pRo, Prod.mk.injEq, pX1, pX2, pXs, pX2t] at z9; done) | (simp only [pO, pN, pD, pKp, pT, pB, pBs, pS, pR, pRd, pRo, Prod.mk.injEq, pX1, pX2, pXs, pX2t] at z9; omega)))
  have hM2 : townR E w1 2 A2 u2 m2 wb2 lb2 := hM2.frm hf9 (by intro z9; first | (simp only [pO, pN, pD, pKp, pT, pB, pBs, pS, pR, pRd, pRo, Prod.mk.injEq, pX1, pX2, pXs, pX2t] at z9; done) | (simp only [pO, pN, pD, pKp, pT, pB, pBs, pS, pR, pRd, pRo, Prod.mk.injEq, pX1, pX2, pXs, pX2t] at z9; omega)) (fun r9 => (by intro z9; first | (simp only [pO, pN, pD, pKp, pT, pB, pBs, pS, pR, pRd, pRo, Prod.mk.injEq, pX1, pX2, pXs, pX2t] at z9; done) | (simp only [pO, pN, pD, pKp, pT, pB, pBs, pS, pR, pRd, pRo, Prod.mk.injEq, pX1, pX2, pXs, pX2t] at z9; omega)))
  have hM3 : townR E w1 3 A3 u3 m3 wb3 lb3 := hM3.frm hf9 (by intro z9; first | (simp only [pO, pN, pD, pKp, pT, pB, pBs, pS, pR, pRd, pRo, Prod.mk.injEq, pX1, pX2, pXs, pX2t] at z9; done) | (simp only [pO, pN, pD, pKp, pT, pB, pBs, pS, pR, pRd, pRo, Prod.mk.injEq, pX1, pX2, pXs, pX2t] at z9; omega)) (fun r9 => (by intro z9; first | (simp only [pO, pN, pD, pKp, pT, pB, pBs, pS, pR, pRd, pRo, Prod.mk.injEq, pX1, pX2, pXs, pX2t] at z9; done) | (simp only [pO, pN, pD, pKp, pT, pB, pBs, pS, pR, pRd, pRo, Prod.mk.injEq, pX1, pX2, pXs, pX2t] at z9; omega)))
  have hK : kpR E w1 d cn I (kRw a) mk := hK.fr hf9 (by intro z9; first | (simp only [pO, pN, pD, pKp, pT, pB, pBs, pS, pR, pRd, pRo, Prod.mk.injEq, pX1, pX2, pXs, pX2t] at z9; done) | (simp only [pO, pN, pD, pKp, pT, pB, pBs, pS, pR, pRd, pRo, Prod.mk.injEq, pX1, pX2, pXs, pX2t] at z9; omega)) (fun i9 r9 h7 h8 => (by intro z9; first | (simp only [pO, pN, pD, pKp, pT, pB, pBs, pS, pR, pRd, pRo, Prod.mk.injEq, pX1, pX2, pXs, pX2t] at z9; done) | (simp only [pO, pN, pD, pKp, pT, pB, pBs, pS, pR, pRd, pRo, Prod.mk.injEq, pX1, pX2, pXs, pX2t] at z9; omega)))
  have hSB : sbR E w1 b (a 8) nb := hSB.fr hf9 (by intro z9; first | (simp only [pO, pN, pD, pKp, pT, pB, pBs, pS, pR, pRd, pRo, Prod.mk.injEq, pX1, pX2, pXs, pX2t] at z9; done) | (simp only [pO, pN, pD, pKp, pT, pB, pBs, pS, pR, pRd, pRo, Prod.mk.injEq, pX1, pX2, pXs, pX2t] at z9; omega)) (by intro z9; first | (simp only [pO, pN, pD, pKp, pT, pB, pBs, pS, pR, pRd, pRo, Prod.mk.injEq, pX1, pX2, pXs, pX2t] at z9; done) | (simp only [pO, pN, pD, pKp, pT, pB, pBs, pS, pR, pRd, pRo, Prod.mk.injEq, pX1, pX2, pXs, pX2t] at z9; omega))
  have hF : fr pW w0 w1 := hF.tr (hf9.up (fun t9 h9 => by simp only [pO, pN, pD, pKp, pT, pB, pBs, pS, pR, pX1, pX2, pXs, pX2t, pX9, pW, pWd] at h9 ⊢; first | (subst h9; simp; done) | (subst h9; omega) | omega | (rcases h9 with h9 | h9 <;> first | (subst h9; simp; done) | (subst h9; omega) | omega)))
  refine lv_goto (tgt := 15) hx hb dX0_account_9 (by decide) ?_
  refine lv_iconst (v := 0) hx hb dX0_account_15 (by decide) ?_
  exact kx_iret hx hb hr hlocks hQ hP hS (by omega) (by omega) dX0_account_16 (⟨((r9).toInt64), ⟨hq0.symm, fun _ => by rw [hq1]⟩, ⟨hO, hC, trivial⟩, hF⟩)
