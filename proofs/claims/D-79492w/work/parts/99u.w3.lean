/-! LAW, 7: the other calls, under their handlers -/
set_option maxRecDepth 100000
abbrev rmCX0_undo : Room := { frames := 9, cells := 40, slots := 220, locals := 140 }
theorem dyX0_undo : yX0_undo.cls ≠ "java/lang/invoke/MethodHandle" ∧ yX0_undo.cls ≠ "java/lang/invoke/VarHandle" ∧ (parseMethodDescriptor yX0_undo.desc).map (fun d => d.parameters.length) = some 2 := by decide +kernel
set_option maxHeartbeats 4000000 in
theorem CX0_undo (l0 : Launch) (hl0 : l0.stackTraces = false) (E : gE) (w : wd) (x : Nat) (o : Nat) (f : Nat → Int32) (a : Nat → Nat → Int32) (mn : Nat) (cn : Nat) (nb : Nat) (N : Nat) (v0 : Int64) (hC : coS E w x N f a mn cn nb) (hO : lA E w o v0) : kX l0 yX0_undo (wsW_ yX0_undo cX0_undo 3 (some .int) [(0, 8, 11, 85)]) rmCX0_undo 40 220 mI E w [.ref x, .ref o] (fun r w' => ∃ v9 : Int64, ∃ m9 : Nat, ∃ c9 : Nat, (r = (if cn = 0 then (1 : Int32) else 0) ∧ ((if cn = 0 then (1 : Int32) else 0) = 0 → v9 = (nI (cn - 1)).toInt64)) ∧ (lA E w' o v9 ∧ coS E w' x N (uF f cn) (uA a cn) m9 c9 nb ∧ True) ∧ fr pW w w') (fun _ _ _ => False) := by
  refine kx_openH (hh := [(0, 8, 11, 85)]) (cc := cX0_undo) (maxL := 3) (ret := (some .int)) (by decide) rfl (Nat.le_of_ble_eq_true rfl) ?_
  intro p e s m args below meth c ls Q hx hb hr hml hown hts hlocks hname ht hQ hG hP hl hS
  have hl : lv_has ls 3 [(0, .ref x), (1, .ref o)] := hl
  obtain ⟨w0, hw0⟩ : ∃ z, z = w := ⟨_, rfl⟩
  have hF : fr pW w0 w := by rw [hw0]; exact fr.rf
  rw [← hw0] at hQ
  have hC0 := hC
  obtain ⟨A1, A2, A3, d, b, wn, ly, I, mk, hX, ⟨hM, hI⟩, ⟨u2, m2, wb2, lb2, hM2⟩, ⟨u3, m3, wb3, lb3, hM3, hs3⟩, ⟨hK, hKI⟩, ⟨hSB, hcB⟩, ⟨hf9n, hf6, hf7, hf11⟩⟩ := hC0
  have hc8 := hK.le
  have hm6 := hM.m25
  refine lv_aload_n hx hb dX0_undo_0 rfl (lv_at hl 1 rfl) ?_
  refine lv_iconst (v := 0) hx hb dX0_undo_1 (by decide) ?_
  refine lv_aload_n hx hb dX0_undo_2 rfl (lv_at hl 0 rfl) ?_
  refine kx_cVG hx hb hml hown hts (CX1_undo l0 hl0 E w x A1 A2 A3 d b (f 5) (f 10) (f 11) (f 12) (a 0) mn wn ly cn I (kRw a) mk hX hM hK) (cwV 0 hts (lw_V q1585 q1586 q1587 q69 q1588) rfl rfl rfl dyX1_undo ⟨Nat.le_of_ble_eq_true rfl, Nat.le_of_ble_eq_true rfl⟩) hG hP hS hX rfl (As := []) (rest := [.int 0, .ref o]) rfl hl.1 rfl (lv_room (Nat.le_of_ble_eq_true rfl)) dX0_undo_3 ⟨show 0 + 7 ≤ 40 from by omega, show 0 + 18 ≤ 220 from by omega⟩ (fun X9 ce9 q9 w9 H locs hp hP hS hcell hcv hcl => ?_) (fun r3 w1 H locs hp hP hS => ?_)
  · skip
    obtain ⟨hX9, hw9, h0⟩ := hp
    rw [hw9] at hP
    subst hX9
    refine vx_catch (own := "KiteRoofsLaw") (name := "java/lang/IllegalStateException") hown [] ⟨0, 8, 11, 85⟩ [] (by rw [ht]; rfl) (fun z hz => nomatch hz) (by decide) (by decide) (hts _ q1072) (va_Nw.use rfl (hG.2.1.1 _ q537 rfl)) hcell hcv hcl ?_
    show W p l0 e rmCX0_undo s m args below meth c H locs (0 + 7) (0 + 18) Q (F0 m 11 ls [.ref q9])
    refine lv_astore_n (lv' := [(2, .ref q9), (0, .ref x), (1, .ref o)]) hx hb dX0_undo_11 rfl hl (by decide) rfl (fun ls hl => ?_)
    refine lv_iconst (v := 1) hx hb dX0_undo_12 (by decide) ?_
    exact kx_iret hx hb hr hlocks hQ hP hS (by omega) (by omega) dX0_undo_13 (⟨v0, mn, cn, ⟨(if_pos h0).symm, fun e9 => by rw [if_pos h0] at e9; exact absurd e9 (by decide)⟩, ⟨hO, (by rw [uF, if_pos h0, uA, if_pos h0]; exact hC.co rfl rfl rfl rfl (fun j hj => up_n (by omega))), trivial⟩, hF⟩)
  obtain ⟨hp0, ⟨hM', hK', -⟩, hf9⟩ := hp
  have hO : lA E w1 o v0 := hO.fr hf9 (by intro z9; first | (simp only [pO, pN, pD, pKp, pT, pB, pBs, pS, pR, pX1, pX2, pXs, pX2t, pX9, Prod.mk.injEq] at z9; done) | (simp only [pO, pN, pD, pKp, pT, pB, pBs, pS, pR, pX1, pX2, pXs, pX2t, pX9, Prod.mk.injEq] at z9; omega))
  have hX : w1 x = some ((94, 0), .inr (1, [.ref (A1 0), .ref (A2 0), .ref (A3 0), .int (f 5), .ref d, .ref b, .int (f 10), .int (f 11), .int (f 12)])) := hf9 _ _ _ hX (by intro z9; first | (simp only [pO, pN, pD, pKp, pT, pB, pBs, pS, pR, pX1, pX2, pXs, pX2t, pX9, Prod.mk.injEq] at z9; done) | (simp only [pO, pN, pD, pKp, pT, pB, pBs, pS, pR, pX1, pX2, pXs, pX2t, pX9, Prod.mk.injEq] at z9; omega))
  have hM2 : townR E w1 2 A2 u2 m2 wb2 lb2 := hM2.frm hf9 (by intro z9; first | (simp only [pO, pN, pD, pKp, pT, pB, pBs, pS, pR, pRd, pRo, Prod.mk.injEq, pX1, pX2, pXs, pX2t] at z9; done) | (simp only [pO, pN, pD, pKp, pT, pB, pBs, pS, pR, pRd, pRo, Prod.mk.injEq, pX1, pX2, pXs, pX2t] at z9; omega)) (fun r9 => (by intro z9; first | (simp only [pO, pN, pD, pKp, pT, pB, pBs, pS, pR, pRd, pRo, Prod.mk.injEq, pX1, pX2, pXs, pX2t] at z9; done) | (simp only [pO, pN, pD, pKp, pT, pB, pBs, pS, pR, pRd, pRo, Prod.mk.injEq, pX1, pX2, pXs, pX2t] at z9; omega)))
  have hM3 : townR E w1 3 A3 u3 m3 wb3 lb3 := hM3.frm hf9 (by intro z9; first | (simp only [pO, pN, pD, pKp, pT, pB, pBs, pS, pR, pRd, pRo, Prod.mk.injEq, pX1, pX2, pXs, pX2t] at z9; done) | (simp only [pO, pN, pD, pKp, pT, pB, pBs, pS, pR, pRd, pRo, Prod.mk.injEq, pX1, pX2, pXs, pX2t] at z9; omega)) (fun r9 => (by intro z9; first | (simp only [pO, pN, pD, pKp, pT, pB, pBs, pS, pR, pRd, pRo, Prod.mk.injEq, pX1, pX2, pXs, pX2t] at z9; done) | (simp only [pO, pN, pD, pKp, pT, pB, pBs, pS, pR, pRd, pRo, Prod.mk.injEq, pX1, pX2, pXs, pX2t] at z9; omega)))
  have hSB : sbR E w1 b (a 8) nb := hSB.fr hf9 (by intro z9; first | (simp only [pO, pN, pD, pKp, pT, pB, pBs, pS, pR, pRd, pRo, Prod.mk.injEq, pX1, pX2, pXs, pX2t] at z9; done) | (simp only [pO, pN, pD, pKp, pT, pB, pBs, pS, pR, pRd, pRo, Prod.mk.injEq, pX1, pX2, pXs, pX2t] at z9; omega)) (by intro z9; first | (simp only [pO, pN, pD, pKp, pT, pB, pBs, pS, pR, pRd, pRo, Prod.mk.injEq, pX1, pX2, pXs, pX2t] at z9; done) | (simp only [pO, pN, pD, pKp, pT, pB, pBs, pS, pR, pRd, pRo, Prod.mk.injEq, pX1, pX2, pXs, pX2t] at z9; omega))
  have hF : fr pW w0 w1 := hF.tr (hf9.up (fun t9 h9 => by simp only [pO, pN, pD, pKp, pT, pB, pBs, pS, pR, pX1, pX2, pXs, pX2t, pX9, pW, pWd] at h9 ⊢; first | (subst h9; simp; done) | (subst h9; omega) | omega | (rcases h9 with h9 | h9 <;> first | (subst h9; simp; done) | (subst h9; omega) | omega)))
  have hM : townR E w1 1 A1 ((kRw a) (cn - 1)) (mk (cn - 1)) wn ly := hM'
  have hK : kpR E w1 d (cn - 1) I (kRw a) mk := hK'
  show W p l0 e rmCX0_undo s m args below meth c H locs (0 + 7) (0 + 18) Q (F0 m 6 ls [.int r3, .int 0, .ref o])
  obtain ⟨hq0, hq1⟩ := hp0
  refine lv_i2l hx hb dX0_undo_6 rfl ?_
  refine k_last hx hb hG hP hS hO dX0_undo_7 (fun w2 H locs h9 hf9 hP hS => ?_)
  have hO : lA E w2 o ((r3).toInt64) := h9
  have hX : w2 x = some ((94, 0), .inr (1, [.ref (A1 0), .ref (A2 0), .ref (A3 0), .int (f 5), .ref d, .ref b, .int (f 10), .int (f 11), .int (f 12)])) := hf9 _ _ _ hX (by intro z9; first | (simp only [pO, pN, pD, pKp, pT, pB, pBs, pS, pR, pX1, pX2, pXs, pX2t, pX9, Prod.mk.injEq] at z9; done) | (simp only [pO, pN, pD, pKp, pT, pB, pBs, pS, pR, pX1, pX2, pXs, pX2t, pX9, Prod.mk.injEq] at z9; omega))
  have hM : townR E w2 1 A1 ((kRw a) (cn - 1)) (mk (cn - 1)) wn ly := hM.frm hf9 (by intro z9; first | (simp only [pO, pN, pD, pKp, pT, pB, pBs, pS, pR, pRd, pRo, Prod.mk.injEq, pX1, pX2, pXs, pX2t] at z9; done) | (simp only [pO, pN, pD, pKp, pT, pB, pBs, pS, pR, pRd, pRo, Prod.mk.injEq, pX1, pX2, pXs, pX2t] at z9; omega)) (fun r9 => (by intro z9; first | (simp only [pO, pN, pD, pKp, pT, pB, pBs, pS, pR, pRd, pRo, Prod.mk.injEq, pX1, pX2, pXs, pX2t] at z9; done) | (simp only [pO, pN, pD, pKp, pT, pB, pBs, pS, pR, pRd, pRo, Prod.mk.injEq, pX1, pX2, pXs, pX2t] at z9; omega)))
  have hM2 : townR E w2 2 A2 u2 m2 wb2 lb2 := hM2.frm hf9 (by intro z9; first | (simp only [pO, pN, pD, pKp, pT, pB, pBs, pS, pR, pRd, pRo, Prod.mk.injEq, pX1, pX2, pXs, pX2t] at z9; done) | (simp only [pO, pN, pD, pKp, pT, pB, pBs, pS, pR, pRd, pRo, Prod.mk.injEq, pX1, pX2, pXs, pX2t] at z9; omega)) (fun r9 => (by intro z9; first | (simp only [pO, pN, pD, pKp, pT, pB, pBs, pS, pR, pRd, pRo, Prod.mk.injEq, pX1, pX2, pXs, pX2t] at z9; done) | (simp only [pO, pN, pD, pKp, pT, pB, pBs, pS, pR, pRd, pRo, Prod.mk.injEq, pX1, pX2, pXs, pX2t] at z9; omega)))
  have hM3 : townR E w2 3 A3 u3 m3 wb3 lb3 := hM3.frm hf9 (by intro z9; first | (simp only [pO, pN, pD, pKp, pT, pB, pBs, pS, pR, pRd, pRo, Prod.mk.injEq, pX1, pX2, pXs, pX2t] at z9; done) | (simp only [pO, pN, pD, pKp, pT, pB, pBs, pS, pR, pRd, pRo, Prod.mk.injEq, pX1, pX2, pXs, pX2t] at z9; omega)) (fun r9 => (by intro z9; first | (simp only [pO, pN, pD, pKp, pT, pB, pBs, pS, pR, pRd, pRo, Prod.mk.injEq, pX1, pX2, pXs, pX2t] at z9; done) | (simp only [pO, pN, pD, pKp, pT, pB, pBs, pS, pR, pRd, pRo, Prod.mk.injEq, pX1, pX2, pXs, pX2t] at z9; omega)))
  have hK : kpR E w2 d (cn - 1) I (kRw a) mk := hK.fr hf9 (by intro z9; first | (simp only [pO, pN, pD, pKp, pT, pB, pBs, pS, pR, pRd, pRo, Prod.mk.injEq, pX1, pX2, pXs, pX2t] at z9; done) | (simp only [pO, pN, pD, pKp, pT, pB, pBs, pS, pR, pRd, pRo, Prod.mk.injEq, pX1, pX2, pXs, pX2t] at z9; omega)) (fun i9 r9 h7 h8 => (by intro z9; first | (simp only [pO, pN, pD, pKp, pT, pB, pBs, pS, pR, pRd, pRo, Prod.mk.injEq, pX1, pX2, pXs, pX2t] at z9; done) | (simp only [pO, pN, pD, pKp, pT, pB, pBs, pS, pR, pRd, pRo, Prod.mk.injEq, pX1, pX2, pXs, pX2t] at z9; omega)))
  have hSB : sbR E w2 b (a 8) nb := hSB.fr hf9 (by intro z9; first | (simp only [pO, pN, pD, pKp, pT, pB, pBs, pS, pR, pRd, pRo, Prod.mk.injEq, pX1, pX2, pXs, pX2t] at z9; done) | (simp only [pO, pN, pD, pKp, pT, pB, pBs, pS, pR, pRd, pRo, Prod.mk.injEq, pX1, pX2, pXs, pX2t] at z9; omega)) (by intro z9; first | (simp only [pO, pN, pD, pKp, pT, pB, pBs, pS, pR, pRd, pRo, Prod.mk.injEq, pX1, pX2, pXs, pX2t] at z9; done) | (simp only [pO, pN, pD, pKp, pT, pB, pBs, pS, pR, pRd, pRo, Prod.mk.injEq, pX1, pX2, pXs, pX2t] at z9; omega))
  have hF : fr pW w0 w2 := hF.tr (hf9.up (fun t9 h9 => by simp only [pO, pN, pD, pKp, pT, pB, pBs, pS, pR, pX1, pX2, pXs, pX2t, pX9, pW, pWd] at h9 ⊢; first | (subst h9; simp; done) | (subst h9; omega) | omega | (rcases h9 with h9 | h9 <;> first | (subst h9; simp; done) | (subst h9; omega) | omega)))
  refine lv_goto (tgt := 14) hx hb dX0_undo_8 (by decide) ?_
  refine lv_iconst (v := 0) hx hb dX0_undo_14 (by decide) ?_
  exact kx_iret hx hb hr hlocks hQ hP hS (by omega) (by omega) dX0_undo_15 (⟨((r3).toInt64), (mk (cn - 1)), (cn - 1), ⟨(if_neg (by omega)).symm, fun _ => by rw [hq1]⟩, ⟨hO, (coS_un hq0 hX hM hM2 hM3 hs3 hK hKI hSB hcB hf9n hf7 hf11), trivial⟩, hF⟩)

abbrev rmCX0_restore : Room := { frames := 9, cells := 40, slots := 220, locals := 140 }
theorem dyX0_restore : yX0_restore.cls ≠ "java/lang/invoke/MethodHandle" ∧ yX0_restore.cls ≠ "java/lang/invoke/VarHandle" ∧ (parseMethodDescriptor yX0_restore.desc).map (fun d => d.parameters.length) = some 2 := by decide +kernel
set_option maxHeartbeats 4000000 in
theorem CX0_restore (l0 : Launch) (hl0 : l0.stackTraces = false) (E : gE) (w : wd) (x : Nat) (o : Nat) (f : Nat → Int32) (a : Nat → Nat → Int32) (mn : Nat) (cn : Nat) (nb : Nat) (N : Nat) (v0 : Int64) (hC : coS E w x N f a mn cn nb) (hO : lA E w o v0) : kX l0 yX0_restore (wsW_ yX0_restore cX0_restore 3 (some .int) [(0, 8, 11, 85)]) rmCX0_restore 40 220 mI E w [.ref x, .ref o] (fun r w' => ∃ v9 : Int64, ∃ m9 : Nat, ∃ c9 : Nat, (r = (if f 5 = 0 then (1 : Int32) else 0) ∧ ((if f 5 = 0 then (1 : Int32) else 0) = 0 → v9 = (a 2 20).toInt64)) ∧ (lA E w' o v9 ∧ coS E w' x N (rF f) (rA f a) m9 c9 nb ∧ True) ∧ fr pW w w') (fun _ _ _ => False) := by
  refine kx_openH (hh := [(0, 8, 11, 85)]) (cc := cX0_restore) (maxL := 3) (ret := (some .int)) (by decide) rfl (Nat.le_of_ble_eq_true rfl) ?_
  intro p e s m args below meth c ls Q hx hb hr hml hown hts hlocks hname ht hQ hG hP hl hS
  have hl : lv_has ls 3 [(0, .ref x), (1, .ref o)] := hl
  obtain ⟨w0, hw0⟩ : ∃ z, z = w := ⟨_, rfl⟩
  have hF : fr pW w0 w := by rw [hw0]; exact fr.rf
  rw [← hw0] at hQ
  have hC0 := hC
  obtain ⟨A1, A2, A3, d, b, wn, ly, I, mk, hX, ⟨hM, hI⟩, ⟨u2, m2, wb2, lb2, hM2⟩, ⟨u3, m3, wb3, lb3, hM3, hs3⟩, ⟨hK, hKI⟩, ⟨hSB, hcB⟩, ⟨hf9n, hf6, hf7, hf11⟩⟩ := hC0
  have hc8 := hK.le
  have hm6 := hM.m25
  obtain ⟨zs, hzs⟩ : ∃ zs, f 5 = bI zs := hs3.elim (fun e => ⟨false, e⟩) (fun e => ⟨true, e.1⟩)
  have hX : w x = _ := hX
  rw [hzs] at hX
  refine lv_aload_n hx hb dX0_restore_0 rfl (lv_at hl 1 rfl) ?_
  refine lv_iconst (v := 0) hx hb dX0_restore_1 (by decide) ?_
  refine lv_aload_n hx hb dX0_restore_2 rfl (lv_at hl 0 rfl) ?_
  refine kx_cVG hx hb hml hown hts (CX1_restore l0 hl0 E w x A1 A2 A3 d b (f 10) (f 11) (f 12) zs (a 0) mn wn ly u3 m3 wb3 lb3 cn I (kRw a) mk hX hM hM3 hK) (cwV 0 hts (lw_V q1603 q1604 q1605 q69 q1606) rfl rfl rfl dyX1_restore ⟨Nat.le_of_ble_eq_true rfl, Nat.le_of_ble_eq_true rfl⟩) hG hP hS hX rfl (As := []) (rest := [.int 0, .ref o]) rfl hl.1 rfl (lv_room (Nat.le_of_ble_eq_true rfl)) dX0_restore_3 ⟨show 0 + 7 ≤ 40 from by omega, show 0 + 18 ≤ 220 from by omega⟩ (fun X9 ce9 q9 w9 H locs hp hP hS hcell hcv hcl => ?_) (fun r3 w1 H locs hp hP hS => ?_)
  · skip
    obtain ⟨hX9, hw9, h0⟩ := hp
    rw [hw9] at hP
    subst hX9
    refine vx_catch (own := "KiteRoofsLaw") (name := "java/lang/IllegalStateException") hown [] ⟨0, 8, 11, 85⟩ [] (by rw [ht]; rfl) (fun z hz => nomatch hz) (by decide) (by decide) (hts _ q1072) (va_Nw.use rfl (hG.2.1.1 _ q537 rfl)) hcell hcv hcl ?_
    show W p l0 e rmCX0_restore s m args below meth c H locs (0 + 7) (0 + 18) Q (F0 m 11 ls [.ref q9])
    refine lv_astore_n (lv' := [(2, .ref q9), (0, .ref x), (1, .ref o)]) hx hb dX0_restore_11 rfl hl (by decide) rfl (fun ls hl => ?_)
    refine lv_iconst (v := 1) hx hb dX0_restore_12 (by decide) ?_
    exact kx_iret hx hb hr hlocks hQ hP hS (by omega) (by omega) dX0_restore_13 (⟨v0, mn, cn, ⟨(if_pos (by rw [hzs, h0]; rfl)).symm, fun e9 => by rw [if_pos (by rw [hzs, h0]; rfl)] at e9; exact absurd e9 (by decide)⟩, ⟨hO, (by rw [rF, if_pos (by rw [hzs, h0]; rfl), rA, if_pos (by rw [hzs, h0]; rfl)]; exact hC.co rfl rfl rfl rfl (fun j hj => up_n (by omega))), trivial⟩, hF⟩)
  obtain ⟨hp0, ⟨hM', hK', -⟩, hf9⟩ := hp
  have hO : lA E w1 o v0 := hO.fr hf9 (by intro z9; first | (simp only [pO, pN, pD, pKp, pT, pB, pBs, pS, pR, pX1, pX2, pXs, pX2t, pX9, Prod.mk.injEq] at z9; done) | (simp only [pO, pN, pD, pKp, pT, pB, pBs, pS, pR, pX1, pX2, pXs, pX2t, pX9, Prod.mk.injEq] at z9; omega))
  have hX : w1 x = some ((94, 0), .inr (1, [.ref (A1 0), .ref (A2 0), .ref (A3 0), .int (bI zs), .ref d, .ref b, .int (f 10), .int (f 11), .int (f 12)])) := hf9 _ _ _ hX (by intro z9; first | (simp only [pO, pN, pD, pKp, pT, pB, pBs, pS, pR, pX1, pX2, pXs, pX2t, pX9, Prod.mk.injEq] at z9; done) | (simp only [pO, pN, pD, pKp, pT, pB, pBs, pS, pR, pX1, pX2, pXs, pX2t, pX9, Prod.mk.injEq] at z9; omega))
  have hM2 : townR E w1 2 A2 u2 m2 wb2 lb2 := hM2.frm hf9 (by intro z9; first | (simp only [pO, pN, pD, pKp, pT, pB, pBs, pS, pR, pRd, pRo, Prod.mk.injEq, pX1, pX2, pXs, pX2t] at z9; done) | (simp only [pO, pN, pD, pKp, pT, pB, pBs, pS, pR, pRd, pRo, Prod.mk.injEq, pX1, pX2, pXs, pX2t] at z9; omega)) (fun r9 => (by intro z9; first | (simp only [pO, pN, pD, pKp, pT, pB, pBs, pS, pR, pRd, pRo, Prod.mk.injEq, pX1, pX2, pXs, pX2t] at z9; done) | (simp only [pO, pN, pD, pKp, pT, pB, pBs, pS, pR, pRd, pRo, Prod.mk.injEq, pX1, pX2, pXs, pX2t] at z9; omega)))
  have hM3 : townR E w1 3 A3 u3 m3 wb3 lb3 := hM3.frm hf9 (by intro z9; first | (simp only [pO, pN, pD, pKp, pT, pB, pBs, pS, pR, pRd, pRo, Prod.mk.injEq, pX1, pX2, pXs, pX2t] at z9; done) | (simp only [pO, pN, pD, pKp, pT, pB, pBs, pS, pR, pRd, pRo, Prod.mk.injEq, pX1, pX2, pXs, pX2t] at z9; omega)) (fun r9 => (by intro z9; first | (simp only [pO, pN, pD, pKp, pT, pB, pBs, pS, pR, pRd, pRo, Prod.mk.injEq, pX1, pX2, pXs, pX2t] at z9; done) | (simp only [pO, pN, pD, pKp, pT, pB, pBs, pS, pR, pRd, pRo, Prod.mk.injEq, pX1, pX2, pXs, pX2t] at z9; omega)))
  have hSB : sbR E w1 b (a 8) nb := hSB.fr hf9 (by intro z9; first | (simp only [pO, pN, pD, pKp, pT, pB, pBs, pS, pR, pRd, pRo, Prod.mk.injEq, pX1, pX2, pXs, pX2t] at z9; done) | (simp only [pO, pN, pD, pKp, pT, pB, pBs, pS, pR, pRd, pRo, Prod.mk.injEq, pX1, pX2, pXs, pX2t] at z9; omega)) (by intro z9; first | (simp only [pO, pN, pD, pKp, pT, pB, pBs, pS, pR, pRd, pRo, Prod.mk.injEq, pX1, pX2, pXs, pX2t] at z9; done) | (simp only [pO, pN, pD, pKp, pT, pB, pBs, pS, pR, pRd, pRo, Prod.mk.injEq, pX1, pX2, pXs, pX2t] at z9; omega))
  have hF : fr pW w0 w1 := hF.tr (hf9.up (fun t9 h9 => by simp only [pO, pN, pD, pKp, pT, pB, pBs, pS, pR, pX1, pX2, pXs, pX2t, pX9, pW, pWd] at h9 ⊢; first | (subst h9; simp; done) | (subst h9; omega) | omega | (rcases h9 with h9 | h9 <;> first | (subst h9; simp; done) | (subst h9; omega) | omega)))
  have hM : townR E w1 1 A1 u3 m3 wn ly := hM'
  have hK : kpR E w1 d 0 I (kRw a) mk := hK'
  show W p l0 e rmCX0_restore s m args below meth c H locs (0 + 7) (0 + 18) Q (F0 m 6 ls [.int r3, .int 0, .ref o])
  obtain ⟨hq0, hq1⟩ := hp0
  have h51 : f 5 = 1 := by rw [hzs, hq0]; rfl
  have h5n : ¬ f 5 = 0 := by rw [h51]; decide
  have h5r := hs3.resolve_left h5n
  refine lv_i2l hx hb dX0_restore_6 rfl ?_
  refine k_last hx hb hG hP hS hO dX0_restore_7 (fun w2 H locs h9 hf9 hP hS => ?_)
  have hO : lA E w2 o ((r3).toInt64) := h9
  have hX : w2 x = some ((94, 0), .inr (1, [.ref (A1 0), .ref (A2 0), .ref (A3 0), .int (bI zs), .ref d, .ref b, .int (f 10), .int (f 11), .int (f 12)])) := hf9 _ _ _ hX (by intro z9; first | (simp only [pO, pN, pD, pKp, pT, pB, pBs, pS, pR, pX1, pX2, pXs, pX2t, pX9, Prod.mk.injEq] at z9; done) | (simp only [pO, pN, pD, pKp, pT, pB, pBs, pS, pR, pX1, pX2, pXs, pX2t, pX9, Prod.mk.injEq] at z9; omega))
  have hM : townR E w2 1 A1 u3 m3 wn ly := hM.frm hf9 (by intro z9; first | (simp only [pO, pN, pD, pKp, pT, pB, pBs, pS, pR, pRd, pRo, Prod.mk.injEq, pX1, pX2, pXs, pX2t] at z9; done) | (simp only [pO, pN, pD, pKp, pT, pB, pBs, pS, pR, pRd, pRo, Prod.mk.injEq, pX1, pX2, pXs, pX2t] at z9; omega)) (fun r9 => (by intro z9; first | (simp only [pO, pN, pD, pKp, pT, pB, pBs, pS, pR, pRd, pRo, Prod.mk.injEq, pX1, pX2, pXs, pX2t] at z9; done) | (simp only [pO, pN, pD, pKp, pT, pB, pBs, pS, pR, pRd, pRo, Prod.mk.injEq, pX1, pX2, pXs, pX2t] at z9; omega)))
  have hM2 : townR E w2 2 A2 u2 m2 wb2 lb2 := hM2.frm hf9 (by intro z9; first | (simp only [pO, pN, pD, pKp, pT, pB, pBs, pS, pR, pRd, pRo, Prod.mk.injEq, pX1, pX2, pXs, pX2t] at z9; done) | (simp only [pO, pN, pD, pKp, pT, pB, pBs, pS, pR, pRd, pRo, Prod.mk.injEq, pX1, pX2, pXs, pX2t] at z9; omega)) (fun r9 => (by intro z9; first | (simp only [pO, pN, pD, pKp, pT, pB, pBs, pS, pR, pRd, pRo, Prod.mk.injEq, pX1, pX2, pXs, pX2t] at z9; done) | (simp only [pO, pN, pD, pKp, pT, pB, pBs, pS, pR, pRd, pRo, Prod.mk.injEq, pX1, pX2, pXs, pX2t] at z9; omega)))
  have hM3 : townR E w2 3 A3 u3 m3 wb3 lb3 := hM3.frm hf9 (by intro z9; first | (simp only [pO, pN, pD, pKp, pT, pB, pBs, pS, pR, pRd, pRo, Prod.mk.injEq, pX1, pX2, pXs, pX2t] at z9; done) | (simp only [pO, pN, pD, pKp, pT, pB, pBs, pS, pR, pRd, pRo, Prod.mk.injEq, pX1, pX2, pXs, pX2t] at z9; omega)) (fun r9 => (by intro z9; first | (simp only [pO, pN, pD, pKp, pT, pB, pBs, pS, pR, pRd, pRo, Prod.mk.injEq, pX1, pX2, pXs, pX2t] at z9; done) | (simp only [pO, pN, pD, pKp, pT, pB, pBs, pS, pR, pRd, pRo, Prod.mk.injEq, pX1, pX2, pXs, pX2t] at z9; omega)))
  have hK : kpR E w2 d 0 I (kRw a) mk := hK.fr hf9 (by intro z9; first | (simp only [pO, pN, pD, pKp, pT, pB, pBs, pS, pR, pRd, pRo, Prod.mk.injEq, pX1, pX2, pXs, pX2t] at z9; done) | (simp only [pO, pN, pD, pKp, pT, pB, pBs, pS, pR, pRd, pRo, Prod.mk.injEq, pX1, pX2, pXs, pX2t] at z9; omega)) (fun i9 r9 h7 h8 => (by intro z9; first | (simp only [pO, pN, pD, pKp, pT, pB, pBs, pS, pR, pRd, pRo, Prod.mk.injEq, pX1, pX2, pXs, pX2t] at z9; done) | (simp only [pO, pN, pD, pKp, pT, pB, pBs, pS, pR, pRd, pRo, Prod.mk.injEq, pX1, pX2, pXs, pX2t] at z9; omega)))
  have hSB : sbR E w2 b (a 8) nb := hSB.fr hf9 (by intro z9; first | (simp only [pO, pN, pD, pKp, pT, pB, pBs, pS, pR, pRd, pRo, Prod.mk.injEq, pX1, pX2, pXs, pX2t] at z9; done) | (simp only [pO, pN, pD, pKp, pT, pB, pBs, pS, pR, pRd, pRo, Prod.mk.injEq, pX1, pX2, pXs, pX2t] at z9; omega)) (by intro z9; first | (simp only [pO, pN, pD, pKp, pT, pB, pBs, pS, pR, pRd, pRo, Prod.mk.injEq, pX1, pX2, pXs, pX2t] at z9; done) | (simp only [pO, pN, pD, pKp, pT, pB, pBs, pS, pR, pRd, pRo, Prod.mk.injEq, pX1, pX2, pXs, pX2t] at z9; omega))
  have hF : fr pW w0 w2 := hF.tr (hf9.up (fun t9 h9 => by simp only [pO, pN, pD, pKp, pT, pB, pBs, pS, pR, pX1, pX2, pXs, pX2t, pX9, pW, pWd] at h9 ⊢; first | (subst h9; simp; done) | (subst h9; omega) | omega | (rcases h9 with h9 | h9 <;> first | (subst h9; simp; done) | (subst h9; omega) | omega)))
  refine lv_goto (tgt := 14) hx hb dX0_restore_8 (by decide) ?_
  refine lv_iconst (v := 0) hx hb dX0_restore_14 (by decide) ?_
  exact kx_iret hx hb hr hlocks hQ hP hS (by omega) (by omega) dX0_restore_15 (⟨((r3).toInt64), m3, 0, ⟨(if_neg h5n).symm, fun _ => by rw [hq1, h5r.2.1 20 (by decide)]⟩, ⟨hO, (coS_re (mk := mk) h51 (by rw [hzs]; exact hX) hM hM2 hM3 hs3 hK hSB hcB hf9n hf7 hf11), trivial⟩, hF⟩)

abbrev rmCX0_append : Room := { frames := 9, cells := 40, slots := 420, locals := 200 }
theorem dyX0_append : yX0_append.cls ≠ "java/lang/invoke/MethodHandle" ∧ yX0_append.cls ≠ "java/lang/invoke/VarHandle" ∧ (parseMethodDescriptor yX0_append.desc).map (fun d => d.parameters.length) = some 3 := by decide +kernel
set_option maxHeartbeats 4000000 in
theorem CX0_append (l0 : Launch) (hl0 : l0.stackTraces = false) (E : gE) (w : wd) (x : Nat) (o : Nat) (f : Nat → Int32) (a : Nat → Nat → Int32) (mn : Nat) (cn : Nat) (nb : Nat) (N : Nat) (v0 : Int64) (k : Nat) (hk : k < 65536) (hC : coS E w x N f a mn cn nb) (hO : lA E w o v0) : kX l0 yX0_append (wsW_ yX0_append cX0_append 4 (some .int) [(0, 9, 12, 85)]) rmCX0_append 40 420 mI E w [.ref x, .int (nI k), .ref o] (fun r w' => ∃ v9 : Int64, ∃ n9 : Nat, (r = (if nb = 60 then (1 : Int32) else 0) ∧ ((if nb = 60 then (1 : Int32) else 0) = 0 → v9 = (nI (nb + 1)).toInt64)) ∧ (lA E w' o v9 ∧ coS E w' x N (pF f nb) (pA a nb (nI k)) mn cn n9 ∧ True) ∧ fr pW w w') (fun _ _ _ => False) := by
  refine kx_openH (hh := [(0, 9, 12, 85)]) (cc := cX0_append) (maxL := 4) (ret := (some .int)) (by decide) rfl (Nat.le_of_ble_eq_true rfl) ?_
  intro p e s m args below meth c ls Q hx hb hr hml hown hts hlocks hname ht hQ hG hP hl hS
  have hl : lv_has ls 4 [(0, .ref x), (1, .int (nI k)), (2, .ref o)] := hl
  obtain ⟨w0, hw0⟩ : ∃ z, z = w := ⟨_, rfl⟩
  have hF : fr pW w0 w := by rw [hw0]; exact fr.rf
  rw [← hw0] at hQ
  have hC0 := hC
  obtain ⟨A1, A2, A3, d, b, wn, ly, I, mk, hX, ⟨hM, hI⟩, ⟨u2, m2, wb2, lb2, hM2⟩, ⟨u3, m3, wb3, lb3, hM3, hs3⟩, ⟨hK, hKI⟩, ⟨hSB, hcB⟩, ⟨hf9n, hf6, hf7, hf11⟩⟩ := hC0
  have hc8 := hK.le
  have hm6 := hM.m25
  refine lv_aload_n hx hb dX0_append_0 rfl (lv_at hl 2 rfl) ?_
  refine lv_iconst (v := 0) hx hb dX0_append_1 (by decide) ?_
  refine lv_aload_n hx hb dX0_append_2 rfl (lv_at hl 0 rfl) ?_
  refine lv_iload_n hx hb dX0_append_3 rfl (lv_at hl 1 rfl) ?_
  refine kx_cVG hx hb hml hown hts (CX1_append l0 hl0 E w x A1 A2 A3 d b (f 5) (f 10) (f 11) (f 12) (a 8) nb k hk hX hSB) (cwV 1 hts (lw_V q1073 q1074 q1075 q69 q1076) rfl rfl rfl dyX1_append ⟨Nat.le_of_ble_eq_true rfl, Nat.le_of_ble_eq_true rfl⟩) hG hP hS hX rfl (As := [.int (nI k)]) (rest := [.int 0, .ref o]) rfl hl.1 rfl (lv_room (Nat.le_of_ble_eq_true rfl)) dX0_append_4 ⟨show 0 + 3 ≤ 40 from by omega, show 0 + 320 ≤ 420 from by omega⟩ (fun X9 ce9 q9 w9 H locs hp hP hS hcell hcv hcl => ?_) (fun r4 w1 H locs hp hP hS => ?_)
  · skip
    obtain ⟨hX9, hw9, h0⟩ := hp
    rw [hw9] at hP
    subst hX9
    refine vx_catch (own := "KiteRoofsLaw") (name := "java/lang/IllegalStateException") hown [] ⟨0, 9, 12, 85⟩ [] (by rw [ht]; rfl) (fun z hz => nomatch hz) (by decide) (by decide) (hts _ q1072) (va_Nw.use rfl (hG.2.1.1 _ q537 rfl)) hcell hcv hcl ?_
    show W p l0 e rmCX0_append s m args below meth c H locs (0 + 3) (0 + 320) Q (F0 m 12 ls [.ref q9])
    refine lv_astore_n (lv' := [(3, .ref q9), (0, .ref x), (1, .int (nI k)), (2, .ref o)]) hx hb dX0_append_12 rfl hl (by decide) rfl (fun ls hl => ?_)
    refine lv_iconst (v := 1) hx hb dX0_append_13 (by decide) ?_
    exact kx_iret hx hb hr hlocks hQ hP hS (by omega) (by omega) dX0_append_14 (⟨v0, nb, ⟨(if_pos h0).symm, fun e9 => by rw [if_pos h0] at e9; exact absurd e9 (by decide)⟩, ⟨hO, (by rw [pF, if_pos h0, pA, if_pos h0]; exact hC.co rfl rfl rfl rfl (fun j hj => up_n (by omega))), trivial⟩, hF⟩)
  obtain ⟨hp0, ⟨hSB', -⟩, hf9⟩ := hp
  have hO : lA E w1 o v0 := hO.fr hf9 (by intro z9; first | (simp only [pO, pN, pD, pKp, pT, pB, pBs, pS, pR, pX1, pX2, pXs, pX2t, pX9, Prod.mk.injEq] at z9; done) | (simp only [pO, pN, pD, pKp, pT, pB, pBs, pS, pR, pX1, pX2, pXs, pX2t, pX9, Prod.mk.injEq] at z9; omega))
  have hX : w1 x = some ((94, 0), .inr (1, [.ref (A1 0), .ref (A2 0), .ref (A3 0), .int (f 5), .ref d, .ref b, .int (f 10), .int (f 11), .int (f 12)])) := hf9 _ _ _ hX (by intro z9; first | (simp only [pO, pN, pD, pKp, pT, pB, pBs, pS, pR, pX1, pX2, pXs, pX2t, pX9, Prod.mk.injEq] at z9; done) | (simp only [pO, pN, pD, pKp, pT, pB, pBs, pS, pR, pX1, pX2, pXs, pX2t, pX9, Prod.mk.injEq] at z9; omega))
  have hM : townR E w1 1 A1 (a 0) mn wn ly := hM.frm hf9 (by intro z9; first | (simp only [pO, pN, pD, pKp, pT, pB, pBs, pS, pR, pRd, pRo, Prod.mk.injEq, pX1, pX2, pXs, pX2t] at z9; done) | (simp only [pO, pN, pD, pKp, pT, pB, pBs, pS, pR, pRd, pRo, Prod.mk.injEq, pX1, pX2, pXs, pX2t] at z9; omega)) (fun r9 => (by intro z9; first | (simp only [pO, pN, pD, pKp, pT, pB, pBs, pS, pR, pRd, pRo, Prod.mk.injEq, pX1, pX2, pXs, pX2t] at z9; done) | (simp only [pO, pN, pD, pKp, pT, pB, pBs, pS, pR, pRd, pRo, Prod.mk.injEq, pX1, pX2, pXs, pX2t] at z9; omega)))
  have hM2 : townR E w1 2 A2 u2 m2 wb2 lb2 := hM2.frm hf9 (by intro z9; first | (simp only [pO, pN, pD, pKp, pT, pB, pBs, pS, pR, pRd, pRo, Prod.mk.injEq, pX1, pX2, pXs, pX2t] at z9; done) | (simp only [pO, pN, pD, pKp, pT, pB, pBs, pS, pR, pRd, pRo, Prod.mk.injEq, pX1, pX2, pXs, pX2t] at z9; omega)) (fun r9 => (by intro z9; first | (simp only [pO, pN, pD, pKp, pT, pB, pBs, pS, pR, pRd, pRo, Prod.mk.injEq, pX1, pX2, pXs, pX2t] at z9; done) | (simp only [pO, pN, pD, pKp, pT, pB, pBs, pS, pR, pRd, pRo, Prod.mk.injEq, pX1, pX2, pXs, pX2t] at z9; omega)))
  have hM3 : townR E w1 3 A3 u3 m3 wb3 lb3 := hM3.frm hf9 (by intro z9; first | (simp only [pO, pN, pD, pKp, pT, pB, pBs, pS, pR, pRd, pRo, Prod.mk.injEq, pX1, pX2, pXs, pX2t] at z9; done) | (simp only [pO, pN, pD, pKp, pT, pB, pBs, pS, pR, pRd, pRo, Prod.mk.injEq, pX1, pX2, pXs, pX2t] at z9; omega)) (fun r9 => (by intro z9; first | (simp only [pO, pN, pD, pKp, pT, pB, pBs, pS, pR, pRd, pRo, Prod.mk.injEq, pX1, pX2, pXs, pX2t] at z9; done) | (simp only [pO, pN, pD, pKp, pT, pB, pBs, pS, pR, pRd, pRo, Prod.mk.injEq, pX1, pX2, pXs, pX2t] at z9; omega)))
  have hK : kpR E w1 d cn I (kRw a) mk := hK.fr hf9 (by intro z9; first | (simp only [pO, pN, pD, pKp, pT, pB, pBs, pS, pR, pRd, pRo, Prod.mk.injEq, pX1, pX2, pXs, pX2t] at z9; done) | (simp only [pO, pN, pD, pKp, pT, pB, pBs, pS, pR, pRd, pRo, Prod.mk.injEq, pX1, pX2, pXs, pX2t] at z9; omega)) (fun i9 r9 h7 h8 => (by intro z9; first | (simp only [pO, pN, pD, pKp, pT, pB, pBs, pS, pR, pRd, pRo, Prod.mk.injEq, pX1, pX2, pXs, pX2t] at z9; done) | (simp only [pO, pN, pD, pKp, pT, pB, pBs, pS, pR, pRd, pRo, Prod.mk.injEq, pX1, pX2, pXs, pX2t] at z9; omega)))
  have hF : fr pW w0 w1 := hF.tr (hf9.up (fun t9 h9 => by simp only [pO, pN, pD, pKp, pT, pB, pBs, pS, pR, pX1, pX2, pXs, pX2t, pX9, pW, pWd] at h9 ⊢; first | (subst h9; simp; done) | (subst h9; omega) | omega | (rcases h9 with h9 | h9 <;> first | (subst h9; simp; done) | (subst h9; omega) | omega)))
  have hSB : sbR E w1 b (va_up (a 8) nb (nI k)) (nb + 1) := hSB'
  show W p l0 e rmCX0_append s m args below meth c H locs (0 + 3) (0 + 320) Q (F0 m 7 ls [.int r4, .int 0, .ref o])
  obtain ⟨hq0, hq1⟩ := hp0
  refine lv_i2l hx hb dX0_append_7 rfl ?_
  refine k_last hx hb hG hP hS hO dX0_append_8 (fun w2 H locs h9 hf9 hP hS => ?_)
  have hO : lA E w2 o ((r4).toInt64) := h9
  have hX : w2 x = some ((94, 0), .inr (1, [.ref (A1 0), .ref (A2 0), .ref (A3 0), .int (f 5), .ref d, .ref b, .int (f 10), .int (f 11), .int (f 12)])) := hf9 _ _ _ hX (by intro z9; first | (simp only [pO, pN, pD, pKp, pT, pB, pBs, pS, pR, pX1, pX2, pXs, pX2t, pX9, Prod.mk.injEq] at z9; done) | (simp only [pO, pN, pD, pKp, pT, pB, pBs, pS, pR, pX1, pX2, pXs, pX2t, pX9, Prod.mk.injEq] at z9; omega))
  have hM : townR E w2 1 A1 (a 0) mn wn ly := hM.frm hf9 (by intro z9; first | (simp only [pO, pN, pD, pKp, pT, pB, pBs, pS, pR, pRd, pRo, Prod.mk.injEq, pX1, pX2, pXs, pX2t] at z9; done) | (simp only [pO, pN, pD, pKp, pT, pB, pBs, pS, pR, pRd, pRo, Prod.mk.injEq, pX1, pX2, pXs, pX2t] at z9; omega)) (fun r9 => (by intro z9; first | (simp only [pO, pN, pD, pKp, pT, pB, pBs, pS, pR, pRd, pRo, Prod.mk.injEq, pX1, pX2, pXs, pX2t] at z9; done) | (simp only [pO, pN, pD, pKp, pT, pB, pBs, pS, pR, pRd, pRo, Prod.mk.injEq, pX1, pX2, pXs, pX2t] at z9; omega)))
  have hM2 : townR E w2 2 A2 u2 m2 wb2 lb2 := hM2.frm hf9 (by intro z9; first | (simp only [pO, pN, pD, pKp, pT, pB, pBs, pS, pR, pRd, pRo, Prod.mk.injEq, pX1, pX2, pXs, pX2t] at z9; done) | (simp only [pO, pN, pD, pKp, pT, pB, pBs, pS, pR, pRd, pRo, Prod.mk.injEq, pX1, pX2, pXs, pX2t] at z9; omega)) (fun r9 => (by intro z9; first | (simp only [pO, pN, pD, pKp, pT, pB, pBs, pS, pR, pRd, pRo, Prod.mk.injEq, pX1, pX2, pXs, pX2t] at z9; done) | (simp only [pO, pN, pD, pKp, pT, pB, pBs, pS, pR, pRd, pRo, Prod.mk.injEq, pX1, pX2, pXs, pX2t] at z9; omega)))
  have hM3 : townR E w2 3 A3 u3 m3 wb3 lb3 := hM3.frm hf9 (by intro z9; first | (simp only [pO, pN, pD, pKp, pT, pB, pBs, pS, pR, pRd, pRo, Prod.mk.injEq, pX1, pX2, pXs, pX2t] at z9; done) | (simp only [pO, pN, pD, pKp, pT, pB, pBs, pS, pR, pRd, pRo, Prod.mk.injEq, pX1, pX2, pXs, pX2t] at z9; omega)) (fun r9 => (by intro z9; first | (simp only [pO, pN, pD, pKp, pT, pB, pBs, pS, pR, pRd, pRo, Prod.mk.injEq, pX1, pX2, pXs, pX2t] at z9; done) | (simp only [pO, pN, pD, pKp, pT, pB, pBs, pS, pR, pRd, pRo, Prod.mk.injEq, pX1, pX2, pXs, pX2t] at z9; omega)))
  have hK : kpR E w2 d cn I (kRw a) mk := hK.fr hf9 (by intro z9; first | (simp only [pO, pN, pD, pKp, pT, pB, pBs, pS, pR, pRd, pRo, Prod.mk.injEq, pX1, pX2, pXs, pX2t] at z9; done) | (simp only [pO, pN, pD, pKp, pT, pB, pBs, pS, pR, pRd, pRo, Prod.mk.injEq, pX1, pX2, pXs, pX2t] at z9; omega)) (fun i9 r9 h7 h8 => (by intro z9; first | (simp only [pO, pN, pD, pKp, pT, pB, pBs, pS, pR, pRd, pRo, Prod.mk.injEq, pX1, pX2, pXs, pX2t] at z9; done) | (simp only [pO, pN, pD, pKp, pT, pB, pBs, pS, pR, pRd, pRo, Prod.mk.injEq, pX1, pX2, pXs, pX2t] at z9; omega)))
  have hSB : sbR E w2 b (va_up (a 8) nb (nI k)) (nb + 1) := hSB.fr hf9 (by intro z9; first | (simp only [pO, pN, pD, pKp, pT, pB, pBs, pS, pR, pRd, pRo, Prod.mk.injEq, pX1, pX2, pXs, pX2t] at z9; done) | (simp only [pO, pN, pD, pKp, pT, pB, pBs, pS, pR, pRd, pRo, Prod.mk.injEq, pX1, pX2, pXs, pX2t] at z9; omega)) (by intro z9; first | (simp only [pO, pN, pD, pKp, pT, pB, pBs, pS, pR, pRd, pRo, Prod.mk.injEq, pX1, pX2, pXs, pX2t] at z9; done) | (simp only [pO, pN, pD, pKp, pT, pB, pBs, pS, pR, pRd, pRo, Prod.mk.injEq, pX1, pX2, pXs, pX2t] at z9; omega))
  have hF : fr pW w0 w2 := hF.tr (hf9.up (fun t9 h9 => by simp only [pO, pN, pD, pKp, pT, pB, pBs, pS, pR, pX1, pX2, pXs, pX2t, pX9, pW, pWd] at h9 ⊢; first | (subst h9; simp; done) | (subst h9; omega) | omega | (rcases h9 with h9 | h9 <;> first | (subst h9; simp; done) | (subst h9; omega) | omega)))
  refine lv_goto (tgt := 15) hx hb dX0_append_9 (by decide) ?_
  refine lv_iconst (v := 0) hx hb dX0_append_15 (by decide) ?_
  exact kx_iret hx hb hr hlocks hQ hP hS (by omega) (by omega) dX0_append_16 (⟨((r4).toInt64), (nb + 1), ⟨(if_neg (by omega)).symm, fun _ => by rw [hq1]⟩, ⟨hO, (coS_ap hk hq0 hX hM hI hM2 hM3 hs3 hK hKI hSB hcB hf6 hf7 hf11), trivial⟩, hF⟩)

abbrev rmCX0_cutIn : Room := { frames := 10, cells := 240, slots := 700, locals := 196 }
theorem dyX0_cutIn : yX0_cutIn.cls ≠ "java/lang/invoke/MethodHandle" ∧ yX0_cutIn.cls ≠ "java/lang/invoke/VarHandle" ∧ (parseMethodDescriptor yX0_cutIn.desc).map (fun d => d.parameters.length) = some 4 := by decide +kernel
set_option maxHeartbeats 4000000 in
theorem CX0_cutIn (l0 : Launch) (hl0 : l0.stackTraces = false) (E : gE) (w : wd) (x : Nat) (o : Nat) (f : Nat → Int32) (a : Nat → Nat → Int32) (mn : Nat) (cn : Nat) (nb : Nat) (N : Nat) (v0 : Int64) (y : Int32) (z : Int32) (hN9 : N + 71 * 31 < 2 ^ 31) (hC : coS E w x N f a mn cn nb) (hO : lA E w o v0) : kX l0 yX0_cutIn (wsW_ yX0_cutIn cX0_cutIn 5 (some .int) [(0, 10, 13, 13), (0, 10, 17, 15), (0, 10, 21, 25)]) rmCX0_cutIn 240 700 mI E w [.ref x, .int y, .int z, .ref o] (fun r w' => ∃ v9 : Int64, (r = (qCin (a 0) mn y z).1 ∧ ((qCin (a 0) mn y z).1 = 0 → v9 = ((qCin (a 0) mn y z).2.2).toInt64)) ∧ (lA E w' o v9 ∧ coS E w' x N (oC f (qCin (a 0) mn y z)) a mn cn nb ∧ True) ∧ fr pW w w') (fun _ _ _ => False) := by
  refine kx_openH (hh := [(0, 10, 13, 13), (0, 10, 17, 15), (0, 10, 21, 25)]) (cc := cX0_cutIn) (maxL := 5) (ret := (some .int)) (by decide) rfl (Nat.le_of_ble_eq_true rfl) ?_
  intro p e s m args below meth c ls Q hx hb hr hml hown hts hlocks hname ht hQ hG hP hl hS
  have hl : lv_has ls 5 [(0, .ref x), (1, .int y), (2, .int z), (3, .ref o)] := hl
  obtain ⟨w0, hw0⟩ : ∃ z, z = w := ⟨_, rfl⟩
  have hF : fr pW w0 w := by rw [hw0]; exact fr.rf
  rw [← hw0] at hQ
  have hC0 := hC
  obtain ⟨A1, A2, A3, d, b, wn, ly, I, mk, hX, ⟨hM, hI⟩, ⟨u2, m2, wb2, lb2, hM2⟩, ⟨u3, m3, wb3, lb3, hM3, hs3⟩, ⟨hK, hKI⟩, ⟨hSB, hcB⟩, ⟨hf9n, hf6, hf7, hf11⟩⟩ := hC0
  have hc8 := hK.le
  have hm6 := hM.m25
  refine lv_aload_n hx hb dX0_cutIn_0 rfl (lv_at hl 3 rfl) ?_
  refine lv_iconst (v := 0) hx hb dX0_cutIn_1 (by decide) ?_
  refine lv_aload_n hx hb dX0_cutIn_2 rfl (lv_at hl 0 rfl) ?_
  refine lv_iload_n hx hb dX0_cutIn_3 rfl (lv_at hl 1 rfl) ?_
  refine lv_iload_n hx hb dX0_cutIn_4 rfl (lv_at hl 2 rfl) ?_
  refine kx_cVG hx hb hml hown hts (CX1_cutIn l0 hl0 E w x A1 A2 A3 d b (f 5) (f 10) (f 11) (f 12) (a 0) mn wn ly u2 m2 wb2 lb2 y z N hI hN9 hX hM hM2) (cwV 2 hts (lw_V q1035 q1036 q1037 q69 q1038) rfl rfl rfl dyX1_cutIn ⟨Nat.le_of_ble_eq_true rfl, Nat.le_of_ble_eq_true rfl⟩) hG hP hS hX rfl (As := [.int y, .int z]) (rest := [.int 0, .ref o]) rfl hl.1 rfl (lv_room (Nat.le_of_ble_eq_true rfl)) dX0_cutIn_5 ⟨show 0 + 200 ≤ 240 from by omega, show 0 + 600 ≤ 700 from by omega⟩ (fun X9 ce9 q9 w9 H locs hp hP hS hcell hcv hcl => ?_) (fun r5 w1 H locs hp hP hS => ?_)
  · skip
    rcases hp with ⟨hm, hw9⟩ | ⟨hX9, hq, hrs, hv, hf9⟩
    · skip
      rw [hw9] at hP
      simp only [List.mem_cons, List.not_mem_nil, or_false, Prod.mk.injEq] at hm
      rcases hm with ⟨hX9, hq⟩ | ⟨hX9, hq⟩
      · skip
        subst hX9
        refine vx_catch (own := "KiteRoofsLaw") (name := "java/lang/IndexOutOfBoundsException") hown [] ⟨0, 10, 13, 13⟩ [⟨0, 10, 17, 15⟩, ⟨0, 10, 21, 25⟩] (by rw [ht]; rfl) (fun z hz => nomatch hz) (by decide) (by decide) (hts _ q365) (va_Nw.use rfl (hG.2.1.1 _ q461 rfl)) hcell hcv hcl ?_
        show W p l0 e rmCX0_cutIn s m args below meth c H locs (0 + 200) (0 + 600) Q (F0 m 13 ls [.ref q9])
        refine lv_astore (lv' := [(4, .ref q9), (0, .ref x), (1, .int y), (2, .int z), (3, .ref o)]) hx hb dX0_cutIn_13 hl (by decide) rfl (fun ls hl => ?_)
        refine lv_iconst (v := 1) hx hb dX0_cutIn_15 (by decide) ?_
        exact kx_iret hx hb hr hlocks hQ hP hS (by omega) (by omega) dX0_cutIn_16 (⟨v0, ⟨hq.symm, fun e9 => absurd (hq.symm.trans e9) (by decide)⟩, ⟨hO, (coS_c0 hC (Or.inr (qCin_z (by first | exact Or.inl hq | exact Or.inr hq)))), trivial⟩, hF⟩)
      · skip
        subst hX9
        refine vx_catch (own := "KiteRoofsLaw") (name := "java/lang/IllegalArgumentException") hown [⟨0, 10, 13, 13⟩] ⟨0, 10, 17, 15⟩ [⟨0, 10, 21, 25⟩] (by rw [ht]; rfl) (by intro z hz; simp only [List.mem_cons, List.not_mem_nil, or_false] at hz; rcases hz with rfl; exact Or.inr ⟨by decide, _, hts _ q365, hG.2.1.2.1 (RJ12, RJ10) (List.mem_of_getElem? (i := 26) rfl)⟩) (by decide) (by decide) (hts _ q445) (va_Nw.use rfl (hG.2.1.1 _ q488 rfl)) hcell hcv hcl ?_
        show W p l0 e rmCX0_cutIn s m args below meth c H locs (0 + 200) (0 + 600) Q (F0 m 17 ls [.ref q9])
        refine lv_astore (lv' := [(4, .ref q9), (0, .ref x), (1, .int y), (2, .int z), (3, .ref o)]) hx hb dX0_cutIn_17 hl (by decide) rfl (fun ls hl => ?_)
        refine lv_iconst (v := 2) hx hb dX0_cutIn_19 (by decide) ?_
        exact kx_iret hx hb hr hlocks hQ hP hS (by omega) (by omega) dX0_cutIn_20 (⟨v0, ⟨hq.symm, fun e9 => absurd (hq.symm.trans e9) (by decide)⟩, ⟨hO, (coS_c0 hC (Or.inr (qCin_z (by first | exact Or.inl hq | exact Or.inr hq)))), trivial⟩, hF⟩)
    · skip
      have hO : lA E w9 o v0 := hO.fr hf9 (by intro z9; first | (simp only [pO, pN, pD, pKp, pT, pB, pBs, pS, pR, pX1, pX2, pXs, pX2t, pX9, Prod.mk.injEq] at z9; done) | (simp only [pO, pN, pD, pKp, pT, pB, pBs, pS, pR, pX1, pX2, pXs, pX2t, pX9, Prod.mk.injEq] at z9; omega))
      have hM : townR E w9 1 A1 (a 0) mn wn ly := hM.frm hf9 (by intro z9; first | (simp only [pO, pN, pD, pKp, pT, pB, pBs, pS, pR, pRd, pRo, Prod.mk.injEq, pX1, pX2, pXs, pX2t] at z9; done) | (simp only [pO, pN, pD, pKp, pT, pB, pBs, pS, pR, pRd, pRo, Prod.mk.injEq, pX1, pX2, pXs, pX2t] at z9; omega)) (fun r9 => (by intro z9; first | (simp only [pO, pN, pD, pKp, pT, pB, pBs, pS, pR, pRd, pRo, Prod.mk.injEq, pX1, pX2, pXs, pX2t] at z9; done) | (simp only [pO, pN, pD, pKp, pT, pB, pBs, pS, pR, pRd, pRo, Prod.mk.injEq, pX1, pX2, pXs, pX2t] at z9; omega)))
      have hM2 : townR E w9 2 A2 u2 m2 wb2 lb2 := hM2.frm hf9 (by intro z9; first | (simp only [pO, pN, pD, pKp, pT, pB, pBs, pS, pR, pRd, pRo, Prod.mk.injEq, pX1, pX2, pXs, pX2t] at z9; done) | (simp only [pO, pN, pD, pKp, pT, pB, pBs, pS, pR, pRd, pRo, Prod.mk.injEq, pX1, pX2, pXs, pX2t] at z9; omega)) (fun r9 => (by intro z9; first | (simp only [pO, pN, pD, pKp, pT, pB, pBs, pS, pR, pRd, pRo, Prod.mk.injEq, pX1, pX2, pXs, pX2t] at z9; done) | (simp only [pO, pN, pD, pKp, pT, pB, pBs, pS, pR, pRd, pRo, Prod.mk.injEq, pX1, pX2, pXs, pX2t] at z9; omega)))
      have hM3 : townR E w9 3 A3 u3 m3 wb3 lb3 := hM3.frm hf9 (by intro z9; first | (simp only [pO, pN, pD, pKp, pT, pB, pBs, pS, pR, pRd, pRo, Prod.mk.injEq, pX1, pX2, pXs, pX2t] at z9; done) | (simp only [pO, pN, pD, pKp, pT, pB, pBs, pS, pR, pRd, pRo, Prod.mk.injEq, pX1, pX2, pXs, pX2t] at z9; omega)) (fun r9 => (by intro z9; first | (simp only [pO, pN, pD, pKp, pT, pB, pBs, pS, pR, pRd, pRo, Prod.mk.injEq, pX1, pX2, pXs, pX2t] at z9; done) | (simp only [pO, pN, pD, pKp, pT, pB, pBs, pS, pR, pRd, pRo, Prod.mk.injEq, pX1, pX2, pXs, pX2t] at z9; omega)))
      have hK : kpR E w9 d cn I (kRw a) mk := hK.fr hf9 (by intro z9; first | (simp only [pO, pN, pD, pKp, pT, pB, pBs, pS, pR, pRd, pRo, Prod.mk.injEq, pX1, pX2, pXs, pX2t] at z9; done) | (simp only [pO, pN, pD, pKp, pT, pB, pBs, pS, pR, pRd, pRo, Prod.mk.injEq, pX1, pX2, pXs, pX2t] at z9; omega)) (fun i9 r9 h7 h8 => (by intro z9; first | (simp only [pO, pN, pD, pKp, pT, pB, pBs, pS, pR, pRd, pRo, Prod.mk.injEq, pX1, pX2, pXs, pX2t] at z9; done) | (simp only [pO, pN, pD, pKp, pT, pB, pBs, pS, pR, pRd, pRo, Prod.mk.injEq, pX1, pX2, pXs, pX2t] at z9; omega)))
      have hSB : sbR E w9 b (a 8) nb := hSB.fr hf9 (by intro z9; first | (simp only [pO, pN, pD, pKp, pT, pB, pBs, pS, pR, pRd, pRo, Prod.mk.injEq, pX1, pX2, pXs, pX2t] at z9; done) | (simp only [pO, pN, pD, pKp, pT, pB, pBs, pS, pR, pRd, pRo, Prod.mk.injEq, pX1, pX2, pXs, pX2t] at z9; omega)) (by intro z9; first | (simp only [pO, pN, pD, pKp, pT, pB, pBs, pS, pR, pRd, pRo, Prod.mk.injEq, pX1, pX2, pXs, pX2t] at z9; done) | (simp only [pO, pN, pD, pKp, pT, pB, pBs, pS, pR, pRd, pRo, Prod.mk.injEq, pX1, pX2, pXs, pX2t] at z9; omega))
      have hF : fr pW w0 w9 := hF.tr (hf9.up (fun t9 h9 => by simp only [pO, pN, pD, pKp, pT, pB, pBs, pS, pR, pX1, pX2, pXs, pX2t, pX9, pW, pWd] at h9 ⊢; first | (subst h9; simp; done) | (subst h9; omega) | omega | (rcases h9 with h9 | h9 <;> first | (subst h9; simp; done) | (subst h9; omega) | omega)))
      subst hX9
      refine vx_catch (own := "KiteRoofsLaw") (name := "java/lang/UnsupportedOperationException") hown [⟨0, 10, 13, 13⟩, ⟨0, 10, 17, 15⟩] ⟨0, 10, 21, 25⟩ [] (by rw [ht]; rfl) (by intro z hz; simp only [List.mem_cons, List.not_mem_nil, or_false] at hz; exact hz.elim (fun e => by subst e; exact Or.inr ⟨by decide, _, hts _ q365, hG.2.1.2.1 (RJ16, RJ10) (List.mem_of_getElem? (i := 28) rfl)⟩) (fun e => by subst e; exact Or.inr ⟨by decide, _, hts _ q445, hG.2.1.2.1 (RJ16, RJ12) (List.mem_of_getElem? (i := 27) rfl)⟩)) (by decide) (by decide) (hts _ q606) (va_Nw.use rfl (hG.2.1.1 _ q620 rfl)) hcell hcv hcl ?_
      show W p l0 e rmCX0_cutIn s m args below meth c H locs (0 + 200) (0 + 600) Q (F0 m 21 ls [.ref q9])
      refine lv_astore (lv' := [(4, .ref q9), (0, .ref x), (1, .int y), (2, .int z), (3, .ref o)]) hx hb dX0_cutIn_21 hl (by decide) rfl (fun ls hl => ?_)
      refine lv_iconst (v := 3) hx hb dX0_cutIn_23 (by decide) ?_
      exact kx_iret hx hb hr hlocks hQ hP hS (by omega) (by omega) dX0_cutIn_24 (⟨v0, ⟨hq.symm, fun e9 => absurd (hq.symm.trans e9) (by decide)⟩, ⟨hO, (coS_cs hC (by rw [hq]; decide) hrs hf9 (fun B1 B2 B3 d8 b8 hX8 => by have e8 := hX.symm.trans hX8; simp only [Option.some.injEq, Prod.mk.injEq, Sum.inr.injEq, List.cons.injEq, Value.ref.injEq, true_and, and_true] at e8; obtain ⟨e8a, e8b, e8c, e8d, e8e⟩ := e8; rw [hv, e8a, e8b, e8c, e8d, e8e])), trivial⟩, hF⟩)
  obtain ⟨g9_1, m9_2, wa9_3, la9_4, hp0, ⟨hM2', -⟩, hf9⟩ := hp
  have hO : lA E w1 o v0 := hO.fr hf9 (by intro z9; first | (simp only [pO, pN, pD, pKp, pT, pB, pBs, pS, pR, pX1, pX2, pXs, pX2t, pX9, Prod.mk.injEq] at z9; done) | (simp only [pO, pN, pD, pKp, pT, pB, pBs, pS, pR, pX1, pX2, pXs, pX2t, pX9, Prod.mk.injEq] at z9; omega))
  have hX : w1 x = some ((94, 0), .inr (1, [.ref (A1 0), .ref (A2 0), .ref (A3 0), .int (f 5), .ref d, .ref b, .int (f 10), .int (f 11), .int (f 12)])) := hf9 _ _ _ hX (by intro z9; first | (simp only [pO, pN, pD, pKp, pT, pB, pBs, pS, pR, pX1, pX2, pXs, pX2t, pX9, Prod.mk.injEq] at z9; done) | (simp only [pO, pN, pD, pKp, pT, pB, pBs, pS, pR, pX1, pX2, pXs, pX2t, pX9, Prod.mk.injEq] at z9; omega))
  have hM : townR E w1 1 A1 (a 0) mn wn ly := hM.frm hf9 (by intro z9; first | (simp only [pO, pN, pD, pKp, pT, pB, pBs, pS, pR, pRd, pRo, Prod.mk.injEq, pX1, pX2, pXs, pX2t] at z9; done) | (simp only [pO, pN, pD, pKp, pT, pB, pBs, pS, pR, pRd, pRo, Prod.mk.injEq, pX1, pX2, pXs, pX2t] at z9; omega)) (fun r9 => (by intro z9; first | (simp only [pO, pN, pD, pKp, pT, pB, pBs, pS, pR, pRd, pRo, Prod.mk.injEq, pX1, pX2, pXs, pX2t] at z9; done) | (simp only [pO, pN, pD, pKp, pT, pB, pBs, pS, pR, pRd, pRo, Prod.mk.injEq, pX1, pX2, pXs, pX2t] at z9; omega)))
  have hM3 : townR E w1 3 A3 u3 m3 wb3 lb3 := hM3.frm hf9 (by intro z9; first | (simp only [pO, pN, pD, pKp, pT, pB, pBs, pS, pR, pRd, pRo, Prod.mk.injEq, pX1, pX2, pXs, pX2t] at z9; done) | (simp only [pO, pN, pD, pKp, pT, pB, pBs, pS, pR, pRd, pRo, Prod.mk.injEq, pX1, pX2, pXs, pX2t] at z9; omega)) (fun r9 => (by intro z9; first | (simp only [pO, pN, pD, pKp, pT, pB, pBs, pS, pR, pRd, pRo, Prod.mk.injEq, pX1, pX2, pXs, pX2t] at z9; done) | (simp only [pO, pN, pD, pKp, pT, pB, pBs, pS, pR, pRd, pRo, Prod.mk.injEq, pX1, pX2, pXs, pX2t] at z9; omega)))
  have hK : kpR E w1 d cn I (kRw a) mk := hK.fr hf9 (by intro z9; first | (simp only [pO, pN, pD, pKp, pT, pB, pBs, pS, pR, pRd, pRo, Prod.mk.injEq, pX1, pX2, pXs, pX2t] at z9; done) | (simp only [pO, pN, pD, pKp, pT, pB, pBs, pS, pR, pRd, pRo, Prod.mk.injEq, pX1, pX2, pXs, pX2t] at z9; omega)) (fun i9 r9 h7 h8 => (by intro z9; first | (simp only [pO, pN, pD, pKp, pT, pB, pBs, pS, pR, pRd, pRo, Prod.mk.injEq, pX1, pX2, pXs, pX2t] at z9; done) | (simp only [pO, pN, pD, pKp, pT, pB, pBs, pS, pR, pRd, pRo, Prod.mk.injEq, pX1, pX2, pXs, pX2t] at z9; omega)))
  have hSB : sbR E w1 b (a 8) nb := hSB.fr hf9 (by intro z9; first | (simp only [pO, pN, pD, pKp, pT, pB, pBs, pS, pR, pRd, pRo, Prod.mk.injEq, pX1, pX2, pXs, pX2t] at z9; done) | (simp only [pO, pN, pD, pKp, pT, pB, pBs, pS, pR, pRd, pRo, Prod.mk.injEq, pX1, pX2, pXs, pX2t] at z9; omega)) (by intro z9; first | (simp only [pO, pN, pD, pKp, pT, pB, pBs, pS, pR, pRd, pRo, Prod.mk.injEq, pX1, pX2, pXs, pX2t] at z9; done) | (simp only [pO, pN, pD, pKp, pT, pB, pBs, pS, pR, pRd, pRo, Prod.mk.injEq, pX1, pX2, pXs, pX2t] at z9; omega))
  have hF : fr pW w0 w1 := hF.tr (hf9.up (fun t9 h9 => by simp only [pO, pN, pD, pKp, pT, pB, pBs, pS, pR, pX1, pX2, pXs, pX2t, pX9, pW, pWd] at h9 ⊢; first | (subst h9; simp; done) | (subst h9; omega) | omega | (rcases h9 with h9 | h9 <;> first | (subst h9; simp; done) | (subst h9; omega) | omega)))
  have hM2 : townR E w1 2 A2 g9_1 m9_2 wa9_3 la9_4 := hM2'
  show W p l0 e rmCX0_cutIn s m args below meth c H locs (0 + 200) (0 + 600) Q (F0 m 8 ls [.int r5, .int 0, .ref o])
  obtain ⟨hq0, hq1⟩ := hp0
  refine lv_i2l hx hb dX0_cutIn_8 rfl ?_
  refine k_last hx hb hG hP hS hO dX0_cutIn_9 (fun w2 H locs h9 hf9 hP hS => ?_)
  have hO : lA E w2 o ((r5).toInt64) := h9
  have hX : w2 x = some ((94, 0), .inr (1, [.ref (A1 0), .ref (A2 0), .ref (A3 0), .int (f 5), .ref d, .ref b, .int (f 10), .int (f 11), .int (f 12)])) := hf9 _ _ _ hX (by intro z9; first | (simp only [pO, pN, pD, pKp, pT, pB, pBs, pS, pR, pX1, pX2, pXs, pX2t, pX9, Prod.mk.injEq] at z9; done) | (simp only [pO, pN, pD, pKp, pT, pB, pBs, pS, pR, pX1, pX2, pXs, pX2t, pX9, Prod.mk.injEq] at z9; omega))
  have hM : townR E w2 1 A1 (a 0) mn wn ly := hM.frm hf9 (by intro z9; first | (simp only [pO, pN, pD, pKp, pT, pB, pBs, pS, pR, pRd, pRo, Prod.mk.injEq, pX1, pX2, pXs, pX2t] at z9; done) | (simp only [pO, pN, pD, pKp, pT, pB, pBs, pS, pR, pRd, pRo, Prod.mk.injEq, pX1, pX2, pXs, pX2t] at z9; omega)) (fun r9 => (by intro z9; first | (simp only [pO, pN, pD, pKp, pT, pB, pBs, pS, pR, pRd, pRo, Prod.mk.injEq, pX1, pX2, pXs, pX2t] at z9; done) | (simp only [pO, pN, pD, pKp, pT, pB, pBs, pS, pR, pRd, pRo, Prod.mk.injEq, pX1, pX2, pXs, pX2t] at z9; omega)))
  have hM2 : townR E w2 2 A2 g9_1 m9_2 wa9_3 la9_4 := hM2.frm hf9 (by intro z9; first | (simp only [pO, pN, pD, pKp, pT, pB, pBs, pS, pR, pRd, pRo, Prod.mk.injEq, pX1, pX2, pXs, pX2t] at z9; done) | (simp only [pO, pN, pD, pKp, pT, pB, pBs, pS, pR, pRd, pRo, Prod.mk.injEq, pX1, pX2, pXs, pX2t] at z9; omega)) (fun r9 => (by intro z9; first | (simp only [pO, pN, pD, pKp, pT, pB, pBs, pS, pR, pRd, pRo, Prod.mk.injEq, pX1, pX2, pXs, pX2t] at z9; done) | (simp only [pO, pN, pD, pKp, pT, pB, pBs, pS, pR, pRd, pRo, Prod.mk.injEq, pX1, pX2, pXs, pX2t] at z9; omega)))
  have hM3 : townR E w2 3 A3 u3 m3 wb3 lb3 := hM3.frm hf9 (by intro z9; first | (simp only [pO, pN, pD, pKp, pT, pB, pBs, pS, pR, pRd, pRo, Prod.mk.injEq, pX1, pX2, pXs, pX2t] at z9; done) | (simp only [pO, pN, pD, pKp, pT, pB, pBs, pS, pR, pRd, pRo, Prod.mk.injEq, pX1, pX2, pXs, pX2t] at z9; omega)) (fun r9 => (by intro z9; first | (simp only [pO, pN, pD, pKp, pT, pB, pBs, pS, pR, pRd, pRo, Prod.mk.injEq, pX1, pX2, pXs, pX2t] at z9; done) | (simp only [pO, pN, pD, pKp, pT, pB, pBs, pS, pR, pRd, pRo, Prod.mk.injEq, pX1, pX2, pXs, pX2t] at z9; omega)))
  have hK : kpR E w2 d cn I (kRw a) mk := hK.fr hf9 (by intro z9; first | (simp only [pO, pN, pD, pKp, pT, pB, pBs, pS, pR, pRd, pRo, Prod.mk.injEq, pX1, pX2, pXs, pX2t] at z9; done) | (simp only [pO, pN, pD, pKp, pT, pB, pBs, pS, pR, pRd, pRo, Prod.mk.injEq, pX1, pX2, pXs, pX2t] at z9; omega)) (fun i9 r9 h7 h8 => (by intro z9; first | (simp only [pO, pN, pD, pKp, pT, pB, pBs, pS, pR, pRd, pRo, Prod.mk.injEq, pX1, pX2, pXs, pX2t] at z9; done) | (simp only [pO, pN, pD, pKp, pT, pB, pBs, pS, pR, pRd, pRo, Prod.mk.injEq, pX1, pX2, pXs, pX2t] at z9; omega)))
  have hSB : sbR E w2 b (a 8) nb := hSB.fr hf9 (by intro z9; first | (simp only [pO, pN, pD, pKp, pT, pB, pBs, pS, pR, pRd, pRo, Prod.mk.injEq, pX1, pX2, pXs, pX2t] at z9; done) | (simp only [pO, pN, pD, pKp, pT, pB, pBs, pS, pR, pRd, pRo, Prod.mk.injEq, pX1, pX2, pXs, pX2t] at z9; omega)) (by intro z9; first | (simp only [pO, pN, pD, pKp, pT, pB, pBs, pS, pR, pRd, pRo, Prod.mk.injEq, pX1, pX2, pXs, pX2t] at z9; done) | (simp only [pO, pN, pD, pKp, pT, pB, pBs, pS, pR, pRd, pRo, Prod.mk.injEq, pX1, pX2, pXs, pX2t] at z9; omega))
  have hF : fr pW w0 w2 := hF.tr (hf9.up (fun t9 h9 => by simp only [pO, pN, pD, pKp, pT, pB, pBs, pS, pR, pX1, pX2, pXs, pX2t, pX9, pW, pWd] at h9 ⊢; first | (subst h9; simp; done) | (subst h9; omega) | omega | (rcases h9 with h9 | h9 <;> first | (subst h9; simp; done) | (subst h9; omega) | omega)))
  refine lv_goto (tgt := 25) hx hb dX0_cutIn_10 (by decide) ?_
  refine lv_iconst (v := 0) hx hb dX0_cutIn_25 (by decide) ?_
  exact kx_iret hx hb hr hlocks hQ hP hS (by omega) (by omega) dX0_cutIn_26 (⟨((r5).toInt64), ⟨hq0.symm, fun _ => by rw [hq1]⟩, ⟨hO, (coS_c0 ⟨A1, A2, A3, d, b, wn, ly, I, mk, hX, ⟨hM, hI⟩, ⟨_, _, _, _, hM2⟩, ⟨u3, m3, wb3, lb3, hM3, hs3⟩, ⟨hK, hKI⟩, ⟨hSB, hcB⟩, hf9n, hf6, hf7, hf11⟩ (Or.inl hq0)), trivial⟩, hF⟩)

abbrev rmCX0_bestSpeed : Room := { frames := 10, cells := 1400, slots := 4400, locals := 223 }
theorem dyX0_bestSpeed : yX0_bestSpeed.cls ≠ "java/lang/invoke/MethodHandle" ∧ yX0_bestSpeed.cls ≠ "java/lang/invoke/VarHandle" ∧ (parseMethodDescriptor yX0_bestSpeed.desc).map (fun d => d.parameters.length) = some 4 := by decide +kernel
set_option maxHeartbeats 4000000 in
theorem CX0_bestSpeed (l0 : Launch) (hl0 : l0.stackTraces = false) (E : gE) (w : wd) (x : Nat) (o : Nat) (f : Nat → Int32) (a : Nat → Nat → Int32) (mn : Nat) (cn : Nat) (nb : Nat) (N : Nat) (v0 : Int64) (y : Int32) (z : Int32) (hN9 : N + 71 * 31 < 2 ^ 31) (hC : coS E w x N f a mn cn nb) (hO : lA E w o v0) : kX l0 yX0_bestSpeed (wsW_ yX0_bestSpeed cX0_bestSpeed 5 (some .int) [(0, 10, 13, 13), (0, 10, 17, 15), (0, 10, 21, 25)]) rmCX0_bestSpeed 1400 4400 mI E w [.ref x, .int y, .int z, .ref o] (fun r w' => ∃ v9 : Int64, (r = (qBsp (a 0) mn y z).1 ∧ ((qBsp (a 0) mn y z).1 = 0 → v9 = ((qBsp (a 0) mn y z).2.2).toInt64)) ∧ (lA E w' o v9 ∧ coS E w' x N (oC f (qBsp (a 0) mn y z)) a mn cn nb ∧ True) ∧ fr pW w w') (fun _ _ _ => False) := by
  refine kx_openH (hh := [(0, 10, 13, 13), (0, 10, 17, 15), (0, 10, 21, 25)]) (cc := cX0_bestSpeed) (maxL := 5) (ret := (some .int)) (by decide) rfl (Nat.le_of_ble_eq_true rfl) ?_
  intro p e s m args below meth c ls Q hx hb hr hml hown hts hlocks hname ht hQ hG hP hl hS
  have hl : lv_has ls 5 [(0, .ref x), (1, .int y), (2, .int z), (3, .ref o)] := hl
  obtain ⟨w0, hw0⟩ : ∃ z, z = w := ⟨_, rfl⟩
  have hF : fr pW w0 w := by rw [hw0]; exact fr.rf
  rw [← hw0] at hQ
  have hC0 := hC
  obtain ⟨A1, A2, A3, d, b, wn, ly, I, mk, hX, ⟨hM, hI⟩, ⟨u2, m2, wb2, lb2, hM2⟩, ⟨u3, m3, wb3, lb3, hM3, hs3⟩, ⟨hK, hKI⟩, ⟨hSB, hcB⟩, ⟨hf9n, hf6, hf7, hf11⟩⟩ := hC0
  have hc8 := hK.le
  have hm6 := hM.m25
  refine lv_aload_n hx hb dX0_bestSpeed_0 rfl (lv_at hl 3 rfl) ?_
  refine lv_iconst (v := 0) hx hb dX0_bestSpeed_1 (by decide) ?_
  refine lv_aload_n hx hb dX0_bestSpeed_2 rfl (lv_at hl 0 rfl) ?_
  refine lv_iload_n hx hb dX0_bestSpeed_3 rfl (lv_at hl 1 rfl) ?_
  refine lv_iload_n hx hb dX0_bestSpeed_4 rfl (lv_at hl 2 rfl) ?_
  refine kx_cVG hx hb hml hown hts (CX1_bestSpeed l0 hl0 E w x A1 A2 A3 d b (f 5) (f 10) (f 11) (f 12) (a 0) mn wn ly u2 m2 wb2 lb2 y z N hI hN9 hX hM hM2) (cwV 2 hts (lw_V q1042 q1043 q1044 q69 q1045) rfl rfl rfl dyX1_bestSpeed ⟨Nat.le_of_ble_eq_true rfl, Nat.le_of_ble_eq_true rfl⟩) hG hP hS hX rfl (As := [.int y, .int z]) (rest := [.int 0, .ref o]) rfl hl.1 rfl (lv_room (Nat.le_of_ble_eq_true rfl)) dX0_bestSpeed_5 ⟨show 0 + 1300 ≤ 1400 from by omega, show 0 + 4200 ≤ 4400 from by omega⟩ (fun X9 ce9 q9 w9 H locs hp hP hS hcell hcv hcl => ?_) (fun r5 w1 H locs hp hP hS => ?_)
  · skip
    rcases hp with ⟨hm, hw9⟩ | ⟨hX9, hq, hrs, hv, hf9⟩
    · skip
      rw [hw9] at hP
      simp only [List.mem_cons, List.not_mem_nil, or_false, Prod.mk.injEq] at hm
      rcases hm with ⟨hX9, hq⟩ | ⟨hX9, hq⟩
      · skip
        subst hX9
        refine vx_catch (own := "KiteRoofsLaw") (name := "java/lang/IndexOutOfBoundsException") hown [] ⟨0, 10, 13, 13⟩ [⟨0, 10, 17, 15⟩, ⟨0, 10, 21, 25⟩] (by rw [ht]; rfl) (fun z hz => nomatch hz) (by decide) (by decide) (hts _ q365) (va_Nw.use rfl (hG.2.1.1 _ q461 rfl)) hcell hcv hcl ?_
        show W p l0 e rmCX0_bestSpeed s m args below meth c H locs (0 + 1300) (0 + 4200) Q (F0 m 13 ls [.ref q9])
        refine lv_astore (lv' := [(4, .ref q9), (0, .ref x), (1, .int y), (2, .int z), (3, .ref o)]) hx hb dX0_bestSpeed_13 hl (by decide) rfl (fun ls hl => ?_)
        refine lv_iconst (v := 1) hx hb dX0_bestSpeed_15 (by decide) ?_
        exact kx_iret hx hb hr hlocks hQ hP hS (by omega) (by omega) dX0_bestSpeed_16 (⟨v0, ⟨hq.symm, fun e9 => absurd (hq.symm.trans e9) (by decide)⟩, ⟨hO, (coS_c0 hC (Or.inr (qBsp_z (by first | exact Or.inl hq | exact Or.inr hq)))), trivial⟩, hF⟩)
      · skip
        subst hX9
        refine vx_catch (own := "KiteRoofsLaw") (name := "java/lang/IllegalArgumentException") hown [⟨0, 10, 13, 13⟩] ⟨0, 10, 17, 15⟩ [⟨0, 10, 21, 25⟩] (by rw [ht]; rfl) (by intro z hz; simp only [List.mem_cons, List.not_mem_nil, or_false] at hz; rcases hz with rfl; exact Or.inr ⟨by decide, _, hts _ q365, hG.2.1.2.1 (RJ12, RJ10) (List.mem_of_getElem? (i := 26) rfl)⟩) (by decide) (by decide) (hts _ q445) (va_Nw.use rfl (hG.2.1.1 _ q488 rfl)) hcell hcv hcl ?_
        show W p l0 e rmCX0_bestSpeed s m args below meth c H locs (0 + 1300) (0 + 4200) Q (F0 m 17 ls [.ref q9])
        refine lv_astore (lv' := [(4, .ref q9), (0, .ref x), (1, .int y), (2, .int z), (3, .ref o)]) hx hb dX0_bestSpeed_17 hl (by decide) rfl (fun ls hl => ?_)
        refine lv_iconst (v := 2) hx hb dX0_bestSpeed_19 (by decide) ?_
        exact kx_iret hx hb hr hlocks hQ hP hS (by omega) (by omega) dX0_bestSpeed_20 (⟨v0, ⟨hq.symm, fun e9 => absurd (hq.symm.trans e9) (by decide)⟩, ⟨hO, (coS_c0 hC (Or.inr (qBsp_z (by first | exact Or.inl hq | exact Or.inr hq)))), trivial⟩, hF⟩)
    · skip
      have hO : lA E w9 o v0 := hO.fr hf9 (by intro z9; first | (simp only [pO, pN, pD, pKp, pT, pB, pBs, pS, pR, pX1, pX2, pXs, pX2t, pX9, Prod.mk.injEq] at z9; done) | (simp only [pO, pN, pD, pKp, pT, pB, pBs, pS, pR, pX1, pX2, pXs, pX2t, pX9, Prod.mk.injEq] at z9; omega))
      have hM : townR E w9 1 A1 (a 0) mn wn ly := hM.frm hf9 (by intro z9; first | (simp only [pO, pN, pD, pKp, pT, pB, pBs, pS, pR, pRd, pRo, Prod.mk.injEq, pX1, pX2, pXs, pX2t] at z9; done) | (simp only [pO, pN, pD, pKp, pT, pB, pBs, pS, pR, pRd, pRo, Prod.mk.injEq, pX1, pX2, pXs, pX2t] at z9; omega)) (fun r9 => (by intro z9; first | (simp only [pO, pN, pD, pKp, pT, pB, pBs, pS, pR, pRd, pRo, Prod.mk.injEq, pX1, pX2, pXs, pX2t] at z9; done) | (simp only [pO, pN, pD, pKp, pT, pB, pBs, pS, pR, pRd, pRo, Prod.mk.injEq, pX1, pX2, pXs, pX2t] at z9; omega)))
      have hM2 : townR E w9 2 A2 u2 m2 wb2 lb2 := hM2.frm hf9 (by intro z9; first | (simp only [pO, pN, pD, pKp, pT, pB, pBs, pS, pR, pRd, pRo, Prod.mk.injEq, pX1, pX2, pXs, pX2t] at z9; done) | (simp only [pO, pN, pD, pKp, pT, pB, pBs, pS, pR, pRd, pRo, Prod.mk.injEq, pX1, pX2, pXs, pX2t] at z9; omega)) (fun r9 => (by intro z9; first | (simp only [pO, pN, pD, pKp, pT, pB, pBs, pS, pR, pRd, pRo, Prod.mk.injEq, pX1, pX2, pXs, pX2t] at z9; done) | (simp only [pO, pN, pD, pKp, pT, pB, pBs, pS, pR, pRd, pRo, Prod.mk.injEq, pX1, pX2, pXs, pX2t] at z9; omega)))
      have hM3 : townR E w9 3 A3 u3 m3 wb3 lb3 := hM3.frm hf9 (by intro z9; first | (simp only [pO, pN, pD, pKp, pT, pB, pBs, pS, pR, pRd, pRo, Prod.mk.injEq, pX1, pX2, pXs, pX2t] at z9; done) | (simp only [pO, pN, pD, pKp, pT, pB, pBs, pS, pR, pRd, pRo, Prod.mk.injEq, pX1, pX2, pXs, pX2t] at z9; omega)) (fun r9 => (by intro z9; first | (simp only [pO, pN, pD, pKp, pT, pB, pBs, pS, pR, pRd, pRo, Prod.mk.injEq, pX1, pX2, pXs, pX2t] at z9; done) | (simp only [pO, pN, pD, pKp, pT, pB, pBs, pS, pR, pRd, pRo, Prod.mk.injEq, pX1, pX2, pXs, pX2t] at z9; omega)))
      have hK : kpR E w9 d cn I (kRw a) mk := hK.fr hf9 (by intro z9; first | (simp only [pO, pN, pD, pKp, pT, pB, pBs, pS, pR, pRd, pRo, Prod.mk.injEq, pX1, pX2, pXs, pX2t] at z9; done) | (simp only [pO, pN, pD, pKp, pT, pB, pBs, pS, pR, pRd, pRo, Prod.mk.injEq, pX1, pX2, pXs, pX2t] at z9; omega)) (fun i9 r9 h7 h8 => (by intro z9; first | (simp only [pO, pN, pD, pKp, pT, pB, pBs, pS, pR, pRd, pRo, Prod.mk.injEq, pX1, pX2, pXs, pX2t] at z9; done) | (simp only [pO, pN, pD, pKp, pT, pB, pBs, pS, pR, pRd, pRo, Prod.mk.injEq, pX1, pX2, pXs, pX2t] at z9; omega)))
      have hSB : sbR E w9 b (a 8) nb := hSB.fr hf9 (by intro z9; first | (simp only [pO, pN, pD, pKp, pT, pB, pBs, pS, pR, pRd, pRo, Prod.mk.injEq, pX1, pX2, pXs, pX2t] at z9; done) | (simp only [pO, pN, pD, pKp, pT, pB, pBs, pS, pR, pRd, pRo, Prod.mk.injEq, pX1, pX2, pXs, pX2t] at z9; omega)) (by intro z9; first | (simp only [pO, pN, pD, pKp, pT, pB, pBs, pS, pR, pRd, pRo, Prod.mk.injEq, pX1, pX2, pXs, pX2t] at z9; done) | (simp only [pO, pN, pD, pKp, pT, pB, pBs, pS, pR, pRd, pRo, Prod.mk.injEq, pX1, pX2, pXs, pX2t] at z9; omega))
      have hF : fr pW w0 w9 := hF.tr (hf9.up (fun t9 h9 => by simp only [pO, pN, pD, pKp, pT, pB, pBs, pS, pR, pX1, pX2, pXs, pX2t, pX9, pW, pWd] at h9 ⊢; first | (subst h9; simp; done) | (subst h9; omega) | omega | (rcases h9 with h9 | h9 <;> first | (subst h9; simp; done) | (subst h9; omega) | omega)))
      subst hX9
      refine vx_catch (own := "KiteRoofsLaw") (name := "java/lang/UnsupportedOperationException") hown [⟨0, 10, 13, 13⟩, ⟨0, 10, 17, 15⟩] ⟨0, 10, 21, 25⟩ [] (by rw [ht]; rfl) (by intro z hz; simp only [List.mem_cons, List.not_mem_nil, or_false] at hz; exact hz.elim (fun e => by subst e; exact Or.inr ⟨by decide, _, hts _ q365, hG.2.1.2.1 (RJ16, RJ10) (List.mem_of_getElem? (i := 28) rfl)⟩) (fun e => by subst e; exact Or.inr ⟨by decide, _, hts _ q445, hG.2.1.2.1 (RJ16, RJ12) (List.mem_of_getElem? (i := 27) rfl)⟩)) (by decide) (by decide) (hts _ q606) (va_Nw.use rfl (hG.2.1.1 _ q620 rfl)) hcell hcv hcl ?_
      show W p l0 e rmCX0_bestSpeed s m args below meth c H locs (0 + 1300) (0 + 4200) Q (F0 m 21 ls [.ref q9])
      refine lv_astore (lv' := [(4, .ref q9), (0, .ref x), (1, .int y), (2, .int z), (3, .ref o)]) hx hb dX0_bestSpeed_21 hl (by decide) rfl (fun ls hl => ?_)
      refine lv_iconst (v := 3) hx hb dX0_bestSpeed_23 (by decide) ?_
      exact kx_iret hx hb hr hlocks hQ hP hS (by omega) (by omega) dX0_bestSpeed_24 (⟨v0, ⟨hq.symm, fun e9 => absurd (hq.symm.trans e9) (by decide)⟩, ⟨hO, (coS_cs hC (by rw [hq]; decide) hrs hf9 (fun B1 B2 B3 d8 b8 hX8 => by have e8 := hX.symm.trans hX8; simp only [Option.some.injEq, Prod.mk.injEq, Sum.inr.injEq, List.cons.injEq, Value.ref.injEq, true_and, and_true] at e8; obtain ⟨e8a, e8b, e8c, e8d, e8e⟩ := e8; rw [hv, e8a, e8b, e8c, e8d, e8e])), trivial⟩, hF⟩)
  obtain ⟨g9_1, m9_2, wa9_3, la9_4, hp0, ⟨hM2', -⟩, hf9⟩ := hp
  have hO : lA E w1 o v0 := hO.fr hf9 (by intro z9; first | (simp only [pO, pN, pD, pKp, pT, pB, pBs, pS, pR, pX1, pX2, pXs, pX2t, pX9, Prod.mk.injEq] at z9; done) | (simp only [pO, pN, pD, pKp, pT, pB, pBs, pS, pR, pX1, pX2, pXs, pX2t, pX9, Prod.mk.injEq] at z9; omega))
  have hX : w1 x = some ((94, 0), .inr (1, [.ref (A1 0), .ref (A2 0), .ref (A3 0), .int (f 5), .ref d, .ref b, .int (f 10), .int (f 11), .int (f 12)])) := hf9 _ _ _ hX (by intro z9; first | (simp only [pO, pN, pD, pKp, pT, pB, pBs, pS, pR, pX1, pX2, pXs, pX2t, pX9, Prod.mk.injEq] at z9; done) | (simp only [pO, pN, pD, pKp, pT, pB, pBs, pS, pR, pX1, pX2, pXs, pX2t, pX9, Prod.mk.injEq] at z9; omega))
  have hM : townR E w1 1 A1 (a 0) mn wn ly := hM.frm hf9 (by intro z9; first | (simp only [pO, pN, pD, pKp, pT, pB, pBs, pS, pR, pRd, pRo, Prod.mk.injEq, pX1, pX2, pXs, pX2t] at z9; done) | (simp only [pO, pN, pD, pKp, pT, pB, pBs, pS, pR, pRd, pRo, Prod.mk.injEq, pX1, pX2, pXs, pX2t] at z9; omega)) (fun r9 => (by intro z9; first | (simp only [pO, pN, pD, pKp, pT, pB, pBs, pS, pR, pRd, pRo, Prod.mk.injEq, pX1, pX2, pXs, pX2t] at z9; done) | (simp only [pO, pN, pD, pKp, pT, pB, pBs, pS, pR, pRd, pRo, Prod.mk.injEq, pX1, pX2, pXs, pX2t] at z9; omega)))
  have hM3 : townR E w1 3 A3 u3 m3 wb3 lb3 := hM3.frm hf9 (by intro z9; first | (simp only [pO, pN, pD, pKp, pT, pB, pBs, pS, pR, pRd, pRo, Prod.mk.injEq, pX1, pX2, pXs, pX2t] at z9; done) | (simp only [pO, pN, pD, pKp, pT, pB, pBs, pS, pR, pRd, pRo, Prod.mk.injEq, pX1, pX2, pXs, pX2t] at z9; omega)) (fun r9 => (by intro z9; first | (simp only [pO, pN, pD, pKp, pT, pB, pBs, pS, pR, pRd, pRo, Prod.mk.injEq, pX1, pX2, pXs, pX2t] at z9; done) | (simp only [pO, pN, pD, pKp, pT, pB, pBs, pS, pR, pRd, pRo, Prod.mk.injEq, pX1, pX2, pXs, pX2t] at z9; omega)))
  have hK : kpR E w1 d cn I (kRw a) mk := hK.fr hf9 (by intro z9; first | (simp only [pO, pN, pD, pKp, pT, pB, pBs, pS, pR, pRd, pRo, Prod.mk.injEq, pX1, pX2, pXs, pX2t] at z9; done) | (simp only [pO, pN, pD, pKp, pT, pB, pBs, pS, pR, pRd, pRo, Prod.mk.injEq, pX1, pX2, pXs, pX2t] at z9; omega)) (fun i9 r9 h7 h8 => (by intro z9; first | (simp only [pO, pN, pD, pKp, pT, pB, pBs, pS, pR, pRd, pRo, Prod.mk.injEq, pX1, pX2, pXs, pX2t] at z9; done) | (simp only [pO, pN, pD, pKp, pT, pB, pBs, pS, pR, pRd, pRo, Prod.mk.injEq, pX1, pX2, pXs, pX2t] at z9; omega)))
  have hSB : sbR E w1 b (a 8) nb := hSB.fr hf9 (by intro z9; first | (simp only [pO, pN, pD, pKp, pT, pB, pBs, pS, pR, pRd, pRo, Prod.mk.injEq, pX1, pX2, pXs, pX2t] at z9; done) | (simp only [pO, pN, pD, pKp, pT, pB, pBs, pS, pR, pRd, pRo, Prod.mk.injEq, pX1, pX2, pXs, pX2t] at z9; omega)) (by intro z9; first | (simp only [pO, pN, pD, pKp, pT, pB, pBs, pS, pR, pRd, pRo, Prod.mk.injEq, pX1, pX2, pXs, pX2t] at z9; done) | (simp only [pO, pN, pD, pKp, pT, pB, pBs, pS, pR, pRd, pRo, Prod.mk.injEq, pX1, pX2, pXs, pX2t] at z9; omega))
  have hF : fr pW w0 w1 := hF.tr (hf9.up (fun t9 h9 => by simp only [pO, pN, pD, pKp, pT, pB, pBs, pS, pR, pX1, pX2, pXs, pX2t, pX9, pW, pWd] at h9 ⊢; first | (subst h9; simp; done) | (subst h9; omega) | omega | (rcases h9 with h9 | h9 <;> first | (subst h9; simp; done) | (subst h9; omega) | omega)))
  have hM2 : townR E w1 2 A2 g9_1 m9_2 wa9_3 la9_4 := hM2'
  show W p l0 e rmCX0_bestSpeed s m args below meth c H locs (0 + 1300) (0 + 4200) Q (F0 m 8 ls [.int r5, .int 0, .ref o])
  obtain ⟨hq0, hq1⟩ := hp0
  refine lv_i2l hx hb dX0_bestSpeed_8 rfl ?_
  refine k_last hx hb hG hP hS hO dX0_bestSpeed_9 (fun w2 H locs h9 hf9 hP hS => ?_)
  have hO : lA E w2 o ((r5).toInt64) := h9
  have hX : w2 x = some ((94, 0), .inr (1, [.ref (A1 0), .ref (A2 0), .ref (A3 0), .int (f 5), .ref d, .ref b, .int (f 10), .int (f 11), .int (f 12)])) := hf9 _ _ _ hX (by intro z9; first | (simp only [pO, pN, pD, pKp, pT, pB, pBs, pS, pR, pX1, pX2, pXs, pX2t, pX9, Prod.mk.injEq] at z9; done) | (simp only [pO, pN, pD, pKp, pT, pB, pBs, pS, pR, pX1, pX2, pXs, pX2t, pX9, Prod.mk.injEq] at z9; omega))
  have hM : townR E w2 1 A1 (a 0) mn wn ly := hM.frm hf9 (by intro z9; first | (simp only [pO, pN, pD, pKp, pT, pB, pBs, pS, pR, pRd, pRo, Prod.mk.injEq, pX1, pX2, pXs, pX2t] at z9; done) | (simp only [pO, pN, pD, pKp, pT, pB, pBs, pS, pR, pRd, pRo, Prod.mk.injEq, pX1, pX2, pXs, pX2t] at z9; omega)) (fun r9 => (by intro z9; first | (simp only [pO, pN, pD, pKp, pT, pB, pBs, pS, pR, pRd, pRo, Prod.mk.injEq, pX1, pX2, pXs, pX2t] at z9; done) | (simp only [pO, pN, pD, pKp, pT, pB, pBs, pS, pR, pRd, pRo, Prod.mk.injEq, pX1, pX2, pXs, pX2t] at z9; omega)))
  have hM2 : townR E w2 2 A2 g9_1 m9_2 wa9_3 la9_4 := hM2.frm hf9 (by intro z9; first | (simp only [pO, pN, pD, pKp, pT, pB, pBs, pS, pR, pRd, pRo, Prod.mk.injEq, pX1, pX2, pXs, pX2t] at z9; done) | (simp only [pO, pN, pD, pKp, pT, pB, pBs, pS, pR, pRd, pRo, Prod.mk.injEq, pX1, pX2, pXs, pX2t] at z9; omega)) (fun r9 => (by intro z9; first | (simp only [pO, pN, pD, pKp, pT, pB, pBs, pS, pR, pRd, pRo, Prod.mk.injEq, pX1, pX2, pXs, pX2t] at z9; done) | (simp only [pO, pN, pD, pKp, pT, pB, pBs, pS, pR, pRd, pRo, Prod.mk.injEq, pX1, pX2, pXs, pX2t] at z9; omega)))
  have hM3 : townR E w2 3 A3 u3 m3 wb3 lb3 := hM3.frm hf9 (by intro z9; first | (simp only [pO, pN, pD, pKp, pT, pB, pBs, pS, pR, pRd, pRo, Prod.mk.injEq, pX1, pX2, pXs, pX2t] at z9; done) | (simp only [pO, pN, pD, pKp, pT, pB, pBs, pS, pR, pRd, pRo, Prod.mk.injEq, pX1, pX2, pXs, pX2t] at z9; omega)) (fun r9 => (by intro z9; first | (simp only [pO, pN, pD, pKp, pT, pB, pBs, pS, pR, pRd, pRo, Prod.mk.injEq, pX1, pX2, pXs, pX2t] at z9; done) | (simp only [pO, pN, pD, pKp, pT, pB, pBs, pS, pR, pRd, pRo, Prod.mk.injEq, pX1, pX2, pXs, pX2t] at z9; omega)))
  have hK : kpR E w2 d cn I (kRw a) mk := hK.fr hf9 (by intro z9; first | (simp only [pO, pN, pD, pKp, pT, pB, pBs, pS, pR, pRd, pRo, Prod.mk.injEq, pX1, pX2, pXs, pX2t] at z9; done) | (simp only [pO, pN, pD, pKp, pT, pB, pBs, pS, pR, pRd, pRo, Prod.mk.injEq, pX1, pX2, pXs, pX2t] at z9; omega)) (fun i9 r9 h7 h8 => (by intro z9; first | (simp only [pO, pN, pD, pKp, pT, pB, pBs, pS, pR, pRd, pRo, Prod.mk.injEq, pX1, pX2, pXs, pX2t] at z9; done) | (simp only [pO, pN, pD, pKp, pT, pB, pBs, pS, pR, pRd, pRo, Prod.mk.injEq, pX1, pX2, pXs, pX2t] at z9; omega)))
  have hSB : sbR E w2 b (a 8) nb := hSB.fr hf9 (by intro z9; first | (simp only [pO, pN, pD, pKp, pT, pB, pBs, pS, pR, pRd, pRo, Prod.mk.injEq, pX1, pX2, pXs, pX2t] at z9; done) | (simp only [pO, pN, pD, pKp, pT, pB, pBs, pS, pR, pRd, pRo, Prod.mk.injEq, pX1, pX2, pXs, pX2t] at z9; omega)) (by intro z9; first | (simp only [pO, pN, pD, pKp, pT, pB, pBs, pS, pR, pRd, pRo, Prod.mk.injEq, pX1, pX2, pXs, pX2t] at z9; done) | (simp only [pO, pN, pD, pKp, pT, pB, pBs, pS, pR, pRd, pRo, Prod.mk.injEq, pX1, pX2, pXs, pX2t] at z9; omega))
  have hF : fr pW w0 w2 := hF.tr (hf9.up (fun t9 h9 => by simp only [pO, pN, pD, pKp, pT, pB, pBs, pS, pR, pX1, pX2, pXs, pX2t, pX9, pW, pWd] at h9 ⊢; first | (subst h9; simp; done) | (subst h9; omega) | omega | (rcases h9 with h9 | h9 <;> first | (subst h9; simp; done) | (subst h9; omega) | omega)))
  refine lv_goto (tgt := 25) hx hb dX0_bestSpeed_10 (by decide) ?_
  refine lv_iconst (v := 0) hx hb dX0_bestSpeed_25 (by decide) ?_
  exact kx_iret hx hb hr hlocks hQ hP hS (by omega) (by omega) dX0_bestSpeed_26 (⟨((r5).toInt64), ⟨hq0.symm, fun _ => by rw [hq1]⟩, ⟨hO, (coS_c0 ⟨A1, A2, A3, d, b, wn, ly, I, mk, hX, ⟨hM, hI⟩, ⟨_, _, _, _, hM2⟩, ⟨u3, m3, wb3, lb3, hM3, hs3⟩, ⟨hK, hKI⟩, ⟨hSB, hcB⟩, hf9n, hf6, hf7, hf11⟩ (Or.inl hq0)), trivial⟩, hF⟩)

abbrev rmCX0_meanTension : Room := { frames := 9, cells := 40, slots := 220, locals := 144 }
theorem dyX0_meanTension : yX0_meanTension.cls ≠ "java/lang/invoke/MethodHandle" ∧ yX0_meanTension.cls ≠ "java/lang/invoke/VarHandle" ∧ (parseMethodDescriptor yX0_meanTension.desc).map (fun d => d.parameters.length) = some 2 := by decide +kernel
set_option maxHeartbeats 4000000 in
theorem CX0_meanTension (l0 : Launch) (hl0 : l0.stackTraces = false) (E : gE) (w : wd) (x : Nat) (o : Nat) (f : Nat → Int32) (a : Nat → Nat → Int32) (mn : Nat) (cn : Nat) (nb : Nat) (N : Nat) (v0 : UInt64) (hC : coS E w x N f a mn cn nb) (hO : dA E w o v0) : kX l0 yX0_meanTension (wsW_ yX0_meanTension cX0_meanTension 3 (some .int) [(0, 7, 10, 101)]) rmCX0_meanTension 40 220 mI E w [.ref x, .ref o] (fun r w' => ∃ v9 : UInt64, (r = (if tIn (a 0) 1 mn = 0 then (1 : Int32) else 0) ∧ ((if tIn (a 0) 1 mn = 0 then (1 : Int32) else 0) = 0 → v9 = (FP.ddiv (FP.i2d (tTn (a 0) mn)) (FP.i2d (tIn (a 0) 1 mn))))) ∧ (dA E w' o v9 ∧ coS E w' x N f a mn cn nb ∧ True) ∧ fr pWd w w') (fun _ _ _ => False) := by
  refine kx_openH (hh := [(0, 7, 10, 101)]) (cc := cX0_meanTension) (maxL := 3) (ret := (some .int)) (by decide) rfl (Nat.le_of_ble_eq_true rfl) ?_
  intro p e s m args below meth c ls Q hx hb hr hml hown hts hlocks hname ht hQ hG hP hl hS
  have hl : lv_has ls 3 [(0, .ref x), (1, .ref o)] := hl
  obtain ⟨w0, hw0⟩ : ∃ z, z = w := ⟨_, rfl⟩
  have hF : fr pWd w0 w := by rw [hw0]; exact fr.rf
  rw [← hw0] at hQ
  have hC0 := hC
  obtain ⟨A1, A2, A3, d, b, wn, ly, I, mk, hX, ⟨hM, hI⟩, ⟨u2, m2, wb2, lb2, hM2⟩, ⟨u3, m3, wb3, lb3, hM3, hs3⟩, ⟨hK, hKI⟩, ⟨hSB, hcB⟩, ⟨hf9n, hf6, hf7, hf11⟩⟩ := hC0
  have hc8 := hK.le
  have hm6 := hM.m25
  refine lv_aload_n hx hb dX0_meanTension_0 rfl (lv_at hl 1 rfl) ?_
  refine lv_iconst (v := 0) hx hb dX0_meanTension_1 (by decide) ?_
  refine lv_aload_n hx hb dX0_meanTension_2 rfl (lv_at hl 0 rfl) ?_
  refine kx_cVG hx hb hml hown hts (CX1_meanTension l0 hl0 E w x A1 A2 A3 d b (f 5) (f 10) (f 11) (f 12) (a 0) mn wn ly N hI hX hM) (cwV 0 hts (lw_V q1555 q1556 q1557 q69 q1558) rfl rfl rfl dyX1_meanTension ⟨Nat.le_of_ble_eq_true rfl, Nat.le_of_ble_eq_true rfl⟩) hG hP hS hX rfl (As := []) (rest := [.int 0, .ref o]) rfl hl.1 rfl (lv_room (Nat.le_of_ble_eq_true rfl)) dX0_meanTension_3 ⟨show 0 + 1 ≤ 40 from by omega, show 0 + 6 ≤ 220 from by omega⟩ (fun X9 ce9 q9 w9 H locs hp hP hS hcell hcv hcl => ?_) (fun r9 w9 H locs hp hP hS => ?_)
  · skip
    obtain ⟨hX9, hw9, h0⟩ := hp
    rw [hw9] at hP
    subst hX9
    refine vx_catch (own := "KiteRoofsLaw") (name := "java/lang/ArithmeticException") hown [] ⟨0, 7, 10, 101⟩ [] (by rw [ht]; rfl) (fun z hz => nomatch hz) (by decide) (by decide) (hts _ q1541) (va_Nw.use rfl (hG.2.1.1 _ q1553 rfl)) hcell hcv hcl ?_
    show W p l0 e rmCX0_meanTension s m args below meth c H locs (0 + 1) (0 + 6) Q (F0 m 10 ls [.ref q9])
    refine lv_astore_n (lv' := [(2, .ref q9), (0, .ref x), (1, .ref o)]) hx hb dX0_meanTension_10 rfl hl (by decide) rfl (fun ls hl => ?_)
    refine lv_iconst (v := 1) hx hb dX0_meanTension_11 (by decide) ?_
    exact kx_iret hx hb hr hlocks hQ hP hS (by omega) (by omega) dX0_meanTension_12 (⟨v0, ⟨(if_pos h0).symm, fun e9 => by rw [if_pos h0] at e9; exact absurd e9 (by decide)⟩, ⟨hO, hC, trivial⟩, hF⟩)
  obtain ⟨hp1, hp0⟩ := hp
  rw [hp1] at hP
  obtain ⟨hq0, hq1⟩ := hp0
  show W p l0 e rmCX0_meanTension s m args below meth c H locs (0 + 1) (0 + 6) Q (F0 m 6 ls [.double r9, .int 0, .ref o])
  refine k_dast hx hb hG hP hS hO dX0_meanTension_6 (fun w1 H locs h9 hf9 hP hS => ?_)
  have hO : dA E w1 o r9 := h9
  have hX : w1 x = some ((94, 0), .inr (1, [.ref (A1 0), .ref (A2 0), .ref (A3 0), .int (f 5), .ref d, .ref b, .int (f 10), .int (f 11), .int (f 12)])) := hf9 _ _ _ hX (by intro z9; first | (simp only [pO, pN, pD, pKp, pT, pB, pBs, pS, pR, pX1, pX2, pXs, pX2t, pX9, Prod.mk.injEq] at z9; done) | (simp only [pO, pN, pD, pKp, pT, pB, pBs, pS, pR, pX1, pX2, pXs, pX2t, pX9, Prod.mk.injEq] at z9; omega))
  have hM : townR E w1 1 A1 (a 0) mn wn ly := hM.frm hf9 (by intro z9; first | (simp only [pO, pN, pD, pKp, pT, pB, pBs, pS, pR, pRd, pRo, Prod.mk.injEq, pX1, pX2, pXs, pX2t] at z9; done) | (simp only [pO, pN, pD, pKp, pT, pB, pBs, pS, pR, pRd, pRo, Prod.mk.injEq, pX1, pX2, pXs, pX2t] at z9; omega)) (fun r9 => (by intro z9; first | (simp only [pO, pN, pD, pKp, pT, pB, pBs, pS, pR, pRd, pRo, Prod.mk.injEq, pX1, pX2, pXs, pX2t] at z9; done) | (simp only [pO, pN, pD, pKp, pT, pB, pBs, pS, pR, pRd, pRo, Prod.mk.injEq, pX1, pX2, pXs, pX2t] at z9; omega)))
  have hM2 : townR E w1 2 A2 u2 m2 wb2 lb2 := hM2.frm hf9 (by intro z9; first | (simp only [pO, pN, pD, pKp, pT, pB, pBs, pS, pR, pRd, pRo, Prod.mk.injEq, pX1, pX2, pXs, pX2t] at z9; done) | (simp only [pO, pN, pD, pKp, pT, pB, pBs, pS, pR, pRd, pRo, Prod.mk.injEq, pX1, pX2, pXs, pX2t] at z9; omega)) (fun r9 => (by intro z9; first | (simp only [pO, pN, pD, pKp, pT, pB, pBs, pS, pR, pRd, pRo, Prod.mk.injEq, pX1, pX2, pXs, pX2t] at z9; done) | (simp only [pO, pN, pD, pKp, pT, pB, pBs, pS, pR, pRd, pRo, Prod.mk.injEq, pX1, pX2, pXs, pX2t] at z9; omega)))
  have hM3 : townR E w1 3 A3 u3 m3 wb3 lb3 := hM3.frm hf9 (by intro z9; first | (simp only [pO, pN, pD, pKp, pT, pB, pBs, pS, pR, pRd, pRo, Prod.mk.injEq, pX1, pX2, pXs, pX2t] at z9; done) | (simp only [pO, pN, pD, pKp, pT, pB, pBs, pS, pR, pRd, pRo, Prod.mk.injEq, pX1, pX2, pXs, pX2t] at z9; omega)) (fun r9 => (by intro z9; first | (simp only [pO, pN, pD, pKp, pT, pB, pBs, pS, pR, pRd, pRo, Prod.mk.injEq, pX1, pX2, pXs, pX2t] at z9; done) | (simp only [pO, pN, pD, pKp, pT, pB, pBs, pS, pR, pRd, pRo, Prod.mk.injEq, pX1, pX2, pXs, pX2t] at z9; omega)))
  have hK : kpR E w1 d cn I (kRw a) mk := hK.fr hf9 (by intro z9; first | (simp only [pO, pN, pD, pKp, pT, pB, pBs, pS, pR, pRd, pRo, Prod.mk.injEq, pX1, pX2, pXs, pX2t] at z9; done) | (simp only [pO, pN, pD, pKp, pT, pB, pBs, pS, pR, pRd, pRo, Prod.mk.injEq, pX1, pX2, pXs, pX2t] at z9; omega)) (fun i9 r9 h7 h8 => (by intro z9; first | (simp only [pO, pN, pD, pKp, pT, pB, pBs, pS, pR, pRd, pRo, Prod.mk.injEq, pX1, pX2, pXs, pX2t] at z9; done) | (simp only [pO, pN, pD, pKp, pT, pB, pBs, pS, pR, pRd, pRo, Prod.mk.injEq, pX1, pX2, pXs, pX2t] at z9; omega)))
  have hSB : sbR E w1 b (a 8) nb := hSB.fr hf9 (by intro z9; first | (simp only [pO, pN, pD, pKp, pT, pB, pBs, pS, pR, pRd, pRo, Prod.mk.injEq, pX1, pX2, pXs, pX2t] at z9; done) | (simp only [pO, pN, pD, pKp, pT, pB, pBs, pS, pR, pRd, pRo, Prod.mk.injEq, pX1, pX2, pXs, pX2t] at z9; omega)) (by intro z9; first | (simp only [pO, pN, pD, pKp, pT, pB, pBs, pS, pR, pRd, pRo, Prod.mk.injEq, pX1, pX2, pXs, pX2t] at z9; done) | (simp only [pO, pN, pD, pKp, pT, pB, pBs, pS, pR, pRd, pRo, Prod.mk.injEq, pX1, pX2, pXs, pX2t] at z9; omega))
  have hF : fr pWd w0 w1 := hF.tr (hf9.up (fun t9 h9 => by simp only [pO, pN, pD, pKp, pT, pB, pBs, pS, pR, pX1, pX2, pXs, pX2t, pX9, pW, pWd] at h9 ⊢; first | (subst h9; simp; done) | (subst h9; omega) | omega | (rcases h9 with h9 | h9 <;> first | (subst h9; simp; done) | (subst h9; omega) | omega)))
  refine lv_goto (tgt := 13) hx hb dX0_meanTension_7 (by decide) ?_
  refine lv_iconst (v := 0) hx hb dX0_meanTension_13 (by decide) ?_
  exact kx_iret hx hb hr hlocks hQ hP hS (by omega) (by omega) dX0_meanTension_14 (⟨r9, ⟨(if_neg hq0).symm, fun _ => hq1⟩, ⟨hO, ⟨A1, A2, A3, d, b, wn, ly, I, mk, hX, ⟨hM, hI⟩, ⟨_, _, _, _, hM2⟩, ⟨u3, m3, wb3, lb3, hM3, hs3⟩, ⟨hK, hKI⟩, ⟨hSB, hcB⟩, hf9n, hf6, hf7, hf11⟩, trivial⟩, hF⟩)

abbrev rmCX0_outShare : Room := { frames := 9, cells := 40, slots := 220, locals := 141 }
theorem dyX0_outShare : yX0_outShare.cls ≠ "java/lang/invoke/MethodHandle" ∧ yX0_outShare.cls ≠ "java/lang/invoke/VarHandle" ∧ (parseMethodDescriptor yX0_outShare.desc).map (fun d => d.parameters.length) = some 2 := by decide +kernel
set_option maxHeartbeats 4000000 in
theorem CX0_outShare (l0 : Launch) (hl0 : l0.stackTraces = false) (E : gE) (w : wd) (x : Nat) (o : Nat) (f : Nat → Int32) (a : Nat → Nat → Int32) (mn : Nat) (cn : Nat) (nb : Nat) (N : Nat) (v0 : UInt64) (hC : coS E w x N f a mn cn nb) (hO : dA E w o v0) : kX l0 yX0_outShare (wsW_ yX0_outShare cX0_outShare 3 (some .int) [(0, 8, 11, 101)]) rmCX0_outShare 40 220 mI E w [.ref x, .ref o] (fun r w' => ∃ v9 : UInt64, (r = (if tSu (a 0) 3 mn = 0 then (1 : Int32) else 0) ∧ ((if tSu (a 0) 3 mn = 0 then (1 : Int32) else 0) = 0 → v9 = (FP.f2d (FP.fdiv (FP.i2f (tSu (a 0) 5 mn)) (FP.i2f (tSu (a 0) 3 mn)))))) ∧ (dA E w' o v9 ∧ coS E w' x N f a mn cn nb ∧ True) ∧ fr pWd w w') (fun _ _ _ => False) := by
  refine kx_openH (hh := [(0, 8, 11, 101)]) (cc := cX0_outShare) (maxL := 3) (ret := (some .int)) (by decide) rfl (Nat.le_of_ble_eq_true rfl) ?_
  intro p e s m args below meth c ls Q hx hb hr hml hown hts hlocks hname ht hQ hG hP hl hS
  have hl : lv_has ls 3 [(0, .ref x), (1, .ref o)] := hl
  obtain ⟨w0, hw0⟩ : ∃ z, z = w := ⟨_, rfl⟩
  have hF : fr pWd w0 w := by rw [hw0]; exact fr.rf
  rw [← hw0] at hQ
  have hC0 := hC
  obtain ⟨A1, A2, A3, d, b, wn, ly, I, mk, hX, ⟨hM, hI⟩, ⟨u2, m2, wb2, lb2, hM2⟩, ⟨u3, m3, wb3, lb3, hM3, hs3⟩, ⟨hK, hKI⟩, ⟨hSB, hcB⟩, ⟨hf9n, hf6, hf7, hf11⟩⟩ := hC0
  have hc8 := hK.le
  have hm6 := hM.m25
  obtain ⟨k3, hk3, e3⟩ := tSu_nn hI (Or.inl rfl) mn (Nat.le_refl _)
  obtain ⟨k5, hk5, e5⟩ := tSu_nn hI (Or.inr rfl) mn (Nat.le_refl _)
  have hb3 : (tSu (a 0) 3 mn).toInt.natAbs < 16777216 := by rw [e3, nI_toInt (by omega)]; omega
  have hb5 : (tSu (a 0) 5 mn).toInt.natAbs < 16777216 := by rw [e5, nI_toInt (by omega)]; omega
  refine lv_aload_n hx hb dX0_outShare_0 rfl (lv_at hl 1 rfl) ?_
  refine lv_iconst (v := 0) hx hb dX0_outShare_1 (by decide) ?_
  refine lv_aload_n hx hb dX0_outShare_2 rfl (lv_at hl 0 rfl) ?_
  refine kx_cVG hx hb hml hown hts (CX1_outShare l0 hl0 E w x A1 A2 A3 d b (f 5) (f 10) (f 11) (f 12) (a 0) mn wn ly N hI hX hM) (cwV 0 hts (lw_V q1574 q1575 q1576 q69 q1577) rfl rfl rfl dyX1_outShare ⟨Nat.le_of_ble_eq_true rfl, Nat.le_of_ble_eq_true rfl⟩) hG hP hS hX rfl (As := []) (rest := [.int 0, .ref o]) rfl hl.1 rfl (lv_room (Nat.le_of_ble_eq_true rfl)) dX0_outShare_3 ⟨show 0 + 1 ≤ 40 from by omega, show 0 + 6 ≤ 220 from by omega⟩ (fun X9 ce9 q9 w9 H locs hp hP hS hcell hcv hcl => ?_) (fun r9 w9 H locs hp hP hS => ?_)
  · skip
    obtain ⟨hX9, hw9, h0⟩ := hp
    rw [hw9] at hP
    subst hX9
    refine vx_catch (own := "KiteRoofsLaw") (name := "java/lang/ArithmeticException") hown [] ⟨0, 8, 11, 101⟩ [] (by rw [ht]; rfl) (fun z hz => nomatch hz) (by decide) (by decide) (hts _ q1541) (va_Nw.use rfl (hG.2.1.1 _ q1553 rfl)) hcell hcv hcl ?_
    show W p l0 e rmCX0_outShare s m args below meth c H locs (0 + 1) (0 + 6) Q (F0 m 11 ls [.ref q9])
    refine lv_astore_n (lv' := [(2, .ref q9), (0, .ref x), (1, .ref o)]) hx hb dX0_outShare_11 rfl hl (by decide) rfl (fun ls hl => ?_)
    refine lv_iconst (v := 1) hx hb dX0_outShare_12 (by decide) ?_
    exact kx_iret hx hb hr hlocks hQ hP hS (by omega) (by omega) dX0_outShare_13 (⟨v0, ⟨(if_pos h0).symm, fun e9 => by rw [if_pos h0] at e9; exact absurd e9 (by decide)⟩, ⟨hO, hC, trivial⟩, hF⟩)
  obtain ⟨hp1, hp0⟩ := hp
  rw [hp1] at hP
  obtain ⟨hq0, hq1⟩ := hp0
  show W p l0 e rmCX0_outShare s m args below meth c H locs (0 + 1) (0 + 6) Q (F0 m 6 ls [.float r9, .int 0, .ref o])
  refine lv_f2d hx hb dX0_outShare_6 (by rw [hq1]; exact fl_f2d (fl_f hq0 hb5 hb3)) ?_
  refine k_dast hx hb hG hP hS hO dX0_outShare_7 (fun w1 H locs h9 hf9 hP hS => ?_)
  have hO : dA E w1 o (FP.f2d r9) := h9
  have hX : w1 x = some ((94, 0), .inr (1, [.ref (A1 0), .ref (A2 0), .ref (A3 0), .int (f 5), .ref d, .ref b, .int (f 10), .int (f 11), .int (f 12)])) := hf9 _ _ _ hX (by intro z9; first | (simp only [pO, pN, pD, pKp, pT, pB, pBs, pS, pR, pX1, pX2, pXs, pX2t, pX9, Prod.mk.injEq] at z9; done) | (simp only [pO, pN, pD, pKp, pT, pB, pBs, pS, pR, pX1, pX2, pXs, pX2t, pX9, Prod.mk.injEq] at z9; omega))
  have hM : townR E w1 1 A1 (a 0) mn wn ly := hM.frm hf9 (by intro z9; first | (simp only [pO, pN, pD, pKp, pT, pB, pBs, pS, pR, pRd, pRo, Prod.mk.injEq, pX1, pX2, pXs, pX2t] at z9; done) | (simp only [pO, pN, pD, pKp, pT, pB, pBs, pS, pR, pRd, pRo, Prod.mk.injEq, pX1, pX2, pXs, pX2t] at z9; omega)) (fun r9 => (by intro z9; first | (simp only [pO, pN, pD, pKp, pT, pB, pBs, pS, pR, pRd, pRo, Prod.mk.injEq, pX1, pX2, pXs, pX2t] at z9; done) | (simp only [pO, pN, pD, pKp, pT, pB, pBs, pS, pR, pRd, pRo, Prod.mk.injEq, pX1, pX2, pXs, pX2t] at z9; omega)))
  have hM2 : townR E w1 2 A2 u2 m2 wb2 lb2 := hM2.frm hf9 (by intro z9; first | (simp only [pO, pN, pD, pKp, pT, pB, pBs, pS, pR, pRd, pRo, Prod.mk.injEq, pX1, pX2, pXs, pX2t] at z9; done) | (simp only [pO, pN, pD, pKp, pT, pB, pBs, pS, pR, pRd, pRo, Prod.mk.injEq, pX1, pX2, pXs, pX2t] at z9; omega)) (fun r9 => (by intro z9; first | (simp only [pO, pN, pD, pKp, pT, pB, pBs, pS, pR, pRd, pRo, Prod.mk.injEq, pX1, pX2, pXs, pX2t] at z9; done) | (simp only [pO, pN, pD, pKp, pT, pB, pBs, pS, pR, pRd, pRo, Prod.mk.injEq, pX1, pX2, pXs, pX2t] at z9; omega)))
  have hM3 : townR E w1 3 A3 u3 m3 wb3 lb3 := hM3.frm hf9 (by intro z9; first | (simp only [pO, pN, pD, pKp, pT, pB, pBs, pS, pR, pRd, pRo, Prod.mk.injEq, pX1, pX2, pXs, pX2t] at z9; done) | (simp only [pO, pN, pD, pKp, pT, pB, pBs, pS, pR, pRd, pRo, Prod.mk.injEq, pX1, pX2, pXs, pX2t] at z9; omega)) (fun r9 => (by intro z9; first | (simp only [pO, pN, pD, pKp, pT, pB, pBs, pS, pR, pRd, pRo, Prod.mk.injEq, pX1, pX2, pXs, pX2t] at z9; done) | (simp only [pO, pN, pD, pKp, pT, pB, pBs, pS, pR, pRd, pRo, Prod.mk.injEq, pX1, pX2, pXs, pX2t] at z9; omega)))
  have hK : kpR E w1 d cn I (kRw a) mk := hK.fr hf9 (by intro z9; first | (simp only [pO, pN, pD, pKp, pT, pB, pBs, pS, pR, pRd, pRo, Prod.mk.injEq, pX1, pX2, pXs, pX2t] at z9; done) | (simp only [pO, pN, pD, pKp, pT, pB, pBs, pS, pR, pRd, pRo, Prod.mk.injEq, pX1, pX2, pXs, pX2t] at z9; omega)) (fun i9 r9 h7 h8 => (by intro z9; first | (simp only [pO, pN, pD, pKp, pT, pB, pBs, pS, pR, pRd, pRo, Prod.mk.injEq, pX1, pX2, pXs, pX2t] at z9; done) | (simp only [pO, pN, pD, pKp, pT, pB, pBs, pS, pR, pRd, pRo, Prod.mk.injEq, pX1, pX2, pXs, pX2t] at z9; omega)))
  have hSB : sbR E w1 b (a 8) nb := hSB.fr hf9 (by intro z9; first | (simp only [pO, pN, pD, pKp, pT, pB, pBs, pS, pR, pRd, pRo, Prod.mk.injEq, pX1, pX2, pXs, pX2t] at z9; done) | (simp only [pO, pN, pD, pKp, pT, pB, pBs, pS, pR, pRd, pRo, Prod.mk.injEq, pX1, pX2, pXs, pX2t] at z9; omega)) (by intro z9; first | (simp only [pO, pN, pD, pKp, pT, pB, pBs, pS, pR, pRd, pRo, Prod.mk.injEq, pX1, pX2, pXs, pX2t] at z9; done) | (simp only [pO, pN, pD, pKp, pT, pB, pBs, pS, pR, pRd, pRo, Prod.mk.injEq, pX1, pX2, pXs, pX2t] at z9; omega))
  have hF : fr pWd w0 w1 := hF.tr (hf9.up (fun t9 h9 => by simp only [pO, pN, pD, pKp, pT, pB, pBs, pS, pR, pX1, pX2, pXs, pX2t, pX9, pW, pWd] at h9 ⊢; first | (subst h9; simp; done) | (subst h9; omega) | omega | (rcases h9 with h9 | h9 <;> first | (subst h9; simp; done) | (subst h9; omega) | omega)))
  refine lv_goto (tgt := 14) hx hb dX0_outShare_8 (by decide) ?_
  refine lv_iconst (v := 0) hx hb dX0_outShare_14 (by decide) ?_
  exact kx_iret hx hb hr hlocks hQ hP hS (by omega) (by omega) dX0_outShare_15 (⟨(FP.f2d r9), ⟨(if_neg hq0).symm, fun _ => by rw [hq1]⟩, ⟨hO, ⟨A1, A2, A3, d, b, wn, ly, I, mk, hX, ⟨hM, hI⟩, ⟨_, _, _, _, hM2⟩, ⟨u3, m3, wb3, lb3, hM3, hs3⟩, ⟨hK, hKI⟩, ⟨hSB, hcB⟩, hf9n, hf6, hf7, hf11⟩, trivial⟩, hF⟩)

abbrev rmCX0_read : Room := { frames := 13, cells := 6900, slots := 22700, locals := 275 }
theorem dyX0_read : yX0_read.cls ≠ "java/lang/invoke/MethodHandle" ∧ yX0_read.cls ≠ "java/lang/invoke/VarHandle" ∧ (parseMethodDescriptor yX0_read.desc).map (fun d => d.parameters.length) = some 2 := by decide +kernel
set_option maxHeartbeats 4000000 in
theorem CX0_read (l0 : Launch) (hl0 : l0.stackTraces = false) (E : gE) (w : wd) (x : Nat) (o : Nat) (f : Nat → Int32) (a : Nat → Nat → Int32) (mn : Nat) (cn : Nat) (nb : Nat) (N : Nat) (v0 : Int64) (hN9 : N + 71 * 31 * 32 < 2 ^ 31) (hC : coS E w x N f a mn cn nb) (hO : lA E w o v0) : kX l0 yX0_read (wsW_ yX0_read cX0_read 3 (some .int) [(0, 8, 11, 15), (0, 8, 14, 25)]) rmCX0_read 6900 22700 mI E w [.ref x, .ref o] (fun r w' => ∃ v9 : Int64, ∃ m9 : Nat, ∃ c9 : Nat, (r = (rdC (cTx (a 8) nb 61 0 0 (fun _ _ => 0)) (cRo (cTx (a 8) nb 61 0 0 (fun _ _ => 0)).2.2.2 (cTx (a 8) nb 61 0 0 (fun _ _ => 0)).2.2.1 0 (a 0) mn)) ∧ ((rdC (cTx (a 8) nb 61 0 0 (fun _ _ => 0)) (cRo (cTx (a 8) nb 61 0 0 (fun _ _ => 0)).2.2.2 (cTx (a 8) nb 61 0 0 (fun _ _ => 0)).2.2.1 0 (a 0) mn)) = 0 → v9 = (nI (cTx (a 8) nb 61 0 0 (fun _ _ => 0)).2.2.1).toInt64)) ∧ (lA E w' o v9 ∧ coS E w' x (N + 63900) (rdF f cn (cTx (a 8) nb 61 0 0 (fun _ _ => 0)) (cRo (cTx (a 8) nb 61 0 0 (fun _ _ => 0)).2.2.2 (cTx (a 8) nb 61 0 0 (fun _ _ => 0)).2.2.1 0 (a 0) mn)) (rdA a cn (cTx (a 8) nb 61 0 0 (fun _ _ => 0)) (cRo (cTx (a 8) nb 61 0 0 (fun _ _ => 0)).2.2.2 (cTx (a 8) nb 61 0 0 (fun _ _ => 0)).2.2.1 0 (a 0) mn)) m9 c9 0 ∧ True) ∧ fr pW w w') (fun _ _ _ => False) := by
  refine kx_openH (hh := [(0, 8, 11, 15), (0, 8, 14, 25)]) (cc := cX0_read) (maxL := 3) (ret := (some .int)) (by decide) rfl (Nat.le_of_ble_eq_true rfl) ?_
  intro p e s m args below meth c ls Q hx hb hr hml hown hts hlocks hname ht hQ hG hP hl hS
  have hl : lv_has ls 3 [(0, .ref x), (1, .ref o)] := hl
  obtain ⟨w0, hw0⟩ : ∃ z, z = w := ⟨_, rfl⟩
  have hF : fr pW w0 w := by rw [hw0]; exact fr.rf
  rw [← hw0] at hQ
  have hC0 := hC
  obtain ⟨A1, A2, A3, d, b, wn, ly, I, mk, hX, ⟨hM, hI⟩, ⟨u2, m2, wb2, lb2, hM2⟩, ⟨u3, m3, wb3, lb3, hM3, hs3⟩, ⟨hK, hKI⟩, ⟨hSB, hcB⟩, ⟨hf9n, hf6, hf7, hf11⟩⟩ := hC0
  have hc8 := hK.le
  have hm6 := hM.m25
  refine lv_aload_n hx hb dX0_read_0 rfl (lv_at hl 1 rfl) ?_
  refine lv_iconst (v := 0) hx hb dX0_read_1 (by decide) ?_
  refine lv_aload_n hx hb dX0_read_2 rfl (lv_at hl 0 rfl) ?_
  refine kx_cVGW hx hb hml hown hts (CX1_read l0 hl0 E w x A1 A2 A3 d b (f 5) (f 10) (f 11) (f 12) (a 0) mn wn ly u2 m2 wb2 lb2 cn I (kRw a) mk (a 8) nb N hcB hI (by omega) hX hM hM2 hK hSB) (vx_cwVW 0 hts (lw_VW q1182 q1183 q1184 q69 q1185) rfl rfl rfl dyX1_read ⟨Nat.le_of_ble_eq_true rfl, Nat.le_of_ble_eq_true rfl⟩) hG hP hS hX rfl (As := []) (rest := [.int 0, .ref o]) rfl hl.1 rfl (lv_room (Nat.le_of_ble_eq_true rfl)) dX0_read_3 ⟨show 0 + 6800 ≤ 6900 from by omega, show 0 + 22500 ≤ 22700 from by omega⟩ (fun X9 ce9 q9 w9 H locs hp hP hS hcell hcv hcl => ?_) (fun r3 w1 H locs hp hP hS => ?_)
  · skip
    obtain ⟨t9, r9, o9, b9, hq9, hX9, hS9, hM9, hM29, hK9, hf9⟩ := hp
    have hO : lA E w9 o v0 := hO.fr hf9 (by intro z9; first | (simp only [pO, pN, pD, pKp, pT, pB, pBs, pS, pR, pX1, pX2, pXs, pX2t, pX9, Prod.mk.injEq] at z9; done) | (simp only [pO, pN, pD, pKp, pT, pB, pBs, pS, pR, pX1, pX2, pXs, pX2t, pX9, Prod.mk.injEq] at z9; omega))
    have hM3 : townR E w9 3 A3 u3 m3 wb3 lb3 := hM3.frm hf9 (by intro z9; first | (simp only [pO, pN, pD, pKp, pT, pB, pBs, pS, pR, pRd, pRo, Prod.mk.injEq, pX1, pX2, pXs, pX2t, pX9] at z9; done) | (simp only [pO, pN, pD, pKp, pT, pB, pBs, pS, pR, pRd, pRo, Prod.mk.injEq, pX1, pX2, pXs, pX2t, pX9] at z9; omega)) (fun r9 => (by intro z9; first | (simp only [pO, pN, pD, pKp, pT, pB, pBs, pS, pR, pRd, pRo, Prod.mk.injEq, pX1, pX2, pXs, pX2t, pX9] at z9; done) | (simp only [pO, pN, pD, pKp, pT, pB, pBs, pS, pR, pRd, pRo, Prod.mk.injEq, pX1, pX2, pXs, pX2t, pX9] at z9; omega)))
    have hF : fr pW w0 w9 := hF.tr (hf9.up (fun t9 h9 => by simp only [pO, pN, pD, pKp, pT, pB, pBs, pS, pR, pX1, pX2, pXs, pX2t, pX9, pW, pWd] at h9 ⊢; first | (subst h9; simp; done) | (subst h9; omega) | omega | (rcases h9 with h9 | h9 <;> first | (subst h9; simp; done) | (subst h9; omega) | omega)))
    obtain ⟨hcs, hcd⟩ := coS_rn (cRo_code _ _ _ _) hq9 hX9 hM9 hI hM29 hM3 hs3 hK9 hKI hS9 hf6 hf7 hf11
    rcases hcd with ⟨hq, hX9⟩ | ⟨hq, hX9⟩
    · skip
      subst hX9
      refine vx_catch (own := "KiteRoofsLaw") (name := "java/lang/IllegalArgumentException") hown [] ⟨0, 8, 11, 15⟩ [⟨0, 8, 14, 25⟩] (by rw [ht]; rfl) (fun z hz => nomatch hz) (by decide) (by decide) (hts _ q445) (va_Nw.use rfl (hG.2.1.1 _ q488 rfl)) hcell hcv hcl ?_
      show W p l0 e rmCX0_read s m args below meth c H locs (0 + 6800) (0 + 22500) Q (F0 m 11 ls [.ref q9])
      refine lv_astore_n (lv' := [(2, .ref q9), (0, .ref x), (1, .ref o)]) hx hb dX0_read_11 rfl hl (by decide) rfl (fun ls hl => ?_)
      refine lv_iconst (v := 1) hx hb dX0_read_12 (by decide) ?_
      exact kx_iret hx hb hr hlocks hQ hP hS (by omega) (by omega) dX0_read_13 (⟨v0, mn, cn, ⟨hq.symm, fun e9 => absurd (hq.symm.trans e9) (by decide)⟩, ⟨hO, (coS.mono hcs (by omega)), trivial⟩, hF⟩)
    · skip
      subst hX9
      refine vx_catch (own := "KiteRoofsLaw") (name := "java/lang/UnsupportedOperationException") hown [⟨0, 8, 11, 15⟩] ⟨0, 8, 14, 25⟩ [] (by rw [ht]; rfl) (by intro z hz; simp only [List.mem_cons, List.not_mem_nil, or_false] at hz; rcases hz with rfl; exact Or.inr ⟨by decide, _, hts _ q445, hG.2.1.2.1 (RJ16, RJ12) (List.mem_of_getElem? (i := 27) rfl)⟩) (by decide) (by decide) (hts _ q606) (va_Nw.use rfl (hG.2.1.1 _ q620 rfl)) hcell hcv hcl ?_
      show W p l0 e rmCX0_read s m args below meth c H locs (0 + 6800) (0 + 22500) Q (F0 m 14 ls [.ref q9])
      refine lv_astore_n (lv' := [(2, .ref q9), (0, .ref x), (1, .ref o)]) hx hb dX0_read_14 rfl hl (by decide) rfl (fun ls hl => ?_)
      refine lv_iconst (v := 2) hx hb dX0_read_15 (by decide) ?_
      exact kx_iret hx hb hr hlocks hQ hP hS (by omega) (by omega) dX0_read_16 (⟨v0, mn, cn, ⟨hq.symm, fun e9 => absurd (hq.symm.trans e9) (by decide)⟩, ⟨hO, (coS.mono hcs (by omega)), trivial⟩, hF⟩)
  obtain ⟨b9_1, u9_2, m9_3, wa9_4, la9_5, I9_6, hp0, ⟨hX', hn7', hM', hM2', hK', -⟩, hf9⟩ := hp
  have hO : lA E w1 o v0 := hO.fr hf9 (by intro z9; first | (simp only [pO, pN, pD, pKp, pT, pB, pBs, pS, pR, pX1, pX2, pXs, pX2t, pX9, Prod.mk.injEq] at z9; done) | (simp only [pO, pN, pD, pKp, pT, pB, pBs, pS, pR, pX1, pX2, pXs, pX2t, pX9, Prod.mk.injEq] at z9; omega))
  have hM3 : townR E w1 3 A3 u3 m3 wb3 lb3 := hM3.frm hf9 (by intro z9; first | (simp only [pO, pN, pD, pKp, pT, pB, pBs, pS, pR, pRd, pRo, Prod.mk.injEq, pX1, pX2, pXs, pX2t, pX9] at z9; done) | (simp only [pO, pN, pD, pKp, pT, pB, pBs, pS, pR, pRd, pRo, Prod.mk.injEq, pX1, pX2, pXs, pX2t, pX9] at z9; omega)) (fun r9 => (by intro z9; first | (simp only [pO, pN, pD, pKp, pT, pB, pBs, pS, pR, pRd, pRo, Prod.mk.injEq, pX1, pX2, pXs, pX2t, pX9] at z9; done) | (simp only [pO, pN, pD, pKp, pT, pB, pBs, pS, pR, pRd, pRo, Prod.mk.injEq, pX1, pX2, pXs, pX2t, pX9] at z9; omega)))
  have hF : fr pW w0 w1 := hF.tr (hf9.up (fun t9 h9 => by simp only [pO, pN, pD, pKp, pT, pB, pBs, pS, pR, pX1, pX2, pXs, pX2t, pX9, pW, pWd] at h9 ⊢; first | (subst h9; simp; done) | (subst h9; omega) | omega | (rcases h9 with h9 | h9 <;> first | (subst h9; simp; done) | (subst h9; omega) | omega)))
  have hX : w1 x = some ((94, 0), .inr (1, [.ref (A1 0), .ref (A2 0), .ref (A3 0), .int (f 5), .ref d, .ref b9_1, .int (-1), .int (f 11), .int (f 12)])) := hX'
  have hn7 : sbR E w1 b9_1 (a 8) 0 := hn7'
  have hM : townR E w1 1 A1 ((cRo (cTx (a 8) nb 61 0 0 (fun _ _ => 0)).2.2.2 (cTx (a 8) nb 61 0 0 (fun _ _ => 0)).2.2.1 0 (a 0) mn).2.2.2.1) ((cRo (cTx (a 8) nb 61 0 0 (fun _ _ => 0)).2.2.2 (cTx (a 8) nb 61 0 0 (fun _ _ => 0)).2.2.1 0 (a 0) mn).2.2.2.2) wn ly := hM'
  have hM2 : townR E w1 2 A2 u9_2 m9_3 wa9_4 la9_5 := hM2'
  have hK : kpR E w1 d (kCn cn) I9_6 (kSh cn (kRw a) (a 0)) (kSh cn mk mn) := hK'
  show W p l0 e rmCX0_read s m args below meth c H locs (0 + 6800) (0 + 22500) Q (F0 m 6 ls [.int r3, .int 0, .ref o])
  skip
  obtain ⟨hq0, hq1, hq2⟩ := hp0
  have hm30 := cTx_m hSB.le hq0
  have hIr := cRo_gI (N := N) _ 0 (a 0) mn (fun k hk => cTx_v (B := (a 8)) (n := nb) 61 0 0 (fun _ _ => 0) (fun k hk => absurd hk (Nat.not_lt_zero k)) k (by omega)) hI (by omega) hq1
  refine lv_i2l hx hb dX0_read_6 rfl ?_
  refine k_last hx hb hG hP hS hO dX0_read_7 (fun w2 H locs h9 hf9 hP hS => ?_)
  have hO : lA E w2 o ((r3).toInt64) := h9
  have hX : w2 x = some ((94, 0), .inr (1, [.ref (A1 0), .ref (A2 0), .ref (A3 0), .int (f 5), .ref d, .ref b9_1, .int (-1), .int (f 11), .int (f 12)])) := hf9 _ _ _ hX (by intro z9; first | (simp only [pO, pN, pD, pKp, pT, pB, pBs, pS, pR, pX1, pX2, pXs, pX2t, pX9, Prod.mk.injEq] at z9; done) | (simp only [pO, pN, pD, pKp, pT, pB, pBs, pS, pR, pX1, pX2, pXs, pX2t, pX9, Prod.mk.injEq] at z9; omega))
  have hM : townR E w2 1 A1 ((cRo (cTx (a 8) nb 61 0 0 (fun _ _ => 0)).2.2.2 (cTx (a 8) nb 61 0 0 (fun _ _ => 0)).2.2.1 0 (a 0) mn).2.2.2.1) ((cRo (cTx (a 8) nb 61 0 0 (fun _ _ => 0)).2.2.2 (cTx (a 8) nb 61 0 0 (fun _ _ => 0)).2.2.1 0 (a 0) mn).2.2.2.2) wn ly := hM.frm hf9 (by intro z9; first | (simp only [pO, pN, pD, pKp, pT, pB, pBs, pS, pR, pRd, pRo, Prod.mk.injEq, pX1, pX2, pXs, pX2t] at z9; done) | (simp only [pO, pN, pD, pKp, pT, pB, pBs, pS, pR, pRd, pRo, Prod.mk.injEq, pX1, pX2, pXs, pX2t] at z9; omega)) (fun r9 => (by intro z9; first | (simp only [pO, pN, pD, pKp, pT, pB, pBs, pS, pR, pRd, pRo, Prod.mk.injEq, pX1, pX2, pXs, pX2t] at z9; done) | (simp only [pO, pN, pD, pKp, pT, pB, pBs, pS, pR, pRd, pRo, Prod.mk.injEq, pX1, pX2, pXs, pX2t] at z9; omega)))
  have hM2 : townR E w2 2 A2 u9_2 m9_3 wa9_4 la9_5 := hM2.frm hf9 (by intro z9; first | (simp only [pO, pN, pD, pKp, pT, pB, pBs, pS, pR, pRd, pRo, Prod.mk.injEq, pX1, pX2, pXs, pX2t] at z9; done) | (simp only [pO, pN, pD, pKp, pT, pB, pBs, pS, pR, pRd, pRo, Prod.mk.injEq, pX1, pX2, pXs, pX2t] at z9; omega)) (fun r9 => (by intro z9; first | (simp only [pO, pN, pD, pKp, pT, pB, pBs, pS, pR, pRd, pRo, Prod.mk.injEq, pX1, pX2, pXs, pX2t] at z9; done) | (simp only [pO, pN, pD, pKp, pT, pB, pBs, pS, pR, pRd, pRo, Prod.mk.injEq, pX1, pX2, pXs, pX2t] at z9; omega)))
  have hM3 : townR E w2 3 A3 u3 m3 wb3 lb3 := hM3.frm hf9 (by intro z9; first | (simp only [pO, pN, pD, pKp, pT, pB, pBs, pS, pR, pRd, pRo, Prod.mk.injEq, pX1, pX2, pXs, pX2t, pX9] at z9; done) | (simp only [pO, pN, pD, pKp, pT, pB, pBs, pS, pR, pRd, pRo, Prod.mk.injEq, pX1, pX2, pXs, pX2t, pX9] at z9; omega)) (fun r9 => (by intro z9; first | (simp only [pO, pN, pD, pKp, pT, pB, pBs, pS, pR, pRd, pRo, Prod.mk.injEq, pX1, pX2, pXs, pX2t, pX9] at z9; done) | (simp only [pO, pN, pD, pKp, pT, pB, pBs, pS, pR, pRd, pRo, Prod.mk.injEq, pX1, pX2, pXs, pX2t, pX9] at z9; omega)))
  have hK : kpR E w2 d (kCn cn) I9_6 (kSh cn (kRw a) (a 0)) (kSh cn mk mn) := hK.fr hf9 (by intro z9; first | (simp only [pO, pN, pD, pKp, pT, pB, pBs, pS, pR, pRd, pRo, Prod.mk.injEq, pX1, pX2, pXs, pX2t] at z9; done) | (simp only [pO, pN, pD, pKp, pT, pB, pBs, pS, pR, pRd, pRo, Prod.mk.injEq, pX1, pX2, pXs, pX2t] at z9; omega)) (fun i9 r9 h7 h8 => (by intro z9; first | (simp only [pO, pN, pD, pKp, pT, pB, pBs, pS, pR, pRd, pRo, Prod.mk.injEq, pX1, pX2, pXs, pX2t] at z9; done) | (simp only [pO, pN, pD, pKp, pT, pB, pBs, pS, pR, pRd, pRo, Prod.mk.injEq, pX1, pX2, pXs, pX2t] at z9; omega)))
  have hn7 : sbR E w2 b9_1 (a 8) 0 := hn7.fr hf9 (by intro z9; first | (simp only [pO, pN, pD, pKp, pT, pB, pBs, pS, pR, pRd, pRo, Prod.mk.injEq, pX1, pX2, pXs, pX2t] at z9; done) | (simp only [pO, pN, pD, pKp, pT, pB, pBs, pS, pR, pRd, pRo, Prod.mk.injEq, pX1, pX2, pXs, pX2t] at z9; omega)) (by intro z9; first | (simp only [pO, pN, pD, pKp, pT, pB, pBs, pS, pR, pRd, pRo, Prod.mk.injEq, pX1, pX2, pXs, pX2t] at z9; done) | (simp only [pO, pN, pD, pKp, pT, pB, pBs, pS, pR, pRd, pRo, Prod.mk.injEq, pX1, pX2, pXs, pX2t] at z9; omega))
  have hF : fr pW w0 w2 := hF.tr (hf9.up (fun t9 h9 => by simp only [pO, pN, pD, pKp, pT, pB, pBs, pS, pR, pX1, pX2, pXs, pX2t, pX9, pW, pWd] at h9 ⊢; first | (subst h9; simp; done) | (subst h9; omega) | omega | (rcases h9 with h9 | h9 <;> first | (subst h9; simp; done) | (subst h9; omega) | omega)))
  refine lv_goto (tgt := 17) hx hb dX0_read_8 (by decide) ?_
  refine lv_iconst (v := 0) hx hb dX0_read_17 (by decide) ?_
  exact kx_iret hx hb hr hlocks hQ hP hS (by omega) (by omega) dX0_read_18 (⟨((r3).toInt64), (cRo (cTx (a 8) nb 61 0 0 (fun _ _ => 0)).2.2.2 (cTx (a 8) nb 61 0 0 (fun _ _ => 0)).2.2.1 0 (a 0) mn).2.2.2.2, (kCn cn), ⟨by rw [rdC, if_neg (by rw [hq0]; decide), hq1], fun _ => by rw [hq2]⟩, ⟨hO, (coS_ro hq0 hq1 (by omega) hX hM (gI_mono hIr (by omega)) hI hM2 hM3 hs3 hc8 hK hKI hn7 hf7 hf11), trivial⟩, hF⟩)
