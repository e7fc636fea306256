/-! THE COMPONENT, 8: a round, 1 -/
set_option maxRecDepth 100000
abbrev rmCX2_counts : Room := { frames := 0, cells := 0, slots := 0, locals := 0 }
theorem dyX2_counts : yX2_counts.cls = RX2 ∧ yX2_counts.cls ≠ "java/lang/invoke/MethodHandle" ∧ yX2_counts.cls ≠ "java/lang/invoke/VarHandle" ∧ (parseMethodDescriptor yX2_counts.desc).map (fun d => d.parameters.length) = some 1 := by decide +kernel
set_option maxHeartbeats 4000000 in
theorem CX2_counts (l0 : Launch) (E : gE) (w : wd) (i : Nat) (A : Nat → Nat) (g : Nat → Int32) (mn : Nat) (wn : Nat → Int32) (ly : Nat → Int32) (x : Int32) (hi0 : i ≠ 0) (hM : townR E w i A g mn wn ly) : kC l0 yX2_counts (ws_ yX2_counts cX2_counts 2 none) rmCX2_counts 0 0 mV E w [.ref (A 0), .int x] (fun r w' => (True) ∧ (townR E w' i A (tCo g x) mn wn ly ∧ True) ∧ fr (pT i) w w') := by
  refine k_open (cc := cX2_counts) (maxL := 2) (ret := none) (by decide) rfl (Nat.le_of_ble_eq_true rfl) ?_
  intro p e s m args below meth c ls Q hx hb hr hml hown hts hlocks hname hQ hG hP hl hS
  have hl : lv_has ls 2 [(0, .ref (A 0)), (1, .int x)] := hl
  obtain ⟨w0, hw0⟩ : ∃ z, z = w := ⟨_, rfl⟩
  have hF : fr (pT i) w0 w := by rw [hw0]; exact fr.rf
  rw [← hw0] at hQ
  obtain ⟨hT, ⟨fs9, hS1, hs1⟩, ⟨fd9, hS2, hs2⟩, ⟨fk9, hS3, hs3⟩, hS4, hS5, ⟨hm, hmn⟩, hK⟩ := id hM
  refine lv_iload_n hx hb dX2_counts_0 rfl (lv_at hl 1 rfl) ?_
  refine lv_if_le (tgt := 17) hx hb dX2_counts_1 (by decide) (fun c1 => ?_) (fun c1 => ?_)
  · skip
    refine lv_aload_n hx hb dX2_counts_17 rfl (lv_at hl 0 rfl) ?_
    refine lv_dup hx hb dX2_counts_18 rfl ?_
    refine k_get hx hb hts in_X2 hown hG hP hT rfl 6 (by decide) (hts _ q192) (fun _ h9 => h9) (v := .int (g 23)) rfl dX2_counts_19 ?_
    refine lv_iload_n hx hb dX2_counts_22 rfl (lv_at hl 1 rfl) ?_
    refine lv_isub hx hb dX2_counts_23 ?_
    refine k_putW hx hb hts in_X2 tyX2 tyX2_ok nmX2 hown hG hP hS hT rfl 6 (by decide) (hts _ q192) (fun _ h9 => h9) rfl (ty := .int) (v := .int ((g 23) - x)) rfl rfl rfl (Nat.le_of_ble_eq_true rfl) dX2_counts_24 (fun w1 H locs h9 hf9 hP hS => ?_)
    have h9 : w1 (A 0) = some ((i, 0), .inr (2, tnF A (va_up g 23 ((g 23) - x)) mn)) := h9
    have hM : townR E w1 i A (va_up g 23 ((g 23) - x)) mn wn ly := hM.scal hi0 hf9 h9 (fun j hj => up_n (by omega))
    have hF : fr (pT i) w0 w1 := hF.tr (fr_OT hf9)
    obtain ⟨hT, ⟨fs9, hS1, hs1⟩, ⟨fd9, hS2, hs2⟩, ⟨fk9, hS3, hs3⟩, hS4, hS5, ⟨hm, hmn⟩, hK⟩ := id hM
    exact k_vret hx hb hr hlocks hQ hP hS (by omega) (by omega) dX2_counts_27 (⟨trivial, ⟨hM.row (by first | rw [tCo, if_pos c1] | rw [tCo, if_neg c1]), trivial⟩, hF⟩)
  · skip
    refine lv_aload_n hx hb dX2_counts_4 rfl (lv_at hl 0 rfl) ?_
    refine lv_dup hx hb dX2_counts_5 rfl ?_
    refine k_get hx hb hts in_X2 hown hG hP hT rfl 5 (by decide) (hts _ q190) (fun _ h9 => h9) (v := .int (g 21)) rfl dX2_counts_6 ?_
    refine lv_iload_n hx hb dX2_counts_9 rfl (lv_at hl 1 rfl) ?_
    refine lv_iadd hx hb dX2_counts_10 ?_
    refine k_putW hx hb hts in_X2 tyX2 tyX2_ok nmX2 hown hG hP hS hT rfl 5 (by decide) (hts _ q190) (fun _ h9 => h9) rfl (ty := .int) (v := .int ((g 21) + x)) rfl rfl rfl (Nat.le_of_ble_eq_true rfl) dX2_counts_11 (fun w2 H locs h9 hf9 hP hS => ?_)
    have h9 : w2 (A 0) = some ((i, 0), .inr (2, tnF A (va_up g 21 ((g 21) + x)) mn)) := h9
    have hM : townR E w2 i A (va_up g 21 ((g 21) + x)) mn wn ly := hM.scal hi0 hf9 h9 (fun j hj => up_n (by omega))
    have hF : fr (pT i) w0 w2 := hF.tr (fr_OT hf9)
    obtain ⟨hT, ⟨fs9, hS1, hs1⟩, ⟨fd9, hS2, hs2⟩, ⟨fk9, hS3, hs3⟩, hS4, hS5, ⟨hm, hmn⟩, hK⟩ := id hM
    refine lv_goto (tgt := 27) hx hb dX2_counts_14 (by decide) ?_
    exact k_vret hx hb hr hlocks hQ hP hS (by omega) (by omega) dX2_counts_27 (⟨trivial, ⟨hM.row (by first | rw [tCo, if_pos c1] | rw [tCo, if_neg c1]), trivial⟩, hF⟩)

abbrev rmCX2_reels : Room := { frames := 3, cells := 0, slots := 0, locals := 78 }
theorem dyX2_reels : yX2_reels.cls = RX2 ∧ yX2_reels.cls ≠ "java/lang/invoke/MethodHandle" ∧ yX2_reels.cls ≠ "java/lang/invoke/VarHandle" ∧ (parseMethodDescriptor yX2_reels.desc).map (fun d => d.parameters.length) = some 0 := by decide +kernel
set_option maxHeartbeats 4000000 in
theorem CX2_reels (l0 : Launch) (E : gE) (w : wd) (i : Nat) (A : Nat → Nat) (g : Nat → Int32) (mn : Nat) (wn : Nat → Int32) (ly : Nat → Int32) (N : Nat) (hI : gI g mn N) (hi0 : i ≠ 0) (hM : townR E w i A g mn wn ly) : kC l0 yX2_reels (ws_ yX2_reels cX2_reels 2 none) rmCX2_reels 0 0 mV E w [.ref (A 0)] (fun r w' => (True) ∧ (townR E w' i A (tP1 g mn) mn wn ly ∧ True) ∧ fr (pT i) w w') := by
  refine k_open (cc := cX2_reels) (maxL := 2) (ret := none) (by decide) rfl (Nat.le_of_ble_eq_true rfl) ?_
  intro p e s m args below meth c ls Q hx hb hr hml hown hts hlocks hname hQ hG hP hl hS
  have hl : lv_has ls 2 [(0, .ref (A 0))] := hl
  obtain ⟨w0, hw0⟩ : ∃ z, z = w := ⟨_, rfl⟩
  have hF : fr (pT i) w0 w := by rw [hw0]; exact fr.rf
  rw [← hw0] at hQ
  obtain ⟨hT, ⟨fs9, hS1, hs1⟩, ⟨fd9, hS2, hs2⟩, ⟨fk9, hS3, hs3⟩, hS4, hS5, ⟨hm, hmn⟩, hK⟩ := id hM
  refine lv_iconst (v := 0) hx hb dX2_reels_0 (by decide) ?_
  refine lv_istore_n (lv' := [(1, .int 0), (0, .ref (A 0))]) hx hb dX2_reels_1 rfl hl (by decide) rfl (fun ls hl => ?_)
  have hloop_2 : ∀ (n9_2 : Nat) (z : Nat), (z ≤ mn) → (mn - z) < n9_2 → ∀ (w : wd) (H : Heap) (locs : List Loc) (ls : Array Slot), (townR E w i A (tP1 g z) mn wn ly) → fr (pT i) w0 w → wP E w H → va_S (gA E) s.heap H locs → lv_has ls 2 [(1, .int (nI z)), (0, .ref (A 0))] → W p l0 e rmCX2_reels s m args below meth c H locs 0 0 Q (F0 m 2 ls []) := by
    intro n9_2
    induction n9_2 with
    | zero => intro z hz hn; exact absurd hn (Nat.not_lt_zero _)
    | succ n9_2 ih_2 =>
      intro z hz hn_2 w H locs ls hM hF hP hS hl
      obtain ⟨hT, ⟨fs9, hS1, hs1⟩, ⟨fd9, hS2, hs2⟩, ⟨fk9, hS3, hs3⟩, hS4, hS5, ⟨hm, hmn⟩, hK⟩ := id hM
      refine lv_iload_n hx hb dX2_reels_2 rfl (lv_at hl 0 rfl) ?_
      refine lv_aload_n hx hb dX2_reels_3 rfl (lv_at hl 1 rfl) ?_
      refine k_get hx hb hts in_X2 hown hG hP hT rfl 3 (by decide) (hts _ q186) (fun _ h9 => h9) (v := .int (nI mn)) rfl dX2_reels_4 ?_
      refine k_icmp_geN (x := z) (y := mn) (tgt := 38) hx hb (by omega) (by omega) dX2_reels_7 (by decide) (fun c7 => ?_) (fun c7 => ?_)
      · skip
        exact k_vret hx hb hr hlocks hQ hP hS (by omega) (by omega) dX2_reels_38 (⟨trivial, ⟨hM.row (by rw [show z = mn from by omega]), trivial⟩, hF⟩)
      · skip
        refine lv_aload_n hx hb dX2_reels_10 rfl (lv_at hl 1 rfl) ?_
        refine lv_aload_n hx hb dX2_reels_11 rfl (lv_at hl 1 rfl) ?_
        refine k_get hx hb hts in_X2 hown hG hP hT rfl 2 (by decide) (hts _ q184) (fun _ h9 => h9) (v := .ref (A 3)) rfl dX2_reels_12 ?_
        refine lv_iload_n hx hb dX2_reels_15 rfl (lv_at hl 0 rfl) ?_
        refine k_aald hx hb hG hP (j := z) 4 hS3 rfl (by omega) (show z < 6 from by omega) dX2_reels_16 ?_
        rw [hs3 z (by omega)]
        refine lv_aload_n hx hb dX2_reels_17 rfl (lv_at hl 1 rfl) ?_
        refine k_get hx hb hts in_X2 hown hG hP hT rfl 2 (by decide) (hts _ q184) (fun _ h9 => h9) (v := .ref (A 3)) rfl dX2_reels_18 ?_
        refine lv_iload_n hx hb dX2_reels_21 rfl (lv_at hl 0 rfl) ?_
        refine k_aald hx hb hG hP (j := z) 4 hS3 rfl (by omega) (show z < 6 from by omega) dX2_reels_22 ?_
        rw [hs3 z (by omega)]
        obtain ⟨tz1, hkz1, hsz1⟩ := hM.kite (k := z) (by omega)
        refine k_getN hx hb hts in_X3 hown hG hP hkz1 rfl 5 (by decide) (hG.2.1.1 _ q156 rfl) (fun _ h9 => h9) (v := .int ((tP1 g z) (kO z 7))) rfl dX2_reels_23 ?_
        refine k_cV hx hb hml hown hts (CX3_reels l0 E w i z (A (6 + z)) (kv (tP1 g z) z) tz1 ((tP1 g z) (kO z 7)) hkz1 hsz1) (cwV 1 hts (lw_V q720 q721 q722 q71 q723) rfl rfl rfl dyX3_reels ⟨Nat.le_of_ble_eq_true rfl, Nat.le_of_ble_eq_true rfl⟩) hG hP hS hkz1 rfl (As := [.int ((tP1 g z) (kO z 7))]) (rest := [.ref (A 0)]) rfl hl.1 rfl (lv_room (Nat.le_of_ble_eq_true rfl)) dX2_reels_26 ⟨show 0 + 0 ≤ 0 from by omega, show 0 + 0 ≤ 0 from by omega⟩ (fun r26 w1 H locs hp hP hS => ?_)
        obtain ⟨hp0, ⟨hkz1', hsz1', -⟩, hf9⟩ := hp
        have hM : townR E w1 i A (tRl (tP1 g z) z (tP1 g z (kO z 7))) mn wn ly := hM.kup hi0 (k := z) (v := (kRv (kv (tP1 g z) z) ((tP1 g z) (kO z 7)))) (by omega) hf9 ⟨(by rw [kF_rv]; exact hkz1'), hsz1'⟩ (fun _ => kv_rl) (fun j hj => tRl_lo hj) (fun j _ hj => tRl_ne hj)
        have hF : fr (pT i) w0 w1 := hF.tr (fr_KT hf9)
        obtain ⟨hT, ⟨fs9, hS1, hs1⟩, ⟨fd9, hS2, hs2⟩, ⟨fk9, hS3, hs3⟩, hS4, hS5, ⟨hm, hmn⟩, hK⟩ := id hM
        rw [hp0]
        show W p l0 e rmCX2_reels s m args below meth c H locs 0 0 Q (F0 m 29 ls [.int (kRr (kv (tP1 g z) z) ((tP1 g z) (kO z 7))), .ref (A 0)])
        refine k_cV hx hb hml hown hts (CX2_counts l0 E w1 i A (tRl (tP1 g z) z (tP1 g z (kO z 7))) mn wn ly (kRr (kv (tP1 g z) z) ((tP1 g z) (kO z 7))) hi0 hM) (cwV 1 hts (lw_V q732 q734 qs6 q70 q735) rfl rfl rfl dyX2_counts ⟨Nat.le_of_ble_eq_true rfl, Nat.le_of_ble_eq_true rfl⟩) hG hP hS hT rfl (As := [.int (kRr (kv (tP1 g z) z) ((tP1 g z) (kO z 7)))]) (rest := []) rfl hl.1 rfl (lv_room (Nat.le_of_ble_eq_true rfl)) dX2_reels_29 ⟨show 0 + 0 ≤ 0 from by omega, show 0 + 0 ≤ 0 from by omega⟩ (fun r29 w2 H locs hp hP hS => ?_)
        obtain ⟨hp0, ⟨hM', -⟩, hf9⟩ := hp
        have hM : townR E w2 i A (tCo (tRl (tP1 g z) z (tP1 g z (kO z 7))) (kRr (kv (tP1 g z) z) ((tP1 g z) (kO z 7)))) mn wn ly := hM'
        have hF : fr (pT i) w0 w2 := hF.tr hf9
        obtain ⟨hT, ⟨fs9, hS1, hs1⟩, ⟨fd9, hS2, hs2⟩, ⟨fk9, hS3, hs3⟩, hS4, hS5, ⟨hm, hmn⟩, hK⟩ := id hM
        show W p l0 e rmCX2_reels s m args below meth c H locs 0 0 Q (F0 m 32 ls [])
        refine lv_iinc (v := (nI (z + 1))) (lv' := [(1, .int (nI (z + 1))), (0, .ref (A 0))]) hx hb dX2_reels_32 hl (k := 0) rfl (nI_add z 1) (by decide) rfl (fun ls hl => ?_)
        refine lv_goto (tgt := 2) hx hb dX2_reels_35 (by decide) ?_
        have hl : lv_has ls 2 [(1, .int (nI (z + 1))), (0, .ref (A 0))] := hl
        have hM : townR E w2 i A (tP1 g (z + 1)) mn wn ly := hM.row (reel_step ((gI_P1 hI (n := z) (by omega)).2.2.2 z (by omega)))
        exact ih_2 (z + 1) (by omega) (by omega) _ _ _ _ hM hF hP hS hl
  have hl : lv_has ls 2 [(1, .int (nI 0)), (0, .ref (A 0))] := hl
  exact hloop_2 _ 0 (by omega) (Nat.lt_succ_self _) _ _ _ _ hM hF hP hS hl
