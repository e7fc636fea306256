/-! THE TWIN, 11: the two quotients -/
set_option maxRecDepth 100000
abbrev rmCX6_meanTension : Room := { frames := 5, cells := 0, slots := 0, locals := 111 }
theorem dyX6_meanTension : yX6_meanTension.cls = RX6 ∧ yX6_meanTension.cls ≠ "java/lang/invoke/MethodHandle" ∧ yX6_meanTension.cls ≠ "java/lang/invoke/VarHandle" ∧ (parseMethodDescriptor yX6_meanTension.desc).map (fun d => d.parameters.length) = some 0 := by decide +kernel
set_option maxHeartbeats 4000000 in
theorem CX6_meanTension (l0 : Launch) (E : gE) (w : wd) (h : Nat) (ad : Nat → Nat) (f : Nat → Int32) (a : Nat → Nat → Int32) (mn : Nat) (hM : tM E w h ad f a) (hmn : mn ≤ 6) (hm : (a 0) 25 = nI mn) : kC l0 yX6_meanTension (ws_ yX6_meanTension cX6_meanTension 4 (some .double)) rmCX6_meanTension 0 0 mD E w [.ref h] (fun r w' => ∃ f' a', (((tIn (a 0) 1 mn) = 0 ∧ f' = va_up f 13 1 ∧ a' = a) ∨ (¬ (tIn (a 0) 1 mn) = 0 ∧ r = FP.ddiv (FP.i2d (tTn (a 0) mn)) (FP.i2d (tIn (a 0) 1 mn)) ∧ f' = va_up f 13 0 ∧ a' = a)) ∧ tM E w' h ad f' a' ∧ fr tP w w') := by
  refine k_open (cc := cX6_meanTension) (maxL := 4) (ret := (some .double)) (by decide) rfl (Nat.le_of_ble_eq_true rfl) ?_
  intro p e s m args below meth c ls Q hx hb hr hml hown hts hlocks hname hQ hG hP hl hS
  have hl : lv_has ls 4 [(0, .ref h)] := hl
  obtain ⟨w0, hw0⟩ : ∃ z, z = w := ⟨_, rfl⟩
  have hF : fr tP w0 w := by rw [hw0]; exact fr.rf
  rw [← hw0] at hQ
  refine lv_aload_n hx hb dX6_meanTension_0 rfl (lv_at hl 0 rfl) ?_
  refine lv_iconst (v := 1) hx hb dX6_meanTension_1 (by decide) ?_
  refine tw_cR hx hb hml hown hts (val := tIn (a 0) 1 mn) (CX6_inState l0 E w h ad f a 1 mn hM (by omega) hm) (cwV 1 hts (lw_V q1734 q1736 qs41 q81 q1737) rfl rfl rfl dyX6_inState ⟨Nat.le_of_ble_eq_true rfl, Nat.le_of_ble_eq_true rfl⟩) hG hP hS hM (As := [.int 1]) (rest := []) rfl hl.1 rfl (lv_room (Nat.le_of_ble_eq_true rfl)) dX6_meanTension_2 ⟨by omega, by omega⟩ (fun H locs hP hS => ?_)
  refine lv_istore_n (lv' := [(1, .int (tIn (a 0) 1 mn)), (0, .ref h)]) hx hb dX6_meanTension_5 rfl hl (by decide) rfl (fun ls hl => ?_)
  refine lv_aload_n hx hb dX6_meanTension_6 rfl (lv_at hl 1 rfl) ?_
  refine lv_iload_n hx hb dX6_meanTension_7 rfl (lv_at hl 0 rfl) ?_
  refine lv_if_ne (tgt := 15) hx hb dX6_meanTension_8 (by decide) (fun c8 => ?_) (fun c8 => ?_)
  · skip
    refine lv_iconst (v := 0) hx hb dX6_meanTension_15 (by decide) ?_
    refine tw_cW hx hb hml hown hts (CX6_fails l0 E w h ad f a 0 hM ) (cwV 1 hts (lw_V q1695 q1697 qs35 q81 q1698) rfl rfl rfl dyX6_fails ⟨Nat.le_of_ble_eq_true rfl, Nat.le_of_ble_eq_true rfl⟩) hG hP hS hM hF (As := [.int 0]) (rest := []) rfl hl.1 rfl (lv_room (Nat.le_of_ble_eq_true rfl)) dX6_meanTension_16 ⟨by omega, by omega⟩ (fun r16 f16 a16 w H locs hp hM hF hP hS => ?_)
    obtain ⟨hp0, hp1, hp2⟩ := hp
    have hM := hM.ofF hp1 hp2
    have hM : tM E w h ad (va_up f 13 0) a := hM
    refine k_top (y := (bI (decide (0 < 0)))) hp0 ?_
    refine k_ifeqB (x := decide (0 < 0)) (tgt := 24) hx hb dX6_meanTension_19 (by decide) (fun c19 => ?_) (fun c19 => ?_)
    · skip
      refine lv_iconst (v := 0) hx hb dX6_meanTension_24 (by decide) ?_
      refine lv_istore_n (lv' := [(2, .int 0), (1, .int (tIn (a 0) 1 mn)), (0, .ref h)]) hx hb dX6_meanTension_25 rfl hl (by decide) rfl (fun ls hl => ?_)
      refine lv_iconst (v := 0) hx hb dX6_meanTension_26 (by decide) ?_
      refine lv_istore_n (lv' := [(3, .int 0), (2, .int 0), (1, .int (tIn (a 0) 1 mn)), (0, .ref h)]) hx hb dX6_meanTension_27 rfl hl (by decide) rfl (fun ls hl => ?_)
      have hloop_28 : ∀ (n9_28 : Nat) (i : Nat), (i ≤ mn) → (mn - i) < n9_28 → ∀ (w : wd) (H : Heap) (locs : List Loc) (ls : Array Slot), tM E w h ad (va_up f 13 0) a → fr tP w0 w → wP E w H → va_S (gA E) s.heap H locs → lv_has ls 4 [(3, .int (nI i)), (2, .int (tTn (a 0) i)), (1, .int (tIn (a 0) 1 mn)), (0, .ref h)] → W p l0 e rmCX6_meanTension s m args below meth c H locs 0 0 Q (F0 m 28 ls []) := by
        intro n9_28
        induction n9_28 with
        | zero => intro i hi9 hn; exact absurd hn (Nat.not_lt_zero _)
        | succ n9_28 ih_28 =>
          intro i hi9 hn_28 w H locs ls hM hF hP hS hl
          refine lv_iload_n hx hb dX6_meanTension_28 rfl (lv_at hl 0 rfl) ?_
          refine lv_aload_n hx hb dX6_meanTension_29 rfl (lv_at hl 3 rfl) ?_
          refine tw_get hx hb hts hown hG hP hM 0 (by decide) (hts _ q1620) (fun _ h9 => h9) (v := .ref (ad 0)) rfl dX6_meanTension_30 ?_
          refine lv_bipush (v := 25) hx hb dX6_meanTension_33 (by decide) ?_
          refine tw_ald hx hb hG hP hM 0 (by decide) (j := 25) (show 25 < 116 from by omega) dX6_meanTension_35 ?_
          refine k_top (y := (nI mn)) (hm) ?_
          refine k_icmp_geN (x := i) (y := mn) (tgt := 53) hx hb (by omega) (by omega) dX6_meanTension_36 (by decide) (fun c36 => ?_) (fun c36 => ?_)
          · skip
            have him : i = mn := by omega
            refine lv_iload_n hx hb dX6_meanTension_53 rfl (lv_at hl 1 rfl) ?_
            refine lv_i2d hx hb dX6_meanTension_54 ?_
            refine lv_iload_n hx hb dX6_meanTension_55 rfl (lv_at hl 2 rfl) ?_
            refine lv_i2d hx hb dX6_meanTension_56 ?_
            refine lv_ddiv hx hb dX6_meanTension_57 (fl_d c8) ?_
            exact k_dret hx hb hr hlocks hQ hP hS (by omega) (by omega) dX6_meanTension_58 (⟨_, _, Or.inr ⟨c8, by rw [him], rfl, rfl⟩, hM, hF⟩)
          · skip
            refine lv_iload_n hx hb dX6_meanTension_39 rfl (lv_at hl 1 rfl) ?_
            refine lv_aload_n hx hb dX6_meanTension_40 rfl (lv_at hl 3 rfl) ?_
            refine lv_iload_n hx hb dX6_meanTension_41 rfl (lv_at hl 0 rfl) ?_
            refine tw_cR hx hb hml hown hts (val := tTs (a 0) i) (CX6_tension l0 E w h ad (va_up f 13 0) a i hM (by omega)) (cwV 1 hts (lw_V q1781 q1783 qs47 q81 q1784) rfl rfl rfl dyX6_tension ⟨Nat.le_of_ble_eq_true rfl, Nat.le_of_ble_eq_true rfl⟩) hG hP hS hM (As := [.int (nI i)]) (rest := [.int (tTn (a 0) i)]) rfl hl.1 rfl (lv_room (Nat.le_of_ble_eq_true rfl)) dX6_meanTension_42 ⟨by omega, by omega⟩ (fun H locs hP hS => ?_)
            refine lv_iadd hx hb dX6_meanTension_45 ?_
            refine lv_istore_n (lv' := [(2, .int ((tTn (a 0) i) + tTs (a 0) i)), (3, .int (nI i)), (1, .int (tIn (a 0) 1 mn)), (0, .ref h)]) hx hb dX6_meanTension_46 rfl hl (by decide) rfl (fun ls hl => ?_)
            refine lv_iinc (v := (nI (i + 1))) (lv' := [(3, .int (nI (i + 1))), (2, .int ((tTn (a 0) i) + tTs (a 0) i)), (1, .int (tIn (a 0) 1 mn)), (0, .ref h)]) hx hb dX6_meanTension_47 hl (k := 1) rfl (nI_add i 1) (by decide) rfl (fun ls hl => ?_)
            refine lv_goto (tgt := 28) hx hb dX6_meanTension_50 (by decide) ?_
            have hl : lv_has ls 4 [(3, .int (nI (i + 1))), (2, .int (tTn (a 0) (i + 1))), (1, .int (tIn (a 0) 1 mn)), (0, .ref h)] := hl
            exact ih_28 (i + 1) (by omega) (by omega) _ _ _ _ hM hF hP hS hl
      have hl : lv_has ls 4 [(3, .int (nI 0)), (2, .int (tTn (a 0) 0)), (1, .int (tIn (a 0) 1 mn)), (0, .ref h)] := hl
      exact hloop_28 _ 0 (by omega) (Nat.lt_succ_self _) _ _ _ _ hM hF hP hS hl
    · skip
      exact absurd c19 (by decide)
  · skip
    refine lv_iconst (v := 1) hx hb dX6_meanTension_11 (by decide) ?_
    refine lv_goto (tgt := 16) hx hb dX6_meanTension_12 (by decide) ?_
    refine tw_cW hx hb hml hown hts (CX6_fails l0 E w h ad f a 1 hM ) (cwV 1 hts (lw_V q1695 q1697 qs35 q81 q1698) rfl rfl rfl dyX6_fails ⟨Nat.le_of_ble_eq_true rfl, Nat.le_of_ble_eq_true rfl⟩) hG hP hS hM hF (As := [.int 1]) (rest := []) rfl hl.1 rfl (lv_room (Nat.le_of_ble_eq_true rfl)) dX6_meanTension_16 ⟨by omega, by omega⟩ (fun r16 f16 a16 w H locs hp hM hF hP hS => ?_)
    obtain ⟨hp0, hp1, hp2⟩ := hp
    have hM := hM.ofF hp1 hp2
    have hM : tM E w h ad (va_up f 13 1) a := hM
    refine k_top (y := (bI (decide (0 < 1)))) hp0 ?_
    refine k_ifeqB (x := decide (0 < 1)) (tgt := 24) hx hb dX6_meanTension_19 (by decide) (fun c19 => ?_) (fun c19 => ?_)
    · skip
      exact absurd c19 (by decide)
    · skip
      refine lv_dconst0 hx hb dX6_meanTension_22 ?_
      exact k_dret hx hb hr hlocks hQ hP hS (by omega) (by omega) dX6_meanTension_23 (⟨_, _, Or.inl ⟨c8, rfl, rfl⟩, hM, hF⟩)

abbrev rmCX6_outShare : Room := { frames := 2, cells := 0, slots := 0, locals := 45 }
theorem dyX6_outShare : yX6_outShare.cls = RX6 ∧ yX6_outShare.cls ≠ "java/lang/invoke/MethodHandle" ∧ yX6_outShare.cls ≠ "java/lang/invoke/VarHandle" ∧ (parseMethodDescriptor yX6_outShare.desc).map (fun d => d.parameters.length) = some 0 := by decide +kernel
set_option maxHeartbeats 4000000 in
theorem CX6_outShare (l0 : Launch) (E : gE) (w : wd) (h : Nat) (ad : Nat → Nat) (f : Nat → Int32) (a : Nat → Nat → Int32) (mn : Nat) (hM : tM E w h ad f a) (hmn : mn ≤ 6) (hm : (a 0) 25 = nI mn) (hb3 : (tSu (a 0) 3 mn).toInt.natAbs < 16777216) (hb5 : (tSu (a 0) 5 mn).toInt.natAbs < 16777216) : kC l0 yX6_outShare (ws_ yX6_outShare cX6_outShare 1 (some .float)) rmCX6_outShare 0 0 mF E w [.ref h] (fun r w' => ∃ f' a', (((tSu (a 0) 3 mn) = 0 ∧ f' = va_up f 13 1 ∧ a' = a) ∨ (¬ (tSu (a 0) 3 mn) = 0 ∧ r = FP.fdiv (FP.i2f (tSu (a 0) 5 mn)) (FP.i2f (tSu (a 0) 3 mn)) ∧ f' = va_up f 13 0 ∧ a' = a)) ∧ tM E w' h ad f' a' ∧ fr tP w w') := by
  refine k_open (cc := cX6_outShare) (maxL := 1) (ret := (some .float)) (by decide) rfl (Nat.le_of_ble_eq_true rfl) ?_
  intro p e s m args below meth c ls Q hx hb hr hml hown hts hlocks hname hQ hG hP hl hS
  have hl : lv_has ls 1 [(0, .ref h)] := hl
  obtain ⟨w0, hw0⟩ : ∃ z, z = w := ⟨_, rfl⟩
  have hF : fr tP w0 w := by rw [hw0]; exact fr.rf
  rw [← hw0] at hQ
  refine lv_aload_n hx hb dX6_outShare_0 rfl (lv_at hl 0 rfl) ?_
  refine lv_aload_n hx hb dX6_outShare_1 rfl (lv_at hl 0 rfl) ?_
  refine lv_iconst (v := 3) hx hb dX6_outShare_2 (by decide) ?_
  refine tw_cR hx hb hml hown hts (val := tSu (a 0) 3 mn) (CX6_sum l0 E w h ad f a 3 mn hM (by omega) (by omega) hm) (cwV 1 hts (lw_V q1925 q1927 qs66 q81 q1928) rfl rfl rfl dyX6_sum ⟨Nat.le_of_ble_eq_true rfl, Nat.le_of_ble_eq_true rfl⟩) hG hP hS hM (As := [.int 3]) (rest := [.ref h]) rfl hl.1 rfl (lv_room (Nat.le_of_ble_eq_true rfl)) dX6_outShare_3 ⟨by omega, by omega⟩ (fun H locs hP hS => ?_)
  refine lv_if_ne (tgt := 13) hx hb dX6_outShare_6 (by decide) (fun c6 => ?_) (fun c6 => ?_)
  · skip
    refine lv_iconst (v := 0) hx hb dX6_outShare_13 (by decide) ?_
    refine tw_cW hx hb hml hown hts (CX6_fails l0 E w h ad f a 0 hM ) (cwV 1 hts (lw_V q1695 q1697 qs35 q81 q1698) rfl rfl rfl dyX6_fails ⟨Nat.le_of_ble_eq_true rfl, Nat.le_of_ble_eq_true rfl⟩) hG hP hS hM hF (As := [.int 0]) (rest := []) rfl hl.1 rfl (lv_room (Nat.le_of_ble_eq_true rfl)) dX6_outShare_14 ⟨by omega, by omega⟩ (fun r14 f14 a14 w H locs hp hM hF hP hS => ?_)
    obtain ⟨hp0, hp1, hp2⟩ := hp
    have hM := hM.ofF hp1 hp2
    have hM : tM E w h ad (va_up f 13 0) a := hM
    refine k_top (y := (bI (decide (0 < 0)))) hp0 ?_
    refine k_ifeqB (x := decide (0 < 0)) (tgt := 24) hx hb dX6_outShare_17 (by decide) (fun c17 => ?_) (fun c17 => ?_)
    · skip
      refine lv_aload_n hx hb dX6_outShare_24 rfl (lv_at hl 0 rfl) ?_
      refine lv_iconst (v := 5) hx hb dX6_outShare_25 (by decide) ?_
      refine tw_cR hx hb hml hown hts (val := tSu (a 0) 5 mn) (CX6_sum l0 E w h ad (va_up f 13 0) a 5 mn hM (by omega) (by omega) hm) (cwV 1 hts (lw_V q1925 q1927 qs66 q81 q1928) rfl rfl rfl dyX6_sum ⟨Nat.le_of_ble_eq_true rfl, Nat.le_of_ble_eq_true rfl⟩) hG hP hS hM (As := [.int 5]) (rest := []) rfl hl.1 rfl (lv_room (Nat.le_of_ble_eq_true rfl)) dX6_outShare_26 ⟨by omega, by omega⟩ (fun H locs hP hS => ?_)
      refine lv_i2f hx hb dX6_outShare_29 ?_
      refine lv_aload_n hx hb dX6_outShare_30 rfl (lv_at hl 0 rfl) ?_
      refine lv_iconst (v := 3) hx hb dX6_outShare_31 (by decide) ?_
      refine tw_cR hx hb hml hown hts (val := tSu (a 0) 3 mn) (CX6_sum l0 E w h ad (va_up f 13 0) a 3 mn hM (by omega) (by omega) hm) (cwV 1 hts (lw_V q1925 q1927 qs66 q81 q1928) rfl rfl rfl dyX6_sum ⟨Nat.le_of_ble_eq_true rfl, Nat.le_of_ble_eq_true rfl⟩) hG hP hS hM (As := [.int 3]) (rest := [.float (FP.i2f (tSu (a 0) 5 mn))]) rfl hl.1 rfl (lv_room (Nat.le_of_ble_eq_true rfl)) dX6_outShare_32 ⟨by omega, by omega⟩ (fun H locs hP hS => ?_)
      refine lv_i2f hx hb dX6_outShare_35 ?_
      refine lv_fdiv hx hb dX6_outShare_36 (fl_f c6 hb5 hb3) ?_
      exact k_fret hx hb hr hlocks hQ hP hS (by omega) (by omega) dX6_outShare_37 (⟨_, _, (by first | exact Or.inl ⟨c6, rfl, rfl⟩ | exact Or.inr ⟨c6, rfl, rfl, rfl⟩), hM, hF⟩)
    · skip
      exact absurd c17 (by decide)
  · skip
    refine lv_iconst (v := 1) hx hb dX6_outShare_9 (by decide) ?_
    refine lv_goto (tgt := 14) hx hb dX6_outShare_10 (by decide) ?_
    refine tw_cW hx hb hml hown hts (CX6_fails l0 E w h ad f a 1 hM ) (cwV 1 hts (lw_V q1695 q1697 qs35 q81 q1698) rfl rfl rfl dyX6_fails ⟨Nat.le_of_ble_eq_true rfl, Nat.le_of_ble_eq_true rfl⟩) hG hP hS hM hF (As := [.int 1]) (rest := []) rfl hl.1 rfl (lv_room (Nat.le_of_ble_eq_true rfl)) dX6_outShare_14 ⟨by omega, by omega⟩ (fun r14 f14 a14 w H locs hp hM hF hP hS => ?_)
    obtain ⟨hp0, hp1, hp2⟩ := hp
    have hM := hM.ofF hp1 hp2
    have hM : tM E w h ad (va_up f 13 1) a := hM
    refine k_top (y := (bI (decide (0 < 1)))) hp0 ?_
    refine k_ifeqB (x := decide (0 < 1)) (tgt := 24) hx hb dX6_outShare_17 (by decide) (fun c17 => ?_) (fun c17 => ?_)
    · skip
      exact absurd c17 (by decide)
    · skip
      refine lv_fconst0 hx hb dX6_outShare_20 ?_
      refine lv_goto (tgt := 37) hx hb dX6_outShare_21 (by decide) ?_
      exact k_fret hx hb hr hlocks hQ hP hS (by omega) (by omega) dX6_outShare_37 (⟨_, _, (by first | exact Or.inl ⟨c6, rfl, rfl⟩ | exact Or.inr ⟨c6, rfl, rfl, rfl⟩), hM, hF⟩)
