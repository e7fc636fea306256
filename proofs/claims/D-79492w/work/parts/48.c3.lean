/-! THE COMPONENT, 4: lines -/
set_option maxRecDepth 100000
abbrev rmCX1_in : Room := { frames := 0, cells := 0, slots := 0, locals := 0 }
theorem dyX1_in : yX1_in.cls ≠ "java/lang/invoke/MethodHandle" ∧ yX1_in.cls ≠ "java/lang/invoke/VarHandle" ∧ (parseMethodDescriptor yX1_in.desc).map (fun d => d.parameters.length) = some 3 := by decide +kernel
set_option maxHeartbeats 4000000 in
theorem CX1_in (l0 : Launch) (E : gE) (w : wd) (v : Int32) (lo : Int32) (hi : Int32) : kC l0 yX1_in (ws_ yX1_in cX1_in 3 (some .boolean)) rmCX1_in 0 0 mI E w [.int v, .int lo, .int hi] (fun r w' => w' = w ∧ r = (bI (tin v lo hi))) := by
  refine k_open (cc := cX1_in) (maxL := 3) (ret := (some .boolean)) (by decide) rfl (Nat.le_of_ble_eq_true rfl) ?_
  intro p e s m args below meth c ls Q hx hb hr hml hown hts hlocks hname hQ hG hP hl hS
  have hl : lv_has ls 3 [(0, .int v), (1, .int lo), (2, .int hi)] := hl
  refine lv_iload_n hx hb dX1_in_0 rfl (lv_at hl 0 rfl) ?_
  refine lv_iload_n hx hb dX1_in_1 rfl (lv_at hl 1 rfl) ?_
  refine lv_icmp_lt (tgt := 14) hx hb dX1_in_2 (by decide) (fun c2 => ?_) (fun c2 => ?_)
  · skip
    refine lv_iconst (v := 0) hx hb dX1_in_14 (by decide) ?_
    exact k_zret hx hb hr hlocks hQ hP hS (by omega) (by omega) dX1_in_15 rfl (⟨rfl, by first | (simp [tin, bI, Int32.not_le.mpr c2]; done) | (simp [tin, bI, Int32.not_le.mpr c7]; done) | (simp [tin, bI, Int32.not_lt.mp c2, Int32.not_lt.mp c7]; done)⟩)
  · skip
    refine lv_iload_n hx hb dX1_in_5 rfl (lv_at hl 0 rfl) ?_
    refine lv_iload_n hx hb dX1_in_6 rfl (lv_at hl 2 rfl) ?_
    refine lv_icmp_gt (tgt := 14) hx hb dX1_in_7 (by decide) (fun c7 => ?_) (fun c7 => ?_)
    · skip
      refine lv_iconst (v := 0) hx hb dX1_in_14 (by decide) ?_
      exact k_zret hx hb hr hlocks hQ hP hS (by omega) (by omega) dX1_in_15 rfl (⟨rfl, by first | (simp [tin, bI, Int32.not_le.mpr c2]; done) | (simp [tin, bI, Int32.not_le.mpr c7]; done) | (simp [tin, bI, Int32.not_lt.mp c2, Int32.not_lt.mp c7]; done)⟩)
    · skip
      refine lv_iconst (v := 1) hx hb dX1_in_10 (by decide) ?_
      refine lv_goto (tgt := 15) hx hb dX1_in_11 (by decide) ?_
      exact k_zret hx hb hr hlocks hQ hP hS (by omega) (by omega) dX1_in_15 rfl (⟨rfl, by first | (simp [tin, bI, Int32.not_le.mpr c2]; done) | (simp [tin, bI, Int32.not_le.mpr c7]; done) | (simp [tin, bI, Int32.not_lt.mp c2, Int32.not_lt.mp c7]; done)⟩)

abbrev rmCX2_isKite : Room := { frames := 1, cells := 0, slots := 0, locals := 22 }
theorem dyX2_isKite : yX2_isKite.cls = RX2 ∧ yX2_isKite.cls ≠ "java/lang/invoke/MethodHandle" ∧ yX2_isKite.cls ≠ "java/lang/invoke/VarHandle" ∧ (parseMethodDescriptor yX2_isKite.desc).map (fun d => d.parameters.length) = some 1 := by decide +kernel
set_option maxHeartbeats 4000000 in
theorem CX2_isKite (l0 : Launch) (E : gE) (w : wd) (i : Nat) (A : Nat → Nat) (g : Nat → Int32) (mn : Nat) (wn : Nat → Int32) (ly : Nat → Int32) (x : Int32) (hM : townR E w i A g mn wn ly) : kC l0 yX2_isKite (ws_ yX2_isKite cX2_isKite 2 (some .boolean)) rmCX2_isKite 0 0 mI E w [.ref (A 0), .int x] (fun r w' => w' = w ∧ r = (bI (tKt g x))) := by
  refine k_open (cc := cX2_isKite) (maxL := 2) (ret := (some .boolean)) (by decide) rfl (Nat.le_of_ble_eq_true rfl) ?_
  intro p e s m args below meth c ls Q hx hb hr hml hown hts hlocks hname hQ hG hP hl hS
  have hl : lv_has ls 2 [(0, .ref (A 0)), (1, .int x)] := hl
  obtain ⟨hT, ⟨fs9, hS1, hs1⟩, ⟨fd9, hS2, hs2⟩, ⟨fk9, hS3, hs3⟩, hS4, hS5, ⟨hm, hmn⟩, hK⟩ := id hM
  refine lv_iload_n hx hb dX2_isKite_0 rfl (lv_at hl 1 rfl) ?_
  refine lv_iconst (v := 0) hx hb dX2_isKite_1 (by decide) ?_
  refine lv_aload_n hx hb dX2_isKite_2 rfl (lv_at hl 0 rfl) ?_
  refine k_get hx hb hts in_X2 hown hG hP hT rfl 3 (by decide) (hts _ q186) (fun _ h9 => h9) (v := .int (nI mn)) rfl dX2_isKite_3 ?_
  refine lv_iconst (v := 1) hx hb dX2_isKite_6 (by decide) ?_
  refine lv_isub hx hb dX2_isKite_7 ?_
  refine k_cSN hx hb hml hown hts (CX1_in l0 E w x 0 ((nI mn) - 1)) ⟨va_cnB 3 hts (lw_meth q455) rfl rfl rfl (hG.2.1.1 _ q660 rfl) (hts _ q69) dyX1_in ⟨Nat.le_of_ble_eq_true rfl, Nat.le_of_ble_eq_true rfl⟩, hts _ q454, trivial⟩ hG hP hS (As := [.int x, .int 0, .int ((nI mn) - 1)]) (rest := []) rfl hl.1 rfl (lv_room (Nat.le_of_ble_eq_true rfl)) dX2_isKite_8 ⟨show 0 + 0 ≤ 0 from by omega, show 0 + 0 ≤ 0 from by omega⟩ (fun r9 w9 H locs hp hP hS => ?_)
  obtain ⟨hp1, hp0⟩ := hp
  rw [hp1] at hP
  rw [hp0]
  show W p l0 e rmCX2_isKite s m args below meth c H locs 0 0 Q (F0 m 11 ls [.int (bI (tin x 0 ((nI mn) - 1)))])
  exact k_zret hx hb hr hlocks hQ hP hS (by omega) (by omega) dX2_isKite_11 (bI_nar _) (⟨rfl, by rw [tKt, hm]⟩)

abbrev rmCX2_thickness : Room := { frames := 1, cells := 0, slots := 0, locals := 32 }
theorem dyX2_thickness : yX2_thickness.cls = RX2 ∧ yX2_thickness.cls ≠ "java/lang/invoke/MethodHandle" ∧ yX2_thickness.cls ≠ "java/lang/invoke/VarHandle" ∧ (parseMethodDescriptor yX2_thickness.desc).map (fun d => d.parameters.length) = some 2 := by decide +kernel
set_option maxHeartbeats 4000000 in
theorem CX2_thickness (l0 : Launch) (E : gE) (w : wd) (i : Nat) (A : Nat → Nat) (g : Nat → Int32) (mn : Nat) (wn : Nat → Int32) (ly : Nat → Int32) (N : Nat) (k : Nat) (n : Nat) (hI : gI g mn N) (hk9 : k < mn) (hn9 : n < 10) (hM : townR E w i A g mn wn ly) : kC l0 yX2_thickness (ws_ yX2_thickness cX2_thickness 4 (some .int)) rmCX2_thickness 0 0 mI E w [.ref (A 0), .ref (A (6 + k)), .int (nI n)] (fun r w' => w' = w ∧ r = (tTk g k n)) := by
  refine k_open (cc := cX2_thickness) (maxL := 4) (ret := (some .int)) (by decide) rfl (Nat.le_of_ble_eq_true rfl) ?_
  intro p e s m args below meth c ls Q hx hb hr hml hown hts hlocks hname hQ hG hP hl hS
  have hl : lv_has ls 4 [(0, .ref (A 0)), (1, .ref (A (6 + k))), (2, .int (nI n))] := hl
  obtain ⟨hT, ⟨fs9, hS1, hs1⟩, ⟨fd9, hS2, hs2⟩, ⟨fk9, hS3, hs3⟩, hS4, hS5, ⟨hm, hmn⟩, hK⟩ := id hM
  obtain ⟨t9, hk, hst⟩ := hM.kite (k := k) (by omega)
  refine lv_aload_n hx hb dX2_thickness_0 rfl (lv_at hl 0 rfl) ?_
  refine k_get hx hb hts in_X2 hown hG hP hT rfl 1 (by decide) (hts _ q182) (fun _ h9 => h9) (v := .ref (A 2)) rfl dX2_thickness_1 ?_
  refine lv_iload_n hx hb dX2_thickness_4 rfl (lv_at hl 2 rfl) ?_
  refine k_iald hx hb hG hP (j := n) hS2 (by omega) (show n < 10 from by omega) dX2_thickness_5 ?_
  refine k_top (y := (g (2 * n + 1))) (hs2 n (by omega)) ?_
  refine va_mabs hx hb (hml.trans hl.1.symm) hown (hts _ q811) (hts _ q812) (hts _ q92) (hts _ q813) (Nat.le_of_ble_eq_true rfl) (Nat.le_of_ble_eq_true rfl) (Nat.zero_le _) (Nat.zero_le _) dX2_thickness_6 ?_
  refine k_top (y := (tSz (g (2 * n + 1)))) (tSz_abs _) ?_
  refine lv_aload_n hx hb dX2_thickness_9 rfl (lv_at hl 1 rfl) ?_
  refine k_getN hx hb hts in_X3 hown hG hP hk rfl 0 (by decide) (hG.2.1.1 _ q141 rfl) (fun _ h9 => h9) (v := .ref (eM E (g (kO k 1)).toNatClampNeg)) rfl dX2_thickness_10 ?_
  refine k_factor hx hb hml hown hts q814 (gI.kind hI (k := k) (by omega)) hG hP hS hl.1 dX2_thickness_13 ⟨Nat.le_of_ble_eq_true rfl, Nat.le_of_ble_eq_true rfl⟩ (Nat.le_of_ble_eq_true rfl) ⟨show 0 ≤ 0 from by omega, show 0 ≤ 0 from by omega⟩ (fun H locs hP hS => ?_)
  refine k_top (y := tFc g k) rfl ?_
  refine lv_imul hx hb dX2_thickness_16 ?_
  refine lv_istore_n (lv' := [(3, .int ((tSz (g (2 * n + 1))) * (tFc g k))), (0, .ref (A 0)), (1, .ref (A (6 + k))), (2, .int (nI n))]) hx hb dX2_thickness_17 rfl hl (by decide) rfl (fun ls hl => ?_)
  refine lv_bipush (v := 10) hx hb dX2_thickness_18 (by decide) ?_
  refine lv_iload_n hx hb dX2_thickness_20 rfl (lv_at hl 0 rfl) ?_
  refine lv_iadd hx hb dX2_thickness_21 ?_
  refine lv_aload_n hx hb dX2_thickness_22 rfl (lv_at hl 1 rfl) ?_
  refine k_get hx hb hts in_X2 hown hG hP hT rfl 0 (by decide) (hts _ q180) (fun _ h9 => h9) (v := .ref (A 1)) rfl dX2_thickness_23 ?_
  refine lv_iload_n hx hb dX2_thickness_26 rfl (lv_at hl 3 rfl) ?_
  refine k_iald hx hb hG hP (j := n) hS1 (by omega) (show n < 10 from by omega) dX2_thickness_27 ?_
  refine k_top (y := (g (2 * n))) (hs1 n (by omega)) ?_
  refine lv_if_ne (tgt := 35) hx hb dX2_thickness_28 (by decide) (fun c28 => ?_) (fun c28 => ?_)
  · skip
    refine lv_iconst (v := 0) hx hb dX2_thickness_35 (by decide) ?_
    refine lv_iadd hx hb dX2_thickness_36 ?_
    exact k_iret hx hb hr hlocks hQ hP hS (by omega) (by omega) dX2_thickness_37 (⟨rfl, by first | rw [tTk, if_pos c28] | rw [tTk, if_neg c28]⟩)
  · skip
    refine lv_iconst (v := 5) hx hb dX2_thickness_31 (by decide) ?_
    refine lv_goto (tgt := 36) hx hb dX2_thickness_32 (by decide) ?_
    refine lv_iadd hx hb dX2_thickness_36 ?_
    exact k_iret hx hb hr hlocks hQ hP hS (by omega) (by omega) dX2_thickness_37 (⟨rfl, by first | rw [tTk, if_pos c28] | rw [tTk, if_neg c28]⟩)

abbrev rmCX2_lineUpTo : Room := { frames := 2, cells := 0, slots := 0, locals := 55 }
theorem dyX2_lineUpTo : yX2_lineUpTo.cls = RX2 ∧ yX2_lineUpTo.cls ≠ "java/lang/invoke/MethodHandle" ∧ yX2_lineUpTo.cls ≠ "java/lang/invoke/VarHandle" ∧ (parseMethodDescriptor yX2_lineUpTo.desc).map (fun d => d.parameters.length) = some 2 := by decide +kernel
set_option maxHeartbeats 4000000 in
theorem CX2_lineUpTo (l0 : Launch) (E : gE) (w : wd) (i : Nat) (A : Nat → Nat) (g : Nat → Int32) (mn : Nat) (wn : Nat → Int32) (ly : Nat → Int32) (N : Nat) (k : Nat) (n : Nat) (hI : gI g mn N) (hk9 : k < mn) (hn9 : n ≤ 10) (hM : townR E w i A g mn wn ly) : kC l0 yX2_lineUpTo (ws_ yX2_lineUpTo cX2_lineUpTo 5 (some .int)) rmCX2_lineUpTo 0 0 mI E w [.ref (A 0), .ref (A (6 + k)), .int (nI n)] (fun r w' => w' = w ∧ r = (tBl g k n)) := by
  refine k_open (cc := cX2_lineUpTo) (maxL := 5) (ret := (some .int)) (by decide) rfl (Nat.le_of_ble_eq_true rfl) ?_
  intro p e s m args below meth c ls Q hx hb hr hml hown hts hlocks hname hQ hG hP hl hS
  have hl : lv_has ls 5 [(0, .ref (A 0)), (1, .ref (A (6 + k))), (2, .int (nI n))] := hl
  obtain ⟨hT, ⟨fs9, hS1, hs1⟩, ⟨fd9, hS2, hs2⟩, ⟨fk9, hS3, hs3⟩, hS4, hS5, ⟨hm, hmn⟩, hK⟩ := id hM
  obtain ⟨t9, hk, hst⟩ := hM.kite (k := k) (by omega)
  refine lv_iconst (v := 0) hx hb dX2_lineUpTo_0 (by decide) ?_
  refine lv_istore_n (lv' := [(3, .int 0), (0, .ref (A 0)), (1, .ref (A (6 + k))), (2, .int (nI n))]) hx hb dX2_lineUpTo_1 rfl hl (by decide) rfl (fun ls hl => ?_)
  refine lv_iconst (v := 0) hx hb dX2_lineUpTo_2 (by decide) ?_
  refine lv_istore (lv' := [(4, .int 0), (3, .int 0), (0, .ref (A 0)), (1, .ref (A (6 + k))), (2, .int (nI n))]) hx hb dX2_lineUpTo_3 hl (by decide) rfl (fun ls hl => ?_)
  have hloop_5 : ∀ (n9_5 : Nat) (z : Nat), (z ≤ n) → (n - z) < n9_5 → ∀ (H : Heap) (locs : List Loc) (ls : Array Slot), wP E w H → va_S (gA E) s.heap H locs → lv_has ls 5 [(4, .int (nI z)), (3, .int (tBl g k z)), (0, .ref (A 0)), (1, .ref (A (6 + k))), (2, .int (nI n))] → W p l0 e rmCX2_lineUpTo s m args below meth c H locs 0 0 Q (F0 m 5 ls []) := by
    intro n9_5
    induction n9_5 with
    | zero => intro z hz hn; exact absurd hn (Nat.not_lt_zero _)
    | succ n9_5 ih_5 =>
      intro z hz hn_5 H locs ls  hP hS hl
      refine lv_iload hx hb dX2_lineUpTo_5 (lv_at hl 0 rfl) ?_
      refine lv_iload_n hx hb dX2_lineUpTo_7 rfl (lv_at hl 4 rfl) ?_
      refine k_icmp_geN (x := z) (y := n) (tgt := 27) hx hb (by omega) (by omega) dX2_lineUpTo_8 (by decide) (fun c8 => ?_) (fun c8 => ?_)
      · skip
        refine lv_iload_n hx hb dX2_lineUpTo_27 rfl (lv_at hl 1 rfl) ?_
        exact k_iret hx hb hr hlocks hQ hP hS (by omega) (by omega) dX2_lineUpTo_28 (⟨rfl, by rw [show z = n from by omega]⟩)
      · skip
        refine lv_iload_n hx hb dX2_lineUpTo_11 rfl (lv_at hl 1 rfl) ?_
        refine lv_aload_n hx hb dX2_lineUpTo_12 rfl (lv_at hl 2 rfl) ?_
        refine lv_aload_n hx hb dX2_lineUpTo_13 rfl (lv_at hl 3 rfl) ?_
        refine lv_iload hx hb dX2_lineUpTo_14 (lv_at hl 0 rfl) ?_
        refine k_cV hx hb hml hown hts (CX2_thickness l0 E w i A g mn wn ly N k z hI (by omega) (by omega) hM) (cwV 2 hts (lw_V q807 q809 qs9 q70 q810) rfl rfl rfl dyX2_thickness ⟨Nat.le_of_ble_eq_true rfl, Nat.le_of_ble_eq_true rfl⟩) hG hP hS hT rfl (As := [.ref (A (6 + k)), .int (nI z)]) (rest := [.int (tBl g k z)]) rfl hl.1 rfl (lv_room (Nat.le_of_ble_eq_true rfl)) dX2_lineUpTo_16 ⟨show 0 + 0 ≤ 0 from by omega, show 0 + 0 ≤ 0 from by omega⟩ (fun r9 w9 H locs hp hP hS => ?_)
        obtain ⟨hp1, hp0⟩ := hp
        rw [hp1] at hP
        rw [hp0]
        show W p l0 e rmCX2_lineUpTo s m args below meth c H locs 0 0 Q (F0 m 19 ls [.int (tTk g k z), .int (tBl g k z)])
        refine lv_iadd hx hb dX2_lineUpTo_19 ?_
        refine lv_istore_n (lv' := [(3, .int ((tBl g k z) + (tTk g k z))), (4, .int (nI z)), (0, .ref (A 0)), (1, .ref (A (6 + k))), (2, .int (nI n))]) hx hb dX2_lineUpTo_20 rfl hl (by decide) rfl (fun ls hl => ?_)
        refine lv_iinc (v := (nI (z + 1))) (lv' := [(4, .int (nI (z + 1))), (3, .int ((tBl g k z) + (tTk g k z))), (0, .ref (A 0)), (1, .ref (A (6 + k))), (2, .int (nI n))]) hx hb dX2_lineUpTo_21 hl (k := 1) rfl (nI_add z 1) (by decide) rfl (fun ls hl => ?_)
        refine lv_goto (tgt := 5) hx hb dX2_lineUpTo_24 (by decide) ?_
        have hl : lv_has ls 5 [(4, .int (nI (z + 1))), (3, .int (tBl g k (z + 1))), (0, .ref (A 0)), (1, .ref (A (6 + k))), (2, .int (nI n))] := hl
        exact ih_5 (z + 1) (by omega) (by omega) _ _ _ hP hS hl
  have hl : lv_has ls 5 [(4, .int (nI 0)), (3, .int (tBl g k 0)), (0, .ref (A 0)), (1, .ref (A (6 + k))), (2, .int (nI n))] := hl
  exact hloop_5 _ 0 (by omega) (Nat.lt_succ_self _) _ _ _ hP hS hl

abbrev rmCX2_height : Room := { frames := 2, cells := 0, slots := 0, locals := 55 }
theorem dyX2_height : yX2_height.cls = RX2 ∧ yX2_height.cls ≠ "java/lang/invoke/MethodHandle" ∧ yX2_height.cls ≠ "java/lang/invoke/VarHandle" ∧ (parseMethodDescriptor yX2_height.desc).map (fun d => d.parameters.length) = some 1 := by decide +kernel
set_option maxHeartbeats 4000000 in
theorem CX2_height (l0 : Launch) (E : gE) (w : wd) (i : Nat) (A : Nat → Nat) (g : Nat → Int32) (mn : Nat) (wn : Nat → Int32) (ly : Nat → Int32) (N : Nat) (k : Nat) (hI : gI g mn N) (hk9 : k < mn) (hM : townR E w i A g mn wn ly) : kC l0 yX2_height (ws_ yX2_height cX2_height 4 (some .int)) rmCX2_height 0 0 mI E w [.ref (A 0), .ref (A (6 + k))] (fun r w' => w' = w ∧ r = (nI (tHt g k))) := by
  refine k_open (cc := cX2_height) (maxL := 4) (ret := (some .int)) (by decide) rfl (Nat.le_of_ble_eq_true rfl) ?_
  intro p e s m args below meth c ls Q hx hb hr hml hown hts hlocks hname hQ hG hP hl hS
  have hl : lv_has ls 4 [(0, .ref (A 0)), (1, .ref (A (6 + k)))] := hl
  obtain ⟨hT, ⟨fs9, hS1, hs1⟩, ⟨fd9, hS2, hs2⟩, ⟨fk9, hS3, hs3⟩, hS4, hS5, ⟨hm, hmn⟩, hK⟩ := id hM
  obtain ⟨t9, hk, hst⟩ := hM.kite (k := k) (by omega)
  refine lv_aload_n hx hb dX2_height_0 rfl (lv_at hl 1 rfl) ?_
  refine k_cV hx hb hml hown hts (CX3_out l0 E w i k (A (6 + k)) (kv g k) t9 hk hst) (cwV 0 hts (lw_V q320 q321 q322 q71 q323) rfl rfl rfl dyX3_out ⟨Nat.le_of_ble_eq_true rfl, Nat.le_of_ble_eq_true rfl⟩) hG hP hS hk rfl (As := []) (rest := []) rfl hl.1 rfl (lv_room (Nat.le_of_ble_eq_true rfl)) dX2_height_1 ⟨show 0 + 0 ≤ 0 from by omega, show 0 + 0 ≤ 0 from by omega⟩ (fun r9 w9 H locs hp hP hS => ?_)
  obtain ⟨hp1, hp0⟩ := hp
  rw [hp1] at hP
  rw [hp0]
  show W p l0 e rmCX2_height s m args below meth c H locs 0 0 Q (F0 m 4 ls [.int (kOt (kv g k))])
  refine lv_istore_n (lv' := [(2, .int (kOt (kv g k))), (0, .ref (A 0)), (1, .ref (A (6 + k)))]) hx hb dX2_height_4 rfl hl (by decide) rfl (fun ls hl => ?_)
  refine lv_iconst (v := 0) hx hb dX2_height_5 (by decide) ?_
  refine lv_istore_n (lv' := [(3, .int 0), (2, .int (kOt (kv g k))), (0, .ref (A 0)), (1, .ref (A (6 + k)))]) hx hb dX2_height_6 rfl hl (by decide) rfl (fun ls hl => ?_)
  have hloop_7 : ∀ (n9_7 : Nat) (q : Nat) (z : Nat) (x : Int32), (q + z = 10) → (tHg g k q z x = tHt g k) → q < n9_7 → ∀ (H : Heap) (locs : List Loc) (ls : Array Slot), wP E w H → va_S (gA E) s.heap H locs → lv_has ls 4 [(3, .int (nI z)), (2, .int x), (0, .ref (A 0)), (1, .ref (A (6 + k)))] → W p l0 e rmCX2_height s m args below meth c H locs 0 0 Q (F0 m 7 ls []) := by
    intro n9_7
    induction n9_7 with
    | zero => intro q z x hq hv hn; exact absurd hn (Nat.not_lt_zero _)
    | succ n9_7 ih_7 =>
      intro q z x hq hv hn_7 H locs ls  hP hS hl
      refine lv_iload_n hx hb dX2_height_7 rfl (lv_at hl 0 rfl) ?_
      refine lv_bipush (v := 10) hx hb dX2_height_8 (by decide) ?_
      refine k_icmp_geN (x := z) (y := 10) (tgt := 38) hx hb (by omega) (by omega) dX2_height_10 (by decide) (fun c10 => ?_) (fun c10 => ?_)
      · skip
        refine lv_iload_n hx hb dX2_height_38 rfl (lv_at hl 0 rfl) ?_
        exact k_iret hx hb hr hlocks hQ hP hS (by omega) (by omega) dX2_height_39 (⟨rfl, by first | (rw [← hv, tHg, if_neg (Int32.not_le.mpr c20)]; done) | (obtain rfl : q = 0 := by omega); rw [← hv]; rfl⟩)
      · skip
        obtain ⟨q, rfl⟩ : ∃ z, q = z + 1 := ⟨q - 1, by omega⟩
        refine lv_iload_n hx hb dX2_height_13 rfl (lv_at hl 1 rfl) ?_
        refine lv_aload_n hx hb dX2_height_14 rfl (lv_at hl 2 rfl) ?_
        refine lv_aload_n hx hb dX2_height_15 rfl (lv_at hl 3 rfl) ?_
        refine lv_iload_n hx hb dX2_height_16 rfl (lv_at hl 0 rfl) ?_
        refine k_cV hx hb hml hown hts (CX2_thickness l0 E w i A g mn wn ly N k z hI (by omega) (by omega) hM) (cwV 2 hts (lw_V q807 q809 qs9 q70 q810) rfl rfl rfl dyX2_thickness ⟨Nat.le_of_ble_eq_true rfl, Nat.le_of_ble_eq_true rfl⟩) hG hP hS hT rfl (As := [.ref (A (6 + k)), .int (nI z)]) (rest := [.int x]) rfl hl.1 rfl (lv_room (Nat.le_of_ble_eq_true rfl)) dX2_height_17 ⟨show 0 + 0 ≤ 0 from by omega, show 0 + 0 ≤ 0 from by omega⟩ (fun r9 w9 H locs hp hP hS => ?_)
        obtain ⟨hp1, hp0⟩ := hp
        rw [hp1] at hP
        rw [hp0]
        show W p l0 e rmCX2_height s m args below meth c H locs 0 0 Q (F0 m 20 ls [.int (tTk g k z), .int x])
        refine lv_icmp_lt (tgt := 38) hx hb dX2_height_20 (by decide) (fun c20 => ?_) (fun c20 => ?_)
        · skip
          refine lv_iload_n hx hb dX2_height_38 rfl (lv_at hl 0 rfl) ?_
          exact k_iret hx hb hr hlocks hQ hP hS (by omega) (by omega) dX2_height_39 (⟨rfl, by first | (rw [← hv, tHg, if_neg (Int32.not_le.mpr c20)]; done) | (obtain rfl : q = 0 := by omega); rw [← hv]; rfl⟩)
        · skip
          refine lv_iload_n hx hb dX2_height_23 rfl (lv_at hl 1 rfl) ?_
          refine lv_aload_n hx hb dX2_height_24 rfl (lv_at hl 2 rfl) ?_
          refine lv_aload_n hx hb dX2_height_25 rfl (lv_at hl 3 rfl) ?_
          refine lv_iload_n hx hb dX2_height_26 rfl (lv_at hl 0 rfl) ?_
          refine k_cV hx hb hml hown hts (CX2_thickness l0 E w i A g mn wn ly N k z hI (by omega) (by omega) hM) (cwV 2 hts (lw_V q807 q809 qs9 q70 q810) rfl rfl rfl dyX2_thickness ⟨Nat.le_of_ble_eq_true rfl, Nat.le_of_ble_eq_true rfl⟩) hG hP hS hT rfl (As := [.ref (A (6 + k)), .int (nI z)]) (rest := [.int x]) rfl hl.1 rfl (lv_room (Nat.le_of_ble_eq_true rfl)) dX2_height_27 ⟨show 0 + 0 ≤ 0 from by omega, show 0 + 0 ≤ 0 from by omega⟩ (fun r9 w9 H locs hp hP hS => ?_)
          obtain ⟨hp1, hp0⟩ := hp
          rw [hp1] at hP
          rw [hp0]
          show W p l0 e rmCX2_height s m args below meth c H locs 0 0 Q (F0 m 30 ls [.int (tTk g k z), .int x])
          refine lv_isub hx hb dX2_height_30 ?_
          refine lv_istore_n (lv' := [(2, .int (x - (tTk g k z))), (3, .int (nI z)), (0, .ref (A 0)), (1, .ref (A (6 + k)))]) hx hb dX2_height_31 rfl hl (by decide) rfl (fun ls hl => ?_)
          refine lv_iinc (v := (nI (z + 1))) (lv' := [(3, .int (nI (z + 1))), (2, .int (x - (tTk g k z))), (0, .ref (A 0)), (1, .ref (A (6 + k)))]) hx hb dX2_height_32 hl (k := 1) rfl (nI_add z 1) (by decide) rfl (fun ls hl => ?_)
          refine lv_goto (tgt := 7) hx hb dX2_height_35 (by decide) ?_
          have hl : lv_has ls 4 [(3, .int (nI (z + 1))), (2, .int (x - (tTk g k z))), (0, .ref (A 0)), (1, .ref (A (6 + k)))] := hl
          exact ih_7 q (z + 1) (x - (tTk g k z)) (by omega) (by rw [← hv, tHg, if_pos (Int32.not_lt.mp c20)]) (by omega) _ _ _ hP hS hl
  have hl : lv_has ls 4 [(3, .int (nI 0)), (2, .int (kOt (kv g k))), (0, .ref (A 0)), (1, .ref (A (6 + k)))] := hl
  exact hloop_7 _ 10 0 (kOt (kv g k)) (by omega) (tHg_out hI hk9) (Nat.lt_succ_self _) _ _ _ hP hS hl

abbrev rmCX2_heightAgain : Room := { frames := 3, cells := 0, slots := 0, locals := 79 }
theorem dyX2_heightAgain : yX2_heightAgain.cls = RX2 ∧ yX2_heightAgain.cls ≠ "java/lang/invoke/MethodHandle" ∧ yX2_heightAgain.cls ≠ "java/lang/invoke/VarHandle" ∧ (parseMethodDescriptor yX2_heightAgain.desc).map (fun d => d.parameters.length) = some 1 := by decide +kernel
set_option maxHeartbeats 4000000 in
theorem CX2_heightAgain (l0 : Launch) (E : gE) (w : wd) (i : Nat) (A : Nat → Nat) (g : Nat → Int32) (mn : Nat) (wn : Nat → Int32) (ly : Nat → Int32) (N : Nat) (k : Nat) (hI : gI g mn N) (hk9 : k < mn) (hM : townR E w i A g mn wn ly) : kC l0 yX2_heightAgain (ws_ yX2_heightAgain cX2_heightAgain 3 (some .int)) rmCX2_heightAgain 0 0 mI E w [.ref (A 0), .ref (A (6 + k))] (fun r w' => w' = w ∧ r = (nI (if tUp g k = true then tHa g k 10 else 0))) := by
  refine k_open (cc := cX2_heightAgain) (maxL := 3) (ret := (some .int)) (by decide) rfl (Nat.le_of_ble_eq_true rfl) ?_
  intro p e s m args below meth c ls Q hx hb hr hml hown hts hlocks hname hQ hG hP hl hS
  have hl : lv_has ls 3 [(0, .ref (A 0)), (1, .ref (A (6 + k)))] := hl
  obtain ⟨hT, ⟨fs9, hS1, hs1⟩, ⟨fd9, hS2, hs2⟩, ⟨fk9, hS3, hs3⟩, hS4, hS5, ⟨hm, hmn⟩, hK⟩ := id hM
  obtain ⟨t9, hk, hst⟩ := hM.kite (k := k) (by omega)
  refine lv_bipush (v := 10) hx hb dX2_heightAgain_0 (by decide) ?_
  refine lv_istore_n (lv' := [(2, .int 10), (0, .ref (A 0)), (1, .ref (A (6 + k)))]) hx hb dX2_heightAgain_2 rfl hl (by decide) rfl (fun ls hl => ?_)
  have hloop_3 : ∀ (n9_3 : Nat) (z : Nat), (z ≤ 10) → (tHo g k z = tHo g k 10) → z < n9_3 → ∀ (H : Heap) (locs : List Loc) (ls : Array Slot), wP E w H → va_S (gA E) s.heap H locs → lv_has ls 3 [(2, .int (nI z)), (0, .ref (A 0)), (1, .ref (A (6 + k)))] → W p l0 e rmCX2_heightAgain s m args below meth c H locs 0 0 Q (F0 m 3 ls []) := by
    intro n9_3
    induction n9_3 with
    | zero => intro z hz hv hn; exact absurd hn (Nat.not_lt_zero _)
    | succ n9_3 ih_3 =>
      intro z hz hv hn_3 H locs ls  hP hS hl
      refine lv_aload_n hx hb dX2_heightAgain_3 rfl (lv_at hl 1 rfl) ?_
      refine lv_aload_n hx hb dX2_heightAgain_4 rfl (lv_at hl 2 rfl) ?_
      refine lv_iload_n hx hb dX2_heightAgain_5 rfl (lv_at hl 0 rfl) ?_
      refine k_cV hx hb hml hown hts (CX2_lineUpTo l0 E w i A g mn wn ly N k z hI (by omega) (by omega) hM) (cwV 2 hts (lw_V q852 q854 qs11 q70 q855) rfl rfl rfl dyX2_lineUpTo ⟨Nat.le_of_ble_eq_true rfl, Nat.le_of_ble_eq_true rfl⟩) hG hP hS hT rfl (As := [.ref (A (6 + k)), .int (nI z)]) (rest := []) rfl hl.1 rfl (lv_room (Nat.le_of_ble_eq_true rfl)) dX2_heightAgain_6 ⟨show 0 + 0 ≤ 0 from by omega, show 0 + 0 ≤ 0 from by omega⟩ (fun r9 w9 H locs hp hP hS => ?_)
      obtain ⟨hp1, hp0⟩ := hp
      rw [hp1] at hP
      rw [hp0]
      show W p l0 e rmCX2_heightAgain s m args below meth c H locs 0 0 Q (F0 m 9 ls [.int (tBl g k z)])
      refine lv_aload_n hx hb dX2_heightAgain_9 rfl (lv_at hl 2 rfl) ?_
      refine k_cV hx hb hml hown hts (CX3_out l0 E w i k (A (6 + k)) (kv g k) t9 hk hst) (cwV 0 hts (lw_V q320 q321 q322 q71 q323) rfl rfl rfl dyX3_out ⟨Nat.le_of_ble_eq_true rfl, Nat.le_of_ble_eq_true rfl⟩) hG hP hS hk rfl (As := []) (rest := [.int (tBl g k z)]) rfl hl.1 rfl (lv_room (Nat.le_of_ble_eq_true rfl)) dX2_heightAgain_10 ⟨show 0 + 0 ≤ 0 from by omega, show 0 + 0 ≤ 0 from by omega⟩ (fun r9 w9 H locs hp hP hS => ?_)
      obtain ⟨hp1, hp0⟩ := hp
      rw [hp1] at hP
      rw [hp0]
      show W p l0 e rmCX2_heightAgain s m args below meth c H locs 0 0 Q (F0 m 13 ls [.int (kOt (kv g k)), .int (tBl g k z)])
      refine lv_icmp_le (tgt := 22) hx hb dX2_heightAgain_13 (by decide) (fun c13 => ?_) (fun c13 => ?_)
      · skip
        refine lv_iload_n hx hb dX2_heightAgain_22 rfl (lv_at hl 0 rfl) ?_
        exact k_iret hx hb hr hlocks hQ hP hS (by omega) (by omega) dX2_heightAgain_23 (⟨rfl, by rw [← tHo_ha hI hk9, ← hv, tHo_e c13]⟩)
      · skip
        have hz0 : 0 < z := tHo_0 hI hk9 c13
        refine lv_iinc (v := (nI (z - 1))) (lv' := [(2, .int (nI (z - 1))), (0, .ref (A 0)), (1, .ref (A (6 + k)))]) hx hb dX2_heightAgain_16 hl (k := 0) rfl (nI_dec hz0) (by decide) rfl (fun ls hl => ?_)
        refine lv_goto (tgt := 3) hx hb dX2_heightAgain_19 (by decide) ?_
        have hl : lv_has ls 3 [(2, .int (nI (z - 1))), (0, .ref (A 0)), (1, .ref (A (6 + k)))] := hl
        exact ih_3 (z - 1) (by omega) (tHo_s hI hk9 hv c13) (by omega) _ _ _ hP hS hl
  have hl : lv_has ls 3 [(2, .int (nI 10)), (0, .ref (A 0)), (1, .ref (A (6 + k)))] := hl
  exact hloop_3 _ 10 (by omega) rfl (Nat.lt_succ_self _) _ _ _ hP hS hl

abbrev rmCX2_slack : Room := { frames := 3, cells := 0, slots := 0, locals := 79 }
theorem dyX2_slack : yX2_slack.cls = RX2 ∧ yX2_slack.cls ≠ "java/lang/invoke/MethodHandle" ∧ yX2_slack.cls ≠ "java/lang/invoke/VarHandle" ∧ (parseMethodDescriptor yX2_slack.desc).map (fun d => d.parameters.length) = some 1 := by decide +kernel
set_option maxHeartbeats 4000000 in
theorem CX2_slack (l0 : Launch) (E : gE) (w : wd) (i : Nat) (A : Nat → Nat) (g : Nat → Int32) (mn : Nat) (wn : Nat → Int32) (ly : Nat → Int32) (N : Nat) (k : Nat) (hI : gI g mn N) (hk9 : k < mn) (hM : townR E w i A g mn wn ly) : kC l0 yX2_slack (ws_ yX2_slack cX2_slack 2 (some .int)) rmCX2_slack 0 0 mI E w [.ref (A 0), .ref (A (6 + k))] (fun r w' => w' = w ∧ r = (if tUp g k = true then g (kO k 5) - tBl g k (tHt g k) else 0)) := by
  refine k_open (cc := cX2_slack) (maxL := 2) (ret := (some .int)) (by decide) rfl (Nat.le_of_ble_eq_true rfl) ?_
  intro p e s m args below meth c ls Q hx hb hr hml hown hts hlocks hname hQ hG hP hl hS
  have hl : lv_has ls 2 [(0, .ref (A 0)), (1, .ref (A (6 + k)))] := hl
  obtain ⟨hT, ⟨fs9, hS1, hs1⟩, ⟨fd9, hS2, hs2⟩, ⟨fk9, hS3, hs3⟩, hS4, hS5, ⟨hm, hmn⟩, hK⟩ := id hM
  obtain ⟨t9, hk, hst⟩ := hM.kite (k := k) (by omega)
  have h10 := tHt_le g k
  refine lv_aload_n hx hb dX2_slack_0 rfl (lv_at hl 1 rfl) ?_
  refine k_cV hx hb hml hown hts (CX3_isUp l0 E w i k (A (6 + k)) (kv g k) t9 hk hst) (cwV 0 hts (lw_V q712 q713 q714 q71 q715) rfl rfl rfl dyX3_isUp ⟨Nat.le_of_ble_eq_true rfl, Nat.le_of_ble_eq_true rfl⟩) hG hP hS hk rfl (As := []) (rest := []) rfl hl.1 rfl (lv_room (Nat.le_of_ble_eq_true rfl)) dX2_slack_1 ⟨show 0 + 0 ≤ 0 from by omega, show 0 + 0 ≤ 0 from by omega⟩ (fun r9 w9 H locs hp hP hS => ?_)
  obtain ⟨hp1, hp0⟩ := hp
  rw [hp1] at hP
  rw [hp0]
  show W p l0 e rmCX2_slack s m args below meth c H locs 0 0 Q (F0 m 4 ls [.int (bI (decide (((kv g k) 0) = 1)))])
  refine k_top (y := (bI (tUp g k))) (rfl) ?_
  refine k_ifeqB (x := tUp g k) (tgt := 25) hx hb dX2_slack_4 (by decide) (fun c4 => ?_) (fun c4 => ?_)
  · skip
    refine lv_iconst (v := 0) hx hb dX2_slack_25 (by decide) ?_
    exact k_iret hx hb hr hlocks hQ hP hS (by omega) (by omega) dX2_slack_26 (⟨rfl, by first | exact (if_neg (by rw [c4]; decide)).symm | rw [if_pos c4, kOt_up c4]⟩)
  · skip
    refine lv_aload_n hx hb dX2_slack_7 rfl (lv_at hl 1 rfl) ?_
    refine k_cV hx hb hml hown hts (CX3_out l0 E w i k (A (6 + k)) (kv g k) t9 hk hst) (cwV 0 hts (lw_V q320 q321 q322 q71 q323) rfl rfl rfl dyX3_out ⟨Nat.le_of_ble_eq_true rfl, Nat.le_of_ble_eq_true rfl⟩) hG hP hS hk rfl (As := []) (rest := []) rfl hl.1 rfl (lv_room (Nat.le_of_ble_eq_true rfl)) dX2_slack_8 ⟨show 0 + 0 ≤ 0 from by omega, show 0 + 0 ≤ 0 from by omega⟩ (fun r9 w9 H locs hp hP hS => ?_)
    obtain ⟨hp1, hp0⟩ := hp
    rw [hp1] at hP
    rw [hp0]
    show W p l0 e rmCX2_slack s m args below meth c H locs 0 0 Q (F0 m 11 ls [.int (kOt (kv g k))])
    refine lv_aload_n hx hb dX2_slack_11 rfl (lv_at hl 0 rfl) ?_
    refine lv_aload_n hx hb dX2_slack_12 rfl (lv_at hl 1 rfl) ?_
    refine lv_aload_n hx hb dX2_slack_13 rfl (lv_at hl 0 rfl) ?_
    refine lv_aload_n hx hb dX2_slack_14 rfl (lv_at hl 1 rfl) ?_
    refine k_cV hx hb hml hown hts (CX2_height l0 E w i A g mn wn ly N k hI (by omega) hM) (cwV 1 hts (lw_V q827 q804 q805 q70 q806) rfl rfl rfl dyX2_height ⟨Nat.le_of_ble_eq_true rfl, Nat.le_of_ble_eq_true rfl⟩) hG hP hS hT rfl (As := [.ref (A (6 + k))]) (rest := [.ref (A (6 + k)), .ref (A 0), .int (kOt (kv g k))]) rfl hl.1 rfl (lv_room (Nat.le_of_ble_eq_true rfl)) dX2_slack_15 ⟨show 0 + 0 ≤ 0 from by omega, show 0 + 0 ≤ 0 from by omega⟩ (fun r9 w9 H locs hp hP hS => ?_)
    obtain ⟨hp1, hp0⟩ := hp
    rw [hp1] at hP
    rw [hp0]
    show W p l0 e rmCX2_slack s m args below meth c H locs 0 0 Q (F0 m 18 ls [.int (nI (tHt g k)), .ref (A (6 + k)), .ref (A 0), .int (kOt (kv g k))])
    refine k_cV hx hb hml hown hts (CX2_lineUpTo l0 E w i A g mn wn ly N k (tHt g k) hI (by omega) (by omega) hM) (cwV 2 hts (lw_V q852 q854 qs11 q70 q855) rfl rfl rfl dyX2_lineUpTo ⟨Nat.le_of_ble_eq_true rfl, Nat.le_of_ble_eq_true rfl⟩) hG hP hS hT rfl (As := [.ref (A (6 + k)), .int (nI (tHt g k))]) (rest := [.int (kOt (kv g k))]) rfl hl.1 rfl (lv_room (Nat.le_of_ble_eq_true rfl)) dX2_slack_18 ⟨show 0 + 0 ≤ 0 from by omega, show 0 + 0 ≤ 0 from by omega⟩ (fun r9 w9 H locs hp hP hS => ?_)
    obtain ⟨hp1, hp0⟩ := hp
    rw [hp1] at hP
    rw [hp0]
    show W p l0 e rmCX2_slack s m args below meth c H locs 0 0 Q (F0 m 21 ls [.int (tBl g k (tHt g k)), .int (kOt (kv g k))])
    refine lv_isub hx hb dX2_slack_21 ?_
    refine lv_goto (tgt := 26) hx hb dX2_slack_22 (by decide) ?_
    exact k_iret hx hb hr hlocks hQ hP hS (by omega) (by omega) dX2_slack_26 (⟨rfl, by first | exact (if_neg (by rw [c4]; decide)).symm | rw [if_pos c4, kOt_up c4]⟩)

abbrev rmCX2_place : Room := { frames := 1, cells := 0, slots := 0, locals := 20 }
theorem dyX2_place : yX2_place.cls = RX2 ∧ yX2_place.cls ≠ "java/lang/invoke/MethodHandle" ∧ yX2_place.cls ≠ "java/lang/invoke/VarHandle" ∧ (parseMethodDescriptor yX2_place.desc).map (fun d => d.parameters.length) = some 2 := by decide +kernel
set_option maxHeartbeats 4000000 in
theorem CX2_place (l0 : Launch) (E : gE) (w : wd) (i : Nat) (A : Nat → Nat) (g : Nat → Int32) (mn : Nat) (wn : Nat → Int32) (ly : Nat → Int32) (N : Nat) (k : Nat) (n : Nat) (hI : gI g mn N) (hk9 : k < mn) (hn9 : n ≤ 10) (hM : townR E w i A g mn wn ly) : kC l0 yX2_place (ws_ yX2_place cX2_place 5 (some .int)) rmCX2_place 0 0 mI E w [.ref (A 0), .ref (A (6 + k)), .int (nI n)] (fun r w' => w' = w ∧ r = (tPl g k n)) := by
  refine k_open (cc := cX2_place) (maxL := 5) (ret := (some .int)) (by decide) rfl (Nat.le_of_ble_eq_true rfl) ?_
  intro p e s m args below meth c ls Q hx hb hr hml hown hts hlocks hname hQ hG hP hl hS
  have hl : lv_has ls 5 [(0, .ref (A 0)), (1, .ref (A (6 + k))), (2, .int (nI n))] := hl
  obtain ⟨hT, ⟨fs9, hS1, hs1⟩, ⟨fd9, hS2, hs2⟩, ⟨fk9, hS3, hs3⟩, hS4, hS5, ⟨hm, hmn⟩, hK⟩ := id hM
  obtain ⟨t9, hk, hst⟩ := hM.kite (k := k) (by omega)
  refine lv_aload_n hx hb dX2_place_0 rfl (lv_at hl 1 rfl) ?_
  refine k_getN hx hb hts in_X3 hown hG hP hk rfl 1 (by decide) (hG.2.1.1 _ q144 rfl) (fun _ h9 => h9) (v := .int (g (kO k 2))) rfl dX2_place_1 ?_
  refine lv_istore_n (lv' := [(3, .int (g (kO k 2))), (0, .ref (A 0)), (1, .ref (A (6 + k))), (2, .int (nI n))]) hx hb dX2_place_4 rfl hl (by decide) rfl (fun ls hl => ?_)
  refine lv_iconst (v := 0) hx hb dX2_place_5 (by decide) ?_
  refine lv_istore (lv' := [(4, .int 0), (3, .int (g (kO k 2))), (0, .ref (A 0)), (1, .ref (A (6 + k))), (2, .int (nI n))]) hx hb dX2_place_6 hl (by decide) rfl (fun ls hl => ?_)
  have hloop_8 : ∀ (n9_8 : Nat) (z : Nat), (z ≤ n) → (n - z) < n9_8 → ∀ (H : Heap) (locs : List Loc) (ls : Array Slot), wP E w H → va_S (gA E) s.heap H locs → lv_has ls 5 [(4, .int (nI z)), (3, .int (tPl g k z)), (0, .ref (A 0)), (1, .ref (A (6 + k))), (2, .int (nI n))] → W p l0 e rmCX2_place s m args below meth c H locs 0 0 Q (F0 m 8 ls []) := by
    intro n9_8
    induction n9_8 with
    | zero => intro z hz hn; exact absurd hn (Nat.not_lt_zero _)
    | succ n9_8 ih_8 =>
      intro z hz hn_8 H locs ls  hP hS hl
      refine lv_iload hx hb dX2_place_8 (lv_at hl 0 rfl) ?_
      refine lv_iload_n hx hb dX2_place_10 rfl (lv_at hl 4 rfl) ?_
      refine k_icmp_geN (x := z) (y := n) (tgt := 38) hx hb (by omega) (by omega) dX2_place_11 (by decide) (fun c11 => ?_) (fun c11 => ?_)
      · skip
        refine lv_iload_n hx hb dX2_place_38 rfl (lv_at hl 1 rfl) ?_
        exact k_iret hx hb hr hlocks hQ hP hS (by omega) (by omega) dX2_place_39 (⟨rfl, by rw [show z = n from by omega]⟩)
      · skip
        refine lv_iload_n hx hb dX2_place_14 rfl (lv_at hl 1 rfl) ?_
        refine lv_aload_n hx hb dX2_place_15 rfl (lv_at hl 2 rfl) ?_
        refine k_get hx hb hts in_X2 hown hG hP hT rfl 1 (by decide) (hts _ q182) (fun _ h9 => h9) (v := .ref (A 2)) rfl dX2_place_16 ?_
        refine lv_iload hx hb dX2_place_19 (lv_at hl 0 rfl) ?_
        refine k_iald hx hb hG hP (j := z) hS2 (by omega) (show z < 10 from by omega) dX2_place_21 ?_
        refine k_top (y := (g (2 * z + 1))) (hs2 z (by omega)) ?_
        refine lv_aload_n hx hb dX2_place_22 rfl (lv_at hl 3 rfl) ?_
        refine k_getN hx hb hts in_X3 hown hG hP hk rfl 0 (by decide) (hG.2.1.1 _ q141 rfl) (fun _ h9 => h9) (v := .ref (eM E (g (kO k 1)).toNatClampNeg)) rfl dX2_place_23 ?_
        refine k_factor hx hb hml hown hts q814 (gI.kind hI (k := k) (by omega)) hG hP hS hl.1 dX2_place_26 ⟨Nat.le_of_ble_eq_true rfl, Nat.le_of_ble_eq_true rfl⟩ (Nat.le_of_ble_eq_true rfl) ⟨show 0 ≤ 0 from by omega, show 0 ≤ 0 from by omega⟩ (fun H locs hP hS => ?_)
        refine k_top (y := tFc g k) rfl ?_
        refine lv_imul hx hb dX2_place_29 ?_
        refine lv_iadd hx hb dX2_place_30 ?_
        refine lv_istore_n (lv' := [(3, .int ((tPl g k z) + ((g (2 * z + 1)) * (tFc g k)))), (4, .int (nI z)), (0, .ref (A 0)), (1, .ref (A (6 + k))), (2, .int (nI n))]) hx hb dX2_place_31 rfl hl (by decide) rfl (fun ls hl => ?_)
        refine lv_iinc (v := (nI (z + 1))) (lv' := [(4, .int (nI (z + 1))), (3, .int ((tPl g k z) + ((g (2 * z + 1)) * (tFc g k)))), (0, .ref (A 0)), (1, .ref (A (6 + k))), (2, .int (nI n))]) hx hb dX2_place_32 hl (k := 1) rfl (nI_add z 1) (by decide) rfl (fun ls hl => ?_)
        refine lv_goto (tgt := 8) hx hb dX2_place_35 (by decide) ?_
        have hl : lv_has ls 5 [(4, .int (nI (z + 1))), (3, .int (tPl g k (z + 1))), (0, .ref (A 0)), (1, .ref (A (6 + k))), (2, .int (nI n))] := hl
        exact ih_8 (z + 1) (by omega) (by omega) _ _ _ hP hS hl
  have hl : lv_has ls 5 [(4, .int (nI 0)), (3, .int (tPl g k 0)), (0, .ref (A 0)), (1, .ref (A (6 + k))), (2, .int (nI n))] := hl
  exact hloop_8 _ 0 (by omega) (Nat.lt_succ_self _) _ _ _ hP hS hl

abbrev rmCX2_placeNow : Room := { frames := 3, cells := 0, slots := 0, locals := 78 }
theorem dyX2_placeNow : yX2_placeNow.cls = RX2 ∧ yX2_placeNow.cls ≠ "java/lang/invoke/MethodHandle" ∧ yX2_placeNow.cls ≠ "java/lang/invoke/VarHandle" ∧ (parseMethodDescriptor yX2_placeNow.desc).map (fun d => d.parameters.length) = some 1 := by decide +kernel
set_option maxHeartbeats 4000000 in
theorem CX2_placeNow (l0 : Launch) (E : gE) (w : wd) (i : Nat) (A : Nat → Nat) (g : Nat → Int32) (mn : Nat) (wn : Nat → Int32) (ly : Nat → Int32) (N : Nat) (k : Nat) (hI : gI g mn N) (hk9 : k < mn) (hM : townR E w i A g mn wn ly) : kC l0 yX2_placeNow (ws_ yX2_placeNow cX2_placeNow 2 (some .int)) rmCX2_placeNow 0 0 mI E w [.ref (A 0), .ref (A (6 + k))] (fun r w' => w' = w ∧ r = (tPl g k (tHt g k))) := by
  refine k_open (cc := cX2_placeNow) (maxL := 2) (ret := (some .int)) (by decide) rfl (Nat.le_of_ble_eq_true rfl) ?_
  intro p e s m args below meth c ls Q hx hb hr hml hown hts hlocks hname hQ hG hP hl hS
  have hl : lv_has ls 2 [(0, .ref (A 0)), (1, .ref (A (6 + k)))] := hl
  obtain ⟨hT, ⟨fs9, hS1, hs1⟩, ⟨fd9, hS2, hs2⟩, ⟨fk9, hS3, hs3⟩, hS4, hS5, ⟨hm, hmn⟩, hK⟩ := id hM
  obtain ⟨t9, hk, hst⟩ := hM.kite (k := k) (by omega)
  have h10 := tHt_le g k
  refine lv_aload_n hx hb dX2_placeNow_0 rfl (lv_at hl 0 rfl) ?_
  refine lv_aload_n hx hb dX2_placeNow_1 rfl (lv_at hl 1 rfl) ?_
  refine lv_aload_n hx hb dX2_placeNow_2 rfl (lv_at hl 0 rfl) ?_
  refine lv_aload_n hx hb dX2_placeNow_3 rfl (lv_at hl 1 rfl) ?_
  refine k_cV hx hb hml hown hts (CX2_height l0 E w i A g mn wn ly N k hI (by omega) hM) (cwV 1 hts (lw_V q827 q804 q805 q70 q806) rfl rfl rfl dyX2_height ⟨Nat.le_of_ble_eq_true rfl, Nat.le_of_ble_eq_true rfl⟩) hG hP hS hT rfl (As := [.ref (A (6 + k))]) (rest := [.ref (A (6 + k)), .ref (A 0)]) rfl hl.1 rfl (lv_room (Nat.le_of_ble_eq_true rfl)) dX2_placeNow_4 ⟨show 0 + 0 ≤ 0 from by omega, show 0 + 0 ≤ 0 from by omega⟩ (fun r9 w9 H locs hp hP hS => ?_)
  obtain ⟨hp1, hp0⟩ := hp
  rw [hp1] at hP
  rw [hp0]
  show W p l0 e rmCX2_placeNow s m args below meth c H locs 0 0 Q (F0 m 7 ls [.int (nI (tHt g k)), .ref (A (6 + k)), .ref (A 0)])
  refine k_cV hx hb hml hown hts (CX2_place l0 E w i A g mn wn ly N k (tHt g k) hI (by omega) (by omega) hM) (cwV 2 hts (lw_V q844 q846 qs10 q70 q847) rfl rfl rfl dyX2_place ⟨Nat.le_of_ble_eq_true rfl, Nat.le_of_ble_eq_true rfl⟩) hG hP hS hT rfl (As := [.ref (A (6 + k)), .int (nI (tHt g k))]) (rest := []) rfl hl.1 rfl (lv_room (Nat.le_of_ble_eq_true rfl)) dX2_placeNow_7 ⟨show 0 + 0 ≤ 0 from by omega, show 0 + 0 ≤ 0 from by omega⟩ (fun r9 w9 H locs hp hP hS => ?_)
  obtain ⟨hp1, hp0⟩ := hp
  rw [hp1] at hP
  rw [hp0]
  show W p l0 e rmCX2_placeNow s m args below meth c H locs 0 0 Q (F0 m 10 ls [.int (tPl g k (tHt g k))])
  exact k_iret hx hb hr hlocks hQ hP hS (by omega) (by omega) dX2_placeNow_10 (⟨rfl, rfl⟩)

abbrev rmCX2_tension : Room := { frames := 3, cells := 0, slots := 0, locals := 78 }
theorem dyX2_tension : yX2_tension.cls = RX2 ∧ yX2_tension.cls ≠ "java/lang/invoke/MethodHandle" ∧ yX2_tension.cls ≠ "java/lang/invoke/VarHandle" ∧ (parseMethodDescriptor yX2_tension.desc).map (fun d => d.parameters.length) = some 1 := by decide +kernel
set_option maxHeartbeats 4000000 in
theorem CX2_tension (l0 : Launch) (E : gE) (w : wd) (i : Nat) (A : Nat → Nat) (g : Nat → Int32) (mn : Nat) (wn : Nat → Int32) (ly : Nat → Int32) (N : Nat) (k : Nat) (hI : gI g mn N) (hk9 : k < mn) (hM : townR E w i A g mn wn ly) : kC l0 yX2_tension (ws_ yX2_tension cX2_tension 4 (some .int)) rmCX2_tension 0 0 mI E w [.ref (A 0), .ref (A (6 + k))] (fun r w' => w' = w ∧ r = (tTs g k)) := by
  refine k_open (cc := cX2_tension) (maxL := 4) (ret := (some .int)) (by decide) rfl (Nat.le_of_ble_eq_true rfl) ?_
  intro p e s m args below meth c ls Q hx hb hr hml hown hts hlocks hname hQ hG hP hl hS
  have hl : lv_has ls 4 [(0, .ref (A 0)), (1, .ref (A (6 + k)))] := hl
  obtain ⟨hT, ⟨fs9, hS1, hs1⟩, ⟨fd9, hS2, hs2⟩, ⟨fk9, hS3, hs3⟩, hS4, hS5, ⟨hm, hmn⟩, hK⟩ := id hM
  obtain ⟨t9, hk, hst⟩ := hM.kite (k := k) (by omega)
  have h10 := tHt_le g k
  refine lv_iconst (v := 0) hx hb dX2_tension_0 (by decide) ?_
  refine lv_istore_n (lv' := [(2, .int 0), (0, .ref (A 0)), (1, .ref (A (6 + k)))]) hx hb dX2_tension_1 rfl hl (by decide) rfl (fun ls hl => ?_)
  refine lv_iconst (v := 0) hx hb dX2_tension_2 (by decide) ?_
  refine lv_istore_n (lv' := [(3, .int 0), (2, .int 0), (0, .ref (A 0)), (1, .ref (A (6 + k)))]) hx hb dX2_tension_3 rfl hl (by decide) rfl (fun ls hl => ?_)
  have hloop_4 : ∀ (n9_4 : Nat) (z : Nat), (z ≤ tHt g k) → (tHt g k - z) < n9_4 → ∀ (H : Heap) (locs : List Loc) (ls : Array Slot), wP E w H → va_S (gA E) s.heap H locs → lv_has ls 4 [(3, .int (nI z)), (2, .int (tSm g z)), (0, .ref (A 0)), (1, .ref (A (6 + k)))] → W p l0 e rmCX2_tension s m args below meth c H locs 0 0 Q (F0 m 4 ls []) := by
    intro n9_4
    induction n9_4 with
    | zero => intro z hz hn; exact absurd hn (Nat.not_lt_zero _)
    | succ n9_4 ih_4 =>
      intro z hz hn_4 H locs ls  hP hS hl
      refine lv_iload_n hx hb dX2_tension_4 rfl (lv_at hl 0 rfl) ?_
      refine lv_aload_n hx hb dX2_tension_5 rfl (lv_at hl 2 rfl) ?_
      refine lv_aload_n hx hb dX2_tension_6 rfl (lv_at hl 3 rfl) ?_
      refine k_cV hx hb hml hown hts (CX2_height l0 E w i A g mn wn ly N k hI (by omega) hM) (cwV 1 hts (lw_V q827 q804 q805 q70 q806) rfl rfl rfl dyX2_height ⟨Nat.le_of_ble_eq_true rfl, Nat.le_of_ble_eq_true rfl⟩) hG hP hS hT rfl (As := [.ref (A (6 + k))]) (rest := [.int (nI z)]) rfl hl.1 rfl (lv_room (Nat.le_of_ble_eq_true rfl)) dX2_tension_7 ⟨show 0 + 0 ≤ 0 from by omega, show 0 + 0 ≤ 0 from by omega⟩ (fun r9 w9 H locs hp hP hS => ?_)
      obtain ⟨hp1, hp0⟩ := hp
      rw [hp1] at hP
      rw [hp0]
      show W p l0 e rmCX2_tension s m args below meth c H locs 0 0 Q (F0 m 10 ls [.int (nI (tHt g k)), .int (nI z)])
      refine k_icmp_geN (x := z) (y := tHt g k) (tgt := 28) hx hb (by omega) (by omega) dX2_tension_10 (by decide) (fun c10 => ?_) (fun c10 => ?_)
      · skip
        refine lv_iload_n hx hb dX2_tension_28 rfl (lv_at hl 1 rfl) ?_
        refine lv_aload_n hx hb dX2_tension_29 rfl (lv_at hl 3 rfl) ?_
        refine k_getN hx hb hts in_X3 hown hG hP hk rfl 0 (by decide) (hG.2.1.1 _ q141 rfl) (fun _ h9 => h9) (v := .ref (eM E (g (kO k 1)).toNatClampNeg)) rfl dX2_tension_30 ?_
        refine k_area hx hb hml hown hts q828 (gI.kind hI (k := k) (by omega)) hG hP hS hl.1 dX2_tension_33 ⟨Nat.le_of_ble_eq_true rfl, Nat.le_of_ble_eq_true rfl⟩ (Nat.le_of_ble_eq_true rfl) ⟨show 0 ≤ 0 from by omega, show 0 ≤ 0 from by omega⟩ (fun H locs hP hS => ?_)
        refine k_top (y := tAr g k) rfl ?_
        refine lv_imul hx hb dX2_tension_36 ?_
        exact k_iret hx hb hr hlocks hQ hP hS (by omega) (by omega) dX2_tension_37 (⟨rfl, by rw [tTs, show z = tHt g k from by omega]; exact Int32.mul_comm _ _⟩)
      · skip
        refine lv_iload_n hx hb dX2_tension_13 rfl (lv_at hl 1 rfl) ?_
        refine lv_aload_n hx hb dX2_tension_14 rfl (lv_at hl 2 rfl) ?_
        refine k_get hx hb hts in_X2 hown hG hP hT rfl 0 (by decide) (hts _ q180) (fun _ h9 => h9) (v := .ref (A 1)) rfl dX2_tension_15 ?_
        refine lv_iload_n hx hb dX2_tension_18 rfl (lv_at hl 0 rfl) ?_
        refine k_iald hx hb hG hP (j := z) hS1 (by omega) (show z < 10 from by omega) dX2_tension_19 ?_
        refine k_top (y := (g (2 * z))) (hs1 z (by omega)) ?_
        refine lv_iadd hx hb dX2_tension_20 ?_
        refine lv_istore_n (lv' := [(2, .int ((tSm g z) + (g (2 * z)))), (3, .int (nI z)), (0, .ref (A 0)), (1, .ref (A (6 + k)))]) hx hb dX2_tension_21 rfl hl (by decide) rfl (fun ls hl => ?_)
        refine lv_iinc (v := (nI (z + 1))) (lv' := [(3, .int (nI (z + 1))), (2, .int ((tSm g z) + (g (2 * z)))), (0, .ref (A 0)), (1, .ref (A (6 + k)))]) hx hb dX2_tension_22 hl (k := 1) rfl (nI_add z 1) (by decide) rfl (fun ls hl => ?_)
        refine lv_goto (tgt := 4) hx hb dX2_tension_25 (by decide) ?_
        have hl : lv_has ls 4 [(3, .int (nI (z + 1))), (2, .int (tSm g (z + 1))), (0, .ref (A 0)), (1, .ref (A (6 + k)))] := hl
        exact ih_4 (z + 1) (by omega) (by omega) _ _ _ hP hS hl
  have hl : lv_has ls 4 [(3, .int (nI 0)), (2, .int (tSm g 0)), (0, .ref (A 0)), (1, .ref (A (6 + k)))] := hl
  exact hloop_4 _ 0 (by omega) (Nat.lt_succ_self _) _ _ _ hP hS hl
