/-! THE TWIN, 1: small readers -/
set_option maxRecDepth 100000
abbrev rmCX6_in : Room := { frames := 0, cells := 0, slots := 0, locals := 0 }
theorem dyX6_in : yX6_in.cls ≠ "java/lang/invoke/MethodHandle" ∧ yX6_in.cls ≠ "java/lang/invoke/VarHandle" ∧ (parseMethodDescriptor yX6_in.desc).map (fun d => d.parameters.length) = some 3 := by decide +kernel
set_option maxHeartbeats 4000000 in
theorem CX6_in (l0 : Launch) (E : gE) (w : wd) (v : Int32) (lo : Int32) (hi : Int32) : kC l0 yX6_in (ws_ yX6_in cX6_in 3 (some .boolean)) rmCX6_in 0 0 mI E w [.int v, .int lo, .int hi] (fun r w' => w' = w ∧ r = (bI (tin v lo hi))) := by
  refine k_open (cc := cX6_in) (maxL := 3) (ret := (some .boolean)) (by decide) rfl (Nat.le_of_ble_eq_true rfl) ?_
  intro p e s m args below meth c ls Q hx hb hr hml hown hts hlocks hname hQ hG hP hl hS
  have hl : lv_has ls 3 [(0, .int v), (1, .int lo), (2, .int hi)] := hl
  refine lv_iload_n hx hb dX6_in_0 rfl (lv_at hl 0 rfl) ?_
  refine lv_iload_n hx hb dX6_in_1 rfl (lv_at hl 1 rfl) ?_
  refine lv_icmp_lt (tgt := 14) hx hb dX6_in_2 (by decide) (fun c2 => ?_) (fun c2 => ?_)
  · skip
    refine lv_iconst (v := 0) hx hb dX6_in_14 (by decide) ?_
    exact k_zret hx hb hr hlocks hQ hP hS (by omega) (by omega) dX6_in_15 rfl (⟨rfl, by first | (simp [tin, bI, Int32.not_le.mpr c2]; done) | (simp [tin, bI, Int32.not_le.mpr c7]; done) | (simp [tin, bI, Int32.not_lt.mp c2, Int32.not_lt.mp c7]; done)⟩)
  · skip
    refine lv_iload_n hx hb dX6_in_5 rfl (lv_at hl 0 rfl) ?_
    refine lv_iload_n hx hb dX6_in_6 rfl (lv_at hl 2 rfl) ?_
    refine lv_icmp_gt (tgt := 14) hx hb dX6_in_7 (by decide) (fun c7 => ?_) (fun c7 => ?_)
    · skip
      refine lv_iconst (v := 0) hx hb dX6_in_14 (by decide) ?_
      exact k_zret hx hb hr hlocks hQ hP hS (by omega) (by omega) dX6_in_15 rfl (⟨rfl, by first | (simp [tin, bI, Int32.not_le.mpr c2]; done) | (simp [tin, bI, Int32.not_le.mpr c7]; done) | (simp [tin, bI, Int32.not_lt.mp c2, Int32.not_lt.mp c7]; done)⟩)
    · skip
      refine lv_iconst (v := 1) hx hb dX6_in_10 (by decide) ?_
      refine lv_goto (tgt := 15) hx hb dX6_in_11 (by decide) ?_
      exact k_zret hx hb hr hlocks hQ hP hS (by omega) (by omega) dX6_in_15 rfl (⟨rfl, by first | (simp [tin, bI, Int32.not_le.mpr c2]; done) | (simp [tin, bI, Int32.not_le.mpr c7]; done) | (simp [tin, bI, Int32.not_lt.mp c2, Int32.not_lt.mp c7]; done)⟩)

abbrev rmCX6_size : Room := { frames := 0, cells := 0, slots := 0, locals := 0 }
theorem dyX6_size : yX6_size.cls ≠ "java/lang/invoke/MethodHandle" ∧ yX6_size.cls ≠ "java/lang/invoke/VarHandle" ∧ (parseMethodDescriptor yX6_size.desc).map (fun d => d.parameters.length) = some 1 := by decide +kernel
set_option maxHeartbeats 4000000 in
theorem CX6_size (l0 : Launch) (E : gE) (w : wd) (v : Int32) : kC l0 yX6_size (ws_ yX6_size cX6_size 1 (some .int)) rmCX6_size 0 0 mI E w [.int v] (fun r w' => w' = w ∧ r = tSz v) := by
  refine k_open (cc := cX6_size) (maxL := 1) (ret := (some .int)) (by decide) rfl (Nat.le_of_ble_eq_true rfl) ?_
  intro p e s m args below meth c ls Q hx hb hr hml hown hts hlocks hname hQ hG hP hl hS
  have hl : lv_has ls 1 [(0, .int v)] := hl
  refine lv_iload_n hx hb dX6_size_0 rfl (lv_at hl 0 rfl) ?_
  refine lv_if_ge (tgt := 9) hx hb dX6_size_1 (by decide) (fun c1 => ?_) (fun c1 => ?_)
  · skip
    refine lv_iload_n hx hb dX6_size_9 rfl (lv_at hl 0 rfl) ?_
    exact k_iret hx hb hr hlocks hQ hP hS (by omega) (by omega) dX6_size_10 (⟨rfl, by first | (rw [tSz, if_neg (Int32.not_lt.mpr c1)]) | (rw [tSz, if_pos (Int32.not_le.mp c1)])⟩)
  · skip
    refine lv_iload_n hx hb dX6_size_4 rfl (lv_at hl 0 rfl) ?_
    refine lv_ineg hx hb dX6_size_5 ?_
    refine lv_goto (tgt := 10) hx hb dX6_size_6 (by decide) ?_
    exact k_iret hx hb hr hlocks hQ hP hS (by omega) (by omega) dX6_size_10 (⟨rfl, by first | (rw [tSz, if_neg (Int32.not_lt.mpr c1)]) | (rw [tSz, if_pos (Int32.not_le.mp c1)])⟩)

abbrev rmCX6_less : Room := { frames := 0, cells := 0, slots := 0, locals := 0 }
theorem dyX6_less : yX6_less.cls ≠ "java/lang/invoke/MethodHandle" ∧ yX6_less.cls ≠ "java/lang/invoke/VarHandle" ∧ (parseMethodDescriptor yX6_less.desc).map (fun d => d.parameters.length) = some 2 := by decide +kernel
set_option maxHeartbeats 4000000 in
theorem CX6_less (l0 : Launch) (E : gE) (w : wd) (x : Int32) (y : Int32) : kC l0 yX6_less (ws_ yX6_less cX6_less 2 (some .int)) rmCX6_less 0 0 mI E w [.int x, .int y] (fun r w' => w' = w ∧ r = tLs x y) := by
  refine k_open (cc := cX6_less) (maxL := 2) (ret := (some .int)) (by decide) rfl (Nat.le_of_ble_eq_true rfl) ?_
  intro p e s m args below meth c ls Q hx hb hr hml hown hts hlocks hname hQ hG hP hl hS
  have hl : lv_has ls 2 [(0, .int x), (1, .int y)] := hl
  refine lv_iload_n hx hb dX6_less_0 rfl (lv_at hl 0 rfl) ?_
  refine lv_iload_n hx hb dX6_less_1 rfl (lv_at hl 1 rfl) ?_
  refine lv_icmp_ge (tgt := 9) hx hb dX6_less_2 (by decide) (fun c2 => ?_) (fun c2 => ?_)
  · skip
    refine lv_iload_n hx hb dX6_less_9 rfl (lv_at hl 1 rfl) ?_
    exact k_iret hx hb hr hlocks hQ hP hS (by omega) (by omega) dX6_less_10 (⟨rfl, by first | (rw [tLs, if_neg (Int32.not_lt.mpr c2)]) | (rw [tLs, if_pos (Int32.not_le.mp c2)])⟩)
  · skip
    refine lv_iload_n hx hb dX6_less_5 rfl (lv_at hl 0 rfl) ?_
    refine lv_goto (tgt := 10) hx hb dX6_less_6 (by decide) ?_
    exact k_iret hx hb hr hlocks hQ hP hS (by omega) (by omega) dX6_less_10 (⟨rfl, by first | (rw [tLs, if_neg (Int32.not_lt.mpr c2)]) | (rw [tLs, if_pos (Int32.not_le.mp c2)])⟩)

abbrev rmCX6_isLayer : Room := { frames := 1, cells := 0, slots := 0, locals := 22 }
theorem dyX6_isLayer : yX6_isLayer.cls ≠ "java/lang/invoke/MethodHandle" ∧ yX6_isLayer.cls ≠ "java/lang/invoke/VarHandle" ∧ (parseMethodDescriptor yX6_isLayer.desc).map (fun d => d.parameters.length) = some 1 := by decide +kernel
set_option maxHeartbeats 4000000 in
theorem CX6_isLayer (l0 : Launch) (E : gE) (w : wd) (x : Int32) : kC l0 yX6_isLayer (ws_ yX6_isLayer cX6_isLayer 1 (some .boolean)) rmCX6_isLayer 0 0 mI E w [.int x] (fun r w' => w' = w ∧ r = (bI (tin x 0 9))) := by
  refine k_open (cc := cX6_isLayer) (maxL := 1) (ret := (some .boolean)) (by decide) rfl (Nat.le_of_ble_eq_true rfl) ?_
  intro p e s m args below meth c ls Q hx hb hr hml hown hts hlocks hname hQ hG hP hl hS
  have hl : lv_has ls 1 [(0, .int x)] := hl
  refine lv_iload_n hx hb dX6_isLayer_0 rfl (lv_at hl 0 rfl) ?_
  refine lv_iconst (v := 0) hx hb dX6_isLayer_1 (by decide) ?_
  refine lv_bipush (v := 9) hx hb dX6_isLayer_2 (by decide) ?_
  refine k_cP hx hb hml hown hts (val := (bI (tin x 0 9))) (CX6_in l0 E w x 0 9 ) (va_cwS 3 hts (lw_S q1692 q1693 q81 q1694) rfl rfl rfl dyX6_in ⟨Nat.le_of_ble_eq_true rfl, Nat.le_of_ble_eq_true rfl⟩) hG hP hS (As := [.int x, .int 0, .int 9]) (rest := []) rfl hl.1 rfl (lv_room (Nat.le_of_ble_eq_true rfl)) dX6_isLayer_4 ⟨by omega, by omega⟩ (fun H locs hP hS => ?_)
  exact k_zret hx hb hr hlocks hQ hP hS (by omega) (by omega) dX6_isLayer_7 (bI_nar _) (⟨rfl, rfl⟩)

abbrev rmCX6_thrown : Room := { frames := 0, cells := 0, slots := 0, locals := 0 }
theorem dyX6_thrown : yX6_thrown.cls = RX6 ∧ yX6_thrown.cls ≠ "java/lang/invoke/MethodHandle" ∧ yX6_thrown.cls ≠ "java/lang/invoke/VarHandle" ∧ (parseMethodDescriptor yX6_thrown.desc).map (fun d => d.parameters.length) = some 0 := by decide +kernel
set_option maxHeartbeats 4000000 in
theorem CX6_thrown (l0 : Launch) (E : gE) (w : wd) (h : Nat) (ad : Nat → Nat) (f : Nat → Int32) (a : Nat → Nat → Int32) (hM : tM E w h ad f a) : kC l0 yX6_thrown (ws_ yX6_thrown cX6_thrown 1 (some .int)) rmCX6_thrown 0 0 mI E w [.ref h] (fun r w' => w' = w ∧ r = (f 13)) := by
  refine k_open (cc := cX6_thrown) (maxL := 1) (ret := (some .int)) (by decide) rfl (Nat.le_of_ble_eq_true rfl) ?_
  intro p e s m args below meth c ls Q hx hb hr hml hown hts hlocks hname hQ hG hP hl hS
  have hl : lv_has ls 1 [(0, .ref h)] := hl
  refine lv_aload_n hx hb dX6_thrown_0 rfl (lv_at hl 0 rfl) ?_
  refine tw_get hx hb hts hown hG hP hM 13 (by decide) (hts _ q1633) (fun _ h9 => h9) (v := .int (f 13)) rfl dX6_thrown_1 ?_
  exact k_iret hx hb hr hlocks hQ hP hS (by omega) (by omega) dX6_thrown_4 (⟨rfl, rfl⟩)

abbrev rmCX6_isKite : Room := { frames := 1, cells := 0, slots := 0, locals := 22 }
theorem dyX6_isKite : yX6_isKite.cls = RX6 ∧ yX6_isKite.cls ≠ "java/lang/invoke/MethodHandle" ∧ yX6_isKite.cls ≠ "java/lang/invoke/VarHandle" ∧ (parseMethodDescriptor yX6_isKite.desc).map (fun d => d.parameters.length) = some 1 := by decide +kernel
set_option maxHeartbeats 4000000 in
theorem CX6_isKite (l0 : Launch) (E : gE) (w : wd) (h : Nat) (ad : Nat → Nat) (f : Nat → Int32) (a : Nat → Nat → Int32) (x : Int32) (hM : tM E w h ad f a) : kC l0 yX6_isKite (ws_ yX6_isKite cX6_isKite 2 (some .boolean)) rmCX6_isKite 0 0 mI E w [.ref h, .int x] (fun r w' => w' = w ∧ r = (bI (tKt (a 0) x))) := by
  refine k_open (cc := cX6_isKite) (maxL := 2) (ret := (some .boolean)) (by decide) rfl (Nat.le_of_ble_eq_true rfl) ?_
  intro p e s m args below meth c ls Q hx hb hr hml hown hts hlocks hname hQ hG hP hl hS
  have hl : lv_has ls 2 [(0, .ref h), (1, .int x)] := hl
  refine lv_iload_n hx hb dX6_isKite_0 rfl (lv_at hl 1 rfl) ?_
  refine lv_iconst (v := 0) hx hb dX6_isKite_1 (by decide) ?_
  refine lv_aload_n hx hb dX6_isKite_2 rfl (lv_at hl 0 rfl) ?_
  refine tw_get hx hb hts hown hG hP hM 0 (by decide) (hts _ q1620) (fun _ h9 => h9) (v := .ref (ad 0)) rfl dX6_isKite_3 ?_
  refine lv_bipush (v := 25) hx hb dX6_isKite_6 (by decide) ?_
  refine tw_ald hx hb hG hP hM 0 (by decide) (j := 25) (show 25 < 116 from by omega) dX6_isKite_8 ?_
  refine lv_iconst (v := 1) hx hb dX6_isKite_9 (by decide) ?_
  refine lv_isub hx hb dX6_isKite_10 ?_
  refine k_cP hx hb hml hown hts (val := (bI (tin x 0 (((a 0) 25) - 1)))) (CX6_in l0 E w x 0 (((a 0) 25) - 1) ) (va_cwS 3 hts (lw_S q1692 q1693 q81 q1694) rfl rfl rfl dyX6_in ⟨Nat.le_of_ble_eq_true rfl, Nat.le_of_ble_eq_true rfl⟩) hG hP hS (As := [.int x, .int 0, .int (((a 0) 25) - 1)]) (rest := []) rfl hl.1 rfl (lv_room (Nat.le_of_ble_eq_true rfl)) dX6_isKite_11 ⟨by omega, by omega⟩ (fun H locs hP hS => ?_)
  exact k_zret hx hb hr hlocks hQ hP hS (by omega) (by omega) dX6_isKite_14 (bI_nar _) (⟨rfl, rfl⟩)

abbrev rmCX6_of : Room := { frames := 0, cells := 0, slots := 0, locals := 0 }
theorem dyX6_of : yX6_of.cls = RX6 ∧ yX6_of.cls ≠ "java/lang/invoke/MethodHandle" ∧ yX6_of.cls ≠ "java/lang/invoke/VarHandle" ∧ (parseMethodDescriptor yX6_of.desc).map (fun d => d.parameters.length) = some 2 := by decide +kernel
set_option maxHeartbeats 4000000 in
theorem CX6_of (l0 : Launch) (E : gE) (w : wd) (h : Nat) (ad : Nat → Nat) (f : Nat → Int32) (a : Nat → Nat → Int32) (k : Nat) (n : Nat) (hM : tM E w h ad f a) (hk : k < 6) (hn : n < 15) : kC l0 yX6_of (ws_ yX6_of cX6_of 3 (some .int)) rmCX6_of 0 0 mI E w [.ref h, .int (nI k), .int (nI n)] (fun r w' => w' = w ∧ r = (a 0) (kO k n)) := by
  refine k_open (cc := cX6_of) (maxL := 3) (ret := (some .int)) (by decide) rfl (Nat.le_of_ble_eq_true rfl) ?_
  intro p e s m args below meth c ls Q hx hb hr hml hown hts hlocks hname hQ hG hP hl hS
  have hl : lv_has ls 3 [(0, .ref h), (1, .int (nI k)), (2, .int (nI n))] := hl
  refine lv_aload_n hx hb dX6_of_0 rfl (lv_at hl 0 rfl) ?_
  refine tw_get hx hb hts hown hG hP hM 0 (by decide) (hts _ q1620) (fun _ h9 => h9) (v := .ref (ad 0)) rfl dX6_of_1 ?_
  refine lv_bipush (v := 26) hx hb dX6_of_4 (by decide) ?_
  refine lv_bipush (v := 15) hx hb dX6_of_6 (by decide) ?_
  refine lv_iload_n hx hb dX6_of_8 rfl (lv_at hl 1 rfl) ?_
  refine k_imulN (x := 15) (y := k) hx hb dX6_of_9 ?_
  refine k_iaddN (x := 26) (y := 15 * k) hx hb dX6_of_10 ?_
  refine lv_iload_n hx hb dX6_of_11 rfl (lv_at hl 2 rfl) ?_
  refine k_iaddN (x := 26 + (15 * k)) (y := n) hx hb dX6_of_12 ?_
  refine tw_ald hx hb hG hP hM 0 (by decide) (j := 26 + (15 * k) + n) (show 26 + (15 * k) + n < 116 from by omega) dX6_of_13 ?_
  exact k_iret hx hb hr hlocks hQ hP hS (by omega) (by omega) dX6_of_14 (⟨rfl, rfl⟩)

abbrev rmCX6_isUp : Room := { frames := 1, cells := 0, slots := 0, locals := 22 }
theorem dyX6_isUp : yX6_isUp.cls = RX6 ∧ yX6_isUp.cls ≠ "java/lang/invoke/MethodHandle" ∧ yX6_isUp.cls ≠ "java/lang/invoke/VarHandle" ∧ (parseMethodDescriptor yX6_isUp.desc).map (fun d => d.parameters.length) = some 1 := by decide +kernel
set_option maxHeartbeats 4000000 in
theorem CX6_isUp (l0 : Launch) (E : gE) (w : wd) (h : Nat) (ad : Nat → Nat) (f : Nat → Int32) (a : Nat → Nat → Int32) (k : Nat) (hM : tM E w h ad f a) (hk : k < 6) : kC l0 yX6_isUp (ws_ yX6_isUp cX6_isUp 2 (some .boolean)) rmCX6_isUp 0 0 mI E w [.ref h, .int (nI k)] (fun r w' => w' = w ∧ r = (bI (tUp (a 0) k))) := by
  refine k_open (cc := cX6_isUp) (maxL := 2) (ret := (some .boolean)) (by decide) rfl (Nat.le_of_ble_eq_true rfl) ?_
  intro p e s m args below meth c ls Q hx hb hr hml hown hts hlocks hname hQ hG hP hl hS
  have hl : lv_has ls 2 [(0, .ref h), (1, .int (nI k))] := hl
  refine lv_aload_n hx hb dX6_isUp_0 rfl (lv_at hl 0 rfl) ?_
  refine lv_iload_n hx hb dX6_isUp_1 rfl (lv_at hl 1 rfl) ?_
  refine lv_iconst (v := 0) hx hb dX6_isUp_2 (by decide) ?_
  refine tw_cR hx hb hml hown hts (val := (a 0) (kO k 0)) (CX6_of l0 E w h ad f a k 0 hM (by omega) (by omega)) (cwV 2 hts (lw_V q1730 q1732 qs40 q81 q1733) rfl rfl rfl dyX6_of ⟨Nat.le_of_ble_eq_true rfl, Nat.le_of_ble_eq_true rfl⟩) hG hP hS hM (As := [.int (nI k), .int 0]) (rest := []) rfl hl.1 rfl (lv_room (Nat.le_of_ble_eq_true rfl)) dX6_isUp_3 ⟨by omega, by omega⟩ (fun H locs hP hS => ?_)
  refine lv_iconst (v := 1) hx hb dX6_isUp_6 (by decide) ?_
  refine lv_icmp_ne (tgt := 14) hx hb dX6_isUp_7 (by decide) (fun c7 => ?_) (fun c7 => ?_)
  · skip
    refine lv_iconst (v := 0) hx hb dX6_isUp_14 (by decide) ?_
    exact k_zret hx hb hr hlocks hQ hP hS (by omega) (by omega) dX6_isUp_15 rfl (⟨rfl, by simp_all [tUp, bI]⟩)
  · skip
    refine lv_iconst (v := 1) hx hb dX6_isUp_10 (by decide) ?_
    refine lv_goto (tgt := 15) hx hb dX6_isUp_11 (by decide) ?_
    exact k_zret hx hb hr hlocks hQ hP hS (by omega) (by omega) dX6_isUp_15 rfl (⟨rfl, by simp_all [tUp, bI]⟩)

abbrev rmCX6_area : Room := { frames := 1, cells := 0, slots := 0, locals := 22 }
theorem dyX6_area : yX6_area.cls = RX6 ∧ yX6_area.cls ≠ "java/lang/invoke/MethodHandle" ∧ yX6_area.cls ≠ "java/lang/invoke/VarHandle" ∧ (parseMethodDescriptor yX6_area.desc).map (fun d => d.parameters.length) = some 1 := by decide +kernel
set_option maxHeartbeats 4000000 in
theorem CX6_area (l0 : Launch) (E : gE) (w : wd) (h : Nat) (ad : Nat → Nat) (f : Nat → Int32) (a : Nat → Nat → Int32) (k : Nat) (hM : tM E w h ad f a) (hk : k < 6) : kC l0 yX6_area (ws_ yX6_area cX6_area 2 (some .int)) rmCX6_area 0 0 mI E w [.ref h, .int (nI k)] (fun r w' => w' = w ∧ r = tAr (a 0) k) := by
  refine k_open (cc := cX6_area) (maxL := 2) (ret := (some .int)) (by decide) rfl (Nat.le_of_ble_eq_true rfl) ?_
  intro p e s m args below meth c ls Q hx hb hr hml hown hts hlocks hname hQ hG hP hl hS
  have hl : lv_has ls 2 [(0, .ref h), (1, .int (nI k))] := hl
  refine lv_aload_n hx hb dX6_area_0 rfl (lv_at hl 0 rfl) ?_
  refine lv_iload_n hx hb dX6_area_1 rfl (lv_at hl 1 rfl) ?_
  refine lv_iconst (v := 1) hx hb dX6_area_2 (by decide) ?_
  refine tw_cR hx hb hml hown hts (val := (a 0) (kO k 1)) (CX6_of l0 E w h ad f a k 1 hM (by omega) (by omega)) (cwV 2 hts (lw_V q1730 q1732 qs40 q81 q1733) rfl rfl rfl dyX6_of ⟨Nat.le_of_ble_eq_true rfl, Nat.le_of_ble_eq_true rfl⟩) hG hP hS hM (As := [.int (nI k), .int 1]) (rest := []) rfl hl.1 rfl (lv_room (Nat.le_of_ble_eq_true rfl)) dX6_area_3 ⟨by omega, by omega⟩ (fun H locs hP hS => ?_)
  refine lv_if_ne (tgt := 13) hx hb dX6_area_6 (by decide) (fun c6 => ?_) (fun c6 => ?_)
  · skip
    refine lv_aload_n hx hb dX6_area_13 rfl (lv_at hl 0 rfl) ?_
    refine lv_iload_n hx hb dX6_area_14 rfl (lv_at hl 1 rfl) ?_
    refine lv_iconst (v := 1) hx hb dX6_area_15 (by decide) ?_
    refine tw_cR hx hb hml hown hts (val := (a 0) (kO k 1)) (CX6_of l0 E w h ad f a k 1 hM (by omega) (by omega)) (cwV 2 hts (lw_V q1730 q1732 qs40 q81 q1733) rfl rfl rfl dyX6_of ⟨Nat.le_of_ble_eq_true rfl, Nat.le_of_ble_eq_true rfl⟩) hG hP hS hM (As := [.int (nI k), .int 1]) (rest := []) rfl hl.1 rfl (lv_room (Nat.le_of_ble_eq_true rfl)) dX6_area_16 ⟨by omega, by omega⟩ (fun H locs hP hS => ?_)
    refine lv_iconst (v := 1) hx hb dX6_area_19 (by decide) ?_
    refine lv_icmp_ne (tgt := 27) hx hb dX6_area_20 (by decide) (fun c20 => ?_) (fun c20 => ?_)
    · skip
      refine lv_iconst (v := 1) hx hb dX6_area_27 (by decide) ?_
      exact k_iret hx hb hr hlocks hQ hP hS (by omega) (by omega) dX6_area_28 (⟨rfl, by simp_all [tAr]⟩)
    · skip
      refine lv_iconst (v := 3) hx hb dX6_area_23 (by decide) ?_
      refine lv_goto (tgt := 28) hx hb dX6_area_24 (by decide) ?_
      exact k_iret hx hb hr hlocks hQ hP hS (by omega) (by omega) dX6_area_28 (⟨rfl, by simp_all [tAr]⟩)
  · skip
    refine lv_iconst (v := 2) hx hb dX6_area_9 (by decide) ?_
    refine lv_goto (tgt := 28) hx hb dX6_area_10 (by decide) ?_
    exact k_iret hx hb hr hlocks hQ hP hS (by omega) (by omega) dX6_area_28 (⟨rfl, by simp_all [tAr]⟩)

abbrev rmCX6_factor : Room := { frames := 1, cells := 0, slots := 0, locals := 22 }
theorem dyX6_factor : yX6_factor.cls = RX6 ∧ yX6_factor.cls ≠ "java/lang/invoke/MethodHandle" ∧ yX6_factor.cls ≠ "java/lang/invoke/VarHandle" ∧ (parseMethodDescriptor yX6_factor.desc).map (fun d => d.parameters.length) = some 1 := by decide +kernel
set_option maxHeartbeats 4000000 in
theorem CX6_factor (l0 : Launch) (E : gE) (w : wd) (h : Nat) (ad : Nat → Nat) (f : Nat → Int32) (a : Nat → Nat → Int32) (k : Nat) (hM : tM E w h ad f a) (hk : k < 6) : kC l0 yX6_factor (ws_ yX6_factor cX6_factor 2 (some .int)) rmCX6_factor 0 0 mI E w [.ref h, .int (nI k)] (fun r w' => w' = w ∧ r = tFc (a 0) k) := by
  refine k_open (cc := cX6_factor) (maxL := 2) (ret := (some .int)) (by decide) rfl (Nat.le_of_ble_eq_true rfl) ?_
  intro p e s m args below meth c ls Q hx hb hr hml hown hts hlocks hname hQ hG hP hl hS
  have hl : lv_has ls 2 [(0, .ref h), (1, .int (nI k))] := hl
  refine lv_aload_n hx hb dX6_factor_0 rfl (lv_at hl 0 rfl) ?_
  refine lv_iload_n hx hb dX6_factor_1 rfl (lv_at hl 1 rfl) ?_
  refine lv_iconst (v := 1) hx hb dX6_factor_2 (by decide) ?_
  refine tw_cR hx hb hml hown hts (val := (a 0) (kO k 1)) (CX6_of l0 E w h ad f a k 1 hM (by omega) (by omega)) (cwV 2 hts (lw_V q1730 q1732 qs40 q81 q1733) rfl rfl rfl dyX6_of ⟨Nat.le_of_ble_eq_true rfl, Nat.le_of_ble_eq_true rfl⟩) hG hP hS hM (As := [.int (nI k), .int 1]) (rest := []) rfl hl.1 rfl (lv_room (Nat.le_of_ble_eq_true rfl)) dX6_factor_3 ⟨by omega, by omega⟩ (fun H locs hP hS => ?_)
  refine lv_iconst (v := 2) hx hb dX6_factor_6 (by decide) ?_
  refine lv_icmp_ne (tgt := 14) hx hb dX6_factor_7 (by decide) (fun c7 => ?_) (fun c7 => ?_)
  · skip
    refine lv_iconst (v := 1) hx hb dX6_factor_14 (by decide) ?_
    exact k_iret hx hb hr hlocks hQ hP hS (by omega) (by omega) dX6_factor_15 (⟨rfl, by simp_all [tFc]⟩)
  · skip
    refine lv_iconst (v := 2) hx hb dX6_factor_10 (by decide) ?_
    refine lv_goto (tgt := 15) hx hb dX6_factor_11 (by decide) ?_
    exact k_iret hx hb hr hlocks hQ hP hS (by omega) (by omega) dX6_factor_15 (⟨rfl, by simp_all [tFc]⟩)

abbrev rmCX6_hardness : Room := { frames := 1, cells := 0, slots := 0, locals := 22 }
theorem dyX6_hardness : yX6_hardness.cls = RX6 ∧ yX6_hardness.cls ≠ "java/lang/invoke/MethodHandle" ∧ yX6_hardness.cls ≠ "java/lang/invoke/VarHandle" ∧ (parseMethodDescriptor yX6_hardness.desc).map (fun d => d.parameters.length) = some 1 := by decide +kernel
set_option maxHeartbeats 4000000 in
theorem CX6_hardness (l0 : Launch) (E : gE) (w : wd) (h : Nat) (ad : Nat → Nat) (f : Nat → Int32) (a : Nat → Nat → Int32) (k : Nat) (hM : tM E w h ad f a) (hk : k < 6) : kC l0 yX6_hardness (ws_ yX6_hardness cX6_hardness 2 (some .int)) rmCX6_hardness 0 0 mI E w [.ref h, .int (nI k)] (fun r w' => w' = w ∧ r = tHd (a 0) k) := by
  refine k_open (cc := cX6_hardness) (maxL := 2) (ret := (some .int)) (by decide) rfl (Nat.le_of_ble_eq_true rfl) ?_
  intro p e s m args below meth c ls Q hx hb hr hml hown hts hlocks hname hQ hG hP hl hS
  have hl : lv_has ls 2 [(0, .ref h), (1, .int (nI k))] := hl
  refine lv_aload_n hx hb dX6_hardness_0 rfl (lv_at hl 0 rfl) ?_
  refine lv_iload_n hx hb dX6_hardness_1 rfl (lv_at hl 1 rfl) ?_
  refine lv_iconst (v := 1) hx hb dX6_hardness_2 (by decide) ?_
  refine tw_cR hx hb hml hown hts (val := (a 0) (kO k 1)) (CX6_of l0 E w h ad f a k 1 hM (by omega) (by omega)) (cwV 2 hts (lw_V q1730 q1732 qs40 q81 q1733) rfl rfl rfl dyX6_of ⟨Nat.le_of_ble_eq_true rfl, Nat.le_of_ble_eq_true rfl⟩) hG hP hS hM (As := [.int (nI k), .int 1]) (rest := []) rfl hl.1 rfl (lv_room (Nat.le_of_ble_eq_true rfl)) dX6_hardness_3 ⟨by omega, by omega⟩ (fun H locs hP hS => ?_)
  refine lv_if_ne (tgt := 14) hx hb dX6_hardness_6 (by decide) (fun c6 => ?_) (fun c6 => ?_)
  · skip
    refine lv_aload_n hx hb dX6_hardness_14 rfl (lv_at hl 0 rfl) ?_
    refine lv_iload_n hx hb dX6_hardness_15 rfl (lv_at hl 1 rfl) ?_
    refine lv_iconst (v := 1) hx hb dX6_hardness_16 (by decide) ?_
    refine tw_cR hx hb hml hown hts (val := (a 0) (kO k 1)) (CX6_of l0 E w h ad f a k 1 hM (by omega) (by omega)) (cwV 2 hts (lw_V q1730 q1732 qs40 q81 q1733) rfl rfl rfl dyX6_of ⟨Nat.le_of_ble_eq_true rfl, Nat.le_of_ble_eq_true rfl⟩) hG hP hS hM (As := [.int (nI k), .int 1]) (rest := []) rfl hl.1 rfl (lv_room (Nat.le_of_ble_eq_true rfl)) dX6_hardness_17 ⟨by omega, by omega⟩ (fun H locs hP hS => ?_)
    refine lv_iconst (v := 1) hx hb dX6_hardness_20 (by decide) ?_
    refine lv_icmp_ne (tgt := 29) hx hb dX6_hardness_21 (by decide) (fun c21 => ?_) (fun c21 => ?_)
    · skip
      refine lv_bipush (v := 20) hx hb dX6_hardness_29 (by decide) ?_
      exact k_iret hx hb hr hlocks hQ hP hS (by omega) (by omega) dX6_hardness_31 (⟨rfl, by simp_all [tHd]⟩)
    · skip
      refine lv_bipush (v := 50) hx hb dX6_hardness_24 (by decide) ?_
      refine lv_goto (tgt := 31) hx hb dX6_hardness_26 (by decide) ?_
      exact k_iret hx hb hr hlocks hQ hP hS (by omega) (by omega) dX6_hardness_31 (⟨rfl, by simp_all [tHd]⟩)
  · skip
    refine lv_bipush (v := 30) hx hb dX6_hardness_9 (by decide) ?_
    refine lv_goto (tgt := 31) hx hb dX6_hardness_11 (by decide) ?_
    exact k_iret hx hb hr hlocks hQ hP hS (by omega) (by omega) dX6_hardness_31 (⟨rfl, by simp_all [tHd]⟩)

abbrev rmCX6_takes : Room := { frames := 2, cells := 0, slots := 0, locals := 43 }
theorem dyX6_takes : yX6_takes.cls = RX6 ∧ yX6_takes.cls ≠ "java/lang/invoke/MethodHandle" ∧ yX6_takes.cls ≠ "java/lang/invoke/VarHandle" ∧ (parseMethodDescriptor yX6_takes.desc).map (fun d => d.parameters.length) = some 2 := by decide +kernel
set_option maxHeartbeats 4000000 in
theorem CX6_takes (l0 : Launch) (E : gE) (w : wd) (h : Nat) (ad : Nat → Nat) (f : Nat → Int32) (a : Nat → Nat → Int32) (k : Nat) (i : Nat) (hM : tM E w h ad f a) (hk : k < 6) (hi : i < 10) : kC l0 yX6_takes (ws_ yX6_takes cX6_takes 3 (some .int)) rmCX6_takes 0 0 mI E w [.ref h, .int (nI k), .int (nI i)] (fun r w' => w' = w ∧ r = tTk (a 0) k i) := by
  refine k_open (cc := cX6_takes) (maxL := 3) (ret := (some .int)) (by decide) rfl (Nat.le_of_ble_eq_true rfl) ?_
  intro p e s m args below meth c ls Q hx hb hr hml hown hts hlocks hname hQ hG hP hl hS
  have hl : lv_has ls 3 [(0, .ref h), (1, .int (nI k)), (2, .int (nI i))] := hl
  refine lv_bipush (v := 10) hx hb dX6_takes_0 (by decide) ?_
  refine lv_aload_n hx hb dX6_takes_2 rfl (lv_at hl 0 rfl) ?_
  refine tw_get hx hb hts hown hG hP hM 0 (by decide) (hts _ q1620) (fun _ h9 => h9) (v := .ref (ad 0)) rfl dX6_takes_3 ?_
  refine lv_iconst (v := 2) hx hb dX6_takes_6 (by decide) ?_
  refine lv_iload_n hx hb dX6_takes_7 rfl (lv_at hl 2 rfl) ?_
  refine k_imulN (x := 2) (y := i) hx hb dX6_takes_8 ?_
  refine lv_iconst (v := 1) hx hb dX6_takes_9 (by decide) ?_
  refine k_iaddN (x := 2 * i) (y := 1) hx hb dX6_takes_10 ?_
  refine tw_ald hx hb hG hP hM 0 (by decide) (j := 2 * i + 1) (show 2 * i + 1 < 116 from by omega) dX6_takes_11 ?_
  refine k_cP hx hb hml hown hts (val := tSz ((a 0) (2 * i + 1))) (CX6_size l0 E w ((a 0) (2 * i + 1)) ) (va_cwS 1 hts (lw_S q1774 q1775 q81 q1776) rfl rfl rfl dyX6_size ⟨Nat.le_of_ble_eq_true rfl, Nat.le_of_ble_eq_true rfl⟩) hG hP hS (As := [.int ((a 0) (2 * i + 1))]) (rest := [.int 10]) rfl hl.1 rfl (lv_room (Nat.le_of_ble_eq_true rfl)) dX6_takes_12 ⟨by omega, by omega⟩ (fun H locs hP hS => ?_)
  refine lv_aload_n hx hb dX6_takes_15 rfl (lv_at hl 0 rfl) ?_
  refine lv_iload_n hx hb dX6_takes_16 rfl (lv_at hl 1 rfl) ?_
  refine tw_cR hx hb hml hown hts (val := tFc (a 0) k) (CX6_factor l0 E w h ad f a k hM (by omega)) (cwV 1 hts (lw_V q1777 q1779 qs46 q81 q1780) rfl rfl rfl dyX6_factor ⟨Nat.le_of_ble_eq_true rfl, Nat.le_of_ble_eq_true rfl⟩) hG hP hS hM (As := [.int (nI k)]) (rest := [.int (tSz ((a 0) (2 * i + 1))), .int 10]) rfl hl.1 rfl (lv_room (Nat.le_of_ble_eq_true rfl)) dX6_takes_17 ⟨by omega, by omega⟩ (fun H locs hP hS => ?_)
  refine lv_imul hx hb dX6_takes_20 ?_
  refine lv_iadd hx hb dX6_takes_21 ?_
  refine lv_aload_n hx hb dX6_takes_22 rfl (lv_at hl 0 rfl) ?_
  refine tw_get hx hb hts hown hG hP hM 0 (by decide) (hts _ q1620) (fun _ h9 => h9) (v := .ref (ad 0)) rfl dX6_takes_23 ?_
  refine lv_iconst (v := 2) hx hb dX6_takes_26 (by decide) ?_
  refine lv_iload_n hx hb dX6_takes_27 rfl (lv_at hl 2 rfl) ?_
  refine k_imulN (x := 2) (y := i) hx hb dX6_takes_28 ?_
  refine tw_ald hx hb hG hP hM 0 (by decide) (j := 2 * i) (show 2 * i < 116 from by omega) dX6_takes_29 ?_
  refine lv_if_ne (tgt := 37) hx hb dX6_takes_30 (by decide) (fun c30 => ?_) (fun c30 => ?_)
  · skip
    refine lv_iconst (v := 0) hx hb dX6_takes_37 (by decide) ?_
    refine lv_iadd hx hb dX6_takes_38 ?_
    exact k_iret hx hb hr hlocks hQ hP hS (by omega) (by omega) dX6_takes_39 (⟨rfl, by simp_all [tTk]⟩)
  · skip
    refine lv_iconst (v := 5) hx hb dX6_takes_33 (by decide) ?_
    refine lv_goto (tgt := 38) hx hb dX6_takes_34 (by decide) ?_
    refine lv_iadd hx hb dX6_takes_38 ?_
    exact k_iret hx hb hr hlocks hQ hP hS (by omega) (by omega) dX6_takes_39 (⟨rfl, by simp_all [tTk]⟩)

abbrev rmCX6_takesBelow : Room := { frames := 3, cells := 0, slots := 0, locals := 65 }
theorem dyX6_takesBelow : yX6_takesBelow.cls = RX6 ∧ yX6_takesBelow.cls ≠ "java/lang/invoke/MethodHandle" ∧ yX6_takesBelow.cls ≠ "java/lang/invoke/VarHandle" ∧ (parseMethodDescriptor yX6_takesBelow.desc).map (fun d => d.parameters.length) = some 2 := by decide +kernel
set_option maxHeartbeats 4000000 in
theorem CX6_takesBelow (l0 : Launch) (E : gE) (w : wd) (h : Nat) (ad : Nat → Nat) (f : Nat → Int32) (a : Nat → Nat → Int32) (k : Nat) (n : Nat) (hM : tM E w h ad f a) (hk : k < 6) (hn : n ≤ 10) : kC l0 yX6_takesBelow (ws_ yX6_takesBelow cX6_takesBelow 5 (some .int)) rmCX6_takesBelow 0 0 mI E w [.ref h, .int (nI k), .int (nI n)] (fun r w' => w' = w ∧ r = tBl (a 0) k n) := by
  refine k_open (cc := cX6_takesBelow) (maxL := 5) (ret := (some .int)) (by decide) rfl (Nat.le_of_ble_eq_true rfl) ?_
  intro p e s m args below meth c ls Q hx hb hr hml hown hts hlocks hname hQ hG hP hl hS
  have hl : lv_has ls 5 [(0, .ref h), (1, .int (nI k)), (2, .int (nI n))] := hl
  refine lv_iconst (v := 0) hx hb dX6_takesBelow_0 (by decide) ?_
  refine lv_istore_n (lv' := [(3, .int 0), (0, .ref h), (1, .int (nI k)), (2, .int (nI n))]) hx hb dX6_takesBelow_1 rfl hl (by decide) rfl (fun ls hl => ?_)
  refine lv_iconst (v := 0) hx hb dX6_takesBelow_2 (by decide) ?_
  refine lv_istore (lv' := [(4, .int 0), (3, .int 0), (0, .ref h), (1, .int (nI k)), (2, .int (nI n))]) hx hb dX6_takesBelow_3 hl (by decide) rfl (fun ls hl => ?_)
  have hloop_5 : ∀ (n9_5 : Nat) (i : Nat), (i ≤ n) → (n - i) < n9_5 → ∀ (H : Heap) (locs : List Loc) (ls : Array Slot), wP E w H → va_S (gA E) s.heap H locs → lv_has ls 5 [(4, .int (nI i)), (3, .int (tBl (a 0) k i)), (0, .ref h), (1, .int (nI k)), (2, .int (nI n))] → W p l0 e rmCX6_takesBelow s m args below meth c H locs 0 0 Q (F0 m 5 ls []) := by
    intro n9_5
    induction n9_5 with
    | zero => intro i hi hn; exact absurd hn (Nat.not_lt_zero _)
    | succ n9_5 ih_5 =>
      intro i hi hn_5 H locs ls hP hS hl
      refine lv_iload hx hb dX6_takesBelow_5 (lv_at hl 0 rfl) ?_
      refine lv_iload_n hx hb dX6_takesBelow_7 rfl (lv_at hl 4 rfl) ?_
      refine k_icmp_geN (x := i) (y := n) (tgt := 27) hx hb (by omega) (by omega) dX6_takesBelow_8 (by decide) (fun c8 => ?_) (fun c8 => ?_)
      · skip
        refine lv_iload_n hx hb dX6_takesBelow_27 rfl (lv_at hl 1 rfl) ?_
        exact k_iret hx hb hr hlocks hQ hP hS (by omega) (by omega) dX6_takesBelow_28 (⟨rfl, by rw [show i = n from by omega]⟩)
      · skip
        refine lv_iload_n hx hb dX6_takesBelow_11 rfl (lv_at hl 1 rfl) ?_
        refine lv_aload_n hx hb dX6_takesBelow_12 rfl (lv_at hl 2 rfl) ?_
        refine lv_iload_n hx hb dX6_takesBelow_13 rfl (lv_at hl 3 rfl) ?_
        refine lv_iload hx hb dX6_takesBelow_14 (lv_at hl 0 rfl) ?_
        refine tw_cR hx hb hml hown hts (val := tTk (a 0) k i) (CX6_takes l0 E w h ad f a k i hM (by omega) (by omega)) (cwV 2 hts (lw_V q1770 q1772 qs45 q81 q1773) rfl rfl rfl dyX6_takes ⟨Nat.le_of_ble_eq_true rfl, Nat.le_of_ble_eq_true rfl⟩) hG hP hS hM (As := [.int (nI k), .int (nI i)]) (rest := [.int (tBl (a 0) k i)]) rfl hl.1 rfl (lv_room (Nat.le_of_ble_eq_true rfl)) dX6_takesBelow_16 ⟨by omega, by omega⟩ (fun H locs hP hS => ?_)
        refine lv_iadd hx hb dX6_takesBelow_19 ?_
        refine lv_istore_n (lv' := [(3, .int ((tBl (a 0) k i) + tTk (a 0) k i)), (4, .int (nI i)), (0, .ref h), (1, .int (nI k)), (2, .int (nI n))]) hx hb dX6_takesBelow_20 rfl hl (by decide) rfl (fun ls hl => ?_)
        refine lv_iinc (v := (nI (i + 1))) (lv' := [(4, .int (nI (i + 1))), (3, .int ((tBl (a 0) k i) + tTk (a 0) k i)), (0, .ref h), (1, .int (nI k)), (2, .int (nI n))]) hx hb dX6_takesBelow_21 hl (k := 1) rfl (nI_add i 1) (by decide) rfl (fun ls hl => ?_)
        refine lv_goto (tgt := 5) hx hb dX6_takesBelow_24 (by decide) ?_
        have hl : lv_has ls 5 [(4, .int (nI (i + 1))), (3, .int (tBl (a 0) k (i + 1))), (0, .ref h), (1, .int (nI k)), (2, .int (nI n))] := hl
        exact ih_5 (i + 1) (by omega) (by omega) _ _ _ hP hS hl
  have hl : lv_has ls 5 [(4, .int (nI 0)), (3, .int (tBl (a 0) k 0)), (0, .ref h), (1, .int (nI k)), (2, .int (nI n))] := hl
  exact hloop_5 _ 0 (by omega) (Nat.lt_succ_self _) _ _ _ hP hS hl
