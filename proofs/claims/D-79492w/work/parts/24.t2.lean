/-! THE TWIN, 2: readers with loops -/
set_option maxRecDepth 100000
abbrev rmCX6_height : Room := { frames := 3, cells := 0, slots := 0, locals := 65 }
theorem dyX6_height : yX6_height.cls = RX6 ∧ yX6_height.cls ≠ "java/lang/invoke/MethodHandle" ∧ yX6_height.cls ≠ "java/lang/invoke/VarHandle" ∧ (parseMethodDescriptor yX6_height.desc).map (fun d => d.parameters.length) = some 1 := by decide +kernel
set_option maxHeartbeats 4000000 in
theorem CX6_height (l0 : Launch) (E : gE) (w : wd) (h : Nat) (ad : Nat → Nat) (f : Nat → Int32) (a : Nat → Nat → Int32) (k : Nat) (hM : tM E w h ad f a) (hk : k < 6) : kC l0 yX6_height (ws_ yX6_height cX6_height 4 (some .int)) rmCX6_height 0 0 mI E w [.ref h, .int (nI k)] (fun r w' => w' = w ∧ r = (nI (tHt (a 0) k))) := by
  refine k_open (cc := cX6_height) (maxL := 4) (ret := (some .int)) (by decide) rfl (Nat.le_of_ble_eq_true rfl) ?_
  intro p e s m args below meth c ls Q hx hb hr hml hown hts hlocks hname hQ hG hP hl hS
  have hl : lv_has ls 4 [(0, .ref h), (1, .int (nI k))] := hl
  refine lv_aload_n hx hb dX6_height_0 rfl (lv_at hl 0 rfl) ?_
  refine lv_iload_n hx hb dX6_height_1 rfl (lv_at hl 1 rfl) ?_
  refine tw_cR hx hb hml hown hts (val := (bI (tUp (a 0) k))) (CX6_isUp l0 E w h ad f a k hM (by omega)) (cwV 1 hts (lw_V q1742 q1744 qs42 q81 q1745) rfl rfl rfl dyX6_isUp ⟨Nat.le_of_ble_eq_true rfl, Nat.le_of_ble_eq_true rfl⟩) hG hP hS hM (As := [.int (nI k)]) (rest := []) rfl hl.1 rfl (lv_room (Nat.le_of_ble_eq_true rfl)) dX6_height_2 ⟨by omega, by omega⟩ (fun H locs hP hS => ?_)
  refine k_ifneB (x := tUp (a 0) k) (tgt := 10) hx hb dX6_height_5 (by decide) (fun c5 => ?_) (fun c5 => ?_)
  · skip
    refine lv_aload_n hx hb dX6_height_10 rfl (lv_at hl 0 rfl) ?_
    refine lv_iload_n hx hb dX6_height_11 rfl (lv_at hl 1 rfl) ?_
    refine lv_iconst (v := 5) hx hb dX6_height_12 (by decide) ?_
    refine tw_cR hx hb hml hown hts (val := (a 0) (kO k 5)) (CX6_of l0 E w h ad f a k 5 hM (by omega) (by omega)) (cwV 2 hts (lw_V q1730 q1732 qs40 q81 q1733) rfl rfl rfl dyX6_of ⟨Nat.le_of_ble_eq_true rfl, Nat.le_of_ble_eq_true rfl⟩) hG hP hS hM (As := [.int (nI k), .int 5]) (rest := []) rfl hl.1 rfl (lv_room (Nat.le_of_ble_eq_true rfl)) dX6_height_13 ⟨by omega, by omega⟩ (fun H locs hP hS => ?_)
    refine lv_istore_n (lv' := [(2, .int ((a 0) (kO k 5))), (0, .ref h), (1, .int (nI k))]) hx hb dX6_height_16 rfl hl (by decide) rfl (fun ls hl => ?_)
    refine lv_iconst (v := 0) hx hb dX6_height_17 (by decide) ?_
    refine lv_istore_n (lv' := [(3, .int 0), (2, .int ((a 0) (kO k 5))), (0, .ref h), (1, .int (nI k))]) hx hb dX6_height_18 rfl hl (by decide) rfl (fun ls hl => ?_)
    have hloop_19 : ∀ (n9_19 : Nat) (q : Nat) (i : Nat) (x : Int32), (q + i = 10) → (tHg (a 0) k q i x = tHt (a 0) k) → q < n9_19 → ∀ (H : Heap) (locs : List Loc) (ls : Array Slot), wP E w H → va_S (gA E) s.heap H locs → lv_has ls 4 [(3, .int (nI i)), (2, .int x), (0, .ref h), (1, .int (nI k))] → W p l0 e rmCX6_height s m args below meth c H locs 0 0 Q (F0 m 19 ls []) := by
      intro n9_19
      induction n9_19 with
      | zero => intro q i x hq hv hn; exact absurd hn (Nat.not_lt_zero _)
      | succ n9_19 ih_19 =>
        intro q i x hq hv hn_19 H locs ls hP hS hl
        refine lv_iload_n hx hb dX6_height_19 rfl (lv_at hl 0 rfl) ?_
        refine lv_bipush (v := 10) hx hb dX6_height_20 (by decide) ?_
        refine k_icmp_geN (x := i) (y := 10) (tgt := 50) hx hb (by omega) (by omega) dX6_height_22 (by decide) (fun c22 => ?_) (fun c22 => ?_)
        · skip
          refine lv_iload_n hx hb dX6_height_50 rfl (lv_at hl 0 rfl) ?_
          exact k_iret hx hb hr hlocks hQ hP hS (by omega) (by omega) dX6_height_51 (⟨rfl, by first | (rw [← hv, tHg, if_neg (Int32.not_le.mpr c32)]; done) | (obtain rfl : q = 0 := by omega); rw [← hv]; rfl⟩)
        · skip
          obtain ⟨q, rfl⟩ : ∃ z, q = z + 1 := ⟨q - 1, by omega⟩
          refine lv_aload_n hx hb dX6_height_25 rfl (lv_at hl 2 rfl) ?_
          refine lv_iload_n hx hb dX6_height_26 rfl (lv_at hl 3 rfl) ?_
          refine lv_iload_n hx hb dX6_height_27 rfl (lv_at hl 0 rfl) ?_
          refine tw_cR hx hb hml hown hts (val := tTk (a 0) k i) (CX6_takes l0 E w h ad f a k i hM (by omega) (by omega)) (cwV 2 hts (lw_V q1770 q1772 qs45 q81 q1773) rfl rfl rfl dyX6_takes ⟨Nat.le_of_ble_eq_true rfl, Nat.le_of_ble_eq_true rfl⟩) hG hP hS hM (As := [.int (nI k), .int (nI i)]) (rest := []) rfl hl.1 rfl (lv_room (Nat.le_of_ble_eq_true rfl)) dX6_height_28 ⟨by omega, by omega⟩ (fun H locs hP hS => ?_)
          refine lv_iload_n hx hb dX6_height_31 rfl (lv_at hl 1 rfl) ?_
          refine lv_icmp_gt (tgt := 50) hx hb dX6_height_32 (by decide) (fun c32 => ?_) (fun c32 => ?_)
          · skip
            refine lv_iload_n hx hb dX6_height_50 rfl (lv_at hl 0 rfl) ?_
            exact k_iret hx hb hr hlocks hQ hP hS (by omega) (by omega) dX6_height_51 (⟨rfl, by first | (rw [← hv, tHg, if_neg (Int32.not_le.mpr c32)]; done) | (obtain rfl : q = 0 := by omega); rw [← hv]; rfl⟩)
          · skip
            refine lv_iload_n hx hb dX6_height_35 rfl (lv_at hl 1 rfl) ?_
            refine lv_aload_n hx hb dX6_height_36 rfl (lv_at hl 2 rfl) ?_
            refine lv_iload_n hx hb dX6_height_37 rfl (lv_at hl 3 rfl) ?_
            refine lv_iload_n hx hb dX6_height_38 rfl (lv_at hl 0 rfl) ?_
            refine tw_cR hx hb hml hown hts (val := tTk (a 0) k i) (CX6_takes l0 E w h ad f a k i hM (by omega) (by omega)) (cwV 2 hts (lw_V q1770 q1772 qs45 q81 q1773) rfl rfl rfl dyX6_takes ⟨Nat.le_of_ble_eq_true rfl, Nat.le_of_ble_eq_true rfl⟩) hG hP hS hM (As := [.int (nI k), .int (nI i)]) (rest := [.int x]) rfl hl.1 rfl (lv_room (Nat.le_of_ble_eq_true rfl)) dX6_height_39 ⟨by omega, by omega⟩ (fun H locs hP hS => ?_)
            refine lv_isub hx hb dX6_height_42 ?_
            refine lv_istore_n (lv' := [(2, .int (x - tTk (a 0) k i)), (3, .int (nI i)), (0, .ref h), (1, .int (nI k))]) hx hb dX6_height_43 rfl hl (by decide) rfl (fun ls hl => ?_)
            refine lv_iinc (v := (nI (i + 1))) (lv' := [(3, .int (nI (i + 1))), (2, .int (x - tTk (a 0) k i)), (0, .ref h), (1, .int (nI k))]) hx hb dX6_height_44 hl (k := 1) rfl (nI_add i 1) (by decide) rfl (fun ls hl => ?_)
            refine lv_goto (tgt := 19) hx hb dX6_height_47 (by decide) ?_
            have hl : lv_has ls 4 [(3, .int (nI (i + 1))), (2, .int (x - tTk (a 0) k i)), (0, .ref h), (1, .int (nI k))] := hl
            exact ih_19 q (i + 1) (x - tTk (a 0) k i) (by omega) (by rw [← hv, tHg, if_pos (Int32.not_lt.mp c32)]) (by omega) _ _ _ hP hS hl
    have hl : lv_has ls 4 [(3, .int (nI 0)), (2, .int ((a 0) (kO k 5))), (0, .ref h), (1, .int (nI k))] := hl
    exact hloop_19 _ 10 0 ((a 0) (kO k 5)) (by omega) (by rw [tHt, if_pos c5]) (Nat.lt_succ_self _) _ _ _ hP hS hl
  · skip
    refine lv_iconst (v := 0) hx hb dX6_height_8 (by decide) ?_
    exact k_iret hx hb hr hlocks hQ hP hS (by omega) (by omega) dX6_height_9 (⟨rfl, by rw [tHt, c5]; rfl⟩)

abbrev rmCX6_place : Room := { frames := 2, cells := 0, slots := 0, locals := 43 }
theorem dyX6_place : yX6_place.cls = RX6 ∧ yX6_place.cls ≠ "java/lang/invoke/MethodHandle" ∧ yX6_place.cls ≠ "java/lang/invoke/VarHandle" ∧ (parseMethodDescriptor yX6_place.desc).map (fun d => d.parameters.length) = some 2 := by decide +kernel
set_option maxHeartbeats 4000000 in
theorem CX6_place (l0 : Launch) (E : gE) (w : wd) (h : Nat) (ad : Nat → Nat) (f : Nat → Int32) (a : Nat → Nat → Int32) (k : Nat) (n : Nat) (hM : tM E w h ad f a) (hk : k < 6) (hn : n ≤ 10) : kC l0 yX6_place (ws_ yX6_place cX6_place 5 (some .int)) rmCX6_place 0 0 mI E w [.ref h, .int (nI k), .int (nI n)] (fun r w' => w' = w ∧ r = tPl (a 0) k n) := by
  refine k_open (cc := cX6_place) (maxL := 5) (ret := (some .int)) (by decide) rfl (Nat.le_of_ble_eq_true rfl) ?_
  intro p e s m args below meth c ls Q hx hb hr hml hown hts hlocks hname hQ hG hP hl hS
  have hl : lv_has ls 5 [(0, .ref h), (1, .int (nI k)), (2, .int (nI n))] := hl
  refine lv_aload_n hx hb dX6_place_0 rfl (lv_at hl 0 rfl) ?_
  refine lv_iload_n hx hb dX6_place_1 rfl (lv_at hl 1 rfl) ?_
  refine lv_iconst (v := 2) hx hb dX6_place_2 (by decide) ?_
  refine tw_cR hx hb hml hown hts (val := (a 0) (kO k 2)) (CX6_of l0 E w h ad f a k 2 hM (by omega) (by omega)) (cwV 2 hts (lw_V q1730 q1732 qs40 q81 q1733) rfl rfl rfl dyX6_of ⟨Nat.le_of_ble_eq_true rfl, Nat.le_of_ble_eq_true rfl⟩) hG hP hS hM (As := [.int (nI k), .int 2]) (rest := []) rfl hl.1 rfl (lv_room (Nat.le_of_ble_eq_true rfl)) dX6_place_3 ⟨by omega, by omega⟩ (fun H locs hP hS => ?_)
  refine lv_istore_n (lv' := [(3, .int ((a 0) (kO k 2))), (0, .ref h), (1, .int (nI k)), (2, .int (nI n))]) hx hb dX6_place_6 rfl hl (by decide) rfl (fun ls hl => ?_)
  refine lv_iconst (v := 0) hx hb dX6_place_7 (by decide) ?_
  refine lv_istore (lv' := [(4, .int 0), (3, .int ((a 0) (kO k 2))), (0, .ref h), (1, .int (nI k)), (2, .int (nI n))]) hx hb dX6_place_8 hl (by decide) rfl (fun ls hl => ?_)
  have hloop_10 : ∀ (n9_10 : Nat) (i : Nat), (i ≤ n) → (n - i) < n9_10 → ∀ (H : Heap) (locs : List Loc) (ls : Array Slot), wP E w H → va_S (gA E) s.heap H locs → lv_has ls 5 [(4, .int (nI i)), (3, .int (tPl (a 0) k i)), (0, .ref h), (1, .int (nI k)), (2, .int (nI n))] → W p l0 e rmCX6_place s m args below meth c H locs 0 0 Q (F0 m 10 ls []) := by
    intro n9_10
    induction n9_10 with
    | zero => intro i hi hn; exact absurd hn (Nat.not_lt_zero _)
    | succ n9_10 ih_10 =>
      intro i hi hn_10 H locs ls hP hS hl
      refine lv_iload hx hb dX6_place_10 (lv_at hl 0 rfl) ?_
      refine lv_iload_n hx hb dX6_place_12 rfl (lv_at hl 4 rfl) ?_
      refine k_icmp_geN (x := i) (y := n) (tgt := 42) hx hb (by omega) (by omega) dX6_place_13 (by decide) (fun c13 => ?_) (fun c13 => ?_)
      · skip
        refine lv_iload_n hx hb dX6_place_42 rfl (lv_at hl 1 rfl) ?_
        exact k_iret hx hb hr hlocks hQ hP hS (by omega) (by omega) dX6_place_43 (⟨rfl, by rw [show i = n from by omega]⟩)
      · skip
        refine lv_iload_n hx hb dX6_place_16 rfl (lv_at hl 1 rfl) ?_
        refine lv_aload_n hx hb dX6_place_17 rfl (lv_at hl 2 rfl) ?_
        refine tw_get hx hb hts hown hG hP hM 0 (by decide) (hts _ q1620) (fun _ h9 => h9) (v := .ref (ad 0)) rfl dX6_place_18 ?_
        refine lv_iconst (v := 2) hx hb dX6_place_21 (by decide) ?_
        refine lv_iload hx hb dX6_place_22 (lv_at hl 0 rfl) ?_
        refine k_imulN (x := 2) (y := i) hx hb dX6_place_24 ?_
        refine lv_iconst (v := 1) hx hb dX6_place_25 (by decide) ?_
        refine k_iaddN (x := 2 * i) (y := 1) hx hb dX6_place_26 ?_
        refine tw_ald hx hb hG hP hM 0 (by decide) (j := 2 * i + 1) (show 2 * i + 1 < 116 from by omega) dX6_place_27 ?_
        refine lv_aload_n hx hb dX6_place_28 rfl (lv_at hl 2 rfl) ?_
        refine lv_iload_n hx hb dX6_place_29 rfl (lv_at hl 3 rfl) ?_
        refine tw_cR hx hb hml hown hts (val := tFc (a 0) k) (CX6_factor l0 E w h ad f a k hM (by omega)) (cwV 1 hts (lw_V q1777 q1779 qs46 q81 q1780) rfl rfl rfl dyX6_factor ⟨Nat.le_of_ble_eq_true rfl, Nat.le_of_ble_eq_true rfl⟩) hG hP hS hM (As := [.int (nI k)]) (rest := [.int ((a 0) (2 * i + 1)), .int (tPl (a 0) k i)]) rfl hl.1 rfl (lv_room (Nat.le_of_ble_eq_true rfl)) dX6_place_30 ⟨by omega, by omega⟩ (fun H locs hP hS => ?_)
        refine lv_imul hx hb dX6_place_33 ?_
        refine lv_iadd hx hb dX6_place_34 ?_
        refine lv_istore_n (lv' := [(3, .int ((tPl (a 0) k i) + (((a 0) (2 * i + 1)) * tFc (a 0) k))), (4, .int (nI i)), (0, .ref h), (1, .int (nI k)), (2, .int (nI n))]) hx hb dX6_place_35 rfl hl (by decide) rfl (fun ls hl => ?_)
        refine lv_iinc (v := (nI (i + 1))) (lv' := [(4, .int (nI (i + 1))), (3, .int ((tPl (a 0) k i) + (((a 0) (2 * i + 1)) * tFc (a 0) k))), (0, .ref h), (1, .int (nI k)), (2, .int (nI n))]) hx hb dX6_place_36 hl (k := 1) rfl (nI_add i 1) (by decide) rfl (fun ls hl => ?_)
        refine lv_goto (tgt := 10) hx hb dX6_place_39 (by decide) ?_
        have hl : lv_has ls 5 [(4, .int (nI (i + 1))), (3, .int (tPl (a 0) k (i + 1))), (0, .ref h), (1, .int (nI k)), (2, .int (nI n))] := hl
        exact ih_10 (i + 1) (by omega) (by omega) _ _ _ hP hS hl
  have hl : lv_has ls 5 [(4, .int (nI 0)), (3, .int (tPl (a 0) k 0)), (0, .ref h), (1, .int (nI k)), (2, .int (nI n))] := hl
  exact hloop_10 _ 0 (by omega) (Nat.lt_succ_self _) _ _ _ hP hS hl

abbrev rmCX6_tension : Room := { frames := 4, cells := 0, slots := 0, locals := 88 }
theorem dyX6_tension : yX6_tension.cls = RX6 ∧ yX6_tension.cls ≠ "java/lang/invoke/MethodHandle" ∧ yX6_tension.cls ≠ "java/lang/invoke/VarHandle" ∧ (parseMethodDescriptor yX6_tension.desc).map (fun d => d.parameters.length) = some 1 := by decide +kernel
set_option maxHeartbeats 4000000 in
theorem CX6_tension (l0 : Launch) (E : gE) (w : wd) (h : Nat) (ad : Nat → Nat) (f : Nat → Int32) (a : Nat → Nat → Int32) (k : Nat) (hM : tM E w h ad f a) (hk : k < 6) : kC l0 yX6_tension (ws_ yX6_tension cX6_tension 4 (some .int)) rmCX6_tension 0 0 mI E w [.ref h, .int (nI k)] (fun r w' => w' = w ∧ r = tTs (a 0) k) := by
  refine k_open (cc := cX6_tension) (maxL := 4) (ret := (some .int)) (by decide) rfl (Nat.le_of_ble_eq_true rfl) ?_
  intro p e s m args below meth c ls Q hx hb hr hml hown hts hlocks hname hQ hG hP hl hS
  have hl : lv_has ls 4 [(0, .ref h), (1, .int (nI k))] := hl
  have h10 := tHt_le (a 0) k
  refine lv_iconst (v := 0) hx hb dX6_tension_0 (by decide) ?_
  refine lv_istore_n (lv' := [(2, .int 0), (0, .ref h), (1, .int (nI k))]) hx hb dX6_tension_1 rfl hl (by decide) rfl (fun ls hl => ?_)
  refine lv_iconst (v := 0) hx hb dX6_tension_2 (by decide) ?_
  refine lv_istore_n (lv' := [(3, .int 0), (2, .int 0), (0, .ref h), (1, .int (nI k))]) hx hb dX6_tension_3 rfl hl (by decide) rfl (fun ls hl => ?_)
  have hloop_4 : ∀ (n9_4 : Nat) (i : Nat), (i ≤ tHt (a 0) k) → (tHt (a 0) k - i) < n9_4 → ∀ (H : Heap) (locs : List Loc) (ls : Array Slot), wP E w H → va_S (gA E) s.heap H locs → lv_has ls 4 [(3, .int (nI i)), (2, .int (tSm (a 0) i)), (0, .ref h), (1, .int (nI k))] → W p l0 e rmCX6_tension s m args below meth c H locs 0 0 Q (F0 m 4 ls []) := by
    intro n9_4
    induction n9_4 with
    | zero => intro i hi hn; exact absurd hn (Nat.not_lt_zero _)
    | succ n9_4 ih_4 =>
      intro i hi hn_4 H locs ls hP hS hl
      refine lv_iload_n hx hb dX6_tension_4 rfl (lv_at hl 0 rfl) ?_
      refine lv_aload_n hx hb dX6_tension_5 rfl (lv_at hl 2 rfl) ?_
      refine lv_iload_n hx hb dX6_tension_6 rfl (lv_at hl 3 rfl) ?_
      refine tw_cR hx hb hml hown hts (val := (nI (tHt (a 0) k))) (CX6_height l0 E w h ad f a k hM (by omega)) (cwV 1 hts (lw_V q1766 q1768 qs44 q81 q1769) rfl rfl rfl dyX6_height ⟨Nat.le_of_ble_eq_true rfl, Nat.le_of_ble_eq_true rfl⟩) hG hP hS hM (As := [.int (nI k)]) (rest := [.int (nI i)]) rfl hl.1 rfl (lv_room (Nat.le_of_ble_eq_true rfl)) dX6_tension_7 ⟨by omega, by omega⟩ (fun H locs hP hS => ?_)
      refine k_icmp_geN (x := i) (y := tHt (a 0) k) (tgt := 30) hx hb (by omega) (by omega) dX6_tension_10 (by decide) (fun c10 => ?_) (fun c10 => ?_)
      · skip
        refine lv_aload_n hx hb dX6_tension_30 rfl (lv_at hl 2 rfl) ?_
        refine lv_iload_n hx hb dX6_tension_31 rfl (lv_at hl 3 rfl) ?_
        refine tw_cR hx hb hml hown hts (val := tAr (a 0) k) (CX6_area l0 E w h ad f a k hM (by omega)) (cwV 1 hts (lw_V q1785 q1787 qs48 q81 q1788) rfl rfl rfl dyX6_area ⟨Nat.le_of_ble_eq_true rfl, Nat.le_of_ble_eq_true rfl⟩) hG hP hS hM (As := [.int (nI k)]) (rest := []) rfl hl.1 rfl (lv_room (Nat.le_of_ble_eq_true rfl)) dX6_tension_32 ⟨by omega, by omega⟩ (fun H locs hP hS => ?_)
        refine lv_iload_n hx hb dX6_tension_35 rfl (lv_at hl 1 rfl) ?_
        refine lv_imul hx hb dX6_tension_36 ?_
        exact k_iret hx hb hr hlocks hQ hP hS (by omega) (by omega) dX6_tension_37 (⟨rfl, by rw [tTs, show i = tHt (a 0) k from by omega]⟩)
      · skip
        refine lv_iload_n hx hb dX6_tension_13 rfl (lv_at hl 1 rfl) ?_
        refine lv_aload_n hx hb dX6_tension_14 rfl (lv_at hl 2 rfl) ?_
        refine tw_get hx hb hts hown hG hP hM 0 (by decide) (hts _ q1620) (fun _ h9 => h9) (v := .ref (ad 0)) rfl dX6_tension_15 ?_
        refine lv_iconst (v := 2) hx hb dX6_tension_18 (by decide) ?_
        refine lv_iload_n hx hb dX6_tension_19 rfl (lv_at hl 0 rfl) ?_
        refine k_imulN (x := 2) (y := i) hx hb dX6_tension_20 ?_
        refine tw_ald hx hb hG hP hM 0 (by decide) (j := 2 * i) (show 2 * i < 116 from by omega) dX6_tension_21 ?_
        refine lv_iadd hx hb dX6_tension_22 ?_
        refine lv_istore_n (lv' := [(2, .int ((tSm (a 0) i) + ((a 0) (2 * i)))), (3, .int (nI i)), (0, .ref h), (1, .int (nI k))]) hx hb dX6_tension_23 rfl hl (by decide) rfl (fun ls hl => ?_)
        refine lv_iinc (v := (nI (i + 1))) (lv' := [(3, .int (nI (i + 1))), (2, .int ((tSm (a 0) i) + ((a 0) (2 * i)))), (0, .ref h), (1, .int (nI k))]) hx hb dX6_tension_24 hl (k := 1) rfl (nI_add i 1) (by decide) rfl (fun ls hl => ?_)
        refine lv_goto (tgt := 4) hx hb dX6_tension_27 (by decide) ?_
        have hl : lv_has ls 4 [(3, .int (nI (i + 1))), (2, .int (tSm (a 0) (i + 1))), (0, .ref h), (1, .int (nI k))] := hl
        exact ih_4 (i + 1) (by omega) (by omega) _ _ _ hP hS hl
  have hl : lv_has ls 4 [(3, .int (nI 0)), (2, .int (tSm (a 0) 0)), (0, .ref h), (1, .int (nI k))] := hl
  exact hloop_4 _ 0 (by omega) (Nat.lt_succ_self _) _ _ _ hP hS hl

abbrev rmCX6_crosses : Room := { frames := 4, cells := 0, slots := 0, locals := 88 }
theorem dyX6_crosses : yX6_crosses.cls = RX6 ∧ yX6_crosses.cls ≠ "java/lang/invoke/MethodHandle" ∧ yX6_crosses.cls ≠ "java/lang/invoke/VarHandle" ∧ (parseMethodDescriptor yX6_crosses.desc).map (fun d => d.parameters.length) = some 2 := by decide +kernel
set_option maxHeartbeats 4000000 in
theorem CX6_crosses (l0 : Launch) (E : gE) (w : wd) (h : Nat) (ad : Nat → Nat) (f : Nat → Int32) (a : Nat → Nat → Int32) (x : Nat) (y : Nat) (hM : tM E w h ad f a) (h1 : x < 6) (h2 : y < 6) : kC l0 yX6_crosses (ws_ yX6_crosses cX6_crosses 7 (some .int)) rmCX6_crosses 0 0 mI E w [.ref h, .int (nI x), .int (nI y)] (fun r w' => w' = w ∧ r = oI (tCr (a 0) x y)) := by
  refine k_open (cc := cX6_crosses) (maxL := 7) (ret := (some .int)) (by decide) rfl (Nat.le_of_ble_eq_true rfl) ?_
  intro p e s m args below meth c ls Q hx hb hr hml hown hts hlocks hname hQ hG hP hl hS
  have hl : lv_has ls 7 [(0, .ref h), (1, .int (nI x)), (2, .int (nI y))] := hl
  have t1 := tHt_le (a 0) x
  have t2 := tHt_le (a 0) y
  refine lv_iload_n hx hb dX6_crosses_0 rfl (lv_at hl 1 rfl) ?_
  refine lv_iload_n hx hb dX6_crosses_1 rfl (lv_at hl 2 rfl) ?_
  refine k_icmp_neN (x := x) (y := y) (tgt := 7) hx hb (by omega) (by omega) dX6_crosses_2 (by decide) (fun c2 => ?_) (fun c2 => ?_)
  · skip
    refine lv_aload_n hx hb dX6_crosses_7 rfl (lv_at hl 0 rfl) ?_
    refine lv_iload_n hx hb dX6_crosses_8 rfl (lv_at hl 1 rfl) ?_
    refine tw_cR hx hb hml hown hts (val := (nI (tHt (a 0) x))) (CX6_height l0 E w h ad f a x hM (by omega)) (cwV 1 hts (lw_V q1766 q1768 qs44 q81 q1769) rfl rfl rfl dyX6_height ⟨Nat.le_of_ble_eq_true rfl, Nat.le_of_ble_eq_true rfl⟩) hG hP hS hM (As := [.int (nI x)]) (rest := []) rfl hl.1 rfl (lv_room (Nat.le_of_ble_eq_true rfl)) dX6_crosses_9 ⟨by omega, by omega⟩ (fun H locs hP hS => ?_)
    refine lv_aload_n hx hb dX6_crosses_12 rfl (lv_at hl 0 rfl) ?_
    refine lv_iload_n hx hb dX6_crosses_13 rfl (lv_at hl 2 rfl) ?_
    refine tw_cR hx hb hml hown hts (val := (nI (tHt (a 0) y))) (CX6_height l0 E w h ad f a y hM (by omega)) (cwV 1 hts (lw_V q1766 q1768 qs44 q81 q1769) rfl rfl rfl dyX6_height ⟨Nat.le_of_ble_eq_true rfl, Nat.le_of_ble_eq_true rfl⟩) hG hP hS hM (As := [.int (nI y)]) (rest := [.int (nI (tHt (a 0) x))]) rfl hl.1 rfl (lv_room (Nat.le_of_ble_eq_true rfl)) dX6_crosses_14 ⟨by omega, by omega⟩ (fun H locs hP hS => ?_)
    refine k_cP hx hb hml hown hts (val := tLs (nI (tHt (a 0) x)) (nI (tHt (a 0) y))) (CX6_less l0 E w (nI (tHt (a 0) x)) (nI (tHt (a 0) y)) ) (va_cwS 2 hts (lw_S q1817 q1818 q81 q1819) rfl rfl rfl dyX6_less ⟨Nat.le_of_ble_eq_true rfl, Nat.le_of_ble_eq_true rfl⟩) hG hP hS (As := [.int (nI (tHt (a 0) x)), .int (nI (tHt (a 0) y))]) (rest := []) rfl hl.1 rfl (lv_room (Nat.le_of_ble_eq_true rfl)) dX6_crosses_17 ⟨by omega, by omega⟩ (fun H locs hP hS => ?_)
    refine k_top (y := (nI (min (tHt (a 0) x) (tHt (a 0) y)))) (tLs_nI (by omega) (by omega)) ?_
    refine lv_istore_n (lv' := [(3, .int (nI (min (tHt (a 0) x) (tHt (a 0) y)))), (0, .ref h), (1, .int (nI x)), (2, .int (nI y))]) hx hb dX6_crosses_20 rfl hl (by decide) rfl (fun ls hl => ?_)
    refine lv_iconst (v := 0) hx hb dX6_crosses_21 (by decide) ?_
    refine lv_istore (lv' := [(4, .int 0), (3, .int (nI (min (tHt (a 0) x) (tHt (a 0) y)))), (0, .ref h), (1, .int (nI x)), (2, .int (nI y))]) hx hb dX6_crosses_22 hl (by decide) rfl (fun ls hl => ?_)
    have hloop_24 : ∀ (n9_24 : Nat) (q : Nat) (i : Nat), (q + i = min (tHt (a 0) x) (tHt (a 0) y)) → (tCg (a 0) x y q i = tCr (a 0) x y) → q < n9_24 → ∀ (H : Heap) (locs : List Loc) (ls : Array Slot), wP E w H → va_S (gA E) s.heap H locs → lv_has ls 7 [(4, .int (nI i)), (3, .int (nI (min (tHt (a 0) x) (tHt (a 0) y)))), (0, .ref h), (1, .int (nI x)), (2, .int (nI y))] → W p l0 e rmCX6_crosses s m args below meth c H locs 0 0 Q (F0 m 24 ls []) := by
      intro n9_24
      induction n9_24 with
      | zero => intro q i hq hv hn; exact absurd hn (Nat.not_lt_zero _)
      | succ n9_24 ih_24 =>
        intro q i hq hv hn_24 H locs ls hP hS hl
        refine lv_iload hx hb dX6_crosses_24 (lv_at hl 0 rfl) ?_
        refine lv_iload_n hx hb dX6_crosses_26 rfl (lv_at hl 1 rfl) ?_
        refine k_icmp_geN (x := i) (y := min (tHt (a 0) x) (tHt (a 0) y)) (tgt := 102) hx hb (by omega) (by omega) dX6_crosses_27 (by decide) (fun c27 => ?_) (fun c27 => ?_)
        · skip
          refine lv_iconst (v := (-1)) hx hb dX6_crosses_102 (by decide) ?_
          exact k_iret hx hb hr hlocks hQ hP hS (by omega) (by omega) dX6_crosses_103 (⟨rfl, by (obtain rfl : q = 0 := by omega); rw [← hv]; rfl⟩)
        · skip
          obtain ⟨q, rfl⟩ : ∃ z, q = z + 1 := ⟨q - 1, by omega⟩
          refine lv_aload_n hx hb dX6_crosses_30 rfl (lv_at hl 2 rfl) ?_
          refine lv_iload_n hx hb dX6_crosses_31 rfl (lv_at hl 3 rfl) ?_
          refine lv_iload hx hb dX6_crosses_32 (lv_at hl 0 rfl) ?_
          refine tw_cR hx hb hml hown hts (val := tPl (a 0) x i) (CX6_place l0 E w h ad f a x i hM (by omega) (by omega)) (cwV 2 hts (lw_V q1789 q1791 qs49 q81 q1792) rfl rfl rfl dyX6_place ⟨Nat.le_of_ble_eq_true rfl, Nat.le_of_ble_eq_true rfl⟩) hG hP hS hM (As := [.int (nI x), .int (nI i)]) (rest := []) rfl hl.1 rfl (lv_room (Nat.le_of_ble_eq_true rfl)) dX6_crosses_34 ⟨by omega, by omega⟩ (fun H locs hP hS => ?_)
          refine lv_aload_n hx hb dX6_crosses_37 rfl (lv_at hl 2 rfl) ?_
          refine lv_iload_n hx hb dX6_crosses_38 rfl (lv_at hl 4 rfl) ?_
          refine lv_iload hx hb dX6_crosses_39 (lv_at hl 0 rfl) ?_
          refine tw_cR hx hb hml hown hts (val := tPl (a 0) y i) (CX6_place l0 E w h ad f a y i hM (by omega) (by omega)) (cwV 2 hts (lw_V q1789 q1791 qs49 q81 q1792) rfl rfl rfl dyX6_place ⟨Nat.le_of_ble_eq_true rfl, Nat.le_of_ble_eq_true rfl⟩) hG hP hS hM (As := [.int (nI y), .int (nI i)]) (rest := [.int (tPl (a 0) x i)]) rfl hl.1 rfl (lv_room (Nat.le_of_ble_eq_true rfl)) dX6_crosses_41 ⟨by omega, by omega⟩ (fun H locs hP hS => ?_)
          refine lv_isub hx hb dX6_crosses_44 ?_
          refine lv_istore (lv' := [(5, .int (tPl (a 0) x i - tPl (a 0) y i)), (4, .int (nI i)), (3, .int (nI (min (tHt (a 0) x) (tHt (a 0) y)))), (0, .ref h), (1, .int (nI x)), (2, .int (nI y))]) hx hb dX6_crosses_45 hl (by decide) rfl (fun ls hl => ?_)
          refine lv_aload_n hx hb dX6_crosses_47 rfl (lv_at hl 3 rfl) ?_
          refine lv_iload_n hx hb dX6_crosses_48 rfl (lv_at hl 4 rfl) ?_
          refine lv_iload hx hb dX6_crosses_49 (lv_at hl 1 rfl) ?_
          refine lv_iconst (v := 1) hx hb dX6_crosses_51 (by decide) ?_
          refine k_iaddN (x := i) (y := 1) hx hb dX6_crosses_52 ?_
          refine tw_cR hx hb hml hown hts (val := tPl (a 0) x (i + 1)) (CX6_place l0 E w h ad f a x (i + 1) hM (by omega) (by omega)) (cwV 2 hts (lw_V q1789 q1791 qs49 q81 q1792) rfl rfl rfl dyX6_place ⟨Nat.le_of_ble_eq_true rfl, Nat.le_of_ble_eq_true rfl⟩) hG hP hS hM (As := [.int (nI x), .int (nI (i + 1))]) (rest := []) rfl hl.1 rfl (lv_room (Nat.le_of_ble_eq_true rfl)) dX6_crosses_53 ⟨by omega, by omega⟩ (fun H locs hP hS => ?_)
          refine lv_aload_n hx hb dX6_crosses_56 rfl (lv_at hl 3 rfl) ?_
          refine lv_iload_n hx hb dX6_crosses_57 rfl (lv_at hl 5 rfl) ?_
          refine lv_iload hx hb dX6_crosses_58 (lv_at hl 1 rfl) ?_
          refine lv_iconst (v := 1) hx hb dX6_crosses_60 (by decide) ?_
          refine k_iaddN (x := i) (y := 1) hx hb dX6_crosses_61 ?_
          refine tw_cR hx hb hml hown hts (val := tPl (a 0) y (i + 1)) (CX6_place l0 E w h ad f a y (i + 1) hM (by omega) (by omega)) (cwV 2 hts (lw_V q1789 q1791 qs49 q81 q1792) rfl rfl rfl dyX6_place ⟨Nat.le_of_ble_eq_true rfl, Nat.le_of_ble_eq_true rfl⟩) hG hP hS hM (As := [.int (nI y), .int (nI (i + 1))]) (rest := [.int (tPl (a 0) x (i + 1))]) rfl hl.1 rfl (lv_room (Nat.le_of_ble_eq_true rfl)) dX6_crosses_62 ⟨by omega, by omega⟩ (fun H locs hP hS => ?_)
          refine lv_isub hx hb dX6_crosses_65 ?_
          refine lv_istore (lv' := [(6, .int (tPl (a 0) x (i + 1) - tPl (a 0) y (i + 1))), (5, .int (tPl (a 0) x i - tPl (a 0) y i)), (4, .int (nI i)), (3, .int (nI (min (tHt (a 0) x) (tHt (a 0) y)))), (0, .ref h), (1, .int (nI x)), (2, .int (nI y))]) hx hb dX6_crosses_66 hl (by decide) rfl (fun ls hl => ?_)
          refine lv_iload hx hb dX6_crosses_68 (lv_at hl 0 rfl) ?_
          refine lv_if_eq (tgt := 93) hx hb dX6_crosses_70 (by decide) (fun c70 => ?_) (fun c70 => ?_)
          · skip
            have hD : tDo (tPl (a 0) x i - tPl (a 0) y i) (tPl (a 0) x (i + 1) - tPl (a 0) y (i + 1)) = true := by rw [tDo_iff]; (try simp only [i_le, i_lt, i_eq, i_0] at c70); (try simp only [i_le, i_lt, i_eq, i_0] at c75); (try simp only [i_le, i_lt, i_eq, i_0] at c80); (try simp only [i_le, i_lt, i_eq, i_0] at c85); (try simp only [i_le, i_lt, i_eq, i_0] at c90); omega
            refine lv_iload hx hb dX6_crosses_93 (lv_at hl 2 rfl) ?_
            exact k_iret hx hb hr hlocks hQ hP hS (by omega) (by omega) dX6_crosses_95 (⟨rfl, by rw [← hv, tCg, if_pos hD]; rfl⟩)
          · skip
            refine lv_iload hx hb dX6_crosses_73 (lv_at hl 1 rfl) ?_
            refine lv_if_ge (tgt := 83) hx hb dX6_crosses_75 (by decide) (fun c75 => ?_) (fun c75 => ?_)
            · skip
              refine lv_iload hx hb dX6_crosses_83 (lv_at hl 1 rfl) ?_
              refine lv_if_le (tgt := 96) hx hb dX6_crosses_85 (by decide) (fun c85 => ?_) (fun c85 => ?_)
              · skip
                have hD : ¬ tDo (tPl (a 0) x i - tPl (a 0) y i) (tPl (a 0) x (i + 1) - tPl (a 0) y (i + 1)) = true := by rw [tDo_iff]; (try simp only [i_le, i_lt, i_eq, i_0] at c70); (try simp only [i_le, i_lt, i_eq, i_0] at c75); (try simp only [i_le, i_lt, i_eq, i_0] at c80); (try simp only [i_le, i_lt, i_eq, i_0] at c85); (try simp only [i_le, i_lt, i_eq, i_0] at c90); omega
                refine lv_iinc (v := (nI (i + 1))) (lv' := [(4, .int (nI (i + 1))), (6, .int (tPl (a 0) x (i + 1) - tPl (a 0) y (i + 1))), (5, .int (tPl (a 0) x i - tPl (a 0) y i)), (3, .int (nI (min (tHt (a 0) x) (tHt (a 0) y)))), (0, .ref h), (1, .int (nI x)), (2, .int (nI y))]) hx hb dX6_crosses_96 hl (k := 2) rfl (nI_add i 1) (by decide) rfl (fun ls hl => ?_)
                refine lv_goto (tgt := 24) hx hb dX6_crosses_99 (by decide) ?_
                have hl := lv_sub (l' := [(4, .int (nI (i + 1))), (3, .int (nI (min (tHt (a 0) x) (tHt (a 0) y)))), (0, .ref h), (1, .int (nI x)), (2, .int (nI y))]) hl [0, 3, 4, 5, 6] rfl
                exact ih_24 q (i + 1) (by omega) (by rw [← hv, tCg, if_neg hD]) (by omega) _ _ _ hP hS hl
              · skip
                refine lv_iload hx hb dX6_crosses_88 (lv_at hl 0 rfl) ?_
                refine lv_if_ge (tgt := 96) hx hb dX6_crosses_90 (by decide) (fun c90 => ?_) (fun c90 => ?_)
                · skip
                  have hD : ¬ tDo (tPl (a 0) x i - tPl (a 0) y i) (tPl (a 0) x (i + 1) - tPl (a 0) y (i + 1)) = true := by rw [tDo_iff]; (try simp only [i_le, i_lt, i_eq, i_0] at c70); (try simp only [i_le, i_lt, i_eq, i_0] at c75); (try simp only [i_le, i_lt, i_eq, i_0] at c80); (try simp only [i_le, i_lt, i_eq, i_0] at c85); (try simp only [i_le, i_lt, i_eq, i_0] at c90); omega
                  refine lv_iinc (v := (nI (i + 1))) (lv' := [(4, .int (nI (i + 1))), (6, .int (tPl (a 0) x (i + 1) - tPl (a 0) y (i + 1))), (5, .int (tPl (a 0) x i - tPl (a 0) y i)), (3, .int (nI (min (tHt (a 0) x) (tHt (a 0) y)))), (0, .ref h), (1, .int (nI x)), (2, .int (nI y))]) hx hb dX6_crosses_96 hl (k := 2) rfl (nI_add i 1) (by decide) rfl (fun ls hl => ?_)
                  refine lv_goto (tgt := 24) hx hb dX6_crosses_99 (by decide) ?_
                  have hl := lv_sub (l' := [(4, .int (nI (i + 1))), (3, .int (nI (min (tHt (a 0) x) (tHt (a 0) y)))), (0, .ref h), (1, .int (nI x)), (2, .int (nI y))]) hl [0, 3, 4, 5, 6] rfl
                  exact ih_24 q (i + 1) (by omega) (by rw [← hv, tCg, if_neg hD]) (by omega) _ _ _ hP hS hl
                · skip
                  have hD : tDo (tPl (a 0) x i - tPl (a 0) y i) (tPl (a 0) x (i + 1) - tPl (a 0) y (i + 1)) = true := by rw [tDo_iff]; (try simp only [i_le, i_lt, i_eq, i_0] at c70); (try simp only [i_le, i_lt, i_eq, i_0] at c75); (try simp only [i_le, i_lt, i_eq, i_0] at c80); (try simp only [i_le, i_lt, i_eq, i_0] at c85); (try simp only [i_le, i_lt, i_eq, i_0] at c90); omega
                  refine lv_iload hx hb dX6_crosses_93 (lv_at hl 2 rfl) ?_
                  exact k_iret hx hb hr hlocks hQ hP hS (by omega) (by omega) dX6_crosses_95 (⟨rfl, by rw [← hv, tCg, if_pos hD]; rfl⟩)
            · skip
              refine lv_iload hx hb dX6_crosses_78 (lv_at hl 0 rfl) ?_
              refine lv_if_gt (tgt := 93) hx hb dX6_crosses_80 (by decide) (fun c80 => ?_) (fun c80 => ?_)
              · skip
                have hD : tDo (tPl (a 0) x i - tPl (a 0) y i) (tPl (a 0) x (i + 1) - tPl (a 0) y (i + 1)) = true := by rw [tDo_iff]; (try simp only [i_le, i_lt, i_eq, i_0] at c70); (try simp only [i_le, i_lt, i_eq, i_0] at c75); (try simp only [i_le, i_lt, i_eq, i_0] at c80); (try simp only [i_le, i_lt, i_eq, i_0] at c85); (try simp only [i_le, i_lt, i_eq, i_0] at c90); omega
                refine lv_iload hx hb dX6_crosses_93 (lv_at hl 2 rfl) ?_
                exact k_iret hx hb hr hlocks hQ hP hS (by omega) (by omega) dX6_crosses_95 (⟨rfl, by rw [← hv, tCg, if_pos hD]; rfl⟩)
              · skip
                refine lv_iload hx hb dX6_crosses_83 (lv_at hl 1 rfl) ?_
                refine lv_if_le (tgt := 96) hx hb dX6_crosses_85 (by decide) (fun c85 => ?_) (fun c85 => ?_)
                · skip
                  have hD : ¬ tDo (tPl (a 0) x i - tPl (a 0) y i) (tPl (a 0) x (i + 1) - tPl (a 0) y (i + 1)) = true := by rw [tDo_iff]; (try simp only [i_le, i_lt, i_eq, i_0] at c70); (try simp only [i_le, i_lt, i_eq, i_0] at c75); (try simp only [i_le, i_lt, i_eq, i_0] at c80); (try simp only [i_le, i_lt, i_eq, i_0] at c85); (try simp only [i_le, i_lt, i_eq, i_0] at c90); omega
                  refine lv_iinc (v := (nI (i + 1))) (lv' := [(4, .int (nI (i + 1))), (6, .int (tPl (a 0) x (i + 1) - tPl (a 0) y (i + 1))), (5, .int (tPl (a 0) x i - tPl (a 0) y i)), (3, .int (nI (min (tHt (a 0) x) (tHt (a 0) y)))), (0, .ref h), (1, .int (nI x)), (2, .int (nI y))]) hx hb dX6_crosses_96 hl (k := 2) rfl (nI_add i 1) (by decide) rfl (fun ls hl => ?_)
                  refine lv_goto (tgt := 24) hx hb dX6_crosses_99 (by decide) ?_
                  have hl := lv_sub (l' := [(4, .int (nI (i + 1))), (3, .int (nI (min (tHt (a 0) x) (tHt (a 0) y)))), (0, .ref h), (1, .int (nI x)), (2, .int (nI y))]) hl [0, 3, 4, 5, 6] rfl
                  exact ih_24 q (i + 1) (by omega) (by rw [← hv, tCg, if_neg hD]) (by omega) _ _ _ hP hS hl
                · skip
                  refine lv_iload hx hb dX6_crosses_88 (lv_at hl 0 rfl) ?_
                  refine lv_if_ge (tgt := 96) hx hb dX6_crosses_90 (by decide) (fun c90 => ?_) (fun c90 => ?_)
                  · skip
                    have hD : ¬ tDo (tPl (a 0) x i - tPl (a 0) y i) (tPl (a 0) x (i + 1) - tPl (a 0) y (i + 1)) = true := by rw [tDo_iff]; (try simp only [i_le, i_lt, i_eq, i_0] at c70); (try simp only [i_le, i_lt, i_eq, i_0] at c75); (try simp only [i_le, i_lt, i_eq, i_0] at c80); (try simp only [i_le, i_lt, i_eq, i_0] at c85); (try simp only [i_le, i_lt, i_eq, i_0] at c90); omega
                    refine lv_iinc (v := (nI (i + 1))) (lv' := [(4, .int (nI (i + 1))), (6, .int (tPl (a 0) x (i + 1) - tPl (a 0) y (i + 1))), (5, .int (tPl (a 0) x i - tPl (a 0) y i)), (3, .int (nI (min (tHt (a 0) x) (tHt (a 0) y)))), (0, .ref h), (1, .int (nI x)), (2, .int (nI y))]) hx hb dX6_crosses_96 hl (k := 2) rfl (nI_add i 1) (by decide) rfl (fun ls hl => ?_)
                    refine lv_goto (tgt := 24) hx hb dX6_crosses_99 (by decide) ?_
                    have hl := lv_sub (l' := [(4, .int (nI (i + 1))), (3, .int (nI (min (tHt (a 0) x) (tHt (a 0) y)))), (0, .ref h), (1, .int (nI x)), (2, .int (nI y))]) hl [0, 3, 4, 5, 6] rfl
                    exact ih_24 q (i + 1) (by omega) (by rw [← hv, tCg, if_neg hD]) (by omega) _ _ _ hP hS hl
                  · skip
                    have hD : tDo (tPl (a 0) x i - tPl (a 0) y i) (tPl (a 0) x (i + 1) - tPl (a 0) y (i + 1)) = true := by rw [tDo_iff]; (try simp only [i_le, i_lt, i_eq, i_0] at c70); (try simp only [i_le, i_lt, i_eq, i_0] at c75); (try simp only [i_le, i_lt, i_eq, i_0] at c80); (try simp only [i_le, i_lt, i_eq, i_0] at c85); (try simp only [i_le, i_lt, i_eq, i_0] at c90); omega
                    refine lv_iload hx hb dX6_crosses_93 (lv_at hl 2 rfl) ?_
                    exact k_iret hx hb hr hlocks hQ hP hS (by omega) (by omega) dX6_crosses_95 (⟨rfl, by rw [← hv, tCg, if_pos hD]; rfl⟩)
    have hl : lv_has ls 7 [(4, .int (nI 0)), (3, .int (nI (min (tHt (a 0) x) (tHt (a 0) y)))), (0, .ref h), (1, .int (nI x)), (2, .int (nI y))] := hl
    exact hloop_24 _ (min (tHt (a 0) x) (tHt (a 0) y)) 0 (by omega) (by rw [tCr, if_neg c2]) (Nat.lt_succ_self _) _ _ _ hP hS hl
  · skip
    refine lv_iconst (v := (-1)) hx hb dX6_crosses_5 (by decide) ?_
    exact k_iret hx hb hr hlocks hQ hP hS (by omega) (by omega) dX6_crosses_6 (⟨rfl, by rw [tCr, if_pos c2]; rfl⟩)

abbrev rmCX6_wearsBy : Room := { frames := 5, cells := 0, slots := 0, locals := 114 }
theorem dyX6_wearsBy : yX6_wearsBy.cls = RX6 ∧ yX6_wearsBy.cls ≠ "java/lang/invoke/MethodHandle" ∧ yX6_wearsBy.cls ≠ "java/lang/invoke/VarHandle" ∧ (parseMethodDescriptor yX6_wearsBy.desc).map (fun d => d.parameters.length) = some 2 := by decide +kernel
set_option maxHeartbeats 4000000 in
theorem CX6_wearsBy (l0 : Launch) (E : gE) (w : wd) (h : Nat) (ad : Nat → Nat) (f : Nat → Int32) (a : Nat → Nat → Int32) (x : Nat) (y : Nat) (hM : tM E w h ad f a) (h1 : x < 6) (h2 : y < 6) : kC l0 yX6_wearsBy (ws_ yX6_wearsBy cX6_wearsBy 3 (some .int)) rmCX6_wearsBy 0 0 mI E w [.ref h, .int (nI x), .int (nI y)] (fun r w' => w' = w ∧ r = tWb (a 0) x y) := by
  refine k_open (cc := cX6_wearsBy) (maxL := 3) (ret := (some .int)) (by decide) rfl (Nat.le_of_ble_eq_true rfl) ?_
  intro p e s m args below meth c ls Q hx hb hr hml hown hts hlocks hname hQ hG hP hl hS
  have hl : lv_has ls 3 [(0, .ref h), (1, .int (nI x)), (2, .int (nI y))] := hl
  refine lv_aload_n hx hb dX6_wearsBy_0 rfl (lv_at hl 0 rfl) ?_
  refine lv_iload_n hx hb dX6_wearsBy_1 rfl (lv_at hl 1 rfl) ?_
  refine lv_iload_n hx hb dX6_wearsBy_2 rfl (lv_at hl 2 rfl) ?_
  refine tw_cR hx hb hml hown hts (val := oI (tCr (a 0) x y)) (CX6_crosses l0 E w h ad f a x y hM (by omega) (by omega)) (cwV 2 hts (lw_V q1813 q1815 qs51 q81 q1816) rfl rfl rfl dyX6_crosses ⟨Nat.le_of_ble_eq_true rfl, Nat.le_of_ble_eq_true rfl⟩) hG hP hS hM (As := [.int (nI x), .int (nI y)]) (rest := []) rfl hl.1 rfl (lv_room (Nat.le_of_ble_eq_true rfl)) dX6_wearsBy_3 ⟨by omega, by omega⟩ (fun H locs hP hS => ?_)
  refine lv_if_ge (tgt := 13) hx hb dX6_wearsBy_6 (by decide) (fun c6 => ?_) (fun c6 => ?_)
  · skip
    refine lv_aload_n hx hb dX6_wearsBy_13 rfl (lv_at hl 0 rfl) ?_
    refine lv_iload_n hx hb dX6_wearsBy_14 rfl (lv_at hl 2 rfl) ?_
    refine tw_cR hx hb hml hown hts (val := tTs (a 0) y) (CX6_tension l0 E w h ad f a y hM (by omega)) (cwV 1 hts (lw_V q1781 q1783 qs47 q81 q1784) rfl rfl rfl dyX6_tension ⟨Nat.le_of_ble_eq_true rfl, Nat.le_of_ble_eq_true rfl⟩) hG hP hS hM (As := [.int (nI y)]) (rest := []) rfl hl.1 rfl (lv_room (Nat.le_of_ble_eq_true rfl)) dX6_wearsBy_15 ⟨by omega, by omega⟩ (fun H locs hP hS => ?_)
    refine lv_aload_n hx hb dX6_wearsBy_18 rfl (lv_at hl 0 rfl) ?_
    refine lv_iload_n hx hb dX6_wearsBy_19 rfl (lv_at hl 1 rfl) ?_
    refine tw_cR hx hb hml hown hts (val := tTs (a 0) x) (CX6_tension l0 E w h ad f a x hM (by omega)) (cwV 1 hts (lw_V q1781 q1783 qs47 q81 q1784) rfl rfl rfl dyX6_tension ⟨Nat.le_of_ble_eq_true rfl, Nat.le_of_ble_eq_true rfl⟩) hG hP hS hM (As := [.int (nI x)]) (rest := [.int (tTs (a 0) y)]) rfl hl.1 rfl (lv_room (Nat.le_of_ble_eq_true rfl)) dX6_wearsBy_20 ⟨by omega, by omega⟩ (fun H locs hP hS => ?_)
    refine lv_icmp_le (tgt := 37) hx hb dX6_wearsBy_23 (by decide) (fun c23 => ?_) (fun c23 => ?_)
    · skip
      refine lv_aload_n hx hb dX6_wearsBy_37 rfl (lv_at hl 0 rfl) ?_
      refine lv_iload_n hx hb dX6_wearsBy_38 rfl (lv_at hl 2 rfl) ?_
      refine lv_iconst (v := 4) hx hb dX6_wearsBy_39 (by decide) ?_
      refine tw_cR hx hb hml hown hts (val := (a 0) (kO y 4)) (CX6_of l0 E w h ad f a y 4 hM (by omega) (by omega)) (cwV 2 hts (lw_V q1730 q1732 qs40 q81 q1733) rfl rfl rfl dyX6_of ⟨Nat.le_of_ble_eq_true rfl, Nat.le_of_ble_eq_true rfl⟩) hG hP hS hM (As := [.int (nI y), .int 4]) (rest := []) rfl hl.1 rfl (lv_room (Nat.le_of_ble_eq_true rfl)) dX6_wearsBy_40 ⟨by omega, by omega⟩ (fun H locs hP hS => ?_)
      exact k_iret hx hb hr hlocks hQ hP hS (by omega) (by omega) dX6_wearsBy_43 (⟨rfl, by first | (rw [tWb, if_pos (Int32.not_le.mp c6)]; done) | (rw [tWb, if_neg (Int32.not_lt.mpr c6), if_pos (Int32.not_le.mp c23)]; done) | (rw [tWb, if_neg (Int32.not_lt.mpr c6), if_neg (Int32.not_lt.mpr c23)]; done)⟩)
    · skip
      refine lv_iconst (v := 2) hx hb dX6_wearsBy_26 (by decide) ?_
      refine lv_aload_n hx hb dX6_wearsBy_27 rfl (lv_at hl 0 rfl) ?_
      refine lv_iload_n hx hb dX6_wearsBy_28 rfl (lv_at hl 2 rfl) ?_
      refine lv_iconst (v := 4) hx hb dX6_wearsBy_29 (by decide) ?_
      refine tw_cR hx hb hml hown hts (val := (a 0) (kO y 4)) (CX6_of l0 E w h ad f a y 4 hM (by omega) (by omega)) (cwV 2 hts (lw_V q1730 q1732 qs40 q81 q1733) rfl rfl rfl dyX6_of ⟨Nat.le_of_ble_eq_true rfl, Nat.le_of_ble_eq_true rfl⟩) hG hP hS hM (As := [.int (nI y), .int 4]) (rest := [.int 2]) rfl hl.1 rfl (lv_room (Nat.le_of_ble_eq_true rfl)) dX6_wearsBy_30 ⟨by omega, by omega⟩ (fun H locs hP hS => ?_)
      refine lv_imul hx hb dX6_wearsBy_33 ?_
      refine lv_goto (tgt := 43) hx hb dX6_wearsBy_34 (by decide) ?_
      exact k_iret hx hb hr hlocks hQ hP hS (by omega) (by omega) dX6_wearsBy_43 (⟨rfl, by first | (rw [tWb, if_pos (Int32.not_le.mp c6)]; done) | (rw [tWb, if_neg (Int32.not_lt.mpr c6), if_pos (Int32.not_le.mp c23)]; done) | (rw [tWb, if_neg (Int32.not_lt.mpr c6), if_neg (Int32.not_lt.mpr c23)]; done)⟩)
  · skip
    refine lv_iconst (v := 0) hx hb dX6_wearsBy_9 (by decide) ?_
    refine lv_goto (tgt := 43) hx hb dX6_wearsBy_10 (by decide) ?_
    exact k_iret hx hb hr hlocks hQ hP hS (by omega) (by omega) dX6_wearsBy_43 (⟨rfl, by first | (rw [tWb, if_pos (Int32.not_le.mp c6)]; done) | (rw [tWb, if_neg (Int32.not_lt.mpr c6), if_pos (Int32.not_le.mp c23)]; done) | (rw [tWb, if_neg (Int32.not_lt.mpr c6), if_neg (Int32.not_lt.mpr c23)]; done)⟩)

abbrev rmCX6_wearsNow : Room := { frames := 6, cells := 0, slots := 0, locals := 136 }
theorem dyX6_wearsNow : yX6_wearsNow.cls = RX6 ∧ yX6_wearsNow.cls ≠ "java/lang/invoke/MethodHandle" ∧ yX6_wearsNow.cls ≠ "java/lang/invoke/VarHandle" ∧ (parseMethodDescriptor yX6_wearsNow.desc).map (fun d => d.parameters.length) = some 1 := by decide +kernel
set_option maxHeartbeats 4000000 in
theorem CX6_wearsNow (l0 : Launch) (E : gE) (w : wd) (h : Nat) (ad : Nat → Nat) (f : Nat → Int32) (a : Nat → Nat → Int32) (k : Nat) (mn : Nat) (hM : tM E w h ad f a) (hk : k < 6) (hmn : mn ≤ 6) (hm : (a 0) 25 = nI mn) : kC l0 yX6_wearsNow (ws_ yX6_wearsNow cX6_wearsNow 4 (some .int)) rmCX6_wearsNow 0 0 mI E w [.ref h, .int (nI k)] (fun r w' => w' = w ∧ r = tWn (a 0) k mn) := by
  refine k_open (cc := cX6_wearsNow) (maxL := 4) (ret := (some .int)) (by decide) rfl (Nat.le_of_ble_eq_true rfl) ?_
  intro p e s m args below meth c ls Q hx hb hr hml hown hts hlocks hname hQ hG hP hl hS
  have hl : lv_has ls 4 [(0, .ref h), (1, .int (nI k))] := hl
  refine lv_iconst (v := 0) hx hb dX6_wearsNow_0 (by decide) ?_
  refine lv_istore_n (lv' := [(2, .int 0), (0, .ref h), (1, .int (nI k))]) hx hb dX6_wearsNow_1 rfl hl (by decide) rfl (fun ls hl => ?_)
  refine lv_iconst (v := 0) hx hb dX6_wearsNow_2 (by decide) ?_
  refine lv_istore_n (lv' := [(3, .int 0), (2, .int 0), (0, .ref h), (1, .int (nI k))]) hx hb dX6_wearsNow_3 rfl hl (by decide) rfl (fun ls hl => ?_)
  have hloop_4 : ∀ (n9_4 : Nat) (i : Nat), (i ≤ mn) → (mn - i) < n9_4 → ∀ (H : Heap) (locs : List Loc) (ls : Array Slot), wP E w H → va_S (gA E) s.heap H locs → lv_has ls 4 [(3, .int (nI i)), (2, .int (tWn (a 0) k i)), (0, .ref h), (1, .int (nI k))] → W p l0 e rmCX6_wearsNow s m args below meth c H locs 0 0 Q (F0 m 4 ls []) := by
    intro n9_4
    induction n9_4 with
    | zero => intro i hi hn; exact absurd hn (Nat.not_lt_zero _)
    | succ n9_4 ih_4 =>
      intro i hi hn_4 H locs ls hP hS hl
      refine lv_iload_n hx hb dX6_wearsNow_4 rfl (lv_at hl 0 rfl) ?_
      refine lv_aload_n hx hb dX6_wearsNow_5 rfl (lv_at hl 2 rfl) ?_
      refine tw_get hx hb hts hown hG hP hM 0 (by decide) (hts _ q1620) (fun _ h9 => h9) (v := .ref (ad 0)) rfl dX6_wearsNow_6 ?_
      refine lv_bipush (v := 25) hx hb dX6_wearsNow_9 (by decide) ?_
      refine tw_ald hx hb hG hP hM 0 (by decide) (j := 25) (show 25 < 116 from by omega) dX6_wearsNow_11 ?_
      refine k_top (y := (nI mn)) (hm) ?_
      refine k_icmp_geN (x := i) (y := mn) (tgt := 30) hx hb (by omega) (by omega) dX6_wearsNow_12 (by decide) (fun c12 => ?_) (fun c12 => ?_)
      · skip
        refine lv_iload_n hx hb dX6_wearsNow_30 rfl (lv_at hl 1 rfl) ?_
        exact k_iret hx hb hr hlocks hQ hP hS (by omega) (by omega) dX6_wearsNow_31 (⟨rfl, by rw [show i = mn from by omega]⟩)
      · skip
        refine lv_iload_n hx hb dX6_wearsNow_15 rfl (lv_at hl 1 rfl) ?_
        refine lv_aload_n hx hb dX6_wearsNow_16 rfl (lv_at hl 2 rfl) ?_
        refine lv_iload_n hx hb dX6_wearsNow_17 rfl (lv_at hl 3 rfl) ?_
        refine lv_iload_n hx hb dX6_wearsNow_18 rfl (lv_at hl 0 rfl) ?_
        refine tw_cR hx hb hml hown hts (val := tWb (a 0) k i) (CX6_wearsBy l0 E w h ad f a k i hM (by omega) (by omega)) (cwV 2 hts (lw_V q1828 q1830 qs53 q81 q1831) rfl rfl rfl dyX6_wearsBy ⟨Nat.le_of_ble_eq_true rfl, Nat.le_of_ble_eq_true rfl⟩) hG hP hS hM (As := [.int (nI k), .int (nI i)]) (rest := [.int (tWn (a 0) k i)]) rfl hl.1 rfl (lv_room (Nat.le_of_ble_eq_true rfl)) dX6_wearsNow_19 ⟨by omega, by omega⟩ (fun H locs hP hS => ?_)
        refine lv_iadd hx hb dX6_wearsNow_22 ?_
        refine lv_istore_n (lv' := [(2, .int ((tWn (a 0) k i) + tWb (a 0) k i)), (3, .int (nI i)), (0, .ref h), (1, .int (nI k))]) hx hb dX6_wearsNow_23 rfl hl (by decide) rfl (fun ls hl => ?_)
        refine lv_iinc (v := (nI (i + 1))) (lv' := [(3, .int (nI (i + 1))), (2, .int ((tWn (a 0) k i) + tWb (a 0) k i)), (0, .ref h), (1, .int (nI k))]) hx hb dX6_wearsNow_24 hl (k := 1) rfl (nI_add i 1) (by decide) rfl (fun ls hl => ?_)
        refine lv_goto (tgt := 4) hx hb dX6_wearsNow_27 (by decide) ?_
        have hl : lv_has ls 4 [(3, .int (nI (i + 1))), (2, .int (tWn (a 0) k (i + 1))), (0, .ref h), (1, .int (nI k))] := hl
        exact ih_4 (i + 1) (by omega) (by omega) _ _ _ hP hS hl
  have hl : lv_has ls 4 [(3, .int (nI 0)), (2, .int (tWn (a 0) k 0)), (0, .ref h), (1, .int (nI k))] := hl
  exact hloop_4 _ 0 (by omega) (Nat.lt_succ_self _) _ _ _ hP hS hl

abbrev rmCX6_inState : Room := { frames := 1, cells := 0, slots := 0, locals := 22 }
theorem dyX6_inState : yX6_inState.cls = RX6 ∧ yX6_inState.cls ≠ "java/lang/invoke/MethodHandle" ∧ yX6_inState.cls ≠ "java/lang/invoke/VarHandle" ∧ (parseMethodDescriptor yX6_inState.desc).map (fun d => d.parameters.length) = some 1 := by decide +kernel
set_option maxHeartbeats 4000000 in
theorem CX6_inState (l0 : Launch) (E : gE) (w : wd) (h : Nat) (ad : Nat → Nat) (f : Nat → Int32) (a : Nat → Nat → Int32) (z : Int32) (mn : Nat) (hM : tM E w h ad f a) (hmn : mn ≤ 6) (hm : (a 0) 25 = nI mn) : kC l0 yX6_inState (ws_ yX6_inState cX6_inState 4 (some .int)) rmCX6_inState 0 0 mI E w [.ref h, .int z] (fun r w' => w' = w ∧ r = tIn (a 0) z mn) := by
  refine k_open (cc := cX6_inState) (maxL := 4) (ret := (some .int)) (by decide) rfl (Nat.le_of_ble_eq_true rfl) ?_
  intro p e s m args below meth c ls Q hx hb hr hml hown hts hlocks hname hQ hG hP hl hS
  have hl : lv_has ls 4 [(0, .ref h), (1, .int z)] := hl
  refine lv_iconst (v := 0) hx hb dX6_inState_0 (by decide) ?_
  refine lv_istore_n (lv' := [(2, .int 0), (0, .ref h), (1, .int z)]) hx hb dX6_inState_1 rfl hl (by decide) rfl (fun ls hl => ?_)
  refine lv_iconst (v := 0) hx hb dX6_inState_2 (by decide) ?_
  refine lv_istore_n (lv' := [(3, .int 0), (2, .int 0), (0, .ref h), (1, .int z)]) hx hb dX6_inState_3 rfl hl (by decide) rfl (fun ls hl => ?_)
  have hloop_4 : ∀ (n9_4 : Nat) (i : Nat), (i ≤ mn) → (mn - i) < n9_4 → ∀ (H : Heap) (locs : List Loc) (ls : Array Slot), wP E w H → va_S (gA E) s.heap H locs → lv_has ls 4 [(3, .int (nI i)), (2, .int (tIn (a 0) z i)), (0, .ref h), (1, .int z)] → W p l0 e rmCX6_inState s m args below meth c H locs 0 0 Q (F0 m 4 ls []) := by
    intro n9_4
    induction n9_4 with
    | zero => intro i hi hn; exact absurd hn (Nat.not_lt_zero _)
    | succ n9_4 ih_4 =>
      intro i hi hn_4 H locs ls hP hS hl
      refine lv_iload_n hx hb dX6_inState_4 rfl (lv_at hl 0 rfl) ?_
      refine lv_aload_n hx hb dX6_inState_5 rfl (lv_at hl 2 rfl) ?_
      refine tw_get hx hb hts hown hG hP hM 0 (by decide) (hts _ q1620) (fun _ h9 => h9) (v := .ref (ad 0)) rfl dX6_inState_6 ?_
      refine lv_bipush (v := 25) hx hb dX6_inState_9 (by decide) ?_
      refine tw_ald hx hb hG hP hM 0 (by decide) (j := 25) (show 25 < 116 from by omega) dX6_inState_11 ?_
      refine k_top (y := (nI mn)) (hm) ?_
      refine k_icmp_geN (x := i) (y := mn) (tgt := 39) hx hb (by omega) (by omega) dX6_inState_12 (by decide) (fun c12 => ?_) (fun c12 => ?_)
      · skip
        refine lv_iload_n hx hb dX6_inState_39 rfl (lv_at hl 1 rfl) ?_
        exact k_iret hx hb hr hlocks hQ hP hS (by omega) (by omega) dX6_inState_40 (⟨rfl, by rw [show i = mn from by omega]⟩)
      · skip
        refine lv_iload_n hx hb dX6_inState_15 rfl (lv_at hl 1 rfl) ?_
        refine lv_aload_n hx hb dX6_inState_16 rfl (lv_at hl 2 rfl) ?_
        refine lv_iload_n hx hb dX6_inState_17 rfl (lv_at hl 0 rfl) ?_
        refine lv_iconst (v := 0) hx hb dX6_inState_18 (by decide) ?_
        refine tw_cR hx hb hml hown hts (val := (a 0) (kO i 0)) (CX6_of l0 E w h ad f a i 0 hM (by omega) (by omega)) (cwV 2 hts (lw_V q1730 q1732 qs40 q81 q1733) rfl rfl rfl dyX6_of ⟨Nat.le_of_ble_eq_true rfl, Nat.le_of_ble_eq_true rfl⟩) hG hP hS hM (As := [.int (nI i), .int 0]) (rest := [.int (tIn (a 0) z i)]) rfl hl.1 rfl (lv_room (Nat.le_of_ble_eq_true rfl)) dX6_inState_19 ⟨by omega, by omega⟩ (fun H locs hP hS => ?_)
        refine lv_iload_n hx hb dX6_inState_22 rfl (lv_at hl 3 rfl) ?_
        refine lv_icmp_ne (tgt := 30) hx hb dX6_inState_23 (by decide) (fun c23 => ?_) (fun c23 => ?_)
        · skip
          refine lv_iconst (v := 0) hx hb dX6_inState_30 (by decide) ?_
          refine lv_iadd hx hb dX6_inState_31 ?_
          refine lv_istore_n (lv' := [(2, .int ((tIn (a 0) z i) + 0)), (3, .int (nI i)), (0, .ref h), (1, .int z)]) hx hb dX6_inState_32 rfl hl (by decide) rfl (fun ls hl => ?_)
          refine lv_iinc (v := (nI (i + 1))) (lv' := [(3, .int (nI (i + 1))), (2, .int ((tIn (a 0) z i) + 0)), (0, .ref h), (1, .int z)]) hx hb dX6_inState_33 hl (k := 1) rfl (nI_add i 1) (by decide) rfl (fun ls hl => ?_)
          refine lv_goto (tgt := 4) hx hb dX6_inState_36 (by decide) ?_
          have hl := Eq.mp (congrArg (fun z9 => lv_has ls 4 [(3, .int (nI (i + 1))), (2, .int z9), (0, .ref h), (1, .int z)]) (show ((tIn (a 0) z i) + 0) = (tIn (a 0) z (i + 1)) from by first | rw [tIn, if_pos c23] | rw [tIn, if_neg c23])) hl
          have hl : lv_has ls 4 [(3, .int (nI (i + 1))), (2, .int (tIn (a 0) z (i + 1))), (0, .ref h), (1, .int z)] := hl
          exact ih_4 (i + 1) (by omega) (by omega) _ _ _ hP hS hl
        · skip
          refine lv_iconst (v := 1) hx hb dX6_inState_26 (by decide) ?_
          refine lv_goto (tgt := 31) hx hb dX6_inState_27 (by decide) ?_
          refine lv_iadd hx hb dX6_inState_31 ?_
          refine lv_istore_n (lv' := [(2, .int ((tIn (a 0) z i) + 1)), (3, .int (nI i)), (0, .ref h), (1, .int z)]) hx hb dX6_inState_32 rfl hl (by decide) rfl (fun ls hl => ?_)
          refine lv_iinc (v := (nI (i + 1))) (lv' := [(3, .int (nI (i + 1))), (2, .int ((tIn (a 0) z i) + 1)), (0, .ref h), (1, .int z)]) hx hb dX6_inState_33 hl (k := 1) rfl (nI_add i 1) (by decide) rfl (fun ls hl => ?_)
          refine lv_goto (tgt := 4) hx hb dX6_inState_36 (by decide) ?_
          have hl := Eq.mp (congrArg (fun z9 => lv_has ls 4 [(3, .int (nI (i + 1))), (2, .int z9), (0, .ref h), (1, .int z)]) (show ((tIn (a 0) z i) + 1) = (tIn (a 0) z (i + 1)) from by first | rw [tIn, if_pos c23] | rw [tIn, if_neg c23])) hl
          have hl : lv_has ls 4 [(3, .int (nI (i + 1))), (2, .int (tIn (a 0) z (i + 1))), (0, .ref h), (1, .int z)] := hl
          exact ih_4 (i + 1) (by omega) (by omega) _ _ _ hP hS hl
  have hl : lv_has ls 4 [(3, .int (nI 0)), (2, .int (tIn (a 0) z 0)), (0, .ref h), (1, .int z)] := hl
  exact hloop_4 _ 0 (by omega) (Nat.lt_succ_self _) _ _ _ hP hS hl

abbrev rmCX6_sum : Room := { frames := 1, cells := 0, slots := 0, locals := 22 }
theorem dyX6_sum : yX6_sum.cls = RX6 ∧ yX6_sum.cls ≠ "java/lang/invoke/MethodHandle" ∧ yX6_sum.cls ≠ "java/lang/invoke/VarHandle" ∧ (parseMethodDescriptor yX6_sum.desc).map (fun d => d.parameters.length) = some 1 := by decide +kernel
set_option maxHeartbeats 4000000 in
theorem CX6_sum (l0 : Launch) (E : gE) (w : wd) (h : Nat) (ad : Nat → Nat) (f : Nat → Int32) (a : Nat → Nat → Int32) (n : Nat) (mn : Nat) (hM : tM E w h ad f a) (hn : n < 15) (hmn : mn ≤ 6) (hm : (a 0) 25 = nI mn) : kC l0 yX6_sum (ws_ yX6_sum cX6_sum 4 (some .int)) rmCX6_sum 0 0 mI E w [.ref h, .int (nI n)] (fun r w' => w' = w ∧ r = tSu (a 0) n mn) := by
  refine k_open (cc := cX6_sum) (maxL := 4) (ret := (some .int)) (by decide) rfl (Nat.le_of_ble_eq_true rfl) ?_
  intro p e s m args below meth c ls Q hx hb hr hml hown hts hlocks hname hQ hG hP hl hS
  have hl : lv_has ls 4 [(0, .ref h), (1, .int (nI n))] := hl
  refine lv_iconst (v := 0) hx hb dX6_sum_0 (by decide) ?_
  refine lv_istore_n (lv' := [(2, .int 0), (0, .ref h), (1, .int (nI n))]) hx hb dX6_sum_1 rfl hl (by decide) rfl (fun ls hl => ?_)
  refine lv_iconst (v := 0) hx hb dX6_sum_2 (by decide) ?_
  refine lv_istore_n (lv' := [(3, .int 0), (2, .int 0), (0, .ref h), (1, .int (nI n))]) hx hb dX6_sum_3 rfl hl (by decide) rfl (fun ls hl => ?_)
  have hloop_4 : ∀ (n9_4 : Nat) (i : Nat), (i ≤ mn) → (mn - i) < n9_4 → ∀ (H : Heap) (locs : List Loc) (ls : Array Slot), wP E w H → va_S (gA E) s.heap H locs → lv_has ls 4 [(3, .int (nI i)), (2, .int (tSu (a 0) n i)), (0, .ref h), (1, .int (nI n))] → W p l0 e rmCX6_sum s m args below meth c H locs 0 0 Q (F0 m 4 ls []) := by
    intro n9_4
    induction n9_4 with
    | zero => intro i hi hn; exact absurd hn (Nat.not_lt_zero _)
    | succ n9_4 ih_4 =>
      intro i hi hn_4 H locs ls hP hS hl
      refine lv_iload_n hx hb dX6_sum_4 rfl (lv_at hl 0 rfl) ?_
      refine lv_aload_n hx hb dX6_sum_5 rfl (lv_at hl 2 rfl) ?_
      refine tw_get hx hb hts hown hG hP hM 0 (by decide) (hts _ q1620) (fun _ h9 => h9) (v := .ref (ad 0)) rfl dX6_sum_6 ?_
      refine lv_bipush (v := 25) hx hb dX6_sum_9 (by decide) ?_
      refine tw_ald hx hb hG hP hM 0 (by decide) (j := 25) (show 25 < 116 from by omega) dX6_sum_11 ?_
      refine k_top (y := (nI mn)) (hm) ?_
      refine k_icmp_geN (x := i) (y := mn) (tgt := 30) hx hb (by omega) (by omega) dX6_sum_12 (by decide) (fun c12 => ?_) (fun c12 => ?_)
      · skip
        refine lv_iload_n hx hb dX6_sum_30 rfl (lv_at hl 1 rfl) ?_
        exact k_iret hx hb hr hlocks hQ hP hS (by omega) (by omega) dX6_sum_31 (⟨rfl, by rw [show i = mn from by omega]⟩)
      · skip
        refine lv_iload_n hx hb dX6_sum_15 rfl (lv_at hl 1 rfl) ?_
        refine lv_aload_n hx hb dX6_sum_16 rfl (lv_at hl 2 rfl) ?_
        refine lv_iload_n hx hb dX6_sum_17 rfl (lv_at hl 0 rfl) ?_
        refine lv_iload_n hx hb dX6_sum_18 rfl (lv_at hl 3 rfl) ?_
        refine tw_cR hx hb hml hown hts (val := (a 0) (kO i n)) (CX6_of l0 E w h ad f a i n hM (by omega) (by omega)) (cwV 2 hts (lw_V q1730 q1732 qs40 q81 q1733) rfl rfl rfl dyX6_of ⟨Nat.le_of_ble_eq_true rfl, Nat.le_of_ble_eq_true rfl⟩) hG hP hS hM (As := [.int (nI i), .int (nI n)]) (rest := [.int (tSu (a 0) n i)]) rfl hl.1 rfl (lv_room (Nat.le_of_ble_eq_true rfl)) dX6_sum_19 ⟨by omega, by omega⟩ (fun H locs hP hS => ?_)
        refine lv_iadd hx hb dX6_sum_22 ?_
        refine lv_istore_n (lv' := [(2, .int ((tSu (a 0) n i) + (a 0) (kO i n))), (3, .int (nI i)), (0, .ref h), (1, .int (nI n))]) hx hb dX6_sum_23 rfl hl (by decide) rfl (fun ls hl => ?_)
        refine lv_iinc (v := (nI (i + 1))) (lv' := [(3, .int (nI (i + 1))), (2, .int ((tSu (a 0) n i) + (a 0) (kO i n))), (0, .ref h), (1, .int (nI n))]) hx hb dX6_sum_24 hl (k := 1) rfl (nI_add i 1) (by decide) rfl (fun ls hl => ?_)
        refine lv_goto (tgt := 4) hx hb dX6_sum_27 (by decide) ?_
        have hl : lv_has ls 4 [(3, .int (nI (i + 1))), (2, .int (tSu (a 0) n (i + 1))), (0, .ref h), (1, .int (nI n))] := hl
        exact ih_4 (i + 1) (by omega) (by omega) _ _ _ hP hS hl
  have hl : lv_has ls 4 [(3, .int (nI 0)), (2, .int (tSu (a 0) n 0)), (0, .ref h), (1, .int (nI n))] := hl
  exact hloop_4 _ 0 (by omega) (Nat.lt_succ_self _) _ _ _ hP hS hl

abbrev rmCX6_pairs : Room := { frames := 5, cells := 0, slots := 0, locals := 114 }
theorem dyX6_pairs : yX6_pairs.cls = RX6 ∧ yX6_pairs.cls ≠ "java/lang/invoke/MethodHandle" ∧ yX6_pairs.cls ≠ "java/lang/invoke/VarHandle" ∧ (parseMethodDescriptor yX6_pairs.desc).map (fun d => d.parameters.length) = some 0 := by decide +kernel
set_option maxHeartbeats 4000000 in
theorem CX6_pairs (l0 : Launch) (E : gE) (w : wd) (h : Nat) (ad : Nat → Nat) (f : Nat → Int32) (a : Nat → Nat → Int32) (mn : Nat) (hM : tM E w h ad f a) (hmn : mn ≤ 6) (hm : (a 0) 25 = nI mn) : kC l0 yX6_pairs (ws_ yX6_pairs cX6_pairs 4 (some .int)) rmCX6_pairs 0 0 mI E w [.ref h] (fun r w' => w' = w ∧ r = tPr (a 0) mn) := by
  refine k_open (cc := cX6_pairs) (maxL := 4) (ret := (some .int)) (by decide) rfl (Nat.le_of_ble_eq_true rfl) ?_
  intro p e s m args below meth c ls Q hx hb hr hml hown hts hlocks hname hQ hG hP hl hS
  have hl : lv_has ls 4 [(0, .ref h)] := hl
  refine lv_iconst (v := 0) hx hb dX6_pairs_0 (by decide) ?_
  refine lv_istore_n (lv' := [(1, .int 0), (0, .ref h)]) hx hb dX6_pairs_1 rfl hl (by decide) rfl (fun ls hl => ?_)
  refine lv_iconst (v := 0) hx hb dX6_pairs_2 (by decide) ?_
  refine lv_istore_n (lv' := [(2, .int 0), (1, .int 0), (0, .ref h)]) hx hb dX6_pairs_3 rfl hl (by decide) rfl (fun ls hl => ?_)
  have hloop_4 : ∀ (n9_4 : Nat) (i : Nat), (i ≤ mn) → (mn - i) < n9_4 → ∀ (H : Heap) (locs : List Loc) (ls : Array Slot), wP E w H → va_S (gA E) s.heap H locs → lv_has ls 4 [(2, .int (nI i)), (1, .int (tPr (a 0) i)), (0, .ref h)] → W p l0 e rmCX6_pairs s m args below meth c H locs 0 0 Q (F0 m 4 ls []) := by
    intro n9_4
    induction n9_4 with
    | zero => intro i hi hn; exact absurd hn (Nat.not_lt_zero _)
    | succ n9_4 ih_4 =>
      intro i hi hn_4 H locs ls hP hS hl
      refine lv_iload_n hx hb dX6_pairs_4 rfl (lv_at hl 0 rfl) ?_
      refine lv_aload_n hx hb dX6_pairs_5 rfl (lv_at hl 2 rfl) ?_
      refine tw_get hx hb hts hown hG hP hM 0 (by decide) (hts _ q1620) (fun _ h9 => h9) (v := .ref (ad 0)) rfl dX6_pairs_6 ?_
      refine lv_bipush (v := 25) hx hb dX6_pairs_9 (by decide) ?_
      refine tw_ald hx hb hG hP hM 0 (by decide) (j := 25) (show 25 < 116 from by omega) dX6_pairs_11 ?_
      refine k_top (y := (nI mn)) (hm) ?_
      refine k_icmp_geN (x := i) (y := mn) (tgt := 51) hx hb (by omega) (by omega) dX6_pairs_12 (by decide) (fun c12 => ?_) (fun c12 => ?_)
      · skip
        refine lv_iload_n hx hb dX6_pairs_51 rfl (lv_at hl 1 rfl) ?_
        exact k_iret hx hb hr hlocks hQ hP hS (by omega) (by omega) dX6_pairs_52 (⟨rfl, by rw [show i = mn from by omega]⟩)
      · skip
        refine lv_iconst (v := 0) hx hb dX6_pairs_15 (by decide) ?_
        refine lv_istore_n (lv' := [(3, .int 0), (2, .int (nI i)), (1, .int (tPr (a 0) i)), (0, .ref h)]) hx hb dX6_pairs_16 rfl hl (by decide) rfl (fun ls hl => ?_)
        have hloop_17 : ∀ (n9_17 : Nat) (j : Nat), (j ≤ i) → (i - j) < n9_17 → ∀ (H : Heap) (locs : List Loc) (ls : Array Slot), wP E w H → va_S (gA E) s.heap H locs → lv_has ls 4 [(3, .int (nI j)), (2, .int (nI i)), (1, .int (tPa (a 0) (tPr (a 0) i) i j)), (0, .ref h)] → W p l0 e rmCX6_pairs s m args below meth c H locs 0 0 Q (F0 m 17 ls []) := by
          intro n9_17
          induction n9_17 with
          | zero => intro j hj hn; exact absurd hn (Nat.not_lt_zero _)
          | succ n9_17 ih_17 =>
            intro j hj hn_17 H locs ls hP hS hl
            refine lv_iload_n hx hb dX6_pairs_17 rfl (lv_at hl 0 rfl) ?_
            refine lv_iload_n hx hb dX6_pairs_18 rfl (lv_at hl 1 rfl) ?_
            refine k_icmp_geN (x := j) (y := i) (tgt := 45) hx hb (by omega) (by omega) dX6_pairs_19 (by decide) (fun c19 => ?_) (fun c19 => ?_)
            · skip
              refine lv_iinc (v := (nI (i + 1))) (lv' := [(2, .int (nI (i + 1))), (3, .int (nI j)), (1, .int (tPa (a 0) (tPr (a 0) i) i j)), (0, .ref h)]) hx hb dX6_pairs_45 hl (k := 1) rfl (nI_add i 1) (by decide) rfl (fun ls hl => ?_)
              refine lv_goto (tgt := 4) hx hb dX6_pairs_48 (by decide) ?_
              have hl := Eq.mp (congrArg (fun z9 => lv_has ls 4 [(2, .int (nI (i + 1))), (3, .int (nI j)), (1, .int z9), (0, .ref h)]) (show (tPa (a 0) (tPr (a 0) i) i j) = (tPr (a 0) (i + 1)) from by rw [tPr, show j = i from by omega])) hl
              have hl := lv_sub (l' := [(2, .int (nI (i + 1))), (1, .int (tPr (a 0) (i + 1))), (0, .ref h)]) hl [0, 2, 3] rfl
              exact ih_4 (i + 1) (by omega) (by omega) _ _ _ hP hS hl
            · skip
              refine lv_iload_n hx hb dX6_pairs_22 rfl (lv_at hl 2 rfl) ?_
              refine lv_aload_n hx hb dX6_pairs_23 rfl (lv_at hl 3 rfl) ?_
              refine lv_iload_n hx hb dX6_pairs_24 rfl (lv_at hl 1 rfl) ?_
              refine lv_iload_n hx hb dX6_pairs_25 rfl (lv_at hl 0 rfl) ?_
              refine tw_cR hx hb hml hown hts (val := oI (tCr (a 0) i j)) (CX6_crosses l0 E w h ad f a i j hM (by omega) (by omega)) (cwV 2 hts (lw_V q1813 q1815 qs51 q81 q1816) rfl rfl rfl dyX6_crosses ⟨Nat.le_of_ble_eq_true rfl, Nat.le_of_ble_eq_true rfl⟩) hG hP hS hM (As := [.int (nI i), .int (nI j)]) (rest := [.int (tPa (a 0) (tPr (a 0) i) i j)]) rfl hl.1 rfl (lv_room (Nat.le_of_ble_eq_true rfl)) dX6_pairs_26 ⟨by omega, by omega⟩ (fun H locs hP hS => ?_)
              refine lv_if_ge (tgt := 36) hx hb dX6_pairs_29 (by decide) (fun c29 => ?_) (fun c29 => ?_)
              · skip
                refine lv_iconst (v := 1) hx hb dX6_pairs_36 (by decide) ?_
                refine lv_iadd hx hb dX6_pairs_37 ?_
                refine lv_istore_n (lv' := [(1, .int ((tPa (a 0) (tPr (a 0) i) i j) + 1)), (3, .int (nI j)), (2, .int (nI i)), (0, .ref h)]) hx hb dX6_pairs_38 rfl hl (by decide) rfl (fun ls hl => ?_)
                refine lv_iinc (v := (nI (j + 1))) (lv' := [(3, .int (nI (j + 1))), (1, .int ((tPa (a 0) (tPr (a 0) i) i j) + 1)), (2, .int (nI i)), (0, .ref h)]) hx hb dX6_pairs_39 hl (k := 1) rfl (nI_add j 1) (by decide) rfl (fun ls hl => ?_)
                refine lv_goto (tgt := 17) hx hb dX6_pairs_42 (by decide) ?_
                have hl := Eq.mp (congrArg (fun z9 => lv_has ls 4 [(3, .int (nI (j + 1))), (1, .int z9), (2, .int (nI i)), (0, .ref h)]) (show ((tPa (a 0) (tPr (a 0) i) i j) + 1) = (tPa (a 0) (tPr (a 0) i) i (j + 1)) from by first | rw [tPa, if_pos (Int32.not_le.mp c29)] | rw [tPa, if_neg (Int32.not_lt.mpr c29)])) hl
                have hl := lv_sub (l' := [(3, .int (nI (j + 1))), (2, .int (nI i)), (1, .int (tPa (a 0) (tPr (a 0) i) i (j + 1))), (0, .ref h)]) hl [0, 2, 1, 3] rfl
                exact ih_17 (j + 1) (by omega) (by omega) _ _ _ hP hS hl
              · skip
                refine lv_iconst (v := 0) hx hb dX6_pairs_32 (by decide) ?_
                refine lv_goto (tgt := 37) hx hb dX6_pairs_33 (by decide) ?_
                refine lv_iadd hx hb dX6_pairs_37 ?_
                refine lv_istore_n (lv' := [(1, .int ((tPa (a 0) (tPr (a 0) i) i j) + 0)), (3, .int (nI j)), (2, .int (nI i)), (0, .ref h)]) hx hb dX6_pairs_38 rfl hl (by decide) rfl (fun ls hl => ?_)
                refine lv_iinc (v := (nI (j + 1))) (lv' := [(3, .int (nI (j + 1))), (1, .int ((tPa (a 0) (tPr (a 0) i) i j) + 0)), (2, .int (nI i)), (0, .ref h)]) hx hb dX6_pairs_39 hl (k := 1) rfl (nI_add j 1) (by decide) rfl (fun ls hl => ?_)
                refine lv_goto (tgt := 17) hx hb dX6_pairs_42 (by decide) ?_
                have hl := Eq.mp (congrArg (fun z9 => lv_has ls 4 [(3, .int (nI (j + 1))), (1, .int z9), (2, .int (nI i)), (0, .ref h)]) (show ((tPa (a 0) (tPr (a 0) i) i j) + 0) = (tPa (a 0) (tPr (a 0) i) i (j + 1)) from by first | rw [tPa, if_pos (Int32.not_le.mp c29)] | rw [tPa, if_neg (Int32.not_lt.mpr c29)])) hl
                have hl := lv_sub (l' := [(3, .int (nI (j + 1))), (2, .int (nI i)), (1, .int (tPa (a 0) (tPr (a 0) i) i (j + 1))), (0, .ref h)]) hl [0, 2, 1, 3] rfl
                exact ih_17 (j + 1) (by omega) (by omega) _ _ _ hP hS hl
        have hl : lv_has ls 4 [(3, .int (nI 0)), (2, .int (nI i)), (1, .int (tPa (a 0) (tPr (a 0) i) i 0)), (0, .ref h)] := hl
        exact hloop_17 _ 0 (by omega) (Nat.lt_succ_self _) _ _ _ hP hS hl
  have hl : lv_has ls 4 [(2, .int (nI 0)), (1, .int (tPr (a 0) 0)), (0, .ref h)] := hl
  exact hloop_4 _ 0 (by omega) (Nat.lt_succ_self _) _ _ _ hP hS hl
