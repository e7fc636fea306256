/-! THE TWIN, 6: what is asked -/
set_option maxRecDepth 100000
abbrev rmCX6_windOf : Room := { frames := 2, cells := 0, slots := 0, locals := 42 }
theorem dyX6_windOf : yX6_windOf.cls = RX6 ∧ yX6_windOf.cls ≠ "java/lang/invoke/MethodHandle" ∧ yX6_windOf.cls ≠ "java/lang/invoke/VarHandle" ∧ (parseMethodDescriptor yX6_windOf.desc).map (fun d => d.parameters.length) = some 2 := by decide +kernel
set_option maxHeartbeats 4000000 in
theorem CX6_windOf (l0 : Launch) (E : gE) (w : wd) (h : Nat) (ad : Nat → Nat) (f : Nat → Int32) (a : Nat → Nat → Int32) (x : Int32) (b : Bool) (hM : tM E w h ad f a) : kC l0 yX6_windOf (ws_ yX6_windOf cX6_windOf 3 (some .int)) rmCX6_windOf 0 0 mI E w [.ref h, .int x, .int (bI b)] (fun r w' => ∃ f' a', (r = (qWof (a 0) x b).2 ∧ f' = va_up f 13 (qWof (a 0) x b).1 ∧ a' = a) ∧ tM E w' h ad f' a' ∧ fr tP w w') := by
  refine k_open (cc := cX6_windOf) (maxL := 3) (ret := (some .int)) (by decide) rfl (Nat.le_of_ble_eq_true rfl) ?_
  intro p e s m args below meth c ls Q hx hb hr hml hown hts hlocks hname hQ hG hP hl hS
  have hl : lv_has ls 3 [(0, .ref h), (1, .int x), (2, .int (bI b))] := hl
  obtain ⟨w0, hw0⟩ : ∃ z, z = w := ⟨_, rfl⟩
  have hF : fr tP w0 w := by rw [hw0]; exact fr.rf
  rw [← hw0] at hQ
  refine lv_aload_n hx hb dX6_windOf_0 rfl (lv_at hl 0 rfl) ?_
  refine lv_iload_n hx hb dX6_windOf_1 rfl (lv_at hl 1 rfl) ?_
  refine k_cP hx hb hml hown hts (val := (bI (tin x 0 9))) (CX6_isLayer l0 E w x ) (va_cwS 1 hts (lw_S q1689 q1690 q81 q1691) rfl rfl rfl dyX6_isLayer ⟨Nat.le_of_ble_eq_true rfl, Nat.le_of_ble_eq_true rfl⟩) hG hP hS (As := [.int x]) (rest := [.ref h]) rfl hl.1 rfl (lv_room (Nat.le_of_ble_eq_true rfl)) dX6_windOf_2 ⟨by omega, by omega⟩ (fun H locs hP hS => ?_)
  refine k_ifeqB (x := tin x 0 9) (tgt := 12) hx hb dX6_windOf_5 (by decide) (fun c5 => ?_) (fun c5 => ?_)
  · skip
    refine lv_iconst (v := 1) hx hb dX6_windOf_12 (by decide) ?_
    refine tw_cW hx hb hml hown hts (CX6_fails l0 E w h ad f a 1 hM ) (cwV 1 hts (lw_V q1695 q1697 qs35 q81 q1698) rfl rfl rfl dyX6_fails ⟨Nat.le_of_ble_eq_true rfl, Nat.le_of_ble_eq_true rfl⟩) hG hP hS hM hF (As := [.int 1]) (rest := []) rfl hl.1 rfl (lv_room (Nat.le_of_ble_eq_true rfl)) dX6_windOf_13 ⟨by omega, by omega⟩ (fun r13 f13 a13 w H locs hp hM hF hP hS => ?_)
    obtain ⟨hp0, hp1, hp2⟩ := hp
    have hM := hM.ofF hp1 hp2
    have hM : tM E w h ad (va_up f 13 1) a := hM
    refine k_top (y := (bI (decide (0 < 1)))) hp0 ?_
    refine k_ifeqB (x := decide (0 < 1)) (tgt := 23) hx hb dX6_windOf_16 (by decide) (fun c16 => ?_) (fun c16 => ?_)
    · skip
      exact absurd c16 (by decide)
    · skip
      refine lv_iconst (v := 0) hx hb dX6_windOf_19 (by decide) ?_
      refine lv_goto (tgt := 41) hx hb dX6_windOf_20 (by decide) ?_
      have hq : qWof (a 0) x b = (1, 0) := by simp [qWof, c5, c16]
      exact k_iret hx hb hr hlocks hQ hP hS (by omega) (by omega) dX6_windOf_41 (⟨_, _, ⟨by rw [hq], by rw [hq], rfl⟩, hM, hF⟩)
  · skip
    refine lv_iconst (v := 0) hx hb dX6_windOf_8 (by decide) ?_
    refine lv_goto (tgt := 13) hx hb dX6_windOf_9 (by decide) ?_
    refine tw_cW hx hb hml hown hts (CX6_fails l0 E w h ad f a 0 hM ) (cwV 1 hts (lw_V q1695 q1697 qs35 q81 q1698) rfl rfl rfl dyX6_fails ⟨Nat.le_of_ble_eq_true rfl, Nat.le_of_ble_eq_true rfl⟩) hG hP hS hM hF (As := [.int 0]) (rest := []) rfl hl.1 rfl (lv_room (Nat.le_of_ble_eq_true rfl)) dX6_windOf_13 ⟨by omega, by omega⟩ (fun r13 f13 a13 w H locs hp hM hF hP hS => ?_)
    obtain ⟨hp0, hp1, hp2⟩ := hp
    have hM := hM.ofF hp1 hp2
    have hM : tM E w h ad (va_up f 13 0) a := hM
    refine k_top (y := (bI (decide (0 < 0)))) hp0 ?_
    refine k_ifeqB (x := decide (0 < 0)) (tgt := 23) hx hb dX6_windOf_16 (by decide) (fun c16 => ?_) (fun c16 => ?_)
    · skip
      obtain ⟨k, hk, rfl⟩ := tin_N (n := 9) (by decide) c5
      have ck : (nI k).toNatClampNeg = k := nI_clamp (by omega)
      refine lv_aload_n hx hb dX6_windOf_23 rfl (lv_at hl 0 rfl) ?_
      refine tw_get hx hb hts hown hG hP hM 0 (by decide) (hts _ q1620) (fun _ h9 => h9) (v := .ref (ad 0)) rfl dX6_windOf_24 ?_
      refine lv_iconst (v := 2) hx hb dX6_windOf_27 (by decide) ?_
      refine lv_iload_n hx hb dX6_windOf_28 rfl (lv_at hl 1 rfl) ?_
      refine k_imulN (x := 2) (y := k) hx hb dX6_windOf_29 ?_
      refine lv_iload_n hx hb dX6_windOf_30 rfl (lv_at hl 2 rfl) ?_
      refine k_ifeqB (x := b) (tgt := 38) hx hb dX6_windOf_31 (by decide) (fun c31 => ?_) (fun c31 => ?_)
      · skip
        refine lv_iconst (v := 0) hx hb dX6_windOf_38 (by decide) ?_
        refine k_iaddN (x := 2 * k) (y := 0) hx hb dX6_windOf_39 ?_
        refine tw_ald hx hb hG hP hM 0 (by decide) (j := 2 * k + 0) (show 2 * k + 0 < 116 from by omega) dX6_windOf_40 ?_
        have hq : qWof (a 0) (nI k) b = (0, ((a 0) (2 * k + 0))) := by simp [qWof, ck, c5, c16, c31]
        exact k_iret hx hb hr hlocks hQ hP hS (by omega) (by omega) dX6_windOf_41 (⟨_, _, ⟨by rw [hq], by rw [hq], rfl⟩, hM, hF⟩)
      · skip
        refine lv_iconst (v := 1) hx hb dX6_windOf_34 (by decide) ?_
        refine lv_goto (tgt := 39) hx hb dX6_windOf_35 (by decide) ?_
        refine k_iaddN (x := 2 * k) (y := 1) hx hb dX6_windOf_39 ?_
        refine tw_ald hx hb hG hP hM 0 (by decide) (j := 2 * k + 1) (show 2 * k + 1 < 116 from by omega) dX6_windOf_40 ?_
        have hq : qWof (a 0) (nI k) b = (0, ((a 0) (2 * k + 1))) := by simp [qWof, ck, c5, c16, c31]
        exact k_iret hx hb hr hlocks hQ hP hS (by omega) (by omega) dX6_windOf_41 (⟨_, _, ⟨by rw [hq], by rw [hq], rfl⟩, hM, hF⟩)
    · skip
      exact absurd c16 (by decide)

abbrev rmCX6_kiteOf : Room := { frames := 5, cells := 0, slots := 0, locals := 111 }
theorem dyX6_kiteOf : yX6_kiteOf.cls = RX6 ∧ yX6_kiteOf.cls ≠ "java/lang/invoke/MethodHandle" ∧ yX6_kiteOf.cls ≠ "java/lang/invoke/VarHandle" ∧ (parseMethodDescriptor yX6_kiteOf.desc).map (fun d => d.parameters.length) = some 2 := by decide +kernel
set_option maxHeartbeats 4000000 in
theorem CX6_kiteOf (l0 : Launch) (E : gE) (w : wd) (h : Nat) (ad : Nat → Nat) (f : Nat → Int32) (a : Nat → Nat → Int32) (x : Int32) (y : Int32) (mn : Nat) (hM : tM E w h ad f a) (hmn : mn ≤ 6) (hm : (a 0) 25 = nI mn) : kC l0 yX6_kiteOf (ws_ yX6_kiteOf cX6_kiteOf 3 (some .int)) rmCX6_kiteOf 0 0 mI E w [.ref h, .int x, .int y] (fun r w' => ∃ f' a', (r = (qKof (a 0) x y).2 ∧ f' = va_up f 13 (qKof (a 0) x y).1 ∧ a' = a) ∧ tM E w' h ad f' a' ∧ fr tP w w') := by
  refine k_open (cc := cX6_kiteOf) (maxL := 3) (ret := (some .int)) (by decide) rfl (Nat.le_of_ble_eq_true rfl) ?_
  intro p e s m args below meth c ls Q hx hb hr hml hown hts hlocks hname hQ hG hP hl hS
  have hl : lv_has ls 3 [(0, .ref h), (1, .int x), (2, .int y)] := hl
  obtain ⟨w0, hw0⟩ : ∃ z, z = w := ⟨_, rfl⟩
  have hF : fr tP w0 w := by rw [hw0]; exact fr.rf
  rw [← hw0] at hQ
  have hH := fun k => tHt_le (a 0) k
  refine lv_aload_n hx hb dX6_kiteOf_0 rfl (lv_at hl 0 rfl) ?_
  refine lv_aload_n hx hb dX6_kiteOf_1 rfl (lv_at hl 0 rfl) ?_
  refine lv_iload_n hx hb dX6_kiteOf_2 rfl (lv_at hl 1 rfl) ?_
  refine tw_cR hx hb hml hown hts (val := (bI (tKt (a 0) x))) (CX6_isKite l0 E w h ad f a x hM ) (cwV 1 hts (lw_V q1726 q1728 qs39 q81 q1729) rfl rfl rfl dyX6_isKite ⟨Nat.le_of_ble_eq_true rfl, Nat.le_of_ble_eq_true rfl⟩) hG hP hS hM (As := [.int x]) (rest := [.ref h]) rfl hl.1 rfl (lv_room (Nat.le_of_ble_eq_true rfl)) dX6_kiteOf_3 ⟨by omega, by omega⟩ (fun H locs hP hS => ?_)
  refine k_ifneB (x := tKt (a 0) x) (tgt := 13) hx hb dX6_kiteOf_6 (by decide) (fun c6 => ?_) (fun c6 => ?_)
  · skip
    refine lv_iload_n hx hb dX6_kiteOf_13 rfl (lv_at hl 2 rfl) ?_
    refine lv_iconst (v := 0) hx hb dX6_kiteOf_14 (by decide) ?_
    refine lv_bipush (v := 12) hx hb dX6_kiteOf_15 (by decide) ?_
    refine k_cP hx hb hml hown hts (val := (bI (tin y 0 12))) (CX6_in l0 E w y 0 12 ) (va_cwS 3 hts (lw_S q1692 q1693 q81 q1694) rfl rfl rfl dyX6_in ⟨Nat.le_of_ble_eq_true rfl, Nat.le_of_ble_eq_true rfl⟩) hG hP hS (As := [.int y, .int 0, .int 12]) (rest := [.ref h]) rfl hl.1 rfl (lv_room (Nat.le_of_ble_eq_true rfl)) dX6_kiteOf_17 ⟨by omega, by omega⟩ (fun H locs hP hS => ?_)
    refine k_ifeqB (x := tin y 0 12) (tgt := 27) hx hb dX6_kiteOf_20 (by decide) (fun c20 => ?_) (fun c20 => ?_)
    · skip
      refine lv_iconst (v := 2) hx hb dX6_kiteOf_27 (by decide) ?_
      refine tw_cW hx hb hml hown hts (CX6_fails l0 E w h ad f a 2 hM ) (cwV 1 hts (lw_V q1695 q1697 qs35 q81 q1698) rfl rfl rfl dyX6_fails ⟨Nat.le_of_ble_eq_true rfl, Nat.le_of_ble_eq_true rfl⟩) hG hP hS hM hF (As := [.int 2]) (rest := []) rfl hl.1 rfl (lv_room (Nat.le_of_ble_eq_true rfl)) dX6_kiteOf_28 ⟨by omega, by omega⟩ (fun r28 f28 a28 w H locs hp hM hF hP hS => ?_)
      obtain ⟨hp0, hp1, hp2⟩ := hp
      have hM := hM.ofF hp1 hp2
      have hM : tM E w h ad (va_up f 13 2) a := hM
      refine k_top (y := (bI (decide (0 < 2)))) hp0 ?_
      refine k_ifeqB (x := decide (0 < 2)) (tgt := 36) hx hb dX6_kiteOf_31 (by decide) (fun c31 => ?_) (fun c31 => ?_)
      · skip
        exact absurd c31 (by decide)
      · skip
        refine lv_iconst (v := 0) hx hb dX6_kiteOf_34 (by decide) ?_
        have hq : qKof (a 0) x y = (2, 0) := by simp [qKof, rKof, c6, c20, c31]
        exact k_iret hx hb hr hlocks hQ hP hS (by omega) (by omega) dX6_kiteOf_35 (⟨_, _, ⟨by rw [hq], by rw [hq], rfl⟩, hM, hF⟩)
    · skip
      refine lv_iconst (v := 0) hx hb dX6_kiteOf_23 (by decide) ?_
      refine lv_goto (tgt := 28) hx hb dX6_kiteOf_24 (by decide) ?_
      refine tw_cW hx hb hml hown hts (CX6_fails l0 E w h ad f a 0 hM ) (cwV 1 hts (lw_V q1695 q1697 qs35 q81 q1698) rfl rfl rfl dyX6_fails ⟨Nat.le_of_ble_eq_true rfl, Nat.le_of_ble_eq_true rfl⟩) hG hP hS hM hF (As := [.int 0]) (rest := []) rfl hl.1 rfl (lv_room (Nat.le_of_ble_eq_true rfl)) dX6_kiteOf_28 ⟨by omega, by omega⟩ (fun r28 f28 a28 w H locs hp hM hF hP hS => ?_)
      obtain ⟨hp0, hp1, hp2⟩ := hp
      have hM := hM.ofF hp1 hp2
      have hM : tM E w h ad (va_up f 13 0) a := hM
      refine k_top (y := (bI (decide (0 < 0)))) hp0 ?_
      refine k_ifeqB (x := decide (0 < 0)) (tgt := 36) hx hb dX6_kiteOf_31 (by decide) (fun c31 => ?_) (fun c31 => ?_)
      · skip
        obtain ⟨k, hk, rfl⟩ := tKt_of hm hmn c6
        have ck : (nI k).toNatClampNeg = k := nI_clamp (by omega)
        have h10 := tHt_le (a 0) k
        obtain ⟨n, hn, rfl⟩ := tin_N (n := 12) (by decide) c20
        have cn : (nI n).toNatClampNeg = n := nI_clamp (by omega)
        refine lv_iload_n hx hb dX6_kiteOf_36 rfl (lv_at hl 2 rfl) ?_
        rcases (show n = 0 ∨ n = 1 ∨ n = 2 ∨ n = 3 ∨ n = 4 ∨ n = 5 ∨ n = 6 ∨ n = 7 ∨ n = 8 ∨ n = 9 ∨ n = 10 ∨ n = 11 ∨ n = 12 from by omega) with rfl | rfl | rfl | rfl | rfl | rfl | rfl | rfl | rfl | rfl | rfl | rfl | rfl
        · skip
          refine lv_tableOut (tgt := 169) hx hb dX6_kiteOf_37 (by decide) (by decide) ?_
          refine lv_aload_n hx hb dX6_kiteOf_169 rfl (lv_at hl 0 rfl) ?_
          refine lv_iload_n hx hb dX6_kiteOf_170 rfl (lv_at hl 1 rfl) ?_
          refine lv_iload_n hx hb dX6_kiteOf_171 rfl (lv_at hl 2 rfl) ?_
          refine tw_cR hx hb hml hown hts (val := (a 0) (kO k 0)) (CX6_of l0 E w h ad (va_up f 13 0) a k 0 hM (by omega) (by omega)) (cwV 2 hts (lw_V q1730 q1732 qs40 q81 q1733) rfl rfl rfl dyX6_of ⟨Nat.le_of_ble_eq_true rfl, Nat.le_of_ble_eq_true rfl⟩) hG hP hS hM (As := [.int (nI k), .int (nI 0)]) (rest := []) rfl hl.1 rfl (lv_room (Nat.le_of_ble_eq_true rfl)) dX6_kiteOf_172 ⟨by omega, by omega⟩ (fun H locs hP hS => ?_)
          have hq : qKof (a 0) (nI k) (nI 0) = (0, (a 0) (kO k 0)) := by simp [qKof, rKof, ck, cn, c6, c20, c31]
          exact k_iret hx hb hr hlocks hQ hP hS (by omega) (by omega) dX6_kiteOf_175 (⟨_, _, ⟨by rw [hq], by rw [hq], rfl⟩, hM, hF⟩)
        · skip
          refine lv_tableOut (tgt := 169) hx hb dX6_kiteOf_37 (by decide) (by decide) ?_
          refine lv_aload_n hx hb dX6_kiteOf_169 rfl (lv_at hl 0 rfl) ?_
          refine lv_iload_n hx hb dX6_kiteOf_170 rfl (lv_at hl 1 rfl) ?_
          refine lv_iload_n hx hb dX6_kiteOf_171 rfl (lv_at hl 2 rfl) ?_
          refine tw_cR hx hb hml hown hts (val := (a 0) (kO k 1)) (CX6_of l0 E w h ad (va_up f 13 0) a k 1 hM (by omega) (by omega)) (cwV 2 hts (lw_V q1730 q1732 qs40 q81 q1733) rfl rfl rfl dyX6_of ⟨Nat.le_of_ble_eq_true rfl, Nat.le_of_ble_eq_true rfl⟩) hG hP hS hM (As := [.int (nI k), .int (nI 1)]) (rest := []) rfl hl.1 rfl (lv_room (Nat.le_of_ble_eq_true rfl)) dX6_kiteOf_172 ⟨by omega, by omega⟩ (fun H locs hP hS => ?_)
          have hq : qKof (a 0) (nI k) (nI 1) = (0, (a 0) (kO k 1)) := by simp [qKof, rKof, ck, cn, c6, c20, c31]
          exact k_iret hx hb hr hlocks hQ hP hS (by omega) (by omega) dX6_kiteOf_175 (⟨_, _, ⟨by rw [hq], by rw [hq], rfl⟩, hM, hF⟩)
        · skip
          refine lv_tableOut (tgt := 169) hx hb dX6_kiteOf_37 (by decide) (by decide) ?_
          refine lv_aload_n hx hb dX6_kiteOf_169 rfl (lv_at hl 0 rfl) ?_
          refine lv_iload_n hx hb dX6_kiteOf_170 rfl (lv_at hl 1 rfl) ?_
          refine lv_iload_n hx hb dX6_kiteOf_171 rfl (lv_at hl 2 rfl) ?_
          refine tw_cR hx hb hml hown hts (val := (a 0) (kO k 2)) (CX6_of l0 E w h ad (va_up f 13 0) a k 2 hM (by omega) (by omega)) (cwV 2 hts (lw_V q1730 q1732 qs40 q81 q1733) rfl rfl rfl dyX6_of ⟨Nat.le_of_ble_eq_true rfl, Nat.le_of_ble_eq_true rfl⟩) hG hP hS hM (As := [.int (nI k), .int (nI 2)]) (rest := []) rfl hl.1 rfl (lv_room (Nat.le_of_ble_eq_true rfl)) dX6_kiteOf_172 ⟨by omega, by omega⟩ (fun H locs hP hS => ?_)
          have hq : qKof (a 0) (nI k) (nI 2) = (0, (a 0) (kO k 2)) := by simp [qKof, rKof, ck, cn, c6, c20, c31]
          exact k_iret hx hb hr hlocks hQ hP hS (by omega) (by omega) dX6_kiteOf_175 (⟨_, _, ⟨by rw [hq], by rw [hq], rfl⟩, hM, hF⟩)
        · skip
          refine lv_tableOut (tgt := 169) hx hb dX6_kiteOf_37 (by decide) (by decide) ?_
          refine lv_aload_n hx hb dX6_kiteOf_169 rfl (lv_at hl 0 rfl) ?_
          refine lv_iload_n hx hb dX6_kiteOf_170 rfl (lv_at hl 1 rfl) ?_
          refine lv_iload_n hx hb dX6_kiteOf_171 rfl (lv_at hl 2 rfl) ?_
          refine tw_cR hx hb hml hown hts (val := (a 0) (kO k 3)) (CX6_of l0 E w h ad (va_up f 13 0) a k 3 hM (by omega) (by omega)) (cwV 2 hts (lw_V q1730 q1732 qs40 q81 q1733) rfl rfl rfl dyX6_of ⟨Nat.le_of_ble_eq_true rfl, Nat.le_of_ble_eq_true rfl⟩) hG hP hS hM (As := [.int (nI k), .int (nI 3)]) (rest := []) rfl hl.1 rfl (lv_room (Nat.le_of_ble_eq_true rfl)) dX6_kiteOf_172 ⟨by omega, by omega⟩ (fun H locs hP hS => ?_)
          have hq : qKof (a 0) (nI k) (nI 3) = (0, (a 0) (kO k 3)) := by simp [qKof, rKof, ck, cn, c6, c20, c31]
          exact k_iret hx hb hr hlocks hQ hP hS (by omega) (by omega) dX6_kiteOf_175 (⟨_, _, ⟨by rw [hq], by rw [hq], rfl⟩, hM, hF⟩)
        · skip
          refine lv_tableOut (tgt := 169) hx hb dX6_kiteOf_37 (by decide) (by decide) ?_
          refine lv_aload_n hx hb dX6_kiteOf_169 rfl (lv_at hl 0 rfl) ?_
          refine lv_iload_n hx hb dX6_kiteOf_170 rfl (lv_at hl 1 rfl) ?_
          refine lv_iload_n hx hb dX6_kiteOf_171 rfl (lv_at hl 2 rfl) ?_
          refine tw_cR hx hb hml hown hts (val := (a 0) (kO k 4)) (CX6_of l0 E w h ad (va_up f 13 0) a k 4 hM (by omega) (by omega)) (cwV 2 hts (lw_V q1730 q1732 qs40 q81 q1733) rfl rfl rfl dyX6_of ⟨Nat.le_of_ble_eq_true rfl, Nat.le_of_ble_eq_true rfl⟩) hG hP hS hM (As := [.int (nI k), .int (nI 4)]) (rest := []) rfl hl.1 rfl (lv_room (Nat.le_of_ble_eq_true rfl)) dX6_kiteOf_172 ⟨by omega, by omega⟩ (fun H locs hP hS => ?_)
          have hq : qKof (a 0) (nI k) (nI 4) = (0, (a 0) (kO k 4)) := by simp [qKof, rKof, ck, cn, c6, c20, c31]
          exact k_iret hx hb hr hlocks hQ hP hS (by omega) (by omega) dX6_kiteOf_175 (⟨_, _, ⟨by rw [hq], by rw [hq], rfl⟩, hM, hF⟩)
        · skip
          refine lv_tableOut (tgt := 169) hx hb dX6_kiteOf_37 (by decide) (by decide) ?_
          refine lv_aload_n hx hb dX6_kiteOf_169 rfl (lv_at hl 0 rfl) ?_
          refine lv_iload_n hx hb dX6_kiteOf_170 rfl (lv_at hl 1 rfl) ?_
          refine lv_iload_n hx hb dX6_kiteOf_171 rfl (lv_at hl 2 rfl) ?_
          refine tw_cR hx hb hml hown hts (val := (a 0) (kO k 5)) (CX6_of l0 E w h ad (va_up f 13 0) a k 5 hM (by omega) (by omega)) (cwV 2 hts (lw_V q1730 q1732 qs40 q81 q1733) rfl rfl rfl dyX6_of ⟨Nat.le_of_ble_eq_true rfl, Nat.le_of_ble_eq_true rfl⟩) hG hP hS hM (As := [.int (nI k), .int (nI 5)]) (rest := []) rfl hl.1 rfl (lv_room (Nat.le_of_ble_eq_true rfl)) dX6_kiteOf_172 ⟨by omega, by omega⟩ (fun H locs hP hS => ?_)
          have hq : qKof (a 0) (nI k) (nI 5) = (0, (a 0) (kO k 5)) := by simp [qKof, rKof, ck, cn, c6, c20, c31]
          exact k_iret hx hb hr hlocks hQ hP hS (by omega) (by omega) dX6_kiteOf_175 (⟨_, _, ⟨by rw [hq], by rw [hq], rfl⟩, hM, hF⟩)
        · skip
          refine lv_tableIn (tgt := 80) hx hb dX6_kiteOf_37 (by decide) (by decide) (off := 43) rfl (by decide) ?_
          refine lv_aload_n hx hb dX6_kiteOf_80 rfl (lv_at hl 0 rfl) ?_
          refine lv_iload_n hx hb dX6_kiteOf_81 rfl (lv_at hl 1 rfl) ?_
          refine tw_cR hx hb hml hown hts (val := (bI (tUp (a 0) k))) (CX6_isUp l0 E w h ad (va_up f 13 0) a k hM (by omega)) (cwV 1 hts (lw_V q1742 q1744 qs42 q81 q1745) rfl rfl rfl dyX6_isUp ⟨Nat.le_of_ble_eq_true rfl, Nat.le_of_ble_eq_true rfl⟩) hG hP hS hM (As := [.int (nI k)]) (rest := []) rfl hl.1 rfl (lv_room (Nat.le_of_ble_eq_true rfl)) dX6_kiteOf_82 ⟨by omega, by omega⟩ (fun H locs hP hS => ?_)
          refine k_ifeqB (x := tUp (a 0) k) (tgt := 98) hx hb dX6_kiteOf_85 (by decide) (fun c85 => ?_) (fun c85 => ?_)
          · skip
            refine lv_iconst (v := 0) hx hb dX6_kiteOf_98 (by decide) ?_
            have hq : qKof (a 0) (nI k) (nI 6) = (0, 0) := by simp [qKof, rKof, ck, cn, c6, c20, c31, c85]
            exact k_iret hx hb hr hlocks hQ hP hS (by omega) (by omega) dX6_kiteOf_99 (⟨_, _, ⟨by rw [hq], by rw [hq], rfl⟩, hM, hF⟩)
          · skip
            refine lv_aload_n hx hb dX6_kiteOf_88 rfl (lv_at hl 0 rfl) ?_
            refine lv_iload_n hx hb dX6_kiteOf_89 rfl (lv_at hl 1 rfl) ?_
            refine lv_bipush (v := 6) hx hb dX6_kiteOf_90 (by decide) ?_
            refine tw_cR hx hb hml hown hts (val := (a 0) (kO k 6)) (CX6_of l0 E w h ad (va_up f 13 0) a k 6 hM (by omega) (by omega)) (cwV 2 hts (lw_V q1730 q1732 qs40 q81 q1733) rfl rfl rfl dyX6_of ⟨Nat.le_of_ble_eq_true rfl, Nat.le_of_ble_eq_true rfl⟩) hG hP hS hM (As := [.int (nI k), .int 6]) (rest := []) rfl hl.1 rfl (lv_room (Nat.le_of_ble_eq_true rfl)) dX6_kiteOf_92 ⟨by omega, by omega⟩ (fun H locs hP hS => ?_)
            refine lv_goto (tgt := 99) hx hb dX6_kiteOf_95 (by decide) ?_
            have hq : qKof (a 0) (nI k) (nI 6) = (0, (a 0) (kO k 6)) := by simp [qKof, rKof, ck, cn, c6, c20, c31, c85]
            exact k_iret hx hb hr hlocks hQ hP hS (by omega) (by omega) dX6_kiteOf_99 (⟨_, _, ⟨by rw [hq], by rw [hq], rfl⟩, hM, hF⟩)
        · skip
          refine lv_tableIn (tgt := 100) hx hb dX6_kiteOf_37 (by decide) (by decide) (off := 63) rfl (by decide) ?_
          refine lv_aload_n hx hb dX6_kiteOf_100 rfl (lv_at hl 0 rfl) ?_
          refine lv_iload_n hx hb dX6_kiteOf_101 rfl (lv_at hl 1 rfl) ?_
          refine tw_cR hx hb hml hown hts (val := (nI (tHt (a 0) k))) (CX6_height l0 E w h ad (va_up f 13 0) a k hM (by omega)) (cwV 1 hts (lw_V q1766 q1768 qs44 q81 q1769) rfl rfl rfl dyX6_height ⟨Nat.le_of_ble_eq_true rfl, Nat.le_of_ble_eq_true rfl⟩) hG hP hS hM (As := [.int (nI k)]) (rest := []) rfl hl.1 rfl (lv_room (Nat.le_of_ble_eq_true rfl)) dX6_kiteOf_102 ⟨by omega, by omega⟩ (fun H locs hP hS => ?_)
          have hq : qKof (a 0) (nI k) (nI 7) = (0, (nI (tHt (a 0) k))) := by simp [qKof, rKof, ck, cn, c6, c20, c31]
          exact k_iret hx hb hr hlocks hQ hP hS (by omega) (by omega) dX6_kiteOf_105 (⟨_, _, ⟨by rw [hq], by rw [hq], rfl⟩, hM, hF⟩)
        · skip
          refine lv_tableIn (tgt := 106) hx hb dX6_kiteOf_37 (by decide) (by decide) (off := 69) rfl (by decide) ?_
          refine lv_aload_n hx hb dX6_kiteOf_106 rfl (lv_at hl 0 rfl) ?_
          refine lv_iload_n hx hb dX6_kiteOf_107 rfl (lv_at hl 1 rfl) ?_
          refine tw_cR hx hb hml hown hts (val := tTs (a 0) k) (CX6_tension l0 E w h ad (va_up f 13 0) a k hM (by omega)) (cwV 1 hts (lw_V q1781 q1783 qs47 q81 q1784) rfl rfl rfl dyX6_tension ⟨Nat.le_of_ble_eq_true rfl, Nat.le_of_ble_eq_true rfl⟩) hG hP hS hM (As := [.int (nI k)]) (rest := []) rfl hl.1 rfl (lv_room (Nat.le_of_ble_eq_true rfl)) dX6_kiteOf_108 ⟨by omega, by omega⟩ (fun H locs hP hS => ?_)
          have hq : qKof (a 0) (nI k) (nI 8) = (0, tTs (a 0) k) := by simp [qKof, rKof, ck, cn, c6, c20, c31]
          exact k_iret hx hb hr hlocks hQ hP hS (by omega) (by omega) dX6_kiteOf_111 (⟨_, _, ⟨by rw [hq], by rw [hq], rfl⟩, hM, hF⟩)
        · skip
          refine lv_tableIn (tgt := 112) hx hb dX6_kiteOf_37 (by decide) (by decide) (off := 75) rfl (by decide) ?_
          refine lv_aload_n hx hb dX6_kiteOf_112 rfl (lv_at hl 0 rfl) ?_
          refine lv_iload_n hx hb dX6_kiteOf_113 rfl (lv_at hl 1 rfl) ?_
          refine lv_aload_n hx hb dX6_kiteOf_114 rfl (lv_at hl 0 rfl) ?_
          refine lv_iload_n hx hb dX6_kiteOf_115 rfl (lv_at hl 1 rfl) ?_
          refine tw_cR hx hb hml hown hts (val := (nI (tHt (a 0) k))) (CX6_height l0 E w h ad (va_up f 13 0) a k hM (by omega)) (cwV 1 hts (lw_V q1766 q1768 qs44 q81 q1769) rfl rfl rfl dyX6_height ⟨Nat.le_of_ble_eq_true rfl, Nat.le_of_ble_eq_true rfl⟩) hG hP hS hM (As := [.int (nI k)]) (rest := [.int (nI k), .ref h]) rfl hl.1 rfl (lv_room (Nat.le_of_ble_eq_true rfl)) dX6_kiteOf_116 ⟨by omega, by omega⟩ (fun H locs hP hS => ?_)
          refine tw_cR hx hb hml hown hts (val := tPl (a 0) k (tHt (a 0) k)) (CX6_place l0 E w h ad (va_up f 13 0) a k (tHt (a 0) k) hM (by omega) (by omega)) (cwV 2 hts (lw_V q1789 q1791 qs49 q81 q1792) rfl rfl rfl dyX6_place ⟨Nat.le_of_ble_eq_true rfl, Nat.le_of_ble_eq_true rfl⟩) hG hP hS hM (As := [.int (nI k), .int (nI (tHt (a 0) k))]) (rest := []) rfl hl.1 rfl (lv_room (Nat.le_of_ble_eq_true rfl)) dX6_kiteOf_119 ⟨by omega, by omega⟩ (fun H locs hP hS => ?_)
          have hq : qKof (a 0) (nI k) (nI 9) = (0, tPl (a 0) k (tHt (a 0) k)) := by simp [qKof, rKof, ck, cn, c6, c20, c31]
          exact k_iret hx hb hr hlocks hQ hP hS (by omega) (by omega) dX6_kiteOf_122 (⟨_, _, ⟨by rw [hq], by rw [hq], rfl⟩, hM, hF⟩)
        · skip
          refine lv_tableIn (tgt := 123) hx hb dX6_kiteOf_37 (by decide) (by decide) (off := 86) rfl (by decide) ?_
          refine lv_aload_n hx hb dX6_kiteOf_123 rfl (lv_at hl 0 rfl) ?_
          refine lv_iload_n hx hb dX6_kiteOf_124 rfl (lv_at hl 1 rfl) ?_
          refine tw_cR hx hb hml hown hts (val := (bI (tUp (a 0) k))) (CX6_isUp l0 E w h ad (va_up f 13 0) a k hM (by omega)) (cwV 1 hts (lw_V q1742 q1744 qs42 q81 q1745) rfl rfl rfl dyX6_isUp ⟨Nat.le_of_ble_eq_true rfl, Nat.le_of_ble_eq_true rfl⟩) hG hP hS hM (As := [.int (nI k)]) (rest := []) rfl hl.1 rfl (lv_room (Nat.le_of_ble_eq_true rfl)) dX6_kiteOf_125 ⟨by omega, by omega⟩ (fun H locs hP hS => ?_)
          refine k_ifeqB (x := tUp (a 0) k) (tgt := 151) hx hb dX6_kiteOf_128 (by decide) (fun c128 => ?_) (fun c128 => ?_)
          · skip
            refine lv_iconst (v := 0) hx hb dX6_kiteOf_151 (by decide) ?_
            have hq : qKof (a 0) (nI k) (nI 10) = (0, 0) := by simp [qKof, rKof, ck, cn, c6, c20, c31, c128]
            exact k_iret hx hb hr hlocks hQ hP hS (by omega) (by omega) dX6_kiteOf_152 (⟨_, _, ⟨by rw [hq], by rw [hq], rfl⟩, hM, hF⟩)
          · skip
            refine lv_aload_n hx hb dX6_kiteOf_131 rfl (lv_at hl 0 rfl) ?_
            refine lv_iload_n hx hb dX6_kiteOf_132 rfl (lv_at hl 1 rfl) ?_
            refine lv_iconst (v := 5) hx hb dX6_kiteOf_133 (by decide) ?_
            refine tw_cR hx hb hml hown hts (val := (a 0) (kO k 5)) (CX6_of l0 E w h ad (va_up f 13 0) a k 5 hM (by omega) (by omega)) (cwV 2 hts (lw_V q1730 q1732 qs40 q81 q1733) rfl rfl rfl dyX6_of ⟨Nat.le_of_ble_eq_true rfl, Nat.le_of_ble_eq_true rfl⟩) hG hP hS hM (As := [.int (nI k), .int 5]) (rest := []) rfl hl.1 rfl (lv_room (Nat.le_of_ble_eq_true rfl)) dX6_kiteOf_134 ⟨by omega, by omega⟩ (fun H locs hP hS => ?_)
            refine lv_aload_n hx hb dX6_kiteOf_137 rfl (lv_at hl 0 rfl) ?_
            refine lv_iload_n hx hb dX6_kiteOf_138 rfl (lv_at hl 1 rfl) ?_
            refine lv_aload_n hx hb dX6_kiteOf_139 rfl (lv_at hl 0 rfl) ?_
            refine lv_iload_n hx hb dX6_kiteOf_140 rfl (lv_at hl 1 rfl) ?_
            refine tw_cR hx hb hml hown hts (val := (nI (tHt (a 0) k))) (CX6_height l0 E w h ad (va_up f 13 0) a k hM (by omega)) (cwV 1 hts (lw_V q1766 q1768 qs44 q81 q1769) rfl rfl rfl dyX6_height ⟨Nat.le_of_ble_eq_true rfl, Nat.le_of_ble_eq_true rfl⟩) hG hP hS hM (As := [.int (nI k)]) (rest := [.int (nI k), .ref h, .int ((a 0) (kO k 5))]) rfl hl.1 rfl (lv_room (Nat.le_of_ble_eq_true rfl)) dX6_kiteOf_141 ⟨by omega, by omega⟩ (fun H locs hP hS => ?_)
            refine tw_cR hx hb hml hown hts (val := tBl (a 0) k (tHt (a 0) k)) (CX6_takesBelow l0 E w h ad (va_up f 13 0) a k (tHt (a 0) k) hM (by omega) (by omega)) (cwV 2 hts (lw_V q1793 q1795 qs50 q81 q1796) rfl rfl rfl dyX6_takesBelow ⟨Nat.le_of_ble_eq_true rfl, Nat.le_of_ble_eq_true rfl⟩) hG hP hS hM (As := [.int (nI k), .int (nI (tHt (a 0) k))]) (rest := [.int ((a 0) (kO k 5))]) rfl hl.1 rfl (lv_room (Nat.le_of_ble_eq_true rfl)) dX6_kiteOf_144 ⟨by omega, by omega⟩ (fun H locs hP hS => ?_)
            refine lv_isub hx hb dX6_kiteOf_147 ?_
            refine lv_goto (tgt := 152) hx hb dX6_kiteOf_148 (by decide) ?_
            have hq : qKof (a 0) (nI k) (nI 10) = (0, ((a 0) (kO k 5) - tBl (a 0) k (tHt (a 0) k))) := by simp [qKof, rKof, ck, cn, c6, c20, c31, c128]
            exact k_iret hx hb hr hlocks hQ hP hS (by omega) (by omega) dX6_kiteOf_152 (⟨_, _, ⟨by rw [hq], by rw [hq], rfl⟩, hM, hF⟩)
        · skip
          refine lv_tableIn (tgt := 153) hx hb dX6_kiteOf_37 (by decide) (by decide) (off := 116) rfl (by decide) ?_
          refine lv_aload_n hx hb dX6_kiteOf_153 rfl (lv_at hl 0 rfl) ?_
          refine lv_iload_n hx hb dX6_kiteOf_154 rfl (lv_at hl 1 rfl) ?_
          refine lv_bipush (v := 7) hx hb dX6_kiteOf_155 (by decide) ?_
          refine tw_cR hx hb hml hown hts (val := (a 0) (kO k 7)) (CX6_of l0 E w h ad (va_up f 13 0) a k 7 hM (by omega) (by omega)) (cwV 2 hts (lw_V q1730 q1732 qs40 q81 q1733) rfl rfl rfl dyX6_of ⟨Nat.le_of_ble_eq_true rfl, Nat.le_of_ble_eq_true rfl⟩) hG hP hS hM (As := [.int (nI k), .int 7]) (rest := []) rfl hl.1 rfl (lv_room (Nat.le_of_ble_eq_true rfl)) dX6_kiteOf_157 ⟨by omega, by omega⟩ (fun H locs hP hS => ?_)
          have hq : qKof (a 0) (nI k) (nI 11) = (0, (a 0) (kO k 7)) := by simp [qKof, rKof, ck, cn, c6, c20, c31]
          exact k_iret hx hb hr hlocks hQ hP hS (by omega) (by omega) dX6_kiteOf_160 (⟨_, _, ⟨by rw [hq], by rw [hq], rfl⟩, hM, hF⟩)
        · skip
          refine lv_tableIn (tgt := 161) hx hb dX6_kiteOf_37 (by decide) (by decide) (off := 124) rfl (by decide) ?_
          refine lv_aload_n hx hb dX6_kiteOf_161 rfl (lv_at hl 0 rfl) ?_
          refine lv_iload_n hx hb dX6_kiteOf_162 rfl (lv_at hl 1 rfl) ?_
          refine lv_bipush (v := 8) hx hb dX6_kiteOf_163 (by decide) ?_
          refine tw_cR hx hb hml hown hts (val := (a 0) (kO k 8)) (CX6_of l0 E w h ad (va_up f 13 0) a k 8 hM (by omega) (by omega)) (cwV 2 hts (lw_V q1730 q1732 qs40 q81 q1733) rfl rfl rfl dyX6_of ⟨Nat.le_of_ble_eq_true rfl, Nat.le_of_ble_eq_true rfl⟩) hG hP hS hM (As := [.int (nI k), .int 8]) (rest := []) rfl hl.1 rfl (lv_room (Nat.le_of_ble_eq_true rfl)) dX6_kiteOf_165 ⟨by omega, by omega⟩ (fun H locs hP hS => ?_)
          have hq : qKof (a 0) (nI k) (nI 12) = (0, (a 0) (kO k 8)) := by simp [qKof, rKof, ck, cn, c6, c20, c31]
          exact k_iret hx hb hr hlocks hQ hP hS (by omega) (by omega) dX6_kiteOf_168 (⟨_, _, ⟨by rw [hq], by rw [hq], rfl⟩, hM, hF⟩)
      · skip
        exact absurd c31 (by decide)
  · skip
    refine lv_iconst (v := 1) hx hb dX6_kiteOf_9 (by decide) ?_
    refine lv_goto (tgt := 28) hx hb dX6_kiteOf_10 (by decide) ?_
    refine tw_cW hx hb hml hown hts (CX6_fails l0 E w h ad f a 1 hM ) (cwV 1 hts (lw_V q1695 q1697 qs35 q81 q1698) rfl rfl rfl dyX6_fails ⟨Nat.le_of_ble_eq_true rfl, Nat.le_of_ble_eq_true rfl⟩) hG hP hS hM hF (As := [.int 1]) (rest := []) rfl hl.1 rfl (lv_room (Nat.le_of_ble_eq_true rfl)) dX6_kiteOf_28 ⟨by omega, by omega⟩ (fun r28 f28 a28 w H locs hp hM hF hP hS => ?_)
    obtain ⟨hp0, hp1, hp2⟩ := hp
    have hM := hM.ofF hp1 hp2
    have hM : tM E w h ad (va_up f 13 1) a := hM
    refine k_top (y := (bI (decide (0 < 1)))) hp0 ?_
    refine k_ifeqB (x := decide (0 < 1)) (tgt := 36) hx hb dX6_kiteOf_31 (by decide) (fun c31 => ?_) (fun c31 => ?_)
    · skip
      exact absurd c31 (by decide)
    · skip
      refine lv_iconst (v := 0) hx hb dX6_kiteOf_34 (by decide) ?_
      have hq : qKof (a 0) x y = (1, 0) := by simp [qKof, rKof, c6, c31]
      exact k_iret hx hb hr hlocks hQ hP hS (by omega) (by omega) dX6_kiteOf_35 (⟨_, _, ⟨by rw [hq], by rw [hq], rfl⟩, hM, hF⟩)

abbrev rmCX6_state : Room := { frames := 2, cells := 0, slots := 0, locals := 43 }
theorem dyX6_state : yX6_state.cls = RX6 ∧ yX6_state.cls ≠ "java/lang/invoke/MethodHandle" ∧ yX6_state.cls ≠ "java/lang/invoke/VarHandle" ∧ (parseMethodDescriptor yX6_state.desc).map (fun d => d.parameters.length) = some 1 := by decide +kernel
set_option maxHeartbeats 4000000 in
theorem CX6_state (l0 : Launch) (E : gE) (w : wd) (h : Nat) (ad : Nat → Nat) (f : Nat → Int32) (a : Nat → Nat → Int32) (x : Int32) (mn : Nat) (hM : tM E w h ad f a) (hmn : mn ≤ 6) (hm : (a 0) 25 = nI mn) : kC l0 yX6_state (ws_ yX6_state cX6_state 2 (some .char)) rmCX6_state 0 0 mI E w [.ref h, .int x] (fun r w' => ∃ f' a', (r = (qSta (a 0) x).2 ∧ f' = va_up f 13 (qSta (a 0) x).1 ∧ a' = a) ∧ tM E w' h ad f' a' ∧ fr tP w w') := by
  refine k_open (cc := cX6_state) (maxL := 2) (ret := (some .char)) (by decide) rfl (Nat.le_of_ble_eq_true rfl) ?_
  intro p e s m args below meth c ls Q hx hb hr hml hown hts hlocks hname hQ hG hP hl hS
  have hl : lv_has ls 2 [(0, .ref h), (1, .int x)] := hl
  obtain ⟨w0, hw0⟩ : ∃ z, z = w := ⟨_, rfl⟩
  have hF : fr tP w0 w := by rw [hw0]; exact fr.rf
  rw [← hw0] at hQ
  refine lv_aload_n hx hb dX6_state_0 rfl (lv_at hl 0 rfl) ?_
  refine lv_aload_n hx hb dX6_state_1 rfl (lv_at hl 0 rfl) ?_
  refine lv_iload_n hx hb dX6_state_2 rfl (lv_at hl 1 rfl) ?_
  refine tw_cR hx hb hml hown hts (val := (bI (tKt (a 0) x))) (CX6_isKite l0 E w h ad f a x hM ) (cwV 1 hts (lw_V q1726 q1728 qs39 q81 q1729) rfl rfl rfl dyX6_isKite ⟨Nat.le_of_ble_eq_true rfl, Nat.le_of_ble_eq_true rfl⟩) hG hP hS hM (As := [.int x]) (rest := [.ref h]) rfl hl.1 rfl (lv_room (Nat.le_of_ble_eq_true rfl)) dX6_state_3 ⟨by omega, by omega⟩ (fun H locs hP hS => ?_)
  refine k_ifeqB (x := tKt (a 0) x) (tgt := 13) hx hb dX6_state_6 (by decide) (fun c6 => ?_) (fun c6 => ?_)
  · skip
    refine lv_iconst (v := 1) hx hb dX6_state_13 (by decide) ?_
    refine tw_cW hx hb hml hown hts (CX6_fails l0 E w h ad f a 1 hM ) (cwV 1 hts (lw_V q1695 q1697 qs35 q81 q1698) rfl rfl rfl dyX6_fails ⟨Nat.le_of_ble_eq_true rfl, Nat.le_of_ble_eq_true rfl⟩) hG hP hS hM hF (As := [.int 1]) (rest := []) rfl hl.1 rfl (lv_room (Nat.le_of_ble_eq_true rfl)) dX6_state_14 ⟨by omega, by omega⟩ (fun r14 f14 a14 w H locs hp hM hF hP hS => ?_)
    obtain ⟨hp0, hp1, hp2⟩ := hp
    have hM := hM.ofF hp1 hp2
    have hM : tM E w h ad (va_up f 13 1) a := hM
    refine k_top (y := (bI (decide (0 < 1)))) hp0 ?_
    refine k_ifeqB (x := decide (0 < 1)) (tgt := 25) hx hb dX6_state_17 (by decide) (fun c17 => ?_) (fun c17 => ?_)
    · skip
      exact absurd c17 (by decide)
    · skip
      refine lv_bipush (v := 32) hx hb dX6_state_20 (by decide) ?_
      refine lv_goto (tgt := 54) hx hb dX6_state_22 (by decide) ?_
      have hq : qSta (a 0) x = (1, 32) := by simp [qSta, c6, c17]
      exact k_zret hx hb hr hlocks hQ hP hS (by omega) (by omega) dX6_state_54 rfl (⟨_, _, ⟨by rw [hq], by rw [hq], rfl⟩, hM, hF⟩)
  · skip
    refine lv_iconst (v := 0) hx hb dX6_state_9 (by decide) ?_
    refine lv_goto (tgt := 14) hx hb dX6_state_10 (by decide) ?_
    refine tw_cW hx hb hml hown hts (CX6_fails l0 E w h ad f a 0 hM ) (cwV 1 hts (lw_V q1695 q1697 qs35 q81 q1698) rfl rfl rfl dyX6_fails ⟨Nat.le_of_ble_eq_true rfl, Nat.le_of_ble_eq_true rfl⟩) hG hP hS hM hF (As := [.int 0]) (rest := []) rfl hl.1 rfl (lv_room (Nat.le_of_ble_eq_true rfl)) dX6_state_14 ⟨by omega, by omega⟩ (fun r14 f14 a14 w H locs hp hM hF hP hS => ?_)
    obtain ⟨hp0, hp1, hp2⟩ := hp
    have hM := hM.ofF hp1 hp2
    have hM : tM E w h ad (va_up f 13 0) a := hM
    refine k_top (y := (bI (decide (0 < 0)))) hp0 ?_
    refine k_ifeqB (x := decide (0 < 0)) (tgt := 25) hx hb dX6_state_17 (by decide) (fun c17 => ?_) (fun c17 => ?_)
    · skip
      obtain ⟨k, hk, rfl⟩ := tKt_of hm hmn c6
      have ck : (nI k).toNatClampNeg = k := nI_clamp (by omega)
      refine lv_aload_n hx hb dX6_state_25 rfl (lv_at hl 0 rfl) ?_
      refine lv_iload_n hx hb dX6_state_26 rfl (lv_at hl 1 rfl) ?_
      refine lv_iconst (v := 0) hx hb dX6_state_27 (by decide) ?_
      refine tw_cR hx hb hml hown hts (val := (a 0) (kO k 0)) (CX6_of l0 E w h ad (va_up f 13 0) a k 0 hM (by omega) (by omega)) (cwV 2 hts (lw_V q1730 q1732 qs40 q81 q1733) rfl rfl rfl dyX6_of ⟨Nat.le_of_ble_eq_true rfl, Nat.le_of_ble_eq_true rfl⟩) hG hP hS hM (As := [.int (nI k), .int 0]) (rest := []) rfl hl.1 rfl (lv_room (Nat.le_of_ble_eq_true rfl)) dX6_state_28 ⟨by omega, by omega⟩ (fun H locs hP hS => ?_)
      refine lv_if_ne (tgt := 39) hx hb dX6_state_31 (by decide) (fun c31 => ?_) (fun c31 => ?_)
      · skip
        refine lv_aload_n hx hb dX6_state_39 rfl (lv_at hl 0 rfl) ?_
        refine lv_iload_n hx hb dX6_state_40 rfl (lv_at hl 1 rfl) ?_
        refine tw_cR hx hb hml hown hts (val := (bI (tUp (a 0) k))) (CX6_isUp l0 E w h ad (va_up f 13 0) a k hM (by omega)) (cwV 1 hts (lw_V q1742 q1744 qs42 q81 q1745) rfl rfl rfl dyX6_isUp ⟨Nat.le_of_ble_eq_true rfl, Nat.le_of_ble_eq_true rfl⟩) hG hP hS hM (As := [.int (nI k)]) (rest := []) rfl hl.1 rfl (lv_room (Nat.le_of_ble_eq_true rfl)) dX6_state_41 ⟨by omega, by omega⟩ (fun H locs hP hS => ?_)
        refine k_ifeqB (x := tUp (a 0) k) (tgt := 52) hx hb dX6_state_44 (by decide) (fun c44 => ?_) (fun c44 => ?_)
        · skip
          refine lv_bipush (v := 99) hx hb dX6_state_52 (by decide) ?_
          have hq : qSta (a 0) (nI k) = (0, 99) := by simp [qSta, ck, c6, c17, c31, c44]
          exact k_zret hx hb hr hlocks hQ hP hS (by omega) (by omega) dX6_state_54 rfl (⟨_, _, ⟨by rw [hq], by rw [hq], rfl⟩, hM, hF⟩)
        · skip
          refine lv_bipush (v := 117) hx hb dX6_state_47 (by decide) ?_
          refine lv_goto (tgt := 54) hx hb dX6_state_49 (by decide) ?_
          have hq : qSta (a 0) (nI k) = (0, 117) := by simp [qSta, ck, c6, c17, c31, c44]
          exact k_zret hx hb hr hlocks hQ hP hS (by omega) (by omega) dX6_state_54 rfl (⟨_, _, ⟨by rw [hq], by rw [hq], rfl⟩, hM, hF⟩)
      · skip
        refine lv_bipush (v := 114) hx hb dX6_state_34 (by decide) ?_
        refine lv_goto (tgt := 54) hx hb dX6_state_36 (by decide) ?_
        have hq : qSta (a 0) (nI k) = (0, 114) := by simp [qSta, ck, c6, c17, c31]
        exact k_zret hx hb hr hlocks hQ hP hS (by omega) (by omega) dX6_state_54 rfl (⟨_, _, ⟨by rw [hq], by rw [hq], rfl⟩, hM, hF⟩)
    · skip
      exact absurd c17 (by decide)

abbrev rmCX6_heightAgain : Room := { frames := 4, cells := 0, slots := 0, locals := 89 }
theorem dyX6_heightAgain : yX6_heightAgain.cls = RX6 ∧ yX6_heightAgain.cls ≠ "java/lang/invoke/MethodHandle" ∧ yX6_heightAgain.cls ≠ "java/lang/invoke/VarHandle" ∧ (parseMethodDescriptor yX6_heightAgain.desc).map (fun d => d.parameters.length) = some 1 := by decide +kernel
set_option maxHeartbeats 4000000 in
theorem CX6_heightAgain (l0 : Launch) (E : gE) (w : wd) (h : Nat) (ad : Nat → Nat) (f : Nat → Int32) (a : Nat → Nat → Int32) (x : Int32) (mn : Nat) (hM : tM E w h ad f a) (hmn : mn ≤ 6) (hm : (a 0) 25 = nI mn) (hO : ∀ k, k < mn → tUp (a 0) k = true → 0 ≤ (a 0) (kO k 5)) : kC l0 yX6_heightAgain (ws_ yX6_heightAgain cX6_heightAgain 3 (some .int)) rmCX6_heightAgain 0 0 mI E w [.ref h, .int x] (fun r w' => ∃ f' a', (r = (qHag (a 0) x).2 ∧ f' = va_up f 13 (qHag (a 0) x).1 ∧ a' = a) ∧ tM E w' h ad f' a' ∧ fr tP w w') := by
  refine k_open (cc := cX6_heightAgain) (maxL := 3) (ret := (some .int)) (by decide) rfl (Nat.le_of_ble_eq_true rfl) ?_
  intro p e s m args below meth c ls Q hx hb hr hml hown hts hlocks hname hQ hG hP hl hS
  have hl : lv_has ls 3 [(0, .ref h), (1, .int x)] := hl
  obtain ⟨w0, hw0⟩ : ∃ z, z = w := ⟨_, rfl⟩
  have hF : fr tP w0 w := by rw [hw0]; exact fr.rf
  rw [← hw0] at hQ
  refine lv_aload_n hx hb dX6_heightAgain_0 rfl (lv_at hl 0 rfl) ?_
  refine lv_aload_n hx hb dX6_heightAgain_1 rfl (lv_at hl 0 rfl) ?_
  refine lv_iload_n hx hb dX6_heightAgain_2 rfl (lv_at hl 1 rfl) ?_
  refine tw_cR hx hb hml hown hts (val := (bI (tKt (a 0) x))) (CX6_isKite l0 E w h ad f a x hM ) (cwV 1 hts (lw_V q1726 q1728 qs39 q81 q1729) rfl rfl rfl dyX6_isKite ⟨Nat.le_of_ble_eq_true rfl, Nat.le_of_ble_eq_true rfl⟩) hG hP hS hM (As := [.int x]) (rest := [.ref h]) rfl hl.1 rfl (lv_room (Nat.le_of_ble_eq_true rfl)) dX6_heightAgain_3 ⟨by omega, by omega⟩ (fun H locs hP hS => ?_)
  refine k_ifeqB (x := tKt (a 0) x) (tgt := 13) hx hb dX6_heightAgain_6 (by decide) (fun c6 => ?_) (fun c6 => ?_)
  · skip
    refine lv_iconst (v := 1) hx hb dX6_heightAgain_13 (by decide) ?_
    refine tw_cW hx hb hml hown hts (CX6_fails l0 E w h ad f a 1 hM ) (cwV 1 hts (lw_V q1695 q1697 qs35 q81 q1698) rfl rfl rfl dyX6_fails ⟨Nat.le_of_ble_eq_true rfl, Nat.le_of_ble_eq_true rfl⟩) hG hP hS hM hF (As := [.int 1]) (rest := []) rfl hl.1 rfl (lv_room (Nat.le_of_ble_eq_true rfl)) dX6_heightAgain_14 ⟨by omega, by omega⟩ (fun r14 f14 a14 w H locs hp hM hF hP hS => ?_)
    obtain ⟨hp0, hp1, hp2⟩ := hp
    have hM := hM.ofF hp1 hp2
    have hM : tM E w h ad (va_up f 13 1) a := hM
    refine k_top (y := (bI (decide (0 < 1)))) hp0 ?_
    refine k_ifeqB (x := decide (0 < 1)) (tgt := 22) hx hb dX6_heightAgain_17 (by decide) (fun c17 => ?_) (fun c17 => ?_)
    · skip
      exact absurd c17 (by decide)
    · skip
      refine lv_iconst (v := 0) hx hb dX6_heightAgain_20 (by decide) ?_
      have hq : qHag (a 0) x = (1, 0) := by simp [qHag, c6, c17]
      exact k_iret hx hb hr hlocks hQ hP hS (by omega) (by omega) dX6_heightAgain_21 (⟨_, _, ⟨by rw [hq], by rw [hq], rfl⟩, hM, hF⟩)
  · skip
    refine lv_iconst (v := 0) hx hb dX6_heightAgain_9 (by decide) ?_
    refine lv_goto (tgt := 14) hx hb dX6_heightAgain_10 (by decide) ?_
    refine tw_cW hx hb hml hown hts (CX6_fails l0 E w h ad f a 0 hM ) (cwV 1 hts (lw_V q1695 q1697 qs35 q81 q1698) rfl rfl rfl dyX6_fails ⟨Nat.le_of_ble_eq_true rfl, Nat.le_of_ble_eq_true rfl⟩) hG hP hS hM hF (As := [.int 0]) (rest := []) rfl hl.1 rfl (lv_room (Nat.le_of_ble_eq_true rfl)) dX6_heightAgain_14 ⟨by omega, by omega⟩ (fun r14 f14 a14 w H locs hp hM hF hP hS => ?_)
    obtain ⟨hp0, hp1, hp2⟩ := hp
    have hM := hM.ofF hp1 hp2
    have hM : tM E w h ad (va_up f 13 0) a := hM
    refine k_top (y := (bI (decide (0 < 0)))) hp0 ?_
    refine k_ifeqB (x := decide (0 < 0)) (tgt := 22) hx hb dX6_heightAgain_17 (by decide) (fun c17 => ?_) (fun c17 => ?_)
    · skip
      obtain ⟨k, hk, rfl⟩ := tKt_of hm hmn c6
      have ck : (nI k).toNatClampNeg = k := nI_clamp (by omega)
      refine lv_aload_n hx hb dX6_heightAgain_22 rfl (lv_at hl 0 rfl) ?_
      refine lv_iload_n hx hb dX6_heightAgain_23 rfl (lv_at hl 1 rfl) ?_
      refine tw_cR hx hb hml hown hts (val := (bI (tUp (a 0) k))) (CX6_isUp l0 E w h ad (va_up f 13 0) a k hM (by omega)) (cwV 1 hts (lw_V q1742 q1744 qs42 q81 q1745) rfl rfl rfl dyX6_isUp ⟨Nat.le_of_ble_eq_true rfl, Nat.le_of_ble_eq_true rfl⟩) hG hP hS hM (As := [.int (nI k)]) (rest := []) rfl hl.1 rfl (lv_room (Nat.le_of_ble_eq_true rfl)) dX6_heightAgain_24 ⟨by omega, by omega⟩ (fun H locs hP hS => ?_)
      refine k_ifneB (x := tUp (a 0) k) (tgt := 32) hx hb dX6_heightAgain_27 (by decide) (fun c27 => ?_) (fun c27 => ?_)
      · skip
        refine lv_bipush (v := 10) hx hb dX6_heightAgain_32 (by decide) ?_
        refine lv_istore_n (lv' := [(2, .int 10), (0, .ref h), (1, .int (nI k))]) hx hb dX6_heightAgain_34 rfl hl (by decide) rfl (fun ls hl => ?_)
        have hloop_35 : ∀ (n9_35 : Nat) (n : Nat), (n ≤ 10) → (tHa (a 0) k n = tHa (a 0) k 10) → n < n9_35 → ∀ (w : wd) (H : Heap) (locs : List Loc) (ls : Array Slot), tM E w h ad (va_up f 13 0) a → fr tP w0 w → wP E w H → va_S (gA E) s.heap H locs → lv_has ls 3 [(2, .int (nI n)), (0, .ref h), (1, .int (nI k))] → W p l0 e rmCX6_heightAgain s m args below meth c H locs 0 0 Q (F0 m 35 ls []) := by
          intro n9_35
          induction n9_35 with
          | zero => intro n hn hv hn; exact absurd hn (Nat.not_lt_zero _)
          | succ n9_35 ih_35 =>
            intro n hn hv hn_35 w H locs ls hM hF hP hS hl
            refine lv_aload_n hx hb dX6_heightAgain_35 rfl (lv_at hl 1 rfl) ?_
            refine lv_iload_n hx hb dX6_heightAgain_36 rfl (lv_at hl 2 rfl) ?_
            refine lv_iload_n hx hb dX6_heightAgain_37 rfl (lv_at hl 0 rfl) ?_
            refine tw_cR hx hb hml hown hts (val := tBl (a 0) k n) (CX6_takesBelow l0 E w h ad (va_up f 13 0) a k n hM (by omega) (by omega)) (cwV 2 hts (lw_V q1793 q1795 qs50 q81 q1796) rfl rfl rfl dyX6_takesBelow ⟨Nat.le_of_ble_eq_true rfl, Nat.le_of_ble_eq_true rfl⟩) hG hP hS hM (As := [.int (nI k), .int (nI n)]) (rest := []) rfl hl.1 rfl (lv_room (Nat.le_of_ble_eq_true rfl)) dX6_heightAgain_38 ⟨by omega, by omega⟩ (fun H locs hP hS => ?_)
            refine lv_aload_n hx hb dX6_heightAgain_41 rfl (lv_at hl 1 rfl) ?_
            refine lv_iload_n hx hb dX6_heightAgain_42 rfl (lv_at hl 2 rfl) ?_
            refine lv_iconst (v := 5) hx hb dX6_heightAgain_43 (by decide) ?_
            refine tw_cR hx hb hml hown hts (val := (a 0) (kO k 5)) (CX6_of l0 E w h ad (va_up f 13 0) a k 5 hM (by omega) (by omega)) (cwV 2 hts (lw_V q1730 q1732 qs40 q81 q1733) rfl rfl rfl dyX6_of ⟨Nat.le_of_ble_eq_true rfl, Nat.le_of_ble_eq_true rfl⟩) hG hP hS hM (As := [.int (nI k), .int 5]) (rest := [.int (tBl (a 0) k n)]) rfl hl.1 rfl (lv_room (Nat.le_of_ble_eq_true rfl)) dX6_heightAgain_44 ⟨by omega, by omega⟩ (fun H locs hP hS => ?_)
            refine lv_icmp_le (tgt := 56) hx hb dX6_heightAgain_47 (by decide) (fun c47 => ?_) (fun c47 => ?_)
            · skip
              refine lv_iload_n hx hb dX6_heightAgain_56 rfl (lv_at hl 0 rfl) ?_
              have hq : qHag (a 0) (nI k) = (0, (nI n)) := by have e : tHa (a 0) k n = n := (by cases n with | zero => rfl | succ n => rw [tHa, if_pos c47]); simp [qHag, ck, c6, c27, ← hv, e]
              exact k_iret hx hb hr hlocks hQ hP hS (by omega) (by omega) dX6_heightAgain_57 (⟨_, _, ⟨by rw [hq], by rw [hq], rfl⟩, hM, hF⟩)
            · skip
              obtain ⟨n, rfl⟩ : ∃ z, n = z + 1 := ⟨n - 1, by rcases Nat.eq_zero_or_pos n with e0 | e0; exact absurd (by rw [e0, tBl_0]; exact hO k hk c27) c47; omega⟩
              refine lv_iinc (v := (nI n)) (lv' := [(2, .int (nI n)), (0, .ref h), (1, .int (nI k))]) hx hb dX6_heightAgain_50 hl (k := 0) rfl (pk_m1 n) (by decide) rfl (fun ls hl => ?_)
              refine lv_goto (tgt := 35) hx hb dX6_heightAgain_53 (by decide) ?_
              have hl : lv_has ls 3 [(2, .int (nI n)), (0, .ref h), (1, .int (nI k))] := hl
              exact ih_35 n (by omega) (by rw [← hv, tHa, if_neg c47]) (by omega) _ _ _ _ hM hF hP hS hl
        have hl : lv_has ls 3 [(2, .int (nI 10)), (0, .ref h), (1, .int (nI k))] := hl
        exact hloop_35 _ 10 (by omega) rfl (Nat.lt_succ_self _) _ _ _ _ hM hF hP hS hl
      · skip
        refine lv_iconst (v := 0) hx hb dX6_heightAgain_30 (by decide) ?_
        have hq : qHag (a 0) (nI k) = (0, 0) := by simp [qHag, ck, c6, c17, c27]
        exact k_iret hx hb hr hlocks hQ hP hS (by omega) (by omega) dX6_heightAgain_31 (⟨_, _, ⟨by rw [hq], by rw [hq], rfl⟩, hM, hF⟩)
    · skip
      exact absurd c17 (by decide)

abbrev rmCX6_placeAt : Room := { frames := 4, cells := 0, slots := 0, locals := 88 }
theorem dyX6_placeAt : yX6_placeAt.cls = RX6 ∧ yX6_placeAt.cls ≠ "java/lang/invoke/MethodHandle" ∧ yX6_placeAt.cls ≠ "java/lang/invoke/VarHandle" ∧ (parseMethodDescriptor yX6_placeAt.desc).map (fun d => d.parameters.length) = some 2 := by decide +kernel
set_option maxHeartbeats 4000000 in
theorem CX6_placeAt (l0 : Launch) (E : gE) (w : wd) (h : Nat) (ad : Nat → Nat) (f : Nat → Int32) (a : Nat → Nat → Int32) (x : Int32) (y : Int32) (mn : Nat) (hM : tM E w h ad f a) (hmn : mn ≤ 6) (hm : (a 0) 25 = nI mn) : kC l0 yX6_placeAt (ws_ yX6_placeAt cX6_placeAt 3 (some .int)) rmCX6_placeAt 0 0 mI E w [.ref h, .int x, .int y] (fun r w' => ∃ f' a', (r = (qPat (a 0) x y).2 ∧ f' = va_up f 13 (qPat (a 0) x y).1 ∧ a' = a) ∧ tM E w' h ad f' a' ∧ fr tP w w') := by
  refine k_open (cc := cX6_placeAt) (maxL := 3) (ret := (some .int)) (by decide) rfl (Nat.le_of_ble_eq_true rfl) ?_
  intro p e s m args below meth c ls Q hx hb hr hml hown hts hlocks hname hQ hG hP hl hS
  have hl : lv_has ls 3 [(0, .ref h), (1, .int x), (2, .int y)] := hl
  obtain ⟨w0, hw0⟩ : ∃ z, z = w := ⟨_, rfl⟩
  have hF : fr tP w0 w := by rw [hw0]; exact fr.rf
  rw [← hw0] at hQ
  refine lv_aload_n hx hb dX6_placeAt_0 rfl (lv_at hl 0 rfl) ?_
  refine lv_aload_n hx hb dX6_placeAt_1 rfl (lv_at hl 0 rfl) ?_
  refine lv_iload_n hx hb dX6_placeAt_2 rfl (lv_at hl 1 rfl) ?_
  refine tw_cR hx hb hml hown hts (val := (bI (tKt (a 0) x))) (CX6_isKite l0 E w h ad f a x hM ) (cwV 1 hts (lw_V q1726 q1728 qs39 q81 q1729) rfl rfl rfl dyX6_isKite ⟨Nat.le_of_ble_eq_true rfl, Nat.le_of_ble_eq_true rfl⟩) hG hP hS hM (As := [.int x]) (rest := [.ref h]) rfl hl.1 rfl (lv_room (Nat.le_of_ble_eq_true rfl)) dX6_placeAt_3 ⟨by omega, by omega⟩ (fun H locs hP hS => ?_)
  refine k_ifneB (x := tKt (a 0) x) (tgt := 13) hx hb dX6_placeAt_6 (by decide) (fun c6 => ?_) (fun c6 => ?_)
  · skip
    obtain ⟨k, hk, rfl⟩ := tKt_of hm hmn c6
    have ck : (nI k).toNatClampNeg = k := nI_clamp (by omega)
    have h10 := tHt_le (a 0) k
    refine lv_iload_n hx hb dX6_placeAt_13 rfl (lv_at hl 2 rfl) ?_
    refine lv_iconst (v := 0) hx hb dX6_placeAt_14 (by decide) ?_
    refine lv_aload_n hx hb dX6_placeAt_15 rfl (lv_at hl 0 rfl) ?_
    refine lv_iload_n hx hb dX6_placeAt_16 rfl (lv_at hl 1 rfl) ?_
    refine tw_cR hx hb hml hown hts (val := (nI (tHt (a 0) k))) (CX6_height l0 E w h ad f a k hM (by omega)) (cwV 1 hts (lw_V q1766 q1768 qs44 q81 q1769) rfl rfl rfl dyX6_height ⟨Nat.le_of_ble_eq_true rfl, Nat.le_of_ble_eq_true rfl⟩) hG hP hS hM (As := [.int (nI k)]) (rest := [.int 0, .int y, .ref h]) rfl hl.1 rfl (lv_room (Nat.le_of_ble_eq_true rfl)) dX6_placeAt_17 ⟨by omega, by omega⟩ (fun H locs hP hS => ?_)
    refine lv_iconst (v := 1) hx hb dX6_placeAt_20 (by decide) ?_
    refine lv_isub hx hb dX6_placeAt_21 ?_
    refine k_cP hx hb hml hown hts (val := (bI (tin y 0 ((nI (tHt (a 0) k)) - 1)))) (CX6_in l0 E w y 0 ((nI (tHt (a 0) k)) - 1) ) (va_cwS 3 hts (lw_S q1692 q1693 q81 q1694) rfl rfl rfl dyX6_in ⟨Nat.le_of_ble_eq_true rfl, Nat.le_of_ble_eq_true rfl⟩) hG hP hS (As := [.int y, .int 0, .int ((nI (tHt (a 0) k)) - 1)]) (rest := [.ref h]) rfl hl.1 rfl (lv_room (Nat.le_of_ble_eq_true rfl)) dX6_placeAt_22 ⟨by omega, by omega⟩ (fun H locs hP hS => ?_)
    refine k_ifeqB (x := tin y 0 ((nI (tHt (a 0) k)) - 1)) (tgt := 32) hx hb dX6_placeAt_25 (by decide) (fun c25 => ?_) (fun c25 => ?_)
    · skip
      refine lv_iconst (v := 2) hx hb dX6_placeAt_32 (by decide) ?_
      refine tw_cW hx hb hml hown hts (CX6_fails l0 E w h ad f a 2 hM ) (cwV 1 hts (lw_V q1695 q1697 qs35 q81 q1698) rfl rfl rfl dyX6_fails ⟨Nat.le_of_ble_eq_true rfl, Nat.le_of_ble_eq_true rfl⟩) hG hP hS hM hF (As := [.int 2]) (rest := []) rfl hl.1 rfl (lv_room (Nat.le_of_ble_eq_true rfl)) dX6_placeAt_33 ⟨by omega, by omega⟩ (fun r33 f33 a33 w H locs hp hM hF hP hS => ?_)
      obtain ⟨hp0, hp1, hp2⟩ := hp
      have hM := hM.ofF hp1 hp2
      have hM : tM E w h ad (va_up f 13 2) a := hM
      refine k_top (y := (bI (decide (0 < 2)))) hp0 ?_
      refine k_ifeqB (x := decide (0 < 2)) (tgt := 43) hx hb dX6_placeAt_36 (by decide) (fun c36 => ?_) (fun c36 => ?_)
      · skip
        exact absurd c36 (by decide)
      · skip
        refine lv_iconst (v := 0) hx hb dX6_placeAt_39 (by decide) ?_
        refine lv_goto (tgt := 51) hx hb dX6_placeAt_40 (by decide) ?_
        have hq : qPat (a 0) (nI k) y = (2, 0) := by simp [qPat, ck, c6, c25, c36]
        exact k_iret hx hb hr hlocks hQ hP hS (by omega) (by omega) dX6_placeAt_51 (⟨_, _, ⟨by rw [hq], by rw [hq], rfl⟩, hM, hF⟩)
    · skip
      refine lv_iconst (v := 0) hx hb dX6_placeAt_28 (by decide) ?_
      refine lv_goto (tgt := 33) hx hb dX6_placeAt_29 (by decide) ?_
      refine tw_cW hx hb hml hown hts (CX6_fails l0 E w h ad f a 0 hM ) (cwV 1 hts (lw_V q1695 q1697 qs35 q81 q1698) rfl rfl rfl dyX6_fails ⟨Nat.le_of_ble_eq_true rfl, Nat.le_of_ble_eq_true rfl⟩) hG hP hS hM hF (As := [.int 0]) (rest := []) rfl hl.1 rfl (lv_room (Nat.le_of_ble_eq_true rfl)) dX6_placeAt_33 ⟨by omega, by omega⟩ (fun r33 f33 a33 w H locs hp hM hF hP hS => ?_)
      obtain ⟨hp0, hp1, hp2⟩ := hp
      have hM := hM.ofF hp1 hp2
      have hM : tM E w h ad (va_up f 13 0) a := hM
      refine k_top (y := (bI (decide (0 < 0)))) hp0 ?_
      refine k_ifeqB (x := decide (0 < 0)) (tgt := 43) hx hb dX6_placeAt_36 (by decide) (fun c36 => ?_) (fun c36 => ?_)
      · skip
        obtain ⟨j, hj, rfl⟩ := tin_P (by omega) c25
        have cj : (nI j).toNatClampNeg = j := nI_clamp (by omega)
        refine lv_aload_n hx hb dX6_placeAt_43 rfl (lv_at hl 0 rfl) ?_
        refine lv_iload_n hx hb dX6_placeAt_44 rfl (lv_at hl 1 rfl) ?_
        refine lv_iload_n hx hb dX6_placeAt_45 rfl (lv_at hl 2 rfl) ?_
        refine lv_iconst (v := 1) hx hb dX6_placeAt_46 (by decide) ?_
        refine k_iaddN (x := j) (y := 1) hx hb dX6_placeAt_47 ?_
        refine tw_cR hx hb hml hown hts (val := tPl (a 0) k (j + 1)) (CX6_place l0 E w h ad (va_up f 13 0) a k (j + 1) hM (by omega) (by omega)) (cwV 2 hts (lw_V q1789 q1791 qs49 q81 q1792) rfl rfl rfl dyX6_place ⟨Nat.le_of_ble_eq_true rfl, Nat.le_of_ble_eq_true rfl⟩) hG hP hS hM (As := [.int (nI k), .int (nI (j + 1))]) (rest := []) rfl hl.1 rfl (lv_room (Nat.le_of_ble_eq_true rfl)) dX6_placeAt_48 ⟨by omega, by omega⟩ (fun H locs hP hS => ?_)
        have hq : qPat (a 0) (nI k) (nI j) = (0, tPl (a 0) k (j + 1)) := by simp [qPat, ck, cj, c6, c25, c36]
        exact k_iret hx hb hr hlocks hQ hP hS (by omega) (by omega) dX6_placeAt_51 (⟨_, _, ⟨by rw [hq], by rw [hq], rfl⟩, hM, hF⟩)
      · skip
        exact absurd c36 (by decide)
  · skip
    refine lv_iconst (v := 1) hx hb dX6_placeAt_9 (by decide) ?_
    refine lv_goto (tgt := 33) hx hb dX6_placeAt_10 (by decide) ?_
    refine tw_cW hx hb hml hown hts (CX6_fails l0 E w h ad f a 1 hM ) (cwV 1 hts (lw_V q1695 q1697 qs35 q81 q1698) rfl rfl rfl dyX6_fails ⟨Nat.le_of_ble_eq_true rfl, Nat.le_of_ble_eq_true rfl⟩) hG hP hS hM hF (As := [.int 1]) (rest := []) rfl hl.1 rfl (lv_room (Nat.le_of_ble_eq_true rfl)) dX6_placeAt_33 ⟨by omega, by omega⟩ (fun r33 f33 a33 w H locs hp hM hF hP hS => ?_)
    obtain ⟨hp0, hp1, hp2⟩ := hp
    have hM := hM.ofF hp1 hp2
    have hM : tM E w h ad (va_up f 13 1) a := hM
    refine k_top (y := (bI (decide (0 < 1)))) hp0 ?_
    refine k_ifeqB (x := decide (0 < 1)) (tgt := 43) hx hb dX6_placeAt_36 (by decide) (fun c36 => ?_) (fun c36 => ?_)
    · skip
      exact absurd c36 (by decide)
    · skip
      refine lv_iconst (v := 0) hx hb dX6_placeAt_39 (by decide) ?_
      refine lv_goto (tgt := 51) hx hb dX6_placeAt_40 (by decide) ?_
      have hq : qPat (a 0) x y = (1, 0) := by simp [qPat, c6, c36]
      exact k_iret hx hb hr hlocks hQ hP hS (by omega) (by omega) dX6_placeAt_51 (⟨_, _, ⟨by rw [hq], by rw [hq], rfl⟩, hM, hF⟩)

abbrev rmCX6_crossing : Room := { frames := 5, cells := 0, slots := 0, locals := 114 }
theorem dyX6_crossing : yX6_crossing.cls = RX6 ∧ yX6_crossing.cls ≠ "java/lang/invoke/MethodHandle" ∧ yX6_crossing.cls ≠ "java/lang/invoke/VarHandle" ∧ (parseMethodDescriptor yX6_crossing.desc).map (fun d => d.parameters.length) = some 2 := by decide +kernel
set_option maxHeartbeats 4000000 in
theorem CX6_crossing (l0 : Launch) (E : gE) (w : wd) (h : Nat) (ad : Nat → Nat) (f : Nat → Int32) (a : Nat → Nat → Int32) (x : Int32) (y : Int32) (mn : Nat) (hM : tM E w h ad f a) (hmn : mn ≤ 6) (hm : (a 0) 25 = nI mn) : kC l0 yX6_crossing (ws_ yX6_crossing cX6_crossing 3 (some .int)) rmCX6_crossing 0 0 mI E w [.ref h, .int x, .int y] (fun r w' => ∃ f' a', (r = (qCro (a 0) x y).2 ∧ f' = va_up f 13 (qCro (a 0) x y).1 ∧ a' = a) ∧ tM E w' h ad f' a' ∧ fr tP w w') := by
  refine k_open (cc := cX6_crossing) (maxL := 3) (ret := (some .int)) (by decide) rfl (Nat.le_of_ble_eq_true rfl) ?_
  intro p e s m args below meth c ls Q hx hb hr hml hown hts hlocks hname hQ hG hP hl hS
  have hl : lv_has ls 3 [(0, .ref h), (1, .int x), (2, .int y)] := hl
  obtain ⟨w0, hw0⟩ : ∃ z, z = w := ⟨_, rfl⟩
  have hF : fr tP w0 w := by rw [hw0]; exact fr.rf
  rw [← hw0] at hQ
  refine lv_aload_n hx hb dX6_crossing_0 rfl (lv_at hl 0 rfl) ?_
  refine lv_aload_n hx hb dX6_crossing_1 rfl (lv_at hl 0 rfl) ?_
  refine lv_iload_n hx hb dX6_crossing_2 rfl (lv_at hl 1 rfl) ?_
  refine tw_cR hx hb hml hown hts (val := (bI (tKt (a 0) x))) (CX6_isKite l0 E w h ad f a x hM ) (cwV 1 hts (lw_V q1726 q1728 qs39 q81 q1729) rfl rfl rfl dyX6_isKite ⟨Nat.le_of_ble_eq_true rfl, Nat.le_of_ble_eq_true rfl⟩) hG hP hS hM (As := [.int x]) (rest := [.ref h]) rfl hl.1 rfl (lv_room (Nat.le_of_ble_eq_true rfl)) dX6_crossing_3 ⟨by omega, by omega⟩ (fun H locs hP hS => ?_)
  refine k_ifeqB (x := tKt (a 0) x) (tgt := 21) hx hb dX6_crossing_6 (by decide) (fun c6 => ?_) (fun c6 => ?_)
  · skip
    refine lv_iconst (v := 1) hx hb dX6_crossing_21 (by decide) ?_
    refine tw_cW hx hb hml hown hts (CX6_fails l0 E w h ad f a 1 hM ) (cwV 1 hts (lw_V q1695 q1697 qs35 q81 q1698) rfl rfl rfl dyX6_fails ⟨Nat.le_of_ble_eq_true rfl, Nat.le_of_ble_eq_true rfl⟩) hG hP hS hM hF (As := [.int 1]) (rest := []) rfl hl.1 rfl (lv_room (Nat.le_of_ble_eq_true rfl)) dX6_crossing_22 ⟨by omega, by omega⟩ (fun r22 f22 a22 w H locs hp hM hF hP hS => ?_)
    obtain ⟨hp0, hp1, hp2⟩ := hp
    have hM := hM.ofF hp1 hp2
    have hM : tM E w h ad (va_up f 13 1) a := hM
    refine k_top (y := (bI (decide (0 < 1)))) hp0 ?_
    refine k_ifeqB (x := decide (0 < 1)) (tgt := 32) hx hb dX6_crossing_25 (by decide) (fun c25 => ?_) (fun c25 => ?_)
    · skip
      exact absurd c25 (by decide)
    · skip
      refine lv_iconst (v := 0) hx hb dX6_crossing_28 (by decide) ?_
      refine lv_goto (tgt := 38) hx hb dX6_crossing_29 (by decide) ?_
      have hq : qCro (a 0) x y = (1, 0) := by simp [qCro, c6, c25]
      exact k_iret hx hb hr hlocks hQ hP hS (by omega) (by omega) dX6_crossing_38 (⟨_, _, ⟨by rw [hq], by rw [hq], rfl⟩, hM, hF⟩)
  · skip
    refine lv_aload_n hx hb dX6_crossing_9 rfl (lv_at hl 0 rfl) ?_
    refine lv_iload_n hx hb dX6_crossing_10 rfl (lv_at hl 2 rfl) ?_
    refine tw_cR hx hb hml hown hts (val := (bI (tKt (a 0) y))) (CX6_isKite l0 E w h ad f a y hM ) (cwV 1 hts (lw_V q1726 q1728 qs39 q81 q1729) rfl rfl rfl dyX6_isKite ⟨Nat.le_of_ble_eq_true rfl, Nat.le_of_ble_eq_true rfl⟩) hG hP hS hM (As := [.int y]) (rest := [.ref h]) rfl hl.1 rfl (lv_room (Nat.le_of_ble_eq_true rfl)) dX6_crossing_11 ⟨by omega, by omega⟩ (fun H locs hP hS => ?_)
    refine k_ifeqB (x := tKt (a 0) y) (tgt := 21) hx hb dX6_crossing_14 (by decide) (fun c14 => ?_) (fun c14 => ?_)
    · skip
      refine lv_iconst (v := 1) hx hb dX6_crossing_21 (by decide) ?_
      refine tw_cW hx hb hml hown hts (CX6_fails l0 E w h ad f a 1 hM ) (cwV 1 hts (lw_V q1695 q1697 qs35 q81 q1698) rfl rfl rfl dyX6_fails ⟨Nat.le_of_ble_eq_true rfl, Nat.le_of_ble_eq_true rfl⟩) hG hP hS hM hF (As := [.int 1]) (rest := []) rfl hl.1 rfl (lv_room (Nat.le_of_ble_eq_true rfl)) dX6_crossing_22 ⟨by omega, by omega⟩ (fun r22 f22 a22 w H locs hp hM hF hP hS => ?_)
      obtain ⟨hp0, hp1, hp2⟩ := hp
      have hM := hM.ofF hp1 hp2
      have hM : tM E w h ad (va_up f 13 1) a := hM
      refine k_top (y := (bI (decide (0 < 1)))) hp0 ?_
      refine k_ifeqB (x := decide (0 < 1)) (tgt := 32) hx hb dX6_crossing_25 (by decide) (fun c25 => ?_) (fun c25 => ?_)
      · skip
        exact absurd c25 (by decide)
      · skip
        refine lv_iconst (v := 0) hx hb dX6_crossing_28 (by decide) ?_
        refine lv_goto (tgt := 38) hx hb dX6_crossing_29 (by decide) ?_
        have hq : qCro (a 0) x y = (1, 0) := by simp [qCro, c6, c14, c25]
        exact k_iret hx hb hr hlocks hQ hP hS (by omega) (by omega) dX6_crossing_38 (⟨_, _, ⟨by rw [hq], by rw [hq], rfl⟩, hM, hF⟩)
    · skip
      refine lv_iconst (v := 0) hx hb dX6_crossing_17 (by decide) ?_
      refine lv_goto (tgt := 22) hx hb dX6_crossing_18 (by decide) ?_
      refine tw_cW hx hb hml hown hts (CX6_fails l0 E w h ad f a 0 hM ) (cwV 1 hts (lw_V q1695 q1697 qs35 q81 q1698) rfl rfl rfl dyX6_fails ⟨Nat.le_of_ble_eq_true rfl, Nat.le_of_ble_eq_true rfl⟩) hG hP hS hM hF (As := [.int 0]) (rest := []) rfl hl.1 rfl (lv_room (Nat.le_of_ble_eq_true rfl)) dX6_crossing_22 ⟨by omega, by omega⟩ (fun r22 f22 a22 w H locs hp hM hF hP hS => ?_)
      obtain ⟨hp0, hp1, hp2⟩ := hp
      have hM := hM.ofF hp1 hp2
      have hM : tM E w h ad (va_up f 13 0) a := hM
      refine k_top (y := (bI (decide (0 < 0)))) hp0 ?_
      refine k_ifeqB (x := decide (0 < 0)) (tgt := 32) hx hb dX6_crossing_25 (by decide) (fun c25 => ?_) (fun c25 => ?_)
      · skip
        obtain ⟨k, hk, rfl⟩ := tKt_of hm hmn c6
        have ck : (nI k).toNatClampNeg = k := nI_clamp (by omega)
        obtain ⟨j, hj, rfl⟩ := tKt_of hm hmn c14
        have cj : (nI j).toNatClampNeg = j := nI_clamp (by omega)
        refine lv_aload_n hx hb dX6_crossing_32 rfl (lv_at hl 0 rfl) ?_
        refine lv_iload_n hx hb dX6_crossing_33 rfl (lv_at hl 1 rfl) ?_
        refine lv_iload_n hx hb dX6_crossing_34 rfl (lv_at hl 2 rfl) ?_
        refine tw_cR hx hb hml hown hts (val := oI (tCr (a 0) k j)) (CX6_crosses l0 E w h ad (va_up f 13 0) a k j hM (by omega) (by omega)) (cwV 2 hts (lw_V q1813 q1815 qs51 q81 q1816) rfl rfl rfl dyX6_crosses ⟨Nat.le_of_ble_eq_true rfl, Nat.le_of_ble_eq_true rfl⟩) hG hP hS hM (As := [.int (nI k), .int (nI j)]) (rest := []) rfl hl.1 rfl (lv_room (Nat.le_of_ble_eq_true rfl)) dX6_crossing_35 ⟨by omega, by omega⟩ (fun H locs hP hS => ?_)
        have hq : qCro (a 0) (nI k) (nI j) = (0, oI (tCr (a 0) k j)) := by simp [qCro, ck, cj, c6, c14, c25]
        exact k_iret hx hb hr hlocks hQ hP hS (by omega) (by omega) dX6_crossing_38 (⟨_, _, ⟨by rw [hq], by rw [hq], rfl⟩, hM, hF⟩)
      · skip
        exact absurd c25 (by decide)

abbrev rmCX6_wears : Room := { frames := 7, cells := 0, slots := 0, locals := 159 }
theorem dyX6_wears : yX6_wears.cls = RX6 ∧ yX6_wears.cls ≠ "java/lang/invoke/MethodHandle" ∧ yX6_wears.cls ≠ "java/lang/invoke/VarHandle" ∧ (parseMethodDescriptor yX6_wears.desc).map (fun d => d.parameters.length) = some 1 := by decide +kernel
set_option maxHeartbeats 4000000 in
theorem CX6_wears (l0 : Launch) (E : gE) (w : wd) (h : Nat) (ad : Nat → Nat) (f : Nat → Int32) (a : Nat → Nat → Int32) (x : Int32) (mn : Nat) (hM : tM E w h ad f a) (hmn : mn ≤ 6) (hm : (a 0) 25 = nI mn) : kC l0 yX6_wears (ws_ yX6_wears cX6_wears 2 (some .int)) rmCX6_wears 0 0 mI E w [.ref h, .int x] (fun r w' => ∃ f' a', (r = (qWea (a 0) mn x).2 ∧ f' = va_up f 13 (qWea (a 0) mn x).1 ∧ a' = a) ∧ tM E w' h ad f' a' ∧ fr tP w w') := by
  refine k_open (cc := cX6_wears) (maxL := 2) (ret := (some .int)) (by decide) rfl (Nat.le_of_ble_eq_true rfl) ?_
  intro p e s m args below meth c ls Q hx hb hr hml hown hts hlocks hname hQ hG hP hl hS
  have hl : lv_has ls 2 [(0, .ref h), (1, .int x)] := hl
  obtain ⟨w0, hw0⟩ : ∃ z, z = w := ⟨_, rfl⟩
  have hF : fr tP w0 w := by rw [hw0]; exact fr.rf
  rw [← hw0] at hQ
  refine lv_aload_n hx hb dX6_wears_0 rfl (lv_at hl 0 rfl) ?_
  refine lv_aload_n hx hb dX6_wears_1 rfl (lv_at hl 0 rfl) ?_
  refine lv_iload_n hx hb dX6_wears_2 rfl (lv_at hl 1 rfl) ?_
  refine tw_cR hx hb hml hown hts (val := (bI (tKt (a 0) x))) (CX6_isKite l0 E w h ad f a x hM ) (cwV 1 hts (lw_V q1726 q1728 qs39 q81 q1729) rfl rfl rfl dyX6_isKite ⟨Nat.le_of_ble_eq_true rfl, Nat.le_of_ble_eq_true rfl⟩) hG hP hS hM (As := [.int x]) (rest := [.ref h]) rfl hl.1 rfl (lv_room (Nat.le_of_ble_eq_true rfl)) dX6_wears_3 ⟨by omega, by omega⟩ (fun H locs hP hS => ?_)
  refine k_ifeqB (x := tKt (a 0) x) (tgt := 13) hx hb dX6_wears_6 (by decide) (fun c6 => ?_) (fun c6 => ?_)
  · skip
    refine lv_iconst (v := 1) hx hb dX6_wears_13 (by decide) ?_
    refine tw_cW hx hb hml hown hts (CX6_fails l0 E w h ad f a 1 hM ) (cwV 1 hts (lw_V q1695 q1697 qs35 q81 q1698) rfl rfl rfl dyX6_fails ⟨Nat.le_of_ble_eq_true rfl, Nat.le_of_ble_eq_true rfl⟩) hG hP hS hM hF (As := [.int 1]) (rest := []) rfl hl.1 rfl (lv_room (Nat.le_of_ble_eq_true rfl)) dX6_wears_14 ⟨by omega, by omega⟩ (fun r14 f14 a14 w H locs hp hM hF hP hS => ?_)
    obtain ⟨hp0, hp1, hp2⟩ := hp
    have hM := hM.ofF hp1 hp2
    have hM : tM E w h ad (va_up f 13 1) a := hM
    refine k_top (y := (bI (decide (0 < 1)))) hp0 ?_
    refine k_ifeqB (x := decide (0 < 1)) (tgt := 24) hx hb dX6_wears_17 (by decide) (fun c17 => ?_) (fun c17 => ?_)
    · skip
      exact absurd c17 (by decide)
    · skip
      refine lv_iconst (v := 0) hx hb dX6_wears_20 (by decide) ?_
      refine lv_goto (tgt := 29) hx hb dX6_wears_21 (by decide) ?_
      have hq : qWea (a 0) mn x = (1, 0) := by simp [qWea, c6, c17]
      exact k_iret hx hb hr hlocks hQ hP hS (by omega) (by omega) dX6_wears_29 (⟨_, _, ⟨by rw [hq], by rw [hq], rfl⟩, hM, hF⟩)
  · skip
    refine lv_iconst (v := 0) hx hb dX6_wears_9 (by decide) ?_
    refine lv_goto (tgt := 14) hx hb dX6_wears_10 (by decide) ?_
    refine tw_cW hx hb hml hown hts (CX6_fails l0 E w h ad f a 0 hM ) (cwV 1 hts (lw_V q1695 q1697 qs35 q81 q1698) rfl rfl rfl dyX6_fails ⟨Nat.le_of_ble_eq_true rfl, Nat.le_of_ble_eq_true rfl⟩) hG hP hS hM hF (As := [.int 0]) (rest := []) rfl hl.1 rfl (lv_room (Nat.le_of_ble_eq_true rfl)) dX6_wears_14 ⟨by omega, by omega⟩ (fun r14 f14 a14 w H locs hp hM hF hP hS => ?_)
    obtain ⟨hp0, hp1, hp2⟩ := hp
    have hM := hM.ofF hp1 hp2
    have hM : tM E w h ad (va_up f 13 0) a := hM
    refine k_top (y := (bI (decide (0 < 0)))) hp0 ?_
    refine k_ifeqB (x := decide (0 < 0)) (tgt := 24) hx hb dX6_wears_17 (by decide) (fun c17 => ?_) (fun c17 => ?_)
    · skip
      obtain ⟨k, hk, rfl⟩ := tKt_of hm hmn c6
      have ck : (nI k).toNatClampNeg = k := nI_clamp (by omega)
      refine lv_aload_n hx hb dX6_wears_24 rfl (lv_at hl 0 rfl) ?_
      refine lv_iload_n hx hb dX6_wears_25 rfl (lv_at hl 1 rfl) ?_
      refine tw_cR hx hb hml hown hts (val := tWn (a 0) k mn) (CX6_wearsNow l0 E w h ad (va_up f 13 0) a k mn hM (by omega) (by omega) hm) (cwV 1 hts (lw_V q1824 q1826 qs52 q81 q1827) rfl rfl rfl dyX6_wearsNow ⟨Nat.le_of_ble_eq_true rfl, Nat.le_of_ble_eq_true rfl⟩) hG hP hS hM (As := [.int (nI k)]) (rest := []) rfl hl.1 rfl (lv_room (Nat.le_of_ble_eq_true rfl)) dX6_wears_26 ⟨by omega, by omega⟩ (fun H locs hP hS => ?_)
      have hq : qWea (a 0) mn (nI k) = (0, tWn (a 0) k mn) := by simp [qWea, ck, c6, c17]
      exact k_iret hx hb hr hlocks hQ hP hS (by omega) (by omega) dX6_wears_29 (⟨_, _, ⟨by rw [hq], by rw [hq], rfl⟩, hM, hF⟩)
    · skip
      exact absurd c17 (by decide)

abbrev rmCX6_cause : Room := { frames := 2, cells := 0, slots := 0, locals := 43 }
theorem dyX6_cause : yX6_cause.cls = RX6 ∧ yX6_cause.cls ≠ "java/lang/invoke/MethodHandle" ∧ yX6_cause.cls ≠ "java/lang/invoke/VarHandle" ∧ (parseMethodDescriptor yX6_cause.desc).map (fun d => d.parameters.length) = some 2 := by decide +kernel
set_option maxHeartbeats 4000000 in
theorem CX6_cause (l0 : Launch) (E : gE) (w : wd) (h : Nat) (ad : Nat → Nat) (f : Nat → Int32) (a : Nat → Nat → Int32) (x : Int32) (y : Int32) (mn : Nat) (hM : tM E w h ad f a) (hmn : mn ≤ 6) (hm : (a 0) 25 = nI mn) : kC l0 yX6_cause (ws_ yX6_cause cX6_cause 5 (some .int)) rmCX6_cause 0 0 mI E w [.ref h, .int x, .int y] (fun r w' => ∃ f' a', (r = (qCau (a 0) x y).2 ∧ f' = va_up f 13 (qCau (a 0) x y).1 ∧ a' = a) ∧ tM E w' h ad f' a' ∧ fr tP w w') := by
  refine k_open (cc := cX6_cause) (maxL := 5) (ret := (some .int)) (by decide) rfl (Nat.le_of_ble_eq_true rfl) ?_
  intro p e s m args below meth c ls Q hx hb hr hml hown hts hlocks hname hQ hG hP hl hS
  have hl : lv_has ls 5 [(0, .ref h), (1, .int x), (2, .int y)] := hl
  obtain ⟨w0, hw0⟩ : ∃ z, z = w := ⟨_, rfl⟩
  have hF : fr tP w0 w := by rw [hw0]; exact fr.rf
  rw [← hw0] at hQ
  refine lv_aload_n hx hb dX6_cause_0 rfl (lv_at hl 0 rfl) ?_
  refine lv_aload_n hx hb dX6_cause_1 rfl (lv_at hl 0 rfl) ?_
  refine lv_iload_n hx hb dX6_cause_2 rfl (lv_at hl 1 rfl) ?_
  refine tw_cR hx hb hml hown hts (val := (bI (tKt (a 0) x))) (CX6_isKite l0 E w h ad f a x hM ) (cwV 1 hts (lw_V q1726 q1728 qs39 q81 q1729) rfl rfl rfl dyX6_isKite ⟨Nat.le_of_ble_eq_true rfl, Nat.le_of_ble_eq_true rfl⟩) hG hP hS hM (As := [.int x]) (rest := [.ref h]) rfl hl.1 rfl (lv_room (Nat.le_of_ble_eq_true rfl)) dX6_cause_3 ⟨by omega, by omega⟩ (fun H locs hP hS => ?_)
  refine k_ifeqB (x := tKt (a 0) x) (tgt := 13) hx hb dX6_cause_6 (by decide) (fun c6 => ?_) (fun c6 => ?_)
  · skip
    refine lv_iconst (v := 1) hx hb dX6_cause_13 (by decide) ?_
    refine tw_cW hx hb hml hown hts (CX6_fails l0 E w h ad f a 1 hM ) (cwV 1 hts (lw_V q1695 q1697 qs35 q81 q1698) rfl rfl rfl dyX6_fails ⟨Nat.le_of_ble_eq_true rfl, Nat.le_of_ble_eq_true rfl⟩) hG hP hS hM hF (As := [.int 1]) (rest := []) rfl hl.1 rfl (lv_room (Nat.le_of_ble_eq_true rfl)) dX6_cause_14 ⟨by omega, by omega⟩ (fun r14 f14 a14 w H locs hp hM hF hP hS => ?_)
    obtain ⟨hp0, hp1, hp2⟩ := hp
    have hM := hM.ofF hp1 hp2
    have hM : tM E w h ad (va_up f 13 1) a := hM
    refine k_top (y := (bI (decide (0 < 1)))) hp0 ?_
    refine k_ifeqB (x := decide (0 < 1)) (tgt := 22) hx hb dX6_cause_17 (by decide) (fun c17 => ?_) (fun c17 => ?_)
    · skip
      exact absurd c17 (by decide)
    · skip
      refine lv_iconst (v := 0) hx hb dX6_cause_20 (by decide) ?_
      have hq : qCau (a 0) x y = (1, 0) := by simp [qCau, oP, c6, c17]
      exact k_iret hx hb hr hlocks hQ hP hS (by omega) (by omega) dX6_cause_21 (⟨_, _, ⟨by rw [hq], by rw [hq], rfl⟩, hM, hF⟩)
  · skip
    refine lv_iconst (v := 0) hx hb dX6_cause_9 (by decide) ?_
    refine lv_goto (tgt := 14) hx hb dX6_cause_10 (by decide) ?_
    refine tw_cW hx hb hml hown hts (CX6_fails l0 E w h ad f a 0 hM ) (cwV 1 hts (lw_V q1695 q1697 qs35 q81 q1698) rfl rfl rfl dyX6_fails ⟨Nat.le_of_ble_eq_true rfl, Nat.le_of_ble_eq_true rfl⟩) hG hP hS hM hF (As := [.int 0]) (rest := []) rfl hl.1 rfl (lv_room (Nat.le_of_ble_eq_true rfl)) dX6_cause_14 ⟨by omega, by omega⟩ (fun r14 f14 a14 w H locs hp hM hF hP hS => ?_)
    obtain ⟨hp0, hp1, hp2⟩ := hp
    have hM := hM.ofF hp1 hp2
    have hM : tM E w h ad (va_up f 13 0) a := hM
    refine k_top (y := (bI (decide (0 < 0)))) hp0 ?_
    refine k_ifeqB (x := decide (0 < 0)) (tgt := 22) hx hb dX6_cause_17 (by decide) (fun c17 => ?_) (fun c17 => ?_)
    · skip
      obtain ⟨k, hk, rfl⟩ := tKt_of hm hmn c6
      have ck : (nI k).toNatClampNeg = k := nI_clamp (by omega)
      refine lv_aload_n hx hb dX6_cause_22 rfl (lv_at hl 0 rfl) ?_
      refine lv_aload_n hx hb dX6_cause_23 rfl (lv_at hl 0 rfl) ?_
      refine lv_iload_n hx hb dX6_cause_24 rfl (lv_at hl 1 rfl) ?_
      refine lv_iconst (v := 0) hx hb dX6_cause_25 (by decide) ?_
      refine tw_cR hx hb hml hown hts (val := (a 0) (kO k 0)) (CX6_of l0 E w h ad (va_up f 13 0) a k 0 hM (by omega) (by omega)) (cwV 2 hts (lw_V q1730 q1732 qs40 q81 q1733) rfl rfl rfl dyX6_of ⟨Nat.le_of_ble_eq_true rfl, Nat.le_of_ble_eq_true rfl⟩) hG hP hS hM (As := [.int (nI k), .int 0]) (rest := [.ref h]) rfl hl.1 rfl (lv_room (Nat.le_of_ble_eq_true rfl)) dX6_cause_26 ⟨by omega, by omega⟩ (fun H locs hP hS => ?_)
      refine lv_iconst (v := 2) hx hb dX6_cause_29 (by decide) ?_
      refine lv_icmp_ne (tgt := 41) hx hb dX6_cause_30 (by decide) (fun c30 => ?_) (fun c30 => ?_)
      · skip
        refine lv_iconst (v := 2) hx hb dX6_cause_41 (by decide) ?_
        refine tw_cW hx hb hml hown hts (CX6_fails l0 E w h ad (va_up f 13 0) a 2 hM ) (cwV 1 hts (lw_V q1695 q1697 qs35 q81 q1698) rfl rfl rfl dyX6_fails ⟨Nat.le_of_ble_eq_true rfl, Nat.le_of_ble_eq_true rfl⟩) hG hP hS hM hF (As := [.int 2]) (rest := []) rfl hl.1 rfl (lv_room (Nat.le_of_ble_eq_true rfl)) dX6_cause_42 ⟨by omega, by omega⟩ (fun r42 f42 a42 w H locs hp hM hF hP hS => ?_)
        obtain ⟨hp0, hp1, hp2⟩ := hp
        have hM := hM.ofF hp1 hp2
        have hM : tM E w h ad (va_up (va_up f 13 0) 13 2) a := hM
        refine k_top (y := (bI (decide (0 < 2)))) hp0 ?_
        refine k_ifeqB (x := decide (0 < 2)) (tgt := 50) hx hb dX6_cause_45 (by decide) (fun c45 => ?_) (fun c45 => ?_)
        · skip
          exact absurd c45 (by decide)
        · skip
          refine lv_iconst (v := 0) hx hb dX6_cause_48 (by decide) ?_
          have hq : qCau (a 0) (nI k) y = (2, 0) := by simp [qCau, oP, ck, c6, c17, c30, c45]
          exact k_iret hx hb hr hlocks hQ hP hS (by omega) (by omega) dX6_cause_49 (⟨_, _, ⟨by rw [hq], by rw [hq, bx_uu], rfl⟩, hM, hF⟩)
      · skip
        refine lv_iload_n hx hb dX6_cause_33 rfl (lv_at hl 2 rfl) ?_
        refine lv_if_lt (tgt := 41) hx hb dX6_cause_34 (by decide) (fun c34 => ?_) (fun c34 => ?_)
        · skip
          refine lv_iconst (v := 2) hx hb dX6_cause_41 (by decide) ?_
          refine tw_cW hx hb hml hown hts (CX6_fails l0 E w h ad (va_up f 13 0) a 2 hM ) (cwV 1 hts (lw_V q1695 q1697 qs35 q81 q1698) rfl rfl rfl dyX6_fails ⟨Nat.le_of_ble_eq_true rfl, Nat.le_of_ble_eq_true rfl⟩) hG hP hS hM hF (As := [.int 2]) (rest := []) rfl hl.1 rfl (lv_room (Nat.le_of_ble_eq_true rfl)) dX6_cause_42 ⟨by omega, by omega⟩ (fun r42 f42 a42 w H locs hp hM hF hP hS => ?_)
          obtain ⟨hp0, hp1, hp2⟩ := hp
          have hM := hM.ofF hp1 hp2
          have hM : tM E w h ad (va_up (va_up f 13 0) 13 2) a := hM
          refine k_top (y := (bI (decide (0 < 2)))) hp0 ?_
          refine k_ifeqB (x := decide (0 < 2)) (tgt := 50) hx hb dX6_cause_45 (by decide) (fun c45 => ?_) (fun c45 => ?_)
          · skip
            exact absurd c45 (by decide)
          · skip
            refine lv_iconst (v := 0) hx hb dX6_cause_48 (by decide) ?_
            have hq : qCau (a 0) (nI k) y = (2, 0) := by simp [qCau, oP, ck, c6, c17, c30, c34, c45]
            exact k_iret hx hb hr hlocks hQ hP hS (by omega) (by omega) dX6_cause_49 (⟨_, _, ⟨by rw [hq], by rw [hq, bx_uu], rfl⟩, hM, hF⟩)
        · skip
          refine lv_iconst (v := 0) hx hb dX6_cause_37 (by decide) ?_
          refine lv_goto (tgt := 42) hx hb dX6_cause_38 (by decide) ?_
          refine tw_cW hx hb hml hown hts (CX6_fails l0 E w h ad (va_up f 13 0) a 0 hM ) (cwV 1 hts (lw_V q1695 q1697 qs35 q81 q1698) rfl rfl rfl dyX6_fails ⟨Nat.le_of_ble_eq_true rfl, Nat.le_of_ble_eq_true rfl⟩) hG hP hS hM hF (As := [.int 0]) (rest := []) rfl hl.1 rfl (lv_room (Nat.le_of_ble_eq_true rfl)) dX6_cause_42 ⟨by omega, by omega⟩ (fun r42 f42 a42 w H locs hp hM hF hP hS => ?_)
          obtain ⟨hp0, hp1, hp2⟩ := hp
          have hM := hM.ofF hp1 hp2
          have hM : tM E w h ad (va_up (va_up f 13 0) 13 0) a := hM
          refine k_top (y := (bI (decide (0 < 0)))) hp0 ?_
          refine k_ifeqB (x := decide (0 < 0)) (tgt := 50) hx hb dX6_cause_45 (by decide) (fun c45 => ?_) (fun c45 => ?_)
          · skip
            refine lv_iload_n hx hb dX6_cause_50 rfl (lv_at hl 2 rfl) ?_
            refine lv_iconst (v := 2) hx hb dX6_cause_51 (by decide) ?_
            refine lv_icmp_ge (tgt := 72) hx hb dX6_cause_52 (by decide) (fun c52 => ?_) (fun c52 => ?_)
            · skip
              refine lv_iconst (v := 2) hx hb dX6_cause_72 (by decide) ?_
              refine lv_istore_n (lv' := [(3, .int 2), (0, .ref h), (1, .int (nI k)), (2, .int y)]) hx hb dX6_cause_73 rfl hl (by decide) rfl (fun ls hl => ?_)
              refine lv_iconst (v := 0) hx hb dX6_cause_74 (by decide) ?_
              refine lv_istore (lv' := [(4, .int 0), (3, .int 2), (0, .ref h), (1, .int (nI k)), (2, .int y)]) hx hb dX6_cause_75 hl (by decide) rfl (fun ls hl => ?_)
              have hloop_77 : ∀ (n9_77 : Nat) (q : Nat) (o : Nat) (z : Int32), (q + o = 6) → (tCs ((a 0) (kO k 11)) y q o z = tCs ((a 0) (kO k 11)) y 6 0 2) → q < n9_77 → ∀ (w : wd) (H : Heap) (locs : List Loc) (ls : Array Slot), tM E w h ad (va_up (va_up f 13 0) 13 0) a → fr tP w0 w → wP E w H → va_S (gA E) s.heap H locs → lv_has ls 5 [(4, .int (nI o)), (3, .int z), (0, .ref h), (1, .int (nI k)), (2, .int y)] → W p l0 e rmCX6_cause s m args below meth c H locs 0 0 Q (F0 m 77 ls []) := by
                intro n9_77
                induction n9_77 with
                | zero => intro q o z hq hv hn; exact absurd hn (Nat.not_lt_zero _)
                | succ n9_77 ih_77 =>
                  intro q o z hq hv hn_77 w H locs ls hM hF hP hS hl
                  refine lv_iload hx hb dX6_cause_77 (lv_at hl 0 rfl) ?_
                  refine lv_bipush (v := 6) hx hb dX6_cause_79 (by decide) ?_
                  refine k_icmp_geN (x := o) (y := 6) (tgt := 119) hx hb (by omega) (by omega) dX6_cause_81 (by decide) (fun c81 => ?_) (fun c81 => ?_)
                  · skip
                    refine lv_aload_n hx hb dX6_cause_119 rfl (lv_at hl 2 rfl) ?_
                    refine lv_iconst (v := 2) hx hb dX6_cause_120 (by decide) ?_
                    refine tw_put hx hb hts hown hG hP hS hM hF 13 (by decide) (hts _ q1633) (fun _ h9 => h9) rfl (ty := .int) (v := 2) rfl rfl rfl rfl dX6_cause_121 (fun w H locs hM hF hP hS => ?_)
                    refine lv_iconst (v := 0) hx hb dX6_cause_124 (by decide) ?_
                    have hq : qCau (a 0) (nI k) y = (2, 0) := by have e : tCs ((a 0) (kO k 11)) y 6 0 2 = none := (by rw [← hv]; obtain rfl : q = 0 := (by omega); rfl); simp [qCau, ck, c6, c30, c34, c52, e, oP]
                    exact k_iret hx hb hr hlocks hQ hP hS (by omega) (by omega) dX6_cause_125 (⟨_, _, ⟨by rw [hq], by rw [hq, bx_uu, bx_uu], rfl⟩, hM, hF⟩)
                  · skip
                    obtain ⟨q, rfl⟩ : ∃ z, q = z + 1 := ⟨q - 1, by omega⟩
                    refine lv_aload_n hx hb dX6_cause_84 rfl (lv_at hl 2 rfl) ?_
                    refine lv_iload_n hx hb dX6_cause_85 rfl (lv_at hl 3 rfl) ?_
                    refine lv_bipush (v := 11) hx hb dX6_cause_86 (by decide) ?_
                    refine tw_cR hx hb hml hown hts (val := (a 0) (kO k 11)) (CX6_of l0 E w h ad (va_up (va_up f 13 0) 13 0) a k 11 hM (by omega) (by omega)) (cwV 2 hts (lw_V q1730 q1732 qs40 q81 q1733) rfl rfl rfl dyX6_of ⟨Nat.le_of_ble_eq_true rfl, Nat.le_of_ble_eq_true rfl⟩) hG hP hS hM (As := [.int (nI k), .int 11]) (rest := []) rfl hl.1 rfl (lv_room (Nat.le_of_ble_eq_true rfl)) dX6_cause_88 ⟨by omega, by omega⟩ (fun H locs hP hS => ?_)
                    refine lv_iload hx hb dX6_cause_91 (lv_at hl 0 rfl) ?_
                    refine lv_ishr hx hb dX6_cause_93 ?_
                    refine lv_iconst (v := 1) hx hb dX6_cause_94 (by decide) ?_
                    refine lv_iand hx hb dX6_cause_95 ?_
                    refine lv_if_ne (tgt := 102) hx hb dX6_cause_96 (by decide) (fun c96 => ?_) (fun c96 => ?_)
                    · skip
                      refine lv_iload_n hx hb dX6_cause_102 rfl (lv_at hl 1 rfl) ?_
                      refine lv_iload_n hx hb dX6_cause_103 rfl (lv_at hl 4 rfl) ?_
                      refine lv_icmp_ne (tgt := 110) hx hb dX6_cause_104 (by decide) (fun c104 => ?_) (fun c104 => ?_)
                      · skip
                        refine lv_iinc (v := (z + 1)) (lv' := [(3, .int (z + 1)), (4, .int (nI o)), (0, .ref h), (1, .int (nI k)), (2, .int y)]) hx hb dX6_cause_110 hl (k := 1) rfl rfl (by decide) rfl (fun ls hl => ?_)
                        refine lv_iinc (v := (nI (o + 1))) (lv' := [(4, .int (nI (o + 1))), (3, .int (z + 1)), (0, .ref h), (1, .int (nI k)), (2, .int y)]) hx hb dX6_cause_113 hl (k := 1) rfl (nI_add o 1) (by decide) rfl (fun ls hl => ?_)
                        refine lv_goto (tgt := 77) hx hb dX6_cause_116 (by decide) ?_
                        have hl : lv_has ls 5 [(4, .int (nI (o + 1))), (3, .int (z + 1)), (0, .ref h), (1, .int (nI k)), (2, .int y)] := hl
                        exact ih_77 q (o + 1) (z + 1) (by omega) (by rw [← hv, tCs, if_neg c96, if_neg c104]) (by omega) _ _ _ _ hM hF hP hS hl
                      · skip
                        refine lv_iload hx hb dX6_cause_107 (lv_at hl 0 rfl) ?_
                        have hq : qCau (a 0) (nI k) y = (0, (nI o)) := by have e : tCs ((a 0) (kO k 11)) y 6 0 2 = some o := (by rw [← hv, tCs, if_neg c96, if_pos c104]); simp [qCau, ck, c6, c30, c34, c52, e, oP]
                        exact k_iret hx hb hr hlocks hQ hP hS (by omega) (by omega) dX6_cause_109 (⟨_, _, ⟨by rw [hq], by rw [hq, bx_uu], rfl⟩, hM, hF⟩)
                    · skip
                      refine lv_goto (tgt := 113) hx hb dX6_cause_99 (by decide) ?_
                      refine lv_iinc (v := (nI (o + 1))) (lv' := [(4, .int (nI (o + 1))), (3, .int z), (0, .ref h), (1, .int (nI k)), (2, .int y)]) hx hb dX6_cause_113 hl (k := 0) rfl (nI_add o 1) (by decide) rfl (fun ls hl => ?_)
                      refine lv_goto (tgt := 77) hx hb dX6_cause_116 (by decide) ?_
                      have hl : lv_has ls 5 [(4, .int (nI (o + 1))), (3, .int z), (0, .ref h), (1, .int (nI k)), (2, .int y)] := hl
                      exact ih_77 q (o + 1) z (by omega) (by rw [← hv, tCs, if_pos c96]) (by omega) _ _ _ _ hM hF hP hS hl
              have hl : lv_has ls 5 [(4, .int (nI 0)), (3, .int 2), (0, .ref h), (1, .int (nI k)), (2, .int y)] := hl
              exact hloop_77 _ 6 0 2 (by omega) rfl (Nat.lt_succ_self _) _ _ _ _ hM hF hP hS hl
            · skip
              refine lv_aload_n hx hb dX6_cause_55 rfl (lv_at hl 0 rfl) ?_
              refine lv_iload_n hx hb dX6_cause_56 rfl (lv_at hl 1 rfl) ?_
              refine lv_iload_n hx hb dX6_cause_57 rfl (lv_at hl 2 rfl) ?_
              refine lv_if_ne (tgt := 66) hx hb dX6_cause_58 (by decide) (fun c58 => ?_) (fun c58 => ?_)
              · skip
                refine lv_bipush (v := 10) hx hb dX6_cause_66 (by decide) ?_
                refine tw_cR hx hb hml hown hts (val := (a 0) (kO k 10)) (CX6_of l0 E w h ad (va_up (va_up f 13 0) 13 0) a k 10 hM (by omega) (by omega)) (cwV 2 hts (lw_V q1730 q1732 qs40 q81 q1733) rfl rfl rfl dyX6_of ⟨Nat.le_of_ble_eq_true rfl, Nat.le_of_ble_eq_true rfl⟩) hG hP hS hM (As := [.int (nI k), .int 10]) (rest := []) rfl hl.1 rfl (lv_room (Nat.le_of_ble_eq_true rfl)) dX6_cause_68 ⟨by omega, by omega⟩ (fun H locs hP hS => ?_)
                have hq : qCau (a 0) (nI k) y = (0, (a 0) (kO k 10)) := by simp [qCau, oP, ck, c6, c17, c30, c34, c45, c52, c58]
                exact k_iret hx hb hr hlocks hQ hP hS (by omega) (by omega) dX6_cause_71 (⟨_, _, ⟨by rw [hq], by rw [hq, bx_uu], rfl⟩, hM, hF⟩)
              · skip
                refine lv_bipush (v := 9) hx hb dX6_cause_61 (by decide) ?_
                refine lv_goto (tgt := 68) hx hb dX6_cause_63 (by decide) ?_
                refine tw_cR hx hb hml hown hts (val := (a 0) (kO k 9)) (CX6_of l0 E w h ad (va_up (va_up f 13 0) 13 0) a k 9 hM (by omega) (by omega)) (cwV 2 hts (lw_V q1730 q1732 qs40 q81 q1733) rfl rfl rfl dyX6_of ⟨Nat.le_of_ble_eq_true rfl, Nat.le_of_ble_eq_true rfl⟩) hG hP hS hM (As := [.int (nI k), .int 9]) (rest := []) rfl hl.1 rfl (lv_room (Nat.le_of_ble_eq_true rfl)) dX6_cause_68 ⟨by omega, by omega⟩ (fun H locs hP hS => ?_)
                have hq : qCau (a 0) (nI k) y = (0, (a 0) (kO k 9)) := by simp [qCau, oP, ck, c6, c17, c30, c34, c45, c52, c58]
                exact k_iret hx hb hr hlocks hQ hP hS (by omega) (by omega) dX6_cause_71 (⟨_, _, ⟨by rw [hq], by rw [hq, bx_uu], rfl⟩, hM, hF⟩)
          · skip
            exact absurd c45 (by decide)
    · skip
      exact absurd c17 (by decide)

abbrev rmCX6_leader : Room := { frames := 1, cells := 0, slots := 0, locals := 22 }
theorem dyX6_leader : yX6_leader.cls = RX6 ∧ yX6_leader.cls ≠ "java/lang/invoke/MethodHandle" ∧ yX6_leader.cls ≠ "java/lang/invoke/VarHandle" ∧ (parseMethodDescriptor yX6_leader.desc).map (fun d => d.parameters.length) = some 0 := by decide +kernel
set_option maxHeartbeats 4000000 in
theorem CX6_leader (l0 : Launch) (E : gE) (w : wd) (h : Nat) (ad : Nat → Nat) (f : Nat → Int32) (a : Nat → Nat → Int32) (mn : Nat) (hM : tM E w h ad f a) (hmn : mn ≤ 6) (hm : (a 0) 25 = nI mn) : kC l0 yX6_leader (ws_ yX6_leader cX6_leader 3 (some .int)) rmCX6_leader 0 0 mI E w [.ref h] (fun r w' => ∃ f' a', (r = (qLea (a 0) mn).2 ∧ f' = va_up f 13 (qLea (a 0) mn).1 ∧ a' = a) ∧ tM E w' h ad f' a' ∧ fr tP w w') := by
  refine k_open (cc := cX6_leader) (maxL := 3) (ret := (some .int)) (by decide) rfl (Nat.le_of_ble_eq_true rfl) ?_
  intro p e s m args below meth c ls Q hx hb hr hml hown hts hlocks hname hQ hG hP hl hS
  have hl : lv_has ls 3 [(0, .ref h)] := hl
  obtain ⟨w0, hw0⟩ : ∃ z, z = w := ⟨_, rfl⟩
  have hF : fr tP w0 w := by rw [hw0]; exact fr.rf
  rw [← hw0] at hQ
  refine lv_iconst (v := (-1)) hx hb dX6_leader_0 (by decide) ?_
  refine lv_istore_n (lv' := [(1, .int (-1)), (0, .ref h)]) hx hb dX6_leader_1 rfl hl (by decide) rfl (fun ls hl => ?_)
  refine lv_iconst (v := 0) hx hb dX6_leader_2 (by decide) ?_
  refine lv_istore_n (lv' := [(2, .int 0), (1, .int (-1)), (0, .ref h)]) hx hb dX6_leader_3 rfl hl (by decide) rfl (fun ls hl => ?_)
  have hloop_4 : ∀ (n9_4 : Nat) (i : Nat), (i ≤ mn) → (mn - i) < n9_4 → ∀ (w : wd) (H : Heap) (locs : List Loc) (ls : Array Slot), tM E w h ad f a → fr tP w0 w → wP E w H → va_S (gA E) s.heap H locs → lv_has ls 3 [(2, .int (nI i)), (1, .int (oI (tLo (a 0) i))), (0, .ref h)] → W p l0 e rmCX6_leader s m args below meth c H locs 0 0 Q (F0 m 4 ls []) := by
    intro n9_4
    induction n9_4 with
    | zero => intro i hi hn; exact absurd hn (Nat.not_lt_zero _)
    | succ n9_4 ih_4 =>
      intro i hi hn_4 w H locs ls hM hF hP hS hl
      refine lv_iload_n hx hb dX6_leader_4 rfl (lv_at hl 0 rfl) ?_
      refine lv_aload_n hx hb dX6_leader_5 rfl (lv_at hl 2 rfl) ?_
      refine tw_get hx hb hts hown hG hP hM 0 (by decide) (hts _ q1620) (fun _ h9 => h9) (v := .ref (ad 0)) rfl dX6_leader_6 ?_
      refine lv_bipush (v := 25) hx hb dX6_leader_9 (by decide) ?_
      refine tw_ald hx hb hG hP hM 0 (by decide) (j := 25) (show 25 < 116 from by omega) dX6_leader_11 ?_
      refine k_top (y := (nI mn)) (hm) ?_
      refine k_icmp_geN (x := i) (y := mn) (tgt := 44) hx hb (by omega) (by omega) dX6_leader_12 (by decide) (fun c12 => ?_) (fun c12 => ?_)
      · skip
        have him : i = mn := by omega
        refine lv_aload_n hx hb dX6_leader_44 rfl (lv_at hl 2 rfl) ?_
        refine lv_iload_n hx hb dX6_leader_45 rfl (lv_at hl 1 rfl) ?_
        refine lv_if_ge (tgt := 53) hx hb dX6_leader_46 (by decide) (fun c46 => ?_) (fun c46 => ?_)
        · skip
          refine lv_iconst (v := 0) hx hb dX6_leader_53 (by decide) ?_
          refine tw_cW hx hb hml hown hts (CX6_fails l0 E w h ad f a 0 hM ) (cwV 1 hts (lw_V q1695 q1697 qs35 q81 q1698) rfl rfl rfl dyX6_fails ⟨Nat.le_of_ble_eq_true rfl, Nat.le_of_ble_eq_true rfl⟩) hG hP hS hM hF (As := [.int 0]) (rest := []) rfl hl.1 rfl (lv_room (Nat.le_of_ble_eq_true rfl)) dX6_leader_54 ⟨by omega, by omega⟩ (fun r54 f54 a54 w H locs hp hM hF hP hS => ?_)
          obtain ⟨hp0, hp1, hp2⟩ := hp
          have hM := hM.ofF hp1 hp2
          have hM : tM E w h ad (va_up f 13 0) a := hM
          refine k_top (y := (bI (decide (0 < 0)))) hp0 ?_
          refine k_ifeqB (x := decide (0 < 0)) (tgt := 64) hx hb dX6_leader_57 (by decide) (fun c57 => ?_) (fun c57 => ?_)
          · skip
            refine lv_iload_n hx hb dX6_leader_64 rfl (lv_at hl 1 rfl) ?_
            have hq : qLea (a 0) mn = (0, (oI (tLo (a 0) i))) := by rw [← him]; simp [qLea, c12, c46, c57]
            exact k_iret hx hb hr hlocks hQ hP hS (by omega) (by omega) dX6_leader_65 (⟨_, _, ⟨by rw [hq], by rw [hq], rfl⟩, hM, hF⟩)
          · skip
            exact absurd c57 (by decide)
        · skip
          refine lv_iconst (v := 1) hx hb dX6_leader_49 (by decide) ?_
          refine lv_goto (tgt := 54) hx hb dX6_leader_50 (by decide) ?_
          refine tw_cW hx hb hml hown hts (CX6_fails l0 E w h ad f a 1 hM ) (cwV 1 hts (lw_V q1695 q1697 qs35 q81 q1698) rfl rfl rfl dyX6_fails ⟨Nat.le_of_ble_eq_true rfl, Nat.le_of_ble_eq_true rfl⟩) hG hP hS hM hF (As := [.int 1]) (rest := []) rfl hl.1 rfl (lv_room (Nat.le_of_ble_eq_true rfl)) dX6_leader_54 ⟨by omega, by omega⟩ (fun r54 f54 a54 w H locs hp hM hF hP hS => ?_)
          obtain ⟨hp0, hp1, hp2⟩ := hp
          have hM := hM.ofF hp1 hp2
          have hM : tM E w h ad (va_up f 13 1) a := hM
          refine k_top (y := (bI (decide (0 < 1)))) hp0 ?_
          refine k_ifeqB (x := decide (0 < 1)) (tgt := 64) hx hb dX6_leader_57 (by decide) (fun c57 => ?_) (fun c57 => ?_)
          · skip
            exact absurd c57 (by decide)
          · skip
            refine lv_iconst (v := 0) hx hb dX6_leader_60 (by decide) ?_
            refine lv_goto (tgt := 65) hx hb dX6_leader_61 (by decide) ?_
            have hq : qLea (a 0) mn = (1, 0) := by rw [← him]; simp [qLea, c12, c46, c57]
            exact k_iret hx hb hr hlocks hQ hP hS (by omega) (by omega) dX6_leader_65 (⟨_, _, ⟨by rw [hq], by rw [hq], rfl⟩, hM, hF⟩)
      · skip
        refine lv_iload_n hx hb dX6_leader_15 rfl (lv_at hl 1 rfl) ?_
        refine lv_if_lt (tgt := 36) hx hb dX6_leader_16 (by decide) (fun c16 => ?_) (fun c16 => ?_)
        · skip
          refine lv_iload_n hx hb dX6_leader_36 rfl (lv_at hl 0 rfl) ?_
          refine lv_istore_n (lv' := [(1, .int (nI i)), (2, .int (nI i)), (0, .ref h)]) hx hb dX6_leader_37 rfl hl (by decide) rfl (fun ls hl => ?_)
          refine lv_iinc (v := (nI (i + 1))) (lv' := [(2, .int (nI (i + 1))), (1, .int (nI i)), (0, .ref h)]) hx hb dX6_leader_38 hl (k := 1) rfl (nI_add i 1) (by decide) rfl (fun ls hl => ?_)
          refine lv_goto (tgt := 4) hx hb dX6_leader_41 (by decide) ?_
          have hl := Eq.mp (congrArg (fun z9 => lv_has ls 3 [(2, .int (nI (i + 1))), (1, .int z9), (0, .ref h)]) (show (nI i) = (oI (tLo (a 0) (i + 1))) from by rw [tLo, (tLo_neg (by omega)).mp c16]; rfl)) hl
          have hl : lv_has ls 3 [(2, .int (nI (i + 1))), (1, .int (oI (tLo (a 0) (i + 1)))), (0, .ref h)] := hl
          exact ih_4 (i + 1) (by omega) (by omega) _ _ _ _ hM hF hP hS hl
        · skip
          obtain ⟨b, hbo⟩ : ∃ b, tLo (a 0) i = some b := Option.ne_none_iff_exists'.mp (fun z => c16 ((tLo_neg (by omega)).mpr z))
          have hbl := tLo_lt hbo
          refine lv_aload_n hx hb dX6_leader_19 rfl (lv_at hl 2 rfl) ?_
          refine lv_iload_n hx hb dX6_leader_20 rfl (lv_at hl 0 rfl) ?_
          refine lv_bipush (v := 8) hx hb dX6_leader_21 (by decide) ?_
          refine tw_cR hx hb hml hown hts (val := (a 0) (kO i 8)) (CX6_of l0 E w h ad f a i 8 hM (by omega) (by omega)) (cwV 2 hts (lw_V q1730 q1732 qs40 q81 q1733) rfl rfl rfl dyX6_of ⟨Nat.le_of_ble_eq_true rfl, Nat.le_of_ble_eq_true rfl⟩) hG hP hS hM (As := [.int (nI i), .int 8]) (rest := []) rfl hl.1 rfl (lv_room (Nat.le_of_ble_eq_true rfl)) dX6_leader_23 ⟨by omega, by omega⟩ (fun H locs hP hS => ?_)
          refine lv_aload_n hx hb dX6_leader_26 rfl (lv_at hl 2 rfl) ?_
          refine lv_iload_n hx hb dX6_leader_27 rfl (lv_at hl 1 rfl) ?_
          refine k_top (y := (nI b)) (by rw [hbo]; rfl) ?_
          refine lv_bipush (v := 8) hx hb dX6_leader_28 (by decide) ?_
          refine tw_cR hx hb hml hown hts (val := (a 0) (kO b 8)) (CX6_of l0 E w h ad f a b 8 hM (by omega) (by omega)) (cwV 2 hts (lw_V q1730 q1732 qs40 q81 q1733) rfl rfl rfl dyX6_of ⟨Nat.le_of_ble_eq_true rfl, Nat.le_of_ble_eq_true rfl⟩) hG hP hS hM (As := [.int (nI b), .int 8]) (rest := [.int ((a 0) (kO i 8))]) rfl hl.1 rfl (lv_room (Nat.le_of_ble_eq_true rfl)) dX6_leader_30 ⟨by omega, by omega⟩ (fun H locs hP hS => ?_)
          refine lv_icmp_le (tgt := 38) hx hb dX6_leader_33 (by decide) (fun c33 => ?_) (fun c33 => ?_)
          · skip
            refine lv_iinc (v := (nI (i + 1))) (lv' := [(2, .int (nI (i + 1))), (1, .int (oI (tLo (a 0) i))), (0, .ref h)]) hx hb dX6_leader_38 hl (k := 0) rfl (nI_add i 1) (by decide) rfl (fun ls hl => ?_)
            refine lv_goto (tgt := 4) hx hb dX6_leader_41 (by decide) ?_
            have hl := Eq.mp (congrArg (fun z9 => lv_has ls 3 [(2, .int (nI (i + 1))), (1, .int z9), (0, .ref h)]) (show (oI (tLo (a 0) i)) = (oI (tLo (a 0) (i + 1))) from by rw [tLo, hbo]; simp [c33])) hl
            have hl : lv_has ls 3 [(2, .int (nI (i + 1))), (1, .int (oI (tLo (a 0) (i + 1)))), (0, .ref h)] := hl
            exact ih_4 (i + 1) (by omega) (by omega) _ _ _ _ hM hF hP hS hl
          · skip
            refine lv_iload_n hx hb dX6_leader_36 rfl (lv_at hl 0 rfl) ?_
            refine lv_istore_n (lv' := [(1, .int (nI i)), (2, .int (nI i)), (0, .ref h)]) hx hb dX6_leader_37 rfl hl (by decide) rfl (fun ls hl => ?_)
            refine lv_iinc (v := (nI (i + 1))) (lv' := [(2, .int (nI (i + 1))), (1, .int (nI i)), (0, .ref h)]) hx hb dX6_leader_38 hl (k := 1) rfl (nI_add i 1) (by decide) rfl (fun ls hl => ?_)
            refine lv_goto (tgt := 4) hx hb dX6_leader_41 (by decide) ?_
            have hl := Eq.mp (congrArg (fun z9 => lv_has ls 3 [(2, .int (nI (i + 1))), (1, .int z9), (0, .ref h)]) (show (nI i) = (oI (tLo (a 0) (i + 1))) from by rw [tLo, hbo]; simp [c33, oI])) hl
            have hl : lv_has ls 3 [(2, .int (nI (i + 1))), (1, .int (oI (tLo (a 0) (i + 1)))), (0, .ref h)] := hl
            exact ih_4 (i + 1) (by omega) (by omega) _ _ _ _ hM hF hP hS hl
  have hl : lv_has ls 3 [(2, .int (nI 0)), (1, .int (oI (tLo (a 0) 0))), (0, .ref h)] := hl
  exact hloop_4 _ 0 (by omega) (Nat.lt_succ_self _) _ _ _ _ hM hF hP hS hl

abbrev rmCX6_refusal : Room := { frames := 1, cells := 0, slots := 0, locals := 21 }
theorem dyX6_refusal : yX6_refusal.cls = RX6 ∧ yX6_refusal.cls ≠ "java/lang/invoke/MethodHandle" ∧ yX6_refusal.cls ≠ "java/lang/invoke/VarHandle" ∧ (parseMethodDescriptor yX6_refusal.desc).map (fun d => d.parameters.length) = some 1 := by decide +kernel
set_option maxHeartbeats 4000000 in
theorem CX6_refusal (l0 : Launch) (E : gE) (w : wd) (h : Nat) (ad : Nat → Nat) (f : Nat → Int32) (a : Nat → Nat → Int32) (b : Bool) (hM : tM E w h ad f a) : kC l0 yX6_refusal (ws_ yX6_refusal cX6_refusal 2 (some .int)) rmCX6_refusal 0 0 mI E w [.ref h, .int (bI b)] (fun r w' => ∃ f' a', (r = (qRef f b).2 ∧ f' = va_up f 13 (qRef f b).1 ∧ a' = a) ∧ tM E w' h ad f' a' ∧ fr tP w w') := by
  refine k_open (cc := cX6_refusal) (maxL := 2) (ret := (some .int)) (by decide) rfl (Nat.le_of_ble_eq_true rfl) ?_
  intro p e s m args below meth c ls Q hx hb hr hml hown hts hlocks hname hQ hG hP hl hS
  have hl : lv_has ls 2 [(0, .ref h), (1, .int (bI b))] := hl
  obtain ⟨w0, hw0⟩ : ∃ z, z = w := ⟨_, rfl⟩
  have hF : fr tP w0 w := by rw [hw0]; exact fr.rf
  rw [← hw0] at hQ
  refine lv_aload_n hx hb dX6_refusal_0 rfl (lv_at hl 0 rfl) ?_
  refine lv_aload_n hx hb dX6_refusal_1 rfl (lv_at hl 0 rfl) ?_
  refine tw_get hx hb hts hown hG hP hM 11 (by decide) (hts _ q1631) (fun _ h9 => h9) (v := .int (f 11)) rfl dX6_refusal_2 ?_
  refine lv_if_ne (tgt := 12) hx hb dX6_refusal_5 (by decide) (fun c5 => ?_) (fun c5 => ?_)
  · skip
    refine lv_iconst (v := 0) hx hb dX6_refusal_12 (by decide) ?_
    refine tw_cW hx hb hml hown hts (CX6_fails l0 E w h ad f a 0 hM ) (cwV 1 hts (lw_V q1695 q1697 qs35 q81 q1698) rfl rfl rfl dyX6_fails ⟨Nat.le_of_ble_eq_true rfl, Nat.le_of_ble_eq_true rfl⟩) hG hP hS hM hF (As := [.int 0]) (rest := []) rfl hl.1 rfl (lv_room (Nat.le_of_ble_eq_true rfl)) dX6_refusal_13 ⟨by omega, by omega⟩ (fun r13 f13 a13 w H locs hp hM hF hP hS => ?_)
    obtain ⟨hp0, hp1, hp2⟩ := hp
    have hM := hM.ofF hp1 hp2
    have hM : tM E w h ad (va_up f 13 0) a := hM
    refine k_top (y := (bI (decide (0 < 0)))) hp0 ?_
    refine k_ifeqB (x := decide (0 < 0)) (tgt := 23) hx hb dX6_refusal_16 (by decide) (fun c16 => ?_) (fun c16 => ?_)
    · skip
      refine lv_iload_n hx hb dX6_refusal_23 rfl (lv_at hl 1 rfl) ?_
      refine k_ifeqB (x := b) (tgt := 34) hx hb dX6_refusal_24 (by decide) (fun c24 => ?_) (fun c24 => ?_)
      · skip
        refine lv_aload_n hx hb dX6_refusal_34 rfl (lv_at hl 0 rfl) ?_
        refine tw_get hx hb hts hown hG hP hM 11 (by decide) (hts _ q1631) (fun _ h9 => h9) (v := .int (f 11)) rfl dX6_refusal_35 ?_
        have hq : qRef f b = (0, (f 11)) := by simp [qRef, c5, c16, c24]
        exact k_iret hx hb hr hlocks hQ hP hS (by omega) (by omega) dX6_refusal_38 (⟨_, _, ⟨by rw [hq], by rw [hq], rfl⟩, hM, hF⟩)
      · skip
        refine lv_aload_n hx hb dX6_refusal_27 rfl (lv_at hl 0 rfl) ?_
        refine tw_get hx hb hts hown hG hP hM 12 (by decide) (hts _ q1632) (fun _ h9 => h9) (v := .int (f 12)) rfl dX6_refusal_28 ?_
        refine lv_goto (tgt := 38) hx hb dX6_refusal_31 (by decide) ?_
        have hq : qRef f b = (0, (f 12)) := by simp [qRef, c5, c16, c24]
        exact k_iret hx hb hr hlocks hQ hP hS (by omega) (by omega) dX6_refusal_38 (⟨_, _, ⟨by rw [hq], by rw [hq], rfl⟩, hM, hF⟩)
    · skip
      exact absurd c16 (by decide)
  · skip
    refine lv_iconst (v := 1) hx hb dX6_refusal_8 (by decide) ?_
    refine lv_goto (tgt := 13) hx hb dX6_refusal_9 (by decide) ?_
    refine tw_cW hx hb hml hown hts (CX6_fails l0 E w h ad f a 1 hM ) (cwV 1 hts (lw_V q1695 q1697 qs35 q81 q1698) rfl rfl rfl dyX6_fails ⟨Nat.le_of_ble_eq_true rfl, Nat.le_of_ble_eq_true rfl⟩) hG hP hS hM hF (As := [.int 1]) (rest := []) rfl hl.1 rfl (lv_room (Nat.le_of_ble_eq_true rfl)) dX6_refusal_13 ⟨by omega, by omega⟩ (fun r13 f13 a13 w H locs hp hM hF hP hS => ?_)
    obtain ⟨hp0, hp1, hp2⟩ := hp
    have hM := hM.ofF hp1 hp2
    have hM : tM E w h ad (va_up f 13 1) a := hM
    refine k_top (y := (bI (decide (0 < 1)))) hp0 ?_
    refine k_ifeqB (x := decide (0 < 1)) (tgt := 23) hx hb dX6_refusal_16 (by decide) (fun c16 => ?_) (fun c16 => ?_)
    · skip
      exact absurd c16 (by decide)
    · skip
      refine lv_iconst (v := 0) hx hb dX6_refusal_19 (by decide) ?_
      refine lv_goto (tgt := 38) hx hb dX6_refusal_20 (by decide) ?_
      have hq : qRef f b = (1, 0) := by simp [qRef, c5, c16]
      exact k_iret hx hb hr hlocks hQ hP hS (by omega) (by omega) dX6_refusal_38 (⟨_, _, ⟨by rw [hq], by rw [hq], rfl⟩, hM, hF⟩)

abbrev rmCX6_account : Room := { frames := 6, cells := 0, slots := 0, locals := 137 }
theorem dyX6_account : yX6_account.cls = RX6 ∧ yX6_account.cls ≠ "java/lang/invoke/MethodHandle" ∧ yX6_account.cls ≠ "java/lang/invoke/VarHandle" ∧ (parseMethodDescriptor yX6_account.desc).map (fun d => d.parameters.length) = some 1 := by decide +kernel
set_option maxHeartbeats 4000000 in
theorem CX6_account (l0 : Launch) (E : gE) (w : wd) (h : Nat) (ad : Nat → Nat) (f : Nat → Int32) (a : Nat → Nat → Int32) (x : Int32) (ch : Nat) (mn : Nat) (hM : tM E w h ad f a) (hc : (f 6) = nI ch) (hc8 : ch ≤ 8) (hmn : mn ≤ 6) (hm : (a 0) 25 = nI mn) : kC l0 yX6_account (ws_ yX6_account cX6_account 2 (some .int)) rmCX6_account 0 0 mI E w [.ref h, .int x] (fun r w' => ∃ f' a', (r = (qAcc f (a 0) mn x).2 ∧ f' = va_up f 13 (qAcc f (a 0) mn x).1 ∧ a' = a) ∧ tM E w' h ad f' a' ∧ fr tP w w') := by
  refine k_open (cc := cX6_account) (maxL := 2) (ret := (some .int)) (by decide) rfl (Nat.le_of_ble_eq_true rfl) ?_
  intro p e s m args below meth c ls Q hx hb hr hml hown hts hlocks hname hQ hG hP hl hS
  have hl : lv_has ls 2 [(0, .ref h), (1, .int x)] := hl
  obtain ⟨w0, hw0⟩ : ∃ z, z = w := ⟨_, rfl⟩
  have hF : fr tP w0 w := by rw [hw0]; exact fr.rf
  rw [← hw0] at hQ
  refine lv_aload_n hx hb dX6_account_0 rfl (lv_at hl 0 rfl) ?_
  refine lv_iload_n hx hb dX6_account_1 rfl (lv_at hl 1 rfl) ?_
  refine lv_iconst (v := 0) hx hb dX6_account_2 (by decide) ?_
  refine lv_bipush (v := 13) hx hb dX6_account_3 (by decide) ?_
  refine k_cP hx hb hml hown hts (val := (bI (tin x 0 13))) (CX6_in l0 E w x 0 13 ) (va_cwS 3 hts (lw_S q1692 q1693 q81 q1694) rfl rfl rfl dyX6_in ⟨Nat.le_of_ble_eq_true rfl, Nat.le_of_ble_eq_true rfl⟩) hG hP hS (As := [.int x, .int 0, .int 13]) (rest := [.ref h]) rfl hl.1 rfl (lv_room (Nat.le_of_ble_eq_true rfl)) dX6_account_5 ⟨by omega, by omega⟩ (fun H locs hP hS => ?_)
  refine k_ifeqB (x := tin x 0 13) (tgt := 15) hx hb dX6_account_8 (by decide) (fun c8 => ?_) (fun c8 => ?_)
  · skip
    refine lv_iconst (v := 1) hx hb dX6_account_15 (by decide) ?_
    refine tw_cW hx hb hml hown hts (CX6_fails l0 E w h ad f a 1 hM ) (cwV 1 hts (lw_V q1695 q1697 qs35 q81 q1698) rfl rfl rfl dyX6_fails ⟨Nat.le_of_ble_eq_true rfl, Nat.le_of_ble_eq_true rfl⟩) hG hP hS hM hF (As := [.int 1]) (rest := []) rfl hl.1 rfl (lv_room (Nat.le_of_ble_eq_true rfl)) dX6_account_16 ⟨by omega, by omega⟩ (fun r16 f16 a16 w H locs hp hM hF hP hS => ?_)
    obtain ⟨hp0, hp1, hp2⟩ := hp
    have hM := hM.ofF hp1 hp2
    have hM : tM E w h ad (va_up f 13 1) a := hM
    refine k_top (y := (bI (decide (0 < 1)))) hp0 ?_
    refine k_ifeqB (x := decide (0 < 1)) (tgt := 24) hx hb dX6_account_19 (by decide) (fun c19 => ?_) (fun c19 => ?_)
    · skip
      exact absurd c19 (by decide)
    · skip
      refine lv_iconst (v := 0) hx hb dX6_account_22 (by decide) ?_
      have hq : qAcc f (a 0) mn x = (1, 0) := by simp [qAcc, rAcc, c8, c19]
      exact k_iret hx hb hr hlocks hQ hP hS (by omega) (by omega) dX6_account_23 (⟨_, _, ⟨by rw [hq], by rw [hq], rfl⟩, hM, hF⟩)
  · skip
    refine lv_iconst (v := 0) hx hb dX6_account_11 (by decide) ?_
    refine lv_goto (tgt := 16) hx hb dX6_account_12 (by decide) ?_
    refine tw_cW hx hb hml hown hts (CX6_fails l0 E w h ad f a 0 hM ) (cwV 1 hts (lw_V q1695 q1697 qs35 q81 q1698) rfl rfl rfl dyX6_fails ⟨Nat.le_of_ble_eq_true rfl, Nat.le_of_ble_eq_true rfl⟩) hG hP hS hM hF (As := [.int 0]) (rest := []) rfl hl.1 rfl (lv_room (Nat.le_of_ble_eq_true rfl)) dX6_account_16 ⟨by omega, by omega⟩ (fun r16 f16 a16 w H locs hp hM hF hP hS => ?_)
    obtain ⟨hp0, hp1, hp2⟩ := hp
    have hM := hM.ofF hp1 hp2
    have hM : tM E w h ad (va_up f 13 0) a := hM
    refine k_top (y := (bI (decide (0 < 0)))) hp0 ?_
    refine k_ifeqB (x := decide (0 < 0)) (tgt := 24) hx hb dX6_account_19 (by decide) (fun c19 => ?_) (fun c19 => ?_)
    · skip
      obtain ⟨n, hn, rfl⟩ := tin_N (n := 13) (by decide) c8
      have cn : (nI n).toNatClampNeg = n := nI_clamp (by omega)
      refine lv_iload_n hx hb dX6_account_24 rfl (lv_at hl 1 rfl) ?_
      rcases (show n = 0 ∨ n = 1 ∨ n = 2 ∨ n = 3 ∨ n = 4 ∨ n = 5 ∨ n = 6 ∨ n = 7 ∨ n = 8 ∨ n = 9 ∨ n = 10 ∨ n = 11 ∨ n = 12 ∨ n = 13 from by omega) with rfl | rfl | rfl | rfl | rfl | rfl | rfl | rfl | rfl | rfl | rfl | rfl | rfl | rfl
      · skip
        refine lv_tableIn (tgt := 92) hx hb dX6_account_25 (by decide) (by decide) (off := 67) rfl (by decide) ?_
        refine lv_aload_n hx hb dX6_account_92 rfl (lv_at hl 0 rfl) ?_
        refine tw_get hx hb hts hown hG hP hM 0 (by decide) (hts _ q1620) (fun _ h9 => h9) (v := .ref (ad 0)) rfl dX6_account_93 ?_
        refine lv_bipush (v := 25) hx hb dX6_account_96 (by decide) ?_
        refine tw_ald hx hb hG hP hM 0 (by decide) (j := 25) (show 25 < 116 from by omega) dX6_account_98 ?_
        refine k_top (y := (nI mn)) (hm) ?_
        have hq : qAcc f (a 0) mn (nI 0) = (0, (nI mn)) := by simp [qAcc, rAcc, cn, c8, c19]
        exact k_iret hx hb hr hlocks hQ hP hS (by omega) (by omega) dX6_account_99 (⟨_, _, ⟨by rw [hq], by rw [hq], rfl⟩, hM, hF⟩)
      · skip
        refine lv_tableIn (tgt := 100) hx hb dX6_account_25 (by decide) (by decide) (off := 75) rfl (by decide) ?_
        refine lv_aload_n hx hb dX6_account_100 rfl (lv_at hl 0 rfl) ?_
        refine lv_iconst (v := 0) hx hb dX6_account_101 (by decide) ?_
        refine tw_cR hx hb hml hown hts (val := tIn (a 0) 0 mn) (CX6_inState l0 E w h ad (va_up f 13 0) a 0 mn hM (by omega) hm) (cwV 1 hts (lw_V q1734 q1736 qs41 q81 q1737) rfl rfl rfl dyX6_inState ⟨Nat.le_of_ble_eq_true rfl, Nat.le_of_ble_eq_true rfl⟩) hG hP hS hM (As := [.int 0]) (rest := []) rfl hl.1 rfl (lv_room (Nat.le_of_ble_eq_true rfl)) dX6_account_102 ⟨by omega, by omega⟩ (fun H locs hP hS => ?_)
        have hq : qAcc f (a 0) mn (nI 1) = (0, tIn (a 0) 0 mn) := by simp [qAcc, rAcc, cn, c8, c19]
        exact k_iret hx hb hr hlocks hQ hP hS (by omega) (by omega) dX6_account_105 (⟨_, _, ⟨by rw [hq], by rw [hq], rfl⟩, hM, hF⟩)
      · skip
        refine lv_tableIn (tgt := 106) hx hb dX6_account_25 (by decide) (by decide) (off := 81) rfl (by decide) ?_
        refine lv_aload_n hx hb dX6_account_106 rfl (lv_at hl 0 rfl) ?_
        refine lv_iconst (v := 1) hx hb dX6_account_107 (by decide) ?_
        refine tw_cR hx hb hml hown hts (val := tIn (a 0) 1 mn) (CX6_inState l0 E w h ad (va_up f 13 0) a 1 mn hM (by omega) hm) (cwV 1 hts (lw_V q1734 q1736 qs41 q81 q1737) rfl rfl rfl dyX6_inState ⟨Nat.le_of_ble_eq_true rfl, Nat.le_of_ble_eq_true rfl⟩) hG hP hS hM (As := [.int 1]) (rest := []) rfl hl.1 rfl (lv_room (Nat.le_of_ble_eq_true rfl)) dX6_account_108 ⟨by omega, by omega⟩ (fun H locs hP hS => ?_)
        have hq : qAcc f (a 0) mn (nI 2) = (0, tIn (a 0) 1 mn) := by simp [qAcc, rAcc, cn, c8, c19]
        exact k_iret hx hb hr hlocks hQ hP hS (by omega) (by omega) dX6_account_111 (⟨_, _, ⟨by rw [hq], by rw [hq], rfl⟩, hM, hF⟩)
      · skip
        refine lv_tableIn (tgt := 112) hx hb dX6_account_25 (by decide) (by decide) (off := 87) rfl (by decide) ?_
        refine lv_aload_n hx hb dX6_account_112 rfl (lv_at hl 0 rfl) ?_
        refine lv_iconst (v := 2) hx hb dX6_account_113 (by decide) ?_
        refine tw_cR hx hb hml hown hts (val := tIn (a 0) 2 mn) (CX6_inState l0 E w h ad (va_up f 13 0) a 2 mn hM (by omega) hm) (cwV 1 hts (lw_V q1734 q1736 qs41 q81 q1737) rfl rfl rfl dyX6_inState ⟨Nat.le_of_ble_eq_true rfl, Nat.le_of_ble_eq_true rfl⟩) hG hP hS hM (As := [.int 2]) (rest := []) rfl hl.1 rfl (lv_room (Nat.le_of_ble_eq_true rfl)) dX6_account_114 ⟨by omega, by omega⟩ (fun H locs hP hS => ?_)
        have hq : qAcc f (a 0) mn (nI 3) = (0, tIn (a 0) 2 mn) := by simp [qAcc, rAcc, cn, c8, c19]
        exact k_iret hx hb hr hlocks hQ hP hS (by omega) (by omega) dX6_account_117 (⟨_, _, ⟨by rw [hq], by rw [hq], rfl⟩, hM, hF⟩)
      · skip
        refine lv_tableIn (tgt := 118) hx hb dX6_account_25 (by decide) (by decide) (off := 93) rfl (by decide) ?_
        refine lv_aload_n hx hb dX6_account_118 rfl (lv_at hl 0 rfl) ?_
        refine tw_get hx hb hts hown hG hP hM 0 (by decide) (hts _ q1620) (fun _ h9 => h9) (v := .ref (ad 0)) rfl dX6_account_119 ?_
        refine lv_bipush (v := 20) hx hb dX6_account_122 (by decide) ?_
        refine tw_ald hx hb hG hP hM 0 (by decide) (j := 20) (show 20 < 116 from by omega) dX6_account_124 ?_
        have hq : qAcc f (a 0) mn (nI 4) = (0, ((a 0) 20)) := by simp [qAcc, rAcc, cn, c8, c19]
        exact k_iret hx hb hr hlocks hQ hP hS (by omega) (by omega) dX6_account_125 (⟨_, _, ⟨by rw [hq], by rw [hq], rfl⟩, hM, hF⟩)
      · skip
        refine lv_tableIn (tgt := 126) hx hb dX6_account_25 (by decide) (by decide) (off := 101) rfl (by decide) ?_
        refine lv_aload_n hx hb dX6_account_126 rfl (lv_at hl 0 rfl) ?_
        refine tw_get hx hb hts hown hG hP hM 0 (by decide) (hts _ q1620) (fun _ h9 => h9) (v := .ref (ad 0)) rfl dX6_account_127 ?_
        refine lv_bipush (v := 21) hx hb dX6_account_130 (by decide) ?_
        refine tw_ald hx hb hG hP hM 0 (by decide) (j := 21) (show 21 < 116 from by omega) dX6_account_132 ?_
        have hq : qAcc f (a 0) mn (nI 5) = (0, ((a 0) 21)) := by simp [qAcc, rAcc, cn, c8, c19]
        exact k_iret hx hb hr hlocks hQ hP hS (by omega) (by omega) dX6_account_133 (⟨_, _, ⟨by rw [hq], by rw [hq], rfl⟩, hM, hF⟩)
      · skip
        refine lv_tableIn (tgt := 134) hx hb dX6_account_25 (by decide) (by decide) (off := 109) rfl (by decide) ?_
        refine lv_aload_n hx hb dX6_account_134 rfl (lv_at hl 0 rfl) ?_
        refine lv_iconst (v := 5) hx hb dX6_account_135 (by decide) ?_
        refine tw_cR hx hb hml hown hts (val := tSu (a 0) 5 mn) (CX6_sum l0 E w h ad (va_up f 13 0) a 5 mn hM (by omega) (by omega) hm) (cwV 1 hts (lw_V q1925 q1927 qs66 q81 q1928) rfl rfl rfl dyX6_sum ⟨Nat.le_of_ble_eq_true rfl, Nat.le_of_ble_eq_true rfl⟩) hG hP hS hM (As := [.int 5]) (rest := []) rfl hl.1 rfl (lv_room (Nat.le_of_ble_eq_true rfl)) dX6_account_136 ⟨by omega, by omega⟩ (fun H locs hP hS => ?_)
        have hq : qAcc f (a 0) mn (nI 6) = (0, tSu (a 0) 5 mn) := by simp [qAcc, rAcc, cn, c8, c19]
        exact k_iret hx hb hr hlocks hQ hP hS (by omega) (by omega) dX6_account_139 (⟨_, _, ⟨by rw [hq], by rw [hq], rfl⟩, hM, hF⟩)
      · skip
        refine lv_tableIn (tgt := 140) hx hb dX6_account_25 (by decide) (by decide) (off := 115) rfl (by decide) ?_
        refine lv_aload_n hx hb dX6_account_140 rfl (lv_at hl 0 rfl) ?_
        refine tw_get hx hb hts hown hG hP hM 0 (by decide) (hts _ q1620) (fun _ h9 => h9) (v := .ref (ad 0)) rfl dX6_account_141 ?_
        refine lv_bipush (v := 22) hx hb dX6_account_144 (by decide) ?_
        refine tw_ald hx hb hG hP hM 0 (by decide) (j := 22) (show 22 < 116 from by omega) dX6_account_146 ?_
        have hq : qAcc f (a 0) mn (nI 7) = (0, ((a 0) 22)) := by simp [qAcc, rAcc, cn, c8, c19]
        exact k_iret hx hb hr hlocks hQ hP hS (by omega) (by omega) dX6_account_147 (⟨_, _, ⟨by rw [hq], by rw [hq], rfl⟩, hM, hF⟩)
      · skip
        refine lv_tableIn (tgt := 148) hx hb dX6_account_25 (by decide) (by decide) (off := 123) rfl (by decide) ?_
        refine lv_aload_n hx hb dX6_account_148 rfl (lv_at hl 0 rfl) ?_
        refine tw_get hx hb hts hown hG hP hM 0 (by decide) (hts _ q1620) (fun _ h9 => h9) (v := .ref (ad 0)) rfl dX6_account_149 ?_
        refine lv_bipush (v := 23) hx hb dX6_account_152 (by decide) ?_
        refine tw_ald hx hb hG hP hM 0 (by decide) (j := 23) (show 23 < 116 from by omega) dX6_account_154 ?_
        have hq : qAcc f (a 0) mn (nI 8) = (0, ((a 0) 23)) := by simp [qAcc, rAcc, cn, c8, c19]
        exact k_iret hx hb hr hlocks hQ hP hS (by omega) (by omega) dX6_account_155 (⟨_, _, ⟨by rw [hq], by rw [hq], rfl⟩, hM, hF⟩)
      · skip
        refine lv_tableIn (tgt := 156) hx hb dX6_account_25 (by decide) (by decide) (off := 131) rfl (by decide) ?_
        refine lv_aload_n hx hb dX6_account_156 rfl (lv_at hl 0 rfl) ?_
        refine tw_get hx hb hts hown hG hP hM 0 (by decide) (hts _ q1620) (fun _ h9 => h9) (v := .ref (ad 0)) rfl dX6_account_157 ?_
        refine lv_bipush (v := 24) hx hb dX6_account_160 (by decide) ?_
        refine tw_ald hx hb hG hP hM 0 (by decide) (j := 24) (show 24 < 116 from by omega) dX6_account_162 ?_
        have hq : qAcc f (a 0) mn (nI 9) = (0, ((a 0) 24)) := by simp [qAcc, rAcc, cn, c8, c19]
        exact k_iret hx hb hr hlocks hQ hP hS (by omega) (by omega) dX6_account_163 (⟨_, _, ⟨by rw [hq], by rw [hq], rfl⟩, hM, hF⟩)
      · skip
        refine lv_tableIn (tgt := 164) hx hb dX6_account_25 (by decide) (by decide) (off := 139) rfl (by decide) ?_
        refine lv_aload_n hx hb dX6_account_164 rfl (lv_at hl 0 rfl) ?_
        refine tw_cR hx hb hml hown hts (val := tPr (a 0) mn) (CX6_pairs l0 E w h ad (va_up f 13 0) a mn hM (by omega) hm) (cwV 0 hts (lw_V q1929 q1931 qs67 q81 q1932) rfl rfl rfl dyX6_pairs ⟨Nat.le_of_ble_eq_true rfl, Nat.le_of_ble_eq_true rfl⟩) hG hP hS hM (As := []) (rest := []) rfl hl.1 rfl (lv_room (Nat.le_of_ble_eq_true rfl)) dX6_account_165 ⟨by omega, by omega⟩ (fun H locs hP hS => ?_)
        have hq : qAcc f (a 0) mn (nI 10) = (0, tPr (a 0) mn) := by simp [qAcc, rAcc, cn, c8, c19]
        exact k_iret hx hb hr hlocks hQ hP hS (by omega) (by omega) dX6_account_168 (⟨_, _, ⟨by rw [hq], by rw [hq], rfl⟩, hM, hF⟩)
      · skip
        refine lv_tableIn (tgt := 169) hx hb dX6_account_25 (by decide) (by decide) (off := 144) rfl (by decide) ?_
        refine lv_aload_n hx hb dX6_account_169 rfl (lv_at hl 0 rfl) ?_
        refine lv_bipush (v := 8) hx hb dX6_account_170 (by decide) ?_
        refine tw_cR hx hb hml hown hts (val := tSu (a 0) 8 mn) (CX6_sum l0 E w h ad (va_up f 13 0) a 8 mn hM (by omega) (by omega) hm) (cwV 1 hts (lw_V q1925 q1927 qs66 q81 q1928) rfl rfl rfl dyX6_sum ⟨Nat.le_of_ble_eq_true rfl, Nat.le_of_ble_eq_true rfl⟩) hG hP hS hM (As := [.int 8]) (rest := []) rfl hl.1 rfl (lv_room (Nat.le_of_ble_eq_true rfl)) dX6_account_172 ⟨by omega, by omega⟩ (fun H locs hP hS => ?_)
        have hq : qAcc f (a 0) mn (nI 11) = (0, tSu (a 0) 8 mn) := by simp [qAcc, rAcc, cn, c8, c19]
        exact k_iret hx hb hr hlocks hQ hP hS (by omega) (by omega) dX6_account_175 (⟨_, _, ⟨by rw [hq], by rw [hq], rfl⟩, hM, hF⟩)
      · skip
        refine lv_tableIn (tgt := 176) hx hb dX6_account_25 (by decide) (by decide) (off := 151) rfl (by decide) ?_
        refine lv_aload_n hx hb dX6_account_176 rfl (lv_at hl 0 rfl) ?_
        refine tw_get hx hb hts hown hG hP hM 9 (by decide) (hts _ q1629) (fun _ h9 => h9) (v := .int (f 9)) rfl dX6_account_177 ?_
        have hq : qAcc f (a 0) mn (nI 12) = (0, (f 9)) := by simp [qAcc, rAcc, cn, c8, c19]
        exact k_iret hx hb hr hlocks hQ hP hS (by omega) (by omega) dX6_account_180 (⟨_, _, ⟨by rw [hq], by rw [hq], rfl⟩, hM, hF⟩)
      · skip
        refine lv_tableOut (tgt := 181) hx hb dX6_account_25 (by decide) (by decide) ?_
        refine lv_aload_n hx hb dX6_account_181 rfl (lv_at hl 0 rfl) ?_
        refine tw_get hx hb hts hown hG hP hM 6 (by decide) (hts _ q1626) (fun _ h9 => h9) (v := .int (f 6)) rfl dX6_account_182 ?_
        have hq : qAcc f (a 0) mn (nI 13) = (0, (f 6)) := by simp [qAcc, rAcc, cn, c8, c19]
        exact k_iret hx hb hr hlocks hQ hP hS (by omega) (by omega) dX6_account_185 (⟨_, _, ⟨by rw [hq], by rw [hq], rfl⟩, hM, hF⟩)
    · skip
      exact absurd c19 (by decide)

abbrev rmCX6_faultPosition : Room := { frames := 0, cells := 0, slots := 0, locals := 0 }
theorem dyX6_faultPosition : yX6_faultPosition.cls = RX6 ∧ yX6_faultPosition.cls ≠ "java/lang/invoke/MethodHandle" ∧ yX6_faultPosition.cls ≠ "java/lang/invoke/VarHandle" ∧ (parseMethodDescriptor yX6_faultPosition.desc).map (fun d => d.parameters.length) = some 0 := by decide +kernel
set_option maxHeartbeats 4000000 in
theorem CX6_faultPosition (l0 : Launch) (E : gE) (w : wd) (h : Nat) (ad : Nat → Nat) (f : Nat → Int32) (a : Nat → Nat → Int32) (hM : tM E w h ad f a) : kC l0 yX6_faultPosition (ws_ yX6_faultPosition cX6_faultPosition 1 (some .int)) rmCX6_faultPosition 0 0 mI E w [.ref h] (fun r w' => ∃ f' a', (r = (f 10) ∧ f' = (va_up f 13 0) ∧ a' = a) ∧ tM E w' h ad f' a' ∧ fr tP w w') := by
  refine k_open (cc := cX6_faultPosition) (maxL := 1) (ret := (some .int)) (by decide) rfl (Nat.le_of_ble_eq_true rfl) ?_
  intro p e s m args below meth c ls Q hx hb hr hml hown hts hlocks hname hQ hG hP hl hS
  have hl : lv_has ls 1 [(0, .ref h)] := hl
  obtain ⟨w0, hw0⟩ : ∃ z, z = w := ⟨_, rfl⟩
  have hF : fr tP w0 w := by rw [hw0]; exact fr.rf
  rw [← hw0] at hQ
  refine lv_aload_n hx hb dX6_faultPosition_0 rfl (lv_at hl 0 rfl) ?_
  refine lv_iconst (v := 0) hx hb dX6_faultPosition_1 (by decide) ?_
  refine tw_put hx hb hts hown hG hP hS hM hF 13 (by decide) (hts _ q1633) (fun _ h9 => h9) rfl (ty := .int) (v := 0) rfl rfl rfl rfl dX6_faultPosition_2 (fun w H locs hM hF hP hS => ?_)
  refine lv_aload_n hx hb dX6_faultPosition_5 rfl (lv_at hl 0 rfl) ?_
  refine tw_get hx hb hts hown hG hP hM 10 (by decide) (hts _ q1630) (fun _ h9 => h9) (v := .int (f 10)) rfl dX6_faultPosition_6 ?_
  exact k_iret hx hb hr hlocks hQ hP hS (by omega) (by omega) dX6_faultPosition_9 (⟨_, _, ⟨rfl, rfl, rfl⟩, hM, hF⟩)

abbrev rmCX6_isBalanced : Room := { frames := 2, cells := 0, slots := 0, locals := 45 }
theorem dyX6_isBalanced : yX6_isBalanced.cls = RX6 ∧ yX6_isBalanced.cls ≠ "java/lang/invoke/MethodHandle" ∧ yX6_isBalanced.cls ≠ "java/lang/invoke/VarHandle" ∧ (parseMethodDescriptor yX6_isBalanced.desc).map (fun d => d.parameters.length) = some 0 := by decide +kernel
set_option maxHeartbeats 4000000 in
theorem CX6_isBalanced (l0 : Launch) (E : gE) (w : wd) (h : Nat) (ad : Nat → Nat) (f : Nat → Int32) (a : Nat → Nat → Int32) (mn : Nat) (hM : tM E w h ad f a) (hmn : mn ≤ 6) (hm : (a 0) 25 = nI mn) : kC l0 yX6_isBalanced (ws_ yX6_isBalanced cX6_isBalanced 2 (some .boolean)) rmCX6_isBalanced 0 0 mI E w [.ref h] (fun r w' => ∃ f' a', (r = (bI (tBal (a 0) mn)) ∧ f' = (va_up f 13 0) ∧ a' = a) ∧ tM E w' h ad f' a' ∧ fr tP w w') := by
  refine k_open (cc := cX6_isBalanced) (maxL := 2) (ret := (some .boolean)) (by decide) rfl (Nat.le_of_ble_eq_true rfl) ?_
  intro p e s m args below meth c ls Q hx hb hr hml hown hts hlocks hname hQ hG hP hl hS
  have hl : lv_has ls 2 [(0, .ref h)] := hl
  obtain ⟨w0, hw0⟩ : ∃ z, z = w := ⟨_, rfl⟩
  have hF : fr tP w0 w := by rw [hw0]; exact fr.rf
  rw [← hw0] at hQ
  refine lv_aload_n hx hb dX6_isBalanced_0 rfl (lv_at hl 0 rfl) ?_
  refine lv_iconst (v := 0) hx hb dX6_isBalanced_1 (by decide) ?_
  refine tw_put hx hb hts hown hG hP hS hM hF 13 (by decide) (hts _ q1633) (fun _ h9 => h9) rfl (ty := .int) (v := 0) rfl rfl rfl rfl dX6_isBalanced_2 (fun w H locs hM hF hP hS => ?_)
  refine lv_aload_n hx hb dX6_isBalanced_5 rfl (lv_at hl 0 rfl) ?_
  refine tw_get hx hb hts hown hG hP hM 0 (by decide) (hts _ q1620) (fun _ h9 => h9) (v := .ref (ad 0)) rfl dX6_isBalanced_6 ?_
  refine lv_bipush (v := 21) hx hb dX6_isBalanced_9 (by decide) ?_
  refine tw_ald hx hb hG hP hM 0 (by decide) (j := 21) (show 21 < 116 from by omega) dX6_isBalanced_11 ?_
  refine lv_aload_n hx hb dX6_isBalanced_12 rfl (lv_at hl 0 rfl) ?_
  refine lv_iconst (v := 5) hx hb dX6_isBalanced_13 (by decide) ?_
  refine tw_cR hx hb hml hown hts (val := tSu (a 0) 5 mn) (CX6_sum l0 E w h ad (va_up f 13 0) a 5 mn hM (by omega) (by omega) hm) (cwV 1 hts (lw_V q1925 q1927 qs66 q81 q1928) rfl rfl rfl dyX6_sum ⟨Nat.le_of_ble_eq_true rfl, Nat.le_of_ble_eq_true rfl⟩) hG hP hS hM (As := [.int 5]) (rest := [.int ((a 0) 21)]) rfl hl.1 rfl (lv_room (Nat.le_of_ble_eq_true rfl)) dX6_isBalanced_14 ⟨by omega, by omega⟩ (fun H locs hP hS => ?_)
  refine lv_aload_n hx hb dX6_isBalanced_17 rfl (lv_at hl 0 rfl) ?_
  refine tw_get hx hb hts hown hG hP hM 0 (by decide) (hts _ q1620) (fun _ h9 => h9) (v := .ref (ad 0)) rfl dX6_isBalanced_18 ?_
  refine lv_bipush (v := 22) hx hb dX6_isBalanced_21 (by decide) ?_
  refine tw_ald hx hb hG hP hM 0 (by decide) (j := 22) (show 22 < 116 from by omega) dX6_isBalanced_23 ?_
  refine lv_iadd hx hb dX6_isBalanced_24 ?_
  refine lv_aload_n hx hb dX6_isBalanced_25 rfl (lv_at hl 0 rfl) ?_
  refine tw_get hx hb hts hown hG hP hM 0 (by decide) (hts _ q1620) (fun _ h9 => h9) (v := .ref (ad 0)) rfl dX6_isBalanced_26 ?_
  refine lv_bipush (v := 23) hx hb dX6_isBalanced_29 (by decide) ?_
  refine tw_ald hx hb hG hP hM 0 (by decide) (j := 23) (show 23 < 116 from by omega) dX6_isBalanced_31 ?_
  refine lv_iadd hx hb dX6_isBalanced_32 ?_
  refine lv_icmp_eq (tgt := 38) hx hb dX6_isBalanced_33 (by decide) (fun c33 => ?_) (fun c33 => ?_)
  · skip
    refine lv_iconst (v := 0) hx hb dX6_isBalanced_38 (by decide) ?_
    refine lv_istore_n (lv' := [(1, .int 0), (0, .ref h)]) hx hb dX6_isBalanced_39 rfl hl (by decide) rfl (fun ls hl => ?_)
    have hloop_40 : ∀ (n9_40 : Nat) (i : Nat), (i ≤ mn) → (tBk (a 0) i = true) → (mn - i) < n9_40 → ∀ (w : wd) (H : Heap) (locs : List Loc) (ls : Array Slot), tM E w h ad (va_up f 13 0) a → fr tP w0 w → wP E w H → va_S (gA E) s.heap H locs → lv_has ls 2 [(1, .int (nI i)), (0, .ref h)] → W p l0 e rmCX6_isBalanced s m args below meth c H locs 0 0 Q (F0 m 40 ls []) := by
      intro n9_40
      induction n9_40 with
      | zero => intro i hi hv hn; exact absurd hn (Nat.not_lt_zero _)
      | succ n9_40 ih_40 =>
        intro i hi hv hn_40 w H locs ls hM hF hP hS hl
        refine lv_iload_n hx hb dX6_isBalanced_40 rfl (lv_at hl 0 rfl) ?_
        refine lv_aload_n hx hb dX6_isBalanced_41 rfl (lv_at hl 1 rfl) ?_
        refine tw_get hx hb hts hown hG hP hM 0 (by decide) (hts _ q1620) (fun _ h9 => h9) (v := .ref (ad 0)) rfl dX6_isBalanced_42 ?_
        refine lv_bipush (v := 25) hx hb dX6_isBalanced_45 (by decide) ?_
        refine tw_ald hx hb hG hP hM 0 (by decide) (j := 25) (show 25 < 116 from by omega) dX6_isBalanced_47 ?_
        refine k_top (y := (nI mn)) (hm) ?_
        refine k_icmp_geN (x := i) (y := mn) (tgt := 83) hx hb (by omega) (by omega) dX6_isBalanced_48 (by decide) (fun c48 => ?_) (fun c48 => ?_)
        · skip
          refine lv_aload_n hx hb dX6_isBalanced_83 rfl (lv_at hl 1 rfl) ?_
          refine lv_bipush (v := 13) hx hb dX6_isBalanced_84 (by decide) ?_
          refine tw_cR hx hb hml hown hts (val := tSu (a 0) 13 mn) (CX6_sum l0 E w h ad (va_up f 13 0) a 13 mn hM (by omega) (by omega) hm) (cwV 1 hts (lw_V q1925 q1927 qs66 q81 q1928) rfl rfl rfl dyX6_sum ⟨Nat.le_of_ble_eq_true rfl, Nat.le_of_ble_eq_true rfl⟩) hG hP hS hM (As := [.int 13]) (rest := []) rfl hl.1 rfl (lv_room (Nat.le_of_ble_eq_true rfl)) dX6_isBalanced_86 ⟨by omega, by omega⟩ (fun H locs hP hS => ?_)
          refine lv_aload_n hx hb dX6_isBalanced_89 rfl (lv_at hl 1 rfl) ?_
          refine tw_get hx hb hts hown hG hP hM 0 (by decide) (hts _ q1620) (fun _ h9 => h9) (v := .ref (ad 0)) rfl dX6_isBalanced_90 ?_
          refine lv_bipush (v := 22) hx hb dX6_isBalanced_93 (by decide) ?_
          refine tw_ald hx hb hG hP hM 0 (by decide) (j := 22) (show 22 < 116 from by omega) dX6_isBalanced_95 ?_
          refine lv_icmp_ne (tgt := 103) hx hb dX6_isBalanced_96 (by decide) (fun c96 => ?_) (fun c96 => ?_)
          · skip
            refine lv_iconst (v := 0) hx hb dX6_isBalanced_103 (by decide) ?_
            exact k_zret hx hb hr hlocks hQ hP hS (by omega) (by omega) dX6_isBalanced_104 rfl (⟨_, _, ⟨by obtain rfl : i = mn := (by omega); first | (rw [tBal, decide_eq_true c33, hv, decide_eq_true c96]; rfl) | (rw [tBal, decide_eq_true c33, hv, decide_eq_false c96]; rfl), rfl, rfl⟩, hM, hF⟩)
          · skip
            refine lv_iconst (v := 1) hx hb dX6_isBalanced_99 (by decide) ?_
            refine lv_goto (tgt := 104) hx hb dX6_isBalanced_100 (by decide) ?_
            exact k_zret hx hb hr hlocks hQ hP hS (by omega) (by omega) dX6_isBalanced_104 rfl (⟨_, _, ⟨by obtain rfl : i = mn := (by omega); first | (rw [tBal, decide_eq_true c33, hv, decide_eq_true c96]; rfl) | (rw [tBal, decide_eq_true c33, hv, decide_eq_false c96]; rfl), rfl, rfl⟩, hM, hF⟩)
        · skip
          refine lv_aload_n hx hb dX6_isBalanced_51 rfl (lv_at hl 1 rfl) ?_
          refine lv_iload_n hx hb dX6_isBalanced_52 rfl (lv_at hl 0 rfl) ?_
          refine lv_iconst (v := 3) hx hb dX6_isBalanced_53 (by decide) ?_
          refine tw_cR hx hb hml hown hts (val := (a 0) (kO i 3)) (CX6_of l0 E w h ad (va_up f 13 0) a i 3 hM (by omega) (by omega)) (cwV 2 hts (lw_V q1730 q1732 qs40 q81 q1733) rfl rfl rfl dyX6_of ⟨Nat.le_of_ble_eq_true rfl, Nat.le_of_ble_eq_true rfl⟩) hG hP hS hM (As := [.int (nI i), .int 3]) (rest := []) rfl hl.1 rfl (lv_room (Nat.le_of_ble_eq_true rfl)) dX6_isBalanced_54 ⟨by omega, by omega⟩ (fun H locs hP hS => ?_)
          refine lv_aload_n hx hb dX6_isBalanced_57 rfl (lv_at hl 1 rfl) ?_
          refine lv_iload_n hx hb dX6_isBalanced_58 rfl (lv_at hl 0 rfl) ?_
          refine lv_bipush (v := 12) hx hb dX6_isBalanced_59 (by decide) ?_
          refine tw_cR hx hb hml hown hts (val := (a 0) (kO i 12)) (CX6_of l0 E w h ad (va_up f 13 0) a i 12 hM (by omega) (by omega)) (cwV 2 hts (lw_V q1730 q1732 qs40 q81 q1733) rfl rfl rfl dyX6_of ⟨Nat.le_of_ble_eq_true rfl, Nat.le_of_ble_eq_true rfl⟩) hG hP hS hM (As := [.int (nI i), .int 12]) (rest := [.int ((a 0) (kO i 3))]) rfl hl.1 rfl (lv_room (Nat.le_of_ble_eq_true rfl)) dX6_isBalanced_61 ⟨by omega, by omega⟩ (fun H locs hP hS => ?_)
          refine lv_aload_n hx hb dX6_isBalanced_64 rfl (lv_at hl 1 rfl) ?_
          refine lv_iload_n hx hb dX6_isBalanced_65 rfl (lv_at hl 0 rfl) ?_
          refine lv_bipush (v := 13) hx hb dX6_isBalanced_66 (by decide) ?_
          refine tw_cR hx hb hml hown hts (val := (a 0) (kO i 13)) (CX6_of l0 E w h ad (va_up f 13 0) a i 13 hM (by omega) (by omega)) (cwV 2 hts (lw_V q1730 q1732 qs40 q81 q1733) rfl rfl rfl dyX6_of ⟨Nat.le_of_ble_eq_true rfl, Nat.le_of_ble_eq_true rfl⟩) hG hP hS hM (As := [.int (nI i), .int 13]) (rest := [.int ((a 0) (kO i 12)), .int ((a 0) (kO i 3))]) rfl hl.1 rfl (lv_room (Nat.le_of_ble_eq_true rfl)) dX6_isBalanced_68 ⟨by omega, by omega⟩ (fun H locs hP hS => ?_)
          refine lv_isub hx hb dX6_isBalanced_71 ?_
          refine lv_icmp_eq (tgt := 77) hx hb dX6_isBalanced_72 (by decide) (fun c72 => ?_) (fun c72 => ?_)
          · skip
            refine lv_iinc (v := (nI (i + 1))) (lv' := [(1, .int (nI (i + 1))), (0, .ref h)]) hx hb dX6_isBalanced_77 hl (k := 0) rfl (nI_add i 1) (by decide) rfl (fun ls hl => ?_)
            refine lv_goto (tgt := 40) hx hb dX6_isBalanced_80 (by decide) ?_
            have hl : lv_has ls 2 [(1, .int (nI (i + 1))), (0, .ref h)] := hl
            exact ih_40 (i + 1) (by omega) (by rw [tBk, hv, decide_eq_true c72]; rfl) (by omega) _ _ _ _ hM hF hP hS hl
          · skip
            refine lv_iconst (v := 0) hx hb dX6_isBalanced_75 (by decide) ?_
            exact k_zret hx hb hr hlocks hQ hP hS (by omega) (by omega) dX6_isBalanced_76 rfl (⟨_, _, ⟨by rw [tBal, tBk_f c72 (by omega), Bool.false_and, Bool.and_false]; rfl, rfl, rfl⟩, hM, hF⟩)
    have hl : lv_has ls 2 [(1, .int (nI 0)), (0, .ref h)] := hl
    exact hloop_40 _ 0 (by omega) rfl (Nat.lt_succ_self _) _ _ _ _ hM hF hP hS hl
  · skip
    refine lv_iconst (v := 0) hx hb dX6_isBalanced_36 (by decide) ?_
    exact k_zret hx hb hr hlocks hQ hP hS (by omega) (by omega) dX6_isBalanced_37 rfl (⟨_, _, ⟨by rw [tBal, decide_eq_false c33]; rfl, rfl, rfl⟩, hM, hF⟩)
