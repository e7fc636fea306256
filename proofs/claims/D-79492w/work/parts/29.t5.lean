/-! THE TWIN, 5: what is done by hand -/
set_option maxRecDepth 100000
abbrev rmCX6_wind : Room := { frames := 2, cells := 0, slots := 0, locals := 46 }
theorem dyX6_wind : yX6_wind.cls = RX6 ∧ yX6_wind.cls ≠ "java/lang/invoke/MethodHandle" ∧ yX6_wind.cls ≠ "java/lang/invoke/VarHandle" ∧ (parseMethodDescriptor yX6_wind.desc).map (fun d => d.parameters.length) = some 3 := by decide +kernel
set_option maxHeartbeats 4000000 in
theorem CX6_wind (l0 : Launch) (E : gE) (w : wd) (h : Nat) (ad : Nat → Nat) (f : Nat → Int32) (a : Nat → Nat → Int32) (x : Int32) (s0 : Int32) (d0 : Int32) (ch : Nat) (hM : tM E w h ad f a) (hc : (f 6) = nI ch) (hc8 : ch ≤ 8) : kC l0 yX6_wind (ws_ yX6_wind cX6_wind 5 (some .int)) rmCX6_wind 0 0 mI E w [.ref h, .int x, .int s0, .int d0] (fun r w' => ∃ f' a', (r = (qWind (a 0) x s0 d0).2.2.1 ∧ f' = oF f ch (qWind (a 0) x s0 d0) ∧ a' = oA f a ch (qWind (a 0) x s0 d0)) ∧ tM E w' h ad f' a' ∧ fr tP w w') := by
  refine k_open (cc := cX6_wind) (maxL := 5) (ret := (some .int)) (by decide) rfl (Nat.le_of_ble_eq_true rfl) ?_
  intro p e s m args below meth c ls Q hx hb hr hml hown hts hlocks hname hQ hG hP hl hS
  have hl : lv_has ls 5 [(0, .ref h), (1, .int x), (2, .int s0), (3, .int d0)] := hl
  obtain ⟨w0, hw0⟩ : ∃ z, z = w := ⟨_, rfl⟩
  have hF : fr tP w0 w := by rw [hw0]; exact fr.rf
  rw [← hw0] at hQ
  refine lv_aload_n hx hb dX6_wind_0 rfl (lv_at hl 0 rfl) ?_
  refine lv_iload_n hx hb dX6_wind_1 rfl (lv_at hl 1 rfl) ?_
  refine k_cP hx hb hml hown hts (val := (bI (tin x 0 9))) (CX6_isLayer l0 E w x ) (va_cwS 1 hts (lw_S q1689 q1690 q81 q1691) rfl rfl rfl dyX6_isLayer ⟨Nat.le_of_ble_eq_true rfl, Nat.le_of_ble_eq_true rfl⟩) hG hP hS (As := [.int x]) (rest := [.ref h]) rfl hl.1 rfl (lv_room (Nat.le_of_ble_eq_true rfl)) dX6_wind_2 ⟨by omega, by omega⟩ (fun H locs hP hS => ?_)
  refine k_ifneB (x := tin x 0 9) (tgt := 12) hx hb dX6_wind_5 (by decide) (fun c5 => ?_) (fun c5 => ?_)
  · skip
    refine lv_iload_n hx hb dX6_wind_12 rfl (lv_at hl 2 rfl) ?_
    refine lv_iconst (v := 0) hx hb dX6_wind_13 (by decide) ?_
    refine lv_bipush (v := 9) hx hb dX6_wind_14 (by decide) ?_
    refine k_cP hx hb hml hown hts (val := (bI (tin s0 0 9))) (CX6_in l0 E w s0 0 9 ) (va_cwS 3 hts (lw_S q1692 q1693 q81 q1694) rfl rfl rfl dyX6_in ⟨Nat.le_of_ble_eq_true rfl, Nat.le_of_ble_eq_true rfl⟩) hG hP hS (As := [.int s0, .int 0, .int 9]) (rest := [.ref h]) rfl hl.1 rfl (lv_room (Nat.le_of_ble_eq_true rfl)) dX6_wind_16 ⟨by omega, by omega⟩ (fun H locs hP hS => ?_)
    refine k_ifeqB (x := tin s0 0 9) (tgt := 36) hx hb dX6_wind_19 (by decide) (fun c19 => ?_) (fun c19 => ?_)
    · skip
      refine lv_iconst (v := 2) hx hb dX6_wind_36 (by decide) ?_
      refine tw_cW hx hb hml hown hts (CX6_fails l0 E w h ad f a 2 hM ) (cwV 1 hts (lw_V q1695 q1697 qs35 q81 q1698) rfl rfl rfl dyX6_fails ⟨Nat.le_of_ble_eq_true rfl, Nat.le_of_ble_eq_true rfl⟩) hG hP hS hM hF (As := [.int 2]) (rest := []) rfl hl.1 rfl (lv_room (Nat.le_of_ble_eq_true rfl)) dX6_wind_37 ⟨by omega, by omega⟩ (fun r37 f37 a37 w H locs hp hM hF hP hS => ?_)
      obtain ⟨hp0, hp1, hp2⟩ := hp
      have hM := hM.ofF hp1 hp2
      have hM : tM E w h ad (va_up f 13 2) a := hM
      refine k_top (y := (bI (decide (0 < 2)))) hp0 ?_
      refine k_ifeqB (x := decide (0 < 2)) (tgt := 45) hx hb dX6_wind_40 (by decide) (fun c40 => ?_) (fun c40 => ?_)
      · skip
        exact absurd c40 (by decide)
      · skip
        refine lv_iconst (v := 0) hx hb dX6_wind_43 (by decide) ?_
        have hq : qWind (a 0) x s0 d0 = (2, 0, 0, (a 0)) := by simp [qWind, c5, c19, c40]
        exact k_iret hx hb hr hlocks hQ hP hS (by omega) (by omega) dX6_wind_44 (⟨_, _, ⟨by rw [hq], by rw [hq, oF_no (by decide)], by rw [hq, oA_no (by decide)]⟩, hM, hF⟩)
    · skip
      refine lv_iload_n hx hb dX6_wind_22 rfl (lv_at hl 3 rfl) ?_
      refine lv_bipush (v := (-3)) hx hb dX6_wind_23 (by decide) ?_
      refine lv_iconst (v := 3) hx hb dX6_wind_25 (by decide) ?_
      refine k_cP hx hb hml hown hts (val := (bI (tin d0 (-3) 3))) (CX6_in l0 E w d0 (-3) 3 ) (va_cwS 3 hts (lw_S q1692 q1693 q81 q1694) rfl rfl rfl dyX6_in ⟨Nat.le_of_ble_eq_true rfl, Nat.le_of_ble_eq_true rfl⟩) hG hP hS (As := [.int d0, .int (-3), .int 3]) (rest := [.ref h]) rfl hl.1 rfl (lv_room (Nat.le_of_ble_eq_true rfl)) dX6_wind_26 ⟨by omega, by omega⟩ (fun H locs hP hS => ?_)
      refine k_ifeqB (x := tin d0 (-3) 3) (tgt := 36) hx hb dX6_wind_29 (by decide) (fun c29 => ?_) (fun c29 => ?_)
      · skip
        refine lv_iconst (v := 2) hx hb dX6_wind_36 (by decide) ?_
        refine tw_cW hx hb hml hown hts (CX6_fails l0 E w h ad f a 2 hM ) (cwV 1 hts (lw_V q1695 q1697 qs35 q81 q1698) rfl rfl rfl dyX6_fails ⟨Nat.le_of_ble_eq_true rfl, Nat.le_of_ble_eq_true rfl⟩) hG hP hS hM hF (As := [.int 2]) (rest := []) rfl hl.1 rfl (lv_room (Nat.le_of_ble_eq_true rfl)) dX6_wind_37 ⟨by omega, by omega⟩ (fun r37 f37 a37 w H locs hp hM hF hP hS => ?_)
        obtain ⟨hp0, hp1, hp2⟩ := hp
        have hM := hM.ofF hp1 hp2
        have hM : tM E w h ad (va_up f 13 2) a := hM
        refine k_top (y := (bI (decide (0 < 2)))) hp0 ?_
        refine k_ifeqB (x := decide (0 < 2)) (tgt := 45) hx hb dX6_wind_40 (by decide) (fun c40 => ?_) (fun c40 => ?_)
        · skip
          exact absurd c40 (by decide)
        · skip
          refine lv_iconst (v := 0) hx hb dX6_wind_43 (by decide) ?_
          have hq : qWind (a 0) x s0 d0 = (2, 0, 0, (a 0)) := by simp [qWind, c5, c19, c29, c40]
          exact k_iret hx hb hr hlocks hQ hP hS (by omega) (by omega) dX6_wind_44 (⟨_, _, ⟨by rw [hq], by rw [hq, oF_no (by decide)], by rw [hq, oA_no (by decide)]⟩, hM, hF⟩)
      · skip
        refine lv_iconst (v := 0) hx hb dX6_wind_32 (by decide) ?_
        refine lv_goto (tgt := 37) hx hb dX6_wind_33 (by decide) ?_
        refine tw_cW hx hb hml hown hts (CX6_fails l0 E w h ad f a 0 hM ) (cwV 1 hts (lw_V q1695 q1697 qs35 q81 q1698) rfl rfl rfl dyX6_fails ⟨Nat.le_of_ble_eq_true rfl, Nat.le_of_ble_eq_true rfl⟩) hG hP hS hM hF (As := [.int 0]) (rest := []) rfl hl.1 rfl (lv_room (Nat.le_of_ble_eq_true rfl)) dX6_wind_37 ⟨by omega, by omega⟩ (fun r37 f37 a37 w H locs hp hM hF hP hS => ?_)
        obtain ⟨hp0, hp1, hp2⟩ := hp
        have hM := hM.ofF hp1 hp2
        have hM : tM E w h ad (va_up f 13 0) a := hM
        refine k_top (y := (bI (decide (0 < 0)))) hp0 ?_
        refine k_ifeqB (x := decide (0 < 0)) (tgt := 45) hx hb dX6_wind_40 (by decide) (fun c40 => ?_) (fun c40 => ?_)
        · skip
          refine lv_aload_n hx hb dX6_wind_45 rfl (lv_at hl 0 rfl) ?_
          refine lv_aload_n hx hb dX6_wind_46 rfl (lv_at hl 0 rfl) ?_
          refine tw_get hx hb hts hown hG hP hM 0 (by decide) (hts _ q1620) (fun _ h9 => h9) (v := .ref (ad 0)) rfl dX6_wind_47 ?_
          refine tw_cW hx hb hml hown hts (CX6_keeps0 l0 E w h ad (va_up f 13 0) a ch hM hc (by omega)) (cwV 1 hts (lw_V q1699 q1701 qs36 q81 q1702) rfl rfl rfl dyX6_keeps ⟨Nat.le_of_ble_eq_true rfl, Nat.le_of_ble_eq_true rfl⟩) hG hP hS hM hF (As := [.ref (ad 0)]) (rest := []) rfl hl.1 rfl (lv_room (Nat.le_of_ble_eq_true rfl)) dX6_wind_50 ⟨by omega, by omega⟩ (fun r50 f50 a50 w H locs hp hM hF hP hS => ?_)
          obtain ⟨hp1, hp2⟩ := hp
          have hM := hM.ofF hp1 hp2
          have hM : tM E w h ad (va_up (va_up f 13 0) 6 (tC6 (f 7) ch)) (va_up a 1 (tC1 (f 7) (a 1) (a 0) ch)) := hM
          obtain ⟨k, hk, rfl⟩ := tin_N (n := 9) (by decide) c5
          have ck : (nI k).toNatClampNeg = k := nI_clamp (by omega)
          refine lv_aload_n hx hb dX6_wind_53 rfl (lv_at hl 0 rfl) ?_
          refine tw_get hx hb hts hown hG hP hM 0 (by decide) (hts _ q1620) (fun _ h9 => h9) (v := .ref (ad 0)) rfl dX6_wind_54 ?_
          refine lv_iconst (v := 2) hx hb dX6_wind_57 (by decide) ?_
          refine lv_iload_n hx hb dX6_wind_58 rfl (lv_at hl 1 rfl) ?_
          refine k_imulN (x := 2) (y := k) hx hb dX6_wind_59 ?_
          refine tw_ald hx hb hG hP hM 0 (by decide) (j := 2 * k) (show 2 * k < 116 from by omega) dX6_wind_60 ?_
          refine k_top (y := ((a 0) (2 * k))) rfl ?_
          refine lv_istore (lv' := [(4, .int ((a 0) (2 * k))), (0, .ref h), (1, .int (nI k)), (2, .int s0), (3, .int d0)]) hx hb dX6_wind_61 hl (by decide) rfl (fun ls hl => ?_)
          refine lv_aload_n hx hb dX6_wind_63 rfl (lv_at hl 1 rfl) ?_
          refine tw_get hx hb hts hown hG hP hM 0 (by decide) (hts _ q1620) (fun _ h9 => h9) (v := .ref (ad 0)) rfl dX6_wind_64 ?_
          refine lv_iconst (v := 2) hx hb dX6_wind_67 (by decide) ?_
          refine lv_iload_n hx hb dX6_wind_68 rfl (lv_at hl 2 rfl) ?_
          refine k_imulN (x := 2) (y := k) hx hb dX6_wind_69 ?_
          refine lv_iload_n hx hb dX6_wind_70 rfl (lv_at hl 3 rfl) ?_
          refine tw_ast hx hb hG hP hS hM hF 0 (by decide) (j := 2 * k) (show 2 * k < 116 from by omega) (x := s0) dX6_wind_71 (fun w H locs hM hF hP hS => ?_)
          have hM : tM E w h ad (va_up (va_up f 13 0) 6 (tC6 (f 7) ch)) (va_up (va_up a 1 (tC1 (f 7) (a 1) (a 0) ch)) 0 (va_up (a 0) (2 * k) s0)) := hM
          refine lv_aload_n hx hb dX6_wind_72 rfl (lv_at hl 1 rfl) ?_
          refine tw_get hx hb hts hown hG hP hM 0 (by decide) (hts _ q1620) (fun _ h9 => h9) (v := .ref (ad 0)) rfl dX6_wind_73 ?_
          refine lv_iconst (v := 2) hx hb dX6_wind_76 (by decide) ?_
          refine lv_iload_n hx hb dX6_wind_77 rfl (lv_at hl 2 rfl) ?_
          refine k_imulN (x := 2) (y := k) hx hb dX6_wind_78 ?_
          refine lv_iconst (v := 1) hx hb dX6_wind_79 (by decide) ?_
          refine k_iaddN (x := 2 * k) (y := 1) hx hb dX6_wind_80 ?_
          refine lv_iload_n hx hb dX6_wind_81 rfl (lv_at hl 4 rfl) ?_
          refine tw_ast hx hb hG hP hS hM hF 0 (by decide) (j := 2 * k + 1) (show 2 * k + 1 < 116 from by omega) (x := d0) dX6_wind_82 (fun w H locs hM hF hP hS => ?_)
          have hM : tM E w h ad (va_up (va_up f 13 0) 6 (tC6 (f 7) ch)) (va_up (va_up a 1 (tC1 (f 7) (a 1) (a 0) ch)) 0 (va_up (va_up (a 0) (2 * k) s0) (2 * k + 1) d0)) := hM.uu
          refine lv_iload hx hb dX6_wind_83 (lv_at hl 0 rfl) ?_
          have hq : qWind (a 0) (nI k) s0 d0 = (0, 0, ((a 0) (2 * k)), (va_up (va_up (a 0) (2 * k) s0) (2 * k + 1) d0)) := by simp [qWind, ck, c5, c19, c29, c40]
          exact k_iret hx hb hr hlocks hQ hP hS (by omega) (by omega) dX6_wind_85 (⟨_, _, ⟨by rw [hq], by rw [hq, oF_ok], by rw [hq, oA_ok]⟩, hM, hF⟩)
        · skip
          exact absurd c40 (by decide)
  · skip
    refine lv_iconst (v := 1) hx hb dX6_wind_8 (by decide) ?_
    refine lv_goto (tgt := 37) hx hb dX6_wind_9 (by decide) ?_
    refine tw_cW hx hb hml hown hts (CX6_fails l0 E w h ad f a 1 hM ) (cwV 1 hts (lw_V q1695 q1697 qs35 q81 q1698) rfl rfl rfl dyX6_fails ⟨Nat.le_of_ble_eq_true rfl, Nat.le_of_ble_eq_true rfl⟩) hG hP hS hM hF (As := [.int 1]) (rest := []) rfl hl.1 rfl (lv_room (Nat.le_of_ble_eq_true rfl)) dX6_wind_37 ⟨by omega, by omega⟩ (fun r37 f37 a37 w H locs hp hM hF hP hS => ?_)
    obtain ⟨hp0, hp1, hp2⟩ := hp
    have hM := hM.ofF hp1 hp2
    have hM : tM E w h ad (va_up f 13 1) a := hM
    refine k_top (y := (bI (decide (0 < 1)))) hp0 ?_
    refine k_ifeqB (x := decide (0 < 1)) (tgt := 45) hx hb dX6_wind_40 (by decide) (fun c40 => ?_) (fun c40 => ?_)
    · skip
      exact absurd c40 (by decide)
    · skip
      refine lv_iconst (v := 0) hx hb dX6_wind_43 (by decide) ?_
      have hq : qWind (a 0) x s0 d0 = (1, 0, 0, (a 0)) := by simp [qWind, c5, c40]
      exact k_iret hx hb hr hlocks hQ hP hS (by omega) (by omega) dX6_wind_44 (⟨_, _, ⟨by rw [hq], by rw [hq, oF_no (by decide)], by rw [hq, oA_no (by decide)]⟩, hM, hF⟩)

abbrev rmCX6_kite : Room := { frames := 2, cells := 0, slots := 0, locals := 46 }
theorem dyX6_kite : yX6_kite.cls = RX6 ∧ yX6_kite.cls ≠ "java/lang/invoke/MethodHandle" ∧ yX6_kite.cls ≠ "java/lang/invoke/VarHandle" ∧ (parseMethodDescriptor yX6_kite.desc).map (fun d => d.parameters.length) = some 4 := by decide +kernel
set_option maxHeartbeats 4000000 in
theorem CX6_kite (l0 : Launch) (E : gE) (w : wd) (h : Nat) (ad : Nat → Nat) (f : Nat → Int32) (a : Nat → Nat → Int32) (x1 : Int32) (x2 : Int32) (x3 : Int32) (x4 : Int32) (ch : Nat) (mn : Nat) (hM : tM E w h ad f a) (hc : (f 6) = nI ch) (hc8 : ch ≤ 8) (hmn : mn ≤ 6) (hm : (a 0) 25 = nI mn) : kC l0 yX6_kite (ws_ yX6_kite cX6_kite 7 (some .int)) rmCX6_kite 0 0 mI E w [.ref h, .int x1, .int x2, .int x3, .int x4] (fun r w' => ∃ f' a', (r = (qKite (a 0) mn x1 x2 x3 x4).2.2.1 ∧ f' = oF f ch (qKite (a 0) mn x1 x2 x3 x4) ∧ a' = oA f a ch (qKite (a 0) mn x1 x2 x3 x4)) ∧ tM E w' h ad f' a' ∧ fr tP w w') := by
  refine k_open (cc := cX6_kite) (maxL := 7) (ret := (some .int)) (by decide) rfl (Nat.le_of_ble_eq_true rfl) ?_
  intro p e s m args below meth c ls Q hx hb hr hml hown hts hlocks hname hQ hG hP hl hS
  have hl : lv_has ls 7 [(0, .ref h), (1, .int x1), (2, .int x2), (3, .int x3), (4, .int x4)] := hl
  obtain ⟨w0, hw0⟩ : ∃ z, z = w := ⟨_, rfl⟩
  have hF : fr tP w0 w := by rw [hw0]; exact fr.rf
  rw [← hw0] at hQ
  refine lv_aload_n hx hb dX6_kite_0 rfl (lv_at hl 0 rfl) ?_
  refine lv_iload_n hx hb dX6_kite_1 rfl (lv_at hl 1 rfl) ?_
  refine lv_iconst (v := 0) hx hb dX6_kite_2 (by decide) ?_
  refine lv_iconst (v := 2) hx hb dX6_kite_3 (by decide) ?_
  refine k_cP hx hb hml hown hts (val := (bI (tin x1 0 2))) (CX6_in l0 E w x1 0 2 ) (va_cwS 3 hts (lw_S q1692 q1693 q81 q1694) rfl rfl rfl dyX6_in ⟨Nat.le_of_ble_eq_true rfl, Nat.le_of_ble_eq_true rfl⟩) hG hP hS (As := [.int x1, .int 0, .int 2]) (rest := [.ref h]) rfl hl.1 rfl (lv_room (Nat.le_of_ble_eq_true rfl)) dX6_kite_4 ⟨by omega, by omega⟩ (fun H locs hP hS => ?_)
  refine k_ifeqB (x := tin x1 0 2) (tgt := 46) hx hb dX6_kite_7 (by decide) (fun c7 => ?_) (fun c7 => ?_)
  · skip
    refine lv_iconst (v := 1) hx hb dX6_kite_46 (by decide) ?_
    refine tw_cW hx hb hml hown hts (CX6_fails l0 E w h ad f a 1 hM ) (cwV 1 hts (lw_V q1695 q1697 qs35 q81 q1698) rfl rfl rfl dyX6_fails ⟨Nat.le_of_ble_eq_true rfl, Nat.le_of_ble_eq_true rfl⟩) hG hP hS hM hF (As := [.int 1]) (rest := []) rfl hl.1 rfl (lv_room (Nat.le_of_ble_eq_true rfl)) dX6_kite_47 ⟨by omega, by omega⟩ (fun r47 f47 a47 w H locs hp hM hF hP hS => ?_)
    obtain ⟨hp0, hp1, hp2⟩ := hp
    have hM := hM.ofF hp1 hp2
    have hM : tM E w h ad (va_up f 13 1) a := hM
    refine k_top (y := (bI (decide (0 < 1)))) hp0 ?_
    refine k_ifeqB (x := decide (0 < 1)) (tgt := 55) hx hb dX6_kite_50 (by decide) (fun c50 => ?_) (fun c50 => ?_)
    · skip
      exact absurd c50 (by decide)
    · skip
      refine lv_iconst (v := 0) hx hb dX6_kite_53 (by decide) ?_
      have hq : qKite (a 0) mn x1 x2 x3 x4 = (1, 0, 0, (a 0)) := by simp [qKite, tNk, c7, c50]
      exact k_iret hx hb hr hlocks hQ hP hS (by omega) (by omega) dX6_kite_54 (⟨_, _, ⟨by rw [hq], by rw [hq, oF_no (by decide)], by rw [hq, oA_no (by decide)]⟩, hM, hF⟩)
  · skip
    refine lv_iload_n hx hb dX6_kite_10 rfl (lv_at hl 2 rfl) ?_
    refine lv_iconst (v := 0) hx hb dX6_kite_11 (by decide) ?_
    refine lv_bipush (v := 40) hx hb dX6_kite_12 (by decide) ?_
    refine k_cP hx hb hml hown hts (val := (bI (tin x2 0 40))) (CX6_in l0 E w x2 0 40 ) (va_cwS 3 hts (lw_S q1692 q1693 q81 q1694) rfl rfl rfl dyX6_in ⟨Nat.le_of_ble_eq_true rfl, Nat.le_of_ble_eq_true rfl⟩) hG hP hS (As := [.int x2, .int 0, .int 40]) (rest := [.ref h]) rfl hl.1 rfl (lv_room (Nat.le_of_ble_eq_true rfl)) dX6_kite_14 ⟨by omega, by omega⟩ (fun H locs hP hS => ?_)
    refine k_ifeqB (x := tin x2 0 40) (tgt := 46) hx hb dX6_kite_17 (by decide) (fun c17 => ?_) (fun c17 => ?_)
    · skip
      refine lv_iconst (v := 1) hx hb dX6_kite_46 (by decide) ?_
      refine tw_cW hx hb hml hown hts (CX6_fails l0 E w h ad f a 1 hM ) (cwV 1 hts (lw_V q1695 q1697 qs35 q81 q1698) rfl rfl rfl dyX6_fails ⟨Nat.le_of_ble_eq_true rfl, Nat.le_of_ble_eq_true rfl⟩) hG hP hS hM hF (As := [.int 1]) (rest := []) rfl hl.1 rfl (lv_room (Nat.le_of_ble_eq_true rfl)) dX6_kite_47 ⟨by omega, by omega⟩ (fun r47 f47 a47 w H locs hp hM hF hP hS => ?_)
      obtain ⟨hp0, hp1, hp2⟩ := hp
      have hM := hM.ofF hp1 hp2
      have hM : tM E w h ad (va_up f 13 1) a := hM
      refine k_top (y := (bI (decide (0 < 1)))) hp0 ?_
      refine k_ifeqB (x := decide (0 < 1)) (tgt := 55) hx hb dX6_kite_50 (by decide) (fun c50 => ?_) (fun c50 => ?_)
      · skip
        exact absurd c50 (by decide)
      · skip
        refine lv_iconst (v := 0) hx hb dX6_kite_53 (by decide) ?_
        have hq : qKite (a 0) mn x1 x2 x3 x4 = (1, 0, 0, (a 0)) := by simp [qKite, tNk, c7, c17, c50]
        exact k_iret hx hb hr hlocks hQ hP hS (by omega) (by omega) dX6_kite_54 (⟨_, _, ⟨by rw [hq], by rw [hq, oF_no (by decide)], by rw [hq, oA_no (by decide)]⟩, hM, hF⟩)
    · skip
      refine lv_iload_n hx hb dX6_kite_20 rfl (lv_at hl 3 rfl) ?_
      refine lv_bipush (v := 10) hx hb dX6_kite_21 (by decide) ?_
      refine lv_bipush (v := 99) hx hb dX6_kite_23 (by decide) ?_
      refine k_cP hx hb hml hown hts (val := (bI (tin x3 10 99))) (CX6_in l0 E w x3 10 99 ) (va_cwS 3 hts (lw_S q1692 q1693 q81 q1694) rfl rfl rfl dyX6_in ⟨Nat.le_of_ble_eq_true rfl, Nat.le_of_ble_eq_true rfl⟩) hG hP hS (As := [.int x3, .int 10, .int 99]) (rest := [.ref h]) rfl hl.1 rfl (lv_room (Nat.le_of_ble_eq_true rfl)) dX6_kite_25 ⟨by omega, by omega⟩ (fun H locs hP hS => ?_)
      refine k_ifeqB (x := tin x3 10 99) (tgt := 46) hx hb dX6_kite_28 (by decide) (fun c28 => ?_) (fun c28 => ?_)
      · skip
        refine lv_iconst (v := 1) hx hb dX6_kite_46 (by decide) ?_
        refine tw_cW hx hb hml hown hts (CX6_fails l0 E w h ad f a 1 hM ) (cwV 1 hts (lw_V q1695 q1697 qs35 q81 q1698) rfl rfl rfl dyX6_fails ⟨Nat.le_of_ble_eq_true rfl, Nat.le_of_ble_eq_true rfl⟩) hG hP hS hM hF (As := [.int 1]) (rest := []) rfl hl.1 rfl (lv_room (Nat.le_of_ble_eq_true rfl)) dX6_kite_47 ⟨by omega, by omega⟩ (fun r47 f47 a47 w H locs hp hM hF hP hS => ?_)
        obtain ⟨hp0, hp1, hp2⟩ := hp
        have hM := hM.ofF hp1 hp2
        have hM : tM E w h ad (va_up f 13 1) a := hM
        refine k_top (y := (bI (decide (0 < 1)))) hp0 ?_
        refine k_ifeqB (x := decide (0 < 1)) (tgt := 55) hx hb dX6_kite_50 (by decide) (fun c50 => ?_) (fun c50 => ?_)
        · skip
          exact absurd c50 (by decide)
        · skip
          refine lv_iconst (v := 0) hx hb dX6_kite_53 (by decide) ?_
          have hq : qKite (a 0) mn x1 x2 x3 x4 = (1, 0, 0, (a 0)) := by simp [qKite, tNk, c7, c17, c28, c50]
          exact k_iret hx hb hr hlocks hQ hP hS (by omega) (by omega) dX6_kite_54 (⟨_, _, ⟨by rw [hq], by rw [hq, oF_no (by decide)], by rw [hq, oA_no (by decide)]⟩, hM, hF⟩)
      · skip
        refine lv_iload hx hb dX6_kite_31 (lv_at hl 4 rfl) ?_
        refine lv_iconst (v := 0) hx hb dX6_kite_33 (by decide) ?_
        refine lv_bipush (v := 9) hx hb dX6_kite_34 (by decide) ?_
        refine k_cP hx hb hml hown hts (val := (bI (tin x4 0 9))) (CX6_in l0 E w x4 0 9 ) (va_cwS 3 hts (lw_S q1692 q1693 q81 q1694) rfl rfl rfl dyX6_in ⟨Nat.le_of_ble_eq_true rfl, Nat.le_of_ble_eq_true rfl⟩) hG hP hS (As := [.int x4, .int 0, .int 9]) (rest := [.ref h]) rfl hl.1 rfl (lv_room (Nat.le_of_ble_eq_true rfl)) dX6_kite_36 ⟨by omega, by omega⟩ (fun H locs hP hS => ?_)
        refine k_ifeqB (x := tin x4 0 9) (tgt := 46) hx hb dX6_kite_39 (by decide) (fun c39 => ?_) (fun c39 => ?_)
        · skip
          refine lv_iconst (v := 1) hx hb dX6_kite_46 (by decide) ?_
          refine tw_cW hx hb hml hown hts (CX6_fails l0 E w h ad f a 1 hM ) (cwV 1 hts (lw_V q1695 q1697 qs35 q81 q1698) rfl rfl rfl dyX6_fails ⟨Nat.le_of_ble_eq_true rfl, Nat.le_of_ble_eq_true rfl⟩) hG hP hS hM hF (As := [.int 1]) (rest := []) rfl hl.1 rfl (lv_room (Nat.le_of_ble_eq_true rfl)) dX6_kite_47 ⟨by omega, by omega⟩ (fun r47 f47 a47 w H locs hp hM hF hP hS => ?_)
          obtain ⟨hp0, hp1, hp2⟩ := hp
          have hM := hM.ofF hp1 hp2
          have hM : tM E w h ad (va_up f 13 1) a := hM
          refine k_top (y := (bI (decide (0 < 1)))) hp0 ?_
          refine k_ifeqB (x := decide (0 < 1)) (tgt := 55) hx hb dX6_kite_50 (by decide) (fun c50 => ?_) (fun c50 => ?_)
          · skip
            exact absurd c50 (by decide)
          · skip
            refine lv_iconst (v := 0) hx hb dX6_kite_53 (by decide) ?_
            have hq : qKite (a 0) mn x1 x2 x3 x4 = (1, 0, 0, (a 0)) := by simp [qKite, tNk, c7, c17, c28, c39, c50]
            exact k_iret hx hb hr hlocks hQ hP hS (by omega) (by omega) dX6_kite_54 (⟨_, _, ⟨by rw [hq], by rw [hq, oF_no (by decide)], by rw [hq, oA_no (by decide)]⟩, hM, hF⟩)
        · skip
          refine lv_iconst (v := 0) hx hb dX6_kite_42 (by decide) ?_
          refine lv_goto (tgt := 47) hx hb dX6_kite_43 (by decide) ?_
          refine tw_cW hx hb hml hown hts (CX6_fails l0 E w h ad f a 0 hM ) (cwV 1 hts (lw_V q1695 q1697 qs35 q81 q1698) rfl rfl rfl dyX6_fails ⟨Nat.le_of_ble_eq_true rfl, Nat.le_of_ble_eq_true rfl⟩) hG hP hS hM hF (As := [.int 0]) (rest := []) rfl hl.1 rfl (lv_room (Nat.le_of_ble_eq_true rfl)) dX6_kite_47 ⟨by omega, by omega⟩ (fun r47 f47 a47 w H locs hp hM hF hP hS => ?_)
          obtain ⟨hp0, hp1, hp2⟩ := hp
          have hM := hM.ofF hp1 hp2
          have hM : tM E w h ad (va_up f 13 0) a := hM
          refine k_top (y := (bI (decide (0 < 0)))) hp0 ?_
          refine k_ifeqB (x := decide (0 < 0)) (tgt := 55) hx hb dX6_kite_50 (by decide) (fun c50 => ?_) (fun c50 => ?_)
          · skip
            refine lv_aload_n hx hb dX6_kite_55 rfl (lv_at hl 0 rfl) ?_
            refine tw_get hx hb hts hown hG hP hM 0 (by decide) (hts _ q1620) (fun _ h9 => h9) (v := .ref (ad 0)) rfl dX6_kite_56 ?_
            refine lv_bipush (v := 25) hx hb dX6_kite_59 (by decide) ?_
            refine tw_ald hx hb hG hP hM 0 (by decide) (j := 25) (show 25 < 116 from by omega) dX6_kite_61 ?_
            refine k_top (y := (nI mn)) (hm) ?_
            refine lv_bipush (v := 6) hx hb dX6_kite_62 (by decide) ?_
            refine k_icmp_neN (x := mn) (y := 6) (tgt := 74) hx hb (by omega) (by omega) dX6_kite_64 (by decide) (fun c64 => ?_) (fun c64 => ?_)
            · skip
              refine lv_aload_n hx hb dX6_kite_74 rfl (lv_at hl 0 rfl) ?_
              refine lv_aload_n hx hb dX6_kite_75 rfl (lv_at hl 0 rfl) ?_
              refine tw_get hx hb hts hown hG hP hM 0 (by decide) (hts _ q1620) (fun _ h9 => h9) (v := .ref (ad 0)) rfl dX6_kite_76 ?_
              refine tw_cW hx hb hml hown hts (CX6_keeps0 l0 E w h ad (va_up f 13 0) a ch hM hc (by omega)) (cwV 1 hts (lw_V q1699 q1701 qs36 q81 q1702) rfl rfl rfl dyX6_keeps ⟨Nat.le_of_ble_eq_true rfl, Nat.le_of_ble_eq_true rfl⟩) hG hP hS hM hF (As := [.ref (ad 0)]) (rest := []) rfl hl.1 rfl (lv_room (Nat.le_of_ble_eq_true rfl)) dX6_kite_79 ⟨by omega, by omega⟩ (fun r79 f79 a79 w H locs hp hM hF hP hS => ?_)
              obtain ⟨hp1, hp2⟩ := hp
              have hM := hM.ofF hp1 hp2
              have hM : tM E w h ad (va_up (va_up f 13 0) 6 (tC6 (f 7) ch)) (va_up a 1 (tC1 (f 7) (a 1) (a 0) ch)) := hM
              refine lv_aload_n hx hb dX6_kite_82 rfl (lv_at hl 0 rfl) ?_
              refine tw_get hx hb hts hown hG hP hM 0 (by decide) (hts _ q1620) (fun _ h9 => h9) (v := .ref (ad 0)) rfl dX6_kite_83 ?_
              refine lv_bipush (v := 25) hx hb dX6_kite_86 (by decide) ?_
              refine tw_ald hx hb hG hP hM 0 (by decide) (j := 25) (show 25 < 116 from by omega) dX6_kite_88 ?_
              refine k_top (y := ((a 0) 25)) rfl ?_
              refine k_top (y := (nI mn)) (hm) ?_
              refine lv_istore (lv' := [(5, .int (nI mn)), (0, .ref h), (1, .int x1), (2, .int x2), (3, .int x3), (4, .int x4)]) hx hb dX6_kite_89 hl (by decide) rfl (fun ls hl => ?_)
              refine lv_iconst (v := 0) hx hb dX6_kite_91 (by decide) ?_
              refine lv_istore (lv' := [(6, .int 0), (5, .int (nI mn)), (0, .ref h), (1, .int x1), (2, .int x2), (3, .int x3), (4, .int x4)]) hx hb dX6_kite_92 hl (by decide) rfl (fun ls hl => ?_)
              have hloop_94 : ∀ (n9_94 : Nat) (i : Nat), (i ≤ 15) → (15 - i) < n9_94 → ∀ (w : wd) (H : Heap) (locs : List Loc) (ls : Array Slot), tM E w h ad (va_up (va_up f 13 0) 6 (tC6 (f 7) ch)) (va_up (va_up a 1 (tC1 (f 7) (a 1) (a 0) ch)) 0 (tZr (a 0) mn i)) → fr tP w0 w → wP E w H → va_S (gA E) s.heap H locs → lv_has ls 7 [(6, .int (nI i)), (5, .int (nI mn)), (0, .ref h), (1, .int x1), (2, .int x2), (3, .int x3), (4, .int x4)] → W p l0 e rmCX6_kite s m args below meth c H locs 0 0 Q (F0 m 94 ls []) := by
                intro n9_94
                induction n9_94 with
                | zero => intro i hi hn; exact absurd hn (Nat.not_lt_zero _)
                | succ n9_94 ih_94 =>
                  intro i hi hn_94 w H locs ls hM hF hP hS hl
                  refine lv_iload hx hb dX6_kite_94 (lv_at hl 0 rfl) ?_
                  refine lv_bipush (v := 15) hx hb dX6_kite_96 (by decide) ?_
                  refine k_icmp_geN (x := i) (y := 15) (tgt := 116) hx hb (by omega) (by omega) dX6_kite_98 (by decide) (fun c98 => ?_) (fun c98 => ?_)
                  · skip
                    have hM : tM E w h ad (va_up (va_up f 13 0) 6 (tC6 (f 7) ch)) (va_up (va_up a 1 (tC1 (f 7) (a 1) (a 0) ch)) 0 (tZr (a 0) mn 15)) := hM.of (by rw [show i = 15 from by omega])
                    refine lv_aload_n hx hb dX6_kite_116 rfl (lv_at hl 2 rfl) ?_
                    refine lv_iload hx hb dX6_kite_117 (lv_at hl 1 rfl) ?_
                    refine lv_iconst (v := 1) hx hb dX6_kite_119 (by decide) ?_
                    refine lv_iload_n hx hb dX6_kite_120 rfl (lv_at hl 3 rfl) ?_
                    refine tw_cW hx hb hml hown hts (CX6_lays l0 E w h ad (va_up (va_up f 13 0) 6 (tC6 (f 7) ch)) (va_up (va_up a 1 (tC1 (f 7) (a 1) (a 0) ch)) 0 (tZr (a 0) mn 15)) mn 1 x1 hM (by omega) (by omega)) (cwV 3 hts (lw_V q1718 q1720 qs38 q81 q1721) rfl rfl rfl dyX6_lays ⟨Nat.le_of_ble_eq_true rfl, Nat.le_of_ble_eq_true rfl⟩) hG hP hS hM hF (As := [.int (nI mn), .int 1, .int x1]) (rest := []) rfl hl.1 rfl (lv_room (Nat.le_of_ble_eq_true rfl)) dX6_kite_121 ⟨by omega, by omega⟩ (fun r121 f121 a121 w H locs hp hM hF hP hS => ?_)
                    obtain ⟨hp1, hp2⟩ := hp
                    have hM := hM.ofF hp1 hp2
                    have hM : tM E w h ad (va_up (va_up f 13 0) 6 (tC6 (f 7) ch)) (va_up (va_up a 1 (tC1 (f 7) (a 1) (a 0) ch)) 0 (va_up (tZr (a 0) mn 15) (kO mn 1) x1)) := hM.uu
                    refine lv_aload_n hx hb dX6_kite_124 rfl (lv_at hl 2 rfl) ?_
                    refine lv_iload hx hb dX6_kite_125 (lv_at hl 1 rfl) ?_
                    refine lv_iconst (v := 2) hx hb dX6_kite_127 (by decide) ?_
                    refine lv_iload_n hx hb dX6_kite_128 rfl (lv_at hl 4 rfl) ?_
                    refine tw_cW hx hb hml hown hts (CX6_lays l0 E w h ad (va_up (va_up f 13 0) 6 (tC6 (f 7) ch)) (va_up (va_up a 1 (tC1 (f 7) (a 1) (a 0) ch)) 0 (va_up (tZr (a 0) mn 15) (kO mn 1) x1)) mn 2 x2 hM (by omega) (by omega)) (cwV 3 hts (lw_V q1718 q1720 qs38 q81 q1721) rfl rfl rfl dyX6_lays ⟨Nat.le_of_ble_eq_true rfl, Nat.le_of_ble_eq_true rfl⟩) hG hP hS hM hF (As := [.int (nI mn), .int 2, .int x2]) (rest := []) rfl hl.1 rfl (lv_room (Nat.le_of_ble_eq_true rfl)) dX6_kite_129 ⟨by omega, by omega⟩ (fun r129 f129 a129 w H locs hp hM hF hP hS => ?_)
                    obtain ⟨hp1, hp2⟩ := hp
                    have hM := hM.ofF hp1 hp2
                    have hM : tM E w h ad (va_up (va_up f 13 0) 6 (tC6 (f 7) ch)) (va_up (va_up a 1 (tC1 (f 7) (a 1) (a 0) ch)) 0 (va_up (va_up (tZr (a 0) mn 15) (kO mn 1) x1) (kO mn 2) x2)) := hM.uu
                    refine lv_aload_n hx hb dX6_kite_132 rfl (lv_at hl 2 rfl) ?_
                    refine lv_iload hx hb dX6_kite_133 (lv_at hl 1 rfl) ?_
                    refine lv_iconst (v := 3) hx hb dX6_kite_135 (by decide) ?_
                    refine lv_iload_n hx hb dX6_kite_136 rfl (lv_at hl 5 rfl) ?_
                    refine tw_cW hx hb hml hown hts (CX6_lays l0 E w h ad (va_up (va_up f 13 0) 6 (tC6 (f 7) ch)) (va_up (va_up a 1 (tC1 (f 7) (a 1) (a 0) ch)) 0 (va_up (va_up (tZr (a 0) mn 15) (kO mn 1) x1) (kO mn 2) x2)) mn 3 x3 hM (by omega) (by omega)) (cwV 3 hts (lw_V q1718 q1720 qs38 q81 q1721) rfl rfl rfl dyX6_lays ⟨Nat.le_of_ble_eq_true rfl, Nat.le_of_ble_eq_true rfl⟩) hG hP hS hM hF (As := [.int (nI mn), .int 3, .int x3]) (rest := []) rfl hl.1 rfl (lv_room (Nat.le_of_ble_eq_true rfl)) dX6_kite_137 ⟨by omega, by omega⟩ (fun r137 f137 a137 w H locs hp hM hF hP hS => ?_)
                    obtain ⟨hp1, hp2⟩ := hp
                    have hM := hM.ofF hp1 hp2
                    have hM : tM E w h ad (va_up (va_up f 13 0) 6 (tC6 (f 7) ch)) (va_up (va_up a 1 (tC1 (f 7) (a 1) (a 0) ch)) 0 (va_up (va_up (va_up (tZr (a 0) mn 15) (kO mn 1) x1) (kO mn 2) x2) (kO mn 3) x3)) := hM.uu
                    refine lv_aload_n hx hb dX6_kite_140 rfl (lv_at hl 2 rfl) ?_
                    refine lv_iload hx hb dX6_kite_141 (lv_at hl 1 rfl) ?_
                    refine lv_bipush (v := 12) hx hb dX6_kite_143 (by decide) ?_
                    refine lv_iload_n hx hb dX6_kite_145 rfl (lv_at hl 5 rfl) ?_
                    refine tw_cW hx hb hml hown hts (CX6_lays l0 E w h ad (va_up (va_up f 13 0) 6 (tC6 (f 7) ch)) (va_up (va_up a 1 (tC1 (f 7) (a 1) (a 0) ch)) 0 (va_up (va_up (va_up (tZr (a 0) mn 15) (kO mn 1) x1) (kO mn 2) x2) (kO mn 3) x3)) mn 12 x3 hM (by omega) (by omega)) (cwV 3 hts (lw_V q1718 q1720 qs38 q81 q1721) rfl rfl rfl dyX6_lays ⟨Nat.le_of_ble_eq_true rfl, Nat.le_of_ble_eq_true rfl⟩) hG hP hS hM hF (As := [.int (nI mn), .int 12, .int x3]) (rest := []) rfl hl.1 rfl (lv_room (Nat.le_of_ble_eq_true rfl)) dX6_kite_146 ⟨by omega, by omega⟩ (fun r146 f146 a146 w H locs hp hM hF hP hS => ?_)
                    obtain ⟨hp1, hp2⟩ := hp
                    have hM := hM.ofF hp1 hp2
                    have hM : tM E w h ad (va_up (va_up f 13 0) 6 (tC6 (f 7) ch)) (va_up (va_up a 1 (tC1 (f 7) (a 1) (a 0) ch)) 0 (va_up (va_up (va_up (va_up (tZr (a 0) mn 15) (kO mn 1) x1) (kO mn 2) x2) (kO mn 3) x3) (kO mn 12) x3)) := hM.uu
                    refine lv_aload_n hx hb dX6_kite_149 rfl (lv_at hl 2 rfl) ?_
                    refine lv_iload hx hb dX6_kite_150 (lv_at hl 1 rfl) ?_
                    refine lv_iconst (v := 4) hx hb dX6_kite_152 (by decide) ?_
                    refine lv_iload hx hb dX6_kite_153 (lv_at hl 6 rfl) ?_
                    refine tw_cW hx hb hml hown hts (CX6_lays l0 E w h ad (va_up (va_up f 13 0) 6 (tC6 (f 7) ch)) (va_up (va_up a 1 (tC1 (f 7) (a 1) (a 0) ch)) 0 (va_up (va_up (va_up (va_up (tZr (a 0) mn 15) (kO mn 1) x1) (kO mn 2) x2) (kO mn 3) x3) (kO mn 12) x3)) mn 4 x4 hM (by omega) (by omega)) (cwV 3 hts (lw_V q1718 q1720 qs38 q81 q1721) rfl rfl rfl dyX6_lays ⟨Nat.le_of_ble_eq_true rfl, Nat.le_of_ble_eq_true rfl⟩) hG hP hS hM hF (As := [.int (nI mn), .int 4, .int x4]) (rest := []) rfl hl.1 rfl (lv_room (Nat.le_of_ble_eq_true rfl)) dX6_kite_155 ⟨by omega, by omega⟩ (fun r155 f155 a155 w H locs hp hM hF hP hS => ?_)
                    obtain ⟨hp1, hp2⟩ := hp
                    have hM := hM.ofF hp1 hp2
                    have hM : tM E w h ad (va_up (va_up f 13 0) 6 (tC6 (f 7) ch)) (va_up (va_up a 1 (tC1 (f 7) (a 1) (a 0) ch)) 0 (va_up (va_up (va_up (va_up (va_up (tZr (a 0) mn 15) (kO mn 1) x1) (kO mn 2) x2) (kO mn 3) x3) (kO mn 12) x3) (kO mn 4) x4)) := hM.uu
                    refine lv_aload_n hx hb dX6_kite_158 rfl (lv_at hl 2 rfl) ?_
                    refine tw_get hx hb hts hown hG hP hM 0 (by decide) (hts _ q1620) (fun _ h9 => h9) (v := .ref (ad 0)) rfl dX6_kite_159 ?_
                    refine lv_bipush (v := 25) hx hb dX6_kite_162 (by decide) ?_
                    refine lv_dup2_11 hx hb dX6_kite_164 rfl rfl ?_
                    refine tw_ald hx hb hG hP hM 0 (by decide) (j := 25) (show 25 < 116 from by omega) dX6_kite_165 ?_
                    refine k_top (y := ((va_up (va_up (va_up (va_up (va_up (tZr (a 0) mn 15) (kO mn 1) x1) (kO mn 2) x2) (kO mn 3) x3) (kO mn 12) x3) (kO mn 4) x4) 25)) rfl ?_
                    refine k_top (y := (nI mn)) (by (repeat (rw [up_n (by first | decide | (unfold kO; omega))])); rw [tZr_lo (by omega)]; exact hm) ?_
                    refine lv_iconst (v := 1) hx hb dX6_kite_166 (by decide) ?_
                    refine k_iaddN (x := mn) (y := 1) hx hb dX6_kite_167 ?_
                    refine tw_ast hx hb hG hP hS hM hF 0 (by decide) (j := 25) (show 25 < 116 from by omega) (x := (nI (mn + 1))) dX6_kite_168 (fun w H locs hM hF hP hS => ?_)
                    have hM : tM E w h ad (va_up (va_up f 13 0) 6 (tC6 (f 7) ch)) (va_up (va_up a 1 (tC1 (f 7) (a 1) (a 0) ch)) 0 (va_up (va_up (va_up (va_up (va_up (va_up (tZr (a 0) mn 15) (kO mn 1) x1) (kO mn 2) x2) (kO mn 3) x3) (kO mn 12) x3) (kO mn 4) x4) 25 (nI (mn + 1)))) := hM.uu
                    refine lv_iload hx hb dX6_kite_169 (lv_at hl 1 rfl) ?_
                    have hq : qKite (a 0) mn x1 x2 x3 x4 = (0, 0, (nI mn), (va_up (va_up (va_up (va_up (va_up (va_up (tZr (a 0) mn 15) (kO mn 1) x1) (kO mn 2) x2) (kO mn 3) x3) (kO mn 12) x3) (kO mn 4) x4) 25 (nI (mn + 1)))) := by simp [qKite, tNk, c7, c17, c28, c39, c50, c64, c98]
                    exact k_iret hx hb hr hlocks hQ hP hS (by omega) (by omega) dX6_kite_171 (⟨_, _, ⟨by rw [hq], by rw [hq, oF_ok], by rw [hq, oA_ok]⟩, hM, hF⟩)
                  · skip
                    refine lv_aload_n hx hb dX6_kite_101 rfl (lv_at hl 2 rfl) ?_
                    refine lv_iload hx hb dX6_kite_102 (lv_at hl 1 rfl) ?_
                    refine lv_iload hx hb dX6_kite_104 (lv_at hl 0 rfl) ?_
                    refine lv_iconst (v := 0) hx hb dX6_kite_106 (by decide) ?_
                    refine tw_cW hx hb hml hown hts (CX6_lays l0 E w h ad (va_up (va_up f 13 0) 6 (tC6 (f 7) ch)) (va_up (va_up a 1 (tC1 (f 7) (a 1) (a 0) ch)) 0 (tZr (a 0) mn i)) mn i 0 hM (by omega) (by omega)) (cwV 3 hts (lw_V q1718 q1720 qs38 q81 q1721) rfl rfl rfl dyX6_lays ⟨Nat.le_of_ble_eq_true rfl, Nat.le_of_ble_eq_true rfl⟩) hG hP hS hM hF (As := [.int (nI mn), .int (nI i), .int 0]) (rest := []) rfl hl.1 rfl (lv_room (Nat.le_of_ble_eq_true rfl)) dX6_kite_107 ⟨by omega, by omega⟩ (fun r107 f107 a107 w H locs hp hM hF hP hS => ?_)
                    obtain ⟨hp1, hp2⟩ := hp
                    have hM := hM.ofF hp1 hp2
                    have hM : tM E w h ad (va_up (va_up f 13 0) 6 (tC6 (f 7) ch)) (va_up (va_up a 1 (tC1 (f 7) (a 1) (a 0) ch)) 0 (va_up (tZr (a 0) mn i) (kO mn i) 0)) := hM.uu
                    refine lv_iinc (v := (nI (i + 1))) (lv' := [(6, .int (nI (i + 1))), (5, .int (nI mn)), (0, .ref h), (1, .int x1), (2, .int x2), (3, .int x3), (4, .int x4)]) hx hb dX6_kite_110 hl (k := 0) rfl (nI_add i 1) (by decide) rfl (fun ls hl => ?_)
                    refine lv_goto (tgt := 94) hx hb dX6_kite_113 (by decide) ?_
                    have hl : lv_has ls 7 [(6, .int (nI (i + 1))), (5, .int (nI mn)), (0, .ref h), (1, .int x1), (2, .int x2), (3, .int x3), (4, .int x4)] := hl
                    have hM : tM E w h ad (va_up (va_up f 13 0) 6 (tC6 (f 7) ch)) (va_up (va_up a 1 (tC1 (f 7) (a 1) (a 0) ch)) 0 (tZr (a 0) mn (i + 1))) := hM
                    exact ih_94 (i + 1) (by omega) (by omega) _ _ _ _ hM hF hP hS hl
              have hl : lv_has ls 7 [(6, .int (nI 0)), (5, .int (nI mn)), (0, .ref h), (1, .int x1), (2, .int x2), (3, .int x3), (4, .int x4)] := hl
              have hM : tM E w h ad (va_up (va_up f 13 0) 6 (tC6 (f 7) ch)) (va_up (va_up a 1 (tC1 (f 7) (a 1) (a 0) ch)) 0 (tZr (a 0) mn 0)) := hM.of (up_same (va_up a 1 (tC1 (f 7) (a 1) (a 0) ch)) 0).symm
              exact hloop_94 _ 0 (by omega) (Nat.lt_succ_self _) _ _ _ _ hM hF hP hS hl
            · skip
              refine lv_aload_n hx hb dX6_kite_67 rfl (lv_at hl 0 rfl) ?_
              refine lv_iconst (v := 1) hx hb dX6_kite_68 (by decide) ?_
              refine lv_iconst (v := 2) hx hb dX6_kite_69 (by decide) ?_
              refine tw_cW hx hb hml hown hts (CX6_refuses l0 E w h ad (va_up f 13 0) a 1 2 hM ) (cwV 2 hts (lw_V q1714 q1716 qs37 q81 q1717) rfl rfl rfl dyX6_refuses ⟨Nat.le_of_ble_eq_true rfl, Nat.le_of_ble_eq_true rfl⟩) hG hP hS hM hF (As := [.int 1, .int 2]) (rest := []) rfl hl.1 rfl (lv_room (Nat.le_of_ble_eq_true rfl)) dX6_kite_70 ⟨by omega, by omega⟩ (fun r70 f70 a70 w H locs hp hM hF hP hS => ?_)
              obtain ⟨hp0, hp1, hp2⟩ := hp
              have hM := hM.ofF hp1 hp2
              have hM : tM E w h ad (va_up (va_up (va_up (va_up f 13 0) 11 1) 12 (-1)) 13 2) a := hM
              refine k_top (y := 0) hp0 ?_
              have hq : qKite (a 0) mn x1 x2 x3 x4 = (2, 1, 0, (a 0)) := by simp [qKite, tNk, c7, c17, c28, c39, c50, c64]
              exact k_iret hx hb hr hlocks hQ hP hS (by omega) (by omega) dX6_kite_73 (⟨_, _, ⟨by rw [hq], by rw [hq, oF_rf (by decide) (by decide)], by rw [hq, oA_no (by decide)]⟩, hM, hF⟩)
          · skip
            exact absurd c50 (by decide)

abbrev rmCX6_launch : Room := { frames := 2, cells := 0, slots := 0, locals := 46 }
theorem dyX6_launch : yX6_launch.cls = RX6 ∧ yX6_launch.cls ≠ "java/lang/invoke/MethodHandle" ∧ yX6_launch.cls ≠ "java/lang/invoke/VarHandle" ∧ (parseMethodDescriptor yX6_launch.desc).map (fun d => d.parameters.length) = some 1 := by decide +kernel
set_option maxHeartbeats 4000000 in
theorem CX6_launch (l0 : Launch) (E : gE) (w : wd) (h : Nat) (ad : Nat → Nat) (f : Nat → Int32) (a : Nat → Nat → Int32) (x : Int32) (ch : Nat) (mn : Nat) (hM : tM E w h ad f a) (hc : (f 6) = nI ch) (hc8 : ch ≤ 8) (hmn : mn ≤ 6) (hm : (a 0) 25 = nI mn) : kC l0 yX6_launch (ws_ yX6_launch cX6_launch 2 (some .int)) rmCX6_launch 0 0 mI E w [.ref h, .int x] (fun r w' => ∃ f' a', (r = (qLnch (a 0) mn x).2.2.1 ∧ f' = oF f ch (qLnch (a 0) mn x) ∧ a' = oA f a ch (qLnch (a 0) mn x)) ∧ tM E w' h ad f' a' ∧ fr tP w w') := by
  refine k_open (cc := cX6_launch) (maxL := 2) (ret := (some .int)) (by decide) rfl (Nat.le_of_ble_eq_true rfl) ?_
  intro p e s m args below meth c ls Q hx hb hr hml hown hts hlocks hname hQ hG hP hl hS
  have hl : lv_has ls 2 [(0, .ref h), (1, .int x)] := hl
  obtain ⟨w0, hw0⟩ : ∃ z, z = w := ⟨_, rfl⟩
  have hF : fr tP w0 w := by rw [hw0]; exact fr.rf
  rw [← hw0] at hQ
  refine lv_aload_n hx hb dX6_launch_0 rfl (lv_at hl 0 rfl) ?_
  refine lv_aload_n hx hb dX6_launch_1 rfl (lv_at hl 0 rfl) ?_
  refine lv_iload_n hx hb dX6_launch_2 rfl (lv_at hl 1 rfl) ?_
  refine tw_cR hx hb hml hown hts (val := (bI (tKt (a 0) x))) (CX6_isKite l0 E w h ad f a x hM ) (cwV 1 hts (lw_V q1726 q1728 qs39 q81 q1729) rfl rfl rfl dyX6_isKite ⟨Nat.le_of_ble_eq_true rfl, Nat.le_of_ble_eq_true rfl⟩) hG hP hS hM (As := [.int x]) (rest := [.ref h]) rfl hl.1 rfl (lv_room (Nat.le_of_ble_eq_true rfl)) dX6_launch_3 ⟨by omega, by omega⟩ (fun H locs hP hS => ?_)
  refine k_ifeqB (x := tKt (a 0) x) (tgt := 13) hx hb dX6_launch_6 (by decide) (fun c6 => ?_) (fun c6 => ?_)
  · skip
    refine lv_iconst (v := 1) hx hb dX6_launch_13 (by decide) ?_
    refine tw_cW hx hb hml hown hts (CX6_fails l0 E w h ad f a 1 hM ) (cwV 1 hts (lw_V q1695 q1697 qs35 q81 q1698) rfl rfl rfl dyX6_fails ⟨Nat.le_of_ble_eq_true rfl, Nat.le_of_ble_eq_true rfl⟩) hG hP hS hM hF (As := [.int 1]) (rest := []) rfl hl.1 rfl (lv_room (Nat.le_of_ble_eq_true rfl)) dX6_launch_14 ⟨by omega, by omega⟩ (fun r14 f14 a14 w H locs hp hM hF hP hS => ?_)
    obtain ⟨hp0, hp1, hp2⟩ := hp
    have hM := hM.ofF hp1 hp2
    have hM : tM E w h ad (va_up f 13 1) a := hM
    refine k_top (y := (bI (decide (0 < 1)))) hp0 ?_
    refine k_ifeqB (x := decide (0 < 1)) (tgt := 22) hx hb dX6_launch_17 (by decide) (fun c17 => ?_) (fun c17 => ?_)
    · skip
      exact absurd c17 (by decide)
    · skip
      refine lv_iconst (v := 0) hx hb dX6_launch_20 (by decide) ?_
      have hq : qLnch (a 0) mn x = (1, 0, 0, (a 0)) := by simp [qLnch, tLn, c6, c17]
      exact k_iret hx hb hr hlocks hQ hP hS (by omega) (by omega) dX6_launch_21 (⟨_, _, ⟨by rw [hq], by rw [hq, oF_no (by decide)], by rw [hq, oA_no (by decide)]⟩, hM, hF⟩)
  · skip
    refine lv_iconst (v := 0) hx hb dX6_launch_9 (by decide) ?_
    refine lv_goto (tgt := 14) hx hb dX6_launch_10 (by decide) ?_
    refine tw_cW hx hb hml hown hts (CX6_fails l0 E w h ad f a 0 hM ) (cwV 1 hts (lw_V q1695 q1697 qs35 q81 q1698) rfl rfl rfl dyX6_fails ⟨Nat.le_of_ble_eq_true rfl, Nat.le_of_ble_eq_true rfl⟩) hG hP hS hM hF (As := [.int 0]) (rest := []) rfl hl.1 rfl (lv_room (Nat.le_of_ble_eq_true rfl)) dX6_launch_14 ⟨by omega, by omega⟩ (fun r14 f14 a14 w H locs hp hM hF hP hS => ?_)
    obtain ⟨hp0, hp1, hp2⟩ := hp
    have hM := hM.ofF hp1 hp2
    have hM : tM E w h ad (va_up f 13 0) a := hM
    refine k_top (y := (bI (decide (0 < 0)))) hp0 ?_
    refine k_ifeqB (x := decide (0 < 0)) (tgt := 22) hx hb dX6_launch_17 (by decide) (fun c17 => ?_) (fun c17 => ?_)
    · skip
      obtain ⟨k, hk, rfl⟩ := tKt_of hm hmn c6
      have ck : (nI k).toNatClampNeg = k := nI_clamp (by omega)
      refine lv_aload_n hx hb dX6_launch_22 rfl (lv_at hl 0 rfl) ?_
      refine lv_iload_n hx hb dX6_launch_23 rfl (lv_at hl 1 rfl) ?_
      refine lv_iconst (v := 0) hx hb dX6_launch_24 (by decide) ?_
      refine tw_cR hx hb hml hown hts (val := (a 0) (kO k 0)) (CX6_of l0 E w h ad (va_up f 13 0) a k 0 hM (by omega) (by omega)) (cwV 2 hts (lw_V q1730 q1732 qs40 q81 q1733) rfl rfl rfl dyX6_of ⟨Nat.le_of_ble_eq_true rfl, Nat.le_of_ble_eq_true rfl⟩) hG hP hS hM (As := [.int (nI k), .int 0]) (rest := []) rfl hl.1 rfl (lv_room (Nat.le_of_ble_eq_true rfl)) dX6_launch_25 ⟨by omega, by omega⟩ (fun H locs hP hS => ?_)
      refine lv_if_eq (tgt := 38) hx hb dX6_launch_28 (by decide) (fun c28 => ?_) (fun c28 => ?_)
      · skip
        refine lv_aload_n hx hb dX6_launch_38 rfl (lv_at hl 0 rfl) ?_
        refine tw_get hx hb hts hown hG hP hM 0 (by decide) (hts _ q1620) (fun _ h9 => h9) (v := .ref (ad 0)) rfl dX6_launch_39 ?_
        refine lv_iconst (v := 0) hx hb dX6_launch_42 (by decide) ?_
        refine tw_ald hx hb hG hP hM 0 (by decide) (j := 0) (show 0 < 116 from by omega) dX6_launch_43 ?_
        refine lv_if_ne (tgt := 54) hx hb dX6_launch_44 (by decide) (fun c44 => ?_) (fun c44 => ?_)
        · skip
          refine lv_aload_n hx hb dX6_launch_54 rfl (lv_at hl 0 rfl) ?_
          refine lv_aload_n hx hb dX6_launch_55 rfl (lv_at hl 0 rfl) ?_
          refine tw_get hx hb hts hown hG hP hM 0 (by decide) (hts _ q1620) (fun _ h9 => h9) (v := .ref (ad 0)) rfl dX6_launch_56 ?_
          refine tw_cW hx hb hml hown hts (CX6_keeps0 l0 E w h ad (va_up f 13 0) a ch hM hc (by omega)) (cwV 1 hts (lw_V q1699 q1701 qs36 q81 q1702) rfl rfl rfl dyX6_keeps ⟨Nat.le_of_ble_eq_true rfl, Nat.le_of_ble_eq_true rfl⟩) hG hP hS hM hF (As := [.ref (ad 0)]) (rest := []) rfl hl.1 rfl (lv_room (Nat.le_of_ble_eq_true rfl)) dX6_launch_59 ⟨by omega, by omega⟩ (fun r59 f59 a59 w H locs hp hM hF hP hS => ?_)
          obtain ⟨hp1, hp2⟩ := hp
          have hM := hM.ofF hp1 hp2
          have hM : tM E w h ad (va_up (va_up f 13 0) 6 (tC6 (f 7) ch)) (va_up a 1 (tC1 (f 7) (a 1) (a 0) ch)) := hM
          refine lv_aload_n hx hb dX6_launch_62 rfl (lv_at hl 0 rfl) ?_
          refine lv_iload_n hx hb dX6_launch_63 rfl (lv_at hl 1 rfl) ?_
          refine lv_iconst (v := 0) hx hb dX6_launch_64 (by decide) ?_
          refine lv_iconst (v := 1) hx hb dX6_launch_65 (by decide) ?_
          refine tw_cW hx hb hml hown hts (CX6_lays l0 E w h ad (va_up (va_up f 13 0) 6 (tC6 (f 7) ch)) (va_up a 1 (tC1 (f 7) (a 1) (a 0) ch)) k 0 1 hM (by omega) (by omega)) (cwV 3 hts (lw_V q1718 q1720 qs38 q81 q1721) rfl rfl rfl dyX6_lays ⟨Nat.le_of_ble_eq_true rfl, Nat.le_of_ble_eq_true rfl⟩) hG hP hS hM hF (As := [.int (nI k), .int 0, .int 1]) (rest := []) rfl hl.1 rfl (lv_room (Nat.le_of_ble_eq_true rfl)) dX6_launch_66 ⟨by omega, by omega⟩ (fun r66 f66 a66 w H locs hp hM hF hP hS => ?_)
          obtain ⟨hp1, hp2⟩ := hp
          have hM := hM.ofF hp1 hp2
          have hM : tM E w h ad (va_up (va_up f 13 0) 6 (tC6 (f 7) ch)) (va_up (va_up a 1 (tC1 (f 7) (a 1) (a 0) ch)) 0 (va_up (a 0) (kO k 0) 1)) := hM
          refine lv_aload_n hx hb dX6_launch_69 rfl (lv_at hl 0 rfl) ?_
          refine lv_iload_n hx hb dX6_launch_70 rfl (lv_at hl 1 rfl) ?_
          refine lv_iconst (v := 5) hx hb dX6_launch_71 (by decide) ?_
          refine lv_iconst (v := 0) hx hb dX6_launch_72 (by decide) ?_
          refine tw_cW hx hb hml hown hts (CX6_lays l0 E w h ad (va_up (va_up f 13 0) 6 (tC6 (f 7) ch)) (va_up (va_up a 1 (tC1 (f 7) (a 1) (a 0) ch)) 0 (va_up (a 0) (kO k 0) 1)) k 5 0 hM (by omega) (by omega)) (cwV 3 hts (lw_V q1718 q1720 qs38 q81 q1721) rfl rfl rfl dyX6_lays ⟨Nat.le_of_ble_eq_true rfl, Nat.le_of_ble_eq_true rfl⟩) hG hP hS hM hF (As := [.int (nI k), .int 5, .int 0]) (rest := []) rfl hl.1 rfl (lv_room (Nat.le_of_ble_eq_true rfl)) dX6_launch_73 ⟨by omega, by omega⟩ (fun r73 f73 a73 w H locs hp hM hF hP hS => ?_)
          obtain ⟨hp1, hp2⟩ := hp
          have hM := hM.ofF hp1 hp2
          have hM : tM E w h ad (va_up (va_up f 13 0) 6 (tC6 (f 7) ch)) (va_up (va_up a 1 (tC1 (f 7) (a 1) (a 0) ch)) 0 (va_up (va_up (a 0) (kO k 0) 1) (kO k 5) 0)) := hM.uu
          refine lv_aload_n hx hb dX6_launch_76 rfl (lv_at hl 0 rfl) ?_
          refine lv_iload_n hx hb dX6_launch_77 rfl (lv_at hl 1 rfl) ?_
          refine lv_bipush (v := 6) hx hb dX6_launch_78 (by decide) ?_
          refine lv_iconst (v := 0) hx hb dX6_launch_80 (by decide) ?_
          refine tw_cW hx hb hml hown hts (CX6_lays l0 E w h ad (va_up (va_up f 13 0) 6 (tC6 (f 7) ch)) (va_up (va_up a 1 (tC1 (f 7) (a 1) (a 0) ch)) 0 (va_up (va_up (a 0) (kO k 0) 1) (kO k 5) 0)) k 6 0 hM (by omega) (by omega)) (cwV 3 hts (lw_V q1718 q1720 qs38 q81 q1721) rfl rfl rfl dyX6_lays ⟨Nat.le_of_ble_eq_true rfl, Nat.le_of_ble_eq_true rfl⟩) hG hP hS hM hF (As := [.int (nI k), .int 6, .int 0]) (rest := []) rfl hl.1 rfl (lv_room (Nat.le_of_ble_eq_true rfl)) dX6_launch_81 ⟨by omega, by omega⟩ (fun r81 f81 a81 w H locs hp hM hF hP hS => ?_)
          obtain ⟨hp1, hp2⟩ := hp
          have hM := hM.ofF hp1 hp2
          have hM : tM E w h ad (va_up (va_up f 13 0) 6 (tC6 (f 7) ch)) (va_up (va_up a 1 (tC1 (f 7) (a 1) (a 0) ch)) 0 (va_up (va_up (va_up (a 0) (kO k 0) 1) (kO k 5) 0) (kO k 6) 0)) := hM.uu
          refine lv_aload_n hx hb dX6_launch_84 rfl (lv_at hl 0 rfl) ?_
          refine lv_iconst (v := 1) hx hb dX6_launch_85 (by decide) ?_
          refine tw_cR hx hb hml hown hts (val := tIn (va_up (va_up (va_up (a 0) (kO k 0) 1) (kO k 5) 0) (kO k 6) 0) 1 mn) (CX6_inState l0 E w h ad (va_up (va_up f 13 0) 6 (tC6 (f 7) ch)) (va_up (va_up a 1 (tC1 (f 7) (a 1) (a 0) ch)) 0 (va_up (va_up (va_up (a 0) (kO k 0) 1) (kO k 5) 0) (kO k 6) 0)) 1 mn hM (by omega) ((up_n (kO_lo (by omega))).trans ((up_n (kO_lo (by omega))).trans ((up_n (kO_lo (by omega))).trans hm)))) (cwV 1 hts (lw_V q1734 q1736 qs41 q81 q1737) rfl rfl rfl dyX6_inState ⟨Nat.le_of_ble_eq_true rfl, Nat.le_of_ble_eq_true rfl⟩) hG hP hS hM (As := [.int 1]) (rest := []) rfl hl.1 rfl (lv_room (Nat.le_of_ble_eq_true rfl)) dX6_launch_86 ⟨by omega, by omega⟩ (fun H locs hP hS => ?_)
          have hq : qLnch (a 0) mn (nI k) = (0, 0, tIn (va_up (va_up (va_up (a 0) (kO k 0) 1) (kO k 5) 0) (kO k 6) 0) 1 mn, (va_up (va_up (va_up (a 0) (kO k 0) 1) (kO k 5) 0) (kO k 6) 0)) := by simp [qLnch, tLn, ck, c6, c17, c28, c44]
          exact k_iret hx hb hr hlocks hQ hP hS (by omega) (by omega) dX6_launch_89 (⟨_, _, ⟨by rw [hq], by rw [hq, oF_ok], by rw [hq, oA_ok]⟩, hM, hF⟩)
        · skip
          refine lv_aload_n hx hb dX6_launch_47 rfl (lv_at hl 0 rfl) ?_
          refine lv_iconst (v := 3) hx hb dX6_launch_48 (by decide) ?_
          refine lv_iconst (v := 2) hx hb dX6_launch_49 (by decide) ?_
          refine tw_cW hx hb hml hown hts (CX6_refuses l0 E w h ad (va_up f 13 0) a 3 2 hM ) (cwV 2 hts (lw_V q1714 q1716 qs37 q81 q1717) rfl rfl rfl dyX6_refuses ⟨Nat.le_of_ble_eq_true rfl, Nat.le_of_ble_eq_true rfl⟩) hG hP hS hM hF (As := [.int 3, .int 2]) (rest := []) rfl hl.1 rfl (lv_room (Nat.le_of_ble_eq_true rfl)) dX6_launch_50 ⟨by omega, by omega⟩ (fun r50 f50 a50 w H locs hp hM hF hP hS => ?_)
          obtain ⟨hp0, hp1, hp2⟩ := hp
          have hM := hM.ofF hp1 hp2
          have hM : tM E w h ad (va_up (va_up (va_up (va_up f 13 0) 11 3) 12 (-1)) 13 2) a := hM
          refine k_top (y := 0) hp0 ?_
          have hq : qLnch (a 0) mn (nI k) = (2, 3, 0, (a 0)) := by simp [qLnch, tLn, ck, c6, c17, c28, c44]
          exact k_iret hx hb hr hlocks hQ hP hS (by omega) (by omega) dX6_launch_53 (⟨_, _, ⟨by rw [hq], by rw [hq, oF_rf (by decide) (by decide)], by rw [hq, oA_no (by decide)]⟩, hM, hF⟩)
      · skip
        refine lv_aload_n hx hb dX6_launch_31 rfl (lv_at hl 0 rfl) ?_
        refine lv_iconst (v := 2) hx hb dX6_launch_32 (by decide) ?_
        refine lv_iconst (v := 2) hx hb dX6_launch_33 (by decide) ?_
        refine tw_cW hx hb hml hown hts (CX6_refuses l0 E w h ad (va_up f 13 0) a 2 2 hM ) (cwV 2 hts (lw_V q1714 q1716 qs37 q81 q1717) rfl rfl rfl dyX6_refuses ⟨Nat.le_of_ble_eq_true rfl, Nat.le_of_ble_eq_true rfl⟩) hG hP hS hM hF (As := [.int 2, .int 2]) (rest := []) rfl hl.1 rfl (lv_room (Nat.le_of_ble_eq_true rfl)) dX6_launch_34 ⟨by omega, by omega⟩ (fun r34 f34 a34 w H locs hp hM hF hP hS => ?_)
        obtain ⟨hp0, hp1, hp2⟩ := hp
        have hM := hM.ofF hp1 hp2
        have hM : tM E w h ad (va_up (va_up (va_up (va_up f 13 0) 11 2) 12 (-1)) 13 2) a := hM
        refine k_top (y := 0) hp0 ?_
        have hq : qLnch (a 0) mn (nI k) = (2, 2, 0, (a 0)) := by simp [qLnch, tLn, ck, c6, c17, c28]
        exact k_iret hx hb hr hlocks hQ hP hS (by omega) (by omega) dX6_launch_37 (⟨_, _, ⟨by rw [hq], by rw [hq, oF_rf (by decide) (by decide)], by rw [hq, oA_no (by decide)]⟩, hM, hF⟩)
    · skip
      exact absurd c17 (by decide)

abbrev rmCX6_reel : Room := { frames := 2, cells := 0, slots := 0, locals := 46 }
theorem dyX6_reel : yX6_reel.cls = RX6 ∧ yX6_reel.cls ≠ "java/lang/invoke/MethodHandle" ∧ yX6_reel.cls ≠ "java/lang/invoke/VarHandle" ∧ (parseMethodDescriptor yX6_reel.desc).map (fun d => d.parameters.length) = some 2 := by decide +kernel
set_option maxHeartbeats 4000000 in
theorem CX6_reel (l0 : Launch) (E : gE) (w : wd) (h : Nat) (ad : Nat → Nat) (f : Nat → Int32) (a : Nat → Nat → Int32) (x : Int32) (y : Int32) (ch : Nat) (mn : Nat) (hM : tM E w h ad f a) (hc : (f 6) = nI ch) (hc8 : ch ≤ 8) (hmn : mn ≤ 6) (hm : (a 0) 25 = nI mn) : kC l0 yX6_reel (ws_ yX6_reel cX6_reel 3 (some .int)) rmCX6_reel 0 0 mI E w [.ref h, .int x, .int y] (fun r w' => ∃ f' a', (r = (qReel (a 0) x y).2.2.1 ∧ f' = oF f ch (qReel (a 0) x y) ∧ a' = oA f a ch (qReel (a 0) x y)) ∧ tM E w' h ad f' a' ∧ fr tP w w') := by
  refine k_open (cc := cX6_reel) (maxL := 3) (ret := (some .int)) (by decide) rfl (Nat.le_of_ble_eq_true rfl) ?_
  intro p e s m args below meth c ls Q hx hb hr hml hown hts hlocks hname hQ hG hP hl hS
  have hl : lv_has ls 3 [(0, .ref h), (1, .int x), (2, .int y)] := hl
  obtain ⟨w0, hw0⟩ : ∃ z, z = w := ⟨_, rfl⟩
  have hF : fr tP w0 w := by rw [hw0]; exact fr.rf
  rw [← hw0] at hQ
  refine lv_aload_n hx hb dX6_reel_0 rfl (lv_at hl 0 rfl) ?_
  refine lv_aload_n hx hb dX6_reel_1 rfl (lv_at hl 0 rfl) ?_
  refine lv_iload_n hx hb dX6_reel_2 rfl (lv_at hl 1 rfl) ?_
  refine tw_cR hx hb hml hown hts (val := (bI (tKt (a 0) x))) (CX6_isKite l0 E w h ad f a x hM ) (cwV 1 hts (lw_V q1726 q1728 qs39 q81 q1729) rfl rfl rfl dyX6_isKite ⟨Nat.le_of_ble_eq_true rfl, Nat.le_of_ble_eq_true rfl⟩) hG hP hS hM (As := [.int x]) (rest := [.ref h]) rfl hl.1 rfl (lv_room (Nat.le_of_ble_eq_true rfl)) dX6_reel_3 ⟨by omega, by omega⟩ (fun H locs hP hS => ?_)
  refine k_ifneB (x := tKt (a 0) x) (tgt := 13) hx hb dX6_reel_6 (by decide) (fun c6 => ?_) (fun c6 => ?_)
  · skip
    refine lv_iload_n hx hb dX6_reel_13 rfl (lv_at hl 2 rfl) ?_
    refine lv_bipush (v := (-20)) hx hb dX6_reel_14 (by decide) ?_
    refine lv_bipush (v := 20) hx hb dX6_reel_16 (by decide) ?_
    refine k_cP hx hb hml hown hts (val := (bI (tin y (-20) 20))) (CX6_in l0 E w y (-20) 20 ) (va_cwS 3 hts (lw_S q1692 q1693 q81 q1694) rfl rfl rfl dyX6_in ⟨Nat.le_of_ble_eq_true rfl, Nat.le_of_ble_eq_true rfl⟩) hG hP hS (As := [.int y, .int (-20), .int 20]) (rest := [.ref h]) rfl hl.1 rfl (lv_room (Nat.le_of_ble_eq_true rfl)) dX6_reel_18 ⟨by omega, by omega⟩ (fun H locs hP hS => ?_)
    refine k_ifeqB (x := tin y (-20) 20) (tgt := 28) hx hb dX6_reel_21 (by decide) (fun c21 => ?_) (fun c21 => ?_)
    · skip
      refine lv_iconst (v := 2) hx hb dX6_reel_28 (by decide) ?_
      refine tw_cW hx hb hml hown hts (CX6_fails l0 E w h ad f a 2 hM ) (cwV 1 hts (lw_V q1695 q1697 qs35 q81 q1698) rfl rfl rfl dyX6_fails ⟨Nat.le_of_ble_eq_true rfl, Nat.le_of_ble_eq_true rfl⟩) hG hP hS hM hF (As := [.int 2]) (rest := []) rfl hl.1 rfl (lv_room (Nat.le_of_ble_eq_true rfl)) dX6_reel_29 ⟨by omega, by omega⟩ (fun r29 f29 a29 w H locs hp hM hF hP hS => ?_)
      obtain ⟨hp0, hp1, hp2⟩ := hp
      have hM := hM.ofF hp1 hp2
      have hM : tM E w h ad (va_up f 13 2) a := hM
      refine k_top (y := (bI (decide (0 < 2)))) hp0 ?_
      refine k_ifeqB (x := decide (0 < 2)) (tgt := 37) hx hb dX6_reel_32 (by decide) (fun c32 => ?_) (fun c32 => ?_)
      · skip
        exact absurd c32 (by decide)
      · skip
        refine lv_iconst (v := 0) hx hb dX6_reel_35 (by decide) ?_
        have hq : qReel (a 0) x y = (2, 0, 0, (a 0)) := by simp [qReel, c6, c21, c32]
        exact k_iret hx hb hr hlocks hQ hP hS (by omega) (by omega) dX6_reel_36 (⟨_, _, ⟨by rw [hq], by rw [hq, oF_no (by decide)], by rw [hq, oA_no (by decide)]⟩, hM, hF⟩)
    · skip
      refine lv_iconst (v := 0) hx hb dX6_reel_24 (by decide) ?_
      refine lv_goto (tgt := 29) hx hb dX6_reel_25 (by decide) ?_
      refine tw_cW hx hb hml hown hts (CX6_fails l0 E w h ad f a 0 hM ) (cwV 1 hts (lw_V q1695 q1697 qs35 q81 q1698) rfl rfl rfl dyX6_fails ⟨Nat.le_of_ble_eq_true rfl, Nat.le_of_ble_eq_true rfl⟩) hG hP hS hM hF (As := [.int 0]) (rest := []) rfl hl.1 rfl (lv_room (Nat.le_of_ble_eq_true rfl)) dX6_reel_29 ⟨by omega, by omega⟩ (fun r29 f29 a29 w H locs hp hM hF hP hS => ?_)
      obtain ⟨hp0, hp1, hp2⟩ := hp
      have hM := hM.ofF hp1 hp2
      have hM : tM E w h ad (va_up f 13 0) a := hM
      refine k_top (y := (bI (decide (0 < 0)))) hp0 ?_
      refine k_ifeqB (x := decide (0 < 0)) (tgt := 37) hx hb dX6_reel_32 (by decide) (fun c32 => ?_) (fun c32 => ?_)
      · skip
        obtain ⟨k, hk, rfl⟩ := tKt_of hm hmn c6
        have ck : (nI k).toNatClampNeg = k := nI_clamp (by omega)
        refine lv_aload_n hx hb dX6_reel_37 rfl (lv_at hl 0 rfl) ?_
        refine lv_iload_n hx hb dX6_reel_38 rfl (lv_at hl 1 rfl) ?_
        refine tw_cR hx hb hml hown hts (val := (bI (tUp (a 0) k))) (CX6_isUp l0 E w h ad (va_up f 13 0) a k hM (by omega)) (cwV 1 hts (lw_V q1742 q1744 qs42 q81 q1745) rfl rfl rfl dyX6_isUp ⟨Nat.le_of_ble_eq_true rfl, Nat.le_of_ble_eq_true rfl⟩) hG hP hS hM (As := [.int (nI k)]) (rest := []) rfl hl.1 rfl (lv_room (Nat.le_of_ble_eq_true rfl)) dX6_reel_39 ⟨by omega, by omega⟩ (fun H locs hP hS => ?_)
        refine k_ifneB (x := tUp (a 0) k) (tgt := 52) hx hb dX6_reel_42 (by decide) (fun c42 => ?_) (fun c42 => ?_)
        · skip
          refine lv_aload_n hx hb dX6_reel_52 rfl (lv_at hl 0 rfl) ?_
          refine lv_iload_n hx hb dX6_reel_53 rfl (lv_at hl 1 rfl) ?_
          refine lv_iconst (v := 5) hx hb dX6_reel_54 (by decide) ?_
          refine tw_cR hx hb hml hown hts (val := (a 0) (kO k 5)) (CX6_of l0 E w h ad (va_up f 13 0) a k 5 hM (by omega) (by omega)) (cwV 2 hts (lw_V q1730 q1732 qs40 q81 q1733) rfl rfl rfl dyX6_of ⟨Nat.le_of_ble_eq_true rfl, Nat.le_of_ble_eq_true rfl⟩) hG hP hS hM (As := [.int (nI k), .int 5]) (rest := []) rfl hl.1 rfl (lv_room (Nat.le_of_ble_eq_true rfl)) dX6_reel_55 ⟨by omega, by omega⟩ (fun H locs hP hS => ?_)
          refine lv_iload_n hx hb dX6_reel_58 rfl (lv_at hl 2 rfl) ?_
          refine lv_iadd hx hb dX6_reel_59 ?_
          refine lv_aload_n hx hb dX6_reel_60 rfl (lv_at hl 0 rfl) ?_
          refine lv_iload_n hx hb dX6_reel_61 rfl (lv_at hl 1 rfl) ?_
          refine lv_iconst (v := 3) hx hb dX6_reel_62 (by decide) ?_
          refine tw_cR hx hb hml hown hts (val := (a 0) (kO k 3)) (CX6_of l0 E w h ad (va_up f 13 0) a k 3 hM (by omega) (by omega)) (cwV 2 hts (lw_V q1730 q1732 qs40 q81 q1733) rfl rfl rfl dyX6_of ⟨Nat.le_of_ble_eq_true rfl, Nat.le_of_ble_eq_true rfl⟩) hG hP hS hM (As := [.int (nI k), .int 3]) (rest := [.int ((a 0) (kO k 5) + y)]) rfl hl.1 rfl (lv_room (Nat.le_of_ble_eq_true rfl)) dX6_reel_63 ⟨by omega, by omega⟩ (fun H locs hP hS => ?_)
          refine lv_icmp_le (tgt := 76) hx hb dX6_reel_66 (by decide) (fun c66 => ?_) (fun c66 => ?_)
          · skip
            refine lv_aload_n hx hb dX6_reel_76 rfl (lv_at hl 0 rfl) ?_
            refine lv_iload_n hx hb dX6_reel_77 rfl (lv_at hl 1 rfl) ?_
            refine lv_iconst (v := 5) hx hb dX6_reel_78 (by decide) ?_
            refine tw_cR hx hb hml hown hts (val := (a 0) (kO k 5)) (CX6_of l0 E w h ad (va_up f 13 0) a k 5 hM (by omega) (by omega)) (cwV 2 hts (lw_V q1730 q1732 qs40 q81 q1733) rfl rfl rfl dyX6_of ⟨Nat.le_of_ble_eq_true rfl, Nat.le_of_ble_eq_true rfl⟩) hG hP hS hM (As := [.int (nI k), .int 5]) (rest := []) rfl hl.1 rfl (lv_room (Nat.le_of_ble_eq_true rfl)) dX6_reel_79 ⟨by omega, by omega⟩ (fun H locs hP hS => ?_)
            refine lv_iload_n hx hb dX6_reel_82 rfl (lv_at hl 2 rfl) ?_
            refine lv_iadd hx hb dX6_reel_83 ?_
            refine lv_if_ge (tgt := 95) hx hb dX6_reel_84 (by decide) (fun c84 => ?_) (fun c84 => ?_)
            · skip
              refine lv_aload_n hx hb dX6_reel_95 rfl (lv_at hl 0 rfl) ?_
              refine lv_aload_n hx hb dX6_reel_96 rfl (lv_at hl 0 rfl) ?_
              refine tw_get hx hb hts hown hG hP hM 0 (by decide) (hts _ q1620) (fun _ h9 => h9) (v := .ref (ad 0)) rfl dX6_reel_97 ?_
              refine tw_cW hx hb hml hown hts (CX6_keeps0 l0 E w h ad (va_up f 13 0) a ch hM hc (by omega)) (cwV 1 hts (lw_V q1699 q1701 qs36 q81 q1702) rfl rfl rfl dyX6_keeps ⟨Nat.le_of_ble_eq_true rfl, Nat.le_of_ble_eq_true rfl⟩) hG hP hS hM hF (As := [.ref (ad 0)]) (rest := []) rfl hl.1 rfl (lv_room (Nat.le_of_ble_eq_true rfl)) dX6_reel_100 ⟨by omega, by omega⟩ (fun r100 f100 a100 w H locs hp hM hF hP hS => ?_)
              obtain ⟨hp1, hp2⟩ := hp
              have hM := hM.ofF hp1 hp2
              have hM : tM E w h ad (va_up (va_up f 13 0) 6 (tC6 (f 7) ch)) (va_up a 1 (tC1 (f 7) (a 1) (a 0) ch)) := hM
              refine lv_aload_n hx hb dX6_reel_103 rfl (lv_at hl 0 rfl) ?_
              refine lv_iload_n hx hb dX6_reel_104 rfl (lv_at hl 1 rfl) ?_
              refine lv_iload_n hx hb dX6_reel_105 rfl (lv_at hl 2 rfl) ?_
              refine tw_cW hx hb hml hown hts (CX6_lets l0 E w h ad (va_up (va_up f 13 0) 6 (tC6 (f 7) ch)) (va_up a 1 (tC1 (f 7) (a 1) (a 0) ch)) k y hM (by omega)) (cwV 2 hts (lw_V q1746 q1748 qs43 q81 q1749) rfl rfl rfl dyX6_lets ⟨Nat.le_of_ble_eq_true rfl, Nat.le_of_ble_eq_true rfl⟩) hG hP hS hM hF (As := [.int (nI k), .int y]) (rest := []) rfl hl.1 rfl (lv_room (Nat.le_of_ble_eq_true rfl)) dX6_reel_106 ⟨by omega, by omega⟩ (fun r106 f106 a106 w H locs hp hM hF hP hS => ?_)
              obtain ⟨hp1, hp2⟩ := hp
              have hM := hM.ofF hp1 hp2
              have hM : tM E w h ad (va_up (va_up f 13 0) 6 (tC6 (f 7) ch)) (va_up (va_up a 1 (tC1 (f 7) (a 1) (a 0) ch)) 0 (tLt (a 0) k y)) := hM
              refine lv_aload_n hx hb dX6_reel_109 rfl (lv_at hl 0 rfl) ?_
              refine lv_iload_n hx hb dX6_reel_110 rfl (lv_at hl 1 rfl) ?_
              refine lv_iconst (v := 5) hx hb dX6_reel_111 (by decide) ?_
              refine tw_cR hx hb hml hown hts (val := (tLt (a 0) k y) (kO k 5)) (CX6_of l0 E w h ad (va_up (va_up f 13 0) 6 (tC6 (f 7) ch)) (va_up (va_up a 1 (tC1 (f 7) (a 1) (a 0) ch)) 0 (tLt (a 0) k y)) k 5 hM (by omega) (by omega)) (cwV 2 hts (lw_V q1730 q1732 qs40 q81 q1733) rfl rfl rfl dyX6_of ⟨Nat.le_of_ble_eq_true rfl, Nat.le_of_ble_eq_true rfl⟩) hG hP hS hM (As := [.int (nI k), .int 5]) (rest := []) rfl hl.1 rfl (lv_room (Nat.le_of_ble_eq_true rfl)) dX6_reel_112 ⟨by omega, by omega⟩ (fun H locs hP hS => ?_)
              have hq : qReel (a 0) (nI k) y = (0, 0, (tLt (a 0) k y) (kO k 5), (tLt (a 0) k y)) := by simp [qReel, ck, c6, c21, c32, c42, c66, c84]
              exact k_iret hx hb hr hlocks hQ hP hS (by omega) (by omega) dX6_reel_115 (⟨_, _, ⟨by rw [hq], by rw [hq, oF_ok], by rw [hq, oA_ok]⟩, hM, hF⟩)
            · skip
              refine lv_aload_n hx hb dX6_reel_87 rfl (lv_at hl 0 rfl) ?_
              refine lv_bipush (v := 6) hx hb dX6_reel_88 (by decide) ?_
              refine lv_iconst (v := 3) hx hb dX6_reel_90 (by decide) ?_
              refine tw_cW hx hb hml hown hts (CX6_refuses l0 E w h ad (va_up f 13 0) a 6 3 hM ) (cwV 2 hts (lw_V q1714 q1716 qs37 q81 q1717) rfl rfl rfl dyX6_refuses ⟨Nat.le_of_ble_eq_true rfl, Nat.le_of_ble_eq_true rfl⟩) hG hP hS hM hF (As := [.int 6, .int 3]) (rest := []) rfl hl.1 rfl (lv_room (Nat.le_of_ble_eq_true rfl)) dX6_reel_91 ⟨by omega, by omega⟩ (fun r91 f91 a91 w H locs hp hM hF hP hS => ?_)
              obtain ⟨hp0, hp1, hp2⟩ := hp
              have hM := hM.ofF hp1 hp2
              have hM : tM E w h ad (va_up (va_up (va_up (va_up f 13 0) 11 6) 12 (-1)) 13 3) a := hM
              refine k_top (y := 0) hp0 ?_
              have hq : qReel (a 0) (nI k) y = (3, 6, 0, (a 0)) := by simp [qReel, ck, c6, c21, c32, c42, c66, c84]
              exact k_iret hx hb hr hlocks hQ hP hS (by omega) (by omega) dX6_reel_94 (⟨_, _, ⟨by rw [hq], by rw [hq, oF_rf (by decide) (by decide)], by rw [hq, oA_no (by decide)]⟩, hM, hF⟩)
          · skip
            refine lv_aload_n hx hb dX6_reel_69 rfl (lv_at hl 0 rfl) ?_
            refine lv_iconst (v := 5) hx hb dX6_reel_70 (by decide) ?_
            refine lv_iconst (v := 3) hx hb dX6_reel_71 (by decide) ?_
            refine tw_cW hx hb hml hown hts (CX6_refuses l0 E w h ad (va_up f 13 0) a 5 3 hM ) (cwV 2 hts (lw_V q1714 q1716 qs37 q81 q1717) rfl rfl rfl dyX6_refuses ⟨Nat.le_of_ble_eq_true rfl, Nat.le_of_ble_eq_true rfl⟩) hG hP hS hM hF (As := [.int 5, .int 3]) (rest := []) rfl hl.1 rfl (lv_room (Nat.le_of_ble_eq_true rfl)) dX6_reel_72 ⟨by omega, by omega⟩ (fun r72 f72 a72 w H locs hp hM hF hP hS => ?_)
            obtain ⟨hp0, hp1, hp2⟩ := hp
            have hM := hM.ofF hp1 hp2
            have hM : tM E w h ad (va_up (va_up (va_up (va_up f 13 0) 11 5) 12 (-1)) 13 3) a := hM
            refine k_top (y := 0) hp0 ?_
            have hq : qReel (a 0) (nI k) y = (3, 5, 0, (a 0)) := by simp [qReel, ck, c6, c21, c32, c42, c66]
            exact k_iret hx hb hr hlocks hQ hP hS (by omega) (by omega) dX6_reel_75 (⟨_, _, ⟨by rw [hq], by rw [hq, oF_rf (by decide) (by decide)], by rw [hq, oA_no (by decide)]⟩, hM, hF⟩)
        · skip
          refine lv_aload_n hx hb dX6_reel_45 rfl (lv_at hl 0 rfl) ?_
          refine lv_iconst (v := 4) hx hb dX6_reel_46 (by decide) ?_
          refine lv_iconst (v := 3) hx hb dX6_reel_47 (by decide) ?_
          refine tw_cW hx hb hml hown hts (CX6_refuses l0 E w h ad (va_up f 13 0) a 4 3 hM ) (cwV 2 hts (lw_V q1714 q1716 qs37 q81 q1717) rfl rfl rfl dyX6_refuses ⟨Nat.le_of_ble_eq_true rfl, Nat.le_of_ble_eq_true rfl⟩) hG hP hS hM hF (As := [.int 4, .int 3]) (rest := []) rfl hl.1 rfl (lv_room (Nat.le_of_ble_eq_true rfl)) dX6_reel_48 ⟨by omega, by omega⟩ (fun r48 f48 a48 w H locs hp hM hF hP hS => ?_)
          obtain ⟨hp0, hp1, hp2⟩ := hp
          have hM := hM.ofF hp1 hp2
          have hM : tM E w h ad (va_up (va_up (va_up (va_up f 13 0) 11 4) 12 (-1)) 13 3) a := hM
          refine k_top (y := 0) hp0 ?_
          have hq : qReel (a 0) (nI k) y = (3, 4, 0, (a 0)) := by simp [qReel, ck, c6, c21, c32, c42]
          exact k_iret hx hb hr hlocks hQ hP hS (by omega) (by omega) dX6_reel_51 (⟨_, _, ⟨by rw [hq], by rw [hq, oF_rf (by decide) (by decide)], by rw [hq, oA_no (by decide)]⟩, hM, hF⟩)
      · skip
        exact absurd c32 (by decide)
  · skip
    refine lv_iconst (v := 1) hx hb dX6_reel_9 (by decide) ?_
    refine lv_goto (tgt := 29) hx hb dX6_reel_10 (by decide) ?_
    refine tw_cW hx hb hml hown hts (CX6_fails l0 E w h ad f a 1 hM ) (cwV 1 hts (lw_V q1695 q1697 qs35 q81 q1698) rfl rfl rfl dyX6_fails ⟨Nat.le_of_ble_eq_true rfl, Nat.le_of_ble_eq_true rfl⟩) hG hP hS hM hF (As := [.int 1]) (rest := []) rfl hl.1 rfl (lv_room (Nat.le_of_ble_eq_true rfl)) dX6_reel_29 ⟨by omega, by omega⟩ (fun r29 f29 a29 w H locs hp hM hF hP hS => ?_)
    obtain ⟨hp0, hp1, hp2⟩ := hp
    have hM := hM.ofF hp1 hp2
    have hM : tM E w h ad (va_up f 13 1) a := hM
    refine k_top (y := (bI (decide (0 < 1)))) hp0 ?_
    refine k_ifeqB (x := decide (0 < 1)) (tgt := 37) hx hb dX6_reel_32 (by decide) (fun c32 => ?_) (fun c32 => ?_)
    · skip
      exact absurd c32 (by decide)
    · skip
      refine lv_iconst (v := 0) hx hb dX6_reel_35 (by decide) ?_
      have hq : qReel (a 0) x y = (1, 0, 0, (a 0)) := by simp [qReel, c6, c32]
      exact k_iret hx hb hr hlocks hQ hP hS (by omega) (by omega) dX6_reel_36 (⟨_, _, ⟨by rw [hq], by rw [hq, oF_no (by decide)], by rw [hq, oA_no (by decide)]⟩, hM, hF⟩)

abbrev rmCX6_setSpeed : Room := { frames := 2, cells := 0, slots := 0, locals := 46 }
theorem dyX6_setSpeed : yX6_setSpeed.cls = RX6 ∧ yX6_setSpeed.cls ≠ "java/lang/invoke/MethodHandle" ∧ yX6_setSpeed.cls ≠ "java/lang/invoke/VarHandle" ∧ (parseMethodDescriptor yX6_setSpeed.desc).map (fun d => d.parameters.length) = some 2 := by decide +kernel
set_option maxHeartbeats 4000000 in
theorem CX6_setSpeed (l0 : Launch) (E : gE) (w : wd) (h : Nat) (ad : Nat → Nat) (f : Nat → Int32) (a : Nat → Nat → Int32) (x : Int32) (y : Int32) (ch : Nat) (mn : Nat) (hM : tM E w h ad f a) (hc : (f 6) = nI ch) (hc8 : ch ≤ 8) (hmn : mn ≤ 6) (hm : (a 0) 25 = nI mn) : kC l0 yX6_setSpeed (ws_ yX6_setSpeed cX6_setSpeed 4 (some .int)) rmCX6_setSpeed 0 0 mI E w [.ref h, .int x, .int y] (fun r w' => ∃ f' a', (r = (qSpeed (a 0) x y).2.2.1 ∧ f' = oF f ch (qSpeed (a 0) x y) ∧ a' = oA f a ch (qSpeed (a 0) x y)) ∧ tM E w' h ad f' a' ∧ fr tP w w') := by
  refine k_open (cc := cX6_setSpeed) (maxL := 4) (ret := (some .int)) (by decide) rfl (Nat.le_of_ble_eq_true rfl) ?_
  intro p e s m args below meth c ls Q hx hb hr hml hown hts hlocks hname hQ hG hP hl hS
  have hl : lv_has ls 4 [(0, .ref h), (1, .int x), (2, .int y)] := hl
  obtain ⟨w0, hw0⟩ : ∃ z, z = w := ⟨_, rfl⟩
  have hF : fr tP w0 w := by rw [hw0]; exact fr.rf
  rw [← hw0] at hQ
  refine lv_aload_n hx hb dX6_setSpeed_0 rfl (lv_at hl 0 rfl) ?_
  refine lv_aload_n hx hb dX6_setSpeed_1 rfl (lv_at hl 0 rfl) ?_
  refine lv_iload_n hx hb dX6_setSpeed_2 rfl (lv_at hl 1 rfl) ?_
  refine tw_cR hx hb hml hown hts (val := (bI (tKt (a 0) x))) (CX6_isKite l0 E w h ad f a x hM ) (cwV 1 hts (lw_V q1726 q1728 qs39 q81 q1729) rfl rfl rfl dyX6_isKite ⟨Nat.le_of_ble_eq_true rfl, Nat.le_of_ble_eq_true rfl⟩) hG hP hS hM (As := [.int x]) (rest := [.ref h]) rfl hl.1 rfl (lv_room (Nat.le_of_ble_eq_true rfl)) dX6_setSpeed_3 ⟨by omega, by omega⟩ (fun H locs hP hS => ?_)
  refine k_ifneB (x := tKt (a 0) x) (tgt := 13) hx hb dX6_setSpeed_6 (by decide) (fun c6 => ?_) (fun c6 => ?_)
  · skip
    refine lv_iload_n hx hb dX6_setSpeed_13 rfl (lv_at hl 2 rfl) ?_
    refine lv_bipush (v := (-9)) hx hb dX6_setSpeed_14 (by decide) ?_
    refine lv_bipush (v := 9) hx hb dX6_setSpeed_16 (by decide) ?_
    refine k_cP hx hb hml hown hts (val := (bI (tin y (-9) 9))) (CX6_in l0 E w y (-9) 9 ) (va_cwS 3 hts (lw_S q1692 q1693 q81 q1694) rfl rfl rfl dyX6_in ⟨Nat.le_of_ble_eq_true rfl, Nat.le_of_ble_eq_true rfl⟩) hG hP hS (As := [.int y, .int (-9), .int 9]) (rest := [.ref h]) rfl hl.1 rfl (lv_room (Nat.le_of_ble_eq_true rfl)) dX6_setSpeed_18 ⟨by omega, by omega⟩ (fun H locs hP hS => ?_)
    refine k_ifeqB (x := tin y (-9) 9) (tgt := 28) hx hb dX6_setSpeed_21 (by decide) (fun c21 => ?_) (fun c21 => ?_)
    · skip
      refine lv_iconst (v := 2) hx hb dX6_setSpeed_28 (by decide) ?_
      refine tw_cW hx hb hml hown hts (CX6_fails l0 E w h ad f a 2 hM ) (cwV 1 hts (lw_V q1695 q1697 qs35 q81 q1698) rfl rfl rfl dyX6_fails ⟨Nat.le_of_ble_eq_true rfl, Nat.le_of_ble_eq_true rfl⟩) hG hP hS hM hF (As := [.int 2]) (rest := []) rfl hl.1 rfl (lv_room (Nat.le_of_ble_eq_true rfl)) dX6_setSpeed_29 ⟨by omega, by omega⟩ (fun r29 f29 a29 w H locs hp hM hF hP hS => ?_)
      obtain ⟨hp0, hp1, hp2⟩ := hp
      have hM := hM.ofF hp1 hp2
      have hM : tM E w h ad (va_up f 13 2) a := hM
      refine k_top (y := (bI (decide (0 < 2)))) hp0 ?_
      refine k_ifeqB (x := decide (0 < 2)) (tgt := 37) hx hb dX6_setSpeed_32 (by decide) (fun c32 => ?_) (fun c32 => ?_)
      · skip
        exact absurd c32 (by decide)
      · skip
        refine lv_iconst (v := 0) hx hb dX6_setSpeed_35 (by decide) ?_
        have hq : qSpeed (a 0) x y = (2, 0, 0, (a 0)) := by simp [qSpeed, c6, c21, c32]
        exact k_iret hx hb hr hlocks hQ hP hS (by omega) (by omega) dX6_setSpeed_36 (⟨_, _, ⟨by rw [hq], by rw [hq, oF_no (by decide)], by rw [hq, oA_no (by decide)]⟩, hM, hF⟩)
    · skip
      refine lv_iconst (v := 0) hx hb dX6_setSpeed_24 (by decide) ?_
      refine lv_goto (tgt := 29) hx hb dX6_setSpeed_25 (by decide) ?_
      refine tw_cW hx hb hml hown hts (CX6_fails l0 E w h ad f a 0 hM ) (cwV 1 hts (lw_V q1695 q1697 qs35 q81 q1698) rfl rfl rfl dyX6_fails ⟨Nat.le_of_ble_eq_true rfl, Nat.le_of_ble_eq_true rfl⟩) hG hP hS hM hF (As := [.int 0]) (rest := []) rfl hl.1 rfl (lv_room (Nat.le_of_ble_eq_true rfl)) dX6_setSpeed_29 ⟨by omega, by omega⟩ (fun r29 f29 a29 w H locs hp hM hF hP hS => ?_)
      obtain ⟨hp0, hp1, hp2⟩ := hp
      have hM := hM.ofF hp1 hp2
      have hM : tM E w h ad (va_up f 13 0) a := hM
      refine k_top (y := (bI (decide (0 < 0)))) hp0 ?_
      refine k_ifeqB (x := decide (0 < 0)) (tgt := 37) hx hb dX6_setSpeed_32 (by decide) (fun c32 => ?_) (fun c32 => ?_)
      · skip
        obtain ⟨k, hk, rfl⟩ := tKt_of hm hmn c6
        have ck : (nI k).toNatClampNeg = k := nI_clamp (by omega)
        refine lv_aload_n hx hb dX6_setSpeed_37 rfl (lv_at hl 0 rfl) ?_
        refine lv_aload_n hx hb dX6_setSpeed_38 rfl (lv_at hl 0 rfl) ?_
        refine tw_get hx hb hts hown hG hP hM 0 (by decide) (hts _ q1620) (fun _ h9 => h9) (v := .ref (ad 0)) rfl dX6_setSpeed_39 ?_
        refine tw_cW hx hb hml hown hts (CX6_keeps0 l0 E w h ad (va_up f 13 0) a ch hM hc (by omega)) (cwV 1 hts (lw_V q1699 q1701 qs36 q81 q1702) rfl rfl rfl dyX6_keeps ⟨Nat.le_of_ble_eq_true rfl, Nat.le_of_ble_eq_true rfl⟩) hG hP hS hM hF (As := [.ref (ad 0)]) (rest := []) rfl hl.1 rfl (lv_room (Nat.le_of_ble_eq_true rfl)) dX6_setSpeed_42 ⟨by omega, by omega⟩ (fun r42 f42 a42 w H locs hp hM hF hP hS => ?_)
        obtain ⟨hp1, hp2⟩ := hp
        have hM := hM.ofF hp1 hp2
        have hM : tM E w h ad (va_up (va_up f 13 0) 6 (tC6 (f 7) ch)) (va_up a 1 (tC1 (f 7) (a 1) (a 0) ch)) := hM
        refine lv_aload_n hx hb dX6_setSpeed_45 rfl (lv_at hl 0 rfl) ?_
        refine lv_iload_n hx hb dX6_setSpeed_46 rfl (lv_at hl 1 rfl) ?_
        refine lv_bipush (v := 7) hx hb dX6_setSpeed_47 (by decide) ?_
        refine tw_cR hx hb hml hown hts (val := (a 0) (kO k 7)) (CX6_of l0 E w h ad (va_up (va_up f 13 0) 6 (tC6 (f 7) ch)) (va_up a 1 (tC1 (f 7) (a 1) (a 0) ch)) k 7 hM (by omega) (by omega)) (cwV 2 hts (lw_V q1730 q1732 qs40 q81 q1733) rfl rfl rfl dyX6_of ⟨Nat.le_of_ble_eq_true rfl, Nat.le_of_ble_eq_true rfl⟩) hG hP hS hM (As := [.int (nI k), .int 7]) (rest := []) rfl hl.1 rfl (lv_room (Nat.le_of_ble_eq_true rfl)) dX6_setSpeed_49 ⟨by omega, by omega⟩ (fun H locs hP hS => ?_)
        refine lv_istore_n (lv' := [(3, .int ((a 0) (kO k 7))), (0, .ref h), (1, .int (nI k)), (2, .int y)]) hx hb dX6_setSpeed_52 rfl hl (by decide) rfl (fun ls hl => ?_)
        refine lv_aload_n hx hb dX6_setSpeed_53 rfl (lv_at hl 1 rfl) ?_
        refine lv_iload_n hx hb dX6_setSpeed_54 rfl (lv_at hl 2 rfl) ?_
        refine lv_bipush (v := 7) hx hb dX6_setSpeed_55 (by decide) ?_
        refine lv_iload_n hx hb dX6_setSpeed_57 rfl (lv_at hl 3 rfl) ?_
        refine tw_cW hx hb hml hown hts (CX6_lays l0 E w h ad (va_up (va_up f 13 0) 6 (tC6 (f 7) ch)) (va_up a 1 (tC1 (f 7) (a 1) (a 0) ch)) k 7 y hM (by omega) (by omega)) (cwV 3 hts (lw_V q1718 q1720 qs38 q81 q1721) rfl rfl rfl dyX6_lays ⟨Nat.le_of_ble_eq_true rfl, Nat.le_of_ble_eq_true rfl⟩) hG hP hS hM hF (As := [.int (nI k), .int 7, .int y]) (rest := []) rfl hl.1 rfl (lv_room (Nat.le_of_ble_eq_true rfl)) dX6_setSpeed_58 ⟨by omega, by omega⟩ (fun r58 f58 a58 w H locs hp hM hF hP hS => ?_)
        obtain ⟨hp1, hp2⟩ := hp
        have hM := hM.ofF hp1 hp2
        have hM : tM E w h ad (va_up (va_up f 13 0) 6 (tC6 (f 7) ch)) (va_up (va_up a 1 (tC1 (f 7) (a 1) (a 0) ch)) 0 (va_up (a 0) (kO k 7) y)) := hM
        refine lv_iload_n hx hb dX6_setSpeed_61 rfl (lv_at hl 0 rfl) ?_
        have hq : qSpeed (a 0) (nI k) y = (0, 0, (a 0) (kO k 7), (va_up (a 0) (kO k 7) y)) := by simp [qSpeed, ck, c6, c21, c32]
        exact k_iret hx hb hr hlocks hQ hP hS (by omega) (by omega) dX6_setSpeed_62 (⟨_, _, ⟨by rw [hq], by rw [hq, oF_ok], by rw [hq, oA_ok]⟩, hM, hF⟩)
      · skip
        exact absurd c32 (by decide)
  · skip
    refine lv_iconst (v := 1) hx hb dX6_setSpeed_9 (by decide) ?_
    refine lv_goto (tgt := 29) hx hb dX6_setSpeed_10 (by decide) ?_
    refine tw_cW hx hb hml hown hts (CX6_fails l0 E w h ad f a 1 hM ) (cwV 1 hts (lw_V q1695 q1697 qs35 q81 q1698) rfl rfl rfl dyX6_fails ⟨Nat.le_of_ble_eq_true rfl, Nat.le_of_ble_eq_true rfl⟩) hG hP hS hM hF (As := [.int 1]) (rest := []) rfl hl.1 rfl (lv_room (Nat.le_of_ble_eq_true rfl)) dX6_setSpeed_29 ⟨by omega, by omega⟩ (fun r29 f29 a29 w H locs hp hM hF hP hS => ?_)
    obtain ⟨hp0, hp1, hp2⟩ := hp
    have hM := hM.ofF hp1 hp2
    have hM : tM E w h ad (va_up f 13 1) a := hM
    refine k_top (y := (bI (decide (0 < 1)))) hp0 ?_
    refine k_ifeqB (x := decide (0 < 1)) (tgt := 37) hx hb dX6_setSpeed_32 (by decide) (fun c32 => ?_) (fun c32 => ?_)
    · skip
      exact absurd c32 (by decide)
    · skip
      refine lv_iconst (v := 0) hx hb dX6_setSpeed_35 (by decide) ?_
      have hq : qSpeed (a 0) x y = (1, 0, 0, (a 0)) := by simp [qSpeed, c6, c32]
      exact k_iret hx hb hr hlocks hQ hP hS (by omega) (by omega) dX6_setSpeed_36 (⟨_, _, ⟨by rw [hq], by rw [hq, oF_no (by decide)], by rw [hq, oA_no (by decide)]⟩, hM, hF⟩)

abbrev rmCX6_land : Room := { frames := 2, cells := 0, slots := 0, locals := 46 }
theorem dyX6_land : yX6_land.cls = RX6 ∧ yX6_land.cls ≠ "java/lang/invoke/MethodHandle" ∧ yX6_land.cls ≠ "java/lang/invoke/VarHandle" ∧ (parseMethodDescriptor yX6_land.desc).map (fun d => d.parameters.length) = some 1 := by decide +kernel
set_option maxHeartbeats 4000000 in
theorem CX6_land (l0 : Launch) (E : gE) (w : wd) (h : Nat) (ad : Nat → Nat) (f : Nat → Int32) (a : Nat → Nat → Int32) (x : Int32) (ch : Nat) (mn : Nat) (hM : tM E w h ad f a) (hc : (f 6) = nI ch) (hc8 : ch ≤ 8) (hmn : mn ≤ 6) (hm : (a 0) 25 = nI mn) : kC l0 yX6_land (ws_ yX6_land cX6_land 3 (some .int)) rmCX6_land 0 0 mI E w [.ref h, .int x] (fun r w' => ∃ f' a', (r = (qLand (a 0) x).2.2.1 ∧ f' = oF f ch (qLand (a 0) x) ∧ a' = oA f a ch (qLand (a 0) x)) ∧ tM E w' h ad f' a' ∧ fr tP w w') := by
  refine k_open (cc := cX6_land) (maxL := 3) (ret := (some .int)) (by decide) rfl (Nat.le_of_ble_eq_true rfl) ?_
  intro p e s m args below meth c ls Q hx hb hr hml hown hts hlocks hname hQ hG hP hl hS
  have hl : lv_has ls 3 [(0, .ref h), (1, .int x)] := hl
  obtain ⟨w0, hw0⟩ : ∃ z, z = w := ⟨_, rfl⟩
  have hF : fr tP w0 w := by rw [hw0]; exact fr.rf
  rw [← hw0] at hQ
  refine lv_aload_n hx hb dX6_land_0 rfl (lv_at hl 0 rfl) ?_
  refine lv_aload_n hx hb dX6_land_1 rfl (lv_at hl 0 rfl) ?_
  refine lv_iload_n hx hb dX6_land_2 rfl (lv_at hl 1 rfl) ?_
  refine tw_cR hx hb hml hown hts (val := (bI (tKt (a 0) x))) (CX6_isKite l0 E w h ad f a x hM ) (cwV 1 hts (lw_V q1726 q1728 qs39 q81 q1729) rfl rfl rfl dyX6_isKite ⟨Nat.le_of_ble_eq_true rfl, Nat.le_of_ble_eq_true rfl⟩) hG hP hS hM (As := [.int x]) (rest := [.ref h]) rfl hl.1 rfl (lv_room (Nat.le_of_ble_eq_true rfl)) dX6_land_3 ⟨by omega, by omega⟩ (fun H locs hP hS => ?_)
  refine k_ifeqB (x := tKt (a 0) x) (tgt := 13) hx hb dX6_land_6 (by decide) (fun c6 => ?_) (fun c6 => ?_)
  · skip
    refine lv_iconst (v := 1) hx hb dX6_land_13 (by decide) ?_
    refine tw_cW hx hb hml hown hts (CX6_fails l0 E w h ad f a 1 hM ) (cwV 1 hts (lw_V q1695 q1697 qs35 q81 q1698) rfl rfl rfl dyX6_fails ⟨Nat.le_of_ble_eq_true rfl, Nat.le_of_ble_eq_true rfl⟩) hG hP hS hM hF (As := [.int 1]) (rest := []) rfl hl.1 rfl (lv_room (Nat.le_of_ble_eq_true rfl)) dX6_land_14 ⟨by omega, by omega⟩ (fun r14 f14 a14 w H locs hp hM hF hP hS => ?_)
    obtain ⟨hp0, hp1, hp2⟩ := hp
    have hM := hM.ofF hp1 hp2
    have hM : tM E w h ad (va_up f 13 1) a := hM
    refine k_top (y := (bI (decide (0 < 1)))) hp0 ?_
    refine k_ifeqB (x := decide (0 < 1)) (tgt := 22) hx hb dX6_land_17 (by decide) (fun c17 => ?_) (fun c17 => ?_)
    · skip
      exact absurd c17 (by decide)
    · skip
      refine lv_iconst (v := 0) hx hb dX6_land_20 (by decide) ?_
      have hq : qLand (a 0) x = (1, 0, 0, (a 0)) := by simp [qLand, c6, c17]
      exact k_iret hx hb hr hlocks hQ hP hS (by omega) (by omega) dX6_land_21 (⟨_, _, ⟨by rw [hq], by rw [hq, oF_no (by decide)], by rw [hq, oA_no (by decide)]⟩, hM, hF⟩)
  · skip
    refine lv_iconst (v := 0) hx hb dX6_land_9 (by decide) ?_
    refine lv_goto (tgt := 14) hx hb dX6_land_10 (by decide) ?_
    refine tw_cW hx hb hml hown hts (CX6_fails l0 E w h ad f a 0 hM ) (cwV 1 hts (lw_V q1695 q1697 qs35 q81 q1698) rfl rfl rfl dyX6_fails ⟨Nat.le_of_ble_eq_true rfl, Nat.le_of_ble_eq_true rfl⟩) hG hP hS hM hF (As := [.int 0]) (rest := []) rfl hl.1 rfl (lv_room (Nat.le_of_ble_eq_true rfl)) dX6_land_14 ⟨by omega, by omega⟩ (fun r14 f14 a14 w H locs hp hM hF hP hS => ?_)
    obtain ⟨hp0, hp1, hp2⟩ := hp
    have hM := hM.ofF hp1 hp2
    have hM : tM E w h ad (va_up f 13 0) a := hM
    refine k_top (y := (bI (decide (0 < 0)))) hp0 ?_
    refine k_ifeqB (x := decide (0 < 0)) (tgt := 22) hx hb dX6_land_17 (by decide) (fun c17 => ?_) (fun c17 => ?_)
    · skip
      obtain ⟨k, hk, rfl⟩ := tKt_of hm hmn c6
      have ck : (nI k).toNatClampNeg = k := nI_clamp (by omega)
      refine lv_aload_n hx hb dX6_land_22 rfl (lv_at hl 0 rfl) ?_
      refine lv_iload_n hx hb dX6_land_23 rfl (lv_at hl 1 rfl) ?_
      refine tw_cR hx hb hml hown hts (val := (bI (tUp (a 0) k))) (CX6_isUp l0 E w h ad (va_up f 13 0) a k hM (by omega)) (cwV 1 hts (lw_V q1742 q1744 qs42 q81 q1745) rfl rfl rfl dyX6_isUp ⟨Nat.le_of_ble_eq_true rfl, Nat.le_of_ble_eq_true rfl⟩) hG hP hS hM (As := [.int (nI k)]) (rest := []) rfl hl.1 rfl (lv_room (Nat.le_of_ble_eq_true rfl)) dX6_land_24 ⟨by omega, by omega⟩ (fun H locs hP hS => ?_)
      refine k_ifneB (x := tUp (a 0) k) (tgt := 37) hx hb dX6_land_27 (by decide) (fun c27 => ?_) (fun c27 => ?_)
      · skip
        refine lv_aload_n hx hb dX6_land_37 rfl (lv_at hl 0 rfl) ?_
        refine lv_aload_n hx hb dX6_land_38 rfl (lv_at hl 0 rfl) ?_
        refine tw_get hx hb hts hown hG hP hM 0 (by decide) (hts _ q1620) (fun _ h9 => h9) (v := .ref (ad 0)) rfl dX6_land_39 ?_
        refine tw_cW hx hb hml hown hts (CX6_keeps0 l0 E w h ad (va_up f 13 0) a ch hM hc (by omega)) (cwV 1 hts (lw_V q1699 q1701 qs36 q81 q1702) rfl rfl rfl dyX6_keeps ⟨Nat.le_of_ble_eq_true rfl, Nat.le_of_ble_eq_true rfl⟩) hG hP hS hM hF (As := [.ref (ad 0)]) (rest := []) rfl hl.1 rfl (lv_room (Nat.le_of_ble_eq_true rfl)) dX6_land_42 ⟨by omega, by omega⟩ (fun r42 f42 a42 w H locs hp hM hF hP hS => ?_)
        obtain ⟨hp1, hp2⟩ := hp
        have hM := hM.ofF hp1 hp2
        have hM : tM E w h ad (va_up (va_up f 13 0) 6 (tC6 (f 7) ch)) (va_up a 1 (tC1 (f 7) (a 1) (a 0) ch)) := hM
        refine lv_aload_n hx hb dX6_land_45 rfl (lv_at hl 0 rfl) ?_
        refine lv_iload_n hx hb dX6_land_46 rfl (lv_at hl 1 rfl) ?_
        refine lv_iconst (v := 5) hx hb dX6_land_47 (by decide) ?_
        refine tw_cR hx hb hml hown hts (val := (a 0) (kO k 5)) (CX6_of l0 E w h ad (va_up (va_up f 13 0) 6 (tC6 (f 7) ch)) (va_up a 1 (tC1 (f 7) (a 1) (a 0) ch)) k 5 hM (by omega) (by omega)) (cwV 2 hts (lw_V q1730 q1732 qs40 q81 q1733) rfl rfl rfl dyX6_of ⟨Nat.le_of_ble_eq_true rfl, Nat.le_of_ble_eq_true rfl⟩) hG hP hS hM (As := [.int (nI k), .int 5]) (rest := []) rfl hl.1 rfl (lv_room (Nat.le_of_ble_eq_true rfl)) dX6_land_48 ⟨by omega, by omega⟩ (fun H locs hP hS => ?_)
        refine lv_istore_n (lv' := [(2, .int ((a 0) (kO k 5))), (0, .ref h), (1, .int (nI k))]) hx hb dX6_land_51 rfl hl (by decide) rfl (fun ls hl => ?_)
        refine lv_aload_n hx hb dX6_land_52 rfl (lv_at hl 1 rfl) ?_
        refine lv_iload_n hx hb dX6_land_53 rfl (lv_at hl 2 rfl) ?_
        refine lv_iload_n hx hb dX6_land_54 rfl (lv_at hl 0 rfl) ?_
        refine lv_ineg hx hb dX6_land_55 ?_
        refine tw_cW hx hb hml hown hts (CX6_lets l0 E w h ad (va_up (va_up f 13 0) 6 (tC6 (f 7) ch)) (va_up a 1 (tC1 (f 7) (a 1) (a 0) ch)) k (-(a 0) (kO k 5)) hM (by omega)) (cwV 2 hts (lw_V q1746 q1748 qs43 q81 q1749) rfl rfl rfl dyX6_lets ⟨Nat.le_of_ble_eq_true rfl, Nat.le_of_ble_eq_true rfl⟩) hG hP hS hM hF (As := [.int (nI k), .int (-(a 0) (kO k 5))]) (rest := []) rfl hl.1 rfl (lv_room (Nat.le_of_ble_eq_true rfl)) dX6_land_56 ⟨by omega, by omega⟩ (fun r56 f56 a56 w H locs hp hM hF hP hS => ?_)
        obtain ⟨hp1, hp2⟩ := hp
        have hM := hM.ofF hp1 hp2
        have hM : tM E w h ad (va_up (va_up f 13 0) 6 (tC6 (f 7) ch)) (va_up (va_up a 1 (tC1 (f 7) (a 1) (a 0) ch)) 0 (tLt (a 0) k (-(a 0) (kO k 5)))) := hM
        refine lv_aload_n hx hb dX6_land_59 rfl (lv_at hl 1 rfl) ?_
        refine lv_iload_n hx hb dX6_land_60 rfl (lv_at hl 2 rfl) ?_
        refine lv_iconst (v := 0) hx hb dX6_land_61 (by decide) ?_
        refine lv_iconst (v := 0) hx hb dX6_land_62 (by decide) ?_
        refine tw_cW hx hb hml hown hts (CX6_lays l0 E w h ad (va_up (va_up f 13 0) 6 (tC6 (f 7) ch)) (va_up (va_up a 1 (tC1 (f 7) (a 1) (a 0) ch)) 0 (tLt (a 0) k (-(a 0) (kO k 5)))) k 0 0 hM (by omega) (by omega)) (cwV 3 hts (lw_V q1718 q1720 qs38 q81 q1721) rfl rfl rfl dyX6_lays ⟨Nat.le_of_ble_eq_true rfl, Nat.le_of_ble_eq_true rfl⟩) hG hP hS hM hF (As := [.int (nI k), .int 0, .int 0]) (rest := []) rfl hl.1 rfl (lv_room (Nat.le_of_ble_eq_true rfl)) dX6_land_63 ⟨by omega, by omega⟩ (fun r63 f63 a63 w H locs hp hM hF hP hS => ?_)
        obtain ⟨hp1, hp2⟩ := hp
        have hM := hM.ofF hp1 hp2
        have hM : tM E w h ad (va_up (va_up f 13 0) 6 (tC6 (f 7) ch)) (va_up (va_up a 1 (tC1 (f 7) (a 1) (a 0) ch)) 0 (va_up (tLt (a 0) k (-(a 0) (kO k 5))) (kO k 0) 0)) := hM.uu
        refine lv_iload_n hx hb dX6_land_66 rfl (lv_at hl 0 rfl) ?_
        have hq : qLand (a 0) (nI k) = (0, 0, (a 0) (kO k 5), (va_up (tLt (a 0) k (-(a 0) (kO k 5))) (kO k 0) 0)) := by simp [qLand, ck, c6, c17, c27]
        exact k_iret hx hb hr hlocks hQ hP hS (by omega) (by omega) dX6_land_67 (⟨_, _, ⟨by rw [hq], by rw [hq, oF_ok], by rw [hq, oA_ok]⟩, hM, hF⟩)
      · skip
        refine lv_aload_n hx hb dX6_land_30 rfl (lv_at hl 0 rfl) ?_
        refine lv_iconst (v := 4) hx hb dX6_land_31 (by decide) ?_
        refine lv_iconst (v := 2) hx hb dX6_land_32 (by decide) ?_
        refine tw_cW hx hb hml hown hts (CX6_refuses l0 E w h ad (va_up f 13 0) a 4 2 hM ) (cwV 2 hts (lw_V q1714 q1716 qs37 q81 q1717) rfl rfl rfl dyX6_refuses ⟨Nat.le_of_ble_eq_true rfl, Nat.le_of_ble_eq_true rfl⟩) hG hP hS hM hF (As := [.int 4, .int 2]) (rest := []) rfl hl.1 rfl (lv_room (Nat.le_of_ble_eq_true rfl)) dX6_land_33 ⟨by omega, by omega⟩ (fun r33 f33 a33 w H locs hp hM hF hP hS => ?_)
        obtain ⟨hp0, hp1, hp2⟩ := hp
        have hM := hM.ofF hp1 hp2
        have hM : tM E w h ad (va_up (va_up (va_up (va_up f 13 0) 11 4) 12 (-1)) 13 2) a := hM
        refine k_top (y := 0) hp0 ?_
        have hq : qLand (a 0) (nI k) = (2, 4, 0, (a 0)) := by simp [qLand, ck, c6, c17, c27]
        exact k_iret hx hb hr hlocks hQ hP hS (by omega) (by omega) dX6_land_36 (⟨_, _, ⟨by rw [hq], by rw [hq, oF_rf (by decide) (by decide)], by rw [hq, oA_no (by decide)]⟩, hM, hF⟩)
    · skip
      exact absurd c17 (by decide)

abbrev rmCX6_tie : Room := { frames := 2, cells := 0, slots := 0, locals := 46 }
theorem dyX6_tie : yX6_tie.cls = RX6 ∧ yX6_tie.cls ≠ "java/lang/invoke/MethodHandle" ∧ yX6_tie.cls ≠ "java/lang/invoke/VarHandle" ∧ (parseMethodDescriptor yX6_tie.desc).map (fun d => d.parameters.length) = some 1 := by decide +kernel
set_option maxHeartbeats 4000000 in
theorem CX6_tie (l0 : Launch) (E : gE) (w : wd) (h : Nat) (ad : Nat → Nat) (f : Nat → Int32) (a : Nat → Nat → Int32) (x : Int32) (ch : Nat) (mn : Nat) (hM : tM E w h ad f a) (hc : (f 6) = nI ch) (hc8 : ch ≤ 8) (hmn : mn ≤ 6) (hm : (a 0) 25 = nI mn) : kC l0 yX6_tie (ws_ yX6_tie cX6_tie 2 (some .int)) rmCX6_tie 0 0 mI E w [.ref h, .int x] (fun r w' => ∃ f' a', (r = (qTie (a 0) x).2.2.1 ∧ f' = oF f ch (qTie (a 0) x) ∧ a' = oA f a ch (qTie (a 0) x)) ∧ tM E w' h ad f' a' ∧ fr tP w w') := by
  refine k_open (cc := cX6_tie) (maxL := 2) (ret := (some .int)) (by decide) rfl (Nat.le_of_ble_eq_true rfl) ?_
  intro p e s m args below meth c ls Q hx hb hr hml hown hts hlocks hname hQ hG hP hl hS
  have hl : lv_has ls 2 [(0, .ref h), (1, .int x)] := hl
  obtain ⟨w0, hw0⟩ : ∃ z, z = w := ⟨_, rfl⟩
  have hF : fr tP w0 w := by rw [hw0]; exact fr.rf
  rw [← hw0] at hQ
  refine lv_aload_n hx hb dX6_tie_0 rfl (lv_at hl 0 rfl) ?_
  refine lv_aload_n hx hb dX6_tie_1 rfl (lv_at hl 0 rfl) ?_
  refine lv_iload_n hx hb dX6_tie_2 rfl (lv_at hl 1 rfl) ?_
  refine tw_cR hx hb hml hown hts (val := (bI (tKt (a 0) x))) (CX6_isKite l0 E w h ad f a x hM ) (cwV 1 hts (lw_V q1726 q1728 qs39 q81 q1729) rfl rfl rfl dyX6_isKite ⟨Nat.le_of_ble_eq_true rfl, Nat.le_of_ble_eq_true rfl⟩) hG hP hS hM (As := [.int x]) (rest := [.ref h]) rfl hl.1 rfl (lv_room (Nat.le_of_ble_eq_true rfl)) dX6_tie_3 ⟨by omega, by omega⟩ (fun H locs hP hS => ?_)
  refine k_ifeqB (x := tKt (a 0) x) (tgt := 13) hx hb dX6_tie_6 (by decide) (fun c6 => ?_) (fun c6 => ?_)
  · skip
    refine lv_iconst (v := 1) hx hb dX6_tie_13 (by decide) ?_
    refine tw_cW hx hb hml hown hts (CX6_fails l0 E w h ad f a 1 hM ) (cwV 1 hts (lw_V q1695 q1697 qs35 q81 q1698) rfl rfl rfl dyX6_fails ⟨Nat.le_of_ble_eq_true rfl, Nat.le_of_ble_eq_true rfl⟩) hG hP hS hM hF (As := [.int 1]) (rest := []) rfl hl.1 rfl (lv_room (Nat.le_of_ble_eq_true rfl)) dX6_tie_14 ⟨by omega, by omega⟩ (fun r14 f14 a14 w H locs hp hM hF hP hS => ?_)
    obtain ⟨hp0, hp1, hp2⟩ := hp
    have hM := hM.ofF hp1 hp2
    have hM : tM E w h ad (va_up f 13 1) a := hM
    refine k_top (y := (bI (decide (0 < 1)))) hp0 ?_
    refine k_ifeqB (x := decide (0 < 1)) (tgt := 22) hx hb dX6_tie_17 (by decide) (fun c17 => ?_) (fun c17 => ?_)
    · skip
      exact absurd c17 (by decide)
    · skip
      refine lv_iconst (v := 0) hx hb dX6_tie_20 (by decide) ?_
      have hq : qTie (a 0) x = (1, 0, 0, (a 0)) := by simp [qTie, c6, c17]
      exact k_iret hx hb hr hlocks hQ hP hS (by omega) (by omega) dX6_tie_21 (⟨_, _, ⟨by rw [hq], by rw [hq, oF_no (by decide)], by rw [hq, oA_no (by decide)]⟩, hM, hF⟩)
  · skip
    refine lv_iconst (v := 0) hx hb dX6_tie_9 (by decide) ?_
    refine lv_goto (tgt := 14) hx hb dX6_tie_10 (by decide) ?_
    refine tw_cW hx hb hml hown hts (CX6_fails l0 E w h ad f a 0 hM ) (cwV 1 hts (lw_V q1695 q1697 qs35 q81 q1698) rfl rfl rfl dyX6_fails ⟨Nat.le_of_ble_eq_true rfl, Nat.le_of_ble_eq_true rfl⟩) hG hP hS hM hF (As := [.int 0]) (rest := []) rfl hl.1 rfl (lv_room (Nat.le_of_ble_eq_true rfl)) dX6_tie_14 ⟨by omega, by omega⟩ (fun r14 f14 a14 w H locs hp hM hF hP hS => ?_)
    obtain ⟨hp0, hp1, hp2⟩ := hp
    have hM := hM.ofF hp1 hp2
    have hM : tM E w h ad (va_up f 13 0) a := hM
    refine k_top (y := (bI (decide (0 < 0)))) hp0 ?_
    refine k_ifeqB (x := decide (0 < 0)) (tgt := 22) hx hb dX6_tie_17 (by decide) (fun c17 => ?_) (fun c17 => ?_)
    · skip
      obtain ⟨k, hk, rfl⟩ := tKt_of hm hmn c6
      have ck : (nI k).toNatClampNeg = k := nI_clamp (by omega)
      refine lv_aload_n hx hb dX6_tie_22 rfl (lv_at hl 0 rfl) ?_
      refine lv_iload_n hx hb dX6_tie_23 rfl (lv_at hl 1 rfl) ?_
      refine lv_iconst (v := 0) hx hb dX6_tie_24 (by decide) ?_
      refine tw_cR hx hb hml hown hts (val := (a 0) (kO k 0)) (CX6_of l0 E w h ad (va_up f 13 0) a k 0 hM (by omega) (by omega)) (cwV 2 hts (lw_V q1730 q1732 qs40 q81 q1733) rfl rfl rfl dyX6_of ⟨Nat.le_of_ble_eq_true rfl, Nat.le_of_ble_eq_true rfl⟩) hG hP hS hM (As := [.int (nI k), .int 0]) (rest := []) rfl hl.1 rfl (lv_room (Nat.le_of_ble_eq_true rfl)) dX6_tie_25 ⟨by omega, by omega⟩ (fun H locs hP hS => ?_)
      refine lv_iconst (v := 2) hx hb dX6_tie_28 (by decide) ?_
      refine lv_icmp_eq (tgt := 40) hx hb dX6_tie_29 (by decide) (fun c29 => ?_) (fun c29 => ?_)
      · skip
        refine lv_aload_n hx hb dX6_tie_40 rfl (lv_at hl 0 rfl) ?_
        refine lv_iload_n hx hb dX6_tie_41 rfl (lv_at hl 1 rfl) ?_
        refine lv_iconst (v := 3) hx hb dX6_tie_42 (by decide) ?_
        refine tw_cR hx hb hml hown hts (val := (a 0) (kO k 3)) (CX6_of l0 E w h ad (va_up f 13 0) a k 3 hM (by omega) (by omega)) (cwV 2 hts (lw_V q1730 q1732 qs40 q81 q1733) rfl rfl rfl dyX6_of ⟨Nat.le_of_ble_eq_true rfl, Nat.le_of_ble_eq_true rfl⟩) hG hP hS hM (As := [.int (nI k), .int 3]) (rest := []) rfl hl.1 rfl (lv_room (Nat.le_of_ble_eq_true rfl)) dX6_tie_43 ⟨by omega, by omega⟩ (fun H locs hP hS => ?_)
        refine lv_bipush (v := 10) hx hb dX6_tie_46 (by decide) ?_
        refine lv_icmp_ge (tgt := 59) hx hb dX6_tie_48 (by decide) (fun c48 => ?_) (fun c48 => ?_)
        · skip
          refine lv_aload_n hx hb dX6_tie_59 rfl (lv_at hl 0 rfl) ?_
          refine lv_aload_n hx hb dX6_tie_60 rfl (lv_at hl 0 rfl) ?_
          refine tw_get hx hb hts hown hG hP hM 0 (by decide) (hts _ q1620) (fun _ h9 => h9) (v := .ref (ad 0)) rfl dX6_tie_61 ?_
          refine tw_cW hx hb hml hown hts (CX6_keeps0 l0 E w h ad (va_up f 13 0) a ch hM hc (by omega)) (cwV 1 hts (lw_V q1699 q1701 qs36 q81 q1702) rfl rfl rfl dyX6_keeps ⟨Nat.le_of_ble_eq_true rfl, Nat.le_of_ble_eq_true rfl⟩) hG hP hS hM hF (As := [.ref (ad 0)]) (rest := []) rfl hl.1 rfl (lv_room (Nat.le_of_ble_eq_true rfl)) dX6_tie_64 ⟨by omega, by omega⟩ (fun r64 f64 a64 w H locs hp hM hF hP hS => ?_)
          obtain ⟨hp1, hp2⟩ := hp
          have hM := hM.ofF hp1 hp2
          have hM : tM E w h ad (va_up (va_up f 13 0) 6 (tC6 (f 7) ch)) (va_up a 1 (tC1 (f 7) (a 1) (a 0) ch)) := hM
          refine lv_aload_n hx hb dX6_tie_67 rfl (lv_at hl 0 rfl) ?_
          refine lv_iload_n hx hb dX6_tie_68 rfl (lv_at hl 1 rfl) ?_
          refine lv_iconst (v := 0) hx hb dX6_tie_69 (by decide) ?_
          refine lv_iconst (v := 0) hx hb dX6_tie_70 (by decide) ?_
          refine tw_cW hx hb hml hown hts (CX6_lays l0 E w h ad (va_up (va_up f 13 0) 6 (tC6 (f 7) ch)) (va_up a 1 (tC1 (f 7) (a 1) (a 0) ch)) k 0 0 hM (by omega) (by omega)) (cwV 3 hts (lw_V q1718 q1720 qs38 q81 q1721) rfl rfl rfl dyX6_lays ⟨Nat.le_of_ble_eq_true rfl, Nat.le_of_ble_eq_true rfl⟩) hG hP hS hM hF (As := [.int (nI k), .int 0, .int 0]) (rest := []) rfl hl.1 rfl (lv_room (Nat.le_of_ble_eq_true rfl)) dX6_tie_71 ⟨by omega, by omega⟩ (fun r71 f71 a71 w H locs hp hM hF hP hS => ?_)
          obtain ⟨hp1, hp2⟩ := hp
          have hM := hM.ofF hp1 hp2
          have hM : tM E w h ad (va_up (va_up f 13 0) 6 (tC6 (f 7) ch)) (va_up (va_up a 1 (tC1 (f 7) (a 1) (a 0) ch)) 0 (va_up (a 0) (kO k 0) 0)) := hM
          refine lv_aload_n hx hb dX6_tie_74 rfl (lv_at hl 0 rfl) ?_
          refine lv_iload_n hx hb dX6_tie_75 rfl (lv_at hl 1 rfl) ?_
          refine lv_iconst (v := 3) hx hb dX6_tie_76 (by decide) ?_
          refine tw_cR hx hb hml hown hts (val := (va_up (a 0) (kO k 0) 0) (kO k 3)) (CX6_of l0 E w h ad (va_up (va_up f 13 0) 6 (tC6 (f 7) ch)) (va_up (va_up a 1 (tC1 (f 7) (a 1) (a 0) ch)) 0 (va_up (a 0) (kO k 0) 0)) k 3 hM (by omega) (by omega)) (cwV 2 hts (lw_V q1730 q1732 qs40 q81 q1733) rfl rfl rfl dyX6_of ⟨Nat.le_of_ble_eq_true rfl, Nat.le_of_ble_eq_true rfl⟩) hG hP hS hM (As := [.int (nI k), .int 3]) (rest := []) rfl hl.1 rfl (lv_room (Nat.le_of_ble_eq_true rfl)) dX6_tie_77 ⟨by omega, by omega⟩ (fun H locs hP hS => ?_)
          refine k_top (y := ((a 0) (kO k 3))) (by repeat (rw [up_n (by first | decide | (unfold kO; omega))])) ?_
          have hq : qTie (a 0) (nI k) = (0, 0, ((a 0) (kO k 3)), (va_up (a 0) (kO k 0) 0)) := by simp [qTie, ck, c6, c17, c29, c48]
          exact k_iret hx hb hr hlocks hQ hP hS (by omega) (by omega) dX6_tie_80 (⟨_, _, ⟨by rw [hq], by rw [hq, oF_ok], by rw [hq, oA_ok]⟩, hM, hF⟩)
        · skip
          refine lv_aload_n hx hb dX6_tie_51 rfl (lv_at hl 0 rfl) ?_
          refine lv_bipush (v := 8) hx hb dX6_tie_52 (by decide) ?_
          refine lv_iconst (v := 2) hx hb dX6_tie_54 (by decide) ?_
          refine tw_cW hx hb hml hown hts (CX6_refuses l0 E w h ad (va_up f 13 0) a 8 2 hM ) (cwV 2 hts (lw_V q1714 q1716 qs37 q81 q1717) rfl rfl rfl dyX6_refuses ⟨Nat.le_of_ble_eq_true rfl, Nat.le_of_ble_eq_true rfl⟩) hG hP hS hM hF (As := [.int 8, .int 2]) (rest := []) rfl hl.1 rfl (lv_room (Nat.le_of_ble_eq_true rfl)) dX6_tie_55 ⟨by omega, by omega⟩ (fun r55 f55 a55 w H locs hp hM hF hP hS => ?_)
          obtain ⟨hp0, hp1, hp2⟩ := hp
          have hM := hM.ofF hp1 hp2
          have hM : tM E w h ad (va_up (va_up (va_up (va_up f 13 0) 11 8) 12 (-1)) 13 2) a := hM
          refine k_top (y := 0) hp0 ?_
          have hq : qTie (a 0) (nI k) = (2, 8, 0, (a 0)) := by simp [qTie, ck, c6, c17, c29, c48]
          exact k_iret hx hb hr hlocks hQ hP hS (by omega) (by omega) dX6_tie_58 (⟨_, _, ⟨by rw [hq], by rw [hq, oF_rf (by decide) (by decide)], by rw [hq, oA_no (by decide)]⟩, hM, hF⟩)
      · skip
        refine lv_aload_n hx hb dX6_tie_32 rfl (lv_at hl 0 rfl) ?_
        refine lv_bipush (v := 7) hx hb dX6_tie_33 (by decide) ?_
        refine lv_iconst (v := 2) hx hb dX6_tie_35 (by decide) ?_
        refine tw_cW hx hb hml hown hts (CX6_refuses l0 E w h ad (va_up f 13 0) a 7 2 hM ) (cwV 2 hts (lw_V q1714 q1716 qs37 q81 q1717) rfl rfl rfl dyX6_refuses ⟨Nat.le_of_ble_eq_true rfl, Nat.le_of_ble_eq_true rfl⟩) hG hP hS hM hF (As := [.int 7, .int 2]) (rest := []) rfl hl.1 rfl (lv_room (Nat.le_of_ble_eq_true rfl)) dX6_tie_36 ⟨by omega, by omega⟩ (fun r36 f36 a36 w H locs hp hM hF hP hS => ?_)
        obtain ⟨hp0, hp1, hp2⟩ := hp
        have hM := hM.ofF hp1 hp2
        have hM : tM E w h ad (va_up (va_up (va_up (va_up f 13 0) 11 7) 12 (-1)) 13 2) a := hM
        refine k_top (y := 0) hp0 ?_
        have hq : qTie (a 0) (nI k) = (2, 7, 0, (a 0)) := by simp [qTie, ck, c6, c17, c29]
        exact k_iret hx hb hr hlocks hQ hP hS (by omega) (by omega) dX6_tie_39 (⟨_, _, ⟨by rw [hq], by rw [hq, oF_rf (by decide) (by decide)], by rw [hq, oA_no (by decide)]⟩, hM, hF⟩)
    · skip
      exact absurd c17 (by decide)
