/-! THE TWIN, 9: orders -/
set_option maxRecDepth 100000
abbrev rmCX6_isText : Room := { frames := 5, cells := 0, slots := 0, locals := 108 }
theorem dyX6_isText : yX6_isText.cls = RX6 ∧ yX6_isText.cls ≠ "java/lang/invoke/MethodHandle" ∧ yX6_isText.cls ≠ "java/lang/invoke/VarHandle" ∧ (parseMethodDescriptor yX6_isText.desc).map (fun d => d.parameters.length) = some 0 := by decide +kernel
set_option maxHeartbeats 4000000 in
theorem CX6_isText (l0 : Launch) (E : gE) (w : wd) (h : Nat) (ad : Nat → Nat) (f : Nat → Int32) (a : Nat → Nat → Int32) (n : Nat) (hM : tM E w h ad f a) (hn9 : (f 9) = nI n) (hn60 : n ≤ 60) : kC l0 yX6_isText (ws_ yX6_isText cX6_isText 1 (some .boolean)) rmCX6_isText 0 0 mI E w [.ref h] (fun r w' => ∃ f' a', (r = bI ((pTx (a 8) n 61 0 0 (a 18))).1 ∧ f' = va_up (va_up f 17 (nI ((pTx (a 8) n 61 0 0 (a 18))).2.1)) 19 (nI ((pTx (a 8) n 61 0 0 (a 18))).2.2.1) ∧ a' = va_up a 18 ((pTx (a 8) n 61 0 0 (a 18))).2.2.2) ∧ tM E w' h ad f' a' ∧ fr tP w w') := by
  refine k_open (cc := cX6_isText) (maxL := 1) (ret := (some .boolean)) (by decide) rfl (Nat.le_of_ble_eq_true rfl) ?_
  intro p e s m args below meth c ls Q hx hb hr hml hown hts hlocks hname hQ hG hP hl hS
  have hl : lv_has ls 1 [(0, .ref h)] := hl
  obtain ⟨w0, hw0⟩ : ∃ z, z = w := ⟨_, rfl⟩
  have hF : fr tP w0 w := by rw [hw0]; exact fr.rf
  rw [← hw0] at hQ
  refine lv_aload_n hx hb dX6_isText_0 rfl (lv_at hl 0 rfl) ?_
  refine lv_iconst (v := 0) hx hb dX6_isText_1 (by decide) ?_
  refine tw_put hx hb hts hown hG hP hS hM hF 17 (by decide) (hts _ q1637) (fun _ h9 => h9) rfl (ty := .int) (v := 0) rfl rfl rfl rfl dX6_isText_2 (fun w H locs hM hF hP hS => ?_)
  refine lv_aload_n hx hb dX6_isText_5 rfl (lv_at hl 0 rfl) ?_
  refine lv_iconst (v := 0) hx hb dX6_isText_6 (by decide) ?_
  refine tw_put hx hb hts hown hG hP hS hM hF 19 (by decide) (hts _ q1639) (fun _ h9 => h9) rfl (ty := .int) (v := 0) rfl rfl rfl rfl dX6_isText_7 (fun w H locs hM hF hP hS => ?_)
  have hloop_10 : ∀ (n9_10 : Nat) (q : Nat) (pp : Nat) (u : Nat) (O : Nat → Int32), (pp ≤ n) → (n < q + pp) → (2 * u ≤ pp) → (pTx (a 8) n q pp u O = (pTx (a 8) n 61 0 0 (a 18))) → q < n9_10 → ∀ (w : wd) (H : Heap) (locs : List Loc) (ls : Array Slot), tM E w h ad (va_up (va_up f 17 (nI pp)) 19 (nI u)) (va_up a 18 O) → fr tP w0 w → wP E w H → va_S (gA E) s.heap H locs → lv_has ls 1 [(0, .ref h)] → W p l0 e rmCX6_isText s m args below meth c H locs 0 0 Q (F0 m 10 ls []) := by
    intro n9_10
    induction n9_10 with
    | zero => intro q pp u O hpn hq9 hu9 hv hn; exact absurd hn (Nat.not_lt_zero _)
    | succ n9_10 ih_10 =>
      intro q pp u O hpn hq9 hu9 hv hn_10 w H locs ls hM hF hP hS hl
      obtain ⟨q, rfl⟩ : ∃ z9, q = z9 + 1 := ⟨q - 1, by omega⟩
      refine lv_aload_n hx hb dX6_isText_10 rfl (lv_at hl 0 rfl) ?_
      refine tw_cW hx hb hml hown hts (CX6_orderHere l0 E w h ad (va_up (va_up f 17 (nI pp)) 19 (nI u)) (va_up a 18 O) n pp u hM hn9 rfl hn60 (by omega) rfl (by omega)) (cwV 0 hts (lw_V q1880 q1882 qs59 q81 q1883) rfl rfl rfl dyX6_orderHere ⟨Nat.le_of_ble_eq_true rfl, Nat.le_of_ble_eq_true rfl⟩) hG hP hS hM hF (As := []) (rest := []) rfl hl.1 rfl (lv_room (Nat.le_of_ble_eq_true rfl)) dX6_isText_11 ⟨by omega, by omega⟩ (fun r11 f11 a11 w H locs hp hM hF hP hS => ?_)
      obtain ⟨hp0, hp1, hp2⟩ := hp
      obtain ⟨q11, hq11⟩ : ∃ z9 : q3, z9 = pOr (a 8) n pp O (5 * u) := ⟨_, rfl⟩
      have hp0 : r11 = bI q11.1 := by rw [hq11]; exact hp0
      have hM : tM E w h ad (va_up (va_up (va_up f 17 (nI pp)) 19 (nI u)) 17 (nI q11.2.1)) (va_up (va_up a 18 O) 18 q11.2.2) := hM.ofF (by rw [hq11]; exact hp1) (by rw [hq11]; exact hp2)
      have hM : tM E w h ad (va_up (va_up (va_up f 17 (nI pp)) 19 (nI u)) 17 (nI q11.2.1)) (va_up a 18 q11.2.2) := hM.uu
      have hM : tM E w h ad (va_up (va_up (va_up f 17 (nI pp)) 19 (nI u)) 17 (nI q11.2.1)) (va_up a 18 q11.2.2) := hM
      have hM : tM E w h ad (va_up (va_up f 17 (nI q11.2.1)) 19 (nI u)) (va_up a 18 q11.2.2) := hM.ofF (by rw [up_cm _ 17 19 _ _ (by decide), bx_uu]) rfl
      obtain ⟨hl11, hu11⟩ : pp ≤ q11.2.1 ∧ q11.2.1 ≤ n := by rw [hq11]; exact pOr_G (by omega)
      refine k_top (y := (bI q11.1)) hp0 ?_
      refine k_ifneB (x := q11.1) (tgt := 19) hx hb dX6_isText_14 (by decide) (fun c14 => ?_) (fun c14 => ?_)
      · skip
        have hlt11 : pp < q11.2.1 := by rw [hq11]; exact pOr_lt (by omega) (by rw [← hq11]; exact c14)
        refine lv_aload_n hx hb dX6_isText_19 rfl (lv_at hl 0 rfl) ?_
        refine lv_dup hx hb dX6_isText_20 rfl ?_
        refine tw_get hx hb hts hown hG hP hM 19 (by decide) (hts _ q1639) (fun _ h9 => h9) (v := .int (nI u)) rfl dX6_isText_21 ?_
        refine lv_iconst (v := 1) hx hb dX6_isText_24 (by decide) ?_
        refine k_iaddN (x := u) (y := 1) hx hb dX6_isText_25 ?_
        refine tw_put hx hb hts hown hG hP hS hM hF 19 (by decide) (hts _ q1639) (fun _ h9 => h9) rfl (ty := .int) (v := (nI (u + 1))) rfl rfl rfl rfl dX6_isText_26 (fun w H locs hM hF hP hS => ?_)
        have hM : tM E w h ad (va_up (va_up (va_up f 17 (nI q11.2.1)) 19 (nI u)) 19 (nI (u + 1))) (va_up a 18 q11.2.2) := hM
        have hM : tM E w h ad (va_up (va_up f 17 (nI q11.2.1)) 19 (nI (u + 1))) (va_up a 18 q11.2.2) := hM.ofF (by rw [bx_uu]) rfl
        refine lv_aload_n hx hb dX6_isText_29 rfl (lv_at hl 0 rfl) ?_
        refine lv_bipush (v := 59) hx hb dX6_isText_30 (by decide) ?_
        refine tw_cW hx hb hml hown hts (CX6_skips l0 E w h ad (va_up (va_up f 17 (nI q11.2.1)) 19 (nI (u + 1))) (va_up a 18 q11.2.2) n q11.2.1 59 hM hn9 rfl hn60 (by omega) (by decide)) (cwV 1 hts (lw_V q1888 q1890 qs61 q81 q1891) rfl rfl rfl dyX6_skips ⟨Nat.le_of_ble_eq_true rfl, Nat.le_of_ble_eq_true rfl⟩) hG hP hS hM hF (As := [.int 59]) (rest := []) rfl hl.1 rfl (lv_room (Nat.le_of_ble_eq_true rfl)) dX6_isText_32 ⟨by omega, by omega⟩ (fun r32 f32 a32 w H locs hp hM hF hP hS => ?_)
        obtain ⟨hp0, hp1, hp2⟩ := hp
        obtain ⟨q32, hq32⟩ : ∃ z9 : q3, z9 = pSk (a 8) n q11.2.1 q11.2.2 59 := ⟨_, rfl⟩
        have hp0 : r32 = bI q32.1 := by rw [hq32]; exact hp0
        have hM : tM E w h ad (va_up (va_up (va_up f 17 (nI q11.2.1)) 19 (nI (u + 1))) 17 (nI q32.2.1)) (va_up (va_up a 18 q11.2.2) 18 q32.2.2) := hM.ofF (by rw [hq32]; exact hp1) (by rw [hq32]; exact hp2)
        have hM : tM E w h ad (va_up (va_up (va_up f 17 (nI q11.2.1)) 19 (nI (u + 1))) 17 (nI q32.2.1)) (va_up a 18 q32.2.2) := hM.uu
        have hM : tM E w h ad (va_up (va_up (va_up f 17 (nI q11.2.1)) 19 (nI (u + 1))) 17 (nI q32.2.1)) (va_up a 18 q32.2.2) := hM
        have hM : tM E w h ad (va_up (va_up f 17 (nI q32.2.1)) 19 (nI (u + 1))) (va_up a 18 q32.2.2) := hM.ofF (by rw [up_cm _ 17 19 _ _ (by decide), bx_uu]) rfl
        obtain ⟨hl32, hu32⟩ : q11.2.1 ≤ q32.2.1 ∧ q32.2.1 ≤ n := by rw [hq32]; exact pSk_G (by omega) (by decide)
        refine k_top (y := (bI q32.1)) hp0 ?_
        refine k_ifneB (x := q32.1) (tgt := 10) hx hb dX6_isText_35 (by decide) (fun c35 => ?_) (fun c35 => ?_)
        · skip
          have hlt32 : q11.2.1 < q32.2.1 := by rw [hq32]; exact pSk_1 (by rw [← hq32]; exact c35)
          have hl : lv_has ls 1 [(0, .ref h)] := hl
          exact ih_10 q q32.2.1 (u + 1) q32.2.2 (by omega) (by omega) (by omega) (by rw [← hv, pTx, ← hq11, if_pos c14, ← hq32, if_pos c35]) (by omega) _ _ _ _ hM hF hP hS hl
        · skip
          refine lv_aload_n hx hb dX6_isText_38 rfl (lv_at hl 0 rfl) ?_
          refine tw_get hx hb hts hown hG hP hM 17 (by decide) (hts _ q1637) (fun _ h9 => h9) (v := .int (nI q32.2.1)) rfl dX6_isText_39 ?_
          refine lv_aload_n hx hb dX6_isText_42 rfl (lv_at hl 0 rfl) ?_
          refine tw_get hx hb hts hown hG hP hM 9 (by decide) (hts _ q1629) (fun _ h9 => h9) (v := .int (f 9)) rfl dX6_isText_43 ?_
          refine k_top (y := (nI n)) (hn9) ?_
          refine k_icmp_neN (x := q32.2.1) (y := n) (tgt := 53) hx hb (by omega) (by omega) dX6_isText_46 (by decide) (fun c46 => ?_) (fun c46 => ?_)
          · skip
            refine lv_iconst (v := 0) hx hb dX6_isText_53 (by decide) ?_
            have hT : (pTx (a 8) n 61 0 0 (a 18)) = (decide (q32.2.1 = n), q32.2.1, u + 1, q32.2.2) := by rw [← hv, pTx, ← hq11, if_pos c14, ← hq32, if_neg (by rw [c35]; decide)]
            exact k_zret hx hb hr hlocks hQ hP hS (by omega) (by omega) dX6_isText_54 rfl (⟨_, _, ⟨by rw [hT] <;> first | rfl | (rw [decide_eq_true c46]; rfl) | (rw [decide_eq_false c46]; rfl), by rw [hT], by rw [hT]⟩, hM, hF⟩)
          · skip
            refine lv_iconst (v := 1) hx hb dX6_isText_49 (by decide) ?_
            refine lv_goto (tgt := 54) hx hb dX6_isText_50 (by decide) ?_
            have hT : (pTx (a 8) n 61 0 0 (a 18)) = (decide (q32.2.1 = n), q32.2.1, u + 1, q32.2.2) := by rw [← hv, pTx, ← hq11, if_pos c14, ← hq32, if_neg (by rw [c35]; decide)]
            exact k_zret hx hb hr hlocks hQ hP hS (by omega) (by omega) dX6_isText_54 rfl (⟨_, _, ⟨by rw [hT] <;> first | rfl | (rw [decide_eq_true c46]; rfl) | (rw [decide_eq_false c46]; rfl), by rw [hT], by rw [hT]⟩, hM, hF⟩)
      · skip
        refine lv_iconst (v := 0) hx hb dX6_isText_17 (by decide) ?_
        have hT : (pTx (a 8) n 61 0 0 (a 18)) = (false, q11.2.1, u, q11.2.2) := by rw [← hv, pTx, ← hq11, if_neg (by rw [c14]; decide)]
        exact k_zret hx hb hr hlocks hQ hP hS (by omega) (by omega) dX6_isText_18 rfl (⟨_, _, ⟨by rw [hT] <;> first | rfl | (rw [decide_eq_true c14]; rfl) | (rw [decide_eq_false c14]; rfl), by rw [hT], by rw [hT]⟩, hM, hF⟩)
  have hl : lv_has ls 1 [(0, .ref h)] := hl
  have hM : tM E w h ad (va_up (va_up f 17 (nI 0)) 19 (nI 0)) (va_up a 18 (a 18)) := hM.of (up_same a 18).symm
  exact hloop_10 _ 61 0 0 (a 18) (by omega) (by omega) (by omega) rfl (Nat.lt_succ_self _) _ _ _ _ hM hF hP hS hl

abbrev rmCX6_carries : Room := { frames := 9, cells := 0, slots := 0, locals := 208 }
theorem dyX6_carries : yX6_carries.cls = RX6 ∧ yX6_carries.cls ≠ "java/lang/invoke/MethodHandle" ∧ yX6_carries.cls ≠ "java/lang/invoke/VarHandle" ∧ (parseMethodDescriptor yX6_carries.desc).map (fun d => d.parameters.length) = some 1 := by decide +kernel
set_option maxHeartbeats 4000000 in
theorem CX6_carries (l0 : Launch) (E : gE) (w : wd) (h : Nat) (ad : Nat → Nat) (f : Nat → Int32) (a : Nat → Nat → Int32) (i : Nat) (ch : Nat) (mn : Nat) (hM : tM E w h ad f a) (hi9 : i ≤ 30) (h7 : (f 7) = 1) (hc : (f 6) = nI ch) (hc8 : ch ≤ 8) (hmn : mn ≤ 6) (hm : (a 0) 25 = nI mn) : kC l0 yX6_carries (ws_ yX6_carries cX6_carries 3 (some .int)) rmCX6_carries 0 0 mI E w [.ref h, .int (nI (5 * i))] (fun r w' => ∃ f' a', (r = rCy (a 18) (5 * i) ∧ ∃ x9 y9 z9, f' = oC f ((qCy (a 0) mn (a 18) (5 * i)).1, (qCy (a 0) mn (a 18) (5 * i)).2.1, 0) ∧ a' = va_up (va_up (va_up (va_up a 0 (qCy (a 0) mn (a 18) (5 * i)).2.2.2) 14 x9) 15 y9) 16 z9) ∧ tM E w' h ad f' a' ∧ fr tP w w') := by
  refine k_open (cc := cX6_carries) (maxL := 3) (ret := (some .int)) (by decide) rfl (Nat.le_of_ble_eq_true rfl) ?_
  intro p e s m args below meth c ls Q hx hb hr hml hown hts hlocks hname hQ hG hP hl hS
  have hl : lv_has ls 3 [(0, .ref h), (1, .int (nI (5 * i)))] := hl
  obtain ⟨w0, hw0⟩ : ∃ z, z = w := ⟨_, rfl⟩
  have hF : fr tP w0 w := by rw [hw0]; exact fr.rf
  rw [← hw0] at hQ
  refine lv_iconst (v := 0) hx hb dX6_carries_0 (by decide) ?_
  refine lv_istore_n (lv' := [(2, .int 0), (0, .ref h), (1, .int (nI (5 * i)))]) hx hb dX6_carries_1 rfl hl (by decide) rfl (fun ls hl => ?_)
  refine lv_aload_n hx hb dX6_carries_2 rfl (lv_at hl 1 rfl) ?_
  refine tw_get hx hb hts hown hG hP hM 18 (by decide) (hts _ q1638) (fun _ h9 => h9) (v := .ref (ad 18)) rfl dX6_carries_3 ?_
  refine lv_iload_n hx hb dX6_carries_6 rfl (lv_at hl 2 rfl) ?_
  refine tw_ald hx hb hG hP hM 18 (by decide) (j := 5 * i) (show 5 * i < 155 from by omega) dX6_carries_7 ?_
  by_cases c8_107 : ((a 18) (5 * i)) = 107
  · skip
    refine lv_lookup (tgt := 83) hx hb dX6_carries_8 (by decide) (off := 75) (by rw [c8_107]; decide) (by decide) ?_
    refine lv_aload_n hx hb dX6_carries_83 rfl (lv_at hl 1 rfl) ?_
    refine lv_aload_n hx hb dX6_carries_84 rfl (lv_at hl 1 rfl) ?_
    refine tw_get hx hb hts hown hG hP hM 18 (by decide) (hts _ q1638) (fun _ h9 => h9) (v := .ref (ad 18)) rfl dX6_carries_85 ?_
    refine lv_iload_n hx hb dX6_carries_88 rfl (lv_at hl 2 rfl) ?_
    refine lv_iconst (v := 1) hx hb dX6_carries_89 (by decide) ?_
    refine k_iaddN (x := 5 * i) (y := 1) hx hb dX6_carries_90 ?_
    refine tw_ald hx hb hG hP hM 18 (by decide) (j := 5 * i + 1) (show 5 * i + 1 < 155 from by omega) dX6_carries_91 ?_
    refine lv_aload_n hx hb dX6_carries_92 rfl (lv_at hl 1 rfl) ?_
    refine tw_get hx hb hts hown hG hP hM 18 (by decide) (hts _ q1638) (fun _ h9 => h9) (v := .ref (ad 18)) rfl dX6_carries_93 ?_
    refine lv_iload_n hx hb dX6_carries_96 rfl (lv_at hl 2 rfl) ?_
    refine lv_iconst (v := 2) hx hb dX6_carries_97 (by decide) ?_
    refine k_iaddN (x := 5 * i) (y := 2) hx hb dX6_carries_98 ?_
    refine tw_ald hx hb hG hP hM 18 (by decide) (j := 5 * i + 2) (show 5 * i + 2 < 155 from by omega) dX6_carries_99 ?_
    refine lv_aload_n hx hb dX6_carries_100 rfl (lv_at hl 1 rfl) ?_
    refine tw_get hx hb hts hown hG hP hM 18 (by decide) (hts _ q1638) (fun _ h9 => h9) (v := .ref (ad 18)) rfl dX6_carries_101 ?_
    refine lv_iload_n hx hb dX6_carries_104 rfl (lv_at hl 2 rfl) ?_
    refine lv_iconst (v := 3) hx hb dX6_carries_105 (by decide) ?_
    refine k_iaddN (x := 5 * i) (y := 3) hx hb dX6_carries_106 ?_
    refine tw_ald hx hb hG hP hM 18 (by decide) (j := 5 * i + 3) (show 5 * i + 3 < 155 from by omega) dX6_carries_107 ?_
    refine lv_aload_n hx hb dX6_carries_108 rfl (lv_at hl 1 rfl) ?_
    refine tw_get hx hb hts hown hG hP hM 18 (by decide) (hts _ q1638) (fun _ h9 => h9) (v := .ref (ad 18)) rfl dX6_carries_109 ?_
    refine lv_iload_n hx hb dX6_carries_112 rfl (lv_at hl 2 rfl) ?_
    refine lv_iconst (v := 4) hx hb dX6_carries_113 (by decide) ?_
    refine k_iaddN (x := 5 * i) (y := 4) hx hb dX6_carries_114 ?_
    refine tw_ald hx hb hG hP hM 18 (by decide) (j := 5 * i + 4) (show 5 * i + 4 < 155 from by omega) dX6_carries_115 ?_
    refine tw_cW hx hb hml hown hts (CX6_kite l0 E w h ad f a ((a 18) (5 * i + 1)) ((a 18) (5 * i + 2)) ((a 18) (5 * i + 3)) ((a 18) (5 * i + 4)) ch mn hM hc (by omega) (by omega) hm) (cwV 4 hts (lw_V q1909 q1711 q1712 q81 q1713) rfl rfl rfl dyX6_kite ⟨Nat.le_of_ble_eq_true rfl, Nat.le_of_ble_eq_true rfl⟩) hG hP hS hM hF (As := [.int ((a 18) (5 * i + 1)), .int ((a 18) (5 * i + 2)), .int ((a 18) (5 * i + 3)), .int ((a 18) (5 * i + 4))]) (rest := []) rfl hl.1 rfl (lv_room (Nat.le_of_ble_eq_true rfl)) dX6_carries_116 ⟨by omega, by omega⟩ (fun r116 f116 a116 w H locs hp hM hF hP hS => ?_)
    refine lv_istore_n (lv' := [(2, .int r116), (0, .ref h), (1, .int (nI (5 * i)))]) hx hb dX6_carries_119 rfl hl (by decide) rfl (fun ls hl => ?_)
    refine lv_iconst (v := 2) hx hb dX6_carries_120 (by decide) ?_
    have hQ9 : (qCy (a 0) mn (a 18) (5 * i)) = qKite (a 0) mn ((a 18) (5 * i + 1)) ((a 18) (5 * i + 2)) ((a 18) (5 * i + 3)) ((a 18) (5 * i + 4)) := by rw [qCy, if_pos c8_107]
    have hG9 := qCy_G hm hmn (a 18) (5 * i)
    rw [hQ9] at hG9
    obtain ⟨hp1, hp2, hp3⟩ := hp
    exact k_iret hx hb hr hlocks hQ hP hS (by omega) (by omega) dX6_carries_121 (⟨_, _, ⟨by rw [rCy, if_pos c8_107], _, _, _, (by rw [hQ9, ← oF_in h7 hc]; exact hp2), (by rw [hQ9, ← oA_in h7 hG9, ← hp3]; exact (up_self3 _).symm)⟩, hM, hF⟩)
  by_cases c8_114 : ((a 18) (5 * i)) = 114
  · skip
    refine lv_lookup (tgt := 137) hx hb dX6_carries_8 (by decide) (off := 129) (by rw [c8_114]; decide) (by decide) ?_
    refine lv_aload_n hx hb dX6_carries_137 rfl (lv_at hl 1 rfl) ?_
    refine lv_aload_n hx hb dX6_carries_138 rfl (lv_at hl 1 rfl) ?_
    refine tw_get hx hb hts hown hG hP hM 18 (by decide) (hts _ q1638) (fun _ h9 => h9) (v := .ref (ad 18)) rfl dX6_carries_139 ?_
    refine lv_iload_n hx hb dX6_carries_142 rfl (lv_at hl 2 rfl) ?_
    refine lv_iconst (v := 1) hx hb dX6_carries_143 (by decide) ?_
    refine k_iaddN (x := 5 * i) (y := 1) hx hb dX6_carries_144 ?_
    refine tw_ald hx hb hG hP hM 18 (by decide) (j := 5 * i + 1) (show 5 * i + 1 < 155 from by omega) dX6_carries_145 ?_
    refine lv_aload_n hx hb dX6_carries_146 rfl (lv_at hl 1 rfl) ?_
    refine tw_get hx hb hts hown hG hP hM 18 (by decide) (hts _ q1638) (fun _ h9 => h9) (v := .ref (ad 18)) rfl dX6_carries_147 ?_
    refine lv_iload_n hx hb dX6_carries_150 rfl (lv_at hl 2 rfl) ?_
    refine lv_iconst (v := 2) hx hb dX6_carries_151 (by decide) ?_
    refine k_iaddN (x := 5 * i) (y := 2) hx hb dX6_carries_152 ?_
    refine tw_ald hx hb hG hP hM 18 (by decide) (j := 5 * i + 2) (show 5 * i + 2 < 155 from by omega) dX6_carries_153 ?_
    refine tw_cW hx hb hml hown hts (CX6_reel l0 E w h ad f a ((a 18) (5 * i + 1)) ((a 18) (5 * i + 2)) ch mn hM hc (by omega) (by omega) hm) (cwV 2 hts (lw_V q1911 q1739 q1740 q81 q1741) rfl rfl rfl dyX6_reel ⟨Nat.le_of_ble_eq_true rfl, Nat.le_of_ble_eq_true rfl⟩) hG hP hS hM hF (As := [.int ((a 18) (5 * i + 1)), .int ((a 18) (5 * i + 2))]) (rest := []) rfl hl.1 rfl (lv_room (Nat.le_of_ble_eq_true rfl)) dX6_carries_154 ⟨by omega, by omega⟩ (fun r154 f154 a154 w H locs hp hM hF hP hS => ?_)
    refine lv_istore_n (lv' := [(2, .int r154), (0, .ref h), (1, .int (nI (5 * i)))]) hx hb dX6_carries_157 rfl hl (by decide) rfl (fun ls hl => ?_)
    refine lv_iconst (v := 3) hx hb dX6_carries_158 (by decide) ?_
    have hQ9 : (qCy (a 0) mn (a 18) (5 * i)) = qReel (a 0) ((a 18) (5 * i + 1)) ((a 18) (5 * i + 2)) := by rw [qCy, if_neg c8_107, if_pos c8_114]
    have hG9 := qCy_G hm hmn (a 18) (5 * i)
    rw [hQ9] at hG9
    obtain ⟨hp1, hp2, hp3⟩ := hp
    exact k_iret hx hb hr hlocks hQ hP hS (by omega) (by omega) dX6_carries_159 (⟨_, _, ⟨by rw [rCy, if_neg c8_107, if_pos c8_114], _, _, _, (by rw [hQ9, ← oF_in h7 hc]; exact hp2), (by rw [hQ9, ← oA_in h7 hG9, ← hp3]; exact (up_self3 _).symm)⟩, hM, hF⟩)
  by_cases c8_117 : ((a 18) (5 * i)) = 117
  · skip
    refine lv_lookup (tgt := 122) hx hb dX6_carries_8 (by decide) (off := 114) (by rw [c8_117]; decide) (by decide) ?_
    refine lv_aload_n hx hb dX6_carries_122 rfl (lv_at hl 1 rfl) ?_
    refine lv_aload_n hx hb dX6_carries_123 rfl (lv_at hl 1 rfl) ?_
    refine tw_get hx hb hts hown hG hP hM 18 (by decide) (hts _ q1638) (fun _ h9 => h9) (v := .ref (ad 18)) rfl dX6_carries_124 ?_
    refine lv_iload_n hx hb dX6_carries_127 rfl (lv_at hl 2 rfl) ?_
    refine lv_iconst (v := 1) hx hb dX6_carries_128 (by decide) ?_
    refine k_iaddN (x := 5 * i) (y := 1) hx hb dX6_carries_129 ?_
    refine tw_ald hx hb hG hP hM 18 (by decide) (j := 5 * i + 1) (show 5 * i + 1 < 155 from by omega) dX6_carries_130 ?_
    refine tw_cW hx hb hml hown hts (CX6_launch l0 E w h ad f a ((a 18) (5 * i + 1)) ch mn hM hc (by omega) (by omega) hm) (cwV 1 hts (lw_V q1910 q1723 q1724 q81 q1725) rfl rfl rfl dyX6_launch ⟨Nat.le_of_ble_eq_true rfl, Nat.le_of_ble_eq_true rfl⟩) hG hP hS hM hF (As := [.int ((a 18) (5 * i + 1))]) (rest := []) rfl hl.1 rfl (lv_room (Nat.le_of_ble_eq_true rfl)) dX6_carries_131 ⟨by omega, by omega⟩ (fun r131 f131 a131 w H locs hp hM hF hP hS => ?_)
    refine lv_istore_n (lv' := [(2, .int r131), (0, .ref h), (1, .int (nI (5 * i)))]) hx hb dX6_carries_134 rfl hl (by decide) rfl (fun ls hl => ?_)
    refine lv_iconst (v := 2) hx hb dX6_carries_135 (by decide) ?_
    have hQ9 : (qCy (a 0) mn (a 18) (5 * i)) = qLnch (a 0) mn ((a 18) (5 * i + 1)) := by rw [qCy, if_neg c8_107, if_neg c8_114, if_pos c8_117]
    have hG9 := qCy_G hm hmn (a 18) (5 * i)
    rw [hQ9] at hG9
    obtain ⟨hp1, hp2, hp3⟩ := hp
    exact k_iret hx hb hr hlocks hQ hP hS (by omega) (by omega) dX6_carries_136 (⟨_, _, ⟨by rw [rCy, if_neg c8_107, if_neg c8_114, if_pos c8_117], _, _, _, (by rw [hQ9, ← oF_in h7 hc]; exact hp2), (by rw [hQ9, ← oA_in h7 hG9, ← hp3]; exact (up_self3 _).symm)⟩, hM, hF⟩)
  by_cases c8_119 : ((a 18) (5 * i)) = 119
  · skip
    refine lv_lookup (tgt := 52) hx hb dX6_carries_8 (by decide) (off := 44) (by rw [c8_119]; decide) (by decide) ?_
    refine lv_aload_n hx hb dX6_carries_52 rfl (lv_at hl 1 rfl) ?_
    refine lv_aload_n hx hb dX6_carries_53 rfl (lv_at hl 1 rfl) ?_
    refine tw_get hx hb hts hown hG hP hM 18 (by decide) (hts _ q1638) (fun _ h9 => h9) (v := .ref (ad 18)) rfl dX6_carries_54 ?_
    refine lv_iload_n hx hb dX6_carries_57 rfl (lv_at hl 2 rfl) ?_
    refine lv_iconst (v := 1) hx hb dX6_carries_58 (by decide) ?_
    refine k_iaddN (x := 5 * i) (y := 1) hx hb dX6_carries_59 ?_
    refine tw_ald hx hb hG hP hM 18 (by decide) (j := 5 * i + 1) (show 5 * i + 1 < 155 from by omega) dX6_carries_60 ?_
    refine lv_aload_n hx hb dX6_carries_61 rfl (lv_at hl 1 rfl) ?_
    refine tw_get hx hb hts hown hG hP hM 18 (by decide) (hts _ q1638) (fun _ h9 => h9) (v := .ref (ad 18)) rfl dX6_carries_62 ?_
    refine lv_iload_n hx hb dX6_carries_65 rfl (lv_at hl 2 rfl) ?_
    refine lv_iconst (v := 2) hx hb dX6_carries_66 (by decide) ?_
    refine k_iaddN (x := 5 * i) (y := 2) hx hb dX6_carries_67 ?_
    refine tw_ald hx hb hG hP hM 18 (by decide) (j := 5 * i + 2) (show 5 * i + 2 < 155 from by omega) dX6_carries_68 ?_
    refine lv_aload_n hx hb dX6_carries_69 rfl (lv_at hl 1 rfl) ?_
    refine tw_get hx hb hts hown hG hP hM 18 (by decide) (hts _ q1638) (fun _ h9 => h9) (v := .ref (ad 18)) rfl dX6_carries_70 ?_
    refine lv_iload_n hx hb dX6_carries_73 rfl (lv_at hl 2 rfl) ?_
    refine lv_iconst (v := 3) hx hb dX6_carries_74 (by decide) ?_
    refine k_iaddN (x := 5 * i) (y := 3) hx hb dX6_carries_75 ?_
    refine tw_ald hx hb hG hP hM 18 (by decide) (j := 5 * i + 3) (show 5 * i + 3 < 155 from by omega) dX6_carries_76 ?_
    refine tw_cW hx hb hml hown hts (CX6_wind l0 E w h ad f a ((a 18) (5 * i + 1)) ((a 18) (5 * i + 2)) ((a 18) (5 * i + 3)) ch hM hc (by omega)) (cwV 3 hts (lw_V q1908 q1686 q1687 q81 q1688) rfl rfl rfl dyX6_wind ⟨Nat.le_of_ble_eq_true rfl, Nat.le_of_ble_eq_true rfl⟩) hG hP hS hM hF (As := [.int ((a 18) (5 * i + 1)), .int ((a 18) (5 * i + 2)), .int ((a 18) (5 * i + 3))]) (rest := []) rfl hl.1 rfl (lv_room (Nat.le_of_ble_eq_true rfl)) dX6_carries_77 ⟨by omega, by omega⟩ (fun r77 f77 a77 w H locs hp hM hF hP hS => ?_)
    refine lv_istore_n (lv' := [(2, .int r77), (0, .ref h), (1, .int (nI (5 * i)))]) hx hb dX6_carries_80 rfl hl (by decide) rfl (fun ls hl => ?_)
    refine lv_iconst (v := 3) hx hb dX6_carries_81 (by decide) ?_
    have hQ9 : (qCy (a 0) mn (a 18) (5 * i)) = qWind (a 0) ((a 18) (5 * i + 1)) ((a 18) (5 * i + 2)) ((a 18) (5 * i + 3)) := by rw [qCy, if_neg c8_107, if_neg c8_114, if_neg c8_117, if_pos c8_119]
    have hG9 := qCy_G hm hmn (a 18) (5 * i)
    rw [hQ9] at hG9
    obtain ⟨hp1, hp2, hp3⟩ := hp
    exact k_iret hx hb hr hlocks hQ hP hS (by omega) (by omega) dX6_carries_82 (⟨_, _, ⟨by rw [rCy, if_neg c8_107, if_neg c8_114, if_neg c8_117, if_pos c8_119], _, _, _, (by rw [hQ9, ← oF_in h7 hc]; exact hp2), (by rw [hQ9, ← oA_in h7 hG9, ← hp3]; exact (up_self3 _).symm)⟩, hM, hF⟩)
  refine lv_lookup (tgt := 160) hx hb dX6_carries_8 (by decide) (off := 152) (by refine (lv_osw c8_107 rfl).trans ?_; refine (lv_osw c8_114 rfl).trans ?_; refine (lv_osw c8_117 rfl).trans ?_; refine (lv_osw c8_119 rfl).trans ?_; rfl) (by decide) ?_
  refine lv_aload_n hx hb dX6_carries_160 rfl (lv_at hl 1 rfl) ?_
  refine lv_aload_n hx hb dX6_carries_161 rfl (lv_at hl 1 rfl) ?_
  refine tw_get hx hb hts hown hG hP hM 18 (by decide) (hts _ q1638) (fun _ h9 => h9) (v := .ref (ad 18)) rfl dX6_carries_162 ?_
  refine lv_iload_n hx hb dX6_carries_165 rfl (lv_at hl 2 rfl) ?_
  refine lv_iconst (v := 1) hx hb dX6_carries_166 (by decide) ?_
  refine k_iaddN (x := 5 * i) (y := 1) hx hb dX6_carries_167 ?_
  refine tw_ald hx hb hG hP hM 18 (by decide) (j := 5 * i + 1) (show 5 * i + 1 < 155 from by omega) dX6_carries_168 ?_
  refine tw_cW hx hb hml hown hts (CX6_round l0 E w h ad f a ((a 18) (5 * i + 1)) ch mn hM hc (by omega) (by omega) hm) (cwV 1 hts (lw_V q1912 q1833 q1834 q81 q1835) rfl rfl rfl dyX6_round ⟨Nat.le_of_ble_eq_true rfl, Nat.le_of_ble_eq_true rfl⟩) hG hP hS hM hF (As := [.int ((a 18) (5 * i + 1))]) (rest := []) rfl hl.1 rfl (lv_room (Nat.le_of_ble_eq_true rfl)) dX6_carries_169 ⟨by omega, by omega⟩ (fun r169 f169 a169 w H locs hp hM hF hP hS => ?_)
  refine lv_istore_n (lv' := [(2, .int r169), (0, .ref h), (1, .int (nI (5 * i)))]) hx hb dX6_carries_172 rfl hl (by decide) rfl (fun ls hl => ?_)
  refine lv_iconst (v := 2) hx hb dX6_carries_173 (by decide) ?_
  have hQ9 : (qCy (a 0) mn (a 18) (5 * i)) = qRound (a 0) mn ((a 18) (5 * i + 1)) := by rw [qCy, if_neg c8_107, if_neg c8_114, if_neg c8_117, if_neg c8_119]
  have hG9 := qCy_G hm hmn (a 18) (5 * i)
  rw [hQ9] at hG9
  obtain ⟨x9, y9, z9, hp1, hp2, hp3⟩ := hp
  exact k_iret hx hb hr hlocks hQ hP hS (by omega) (by omega) dX6_carries_174 (⟨_, _, ⟨by rw [rCy, if_neg c8_107, if_neg c8_114, if_neg c8_117, if_neg c8_119], _, _, _, (by rw [hQ9, ← oF_in h7 hc]; exact hp2), (by rw [hQ9, ← oA_in h7 hG9]; exact hp3)⟩, hM, hF⟩)
