/-! THE TWIN, 8: texts and snapshots -/
set_option maxRecDepth 100000
abbrev rmCX6_append : Room := { frames := 1, cells := 0, slots := 0, locals := 21 }
theorem dyX6_append : yX6_append.cls = RX6 ∧ yX6_append.cls ≠ "java/lang/invoke/MethodHandle" ∧ yX6_append.cls ≠ "java/lang/invoke/VarHandle" ∧ (parseMethodDescriptor yX6_append.desc).map (fun d => d.parameters.length) = some 1 := by decide +kernel
set_option maxHeartbeats 4000000 in
theorem CX6_append (l0 : Launch) (E : gE) (w : wd) (h : Nat) (ad : Nat → Nat) (f : Nat → Int32) (a : Nat → Nat → Int32) (x : Int32) (n : Nat) (hM : tM E w h ad f a) (hn9 : (f 9) = nI n) (hn60 : n ≤ 60) : kC l0 yX6_append (ws_ yX6_append cX6_append 2 (some .int)) rmCX6_append 0 0 mI E w [.ref h, .int x] (fun r w' => ∃ f' a', ((n = 60 ∧ r = 0 ∧ f' = va_up f 13 1 ∧ a' = a) ∨ (n < 60 ∧ r = nI (n + 1) ∧ f' = va_up (va_up f 13 0) 9 (nI (n + 1)) ∧ a' = va_up a 8 (va_up (a 8) n x))) ∧ tM E w' h ad f' a' ∧ fr tP w w') := by
  refine k_open (cc := cX6_append) (maxL := 2) (ret := (some .int)) (by decide) rfl (Nat.le_of_ble_eq_true rfl) ?_
  intro p e s m args below meth c ls Q hx hb hr hml hown hts hlocks hname hQ hG hP hl hS
  have hl : lv_has ls 2 [(0, .ref h), (1, .int x)] := hl
  obtain ⟨w0, hw0⟩ : ∃ z, z = w := ⟨_, rfl⟩
  have hF : fr tP w0 w := by rw [hw0]; exact fr.rf
  rw [← hw0] at hQ
  refine lv_aload_n hx hb dX6_append_0 rfl (lv_at hl 0 rfl) ?_
  refine lv_aload_n hx hb dX6_append_1 rfl (lv_at hl 0 rfl) ?_
  refine tw_get hx hb hts hown hG hP hM 9 (by decide) (hts _ q1629) (fun _ h9 => h9) (v := .int (f 9)) rfl dX6_append_2 ?_
  refine k_top (y := (nI n)) (hn9) ?_
  refine lv_bipush (v := 60) hx hb dX6_append_5 (by decide) ?_
  refine k_icmp_neN (x := n) (y := 60) (tgt := 14) hx hb (by omega) (by omega) dX6_append_7 (by decide) (fun c7 => ?_) (fun c7 => ?_)
  · skip
    refine lv_iconst (v := 0) hx hb dX6_append_14 (by decide) ?_
    refine tw_cW hx hb hml hown hts (CX6_fails l0 E w h ad f a 0 hM ) (cwV 1 hts (lw_V q1695 q1697 qs35 q81 q1698) rfl rfl rfl dyX6_fails ⟨Nat.le_of_ble_eq_true rfl, Nat.le_of_ble_eq_true rfl⟩) hG hP hS hM hF (As := [.int 0]) (rest := []) rfl hl.1 rfl (lv_room (Nat.le_of_ble_eq_true rfl)) dX6_append_15 ⟨by omega, by omega⟩ (fun r15 f15 a15 w H locs hp hM hF hP hS => ?_)
    obtain ⟨hp0, hp1, hp2⟩ := hp
    have hM := hM.ofF hp1 hp2
    have hM : tM E w h ad (va_up f 13 0) a := hM
    refine k_top (y := (bI (decide (0 < 0)))) hp0 ?_
    refine k_ifeqB (x := decide (0 < 0)) (tgt := 23) hx hb dX6_append_18 (by decide) (fun c18 => ?_) (fun c18 => ?_)
    · skip
      refine lv_aload_n hx hb dX6_append_23 rfl (lv_at hl 0 rfl) ?_
      refine tw_get hx hb hts hown hG hP hM 8 (by decide) (hts _ q1628) (fun _ h9 => h9) (v := .ref (ad 8)) rfl dX6_append_24 ?_
      refine lv_aload_n hx hb dX6_append_27 rfl (lv_at hl 0 rfl) ?_
      refine tw_get hx hb hts hown hG hP hM 9 (by decide) (hts _ q1629) (fun _ h9 => h9) (v := .int (f 9)) rfl dX6_append_28 ?_
      refine k_top (y := (nI n)) (hn9) ?_
      refine lv_iload_n hx hb dX6_append_31 rfl (lv_at hl 1 rfl) ?_
      refine tw_ast hx hb hG hP hS hM hF 8 (by decide) (j := n) (show n < 60 from by omega) (x := x) dX6_append_32 (fun w H locs hM hF hP hS => ?_)
      have hM : tM E w h ad (va_up f 13 0) (va_up a 8 (va_up (a 8) n x)) := hM
      refine lv_aload_n hx hb dX6_append_33 rfl (lv_at hl 0 rfl) ?_
      refine lv_dup hx hb dX6_append_34 rfl ?_
      refine tw_get hx hb hts hown hG hP hM 9 (by decide) (hts _ q1629) (fun _ h9 => h9) (v := .int (f 9)) rfl dX6_append_35 ?_
      refine k_top (y := (nI n)) (hn9) ?_
      refine lv_iconst (v := 1) hx hb dX6_append_38 (by decide) ?_
      refine k_iaddN (x := n) (y := 1) hx hb dX6_append_39 ?_
      refine tw_put hx hb hts hown hG hP hS hM hF 9 (by decide) (hts _ q1629) (fun _ h9 => h9) rfl (ty := .int) (v := (nI (n + 1))) rfl rfl rfl rfl dX6_append_40 (fun w H locs hM hF hP hS => ?_)
      refine lv_aload_n hx hb dX6_append_43 rfl (lv_at hl 0 rfl) ?_
      refine tw_get hx hb hts hown hG hP hM 9 (by decide) (hts _ q1629) (fun _ h9 => h9) (v := .int (nI (n + 1))) rfl dX6_append_44 ?_
      exact k_iret hx hb hr hlocks hQ hP hS (by omega) (by omega) dX6_append_47 (⟨_, _, Or.inr ⟨by omega, rfl, rfl, rfl⟩, hM, hF⟩)
    · skip
      exact absurd c18 (by decide)
  · skip
    refine lv_iconst (v := 1) hx hb dX6_append_10 (by decide) ?_
    refine lv_goto (tgt := 15) hx hb dX6_append_11 (by decide) ?_
    refine tw_cW hx hb hml hown hts (CX6_fails l0 E w h ad f a 1 hM ) (cwV 1 hts (lw_V q1695 q1697 qs35 q81 q1698) rfl rfl rfl dyX6_fails ⟨Nat.le_of_ble_eq_true rfl, Nat.le_of_ble_eq_true rfl⟩) hG hP hS hM hF (As := [.int 1]) (rest := []) rfl hl.1 rfl (lv_room (Nat.le_of_ble_eq_true rfl)) dX6_append_15 ⟨by omega, by omega⟩ (fun r15 f15 a15 w H locs hp hM hF hP hS => ?_)
    obtain ⟨hp0, hp1, hp2⟩ := hp
    have hM := hM.ofF hp1 hp2
    have hM : tM E w h ad (va_up f 13 1) a := hM
    refine k_top (y := (bI (decide (0 < 1)))) hp0 ?_
    refine k_ifeqB (x := decide (0 < 1)) (tgt := 23) hx hb dX6_append_18 (by decide) (fun c18 => ?_) (fun c18 => ?_)
    · skip
      exact absurd c18 (by decide)
    · skip
      refine lv_iconst (v := 0) hx hb dX6_append_21 (by decide) ?_
      exact k_iret hx hb hr hlocks hQ hP hS (by omega) (by omega) dX6_append_22 (⟨_, _, Or.inl ⟨by omega, rfl, rfl, rfl⟩, hM, hF⟩)

abbrev rmCX6_undo : Room := { frames := 1, cells := 0, slots := 0, locals := 24 }
theorem dyX6_undo : yX6_undo.cls = RX6 ∧ yX6_undo.cls ≠ "java/lang/invoke/MethodHandle" ∧ yX6_undo.cls ≠ "java/lang/invoke/VarHandle" ∧ (parseMethodDescriptor yX6_undo.desc).map (fun d => d.parameters.length) = some 0 := by decide +kernel
set_option maxHeartbeats 4000000 in
theorem CX6_undo (l0 : Launch) (E : gE) (w : wd) (h : Nat) (ad : Nat → Nat) (f : Nat → Int32) (a : Nat → Nat → Int32) (ch : Nat) (hM : tM E w h ad f a) (hc : (f 6) = nI ch) (hc8 : ch ≤ 8) : kC l0 yX6_undo (ws_ yX6_undo cX6_undo 1 (some .int)) rmCX6_undo 0 0 mI E w [.ref h] (fun r w' => ∃ f' a', ((ch = 0 ∧ r = 0 ∧ f' = va_up f 13 1 ∧ a' = a) ∨ (0 < ch ∧ r = nI (ch - 1) ∧ f' = va_up (va_up f 13 0) 6 (nI (ch - 1)) ∧ a' = va_up a 0 (va_cpy (a 1) (a 0) (116 * (ch - 1)) 0 116))) ∧ tM E w' h ad f' a' ∧ fr tP w w') := by
  refine k_open (cc := cX6_undo) (maxL := 1) (ret := (some .int)) (by decide) rfl (Nat.le_of_ble_eq_true rfl) ?_
  intro p e s m args below meth c ls Q hx hb hr hml hown hts hlocks hname hQ hG hP hl hS
  have hl : lv_has ls 1 [(0, .ref h)] := hl
  obtain ⟨w0, hw0⟩ : ∃ z, z = w := ⟨_, rfl⟩
  have hF : fr tP w0 w := by rw [hw0]; exact fr.rf
  rw [← hw0] at hQ
  refine lv_aload_n hx hb dX6_undo_0 rfl (lv_at hl 0 rfl) ?_
  refine lv_aload_n hx hb dX6_undo_1 rfl (lv_at hl 0 rfl) ?_
  refine tw_get hx hb hts hown hG hP hM 6 (by decide) (hts _ q1626) (fun _ h9 => h9) (v := .int (f 6)) rfl dX6_undo_2 ?_
  refine k_top (y := (nI ch)) (hc) ?_
  refine lv_if_ne (tgt := 12) hx hb dX6_undo_5 (by decide) (fun c5 => ?_) (fun c5 => ?_)
  · skip
    have hch : ch ≠ 0 := fun z => c5 (by rw [z]; rfl)
    refine lv_iconst (v := 0) hx hb dX6_undo_12 (by decide) ?_
    refine tw_cW hx hb hml hown hts (CX6_fails l0 E w h ad f a 0 hM ) (cwV 1 hts (lw_V q1695 q1697 qs35 q81 q1698) rfl rfl rfl dyX6_fails ⟨Nat.le_of_ble_eq_true rfl, Nat.le_of_ble_eq_true rfl⟩) hG hP hS hM hF (As := [.int 0]) (rest := []) rfl hl.1 rfl (lv_room (Nat.le_of_ble_eq_true rfl)) dX6_undo_13 ⟨by omega, by omega⟩ (fun r13 f13 a13 w H locs hp hM hF hP hS => ?_)
    obtain ⟨hp0, hp1, hp2⟩ := hp
    have hM := hM.ofF hp1 hp2
    have hM : tM E w h ad (va_up f 13 0) a := hM
    refine k_top (y := (bI (decide (0 < 0)))) hp0 ?_
    refine k_ifeqB (x := decide (0 < 0)) (tgt := 21) hx hb dX6_undo_16 (by decide) (fun c16 => ?_) (fun c16 => ?_)
    · skip
      refine lv_aload_n hx hb dX6_undo_21 rfl (lv_at hl 0 rfl) ?_
      refine lv_dup hx hb dX6_undo_22 rfl ?_
      refine tw_get hx hb hts hown hG hP hM 6 (by decide) (hts _ q1626) (fun _ h9 => h9) (v := .int (f 6)) rfl dX6_undo_23 ?_
      refine k_top (y := (nI ch)) (hc) ?_
      refine lv_iconst (v := 1) hx hb dX6_undo_26 (by decide) ?_
      refine k_isubN (x := ch) (y := 1) hx hb (by omega) dX6_undo_27 ?_
      refine tw_put hx hb hts hown hG hP hS hM hF 6 (by decide) (hts _ q1626) (fun _ h9 => h9) rfl (ty := .int) (v := (nI (ch - 1))) rfl rfl rfl rfl dX6_undo_28 (fun w H locs hM hF hP hS => ?_)
      refine lv_aload_n hx hb dX6_undo_31 rfl (lv_at hl 0 rfl) ?_
      refine tw_get hx hb hts hown hG hP hM 1 (by decide) (hts _ q1621) (fun _ h9 => h9) (v := .ref (ad 1)) rfl dX6_undo_32 ?_
      refine lv_bipush (v := 116) hx hb dX6_undo_35 (by decide) ?_
      refine lv_aload_n hx hb dX6_undo_37 rfl (lv_at hl 0 rfl) ?_
      refine tw_get hx hb hts hown hG hP hM 6 (by decide) (hts _ q1626) (fun _ h9 => h9) (v := .int (nI (ch - 1))) rfl dX6_undo_38 ?_
      refine k_imulN (x := 116) (y := ch - 1) hx hb dX6_undo_41 ?_
      refine lv_aload_n hx hb dX6_undo_42 rfl (lv_at hl 0 rfl) ?_
      refine tw_get hx hb hts hown hG hP hM 0 (by decide) (hts _ q1620) (fun _ h9 => h9) (v := .ref (ad 0)) rfl dX6_undo_43 ?_
      refine lv_iconst (v := 0) hx hb dX6_undo_46 (by decide) ?_
      refine tw_cWS hx hb hml hown hts (CX6_copies l0 E w h ad (va_up (va_up f 13 0) 6 (nI (ch - 1))) a 1 (116 * (ch - 1)) 0 0 hM (by decide) (by decide) (by decide) (show _ ≤ 928 from by omega) (by decide)) (va_cwS 4 hts (lw_S q1703 q1704 q81 q1705) rfl rfl rfl dyX6_copies ⟨Nat.le_of_ble_eq_true rfl, Nat.le_of_ble_eq_true rfl⟩) hG hP hS hF (As := [.ref (ad 1), .int (nI (116 * (ch - 1))), .ref (ad 0), .int 0]) (rest := []) rfl hl.1 rfl (lv_room (Nat.le_of_ble_eq_true rfl)) dX6_undo_47 ⟨by omega, by omega⟩ (fun r47 f47 a47 w H locs hp hM hF hP hS => ?_)
      obtain ⟨hp1, hp2⟩ := hp
      have hM := hM.ofF hp1 hp2
      have hM : tM E w h ad (va_up (va_up f 13 0) 6 (nI (ch - 1))) (va_up a 0 (va_cpy (a 1) (a 0) (116 * (ch - 1)) 0 116)) := hM
      refine lv_aload_n hx hb dX6_undo_50 rfl (lv_at hl 0 rfl) ?_
      refine tw_get hx hb hts hown hG hP hM 6 (by decide) (hts _ q1626) (fun _ h9 => h9) (v := .int (nI (ch - 1))) rfl dX6_undo_51 ?_
      exact k_iret hx hb hr hlocks hQ hP hS (by omega) (by omega) dX6_undo_54 (⟨_, _, Or.inr ⟨by omega, rfl, rfl, rfl⟩, hM, hF⟩)
    · skip
      exact absurd c16 (by decide)
  · skip
    have hch : ch = 0 := (nI_eq (a := ch) (b := 0) (by omega) (by omega)).mp c5
    refine lv_iconst (v := 1) hx hb dX6_undo_8 (by decide) ?_
    refine lv_goto (tgt := 13) hx hb dX6_undo_9 (by decide) ?_
    refine tw_cW hx hb hml hown hts (CX6_fails l0 E w h ad f a 1 hM ) (cwV 1 hts (lw_V q1695 q1697 qs35 q81 q1698) rfl rfl rfl dyX6_fails ⟨Nat.le_of_ble_eq_true rfl, Nat.le_of_ble_eq_true rfl⟩) hG hP hS hM hF (As := [.int 1]) (rest := []) rfl hl.1 rfl (lv_room (Nat.le_of_ble_eq_true rfl)) dX6_undo_13 ⟨by omega, by omega⟩ (fun r13 f13 a13 w H locs hp hM hF hP hS => ?_)
    obtain ⟨hp0, hp1, hp2⟩ := hp
    have hM := hM.ofF hp1 hp2
    have hM : tM E w h ad (va_up f 13 1) a := hM
    refine k_top (y := (bI (decide (0 < 1)))) hp0 ?_
    refine k_ifeqB (x := decide (0 < 1)) (tgt := 21) hx hb dX6_undo_16 (by decide) (fun c16 => ?_) (fun c16 => ?_)
    · skip
      exact absurd c16 (by decide)
    · skip
      refine lv_iconst (v := 0) hx hb dX6_undo_19 (by decide) ?_
      exact k_iret hx hb hr hlocks hQ hP hS (by omega) (by omega) dX6_undo_20 (⟨_, _, Or.inl ⟨by omega, rfl, rfl, rfl⟩, hM, hF⟩)

abbrev rmCX6_save : Room := { frames := 1, cells := 0, slots := 0, locals := 24 }
theorem dyX6_save : yX6_save.cls = RX6 ∧ yX6_save.cls ≠ "java/lang/invoke/MethodHandle" ∧ yX6_save.cls ≠ "java/lang/invoke/VarHandle" ∧ (parseMethodDescriptor yX6_save.desc).map (fun d => d.parameters.length) = some 0 := by decide +kernel
set_option maxHeartbeats 4000000 in
theorem CX6_save (l0 : Launch) (E : gE) (w : wd) (h : Nat) (ad : Nat → Nat) (f : Nat → Int32) (a : Nat → Nat → Int32) (hM : tM E w h ad f a) : kC l0 yX6_save (ws_ yX6_save cX6_save 1 (some .int)) rmCX6_save 0 0 mI E w [.ref h] (fun r w' => ∃ f' a', (r = ((a 0) 20) ∧ f' = (va_up (va_up f 13 0) 5 1) ∧ a' = (va_up a 2 (va_cpy (a 0) (a 2) 0 0 116))) ∧ tM E w' h ad f' a' ∧ fr tP w w') := by
  refine k_open (cc := cX6_save) (maxL := 1) (ret := (some .int)) (by decide) rfl (Nat.le_of_ble_eq_true rfl) ?_
  intro p e s m args below meth c ls Q hx hb hr hml hown hts hlocks hname hQ hG hP hl hS
  have hl : lv_has ls 1 [(0, .ref h)] := hl
  obtain ⟨w0, hw0⟩ : ∃ z, z = w := ⟨_, rfl⟩
  have hF : fr tP w0 w := by rw [hw0]; exact fr.rf
  rw [← hw0] at hQ
  refine lv_aload_n hx hb dX6_save_0 rfl (lv_at hl 0 rfl) ?_
  refine lv_iconst (v := 0) hx hb dX6_save_1 (by decide) ?_
  refine tw_put hx hb hts hown hG hP hS hM hF 13 (by decide) (hts _ q1633) (fun _ h9 => h9) rfl (ty := .int) (v := 0) rfl rfl rfl rfl dX6_save_2 (fun w H locs hM hF hP hS => ?_)
  refine lv_aload_n hx hb dX6_save_5 rfl (lv_at hl 0 rfl) ?_
  refine lv_iconst (v := 1) hx hb dX6_save_6 (by decide) ?_
  refine tw_put hx hb hts hown hG hP hS hM hF 5 (by decide) (hts _ q1625) (fun _ h9 => h9) rfl (ty := .boolean) (v := 1) rfl rfl rfl rfl dX6_save_7 (fun w H locs hM hF hP hS => ?_)
  refine lv_aload_n hx hb dX6_save_10 rfl (lv_at hl 0 rfl) ?_
  refine tw_get hx hb hts hown hG hP hM 0 (by decide) (hts _ q1620) (fun _ h9 => h9) (v := .ref (ad 0)) rfl dX6_save_11 ?_
  refine lv_iconst (v := 0) hx hb dX6_save_14 (by decide) ?_
  refine lv_aload_n hx hb dX6_save_15 rfl (lv_at hl 0 rfl) ?_
  refine tw_get hx hb hts hown hG hP hM 2 (by decide) (hts _ q1622) (fun _ h9 => h9) (v := .ref (ad 2)) rfl dX6_save_16 ?_
  refine lv_iconst (v := 0) hx hb dX6_save_19 (by decide) ?_
  refine tw_cWS hx hb hml hown hts (CX6_copies l0 E w h ad (va_up (va_up f 13 0) 5 1) a 0 0 2 0 hM (by decide) (by decide) (by decide) (by decide) (by decide)) (va_cwS 4 hts (lw_S q1703 q1704 q81 q1705) rfl rfl rfl dyX6_copies ⟨Nat.le_of_ble_eq_true rfl, Nat.le_of_ble_eq_true rfl⟩) hG hP hS hF (As := [.ref (ad 0), .int 0, .ref (ad 2), .int 0]) (rest := []) rfl hl.1 rfl (lv_room (Nat.le_of_ble_eq_true rfl)) dX6_save_20 ⟨by omega, by omega⟩ (fun r20 f20 a20 w H locs hp hM hF hP hS => ?_)
  obtain ⟨hp1, hp2⟩ := hp
  have hM := hM.ofF hp1 hp2
  have hM : tM E w h ad (va_up (va_up f 13 0) 5 1) (va_up a 2 (va_cpy (a 0) (a 2) 0 0 116)) := hM
  refine lv_aload_n hx hb dX6_save_23 rfl (lv_at hl 0 rfl) ?_
  refine tw_get hx hb hts hown hG hP hM 0 (by decide) (hts _ q1620) (fun _ h9 => h9) (v := .ref (ad 0)) rfl dX6_save_24 ?_
  refine lv_bipush (v := 20) hx hb dX6_save_27 (by decide) ?_
  refine tw_ald hx hb hG hP hM 0 (by decide) (j := 20) (show 20 < 116 from by omega) dX6_save_29 ?_
  refine k_top (y := ((a 0) 20)) rfl ?_
  exact k_iret hx hb hr hlocks hQ hP hS (by omega) (by omega) dX6_save_30 (⟨_, _, ⟨rfl, rfl, rfl⟩, hM, hF⟩)

abbrev rmCX6_restore : Room := { frames := 1, cells := 0, slots := 0, locals := 24 }
theorem dyX6_restore : yX6_restore.cls = RX6 ∧ yX6_restore.cls ≠ "java/lang/invoke/MethodHandle" ∧ yX6_restore.cls ≠ "java/lang/invoke/VarHandle" ∧ (parseMethodDescriptor yX6_restore.desc).map (fun d => d.parameters.length) = some 0 := by decide +kernel
set_option maxHeartbeats 4000000 in
theorem CX6_restore (l0 : Launch) (E : gE) (w : wd) (h : Nat) (ad : Nat → Nat) (f : Nat → Int32) (a : Nat → Nat → Int32) (hM : tM E w h ad f a) : kC l0 yX6_restore (ws_ yX6_restore cX6_restore 1 (some .int)) rmCX6_restore 0 0 mI E w [.ref h] (fun r w' => ∃ f' a', ((f 5 = 0 ∧ r = 0 ∧ f' = va_up f 13 1 ∧ a' = a) ∨ (¬ f 5 = 0 ∧ r = a 2 20 ∧ f' = va_up (va_up f 13 0) 6 0 ∧ a' = va_up a 0 (va_cpy (a 2) (a 0) 0 0 116))) ∧ tM E w' h ad f' a' ∧ fr tP w w') := by
  refine k_open (cc := cX6_restore) (maxL := 1) (ret := (some .int)) (by decide) rfl (Nat.le_of_ble_eq_true rfl) ?_
  intro p e s m args below meth c ls Q hx hb hr hml hown hts hlocks hname hQ hG hP hl hS
  have hl : lv_has ls 1 [(0, .ref h)] := hl
  obtain ⟨w0, hw0⟩ : ∃ z, z = w := ⟨_, rfl⟩
  have hF : fr tP w0 w := by rw [hw0]; exact fr.rf
  rw [← hw0] at hQ
  refine lv_aload_n hx hb dX6_restore_0 rfl (lv_at hl 0 rfl) ?_
  refine lv_aload_n hx hb dX6_restore_1 rfl (lv_at hl 0 rfl) ?_
  refine tw_get hx hb hts hown hG hP hM 5 (by decide) (hts _ q1625) (fun _ h9 => h9) (v := .int (f 5)) rfl dX6_restore_2 ?_
  refine lv_if_eq (tgt := 12) hx hb dX6_restore_5 (by decide) (fun c5 => ?_) (fun c5 => ?_)
  · skip
    refine lv_iconst (v := 1) hx hb dX6_restore_12 (by decide) ?_
    refine tw_cW hx hb hml hown hts (CX6_fails l0 E w h ad f a 1 hM ) (cwV 1 hts (lw_V q1695 q1697 qs35 q81 q1698) rfl rfl rfl dyX6_fails ⟨Nat.le_of_ble_eq_true rfl, Nat.le_of_ble_eq_true rfl⟩) hG hP hS hM hF (As := [.int 1]) (rest := []) rfl hl.1 rfl (lv_room (Nat.le_of_ble_eq_true rfl)) dX6_restore_13 ⟨by omega, by omega⟩ (fun r13 f13 a13 w H locs hp hM hF hP hS => ?_)
    obtain ⟨hp0, hp1, hp2⟩ := hp
    have hM := hM.ofF hp1 hp2
    have hM : tM E w h ad (va_up f 13 1) a := hM
    refine k_top (y := (bI (decide (0 < 1)))) hp0 ?_
    refine k_ifeqB (x := decide (0 < 1)) (tgt := 21) hx hb dX6_restore_16 (by decide) (fun c16 => ?_) (fun c16 => ?_)
    · skip
      exact absurd c16 (by decide)
    · skip
      refine lv_iconst (v := 0) hx hb dX6_restore_19 (by decide) ?_
      exact k_iret hx hb hr hlocks hQ hP hS (by omega) (by omega) dX6_restore_20 (⟨_, _, Or.inl ⟨c5, rfl, rfl, rfl⟩, hM, hF⟩)
  · skip
    refine lv_iconst (v := 0) hx hb dX6_restore_8 (by decide) ?_
    refine lv_goto (tgt := 13) hx hb dX6_restore_9 (by decide) ?_
    refine tw_cW hx hb hml hown hts (CX6_fails l0 E w h ad f a 0 hM ) (cwV 1 hts (lw_V q1695 q1697 qs35 q81 q1698) rfl rfl rfl dyX6_fails ⟨Nat.le_of_ble_eq_true rfl, Nat.le_of_ble_eq_true rfl⟩) hG hP hS hM hF (As := [.int 0]) (rest := []) rfl hl.1 rfl (lv_room (Nat.le_of_ble_eq_true rfl)) dX6_restore_13 ⟨by omega, by omega⟩ (fun r13 f13 a13 w H locs hp hM hF hP hS => ?_)
    obtain ⟨hp0, hp1, hp2⟩ := hp
    have hM := hM.ofF hp1 hp2
    have hM : tM E w h ad (va_up f 13 0) a := hM
    refine k_top (y := (bI (decide (0 < 0)))) hp0 ?_
    refine k_ifeqB (x := decide (0 < 0)) (tgt := 21) hx hb dX6_restore_16 (by decide) (fun c16 => ?_) (fun c16 => ?_)
    · skip
      refine lv_aload_n hx hb dX6_restore_21 rfl (lv_at hl 0 rfl) ?_
      refine tw_get hx hb hts hown hG hP hM 2 (by decide) (hts _ q1622) (fun _ h9 => h9) (v := .ref (ad 2)) rfl dX6_restore_22 ?_
      refine lv_iconst (v := 0) hx hb dX6_restore_25 (by decide) ?_
      refine lv_aload_n hx hb dX6_restore_26 rfl (lv_at hl 0 rfl) ?_
      refine tw_get hx hb hts hown hG hP hM 0 (by decide) (hts _ q1620) (fun _ h9 => h9) (v := .ref (ad 0)) rfl dX6_restore_27 ?_
      refine lv_iconst (v := 0) hx hb dX6_restore_30 (by decide) ?_
      refine tw_cWS hx hb hml hown hts (CX6_copies l0 E w h ad (va_up f 13 0) a 2 0 0 0 hM (by decide) (by decide) (by decide) (by decide) (by decide)) (va_cwS 4 hts (lw_S q1703 q1704 q81 q1705) rfl rfl rfl dyX6_copies ⟨Nat.le_of_ble_eq_true rfl, Nat.le_of_ble_eq_true rfl⟩) hG hP hS hF (As := [.ref (ad 2), .int 0, .ref (ad 0), .int 0]) (rest := []) rfl hl.1 rfl (lv_room (Nat.le_of_ble_eq_true rfl)) dX6_restore_31 ⟨by omega, by omega⟩ (fun r31 f31 a31 w H locs hp hM hF hP hS => ?_)
      obtain ⟨hp1, hp2⟩ := hp
      have hM := hM.ofF hp1 hp2
      have hM : tM E w h ad (va_up f 13 0) (va_up a 0 (va_cpy (a 2) (a 0) 0 0 116)) := hM
      refine lv_aload_n hx hb dX6_restore_34 rfl (lv_at hl 0 rfl) ?_
      refine lv_iconst (v := 0) hx hb dX6_restore_35 (by decide) ?_
      refine tw_put hx hb hts hown hG hP hS hM hF 6 (by decide) (hts _ q1626) (fun _ h9 => h9) rfl (ty := .int) (v := 0) rfl rfl rfl rfl dX6_restore_36 (fun w H locs hM hF hP hS => ?_)
      refine lv_aload_n hx hb dX6_restore_39 rfl (lv_at hl 0 rfl) ?_
      refine tw_get hx hb hts hown hG hP hM 0 (by decide) (hts _ q1620) (fun _ h9 => h9) (v := .ref (ad 0)) rfl dX6_restore_40 ?_
      refine lv_bipush (v := 20) hx hb dX6_restore_43 (by decide) ?_
      refine tw_ald hx hb hG hP hM 0 (by decide) (j := 20) (show 20 < 116 from by omega) dX6_restore_45 ?_
      refine k_top (y := ((va_cpy (a 2) (a 0) 0 0 116) 20)) rfl ?_
      exact k_iret hx hb hr hlocks hQ hP hS (by omega) (by omega) dX6_restore_46 (⟨_, _, Or.inr ⟨c5, rfl, rfl, rfl⟩, hM, hF⟩)
    · skip
      exact absurd c16 (by decide)

abbrev rmCX6_here : Room := { frames := 0, cells := 0, slots := 0, locals := 0 }
theorem dyX6_here : yX6_here.cls = RX6 ∧ yX6_here.cls ≠ "java/lang/invoke/MethodHandle" ∧ yX6_here.cls ≠ "java/lang/invoke/VarHandle" ∧ (parseMethodDescriptor yX6_here.desc).map (fun d => d.parameters.length) = some 0 := by decide +kernel
set_option maxHeartbeats 4000000 in
theorem CX6_here (l0 : Launch) (E : gE) (w : wd) (h : Nat) (ad : Nat → Nat) (f : Nat → Int32) (a : Nat → Nat → Int32) (n : Nat) (pp : Nat) (hM : tM E w h ad f a) (hn9 : (f 9) = nI n) (hp9 : (f 17) = nI pp) (hn60 : n ≤ 60) (hpn : pp ≤ n) : kC l0 yX6_here (ws_ yX6_here cX6_here 1 (some .int)) rmCX6_here 0 0 mI E w [.ref h] (fun r w' => w' = w ∧ r = (pHe (a 8) n pp)) := by
  refine k_open (cc := cX6_here) (maxL := 1) (ret := (some .int)) (by decide) rfl (Nat.le_of_ble_eq_true rfl) ?_
  intro p e s m args below meth c ls Q hx hb hr hml hown hts hlocks hname hQ hG hP hl hS
  have hl : lv_has ls 1 [(0, .ref h)] := hl
  refine lv_aload_n hx hb dX6_here_0 rfl (lv_at hl 0 rfl) ?_
  refine tw_get hx hb hts hown hG hP hM 17 (by decide) (hts _ q1637) (fun _ h9 => h9) (v := .int (f 17)) rfl dX6_here_1 ?_
  refine k_top (y := (nI pp)) (hp9) ?_
  refine lv_aload_n hx hb dX6_here_4 rfl (lv_at hl 0 rfl) ?_
  refine tw_get hx hb hts hown hG hP hM 9 (by decide) (hts _ q1629) (fun _ h9 => h9) (v := .int (f 9)) rfl dX6_here_5 ?_
  refine k_top (y := (nI n)) (hn9) ?_
  refine k_icmp_geN (x := pp) (y := n) (tgt := 23) hx hb (by omega) (by omega) dX6_here_8 (by decide) (fun c8 => ?_) (fun c8 => ?_)
  · skip
    refine lv_iconst (v := (-1)) hx hb dX6_here_23 (by decide) ?_
    exact k_iret hx hb hr hlocks hQ hP hS (by omega) (by omega) dX6_here_24 (⟨rfl, by first | rw [pHe, if_pos c8] | rw [pHe, if_neg (by omega)]⟩)
  · skip
    refine lv_aload_n hx hb dX6_here_11 rfl (lv_at hl 0 rfl) ?_
    refine tw_get hx hb hts hown hG hP hM 8 (by decide) (hts _ q1628) (fun _ h9 => h9) (v := .ref (ad 8)) rfl dX6_here_12 ?_
    refine lv_aload_n hx hb dX6_here_15 rfl (lv_at hl 0 rfl) ?_
    refine tw_get hx hb hts hown hG hP hM 17 (by decide) (hts _ q1637) (fun _ h9 => h9) (v := .int (f 17)) rfl dX6_here_16 ?_
    refine k_top (y := (nI pp)) (hp9) ?_
    refine tw_ald hx hb hG hP hM 8 (by decide) (j := pp) (show pp < 60 from by omega) dX6_here_19 ?_
    refine lv_goto (tgt := 24) hx hb dX6_here_20 (by decide) ?_
    exact k_iret hx hb hr hlocks hQ hP hS (by omega) (by omega) dX6_here_24 (⟨rfl, by first | rw [pHe, if_pos c8] | rw [pHe, if_neg (by omega)]⟩)

abbrev rmCX6_skips : Room := { frames := 1, cells := 0, slots := 0, locals := 20 }
theorem dyX6_skips : yX6_skips.cls = RX6 ∧ yX6_skips.cls ≠ "java/lang/invoke/MethodHandle" ∧ yX6_skips.cls ≠ "java/lang/invoke/VarHandle" ∧ (parseMethodDescriptor yX6_skips.desc).map (fun d => d.parameters.length) = some 1 := by decide +kernel
set_option maxHeartbeats 4000000 in
theorem CX6_skips (l0 : Launch) (E : gE) (w : wd) (h : Nat) (ad : Nat → Nat) (f : Nat → Int32) (a : Nat → Nat → Int32) (n : Nat) (pp : Nat) (x : Int32) (hM : tM E w h ad f a) (hn9 : (f 9) = nI n) (hp9 : (f 17) = nI pp) (hn60 : n ≤ 60) (hpn : pp ≤ n) (hx9 : x ≠ -1) : kC l0 yX6_skips (ws_ yX6_skips cX6_skips 2 (some .boolean)) rmCX6_skips 0 0 mI E w [.ref h, .int x] (fun r w' => ∃ f' a', (r = bI (pSk (a 8) n pp (a 18) x).1 ∧ f' = va_up f 17 (nI (pSk (a 8) n pp (a 18) x).2.1) ∧ a' = va_up a 18 (pSk (a 8) n pp (a 18) x).2.2) ∧ tM E w' h ad f' a' ∧ fr tP w w') := by
  refine k_open (cc := cX6_skips) (maxL := 2) (ret := (some .boolean)) (by decide) rfl (Nat.le_of_ble_eq_true rfl) ?_
  intro p e s m args below meth c ls Q hx hb hr hml hown hts hlocks hname hQ hG hP hl hS
  have hl : lv_has ls 2 [(0, .ref h), (1, .int x)] := hl
  obtain ⟨w0, hw0⟩ : ∃ z, z = w := ⟨_, rfl⟩
  have hF : fr tP w0 w := by rw [hw0]; exact fr.rf
  rw [← hw0] at hQ
  have hM : tM E w h ad (va_up f 17 (nI pp)) (va_up a 18 (a 18)) := hM.ofF (by rw [← hp9, up_same]) (up_same a 18).symm
  refine lv_aload_n hx hb dX6_skips_0 rfl (lv_at hl 0 rfl) ?_
  refine tw_cR hx hb hml hown hts (val := (pHe (a 8) n pp)) (CX6_here l0 E w h ad (va_up f 17 (nI pp)) (va_up a 18 (a 18)) n pp hM hn9 rfl hn60 (by omega)) (cwV 0 hts (lw_V q1884 q1886 qs60 q81 q1887) rfl rfl rfl dyX6_here ⟨Nat.le_of_ble_eq_true rfl, Nat.le_of_ble_eq_true rfl⟩) hG hP hS hM (As := []) (rest := []) rfl hl.1 rfl (lv_room (Nat.le_of_ble_eq_true rfl)) dX6_skips_1 ⟨by omega, by omega⟩ (fun H locs hP hS => ?_)
  refine lv_iload_n hx hb dX6_skips_4 rfl (lv_at hl 1 rfl) ?_
  refine lv_icmp_eq (tgt := 10) hx hb dX6_skips_5 (by decide) (fun c5 => ?_) (fun c5 => ?_)
  · skip
    refine lv_aload_n hx hb dX6_skips_10 rfl (lv_at hl 0 rfl) ?_
    refine lv_dup hx hb dX6_skips_11 rfl ?_
    refine tw_get hx hb hts hown hG hP hM 17 (by decide) (hts _ q1637) (fun _ h9 => h9) (v := .int (nI pp)) rfl dX6_skips_12 ?_
    refine lv_iconst (v := 1) hx hb dX6_skips_15 (by decide) ?_
    refine k_iaddN (x := pp) (y := 1) hx hb dX6_skips_16 ?_
    refine tw_put hx hb hts hown hG hP hS hM hF 17 (by decide) (hts _ q1637) (fun _ h9 => h9) rfl (ty := .int) (v := (nI (pp + 1))) rfl rfl rfl rfl dX6_skips_17 (fun w H locs hM hF hP hS => ?_)
    have hM : tM E w h ad (va_up (va_up f 17 (nI pp)) 17 (nI (pp + 1))) (va_up a 18 (a 18)) := hM
    have hM : tM E w h ad (va_up f 17 (nI (pp + 1))) (va_up a 18 (a 18)) := hM.ofF (by rw [bx_uu]) rfl
    refine lv_iconst (v := 1) hx hb dX6_skips_20 (by decide) ?_
    have hq : pSk (a 8) n pp (a 18) x = (true, pp + 1, (a 18)) := by simp only [pSk, pEl, pTh, c5, if_true, if_false, Bool.false_eq_true, reduceIte, decide_true, decide_false] <;> exact q3_e (by assumption)
    exact k_zret hx hb hr hlocks hQ hP hS (by omega) (by omega) dX6_skips_21 rfl (⟨_, _, ⟨by rw [hq] <;> rfl, by rw [hq], by rw [hq]⟩, hM, hF⟩)
  · skip
    refine lv_iconst (v := 0) hx hb dX6_skips_8 (by decide) ?_
    have hq : pSk (a 8) n pp (a 18) x = (false, pp, (a 18)) := by simp only [pSk, pEl, pTh, c5, if_true, if_false, Bool.false_eq_true, reduceIte, decide_true, decide_false] <;> exact q3_e (by assumption)
    exact k_zret hx hb hr hlocks hQ hP hS (by omega) (by omega) dX6_skips_9 rfl (⟨_, _, ⟨by rw [hq] <;> rfl, by rw [hq], by rw [hq]⟩, hM, hF⟩)

abbrev rmCX6_digit : Room := { frames := 1, cells := 0, slots := 0, locals := 22 }
theorem dyX6_digit : yX6_digit.cls = RX6 ∧ yX6_digit.cls ≠ "java/lang/invoke/MethodHandle" ∧ yX6_digit.cls ≠ "java/lang/invoke/VarHandle" ∧ (parseMethodDescriptor yX6_digit.desc).map (fun d => d.parameters.length) = some 1 := by decide +kernel
set_option maxHeartbeats 4000000 in
theorem CX6_digit (l0 : Launch) (E : gE) (w : wd) (h : Nat) (ad : Nat → Nat) (f : Nat → Int32) (a : Nat → Nat → Int32) (n : Nat) (pp : Nat) (z : Nat) (hM : tM E w h ad f a) (hn9 : (f 9) = nI n) (hp9 : (f 17) = nI pp) (hn60 : n ≤ 60) (hpn : pp ≤ n) (hz : z < 155) : kC l0 yX6_digit (ws_ yX6_digit cX6_digit 2 (some .boolean)) rmCX6_digit 0 0 mI E w [.ref h, .int (nI z)] (fun r w' => ∃ f' a', (r = bI (pDg (a 8) n pp (a 18) z).1 ∧ f' = va_up f 17 (nI (pDg (a 8) n pp (a 18) z).2.1) ∧ a' = va_up a 18 (pDg (a 8) n pp (a 18) z).2.2) ∧ tM E w' h ad f' a' ∧ fr tP w w') := by
  refine k_open (cc := cX6_digit) (maxL := 2) (ret := (some .boolean)) (by decide) rfl (Nat.le_of_ble_eq_true rfl) ?_
  intro p e s m args below meth c ls Q hx hb hr hml hown hts hlocks hname hQ hG hP hl hS
  have hl : lv_has ls 2 [(0, .ref h), (1, .int (nI z))] := hl
  obtain ⟨w0, hw0⟩ : ∃ z, z = w := ⟨_, rfl⟩
  have hF : fr tP w0 w := by rw [hw0]; exact fr.rf
  rw [← hw0] at hQ
  have hM : tM E w h ad (va_up f 17 (nI pp)) (va_up a 18 (a 18)) := hM.ofF (by rw [← hp9, up_same]) (up_same a 18).symm
  refine lv_aload_n hx hb dX6_digit_0 rfl (lv_at hl 0 rfl) ?_
  refine tw_cR hx hb hml hown hts (val := (pHe (a 8) n pp)) (CX6_here l0 E w h ad (va_up f 17 (nI pp)) (va_up a 18 (a 18)) n pp hM hn9 rfl hn60 (by omega)) (cwV 0 hts (lw_V q1884 q1886 qs60 q81 q1887) rfl rfl rfl dyX6_here ⟨Nat.le_of_ble_eq_true rfl, Nat.le_of_ble_eq_true rfl⟩) hG hP hS hM (As := []) (rest := []) rfl hl.1 rfl (lv_room (Nat.le_of_ble_eq_true rfl)) dX6_digit_1 ⟨by omega, by omega⟩ (fun H locs hP hS => ?_)
  refine lv_bipush (v := 48) hx hb dX6_digit_4 (by decide) ?_
  refine lv_bipush (v := 57) hx hb dX6_digit_6 (by decide) ?_
  refine k_cP hx hb hml hown hts (val := (bI (tin (pHe (a 8) n pp) 48 57))) (CX6_in l0 E w (pHe (a 8) n pp) 48 57 ) (va_cwS 3 hts (lw_S q1692 q1693 q81 q1694) rfl rfl rfl dyX6_in ⟨Nat.le_of_ble_eq_true rfl, Nat.le_of_ble_eq_true rfl⟩) hG hP hS (As := [.int (pHe (a 8) n pp), .int 48, .int 57]) (rest := []) rfl hl.1 rfl (lv_room (Nat.le_of_ble_eq_true rfl)) dX6_digit_8 ⟨by omega, by omega⟩ (fun H locs hP hS => ?_)
  refine k_ifneB (x := tin (pHe (a 8) n pp) 48 57) (tgt := 16) hx hb dX6_digit_11 (by decide) (fun c11 => ?_) (fun c11 => ?_)
  · skip
    have hlt := pHe_dg c11
    refine lv_aload_n hx hb dX6_digit_16 rfl (lv_at hl 0 rfl) ?_
    refine tw_get hx hb hts hown hG hP hM 18 (by decide) (hts _ q1638) (fun _ h9 => h9) (v := .ref (ad 18)) rfl dX6_digit_17 ?_
    refine lv_iload_n hx hb dX6_digit_20 rfl (lv_at hl 1 rfl) ?_
    refine lv_aload_n hx hb dX6_digit_21 rfl (lv_at hl 0 rfl) ?_
    refine tw_cR hx hb hml hown hts (val := (pHe (a 8) n pp)) (CX6_here l0 E w h ad (va_up f 17 (nI pp)) (va_up a 18 (a 18)) n pp hM hn9 rfl hn60 (by omega)) (cwV 0 hts (lw_V q1884 q1886 qs60 q81 q1887) rfl rfl rfl dyX6_here ⟨Nat.le_of_ble_eq_true rfl, Nat.le_of_ble_eq_true rfl⟩) hG hP hS hM (As := []) (rest := [.int (nI z), .ref (ad 18)]) rfl hl.1 rfl (lv_room (Nat.le_of_ble_eq_true rfl)) dX6_digit_22 ⟨by omega, by omega⟩ (fun H locs hP hS => ?_)
    refine lv_bipush (v := 48) hx hb dX6_digit_25 (by decide) ?_
    refine lv_isub hx hb dX6_digit_27 ?_
    refine tw_ast hx hb hG hP hS hM hF 18 (by decide) (j := z) (show z < 155 from by omega) (x := ((pHe (a 8) n pp) - 48)) dX6_digit_28 (fun w H locs hM hF hP hS => ?_)
    have hM : tM E w h ad (va_up f 17 (nI pp)) (va_up a 18 (va_up (a 18) z ((pHe (a 8) n pp) - 48))) := hM.uu
    refine lv_aload_n hx hb dX6_digit_29 rfl (lv_at hl 0 rfl) ?_
    refine lv_dup hx hb dX6_digit_30 rfl ?_
    refine tw_get hx hb hts hown hG hP hM 17 (by decide) (hts _ q1637) (fun _ h9 => h9) (v := .int (nI pp)) rfl dX6_digit_31 ?_
    refine lv_iconst (v := 1) hx hb dX6_digit_34 (by decide) ?_
    refine k_iaddN (x := pp) (y := 1) hx hb dX6_digit_35 ?_
    refine tw_put hx hb hts hown hG hP hS hM hF 17 (by decide) (hts _ q1637) (fun _ h9 => h9) rfl (ty := .int) (v := (nI (pp + 1))) rfl rfl rfl rfl dX6_digit_36 (fun w H locs hM hF hP hS => ?_)
    have hM : tM E w h ad (va_up (va_up f 17 (nI pp)) 17 (nI (pp + 1))) (va_up a 18 (va_up (a 18) z ((pHe (a 8) n pp) - 48))) := hM
    have hM : tM E w h ad (va_up f 17 (nI (pp + 1))) (va_up a 18 (va_up (a 18) z ((pHe (a 8) n pp) - 48))) := hM.ofF (by rw [bx_uu]) rfl
    refine lv_iconst (v := 1) hx hb dX6_digit_39 (by decide) ?_
    have hq : pDg (a 8) n pp (a 18) z = (true, pp + 1, (va_up (a 18) z ((pHe (a 8) n pp) - 48))) := by simp only [pDg, pEl, pTh, c11, if_true, if_false, Bool.false_eq_true, reduceIte, decide_true, decide_false] <;> exact q3_e (by assumption)
    exact k_zret hx hb hr hlocks hQ hP hS (by omega) (by omega) dX6_digit_40 rfl (⟨_, _, ⟨by rw [hq] <;> rfl, by rw [hq], by rw [hq]⟩, hM, hF⟩)
  · skip
    refine lv_iconst (v := 0) hx hb dX6_digit_14 (by decide) ?_
    have hq : pDg (a 8) n pp (a 18) z = (false, pp, (a 18)) := by simp only [pDg, pEl, pTh, c11, if_true, if_false, Bool.false_eq_true, reduceIte, decide_true, decide_false] <;> exact q3_e (by assumption)
    exact k_zret hx hb hr hlocks hQ hP hS (by omega) (by omega) dX6_digit_15 rfl (⟨_, _, ⟨by rw [hq] <;> rfl, by rw [hq], by rw [hq]⟩, hM, hF⟩)

abbrev rmCX6_number : Room := { frames := 2, cells := 0, slots := 0, locals := 43 }
theorem dyX6_number : yX6_number.cls = RX6 ∧ yX6_number.cls ≠ "java/lang/invoke/MethodHandle" ∧ yX6_number.cls ≠ "java/lang/invoke/VarHandle" ∧ (parseMethodDescriptor yX6_number.desc).map (fun d => d.parameters.length) = some 1 := by decide +kernel
set_option maxHeartbeats 4000000 in
theorem CX6_number (l0 : Launch) (E : gE) (w : wd) (h : Nat) (ad : Nat → Nat) (f : Nat → Int32) (a : Nat → Nat → Int32) (n : Nat) (pp : Nat) (z : Nat) (hM : tM E w h ad f a) (hn9 : (f 9) = nI n) (hp9 : (f 17) = nI pp) (hn60 : n ≤ 60) (hpn : pp ≤ n) (hz : z < 155) : kC l0 yX6_number (ws_ yX6_number cX6_number 2 (some .boolean)) rmCX6_number 0 0 mI E w [.ref h, .int (nI z)] (fun r w' => ∃ f' a', (r = bI (pNu (a 8) n pp (a 18) z).1 ∧ f' = va_up f 17 (nI (pNu (a 8) n pp (a 18) z).2.1) ∧ a' = va_up a 18 (pNu (a 8) n pp (a 18) z).2.2) ∧ tM E w' h ad f' a' ∧ fr tP w w') := by
  refine k_open (cc := cX6_number) (maxL := 2) (ret := (some .boolean)) (by decide) rfl (Nat.le_of_ble_eq_true rfl) ?_
  intro p e s m args below meth c ls Q hx hb hr hml hown hts hlocks hname hQ hG hP hl hS
  have hl : lv_has ls 2 [(0, .ref h), (1, .int (nI z))] := hl
  obtain ⟨w0, hw0⟩ : ∃ z, z = w := ⟨_, rfl⟩
  have hF : fr tP w0 w := by rw [hw0]; exact fr.rf
  rw [← hw0] at hQ
  have hM : tM E w h ad (va_up f 17 (nI pp)) (va_up a 18 (a 18)) := hM.ofF (by rw [← hp9, up_same]) (up_same a 18).symm
  refine lv_aload_n hx hb dX6_number_0 rfl (lv_at hl 0 rfl) ?_
  refine lv_iload_n hx hb dX6_number_1 rfl (lv_at hl 1 rfl) ?_
  refine tw_cW hx hb hml hown hts (CX6_digit l0 E w h ad (va_up f 17 (nI pp)) (va_up a 18 (a 18)) n pp z hM hn9 rfl hn60 (by omega) (by omega)) (cwV 1 hts (lw_V q1892 q1894 qs62 q81 q1895) rfl rfl rfl dyX6_digit ⟨Nat.le_of_ble_eq_true rfl, Nat.le_of_ble_eq_true rfl⟩) hG hP hS hM hF (As := [.int (nI z)]) (rest := []) rfl hl.1 rfl (lv_room (Nat.le_of_ble_eq_true rfl)) dX6_number_2 ⟨by omega, by omega⟩ (fun r2 f2 a2 w H locs hp hM hF hP hS => ?_)
  obtain ⟨hp0, hp1, hp2⟩ := hp
  obtain ⟨q2, hq2⟩ : ∃ z9 : q3, z9 = pDg (a 8) n pp (a 18) z := ⟨_, rfl⟩
  have hp0 : r2 = bI q2.1 := by rw [hq2]; exact hp0
  have hM : tM E w h ad (va_up (va_up f 17 (nI pp)) 17 (nI q2.2.1)) (va_up (va_up a 18 (a 18)) 18 q2.2.2) := hM.ofF (by rw [hq2]; exact hp1) (by rw [hq2]; exact hp2)
  have hM : tM E w h ad (va_up (va_up f 17 (nI pp)) 17 (nI q2.2.1)) (va_up a 18 q2.2.2) := hM.uu
  have hM : tM E w h ad (va_up (va_up f 17 (nI pp)) 17 (nI q2.2.1)) (va_up a 18 q2.2.2) := hM
  have hM : tM E w h ad (va_up f 17 (nI q2.2.1)) (va_up a 18 q2.2.2) := hM.ofF (by rw [bx_uu]) rfl
  obtain ⟨hl2, hu2⟩ : pp ≤ q2.2.1 ∧ q2.2.1 ≤ n := by rw [hq2]; exact pDg_G (by omega)
  refine k_top (y := (bI q2.1)) hp0 ?_
  refine k_ifneB (x := q2.1) (tgt := 10) hx hb dX6_number_5 (by decide) (fun c5 => ?_) (fun c5 => ?_)
  · skip
    refine lv_aload_n hx hb dX6_number_10 rfl (lv_at hl 0 rfl) ?_
    refine tw_cR hx hb hml hown hts (val := (pHe (a 8) n q2.2.1)) (CX6_here l0 E w h ad (va_up f 17 (nI q2.2.1)) (va_up a 18 q2.2.2) n q2.2.1 hM hn9 rfl hn60 (by omega)) (cwV 0 hts (lw_V q1884 q1886 qs60 q81 q1887) rfl rfl rfl dyX6_here ⟨Nat.le_of_ble_eq_true rfl, Nat.le_of_ble_eq_true rfl⟩) hG hP hS hM (As := []) (rest := []) rfl hl.1 rfl (lv_room (Nat.le_of_ble_eq_true rfl)) dX6_number_11 ⟨by omega, by omega⟩ (fun H locs hP hS => ?_)
    refine lv_bipush (v := 48) hx hb dX6_number_14 (by decide) ?_
    refine lv_bipush (v := 57) hx hb dX6_number_16 (by decide) ?_
    refine k_cP hx hb hml hown hts (val := (bI (tin (pHe (a 8) n q2.2.1) 48 57))) (CX6_in l0 E w (pHe (a 8) n q2.2.1) 48 57 ) (va_cwS 3 hts (lw_S q1692 q1693 q81 q1694) rfl rfl rfl dyX6_in ⟨Nat.le_of_ble_eq_true rfl, Nat.le_of_ble_eq_true rfl⟩) hG hP hS (As := [.int (pHe (a 8) n q2.2.1), .int 48, .int 57]) (rest := []) rfl hl.1 rfl (lv_room (Nat.le_of_ble_eq_true rfl)) dX6_number_18 ⟨by omega, by omega⟩ (fun H locs hP hS => ?_)
    refine k_ifeqB (x := tin (pHe (a 8) n q2.2.1) 48 57) (tgt := 57) hx hb dX6_number_21 (by decide) (fun c21 => ?_) (fun c21 => ?_)
    · skip
      refine lv_iconst (v := 1) hx hb dX6_number_57 (by decide) ?_
      have hq : pNu (a 8) n pp (a 18) z = (true, q2.2.1, q2.2.2) := by simp only [pNu, pEl, pTh, ← hq2, c5, c21, if_true, if_false, Bool.false_eq_true, reduceIte, decide_true, decide_false] <;> exact q3_e (by assumption)
      exact k_zret hx hb hr hlocks hQ hP hS (by omega) (by omega) dX6_number_58 rfl (⟨_, _, ⟨by rw [hq] <;> rfl, by rw [hq], by rw [hq]⟩, hM, hF⟩)
    · skip
      have hlt := pHe_dg c21
      refine lv_aload_n hx hb dX6_number_24 rfl (lv_at hl 0 rfl) ?_
      refine tw_get hx hb hts hown hG hP hM 18 (by decide) (hts _ q1638) (fun _ h9 => h9) (v := .ref (ad 18)) rfl dX6_number_25 ?_
      refine lv_iload_n hx hb dX6_number_28 rfl (lv_at hl 1 rfl) ?_
      refine lv_bipush (v := 10) hx hb dX6_number_29 (by decide) ?_
      refine lv_aload_n hx hb dX6_number_31 rfl (lv_at hl 0 rfl) ?_
      refine tw_get hx hb hts hown hG hP hM 18 (by decide) (hts _ q1638) (fun _ h9 => h9) (v := .ref (ad 18)) rfl dX6_number_32 ?_
      refine lv_iload_n hx hb dX6_number_35 rfl (lv_at hl 1 rfl) ?_
      refine tw_ald hx hb hG hP hM 18 (by decide) (j := z) (show z < 155 from by omega) dX6_number_36 ?_
      refine k_top (y := (q2.2.2 z)) rfl ?_
      refine lv_imul hx hb dX6_number_37 ?_
      refine lv_aload_n hx hb dX6_number_38 rfl (lv_at hl 0 rfl) ?_
      refine tw_cR hx hb hml hown hts (val := (pHe (a 8) n q2.2.1)) (CX6_here l0 E w h ad (va_up f 17 (nI q2.2.1)) (va_up a 18 q2.2.2) n q2.2.1 hM hn9 rfl hn60 (by omega)) (cwV 0 hts (lw_V q1884 q1886 qs60 q81 q1887) rfl rfl rfl dyX6_here ⟨Nat.le_of_ble_eq_true rfl, Nat.le_of_ble_eq_true rfl⟩) hG hP hS hM (As := []) (rest := [.int (10 * (q2.2.2 z)), .int (nI z), .ref (ad 18)]) rfl hl.1 rfl (lv_room (Nat.le_of_ble_eq_true rfl)) dX6_number_39 ⟨by omega, by omega⟩ (fun H locs hP hS => ?_)
      refine lv_iadd hx hb dX6_number_42 ?_
      refine lv_bipush (v := 48) hx hb dX6_number_43 (by decide) ?_
      refine lv_isub hx hb dX6_number_45 ?_
      refine tw_ast hx hb hG hP hS hM hF 18 (by decide) (j := z) (show z < 155 from by omega) (x := (((10 * (q2.2.2 z)) + (pHe (a 8) n q2.2.1)) - 48)) dX6_number_46 (fun w H locs hM hF hP hS => ?_)
      have hM : tM E w h ad (va_up f 17 (nI q2.2.1)) (va_up a 18 (va_up q2.2.2 z (((10 * (q2.2.2 z)) + (pHe (a 8) n q2.2.1)) - 48))) := hM.uu
      refine lv_aload_n hx hb dX6_number_47 rfl (lv_at hl 0 rfl) ?_
      refine lv_dup hx hb dX6_number_48 rfl ?_
      refine tw_get hx hb hts hown hG hP hM 17 (by decide) (hts _ q1637) (fun _ h9 => h9) (v := .int (nI q2.2.1)) rfl dX6_number_49 ?_
      refine lv_iconst (v := 1) hx hb dX6_number_52 (by decide) ?_
      refine k_iaddN (x := q2.2.1) (y := 1) hx hb dX6_number_53 ?_
      refine tw_put hx hb hts hown hG hP hS hM hF 17 (by decide) (hts _ q1637) (fun _ h9 => h9) rfl (ty := .int) (v := (nI (q2.2.1 + 1))) rfl rfl rfl rfl dX6_number_54 (fun w H locs hM hF hP hS => ?_)
      have hM : tM E w h ad (va_up (va_up f 17 (nI q2.2.1)) 17 (nI (q2.2.1 + 1))) (va_up a 18 (va_up q2.2.2 z (((10 * (q2.2.2 z)) + (pHe (a 8) n q2.2.1)) - 48))) := hM
      have hM : tM E w h ad (va_up f 17 (nI (q2.2.1 + 1))) (va_up a 18 (va_up q2.2.2 z (((10 * (q2.2.2 z)) + (pHe (a 8) n q2.2.1)) - 48))) := hM.ofF (by rw [bx_uu]) rfl
      refine lv_iconst (v := 1) hx hb dX6_number_57 (by decide) ?_
      have hq : pNu (a 8) n pp (a 18) z = (true, q2.2.1 + 1, (va_up q2.2.2 z (((10 * (q2.2.2 z)) + (pHe (a 8) n q2.2.1)) - 48))) := by simp only [pNu, pEl, pTh, ← hq2, c5, c21, if_true, if_false, Bool.false_eq_true, reduceIte, decide_true, decide_false] <;> exact q3_e (by assumption)
      exact k_zret hx hb hr hlocks hQ hP hS (by omega) (by omega) dX6_number_58 rfl (⟨_, _, ⟨by rw [hq] <;> rfl, by rw [hq], by rw [hq]⟩, hM, hF⟩)
  · skip
    refine lv_iconst (v := 0) hx hb dX6_number_8 (by decide) ?_
    have hq : pNu (a 8) n pp (a 18) z = (false, q2.2.1, q2.2.2) := by simp only [pNu, pEl, pTh, ← hq2, c5, if_true, if_false, Bool.false_eq_true, reduceIte, decide_true, decide_false] <;> exact q3_e (by assumption)
    exact k_zret hx hb hr hlocks hQ hP hS (by omega) (by omega) dX6_number_9 rfl (⟨_, _, ⟨by rw [hq] <;> rfl, by rw [hq], by rw [hq]⟩, hM, hF⟩)

abbrev rmCX6_signed : Room := { frames := 3, cells := 0, slots := 0, locals := 64 }
theorem dyX6_signed : yX6_signed.cls = RX6 ∧ yX6_signed.cls ≠ "java/lang/invoke/MethodHandle" ∧ yX6_signed.cls ≠ "java/lang/invoke/VarHandle" ∧ (parseMethodDescriptor yX6_signed.desc).map (fun d => d.parameters.length) = some 2 := by decide +kernel
set_option maxHeartbeats 4000000 in
theorem CX6_signed (l0 : Launch) (E : gE) (w : wd) (h : Nat) (ad : Nat → Nat) (f : Nat → Int32) (a : Nat → Nat → Int32) (n : Nat) (pp : Nat) (z : Nat) (b : Bool) (hM : tM E w h ad f a) (hn9 : (f 9) = nI n) (hp9 : (f 17) = nI pp) (hn60 : n ≤ 60) (hpn : pp ≤ n) (hz : z < 155) : kC l0 yX6_signed (ws_ yX6_signed cX6_signed 4 (some .boolean)) rmCX6_signed 0 0 mI E w [.ref h, .int (nI z), .int (bI b)] (fun r w' => ∃ f' a', (r = bI (pSg (a 8) n pp (a 18) z b).1 ∧ f' = va_up f 17 (nI (pSg (a 8) n pp (a 18) z b).2.1) ∧ a' = va_up a 18 (pSg (a 8) n pp (a 18) z b).2.2) ∧ tM E w' h ad f' a' ∧ fr tP w w') := by
  refine k_open (cc := cX6_signed) (maxL := 4) (ret := (some .boolean)) (by decide) rfl (Nat.le_of_ble_eq_true rfl) ?_
  intro p e s m args below meth c ls Q hx hb hr hml hown hts hlocks hname hQ hG hP hl hS
  have hl : lv_has ls 4 [(0, .ref h), (1, .int (nI z)), (2, .int (bI b))] := hl
  obtain ⟨w0, hw0⟩ : ∃ z, z = w := ⟨_, rfl⟩
  have hF : fr tP w0 w := by rw [hw0]; exact fr.rf
  rw [← hw0] at hQ
  have hM : tM E w h ad (va_up f 17 (nI pp)) (va_up a 18 (a 18)) := hM.ofF (by rw [← hp9, up_same]) (up_same a 18).symm
  refine lv_aload_n hx hb dX6_signed_0 rfl (lv_at hl 0 rfl) ?_
  refine tw_cR hx hb hml hown hts (val := (pHe (a 8) n pp)) (CX6_here l0 E w h ad (va_up f 17 (nI pp)) (va_up a 18 (a 18)) n pp hM hn9 rfl hn60 (by omega)) (cwV 0 hts (lw_V q1884 q1886 qs60 q81 q1887) rfl rfl rfl dyX6_here ⟨Nat.le_of_ble_eq_true rfl, Nat.le_of_ble_eq_true rfl⟩) hG hP hS hM (As := []) (rest := []) rfl hl.1 rfl (lv_room (Nat.le_of_ble_eq_true rfl)) dX6_signed_1 ⟨by omega, by omega⟩ (fun H locs hP hS => ?_)
  refine lv_bipush (v := 45) hx hb dX6_signed_4 (by decide) ?_
  refine lv_icmp_ne (tgt := 13) hx hb dX6_signed_6 (by decide) (fun c6 => ?_) (fun c6 => ?_)
  · skip
    refine lv_iconst (v := 0) hx hb dX6_signed_13 (by decide) ?_
    refine lv_istore_n (lv' := [(3, .int 0), (0, .ref h), (1, .int (nI z)), (2, .int (bI b))]) hx hb dX6_signed_14 rfl hl (by decide) rfl (fun ls hl => ?_)
    refine lv_aload_n hx hb dX6_signed_15 rfl (lv_at hl 1 rfl) ?_
    refine lv_bipush (v := 43) hx hb dX6_signed_16 (by decide) ?_
    refine tw_cW hx hb hml hown hts (CX6_skips l0 E w h ad (va_up f 17 (nI pp)) (va_up a 18 (a 18)) n pp 43 hM hn9 rfl hn60 (by omega) (by decide)) (cwV 1 hts (lw_V q1888 q1890 qs61 q81 q1891) rfl rfl rfl dyX6_skips ⟨Nat.le_of_ble_eq_true rfl, Nat.le_of_ble_eq_true rfl⟩) hG hP hS hM hF (As := [.int 43]) (rest := []) rfl hl.1 rfl (lv_room (Nat.le_of_ble_eq_true rfl)) dX6_signed_18 ⟨by omega, by omega⟩ (fun r18 f18 a18 w H locs hp hM hF hP hS => ?_)
    obtain ⟨hp0, hp1, hp2⟩ := hp
    obtain ⟨q18, hq18⟩ : ∃ z9 : q3, z9 = pSk (a 8) n pp (a 18) 43 := ⟨_, rfl⟩
    have hp0 : r18 = bI q18.1 := by rw [hq18]; exact hp0
    have hM : tM E w h ad (va_up (va_up f 17 (nI pp)) 17 (nI q18.2.1)) (va_up (va_up a 18 (a 18)) 18 q18.2.2) := hM.ofF (by rw [hq18]; exact hp1) (by rw [hq18]; exact hp2)
    have hM : tM E w h ad (va_up (va_up f 17 (nI pp)) 17 (nI q18.2.1)) (va_up a 18 q18.2.2) := hM.uu
    have hM : tM E w h ad (va_up (va_up f 17 (nI pp)) 17 (nI q18.2.1)) (va_up a 18 q18.2.2) := hM
    have hM : tM E w h ad (va_up f 17 (nI q18.2.1)) (va_up a 18 q18.2.2) := hM.ofF (by rw [bx_uu]) rfl
    obtain ⟨hl18, hu18⟩ : pp ≤ q18.2.1 ∧ q18.2.1 ≤ n := by rw [hq18]; exact pSk_G (by omega) (by decide)
    refine k_top (y := (bI q18.1)) hp0 ?_
    refine k_ifneB (x := q18.1) (tgt := 35) hx hb dX6_signed_21 (by decide) (fun c21 => ?_) (fun c21 => ?_)
    · skip
      refine lv_iload_n hx hb dX6_signed_35 rfl (lv_at hl 3 rfl) ?_
      refine k_ifeqB (x := b) (tgt := 50) hx hb dX6_signed_36 (by decide) (fun c36 => ?_) (fun c36 => ?_)
      · skip
        refine lv_aload_n hx hb dX6_signed_50 rfl (lv_at hl 1 rfl) ?_
        refine lv_iload_n hx hb dX6_signed_51 rfl (lv_at hl 2 rfl) ?_
        refine tw_cW hx hb hml hown hts (CX6_number l0 E w h ad (va_up f 17 (nI q18.2.1)) (va_up a 18 q18.2.2) n q18.2.1 z hM hn9 rfl hn60 (by omega) (by omega)) (cwV 1 hts (lw_V q1900 q1902 qs64 q81 q1903) rfl rfl rfl dyX6_number ⟨Nat.le_of_ble_eq_true rfl, Nat.le_of_ble_eq_true rfl⟩) hG hP hS hM hF (As := [.int (nI z)]) (rest := []) rfl hl.1 rfl (lv_room (Nat.le_of_ble_eq_true rfl)) dX6_signed_52 ⟨by omega, by omega⟩ (fun r52 f52 a52 w H locs hp hM hF hP hS => ?_)
        obtain ⟨hp0, hp1, hp2⟩ := hp
        obtain ⟨q52, hq52⟩ : ∃ z9 : q3, z9 = pNu (a 8) n q18.2.1 q18.2.2 z := ⟨_, rfl⟩
        have hp0 : r52 = bI q52.1 := by rw [hq52]; exact hp0
        have hM : tM E w h ad (va_up (va_up f 17 (nI q18.2.1)) 17 (nI q52.2.1)) (va_up (va_up a 18 q18.2.2) 18 q52.2.2) := hM.ofF (by rw [hq52]; exact hp1) (by rw [hq52]; exact hp2)
        have hM : tM E w h ad (va_up (va_up f 17 (nI q18.2.1)) 17 (nI q52.2.1)) (va_up a 18 q52.2.2) := hM.uu
        have hM : tM E w h ad (va_up (va_up f 17 (nI q18.2.1)) 17 (nI q52.2.1)) (va_up a 18 q52.2.2) := hM
        have hM : tM E w h ad (va_up f 17 (nI q52.2.1)) (va_up a 18 q52.2.2) := hM.ofF (by rw [bx_uu]) rfl
        obtain ⟨hl52, hu52⟩ : q18.2.1 ≤ q52.2.1 ∧ q52.2.1 ≤ n := by rw [hq52]; exact pNu_G (by omega)
        refine k_top (y := (bI q52.1)) hp0 ?_
        refine k_ifneB (x := q52.1) (tgt := 60) hx hb dX6_signed_55 (by decide) (fun c55 => ?_) (fun c55 => ?_)
        · skip
          refine lv_iload_n hx hb dX6_signed_60 rfl (lv_at hl 0 rfl) ?_
          refine lv_if_eq (tgt := 77) hx hb dX6_signed_61 (by decide) (fun c61 => ?_) (fun c61 => ?_)
          · skip
            refine lv_iconst (v := 1) hx hb dX6_signed_77 (by decide) ?_
            have hq : pSg (a 8) n pp (a 18) z b = (true, q52.2.1, q52.2.2) := by simp only [pSg, pEl, pTh, pSt, ← hq18, ← hq52, c6, c21, c36, c55, c61, if_true, if_false, Bool.false_eq_true, reduceIte, decide_true, decide_false] <;> exact q3_e (by assumption)
            exact k_zret hx hb hr hlocks hQ hP hS (by omega) (by omega) dX6_signed_78 rfl (⟨_, _, ⟨by rw [hq] <;> rfl, by rw [hq], by rw [hq]⟩, hM, hF⟩)
          · skip
            exact absurd c61 (by decide)
        · skip
          refine lv_iconst (v := 0) hx hb dX6_signed_58 (by decide) ?_
          have hq : pSg (a 8) n pp (a 18) z b = (false, q52.2.1, q52.2.2) := by simp only [pSg, pEl, pTh, pSt, ← hq18, ← hq52, c6, c21, c36, c55, if_true, if_false, Bool.false_eq_true, reduceIte, decide_true, decide_false] <;> exact q3_e (by assumption)
          exact k_zret hx hb hr hlocks hQ hP hS (by omega) (by omega) dX6_signed_59 rfl (⟨_, _, ⟨by rw [hq] <;> rfl, by rw [hq], by rw [hq]⟩, hM, hF⟩)
      · skip
        refine lv_aload_n hx hb dX6_signed_39 rfl (lv_at hl 1 rfl) ?_
        refine lv_iload_n hx hb dX6_signed_40 rfl (lv_at hl 2 rfl) ?_
        refine tw_cW hx hb hml hown hts (CX6_digit l0 E w h ad (va_up f 17 (nI q18.2.1)) (va_up a 18 q18.2.2) n q18.2.1 z hM hn9 rfl hn60 (by omega) (by omega)) (cwV 1 hts (lw_V q1892 q1894 qs62 q81 q1895) rfl rfl rfl dyX6_digit ⟨Nat.le_of_ble_eq_true rfl, Nat.le_of_ble_eq_true rfl⟩) hG hP hS hM hF (As := [.int (nI z)]) (rest := []) rfl hl.1 rfl (lv_room (Nat.le_of_ble_eq_true rfl)) dX6_signed_41 ⟨by omega, by omega⟩ (fun r41 f41 a41 w H locs hp hM hF hP hS => ?_)
        obtain ⟨hp0, hp1, hp2⟩ := hp
        obtain ⟨q41, hq41⟩ : ∃ z9 : q3, z9 = pDg (a 8) n q18.2.1 q18.2.2 z := ⟨_, rfl⟩
        have hp0 : r41 = bI q41.1 := by rw [hq41]; exact hp0
        have hM : tM E w h ad (va_up (va_up f 17 (nI q18.2.1)) 17 (nI q41.2.1)) (va_up (va_up a 18 q18.2.2) 18 q41.2.2) := hM.ofF (by rw [hq41]; exact hp1) (by rw [hq41]; exact hp2)
        have hM : tM E w h ad (va_up (va_up f 17 (nI q18.2.1)) 17 (nI q41.2.1)) (va_up a 18 q41.2.2) := hM.uu
        have hM : tM E w h ad (va_up (va_up f 17 (nI q18.2.1)) 17 (nI q41.2.1)) (va_up a 18 q41.2.2) := hM
        have hM : tM E w h ad (va_up f 17 (nI q41.2.1)) (va_up a 18 q41.2.2) := hM.ofF (by rw [bx_uu]) rfl
        obtain ⟨hl41, hu41⟩ : q18.2.1 ≤ q41.2.1 ∧ q41.2.1 ≤ n := by rw [hq41]; exact pDg_G (by omega)
        refine k_top (y := (bI q41.1)) hp0 ?_
        refine k_ifeqB (x := q41.1) (tgt := 58) hx hb dX6_signed_44 (by decide) (fun c44 => ?_) (fun c44 => ?_)
        · skip
          refine lv_iconst (v := 0) hx hb dX6_signed_58 (by decide) ?_
          have hq : pSg (a 8) n pp (a 18) z b = (false, q41.2.1, q41.2.2) := by simp only [pSg, pEl, pTh, pSt, ← hq18, ← hq41, c6, c21, c36, c44, if_true, if_false, Bool.false_eq_true, reduceIte, decide_true, decide_false] <;> exact q3_e (by assumption)
          exact k_zret hx hb hr hlocks hQ hP hS (by omega) (by omega) dX6_signed_59 rfl (⟨_, _, ⟨by rw [hq] <;> rfl, by rw [hq], by rw [hq]⟩, hM, hF⟩)
        · skip
          refine lv_goto (tgt := 60) hx hb dX6_signed_47 (by decide) ?_
          refine lv_iload_n hx hb dX6_signed_60 rfl (lv_at hl 0 rfl) ?_
          refine lv_if_eq (tgt := 77) hx hb dX6_signed_61 (by decide) (fun c61 => ?_) (fun c61 => ?_)
          · skip
            refine lv_iconst (v := 1) hx hb dX6_signed_77 (by decide) ?_
            have hq : pSg (a 8) n pp (a 18) z b = (true, q41.2.1, q41.2.2) := by simp only [pSg, pEl, pTh, pSt, ← hq18, ← hq41, c6, c21, c36, c44, c61, if_true, if_false, Bool.false_eq_true, reduceIte, decide_true, decide_false] <;> exact q3_e (by assumption)
            exact k_zret hx hb hr hlocks hQ hP hS (by omega) (by omega) dX6_signed_78 rfl (⟨_, _, ⟨by rw [hq] <;> rfl, by rw [hq], by rw [hq]⟩, hM, hF⟩)
          · skip
            exact absurd c61 (by decide)
    · skip
      refine lv_aload_n hx hb dX6_signed_24 rfl (lv_at hl 1 rfl) ?_
      refine lv_bipush (v := 45) hx hb dX6_signed_25 (by decide) ?_
      refine tw_cW hx hb hml hown hts (CX6_skips l0 E w h ad (va_up f 17 (nI q18.2.1)) (va_up a 18 q18.2.2) n q18.2.1 45 hM hn9 rfl hn60 (by omega) (by decide)) (cwV 1 hts (lw_V q1888 q1890 qs61 q81 q1891) rfl rfl rfl dyX6_skips ⟨Nat.le_of_ble_eq_true rfl, Nat.le_of_ble_eq_true rfl⟩) hG hP hS hM hF (As := [.int 45]) (rest := []) rfl hl.1 rfl (lv_room (Nat.le_of_ble_eq_true rfl)) dX6_signed_27 ⟨by omega, by omega⟩ (fun r27 f27 a27 w H locs hp hM hF hP hS => ?_)
      obtain ⟨hp0, hp1, hp2⟩ := hp
      obtain ⟨q27, hq27⟩ : ∃ z9 : q3, z9 = pSk (a 8) n q18.2.1 q18.2.2 45 := ⟨_, rfl⟩
      have hp0 : r27 = bI q27.1 := by rw [hq27]; exact hp0
      have hM : tM E w h ad (va_up (va_up f 17 (nI q18.2.1)) 17 (nI q27.2.1)) (va_up (va_up a 18 q18.2.2) 18 q27.2.2) := hM.ofF (by rw [hq27]; exact hp1) (by rw [hq27]; exact hp2)
      have hM : tM E w h ad (va_up (va_up f 17 (nI q18.2.1)) 17 (nI q27.2.1)) (va_up a 18 q27.2.2) := hM.uu
      have hM : tM E w h ad (va_up (va_up f 17 (nI q18.2.1)) 17 (nI q27.2.1)) (va_up a 18 q27.2.2) := hM
      have hM : tM E w h ad (va_up f 17 (nI q27.2.1)) (va_up a 18 q27.2.2) := hM.ofF (by rw [bx_uu]) rfl
      obtain ⟨hl27, hu27⟩ : q18.2.1 ≤ q27.2.1 ∧ q27.2.1 ≤ n := by rw [hq27]; exact pSk_G (by omega) (by decide)
      refine k_top (y := (bI q27.1)) hp0 ?_
      refine k_ifneB (x := q27.1) (tgt := 35) hx hb dX6_signed_30 (by decide) (fun c30 => ?_) (fun c30 => ?_)
      · skip
        refine lv_iload_n hx hb dX6_signed_35 rfl (lv_at hl 3 rfl) ?_
        refine k_ifeqB (x := b) (tgt := 50) hx hb dX6_signed_36 (by decide) (fun c36 => ?_) (fun c36 => ?_)
        · skip
          refine lv_aload_n hx hb dX6_signed_50 rfl (lv_at hl 1 rfl) ?_
          refine lv_iload_n hx hb dX6_signed_51 rfl (lv_at hl 2 rfl) ?_
          refine tw_cW hx hb hml hown hts (CX6_number l0 E w h ad (va_up f 17 (nI q27.2.1)) (va_up a 18 q27.2.2) n q27.2.1 z hM hn9 rfl hn60 (by omega) (by omega)) (cwV 1 hts (lw_V q1900 q1902 qs64 q81 q1903) rfl rfl rfl dyX6_number ⟨Nat.le_of_ble_eq_true rfl, Nat.le_of_ble_eq_true rfl⟩) hG hP hS hM hF (As := [.int (nI z)]) (rest := []) rfl hl.1 rfl (lv_room (Nat.le_of_ble_eq_true rfl)) dX6_signed_52 ⟨by omega, by omega⟩ (fun r52 f52 a52 w H locs hp hM hF hP hS => ?_)
          obtain ⟨hp0, hp1, hp2⟩ := hp
          obtain ⟨q52, hq52⟩ : ∃ z9 : q3, z9 = pNu (a 8) n q27.2.1 q27.2.2 z := ⟨_, rfl⟩
          have hp0 : r52 = bI q52.1 := by rw [hq52]; exact hp0
          have hM : tM E w h ad (va_up (va_up f 17 (nI q27.2.1)) 17 (nI q52.2.1)) (va_up (va_up a 18 q27.2.2) 18 q52.2.2) := hM.ofF (by rw [hq52]; exact hp1) (by rw [hq52]; exact hp2)
          have hM : tM E w h ad (va_up (va_up f 17 (nI q27.2.1)) 17 (nI q52.2.1)) (va_up a 18 q52.2.2) := hM.uu
          have hM : tM E w h ad (va_up (va_up f 17 (nI q27.2.1)) 17 (nI q52.2.1)) (va_up a 18 q52.2.2) := hM
          have hM : tM E w h ad (va_up f 17 (nI q52.2.1)) (va_up a 18 q52.2.2) := hM.ofF (by rw [bx_uu]) rfl
          obtain ⟨hl52, hu52⟩ : q27.2.1 ≤ q52.2.1 ∧ q52.2.1 ≤ n := by rw [hq52]; exact pNu_G (by omega)
          refine k_top (y := (bI q52.1)) hp0 ?_
          refine k_ifneB (x := q52.1) (tgt := 60) hx hb dX6_signed_55 (by decide) (fun c55 => ?_) (fun c55 => ?_)
          · skip
            refine lv_iload_n hx hb dX6_signed_60 rfl (lv_at hl 0 rfl) ?_
            refine lv_if_eq (tgt := 77) hx hb dX6_signed_61 (by decide) (fun c61 => ?_) (fun c61 => ?_)
            · skip
              refine lv_iconst (v := 1) hx hb dX6_signed_77 (by decide) ?_
              have hq : pSg (a 8) n pp (a 18) z b = (true, q52.2.1, q52.2.2) := by simp only [pSg, pEl, pTh, pSt, ← hq18, ← hq27, ← hq52, c6, c21, c30, c36, c55, c61, if_true, if_false, Bool.false_eq_true, reduceIte, decide_true, decide_false] <;> exact q3_e (by assumption)
              exact k_zret hx hb hr hlocks hQ hP hS (by omega) (by omega) dX6_signed_78 rfl (⟨_, _, ⟨by rw [hq] <;> rfl, by rw [hq], by rw [hq]⟩, hM, hF⟩)
            · skip
              exact absurd c61 (by decide)
          · skip
            refine lv_iconst (v := 0) hx hb dX6_signed_58 (by decide) ?_
            have hq : pSg (a 8) n pp (a 18) z b = (false, q52.2.1, q52.2.2) := by simp only [pSg, pEl, pTh, pSt, ← hq18, ← hq27, ← hq52, c6, c21, c30, c36, c55, if_true, if_false, Bool.false_eq_true, reduceIte, decide_true, decide_false] <;> exact q3_e (by assumption)
            exact k_zret hx hb hr hlocks hQ hP hS (by omega) (by omega) dX6_signed_59 rfl (⟨_, _, ⟨by rw [hq] <;> rfl, by rw [hq], by rw [hq]⟩, hM, hF⟩)
        · skip
          refine lv_aload_n hx hb dX6_signed_39 rfl (lv_at hl 1 rfl) ?_
          refine lv_iload_n hx hb dX6_signed_40 rfl (lv_at hl 2 rfl) ?_
          refine tw_cW hx hb hml hown hts (CX6_digit l0 E w h ad (va_up f 17 (nI q27.2.1)) (va_up a 18 q27.2.2) n q27.2.1 z hM hn9 rfl hn60 (by omega) (by omega)) (cwV 1 hts (lw_V q1892 q1894 qs62 q81 q1895) rfl rfl rfl dyX6_digit ⟨Nat.le_of_ble_eq_true rfl, Nat.le_of_ble_eq_true rfl⟩) hG hP hS hM hF (As := [.int (nI z)]) (rest := []) rfl hl.1 rfl (lv_room (Nat.le_of_ble_eq_true rfl)) dX6_signed_41 ⟨by omega, by omega⟩ (fun r41 f41 a41 w H locs hp hM hF hP hS => ?_)
          obtain ⟨hp0, hp1, hp2⟩ := hp
          obtain ⟨q41, hq41⟩ : ∃ z9 : q3, z9 = pDg (a 8) n q27.2.1 q27.2.2 z := ⟨_, rfl⟩
          have hp0 : r41 = bI q41.1 := by rw [hq41]; exact hp0
          have hM : tM E w h ad (va_up (va_up f 17 (nI q27.2.1)) 17 (nI q41.2.1)) (va_up (va_up a 18 q27.2.2) 18 q41.2.2) := hM.ofF (by rw [hq41]; exact hp1) (by rw [hq41]; exact hp2)
          have hM : tM E w h ad (va_up (va_up f 17 (nI q27.2.1)) 17 (nI q41.2.1)) (va_up a 18 q41.2.2) := hM.uu
          have hM : tM E w h ad (va_up (va_up f 17 (nI q27.2.1)) 17 (nI q41.2.1)) (va_up a 18 q41.2.2) := hM
          have hM : tM E w h ad (va_up f 17 (nI q41.2.1)) (va_up a 18 q41.2.2) := hM.ofF (by rw [bx_uu]) rfl
          obtain ⟨hl41, hu41⟩ : q27.2.1 ≤ q41.2.1 ∧ q41.2.1 ≤ n := by rw [hq41]; exact pDg_G (by omega)
          refine k_top (y := (bI q41.1)) hp0 ?_
          refine k_ifeqB (x := q41.1) (tgt := 58) hx hb dX6_signed_44 (by decide) (fun c44 => ?_) (fun c44 => ?_)
          · skip
            refine lv_iconst (v := 0) hx hb dX6_signed_58 (by decide) ?_
            have hq : pSg (a 8) n pp (a 18) z b = (false, q41.2.1, q41.2.2) := by simp only [pSg, pEl, pTh, pSt, ← hq18, ← hq27, ← hq41, c6, c21, c30, c36, c44, if_true, if_false, Bool.false_eq_true, reduceIte, decide_true, decide_false] <;> exact q3_e (by assumption)
            exact k_zret hx hb hr hlocks hQ hP hS (by omega) (by omega) dX6_signed_59 rfl (⟨_, _, ⟨by rw [hq] <;> rfl, by rw [hq], by rw [hq]⟩, hM, hF⟩)
          · skip
            refine lv_goto (tgt := 60) hx hb dX6_signed_47 (by decide) ?_
            refine lv_iload_n hx hb dX6_signed_60 rfl (lv_at hl 0 rfl) ?_
            refine lv_if_eq (tgt := 77) hx hb dX6_signed_61 (by decide) (fun c61 => ?_) (fun c61 => ?_)
            · skip
              refine lv_iconst (v := 1) hx hb dX6_signed_77 (by decide) ?_
              have hq : pSg (a 8) n pp (a 18) z b = (true, q41.2.1, q41.2.2) := by simp only [pSg, pEl, pTh, pSt, ← hq18, ← hq27, ← hq41, c6, c21, c30, c36, c44, c61, if_true, if_false, Bool.false_eq_true, reduceIte, decide_true, decide_false] <;> exact q3_e (by assumption)
              exact k_zret hx hb hr hlocks hQ hP hS (by omega) (by omega) dX6_signed_78 rfl (⟨_, _, ⟨by rw [hq] <;> rfl, by rw [hq], by rw [hq]⟩, hM, hF⟩)
            · skip
              exact absurd c61 (by decide)
      · skip
        refine lv_iconst (v := 0) hx hb dX6_signed_33 (by decide) ?_
        have hq : pSg (a 8) n pp (a 18) z b = (false, q27.2.1, q27.2.2) := by simp only [pSg, pEl, pTh, pSt, ← hq18, ← hq27, c6, c21, c30, if_true, if_false, Bool.false_eq_true, reduceIte, decide_true, decide_false] <;> exact q3_e (by assumption)
        exact k_zret hx hb hr hlocks hQ hP hS (by omega) (by omega) dX6_signed_34 rfl (⟨_, _, ⟨by rw [hq] <;> rfl, by rw [hq], by rw [hq]⟩, hM, hF⟩)
  · skip
    refine lv_iconst (v := 1) hx hb dX6_signed_9 (by decide) ?_
    refine lv_goto (tgt := 14) hx hb dX6_signed_10 (by decide) ?_
    refine lv_istore_n (lv' := [(3, .int 1), (0, .ref h), (1, .int (nI z)), (2, .int (bI b))]) hx hb dX6_signed_14 rfl hl (by decide) rfl (fun ls hl => ?_)
    refine lv_aload_n hx hb dX6_signed_15 rfl (lv_at hl 1 rfl) ?_
    refine lv_bipush (v := 43) hx hb dX6_signed_16 (by decide) ?_
    refine tw_cW hx hb hml hown hts (CX6_skips l0 E w h ad (va_up f 17 (nI pp)) (va_up a 18 (a 18)) n pp 43 hM hn9 rfl hn60 (by omega) (by decide)) (cwV 1 hts (lw_V q1888 q1890 qs61 q81 q1891) rfl rfl rfl dyX6_skips ⟨Nat.le_of_ble_eq_true rfl, Nat.le_of_ble_eq_true rfl⟩) hG hP hS hM hF (As := [.int 43]) (rest := []) rfl hl.1 rfl (lv_room (Nat.le_of_ble_eq_true rfl)) dX6_signed_18 ⟨by omega, by omega⟩ (fun r18 f18 a18 w H locs hp hM hF hP hS => ?_)
    obtain ⟨hp0, hp1, hp2⟩ := hp
    obtain ⟨q18, hq18⟩ : ∃ z9 : q3, z9 = pSk (a 8) n pp (a 18) 43 := ⟨_, rfl⟩
    have hp0 : r18 = bI q18.1 := by rw [hq18]; exact hp0
    have hM : tM E w h ad (va_up (va_up f 17 (nI pp)) 17 (nI q18.2.1)) (va_up (va_up a 18 (a 18)) 18 q18.2.2) := hM.ofF (by rw [hq18]; exact hp1) (by rw [hq18]; exact hp2)
    have hM : tM E w h ad (va_up (va_up f 17 (nI pp)) 17 (nI q18.2.1)) (va_up a 18 q18.2.2) := hM.uu
    have hM : tM E w h ad (va_up (va_up f 17 (nI pp)) 17 (nI q18.2.1)) (va_up a 18 q18.2.2) := hM
    have hM : tM E w h ad (va_up f 17 (nI q18.2.1)) (va_up a 18 q18.2.2) := hM.ofF (by rw [bx_uu]) rfl
    obtain ⟨hl18, hu18⟩ : pp ≤ q18.2.1 ∧ q18.2.1 ≤ n := by rw [hq18]; exact pSk_G (by omega) (by decide)
    refine k_top (y := (bI q18.1)) hp0 ?_
    refine k_ifneB (x := q18.1) (tgt := 35) hx hb dX6_signed_21 (by decide) (fun c21 => ?_) (fun c21 => ?_)
    · skip
      refine lv_iload_n hx hb dX6_signed_35 rfl (lv_at hl 3 rfl) ?_
      refine k_ifeqB (x := b) (tgt := 50) hx hb dX6_signed_36 (by decide) (fun c36 => ?_) (fun c36 => ?_)
      · skip
        refine lv_aload_n hx hb dX6_signed_50 rfl (lv_at hl 1 rfl) ?_
        refine lv_iload_n hx hb dX6_signed_51 rfl (lv_at hl 2 rfl) ?_
        refine tw_cW hx hb hml hown hts (CX6_number l0 E w h ad (va_up f 17 (nI q18.2.1)) (va_up a 18 q18.2.2) n q18.2.1 z hM hn9 rfl hn60 (by omega) (by omega)) (cwV 1 hts (lw_V q1900 q1902 qs64 q81 q1903) rfl rfl rfl dyX6_number ⟨Nat.le_of_ble_eq_true rfl, Nat.le_of_ble_eq_true rfl⟩) hG hP hS hM hF (As := [.int (nI z)]) (rest := []) rfl hl.1 rfl (lv_room (Nat.le_of_ble_eq_true rfl)) dX6_signed_52 ⟨by omega, by omega⟩ (fun r52 f52 a52 w H locs hp hM hF hP hS => ?_)
        obtain ⟨hp0, hp1, hp2⟩ := hp
        obtain ⟨q52, hq52⟩ : ∃ z9 : q3, z9 = pNu (a 8) n q18.2.1 q18.2.2 z := ⟨_, rfl⟩
        have hp0 : r52 = bI q52.1 := by rw [hq52]; exact hp0
        have hM : tM E w h ad (va_up (va_up f 17 (nI q18.2.1)) 17 (nI q52.2.1)) (va_up (va_up a 18 q18.2.2) 18 q52.2.2) := hM.ofF (by rw [hq52]; exact hp1) (by rw [hq52]; exact hp2)
        have hM : tM E w h ad (va_up (va_up f 17 (nI q18.2.1)) 17 (nI q52.2.1)) (va_up a 18 q52.2.2) := hM.uu
        have hM : tM E w h ad (va_up (va_up f 17 (nI q18.2.1)) 17 (nI q52.2.1)) (va_up a 18 q52.2.2) := hM
        have hM : tM E w h ad (va_up f 17 (nI q52.2.1)) (va_up a 18 q52.2.2) := hM.ofF (by rw [bx_uu]) rfl
        obtain ⟨hl52, hu52⟩ : q18.2.1 ≤ q52.2.1 ∧ q52.2.1 ≤ n := by rw [hq52]; exact pNu_G (by omega)
        refine k_top (y := (bI q52.1)) hp0 ?_
        refine k_ifneB (x := q52.1) (tgt := 60) hx hb dX6_signed_55 (by decide) (fun c55 => ?_) (fun c55 => ?_)
        · skip
          refine lv_iload_n hx hb dX6_signed_60 rfl (lv_at hl 0 rfl) ?_
          refine lv_if_eq (tgt := 77) hx hb dX6_signed_61 (by decide) (fun c61 => ?_) (fun c61 => ?_)
          · skip
            exact absurd c61 (by decide)
          · skip
            refine lv_aload_n hx hb dX6_signed_64 rfl (lv_at hl 1 rfl) ?_
            refine tw_get hx hb hts hown hG hP hM 18 (by decide) (hts _ q1638) (fun _ h9 => h9) (v := .ref (ad 18)) rfl dX6_signed_65 ?_
            refine lv_iload_n hx hb dX6_signed_68 rfl (lv_at hl 2 rfl) ?_
            refine lv_aload_n hx hb dX6_signed_69 rfl (lv_at hl 1 rfl) ?_
            refine tw_get hx hb hts hown hG hP hM 18 (by decide) (hts _ q1638) (fun _ h9 => h9) (v := .ref (ad 18)) rfl dX6_signed_70 ?_
            refine lv_iload_n hx hb dX6_signed_73 rfl (lv_at hl 2 rfl) ?_
            refine tw_ald hx hb hG hP hM 18 (by decide) (j := z) (show z < 155 from by omega) dX6_signed_74 ?_
            refine k_top (y := (q52.2.2 z)) rfl ?_
            refine lv_ineg hx hb dX6_signed_75 ?_
            refine tw_ast hx hb hG hP hS hM hF 18 (by decide) (j := z) (show z < 155 from by omega) (x := (-(q52.2.2 z))) dX6_signed_76 (fun w H locs hM hF hP hS => ?_)
            have hM : tM E w h ad (va_up f 17 (nI q52.2.1)) (va_up a 18 (va_up q52.2.2 z (-(q52.2.2 z)))) := hM.uu
            refine lv_iconst (v := 1) hx hb dX6_signed_77 (by decide) ?_
            have hq : pSg (a 8) n pp (a 18) z b = (true, q52.2.1, (va_up q52.2.2 z (-(q52.2.2 z)))) := by simp only [pSg, pEl, pTh, pSt, ← hq18, ← hq52, c6, c21, c36, c55, c61, if_true, if_false, Bool.false_eq_true, reduceIte, decide_true, decide_false] <;> exact q3_e (by assumption)
            exact k_zret hx hb hr hlocks hQ hP hS (by omega) (by omega) dX6_signed_78 rfl (⟨_, _, ⟨by rw [hq] <;> rfl, by rw [hq], by rw [hq]⟩, hM, hF⟩)
        · skip
          refine lv_iconst (v := 0) hx hb dX6_signed_58 (by decide) ?_
          have hq : pSg (a 8) n pp (a 18) z b = (false, q52.2.1, q52.2.2) := by simp only [pSg, pEl, pTh, pSt, ← hq18, ← hq52, c6, c21, c36, c55, if_true, if_false, Bool.false_eq_true, reduceIte, decide_true, decide_false] <;> exact q3_e (by assumption)
          exact k_zret hx hb hr hlocks hQ hP hS (by omega) (by omega) dX6_signed_59 rfl (⟨_, _, ⟨by rw [hq] <;> rfl, by rw [hq], by rw [hq]⟩, hM, hF⟩)
      · skip
        refine lv_aload_n hx hb dX6_signed_39 rfl (lv_at hl 1 rfl) ?_
        refine lv_iload_n hx hb dX6_signed_40 rfl (lv_at hl 2 rfl) ?_
        refine tw_cW hx hb hml hown hts (CX6_digit l0 E w h ad (va_up f 17 (nI q18.2.1)) (va_up a 18 q18.2.2) n q18.2.1 z hM hn9 rfl hn60 (by omega) (by omega)) (cwV 1 hts (lw_V q1892 q1894 qs62 q81 q1895) rfl rfl rfl dyX6_digit ⟨Nat.le_of_ble_eq_true rfl, Nat.le_of_ble_eq_true rfl⟩) hG hP hS hM hF (As := [.int (nI z)]) (rest := []) rfl hl.1 rfl (lv_room (Nat.le_of_ble_eq_true rfl)) dX6_signed_41 ⟨by omega, by omega⟩ (fun r41 f41 a41 w H locs hp hM hF hP hS => ?_)
        obtain ⟨hp0, hp1, hp2⟩ := hp
        obtain ⟨q41, hq41⟩ : ∃ z9 : q3, z9 = pDg (a 8) n q18.2.1 q18.2.2 z := ⟨_, rfl⟩
        have hp0 : r41 = bI q41.1 := by rw [hq41]; exact hp0
        have hM : tM E w h ad (va_up (va_up f 17 (nI q18.2.1)) 17 (nI q41.2.1)) (va_up (va_up a 18 q18.2.2) 18 q41.2.2) := hM.ofF (by rw [hq41]; exact hp1) (by rw [hq41]; exact hp2)
        have hM : tM E w h ad (va_up (va_up f 17 (nI q18.2.1)) 17 (nI q41.2.1)) (va_up a 18 q41.2.2) := hM.uu
        have hM : tM E w h ad (va_up (va_up f 17 (nI q18.2.1)) 17 (nI q41.2.1)) (va_up a 18 q41.2.2) := hM
        have hM : tM E w h ad (va_up f 17 (nI q41.2.1)) (va_up a 18 q41.2.2) := hM.ofF (by rw [bx_uu]) rfl
        obtain ⟨hl41, hu41⟩ : q18.2.1 ≤ q41.2.1 ∧ q41.2.1 ≤ n := by rw [hq41]; exact pDg_G (by omega)
        refine k_top (y := (bI q41.1)) hp0 ?_
        refine k_ifeqB (x := q41.1) (tgt := 58) hx hb dX6_signed_44 (by decide) (fun c44 => ?_) (fun c44 => ?_)
        · skip
          refine lv_iconst (v := 0) hx hb dX6_signed_58 (by decide) ?_
          have hq : pSg (a 8) n pp (a 18) z b = (false, q41.2.1, q41.2.2) := by simp only [pSg, pEl, pTh, pSt, ← hq18, ← hq41, c6, c21, c36, c44, if_true, if_false, Bool.false_eq_true, reduceIte, decide_true, decide_false] <;> exact q3_e (by assumption)
          exact k_zret hx hb hr hlocks hQ hP hS (by omega) (by omega) dX6_signed_59 rfl (⟨_, _, ⟨by rw [hq] <;> rfl, by rw [hq], by rw [hq]⟩, hM, hF⟩)
        · skip
          refine lv_goto (tgt := 60) hx hb dX6_signed_47 (by decide) ?_
          refine lv_iload_n hx hb dX6_signed_60 rfl (lv_at hl 0 rfl) ?_
          refine lv_if_eq (tgt := 77) hx hb dX6_signed_61 (by decide) (fun c61 => ?_) (fun c61 => ?_)
          · skip
            exact absurd c61 (by decide)
          · skip
            refine lv_aload_n hx hb dX6_signed_64 rfl (lv_at hl 1 rfl) ?_
            refine tw_get hx hb hts hown hG hP hM 18 (by decide) (hts _ q1638) (fun _ h9 => h9) (v := .ref (ad 18)) rfl dX6_signed_65 ?_
            refine lv_iload_n hx hb dX6_signed_68 rfl (lv_at hl 2 rfl) ?_
            refine lv_aload_n hx hb dX6_signed_69 rfl (lv_at hl 1 rfl) ?_
            refine tw_get hx hb hts hown hG hP hM 18 (by decide) (hts _ q1638) (fun _ h9 => h9) (v := .ref (ad 18)) rfl dX6_signed_70 ?_
            refine lv_iload_n hx hb dX6_signed_73 rfl (lv_at hl 2 rfl) ?_
            refine tw_ald hx hb hG hP hM 18 (by decide) (j := z) (show z < 155 from by omega) dX6_signed_74 ?_
            refine k_top (y := (q41.2.2 z)) rfl ?_
            refine lv_ineg hx hb dX6_signed_75 ?_
            refine tw_ast hx hb hG hP hS hM hF 18 (by decide) (j := z) (show z < 155 from by omega) (x := (-(q41.2.2 z))) dX6_signed_76 (fun w H locs hM hF hP hS => ?_)
            have hM : tM E w h ad (va_up f 17 (nI q41.2.1)) (va_up a 18 (va_up q41.2.2 z (-(q41.2.2 z)))) := hM.uu
            refine lv_iconst (v := 1) hx hb dX6_signed_77 (by decide) ?_
            have hq : pSg (a 8) n pp (a 18) z b = (true, q41.2.1, (va_up q41.2.2 z (-(q41.2.2 z)))) := by simp only [pSg, pEl, pTh, pSt, ← hq18, ← hq41, c6, c21, c36, c44, c61, if_true, if_false, Bool.false_eq_true, reduceIte, decide_true, decide_false] <;> exact q3_e (by assumption)
            exact k_zret hx hb hr hlocks hQ hP hS (by omega) (by omega) dX6_signed_78 rfl (⟨_, _, ⟨by rw [hq] <;> rfl, by rw [hq], by rw [hq]⟩, hM, hF⟩)
    · skip
      refine lv_aload_n hx hb dX6_signed_24 rfl (lv_at hl 1 rfl) ?_
      refine lv_bipush (v := 45) hx hb dX6_signed_25 (by decide) ?_
      refine tw_cW hx hb hml hown hts (CX6_skips l0 E w h ad (va_up f 17 (nI q18.2.1)) (va_up a 18 q18.2.2) n q18.2.1 45 hM hn9 rfl hn60 (by omega) (by decide)) (cwV 1 hts (lw_V q1888 q1890 qs61 q81 q1891) rfl rfl rfl dyX6_skips ⟨Nat.le_of_ble_eq_true rfl, Nat.le_of_ble_eq_true rfl⟩) hG hP hS hM hF (As := [.int 45]) (rest := []) rfl hl.1 rfl (lv_room (Nat.le_of_ble_eq_true rfl)) dX6_signed_27 ⟨by omega, by omega⟩ (fun r27 f27 a27 w H locs hp hM hF hP hS => ?_)
      obtain ⟨hp0, hp1, hp2⟩ := hp
      obtain ⟨q27, hq27⟩ : ∃ z9 : q3, z9 = pSk (a 8) n q18.2.1 q18.2.2 45 := ⟨_, rfl⟩
      have hp0 : r27 = bI q27.1 := by rw [hq27]; exact hp0
      have hM : tM E w h ad (va_up (va_up f 17 (nI q18.2.1)) 17 (nI q27.2.1)) (va_up (va_up a 18 q18.2.2) 18 q27.2.2) := hM.ofF (by rw [hq27]; exact hp1) (by rw [hq27]; exact hp2)
      have hM : tM E w h ad (va_up (va_up f 17 (nI q18.2.1)) 17 (nI q27.2.1)) (va_up a 18 q27.2.2) := hM.uu
      have hM : tM E w h ad (va_up (va_up f 17 (nI q18.2.1)) 17 (nI q27.2.1)) (va_up a 18 q27.2.2) := hM
      have hM : tM E w h ad (va_up f 17 (nI q27.2.1)) (va_up a 18 q27.2.2) := hM.ofF (by rw [bx_uu]) rfl
      obtain ⟨hl27, hu27⟩ : q18.2.1 ≤ q27.2.1 ∧ q27.2.1 ≤ n := by rw [hq27]; exact pSk_G (by omega) (by decide)
      refine k_top (y := (bI q27.1)) hp0 ?_
      refine k_ifneB (x := q27.1) (tgt := 35) hx hb dX6_signed_30 (by decide) (fun c30 => ?_) (fun c30 => ?_)
      · skip
        refine lv_iload_n hx hb dX6_signed_35 rfl (lv_at hl 3 rfl) ?_
        refine k_ifeqB (x := b) (tgt := 50) hx hb dX6_signed_36 (by decide) (fun c36 => ?_) (fun c36 => ?_)
        · skip
          refine lv_aload_n hx hb dX6_signed_50 rfl (lv_at hl 1 rfl) ?_
          refine lv_iload_n hx hb dX6_signed_51 rfl (lv_at hl 2 rfl) ?_
          refine tw_cW hx hb hml hown hts (CX6_number l0 E w h ad (va_up f 17 (nI q27.2.1)) (va_up a 18 q27.2.2) n q27.2.1 z hM hn9 rfl hn60 (by omega) (by omega)) (cwV 1 hts (lw_V q1900 q1902 qs64 q81 q1903) rfl rfl rfl dyX6_number ⟨Nat.le_of_ble_eq_true rfl, Nat.le_of_ble_eq_true rfl⟩) hG hP hS hM hF (As := [.int (nI z)]) (rest := []) rfl hl.1 rfl (lv_room (Nat.le_of_ble_eq_true rfl)) dX6_signed_52 ⟨by omega, by omega⟩ (fun r52 f52 a52 w H locs hp hM hF hP hS => ?_)
          obtain ⟨hp0, hp1, hp2⟩ := hp
          obtain ⟨q52, hq52⟩ : ∃ z9 : q3, z9 = pNu (a 8) n q27.2.1 q27.2.2 z := ⟨_, rfl⟩
          have hp0 : r52 = bI q52.1 := by rw [hq52]; exact hp0
          have hM : tM E w h ad (va_up (va_up f 17 (nI q27.2.1)) 17 (nI q52.2.1)) (va_up (va_up a 18 q27.2.2) 18 q52.2.2) := hM.ofF (by rw [hq52]; exact hp1) (by rw [hq52]; exact hp2)
          have hM : tM E w h ad (va_up (va_up f 17 (nI q27.2.1)) 17 (nI q52.2.1)) (va_up a 18 q52.2.2) := hM.uu
          have hM : tM E w h ad (va_up (va_up f 17 (nI q27.2.1)) 17 (nI q52.2.1)) (va_up a 18 q52.2.2) := hM
          have hM : tM E w h ad (va_up f 17 (nI q52.2.1)) (va_up a 18 q52.2.2) := hM.ofF (by rw [bx_uu]) rfl
          obtain ⟨hl52, hu52⟩ : q27.2.1 ≤ q52.2.1 ∧ q52.2.1 ≤ n := by rw [hq52]; exact pNu_G (by omega)
          refine k_top (y := (bI q52.1)) hp0 ?_
          refine k_ifneB (x := q52.1) (tgt := 60) hx hb dX6_signed_55 (by decide) (fun c55 => ?_) (fun c55 => ?_)
          · skip
            refine lv_iload_n hx hb dX6_signed_60 rfl (lv_at hl 0 rfl) ?_
            refine lv_if_eq (tgt := 77) hx hb dX6_signed_61 (by decide) (fun c61 => ?_) (fun c61 => ?_)
            · skip
              exact absurd c61 (by decide)
            · skip
              refine lv_aload_n hx hb dX6_signed_64 rfl (lv_at hl 1 rfl) ?_
              refine tw_get hx hb hts hown hG hP hM 18 (by decide) (hts _ q1638) (fun _ h9 => h9) (v := .ref (ad 18)) rfl dX6_signed_65 ?_
              refine lv_iload_n hx hb dX6_signed_68 rfl (lv_at hl 2 rfl) ?_
              refine lv_aload_n hx hb dX6_signed_69 rfl (lv_at hl 1 rfl) ?_
              refine tw_get hx hb hts hown hG hP hM 18 (by decide) (hts _ q1638) (fun _ h9 => h9) (v := .ref (ad 18)) rfl dX6_signed_70 ?_
              refine lv_iload_n hx hb dX6_signed_73 rfl (lv_at hl 2 rfl) ?_
              refine tw_ald hx hb hG hP hM 18 (by decide) (j := z) (show z < 155 from by omega) dX6_signed_74 ?_
              refine k_top (y := (q52.2.2 z)) rfl ?_
              refine lv_ineg hx hb dX6_signed_75 ?_
              refine tw_ast hx hb hG hP hS hM hF 18 (by decide) (j := z) (show z < 155 from by omega) (x := (-(q52.2.2 z))) dX6_signed_76 (fun w H locs hM hF hP hS => ?_)
              have hM : tM E w h ad (va_up f 17 (nI q52.2.1)) (va_up a 18 (va_up q52.2.2 z (-(q52.2.2 z)))) := hM.uu
              refine lv_iconst (v := 1) hx hb dX6_signed_77 (by decide) ?_
              have hq : pSg (a 8) n pp (a 18) z b = (true, q52.2.1, (va_up q52.2.2 z (-(q52.2.2 z)))) := by simp only [pSg, pEl, pTh, pSt, ← hq18, ← hq27, ← hq52, c6, c21, c30, c36, c55, c61, if_true, if_false, Bool.false_eq_true, reduceIte, decide_true, decide_false] <;> exact q3_e (by assumption)
              exact k_zret hx hb hr hlocks hQ hP hS (by omega) (by omega) dX6_signed_78 rfl (⟨_, _, ⟨by rw [hq] <;> rfl, by rw [hq], by rw [hq]⟩, hM, hF⟩)
          · skip
            refine lv_iconst (v := 0) hx hb dX6_signed_58 (by decide) ?_
            have hq : pSg (a 8) n pp (a 18) z b = (false, q52.2.1, q52.2.2) := by simp only [pSg, pEl, pTh, pSt, ← hq18, ← hq27, ← hq52, c6, c21, c30, c36, c55, if_true, if_false, Bool.false_eq_true, reduceIte, decide_true, decide_false] <;> exact q3_e (by assumption)
            exact k_zret hx hb hr hlocks hQ hP hS (by omega) (by omega) dX6_signed_59 rfl (⟨_, _, ⟨by rw [hq] <;> rfl, by rw [hq], by rw [hq]⟩, hM, hF⟩)
        · skip
          refine lv_aload_n hx hb dX6_signed_39 rfl (lv_at hl 1 rfl) ?_
          refine lv_iload_n hx hb dX6_signed_40 rfl (lv_at hl 2 rfl) ?_
          refine tw_cW hx hb hml hown hts (CX6_digit l0 E w h ad (va_up f 17 (nI q27.2.1)) (va_up a 18 q27.2.2) n q27.2.1 z hM hn9 rfl hn60 (by omega) (by omega)) (cwV 1 hts (lw_V q1892 q1894 qs62 q81 q1895) rfl rfl rfl dyX6_digit ⟨Nat.le_of_ble_eq_true rfl, Nat.le_of_ble_eq_true rfl⟩) hG hP hS hM hF (As := [.int (nI z)]) (rest := []) rfl hl.1 rfl (lv_room (Nat.le_of_ble_eq_true rfl)) dX6_signed_41 ⟨by omega, by omega⟩ (fun r41 f41 a41 w H locs hp hM hF hP hS => ?_)
          obtain ⟨hp0, hp1, hp2⟩ := hp
          obtain ⟨q41, hq41⟩ : ∃ z9 : q3, z9 = pDg (a 8) n q27.2.1 q27.2.2 z := ⟨_, rfl⟩
          have hp0 : r41 = bI q41.1 := by rw [hq41]; exact hp0
          have hM : tM E w h ad (va_up (va_up f 17 (nI q27.2.1)) 17 (nI q41.2.1)) (va_up (va_up a 18 q27.2.2) 18 q41.2.2) := hM.ofF (by rw [hq41]; exact hp1) (by rw [hq41]; exact hp2)
          have hM : tM E w h ad (va_up (va_up f 17 (nI q27.2.1)) 17 (nI q41.2.1)) (va_up a 18 q41.2.2) := hM.uu
          have hM : tM E w h ad (va_up (va_up f 17 (nI q27.2.1)) 17 (nI q41.2.1)) (va_up a 18 q41.2.2) := hM
          have hM : tM E w h ad (va_up f 17 (nI q41.2.1)) (va_up a 18 q41.2.2) := hM.ofF (by rw [bx_uu]) rfl
          obtain ⟨hl41, hu41⟩ : q27.2.1 ≤ q41.2.1 ∧ q41.2.1 ≤ n := by rw [hq41]; exact pDg_G (by omega)
          refine k_top (y := (bI q41.1)) hp0 ?_
          refine k_ifeqB (x := q41.1) (tgt := 58) hx hb dX6_signed_44 (by decide) (fun c44 => ?_) (fun c44 => ?_)
          · skip
            refine lv_iconst (v := 0) hx hb dX6_signed_58 (by decide) ?_
            have hq : pSg (a 8) n pp (a 18) z b = (false, q41.2.1, q41.2.2) := by simp only [pSg, pEl, pTh, pSt, ← hq18, ← hq27, ← hq41, c6, c21, c30, c36, c44, if_true, if_false, Bool.false_eq_true, reduceIte, decide_true, decide_false] <;> exact q3_e (by assumption)
            exact k_zret hx hb hr hlocks hQ hP hS (by omega) (by omega) dX6_signed_59 rfl (⟨_, _, ⟨by rw [hq] <;> rfl, by rw [hq], by rw [hq]⟩, hM, hF⟩)
          · skip
            refine lv_goto (tgt := 60) hx hb dX6_signed_47 (by decide) ?_
            refine lv_iload_n hx hb dX6_signed_60 rfl (lv_at hl 0 rfl) ?_
            refine lv_if_eq (tgt := 77) hx hb dX6_signed_61 (by decide) (fun c61 => ?_) (fun c61 => ?_)
            · skip
              exact absurd c61 (by decide)
            · skip
              refine lv_aload_n hx hb dX6_signed_64 rfl (lv_at hl 1 rfl) ?_
              refine tw_get hx hb hts hown hG hP hM 18 (by decide) (hts _ q1638) (fun _ h9 => h9) (v := .ref (ad 18)) rfl dX6_signed_65 ?_
              refine lv_iload_n hx hb dX6_signed_68 rfl (lv_at hl 2 rfl) ?_
              refine lv_aload_n hx hb dX6_signed_69 rfl (lv_at hl 1 rfl) ?_
              refine tw_get hx hb hts hown hG hP hM 18 (by decide) (hts _ q1638) (fun _ h9 => h9) (v := .ref (ad 18)) rfl dX6_signed_70 ?_
              refine lv_iload_n hx hb dX6_signed_73 rfl (lv_at hl 2 rfl) ?_
              refine tw_ald hx hb hG hP hM 18 (by decide) (j := z) (show z < 155 from by omega) dX6_signed_74 ?_
              refine k_top (y := (q41.2.2 z)) rfl ?_
              refine lv_ineg hx hb dX6_signed_75 ?_
              refine tw_ast hx hb hG hP hS hM hF 18 (by decide) (j := z) (show z < 155 from by omega) (x := (-(q41.2.2 z))) dX6_signed_76 (fun w H locs hM hF hP hS => ?_)
              have hM : tM E w h ad (va_up f 17 (nI q41.2.1)) (va_up a 18 (va_up q41.2.2 z (-(q41.2.2 z)))) := hM.uu
              refine lv_iconst (v := 1) hx hb dX6_signed_77 (by decide) ?_
              have hq : pSg (a 8) n pp (a 18) z b = (true, q41.2.1, (va_up q41.2.2 z (-(q41.2.2 z)))) := by simp only [pSg, pEl, pTh, pSt, ← hq18, ← hq27, ← hq41, c6, c21, c30, c36, c44, c61, if_true, if_false, Bool.false_eq_true, reduceIte, decide_true, decide_false] <;> exact q3_e (by assumption)
              exact k_zret hx hb hr hlocks hQ hP hS (by omega) (by omega) dX6_signed_78 rfl (⟨_, _, ⟨by rw [hq] <;> rfl, by rw [hq], by rw [hq]⟩, hM, hF⟩)
      · skip
        refine lv_iconst (v := 0) hx hb dX6_signed_33 (by decide) ?_
        have hq : pSg (a 8) n pp (a 18) z b = (false, q27.2.1, q27.2.2) := by simp only [pSg, pEl, pTh, pSt, ← hq18, ← hq27, c6, c21, c30, if_true, if_false, Bool.false_eq_true, reduceIte, decide_true, decide_false] <;> exact q3_e (by assumption)
        exact k_zret hx hb hr hlocks hQ hP hS (by omega) (by omega) dX6_signed_34 rfl (⟨_, _, ⟨by rw [hq] <;> rfl, by rw [hq], by rw [hq]⟩, hM, hF⟩)

abbrev rmCX6_orderHere : Room := { frames := 4, cells := 0, slots := 0, locals := 87 }
theorem dyX6_orderHere : yX6_orderHere.cls = RX6 ∧ yX6_orderHere.cls ≠ "java/lang/invoke/MethodHandle" ∧ yX6_orderHere.cls ≠ "java/lang/invoke/VarHandle" ∧ (parseMethodDescriptor yX6_orderHere.desc).map (fun d => d.parameters.length) = some 0 := by decide +kernel
set_option maxHeartbeats 4000000 in
theorem CX6_orderHere (l0 : Launch) (E : gE) (w : wd) (h : Nat) (ad : Nat → Nat) (f : Nat → Int32) (a : Nat → Nat → Int32) (n : Nat) (pp : Nat) (z : Nat) (hM : tM E w h ad f a) (hn9 : (f 9) = nI n) (hp9 : (f 17) = nI pp) (hn60 : n ≤ 60) (hpn : pp ≤ n) (hmm : (f 19) = nI z) (hz : z ≤ 30) : kC l0 yX6_orderHere (ws_ yX6_orderHere cX6_orderHere 2 (some .boolean)) rmCX6_orderHere 0 0 mI E w [.ref h] (fun r w' => ∃ f' a', (r = bI (pOr (a 8) n pp (a 18) (5 * z)).1 ∧ f' = va_up f 17 (nI (pOr (a 8) n pp (a 18) (5 * z)).2.1) ∧ a' = va_up a 18 (pOr (a 8) n pp (a 18) (5 * z)).2.2) ∧ tM E w' h ad f' a' ∧ fr tP w w') := by
  refine k_open (cc := cX6_orderHere) (maxL := 2) (ret := (some .boolean)) (by decide) rfl (Nat.le_of_ble_eq_true rfl) ?_
  intro p e s m args below meth c ls Q hx hb hr hml hown hts hlocks hname hQ hG hP hl hS
  have hl : lv_has ls 2 [(0, .ref h)] := hl
  obtain ⟨w0, hw0⟩ : ∃ z, z = w := ⟨_, rfl⟩
  have hF : fr tP w0 w := by rw [hw0]; exact fr.rf
  rw [← hw0] at hQ
  have hM : tM E w h ad (va_up f 17 (nI pp)) (va_up a 18 (a 18)) := hM.ofF (by rw [← hp9, up_same]) (up_same a 18).symm
  refine lv_iconst (v := 5) hx hb dX6_orderHere_0 (by decide) ?_
  refine lv_aload_n hx hb dX6_orderHere_1 rfl (lv_at hl 0 rfl) ?_
  refine tw_get hx hb hts hown hG hP hM 19 (by decide) (hts _ q1639) (fun _ h9 => h9) (v := .int (f 19)) rfl dX6_orderHere_2 ?_
  refine k_top (y := (nI z)) (hmm) ?_
  refine k_imulN (x := 5) (y := z) hx hb dX6_orderHere_5 ?_
  refine lv_istore_n (lv' := [(1, .int (nI (5 * z))), (0, .ref h)]) hx hb dX6_orderHere_6 rfl hl (by decide) rfl (fun ls hl => ?_)
  refine lv_aload_n hx hb dX6_orderHere_7 rfl (lv_at hl 1 rfl) ?_
  refine tw_get hx hb hts hown hG hP hM 18 (by decide) (hts _ q1638) (fun _ h9 => h9) (v := .ref (ad 18)) rfl dX6_orderHere_8 ?_
  refine lv_iload_n hx hb dX6_orderHere_11 rfl (lv_at hl 0 rfl) ?_
  refine lv_aload_n hx hb dX6_orderHere_12 rfl (lv_at hl 1 rfl) ?_
  refine tw_cR hx hb hml hown hts (val := (pHe (a 8) n pp)) (CX6_here l0 E w h ad (va_up f 17 (nI pp)) (va_up a 18 (a 18)) n pp hM hn9 rfl hn60 (by omega)) (cwV 0 hts (lw_V q1884 q1886 qs60 q81 q1887) rfl rfl rfl dyX6_here ⟨Nat.le_of_ble_eq_true rfl, Nat.le_of_ble_eq_true rfl⟩) hG hP hS hM (As := []) (rest := [.int (nI (5 * z)), .ref (ad 18)]) rfl hl.1 rfl (lv_room (Nat.le_of_ble_eq_true rfl)) dX6_orderHere_13 ⟨by omega, by omega⟩ (fun H locs hP hS => ?_)
  refine tw_ast hx hb hG hP hS hM hF 18 (by decide) (j := 5 * z) (show 5 * z < 155 from by omega) (x := (pHe (a 8) n pp)) dX6_orderHere_16 (fun w H locs hM hF hP hS => ?_)
  have hM : tM E w h ad (va_up f 17 (nI pp)) (va_up a 18 (va_up (a 18) (5 * z) (pHe (a 8) n pp))) := hM.uu
  refine lv_aload_n hx hb dX6_orderHere_17 rfl (lv_at hl 1 rfl) ?_
  refine tw_get hx hb hts hown hG hP hM 18 (by decide) (hts _ q1638) (fun _ h9 => h9) (v := .ref (ad 18)) rfl dX6_orderHere_18 ?_
  refine lv_iload_n hx hb dX6_orderHere_21 rfl (lv_at hl 0 rfl) ?_
  refine lv_iconst (v := 3) hx hb dX6_orderHere_22 (by decide) ?_
  refine k_iaddN (x := 5 * z) (y := 3) hx hb dX6_orderHere_23 ?_
  refine lv_iconst (v := 0) hx hb dX6_orderHere_24 (by decide) ?_
  refine tw_ast hx hb hG hP hS hM hF 18 (by decide) (j := 5 * z + 3) (show 5 * z + 3 < 155 from by omega) (x := 0) dX6_orderHere_25 (fun w H locs hM hF hP hS => ?_)
  have hM : tM E w h ad (va_up f 17 (nI pp)) (va_up a 18 (va_up (va_up (a 18) (5 * z) (pHe (a 8) n pp)) (5 * z + 3) 0)) := hM.uu
  refine lv_aload_n hx hb dX6_orderHere_26 rfl (lv_at hl 1 rfl) ?_
  refine lv_bipush (v := 119) hx hb dX6_orderHere_27 (by decide) ?_
  refine tw_cW hx hb hml hown hts (CX6_skips l0 E w h ad (va_up f 17 (nI pp)) (va_up a 18 (va_up (va_up (a 18) (5 * z) (pHe (a 8) n pp)) (5 * z + 3) 0)) n pp 119 hM hn9 rfl hn60 (by omega) (by decide)) (cwV 1 hts (lw_V q1888 q1890 qs61 q81 q1891) rfl rfl rfl dyX6_skips ⟨Nat.le_of_ble_eq_true rfl, Nat.le_of_ble_eq_true rfl⟩) hG hP hS hM hF (As := [.int 119]) (rest := []) rfl hl.1 rfl (lv_room (Nat.le_of_ble_eq_true rfl)) dX6_orderHere_29 ⟨by omega, by omega⟩ (fun r29 f29 a29 w H locs hp hM hF hP hS => ?_)
  obtain ⟨hp0, hp1, hp2⟩ := hp
  obtain ⟨q29, hq29⟩ : ∃ z9 : q3, z9 = pSk (a 8) n pp (va_up (va_up (a 18) (5 * z) (pHe (a 8) n pp)) (5 * z + 3) 0) 119 := ⟨_, rfl⟩
  have hp0 : r29 = bI q29.1 := by rw [hq29]; exact hp0
  have hM : tM E w h ad (va_up (va_up f 17 (nI pp)) 17 (nI q29.2.1)) (va_up (va_up a 18 (va_up (va_up (a 18) (5 * z) (pHe (a 8) n pp)) (5 * z + 3) 0)) 18 q29.2.2) := hM.ofF (by rw [hq29]; exact hp1) (by rw [hq29]; exact hp2)
  have hM : tM E w h ad (va_up (va_up f 17 (nI pp)) 17 (nI q29.2.1)) (va_up a 18 q29.2.2) := hM.uu
  have hM : tM E w h ad (va_up (va_up f 17 (nI pp)) 17 (nI q29.2.1)) (va_up a 18 q29.2.2) := hM
  have hM : tM E w h ad (va_up f 17 (nI q29.2.1)) (va_up a 18 q29.2.2) := hM.ofF (by rw [bx_uu]) rfl
  obtain ⟨hl29, hu29⟩ : pp ≤ q29.2.1 ∧ q29.2.1 ≤ n := by rw [hq29]; exact pSk_G (by omega) (by decide)
  refine k_top (y := (bI q29.1)) hp0 ?_
  refine k_ifeqB (x := q29.1) (tgt := 99) hx hb dX6_orderHere_32 (by decide) (fun c32 => ?_) (fun c32 => ?_)
  · skip
    refine lv_aload_n hx hb dX6_orderHere_99 rfl (lv_at hl 1 rfl) ?_
    refine lv_bipush (v := 107) hx hb dX6_orderHere_100 (by decide) ?_
    refine tw_cW hx hb hml hown hts (CX6_skips l0 E w h ad (va_up f 17 (nI q29.2.1)) (va_up a 18 q29.2.2) n q29.2.1 107 hM hn9 rfl hn60 (by omega) (by decide)) (cwV 1 hts (lw_V q1888 q1890 qs61 q81 q1891) rfl rfl rfl dyX6_skips ⟨Nat.le_of_ble_eq_true rfl, Nat.le_of_ble_eq_true rfl⟩) hG hP hS hM hF (As := [.int 107]) (rest := []) rfl hl.1 rfl (lv_room (Nat.le_of_ble_eq_true rfl)) dX6_orderHere_102 ⟨by omega, by omega⟩ (fun r102 f102 a102 w H locs hp hM hF hP hS => ?_)
    obtain ⟨hp0, hp1, hp2⟩ := hp
    obtain ⟨q102, hq102⟩ : ∃ z9 : q3, z9 = pSk (a 8) n q29.2.1 q29.2.2 107 := ⟨_, rfl⟩
    have hp0 : r102 = bI q102.1 := by rw [hq102]; exact hp0
    have hM : tM E w h ad (va_up (va_up f 17 (nI q29.2.1)) 17 (nI q102.2.1)) (va_up (va_up a 18 q29.2.2) 18 q102.2.2) := hM.ofF (by rw [hq102]; exact hp1) (by rw [hq102]; exact hp2)
    have hM : tM E w h ad (va_up (va_up f 17 (nI q29.2.1)) 17 (nI q102.2.1)) (va_up a 18 q102.2.2) := hM.uu
    have hM : tM E w h ad (va_up (va_up f 17 (nI q29.2.1)) 17 (nI q102.2.1)) (va_up a 18 q102.2.2) := hM
    have hM : tM E w h ad (va_up f 17 (nI q102.2.1)) (va_up a 18 q102.2.2) := hM.ofF (by rw [bx_uu]) rfl
    obtain ⟨hl102, hu102⟩ : q29.2.1 ≤ q102.2.1 ∧ q102.2.1 ≤ n := by rw [hq102]; exact pSk_G (by omega) (by decide)
    refine k_top (y := (bI q102.1)) hp0 ?_
    refine k_ifeqB (x := q102.1) (tgt := 181) hx hb dX6_orderHere_105 (by decide) (fun c105 => ?_) (fun c105 => ?_)
    · skip
      refine lv_aload_n hx hb dX6_orderHere_181 rfl (lv_at hl 1 rfl) ?_
      refine lv_bipush (v := 117) hx hb dX6_orderHere_182 (by decide) ?_
      refine tw_cW hx hb hml hown hts (CX6_skips l0 E w h ad (va_up f 17 (nI q102.2.1)) (va_up a 18 q102.2.2) n q102.2.1 117 hM hn9 rfl hn60 (by omega) (by decide)) (cwV 1 hts (lw_V q1888 q1890 qs61 q81 q1891) rfl rfl rfl dyX6_skips ⟨Nat.le_of_ble_eq_true rfl, Nat.le_of_ble_eq_true rfl⟩) hG hP hS hM hF (As := [.int 117]) (rest := []) rfl hl.1 rfl (lv_room (Nat.le_of_ble_eq_true rfl)) dX6_orderHere_184 ⟨by omega, by omega⟩ (fun r184 f184 a184 w H locs hp hM hF hP hS => ?_)
      obtain ⟨hp0, hp1, hp2⟩ := hp
      obtain ⟨q184, hq184⟩ : ∃ z9 : q3, z9 = pSk (a 8) n q102.2.1 q102.2.2 117 := ⟨_, rfl⟩
      have hp0 : r184 = bI q184.1 := by rw [hq184]; exact hp0
      have hM : tM E w h ad (va_up (va_up f 17 (nI q102.2.1)) 17 (nI q184.2.1)) (va_up (va_up a 18 q102.2.2) 18 q184.2.2) := hM.ofF (by rw [hq184]; exact hp1) (by rw [hq184]; exact hp2)
      have hM : tM E w h ad (va_up (va_up f 17 (nI q102.2.1)) 17 (nI q184.2.1)) (va_up a 18 q184.2.2) := hM.uu
      have hM : tM E w h ad (va_up (va_up f 17 (nI q102.2.1)) 17 (nI q184.2.1)) (va_up a 18 q184.2.2) := hM
      have hM : tM E w h ad (va_up f 17 (nI q184.2.1)) (va_up a 18 q184.2.2) := hM.ofF (by rw [bx_uu]) rfl
      obtain ⟨hl184, hu184⟩ : q102.2.1 ≤ q184.2.1 ∧ q184.2.1 ≤ n := by rw [hq184]; exact pSk_G (by omega) (by decide)
      refine k_top (y := (bI q184.1)) hp0 ?_
      refine k_ifeqB (x := q184.1) (tgt := 198) hx hb dX6_orderHere_187 (by decide) (fun c187 => ?_) (fun c187 => ?_)
      · skip
        refine lv_aload_n hx hb dX6_orderHere_198 rfl (lv_at hl 1 rfl) ?_
        refine lv_bipush (v := 114) hx hb dX6_orderHere_199 (by decide) ?_
        refine tw_cW hx hb hml hown hts (CX6_skips l0 E w h ad (va_up f 17 (nI q184.2.1)) (va_up a 18 q184.2.2) n q184.2.1 114 hM hn9 rfl hn60 (by omega) (by decide)) (cwV 1 hts (lw_V q1888 q1890 qs61 q81 q1891) rfl rfl rfl dyX6_skips ⟨Nat.le_of_ble_eq_true rfl, Nat.le_of_ble_eq_true rfl⟩) hG hP hS hM hF (As := [.int 114]) (rest := []) rfl hl.1 rfl (lv_room (Nat.le_of_ble_eq_true rfl)) dX6_orderHere_201 ⟨by omega, by omega⟩ (fun r201 f201 a201 w H locs hp hM hF hP hS => ?_)
        obtain ⟨hp0, hp1, hp2⟩ := hp
        obtain ⟨q201, hq201⟩ : ∃ z9 : q3, z9 = pSk (a 8) n q184.2.1 q184.2.2 114 := ⟨_, rfl⟩
        have hp0 : r201 = bI q201.1 := by rw [hq201]; exact hp0
        have hM : tM E w h ad (va_up (va_up f 17 (nI q184.2.1)) 17 (nI q201.2.1)) (va_up (va_up a 18 q184.2.2) 18 q201.2.2) := hM.ofF (by rw [hq201]; exact hp1) (by rw [hq201]; exact hp2)
        have hM : tM E w h ad (va_up (va_up f 17 (nI q184.2.1)) 17 (nI q201.2.1)) (va_up a 18 q201.2.2) := hM.uu
        have hM : tM E w h ad (va_up (va_up f 17 (nI q184.2.1)) 17 (nI q201.2.1)) (va_up a 18 q201.2.2) := hM
        have hM : tM E w h ad (va_up f 17 (nI q201.2.1)) (va_up a 18 q201.2.2) := hM.ofF (by rw [bx_uu]) rfl
        obtain ⟨hl201, hu201⟩ : q184.2.1 ≤ q201.2.1 ∧ q201.2.1 ≤ n := by rw [hq201]; exact pSk_G (by omega) (by decide)
        refine k_top (y := (bI q201.1)) hp0 ?_
        refine k_ifeqB (x := q201.1) (tgt := 234) hx hb dX6_orderHere_204 (by decide) (fun c204 => ?_) (fun c204 => ?_)
        · skip
          refine lv_aload_n hx hb dX6_orderHere_234 rfl (lv_at hl 1 rfl) ?_
          refine lv_bipush (v := 116) hx hb dX6_orderHere_235 (by decide) ?_
          refine tw_cW hx hb hml hown hts (CX6_skips l0 E w h ad (va_up f 17 (nI q201.2.1)) (va_up a 18 q201.2.2) n q201.2.1 116 hM hn9 rfl hn60 (by omega) (by decide)) (cwV 1 hts (lw_V q1888 q1890 qs61 q81 q1891) rfl rfl rfl dyX6_skips ⟨Nat.le_of_ble_eq_true rfl, Nat.le_of_ble_eq_true rfl⟩) hG hP hS hM hF (As := [.int 116]) (rest := []) rfl hl.1 rfl (lv_room (Nat.le_of_ble_eq_true rfl)) dX6_orderHere_237 ⟨by omega, by omega⟩ (fun r237 f237 a237 w H locs hp hM hF hP hS => ?_)
          obtain ⟨hp0, hp1, hp2⟩ := hp
          obtain ⟨q237, hq237⟩ : ∃ z9 : q3, z9 = pSk (a 8) n q201.2.1 q201.2.2 116 := ⟨_, rfl⟩
          have hp0 : r237 = bI q237.1 := by rw [hq237]; exact hp0
          have hM : tM E w h ad (va_up (va_up f 17 (nI q201.2.1)) 17 (nI q237.2.1)) (va_up (va_up a 18 q201.2.2) 18 q237.2.2) := hM.ofF (by rw [hq237]; exact hp1) (by rw [hq237]; exact hp2)
          have hM : tM E w h ad (va_up (va_up f 17 (nI q201.2.1)) 17 (nI q237.2.1)) (va_up a 18 q237.2.2) := hM.uu
          have hM : tM E w h ad (va_up (va_up f 17 (nI q201.2.1)) 17 (nI q237.2.1)) (va_up a 18 q237.2.2) := hM
          have hM : tM E w h ad (va_up f 17 (nI q237.2.1)) (va_up a 18 q237.2.2) := hM.ofF (by rw [bx_uu]) rfl
          obtain ⟨hl237, hu237⟩ : q201.2.1 ≤ q237.2.1 ∧ q237.2.1 ≤ n := by rw [hq237]; exact pSk_G (by omega) (by decide)
          refine k_top (y := (bI q237.1)) hp0 ?_
          refine k_ifeqB (x := q237.1) (tgt := 257) hx hb dX6_orderHere_240 (by decide) (fun c240 => ?_) (fun c240 => ?_)
          · skip
            refine lv_iconst (v := 0) hx hb dX6_orderHere_257 (by decide) ?_
            have hq : pOr (a 8) n pp (a 18) (5 * z) = (false, q237.2.1, q237.2.2) := by simp only [pOr, pEl, pTh, pWi, pKi, pRe, ← hq29, ← hq102, ← hq184, ← hq201, ← hq237, c32, c105, c187, c204, c240, if_true, if_false, Bool.false_eq_true, reduceIte, decide_true, decide_false] <;> exact q3_e (by assumption)
            exact k_zret hx hb hr hlocks hQ hP hS (by omega) (by omega) dX6_orderHere_258 rfl (⟨_, _, ⟨by rw [hq] <;> rfl, by rw [hq], by rw [hq]⟩, hM, hF⟩)
          · skip
            refine lv_aload_n hx hb dX6_orderHere_243 rfl (lv_at hl 1 rfl) ?_
            refine lv_iload_n hx hb dX6_orderHere_244 rfl (lv_at hl 0 rfl) ?_
            refine lv_iconst (v := 1) hx hb dX6_orderHere_245 (by decide) ?_
            refine k_iaddN (x := 5 * z) (y := 1) hx hb dX6_orderHere_246 ?_
            refine tw_cW hx hb hml hown hts (CX6_number l0 E w h ad (va_up f 17 (nI q237.2.1)) (va_up a 18 q237.2.2) n q237.2.1 (5 * z + 1) hM hn9 rfl hn60 (by omega) (by omega)) (cwV 1 hts (lw_V q1900 q1902 qs64 q81 q1903) rfl rfl rfl dyX6_number ⟨Nat.le_of_ble_eq_true rfl, Nat.le_of_ble_eq_true rfl⟩) hG hP hS hM hF (As := [.int (nI (5 * z + 1))]) (rest := []) rfl hl.1 rfl (lv_room (Nat.le_of_ble_eq_true rfl)) dX6_orderHere_247 ⟨by omega, by omega⟩ (fun r247 f247 a247 w H locs hp hM hF hP hS => ?_)
            obtain ⟨hp0, hp1, hp2⟩ := hp
            obtain ⟨q247, hq247⟩ : ∃ z9 : q3, z9 = pNu (a 8) n q237.2.1 q237.2.2 (5 * z + 1) := ⟨_, rfl⟩
            have hp0 : r247 = bI q247.1 := by rw [hq247]; exact hp0
            have hM : tM E w h ad (va_up (va_up f 17 (nI q237.2.1)) 17 (nI q247.2.1)) (va_up (va_up a 18 q237.2.2) 18 q247.2.2) := hM.ofF (by rw [hq247]; exact hp1) (by rw [hq247]; exact hp2)
            have hM : tM E w h ad (va_up (va_up f 17 (nI q237.2.1)) 17 (nI q247.2.1)) (va_up a 18 q247.2.2) := hM.uu
            have hM : tM E w h ad (va_up (va_up f 17 (nI q237.2.1)) 17 (nI q247.2.1)) (va_up a 18 q247.2.2) := hM
            have hM : tM E w h ad (va_up f 17 (nI q247.2.1)) (va_up a 18 q247.2.2) := hM.ofF (by rw [bx_uu]) rfl
            obtain ⟨hl247, hu247⟩ : q237.2.1 ≤ q247.2.1 ∧ q247.2.1 ≤ n := by rw [hq247]; exact pNu_G (by omega)
            refine k_top (y := (bI q247.1)) hp0 ?_
            refine k_ifeqB (x := q247.1) (tgt := 257) hx hb dX6_orderHere_250 (by decide) (fun c250 => ?_) (fun c250 => ?_)
            · skip
              refine lv_iconst (v := 0) hx hb dX6_orderHere_257 (by decide) ?_
              have hq : pOr (a 8) n pp (a 18) (5 * z) = (false, q247.2.1, q247.2.2) := by simp only [pOr, pEl, pTh, pWi, pKi, pRe, ← hq29, ← hq102, ← hq184, ← hq201, ← hq237, ← hq247, c32, c105, c187, c204, c240, c250, if_true, if_false, Bool.false_eq_true, reduceIte, decide_true, decide_false] <;> exact q3_e (by assumption)
              exact k_zret hx hb hr hlocks hQ hP hS (by omega) (by omega) dX6_orderHere_258 rfl (⟨_, _, ⟨by rw [hq] <;> rfl, by rw [hq], by rw [hq]⟩, hM, hF⟩)
            · skip
              refine lv_iconst (v := 1) hx hb dX6_orderHere_253 (by decide) ?_
              refine lv_goto (tgt := 258) hx hb dX6_orderHere_254 (by decide) ?_
              have hq : pOr (a 8) n pp (a 18) (5 * z) = (true, q247.2.1, q247.2.2) := by simp only [pOr, pEl, pTh, pWi, pKi, pRe, ← hq29, ← hq102, ← hq184, ← hq201, ← hq237, ← hq247, c32, c105, c187, c204, c240, c250, if_true, if_false, Bool.false_eq_true, reduceIte, decide_true, decide_false] <;> exact q3_e (by assumption)
              exact k_zret hx hb hr hlocks hQ hP hS (by omega) (by omega) dX6_orderHere_258 rfl (⟨_, _, ⟨by rw [hq] <;> rfl, by rw [hq], by rw [hq]⟩, hM, hF⟩)
        · skip
          refine lv_aload_n hx hb dX6_orderHere_207 rfl (lv_at hl 1 rfl) ?_
          refine lv_iload_n hx hb dX6_orderHere_208 rfl (lv_at hl 0 rfl) ?_
          refine lv_iconst (v := 1) hx hb dX6_orderHere_209 (by decide) ?_
          refine k_iaddN (x := 5 * z) (y := 1) hx hb dX6_orderHere_210 ?_
          refine tw_cW hx hb hml hown hts (CX6_digit l0 E w h ad (va_up f 17 (nI q201.2.1)) (va_up a 18 q201.2.2) n q201.2.1 (5 * z + 1) hM hn9 rfl hn60 (by omega) (by omega)) (cwV 1 hts (lw_V q1892 q1894 qs62 q81 q1895) rfl rfl rfl dyX6_digit ⟨Nat.le_of_ble_eq_true rfl, Nat.le_of_ble_eq_true rfl⟩) hG hP hS hM hF (As := [.int (nI (5 * z + 1))]) (rest := []) rfl hl.1 rfl (lv_room (Nat.le_of_ble_eq_true rfl)) dX6_orderHere_211 ⟨by omega, by omega⟩ (fun r211 f211 a211 w H locs hp hM hF hP hS => ?_)
          obtain ⟨hp0, hp1, hp2⟩ := hp
          obtain ⟨q211, hq211⟩ : ∃ z9 : q3, z9 = pDg (a 8) n q201.2.1 q201.2.2 (5 * z + 1) := ⟨_, rfl⟩
          have hp0 : r211 = bI q211.1 := by rw [hq211]; exact hp0
          have hM : tM E w h ad (va_up (va_up f 17 (nI q201.2.1)) 17 (nI q211.2.1)) (va_up (va_up a 18 q201.2.2) 18 q211.2.2) := hM.ofF (by rw [hq211]; exact hp1) (by rw [hq211]; exact hp2)
          have hM : tM E w h ad (va_up (va_up f 17 (nI q201.2.1)) 17 (nI q211.2.1)) (va_up a 18 q211.2.2) := hM.uu
          have hM : tM E w h ad (va_up (va_up f 17 (nI q201.2.1)) 17 (nI q211.2.1)) (va_up a 18 q211.2.2) := hM
          have hM : tM E w h ad (va_up f 17 (nI q211.2.1)) (va_up a 18 q211.2.2) := hM.ofF (by rw [bx_uu]) rfl
          obtain ⟨hl211, hu211⟩ : q201.2.1 ≤ q211.2.1 ∧ q211.2.1 ≤ n := by rw [hq211]; exact pDg_G (by omega)
          refine k_top (y := (bI q211.1)) hp0 ?_
          refine k_ifeqB (x := q211.1) (tgt := 232) hx hb dX6_orderHere_214 (by decide) (fun c214 => ?_) (fun c214 => ?_)
          · skip
            refine lv_iconst (v := 0) hx hb dX6_orderHere_232 (by decide) ?_
            have hq : pOr (a 8) n pp (a 18) (5 * z) = (false, q211.2.1, q211.2.2) := by simp only [pOr, pEl, pTh, pWi, pKi, pRe, ← hq29, ← hq102, ← hq184, ← hq201, ← hq211, c32, c105, c187, c204, c214, if_true, if_false, Bool.false_eq_true, reduceIte, decide_true, decide_false] <;> exact q3_e (by assumption)
            exact k_zret hx hb hr hlocks hQ hP hS (by omega) (by omega) dX6_orderHere_233 rfl (⟨_, _, ⟨by rw [hq] <;> rfl, by rw [hq], by rw [hq]⟩, hM, hF⟩)
          · skip
            refine lv_aload_n hx hb dX6_orderHere_217 rfl (lv_at hl 1 rfl) ?_
            refine lv_iload_n hx hb dX6_orderHere_218 rfl (lv_at hl 0 rfl) ?_
            refine lv_iconst (v := 2) hx hb dX6_orderHere_219 (by decide) ?_
            refine k_iaddN (x := 5 * z) (y := 2) hx hb dX6_orderHere_220 ?_
            refine lv_iconst (v := 0) hx hb dX6_orderHere_221 (by decide) ?_
            refine tw_cW hx hb hml hown hts (CX6_signed l0 E w h ad (va_up f 17 (nI q211.2.1)) (va_up a 18 q211.2.2) n q211.2.1 (5 * z + 2) false hM hn9 rfl hn60 (by omega) (by omega)) (cwV 2 hts (lw_V q1896 q1898 qs63 q81 q1899) rfl rfl rfl dyX6_signed ⟨Nat.le_of_ble_eq_true rfl, Nat.le_of_ble_eq_true rfl⟩) hG hP hS hM hF (As := [.int (nI (5 * z + 2)), .int 0]) (rest := []) rfl hl.1 rfl (lv_room (Nat.le_of_ble_eq_true rfl)) dX6_orderHere_222 ⟨by omega, by omega⟩ (fun r222 f222 a222 w H locs hp hM hF hP hS => ?_)
            obtain ⟨hp0, hp1, hp2⟩ := hp
            obtain ⟨q222, hq222⟩ : ∃ z9 : q3, z9 = pSg (a 8) n q211.2.1 q211.2.2 (5 * z + 2) false := ⟨_, rfl⟩
            have hp0 : r222 = bI q222.1 := by rw [hq222]; exact hp0
            have hM : tM E w h ad (va_up (va_up f 17 (nI q211.2.1)) 17 (nI q222.2.1)) (va_up (va_up a 18 q211.2.2) 18 q222.2.2) := hM.ofF (by rw [hq222]; exact hp1) (by rw [hq222]; exact hp2)
            have hM : tM E w h ad (va_up (va_up f 17 (nI q211.2.1)) 17 (nI q222.2.1)) (va_up a 18 q222.2.2) := hM.uu
            have hM : tM E w h ad (va_up (va_up f 17 (nI q211.2.1)) 17 (nI q222.2.1)) (va_up a 18 q222.2.2) := hM
            have hM : tM E w h ad (va_up f 17 (nI q222.2.1)) (va_up a 18 q222.2.2) := hM.ofF (by rw [bx_uu]) rfl
            obtain ⟨hl222, hu222⟩ : q211.2.1 ≤ q222.2.1 ∧ q222.2.1 ≤ n := by rw [hq222]; exact pSg_G (by omega)
            refine k_top (y := (bI q222.1)) hp0 ?_
            refine k_ifeqB (x := q222.1) (tgt := 232) hx hb dX6_orderHere_225 (by decide) (fun c225 => ?_) (fun c225 => ?_)
            · skip
              refine lv_iconst (v := 0) hx hb dX6_orderHere_232 (by decide) ?_
              have hq : pOr (a 8) n pp (a 18) (5 * z) = (false, q222.2.1, q222.2.2) := by simp only [pOr, pEl, pTh, pWi, pKi, pRe, ← hq29, ← hq102, ← hq184, ← hq201, ← hq211, ← hq222, c32, c105, c187, c204, c214, c225, if_true, if_false, Bool.false_eq_true, reduceIte, decide_true, decide_false] <;> exact q3_e (by assumption)
              exact k_zret hx hb hr hlocks hQ hP hS (by omega) (by omega) dX6_orderHere_233 rfl (⟨_, _, ⟨by rw [hq] <;> rfl, by rw [hq], by rw [hq]⟩, hM, hF⟩)
            · skip
              refine lv_iconst (v := 1) hx hb dX6_orderHere_228 (by decide) ?_
              refine lv_goto (tgt := 233) hx hb dX6_orderHere_229 (by decide) ?_
              have hq : pOr (a 8) n pp (a 18) (5 * z) = (true, q222.2.1, q222.2.2) := by simp only [pOr, pEl, pTh, pWi, pKi, pRe, ← hq29, ← hq102, ← hq184, ← hq201, ← hq211, ← hq222, c32, c105, c187, c204, c214, c225, if_true, if_false, Bool.false_eq_true, reduceIte, decide_true, decide_false] <;> exact q3_e (by assumption)
              exact k_zret hx hb hr hlocks hQ hP hS (by omega) (by omega) dX6_orderHere_233 rfl (⟨_, _, ⟨by rw [hq] <;> rfl, by rw [hq], by rw [hq]⟩, hM, hF⟩)
      · skip
        refine lv_aload_n hx hb dX6_orderHere_190 rfl (lv_at hl 1 rfl) ?_
        refine lv_iload_n hx hb dX6_orderHere_191 rfl (lv_at hl 0 rfl) ?_
        refine lv_iconst (v := 1) hx hb dX6_orderHere_192 (by decide) ?_
        refine k_iaddN (x := 5 * z) (y := 1) hx hb dX6_orderHere_193 ?_
        refine tw_cW hx hb hml hown hts (CX6_digit l0 E w h ad (va_up f 17 (nI q184.2.1)) (va_up a 18 q184.2.2) n q184.2.1 (5 * z + 1) hM hn9 rfl hn60 (by omega) (by omega)) (cwV 1 hts (lw_V q1892 q1894 qs62 q81 q1895) rfl rfl rfl dyX6_digit ⟨Nat.le_of_ble_eq_true rfl, Nat.le_of_ble_eq_true rfl⟩) hG hP hS hM hF (As := [.int (nI (5 * z + 1))]) (rest := []) rfl hl.1 rfl (lv_room (Nat.le_of_ble_eq_true rfl)) dX6_orderHere_194 ⟨by omega, by omega⟩ (fun r194 f194 a194 w H locs hp hM hF hP hS => ?_)
        obtain ⟨hp0, hp1, hp2⟩ := hp
        obtain ⟨q194, hq194⟩ : ∃ z9 : q3, z9 = pDg (a 8) n q184.2.1 q184.2.2 (5 * z + 1) := ⟨_, rfl⟩
        have hp0 : r194 = bI q194.1 := by rw [hq194]; exact hp0
        have hM : tM E w h ad (va_up (va_up f 17 (nI q184.2.1)) 17 (nI q194.2.1)) (va_up (va_up a 18 q184.2.2) 18 q194.2.2) := hM.ofF (by rw [hq194]; exact hp1) (by rw [hq194]; exact hp2)
        have hM : tM E w h ad (va_up (va_up f 17 (nI q184.2.1)) 17 (nI q194.2.1)) (va_up a 18 q194.2.2) := hM.uu
        have hM : tM E w h ad (va_up (va_up f 17 (nI q184.2.1)) 17 (nI q194.2.1)) (va_up a 18 q194.2.2) := hM
        have hM : tM E w h ad (va_up f 17 (nI q194.2.1)) (va_up a 18 q194.2.2) := hM.ofF (by rw [bx_uu]) rfl
        obtain ⟨hl194, hu194⟩ : q184.2.1 ≤ q194.2.1 ∧ q194.2.1 ≤ n := by rw [hq194]; exact pDg_G (by omega)
        refine k_top (y := (bI q194.1)) hp0 ?_
        have hq : pOr (a 8) n pp (a 18) (5 * z) = (q194.1, q194.2.1, q194.2.2) := by simp only [pOr, pEl, pTh, pWi, pKi, pRe, ← hq29, ← hq102, ← hq184, ← hq194, c32, c105, c187, if_true, if_false, Bool.false_eq_true, reduceIte, decide_true, decide_false] <;> exact q3_e (by assumption)
        exact k_zret hx hb hr hlocks hQ hP hS (by omega) (by omega) dX6_orderHere_197 (bI_nar _) (⟨_, _, ⟨by rw [hq] <;> rfl, by rw [hq], by rw [hq]⟩, hM, hF⟩)
    · skip
      refine lv_aload_n hx hb dX6_orderHere_108 rfl (lv_at hl 1 rfl) ?_
      refine lv_iload_n hx hb dX6_orderHere_109 rfl (lv_at hl 0 rfl) ?_
      refine lv_iconst (v := 1) hx hb dX6_orderHere_110 (by decide) ?_
      refine k_iaddN (x := 5 * z) (y := 1) hx hb dX6_orderHere_111 ?_
      refine tw_cW hx hb hml hown hts (CX6_digit l0 E w h ad (va_up f 17 (nI q102.2.1)) (va_up a 18 q102.2.2) n q102.2.1 (5 * z + 1) hM hn9 rfl hn60 (by omega) (by omega)) (cwV 1 hts (lw_V q1892 q1894 qs62 q81 q1895) rfl rfl rfl dyX6_digit ⟨Nat.le_of_ble_eq_true rfl, Nat.le_of_ble_eq_true rfl⟩) hG hP hS hM hF (As := [.int (nI (5 * z + 1))]) (rest := []) rfl hl.1 rfl (lv_room (Nat.le_of_ble_eq_true rfl)) dX6_orderHere_112 ⟨by omega, by omega⟩ (fun r112 f112 a112 w H locs hp hM hF hP hS => ?_)
      obtain ⟨hp0, hp1, hp2⟩ := hp
      obtain ⟨q112, hq112⟩ : ∃ z9 : q3, z9 = pDg (a 8) n q102.2.1 q102.2.2 (5 * z + 1) := ⟨_, rfl⟩
      have hp0 : r112 = bI q112.1 := by rw [hq112]; exact hp0
      have hM : tM E w h ad (va_up (va_up f 17 (nI q102.2.1)) 17 (nI q112.2.1)) (va_up (va_up a 18 q102.2.2) 18 q112.2.2) := hM.ofF (by rw [hq112]; exact hp1) (by rw [hq112]; exact hp2)
      have hM : tM E w h ad (va_up (va_up f 17 (nI q102.2.1)) 17 (nI q112.2.1)) (va_up a 18 q112.2.2) := hM.uu
      have hM : tM E w h ad (va_up (va_up f 17 (nI q102.2.1)) 17 (nI q112.2.1)) (va_up a 18 q112.2.2) := hM
      have hM : tM E w h ad (va_up f 17 (nI q112.2.1)) (va_up a 18 q112.2.2) := hM.ofF (by rw [bx_uu]) rfl
      obtain ⟨hl112, hu112⟩ : q102.2.1 ≤ q112.2.1 ∧ q112.2.1 ≤ n := by rw [hq112]; exact pDg_G (by omega)
      refine k_top (y := (bI q112.1)) hp0 ?_
      refine k_ifeqB (x := q112.1) (tgt := 179) hx hb dX6_orderHere_115 (by decide) (fun c115 => ?_) (fun c115 => ?_)
      · skip
        refine lv_iconst (v := 0) hx hb dX6_orderHere_179 (by decide) ?_
        have hq : pOr (a 8) n pp (a 18) (5 * z) = (false, q112.2.1, q112.2.2) := by simp only [pOr, pEl, pTh, pWi, pKi, pRe, ← hq29, ← hq102, ← hq112, c32, c105, c115, if_true, if_false, Bool.false_eq_true, reduceIte, decide_true, decide_false] <;> exact q3_e (by assumption)
        exact k_zret hx hb hr hlocks hQ hP hS (by omega) (by omega) dX6_orderHere_180 rfl (⟨_, _, ⟨by rw [hq] <;> rfl, by rw [hq], by rw [hq]⟩, hM, hF⟩)
      · skip
        refine lv_aload_n hx hb dX6_orderHere_118 rfl (lv_at hl 1 rfl) ?_
        refine lv_bipush (v := 64) hx hb dX6_orderHere_119 (by decide) ?_
        refine tw_cW hx hb hml hown hts (CX6_skips l0 E w h ad (va_up f 17 (nI q112.2.1)) (va_up a 18 q112.2.2) n q112.2.1 64 hM hn9 rfl hn60 (by omega) (by decide)) (cwV 1 hts (lw_V q1888 q1890 qs61 q81 q1891) rfl rfl rfl dyX6_skips ⟨Nat.le_of_ble_eq_true rfl, Nat.le_of_ble_eq_true rfl⟩) hG hP hS hM hF (As := [.int 64]) (rest := []) rfl hl.1 rfl (lv_room (Nat.le_of_ble_eq_true rfl)) dX6_orderHere_121 ⟨by omega, by omega⟩ (fun r121 f121 a121 w H locs hp hM hF hP hS => ?_)
        obtain ⟨hp0, hp1, hp2⟩ := hp
        obtain ⟨q121, hq121⟩ : ∃ z9 : q3, z9 = pSk (a 8) n q112.2.1 q112.2.2 64 := ⟨_, rfl⟩
        have hp0 : r121 = bI q121.1 := by rw [hq121]; exact hp0
        have hM : tM E w h ad (va_up (va_up f 17 (nI q112.2.1)) 17 (nI q121.2.1)) (va_up (va_up a 18 q112.2.2) 18 q121.2.2) := hM.ofF (by rw [hq121]; exact hp1) (by rw [hq121]; exact hp2)
        have hM : tM E w h ad (va_up (va_up f 17 (nI q112.2.1)) 17 (nI q121.2.1)) (va_up a 18 q121.2.2) := hM.uu
        have hM : tM E w h ad (va_up (va_up f 17 (nI q112.2.1)) 17 (nI q121.2.1)) (va_up a 18 q121.2.2) := hM
        have hM : tM E w h ad (va_up f 17 (nI q121.2.1)) (va_up a 18 q121.2.2) := hM.ofF (by rw [bx_uu]) rfl
        obtain ⟨hl121, hu121⟩ : q112.2.1 ≤ q121.2.1 ∧ q121.2.1 ≤ n := by rw [hq121]; exact pSk_G (by omega) (by decide)
        refine k_top (y := (bI q121.1)) hp0 ?_
        refine k_ifeqB (x := q121.1) (tgt := 179) hx hb dX6_orderHere_124 (by decide) (fun c124 => ?_) (fun c124 => ?_)
        · skip
          refine lv_iconst (v := 0) hx hb dX6_orderHere_179 (by decide) ?_
          have hq : pOr (a 8) n pp (a 18) (5 * z) = (false, q121.2.1, q121.2.2) := by simp only [pOr, pEl, pTh, pWi, pKi, pRe, ← hq29, ← hq102, ← hq112, ← hq121, c32, c105, c115, c124, if_true, if_false, Bool.false_eq_true, reduceIte, decide_true, decide_false] <;> exact q3_e (by assumption)
          exact k_zret hx hb hr hlocks hQ hP hS (by omega) (by omega) dX6_orderHere_180 rfl (⟨_, _, ⟨by rw [hq] <;> rfl, by rw [hq], by rw [hq]⟩, hM, hF⟩)
        · skip
          refine lv_aload_n hx hb dX6_orderHere_127 rfl (lv_at hl 1 rfl) ?_
          refine lv_iload_n hx hb dX6_orderHere_128 rfl (lv_at hl 0 rfl) ?_
          refine lv_iconst (v := 2) hx hb dX6_orderHere_129 (by decide) ?_
          refine k_iaddN (x := 5 * z) (y := 2) hx hb dX6_orderHere_130 ?_
          refine tw_cW hx hb hml hown hts (CX6_number l0 E w h ad (va_up f 17 (nI q121.2.1)) (va_up a 18 q121.2.2) n q121.2.1 (5 * z + 2) hM hn9 rfl hn60 (by omega) (by omega)) (cwV 1 hts (lw_V q1900 q1902 qs64 q81 q1903) rfl rfl rfl dyX6_number ⟨Nat.le_of_ble_eq_true rfl, Nat.le_of_ble_eq_true rfl⟩) hG hP hS hM hF (As := [.int (nI (5 * z + 2))]) (rest := []) rfl hl.1 rfl (lv_room (Nat.le_of_ble_eq_true rfl)) dX6_orderHere_131 ⟨by omega, by omega⟩ (fun r131 f131 a131 w H locs hp hM hF hP hS => ?_)
          obtain ⟨hp0, hp1, hp2⟩ := hp
          obtain ⟨q131, hq131⟩ : ∃ z9 : q3, z9 = pNu (a 8) n q121.2.1 q121.2.2 (5 * z + 2) := ⟨_, rfl⟩
          have hp0 : r131 = bI q131.1 := by rw [hq131]; exact hp0
          have hM : tM E w h ad (va_up (va_up f 17 (nI q121.2.1)) 17 (nI q131.2.1)) (va_up (va_up a 18 q121.2.2) 18 q131.2.2) := hM.ofF (by rw [hq131]; exact hp1) (by rw [hq131]; exact hp2)
          have hM : tM E w h ad (va_up (va_up f 17 (nI q121.2.1)) 17 (nI q131.2.1)) (va_up a 18 q131.2.2) := hM.uu
          have hM : tM E w h ad (va_up (va_up f 17 (nI q121.2.1)) 17 (nI q131.2.1)) (va_up a 18 q131.2.2) := hM
          have hM : tM E w h ad (va_up f 17 (nI q131.2.1)) (va_up a 18 q131.2.2) := hM.ofF (by rw [bx_uu]) rfl
          obtain ⟨hl131, hu131⟩ : q121.2.1 ≤ q131.2.1 ∧ q131.2.1 ≤ n := by rw [hq131]; exact pNu_G (by omega)
          refine k_top (y := (bI q131.1)) hp0 ?_
          refine k_ifeqB (x := q131.1) (tgt := 179) hx hb dX6_orderHere_134 (by decide) (fun c134 => ?_) (fun c134 => ?_)
          · skip
            refine lv_iconst (v := 0) hx hb dX6_orderHere_179 (by decide) ?_
            have hq : pOr (a 8) n pp (a 18) (5 * z) = (false, q131.2.1, q131.2.2) := by simp only [pOr, pEl, pTh, pWi, pKi, pRe, ← hq29, ← hq102, ← hq112, ← hq121, ← hq131, c32, c105, c115, c124, c134, if_true, if_false, Bool.false_eq_true, reduceIte, decide_true, decide_false] <;> exact q3_e (by assumption)
            exact k_zret hx hb hr hlocks hQ hP hS (by omega) (by omega) dX6_orderHere_180 rfl (⟨_, _, ⟨by rw [hq] <;> rfl, by rw [hq], by rw [hq]⟩, hM, hF⟩)
          · skip
            refine lv_aload_n hx hb dX6_orderHere_137 rfl (lv_at hl 1 rfl) ?_
            refine lv_bipush (v := 42) hx hb dX6_orderHere_138 (by decide) ?_
            refine tw_cW hx hb hml hown hts (CX6_skips l0 E w h ad (va_up f 17 (nI q131.2.1)) (va_up a 18 q131.2.2) n q131.2.1 42 hM hn9 rfl hn60 (by omega) (by decide)) (cwV 1 hts (lw_V q1888 q1890 qs61 q81 q1891) rfl rfl rfl dyX6_skips ⟨Nat.le_of_ble_eq_true rfl, Nat.le_of_ble_eq_true rfl⟩) hG hP hS hM hF (As := [.int 42]) (rest := []) rfl hl.1 rfl (lv_room (Nat.le_of_ble_eq_true rfl)) dX6_orderHere_140 ⟨by omega, by omega⟩ (fun r140 f140 a140 w H locs hp hM hF hP hS => ?_)
            obtain ⟨hp0, hp1, hp2⟩ := hp
            obtain ⟨q140, hq140⟩ : ∃ z9 : q3, z9 = pSk (a 8) n q131.2.1 q131.2.2 42 := ⟨_, rfl⟩
            have hp0 : r140 = bI q140.1 := by rw [hq140]; exact hp0
            have hM : tM E w h ad (va_up (va_up f 17 (nI q131.2.1)) 17 (nI q140.2.1)) (va_up (va_up a 18 q131.2.2) 18 q140.2.2) := hM.ofF (by rw [hq140]; exact hp1) (by rw [hq140]; exact hp2)
            have hM : tM E w h ad (va_up (va_up f 17 (nI q131.2.1)) 17 (nI q140.2.1)) (va_up a 18 q140.2.2) := hM.uu
            have hM : tM E w h ad (va_up (va_up f 17 (nI q131.2.1)) 17 (nI q140.2.1)) (va_up a 18 q140.2.2) := hM
            have hM : tM E w h ad (va_up f 17 (nI q140.2.1)) (va_up a 18 q140.2.2) := hM.ofF (by rw [bx_uu]) rfl
            obtain ⟨hl140, hu140⟩ : q131.2.1 ≤ q140.2.1 ∧ q140.2.1 ≤ n := by rw [hq140]; exact pSk_G (by omega) (by decide)
            refine k_top (y := (bI q140.1)) hp0 ?_
            refine k_ifeqB (x := q140.1) (tgt := 179) hx hb dX6_orderHere_143 (by decide) (fun c143 => ?_) (fun c143 => ?_)
            · skip
              refine lv_iconst (v := 0) hx hb dX6_orderHere_179 (by decide) ?_
              have hq : pOr (a 8) n pp (a 18) (5 * z) = (false, q140.2.1, q140.2.2) := by simp only [pOr, pEl, pTh, pWi, pKi, pRe, ← hq29, ← hq102, ← hq112, ← hq121, ← hq131, ← hq140, c32, c105, c115, c124, c134, c143, if_true, if_false, Bool.false_eq_true, reduceIte, decide_true, decide_false] <;> exact q3_e (by assumption)
              exact k_zret hx hb hr hlocks hQ hP hS (by omega) (by omega) dX6_orderHere_180 rfl (⟨_, _, ⟨by rw [hq] <;> rfl, by rw [hq], by rw [hq]⟩, hM, hF⟩)
            · skip
              refine lv_aload_n hx hb dX6_orderHere_146 rfl (lv_at hl 1 rfl) ?_
              refine lv_iload_n hx hb dX6_orderHere_147 rfl (lv_at hl 0 rfl) ?_
              refine lv_iconst (v := 3) hx hb dX6_orderHere_148 (by decide) ?_
              refine k_iaddN (x := 5 * z) (y := 3) hx hb dX6_orderHere_149 ?_
              refine tw_cW hx hb hml hown hts (CX6_number l0 E w h ad (va_up f 17 (nI q140.2.1)) (va_up a 18 q140.2.2) n q140.2.1 (5 * z + 3) hM hn9 rfl hn60 (by omega) (by omega)) (cwV 1 hts (lw_V q1900 q1902 qs64 q81 q1903) rfl rfl rfl dyX6_number ⟨Nat.le_of_ble_eq_true rfl, Nat.le_of_ble_eq_true rfl⟩) hG hP hS hM hF (As := [.int (nI (5 * z + 3))]) (rest := []) rfl hl.1 rfl (lv_room (Nat.le_of_ble_eq_true rfl)) dX6_orderHere_150 ⟨by omega, by omega⟩ (fun r150 f150 a150 w H locs hp hM hF hP hS => ?_)
              obtain ⟨hp0, hp1, hp2⟩ := hp
              obtain ⟨q150, hq150⟩ : ∃ z9 : q3, z9 = pNu (a 8) n q140.2.1 q140.2.2 (5 * z + 3) := ⟨_, rfl⟩
              have hp0 : r150 = bI q150.1 := by rw [hq150]; exact hp0
              have hM : tM E w h ad (va_up (va_up f 17 (nI q140.2.1)) 17 (nI q150.2.1)) (va_up (va_up a 18 q140.2.2) 18 q150.2.2) := hM.ofF (by rw [hq150]; exact hp1) (by rw [hq150]; exact hp2)
              have hM : tM E w h ad (va_up (va_up f 17 (nI q140.2.1)) 17 (nI q150.2.1)) (va_up a 18 q150.2.2) := hM.uu
              have hM : tM E w h ad (va_up (va_up f 17 (nI q140.2.1)) 17 (nI q150.2.1)) (va_up a 18 q150.2.2) := hM
              have hM : tM E w h ad (va_up f 17 (nI q150.2.1)) (va_up a 18 q150.2.2) := hM.ofF (by rw [bx_uu]) rfl
              obtain ⟨hl150, hu150⟩ : q140.2.1 ≤ q150.2.1 ∧ q150.2.1 ≤ n := by rw [hq150]; exact pNu_G (by omega)
              refine k_top (y := (bI q150.1)) hp0 ?_
              refine k_ifeqB (x := q150.1) (tgt := 179) hx hb dX6_orderHere_153 (by decide) (fun c153 => ?_) (fun c153 => ?_)
              · skip
                refine lv_iconst (v := 0) hx hb dX6_orderHere_179 (by decide) ?_
                have hq : pOr (a 8) n pp (a 18) (5 * z) = (false, q150.2.1, q150.2.2) := by simp only [pOr, pEl, pTh, pWi, pKi, pRe, ← hq29, ← hq102, ← hq112, ← hq121, ← hq131, ← hq140, ← hq150, c32, c105, c115, c124, c134, c143, c153, if_true, if_false, Bool.false_eq_true, reduceIte, decide_true, decide_false] <;> exact q3_e (by assumption)
                exact k_zret hx hb hr hlocks hQ hP hS (by omega) (by omega) dX6_orderHere_180 rfl (⟨_, _, ⟨by rw [hq] <;> rfl, by rw [hq], by rw [hq]⟩, hM, hF⟩)
              · skip
                refine lv_aload_n hx hb dX6_orderHere_156 rfl (lv_at hl 1 rfl) ?_
                refine lv_bipush (v := 35) hx hb dX6_orderHere_157 (by decide) ?_
                refine tw_cW hx hb hml hown hts (CX6_skips l0 E w h ad (va_up f 17 (nI q150.2.1)) (va_up a 18 q150.2.2) n q150.2.1 35 hM hn9 rfl hn60 (by omega) (by decide)) (cwV 1 hts (lw_V q1888 q1890 qs61 q81 q1891) rfl rfl rfl dyX6_skips ⟨Nat.le_of_ble_eq_true rfl, Nat.le_of_ble_eq_true rfl⟩) hG hP hS hM hF (As := [.int 35]) (rest := []) rfl hl.1 rfl (lv_room (Nat.le_of_ble_eq_true rfl)) dX6_orderHere_159 ⟨by omega, by omega⟩ (fun r159 f159 a159 w H locs hp hM hF hP hS => ?_)
                obtain ⟨hp0, hp1, hp2⟩ := hp
                obtain ⟨q159, hq159⟩ : ∃ z9 : q3, z9 = pSk (a 8) n q150.2.1 q150.2.2 35 := ⟨_, rfl⟩
                have hp0 : r159 = bI q159.1 := by rw [hq159]; exact hp0
                have hM : tM E w h ad (va_up (va_up f 17 (nI q150.2.1)) 17 (nI q159.2.1)) (va_up (va_up a 18 q150.2.2) 18 q159.2.2) := hM.ofF (by rw [hq159]; exact hp1) (by rw [hq159]; exact hp2)
                have hM : tM E w h ad (va_up (va_up f 17 (nI q150.2.1)) 17 (nI q159.2.1)) (va_up a 18 q159.2.2) := hM.uu
                have hM : tM E w h ad (va_up (va_up f 17 (nI q150.2.1)) 17 (nI q159.2.1)) (va_up a 18 q159.2.2) := hM
                have hM : tM E w h ad (va_up f 17 (nI q159.2.1)) (va_up a 18 q159.2.2) := hM.ofF (by rw [bx_uu]) rfl
                obtain ⟨hl159, hu159⟩ : q150.2.1 ≤ q159.2.1 ∧ q159.2.1 ≤ n := by rw [hq159]; exact pSk_G (by omega) (by decide)
                refine k_top (y := (bI q159.1)) hp0 ?_
                refine k_ifeqB (x := q159.1) (tgt := 179) hx hb dX6_orderHere_162 (by decide) (fun c162 => ?_) (fun c162 => ?_)
                · skip
                  refine lv_iconst (v := 0) hx hb dX6_orderHere_179 (by decide) ?_
                  have hq : pOr (a 8) n pp (a 18) (5 * z) = (false, q159.2.1, q159.2.2) := by simp only [pOr, pEl, pTh, pWi, pKi, pRe, ← hq29, ← hq102, ← hq112, ← hq121, ← hq131, ← hq140, ← hq150, ← hq159, c32, c105, c115, c124, c134, c143, c153, c162, if_true, if_false, Bool.false_eq_true, reduceIte, decide_true, decide_false] <;> exact q3_e (by assumption)
                  exact k_zret hx hb hr hlocks hQ hP hS (by omega) (by omega) dX6_orderHere_180 rfl (⟨_, _, ⟨by rw [hq] <;> rfl, by rw [hq], by rw [hq]⟩, hM, hF⟩)
                · skip
                  refine lv_aload_n hx hb dX6_orderHere_165 rfl (lv_at hl 1 rfl) ?_
                  refine lv_iload_n hx hb dX6_orderHere_166 rfl (lv_at hl 0 rfl) ?_
                  refine lv_iconst (v := 4) hx hb dX6_orderHere_167 (by decide) ?_
                  refine k_iaddN (x := 5 * z) (y := 4) hx hb dX6_orderHere_168 ?_
                  refine tw_cW hx hb hml hown hts (CX6_digit l0 E w h ad (va_up f 17 (nI q159.2.1)) (va_up a 18 q159.2.2) n q159.2.1 (5 * z + 4) hM hn9 rfl hn60 (by omega) (by omega)) (cwV 1 hts (lw_V q1892 q1894 qs62 q81 q1895) rfl rfl rfl dyX6_digit ⟨Nat.le_of_ble_eq_true rfl, Nat.le_of_ble_eq_true rfl⟩) hG hP hS hM hF (As := [.int (nI (5 * z + 4))]) (rest := []) rfl hl.1 rfl (lv_room (Nat.le_of_ble_eq_true rfl)) dX6_orderHere_169 ⟨by omega, by omega⟩ (fun r169 f169 a169 w H locs hp hM hF hP hS => ?_)
                  obtain ⟨hp0, hp1, hp2⟩ := hp
                  obtain ⟨q169, hq169⟩ : ∃ z9 : q3, z9 = pDg (a 8) n q159.2.1 q159.2.2 (5 * z + 4) := ⟨_, rfl⟩
                  have hp0 : r169 = bI q169.1 := by rw [hq169]; exact hp0
                  have hM : tM E w h ad (va_up (va_up f 17 (nI q159.2.1)) 17 (nI q169.2.1)) (va_up (va_up a 18 q159.2.2) 18 q169.2.2) := hM.ofF (by rw [hq169]; exact hp1) (by rw [hq169]; exact hp2)
                  have hM : tM E w h ad (va_up (va_up f 17 (nI q159.2.1)) 17 (nI q169.2.1)) (va_up a 18 q169.2.2) := hM.uu
                  have hM : tM E w h ad (va_up (va_up f 17 (nI q159.2.1)) 17 (nI q169.2.1)) (va_up a 18 q169.2.2) := hM
                  have hM : tM E w h ad (va_up f 17 (nI q169.2.1)) (va_up a 18 q169.2.2) := hM.ofF (by rw [bx_uu]) rfl
                  obtain ⟨hl169, hu169⟩ : q159.2.1 ≤ q169.2.1 ∧ q169.2.1 ≤ n := by rw [hq169]; exact pDg_G (by omega)
                  refine k_top (y := (bI q169.1)) hp0 ?_
                  refine k_ifeqB (x := q169.1) (tgt := 179) hx hb dX6_orderHere_172 (by decide) (fun c172 => ?_) (fun c172 => ?_)
                  · skip
                    refine lv_iconst (v := 0) hx hb dX6_orderHere_179 (by decide) ?_
                    have hq : pOr (a 8) n pp (a 18) (5 * z) = (false, q169.2.1, q169.2.2) := by simp only [pOr, pEl, pTh, pWi, pKi, pRe, ← hq29, ← hq102, ← hq112, ← hq121, ← hq131, ← hq140, ← hq150, ← hq159, ← hq169, c32, c105, c115, c124, c134, c143, c153, c162, c172, if_true, if_false, Bool.false_eq_true, reduceIte, decide_true, decide_false] <;> exact q3_e (by assumption)
                    exact k_zret hx hb hr hlocks hQ hP hS (by omega) (by omega) dX6_orderHere_180 rfl (⟨_, _, ⟨by rw [hq] <;> rfl, by rw [hq], by rw [hq]⟩, hM, hF⟩)
                  · skip
                    refine lv_iconst (v := 1) hx hb dX6_orderHere_175 (by decide) ?_
                    refine lv_goto (tgt := 180) hx hb dX6_orderHere_176 (by decide) ?_
                    have hq : pOr (a 8) n pp (a 18) (5 * z) = (true, q169.2.1, q169.2.2) := by simp only [pOr, pEl, pTh, pWi, pKi, pRe, ← hq29, ← hq102, ← hq112, ← hq121, ← hq131, ← hq140, ← hq150, ← hq159, ← hq169, c32, c105, c115, c124, c134, c143, c153, c162, c172, if_true, if_false, Bool.false_eq_true, reduceIte, decide_true, decide_false] <;> exact q3_e (by assumption)
                    exact k_zret hx hb hr hlocks hQ hP hS (by omega) (by omega) dX6_orderHere_180 rfl (⟨_, _, ⟨by rw [hq] <;> rfl, by rw [hq], by rw [hq]⟩, hM, hF⟩)
  · skip
    refine lv_aload_n hx hb dX6_orderHere_35 rfl (lv_at hl 1 rfl) ?_
    refine lv_iload_n hx hb dX6_orderHere_36 rfl (lv_at hl 0 rfl) ?_
    refine lv_iconst (v := 1) hx hb dX6_orderHere_37 (by decide) ?_
    refine k_iaddN (x := 5 * z) (y := 1) hx hb dX6_orderHere_38 ?_
    refine tw_cW hx hb hml hown hts (CX6_digit l0 E w h ad (va_up f 17 (nI q29.2.1)) (va_up a 18 q29.2.2) n q29.2.1 (5 * z + 1) hM hn9 rfl hn60 (by omega) (by omega)) (cwV 1 hts (lw_V q1892 q1894 qs62 q81 q1895) rfl rfl rfl dyX6_digit ⟨Nat.le_of_ble_eq_true rfl, Nat.le_of_ble_eq_true rfl⟩) hG hP hS hM hF (As := [.int (nI (5 * z + 1))]) (rest := []) rfl hl.1 rfl (lv_room (Nat.le_of_ble_eq_true rfl)) dX6_orderHere_39 ⟨by omega, by omega⟩ (fun r39 f39 a39 w H locs hp hM hF hP hS => ?_)
    obtain ⟨hp0, hp1, hp2⟩ := hp
    obtain ⟨q39, hq39⟩ : ∃ z9 : q3, z9 = pDg (a 8) n q29.2.1 q29.2.2 (5 * z + 1) := ⟨_, rfl⟩
    have hp0 : r39 = bI q39.1 := by rw [hq39]; exact hp0
    have hM : tM E w h ad (va_up (va_up f 17 (nI q29.2.1)) 17 (nI q39.2.1)) (va_up (va_up a 18 q29.2.2) 18 q39.2.2) := hM.ofF (by rw [hq39]; exact hp1) (by rw [hq39]; exact hp2)
    have hM : tM E w h ad (va_up (va_up f 17 (nI q29.2.1)) 17 (nI q39.2.1)) (va_up a 18 q39.2.2) := hM.uu
    have hM : tM E w h ad (va_up (va_up f 17 (nI q29.2.1)) 17 (nI q39.2.1)) (va_up a 18 q39.2.2) := hM
    have hM : tM E w h ad (va_up f 17 (nI q39.2.1)) (va_up a 18 q39.2.2) := hM.ofF (by rw [bx_uu]) rfl
    obtain ⟨hl39, hu39⟩ : q29.2.1 ≤ q39.2.1 ∧ q39.2.1 ≤ n := by rw [hq39]; exact pDg_G (by omega)
    refine k_top (y := (bI q39.1)) hp0 ?_
    refine k_ifeqB (x := q39.1) (tgt := 97) hx hb dX6_orderHere_42 (by decide) (fun c42 => ?_) (fun c42 => ?_)
    · skip
      refine lv_iconst (v := 0) hx hb dX6_orderHere_97 (by decide) ?_
      have hq : pOr (a 8) n pp (a 18) (5 * z) = (false, q39.2.1, q39.2.2) := by simp only [pOr, pEl, pTh, pWi, pKi, pRe, ← hq29, ← hq39, c32, c42, if_true, if_false, Bool.false_eq_true, reduceIte, decide_true, decide_false] <;> exact q3_e (by assumption)
      exact k_zret hx hb hr hlocks hQ hP hS (by omega) (by omega) dX6_orderHere_98 rfl (⟨_, _, ⟨by rw [hq] <;> rfl, by rw [hq], by rw [hq]⟩, hM, hF⟩)
    · skip
      refine lv_aload_n hx hb dX6_orderHere_45 rfl (lv_at hl 1 rfl) ?_
      refine lv_bipush (v := 58) hx hb dX6_orderHere_46 (by decide) ?_
      refine tw_cW hx hb hml hown hts (CX6_skips l0 E w h ad (va_up f 17 (nI q39.2.1)) (va_up a 18 q39.2.2) n q39.2.1 58 hM hn9 rfl hn60 (by omega) (by decide)) (cwV 1 hts (lw_V q1888 q1890 qs61 q81 q1891) rfl rfl rfl dyX6_skips ⟨Nat.le_of_ble_eq_true rfl, Nat.le_of_ble_eq_true rfl⟩) hG hP hS hM hF (As := [.int 58]) (rest := []) rfl hl.1 rfl (lv_room (Nat.le_of_ble_eq_true rfl)) dX6_orderHere_48 ⟨by omega, by omega⟩ (fun r48 f48 a48 w H locs hp hM hF hP hS => ?_)
      obtain ⟨hp0, hp1, hp2⟩ := hp
      obtain ⟨q48, hq48⟩ : ∃ z9 : q3, z9 = pSk (a 8) n q39.2.1 q39.2.2 58 := ⟨_, rfl⟩
      have hp0 : r48 = bI q48.1 := by rw [hq48]; exact hp0
      have hM : tM E w h ad (va_up (va_up f 17 (nI q39.2.1)) 17 (nI q48.2.1)) (va_up (va_up a 18 q39.2.2) 18 q48.2.2) := hM.ofF (by rw [hq48]; exact hp1) (by rw [hq48]; exact hp2)
      have hM : tM E w h ad (va_up (va_up f 17 (nI q39.2.1)) 17 (nI q48.2.1)) (va_up a 18 q48.2.2) := hM.uu
      have hM : tM E w h ad (va_up (va_up f 17 (nI q39.2.1)) 17 (nI q48.2.1)) (va_up a 18 q48.2.2) := hM
      have hM : tM E w h ad (va_up f 17 (nI q48.2.1)) (va_up a 18 q48.2.2) := hM.ofF (by rw [bx_uu]) rfl
      obtain ⟨hl48, hu48⟩ : q39.2.1 ≤ q48.2.1 ∧ q48.2.1 ≤ n := by rw [hq48]; exact pSk_G (by omega) (by decide)
      refine k_top (y := (bI q48.1)) hp0 ?_
      refine k_ifeqB (x := q48.1) (tgt := 97) hx hb dX6_orderHere_51 (by decide) (fun c51 => ?_) (fun c51 => ?_)
      · skip
        refine lv_iconst (v := 0) hx hb dX6_orderHere_97 (by decide) ?_
        have hq : pOr (a 8) n pp (a 18) (5 * z) = (false, q48.2.1, q48.2.2) := by simp only [pOr, pEl, pTh, pWi, pKi, pRe, ← hq29, ← hq39, ← hq48, c32, c42, c51, if_true, if_false, Bool.false_eq_true, reduceIte, decide_true, decide_false] <;> exact q3_e (by assumption)
        exact k_zret hx hb hr hlocks hQ hP hS (by omega) (by omega) dX6_orderHere_98 rfl (⟨_, _, ⟨by rw [hq] <;> rfl, by rw [hq], by rw [hq]⟩, hM, hF⟩)
      · skip
        refine lv_aload_n hx hb dX6_orderHere_54 rfl (lv_at hl 1 rfl) ?_
        refine lv_iload_n hx hb dX6_orderHere_55 rfl (lv_at hl 0 rfl) ?_
        refine lv_iconst (v := 2) hx hb dX6_orderHere_56 (by decide) ?_
        refine k_iaddN (x := 5 * z) (y := 2) hx hb dX6_orderHere_57 ?_
        refine tw_cW hx hb hml hown hts (CX6_digit l0 E w h ad (va_up f 17 (nI q48.2.1)) (va_up a 18 q48.2.2) n q48.2.1 (5 * z + 2) hM hn9 rfl hn60 (by omega) (by omega)) (cwV 1 hts (lw_V q1892 q1894 qs62 q81 q1895) rfl rfl rfl dyX6_digit ⟨Nat.le_of_ble_eq_true rfl, Nat.le_of_ble_eq_true rfl⟩) hG hP hS hM hF (As := [.int (nI (5 * z + 2))]) (rest := []) rfl hl.1 rfl (lv_room (Nat.le_of_ble_eq_true rfl)) dX6_orderHere_58 ⟨by omega, by omega⟩ (fun r58 f58 a58 w H locs hp hM hF hP hS => ?_)
        obtain ⟨hp0, hp1, hp2⟩ := hp
        obtain ⟨q58, hq58⟩ : ∃ z9 : q3, z9 = pDg (a 8) n q48.2.1 q48.2.2 (5 * z + 2) := ⟨_, rfl⟩
        have hp0 : r58 = bI q58.1 := by rw [hq58]; exact hp0
        have hM : tM E w h ad (va_up (va_up f 17 (nI q48.2.1)) 17 (nI q58.2.1)) (va_up (va_up a 18 q48.2.2) 18 q58.2.2) := hM.ofF (by rw [hq58]; exact hp1) (by rw [hq58]; exact hp2)
        have hM : tM E w h ad (va_up (va_up f 17 (nI q48.2.1)) 17 (nI q58.2.1)) (va_up a 18 q58.2.2) := hM.uu
        have hM : tM E w h ad (va_up (va_up f 17 (nI q48.2.1)) 17 (nI q58.2.1)) (va_up a 18 q58.2.2) := hM
        have hM : tM E w h ad (va_up f 17 (nI q58.2.1)) (va_up a 18 q58.2.2) := hM.ofF (by rw [bx_uu]) rfl
        obtain ⟨hl58, hu58⟩ : q48.2.1 ≤ q58.2.1 ∧ q58.2.1 ≤ n := by rw [hq58]; exact pDg_G (by omega)
        refine k_top (y := (bI q58.1)) hp0 ?_
        refine k_ifeqB (x := q58.1) (tgt := 97) hx hb dX6_orderHere_61 (by decide) (fun c61 => ?_) (fun c61 => ?_)
        · skip
          refine lv_iconst (v := 0) hx hb dX6_orderHere_97 (by decide) ?_
          have hq : pOr (a 8) n pp (a 18) (5 * z) = (false, q58.2.1, q58.2.2) := by simp only [pOr, pEl, pTh, pWi, pKi, pRe, ← hq29, ← hq39, ← hq48, ← hq58, c32, c42, c51, c61, if_true, if_false, Bool.false_eq_true, reduceIte, decide_true, decide_false] <;> exact q3_e (by assumption)
          exact k_zret hx hb hr hlocks hQ hP hS (by omega) (by omega) dX6_orderHere_98 rfl (⟨_, _, ⟨by rw [hq] <;> rfl, by rw [hq], by rw [hq]⟩, hM, hF⟩)
        · skip
          refine lv_aload_n hx hb dX6_orderHere_64 rfl (lv_at hl 1 rfl) ?_
          refine tw_cR hx hb hml hown hts (val := (pHe (a 8) n q58.2.1)) (CX6_here l0 E w h ad (va_up f 17 (nI q58.2.1)) (va_up a 18 q58.2.2) n q58.2.1 hM hn9 rfl hn60 (by omega)) (cwV 0 hts (lw_V q1884 q1886 qs60 q81 q1887) rfl rfl rfl dyX6_here ⟨Nat.le_of_ble_eq_true rfl, Nat.le_of_ble_eq_true rfl⟩) hG hP hS hM (As := []) (rest := []) rfl hl.1 rfl (lv_room (Nat.le_of_ble_eq_true rfl)) dX6_orderHere_65 ⟨by omega, by omega⟩ (fun H locs hP hS => ?_)
          refine lv_bipush (v := 43) hx hb dX6_orderHere_68 (by decide) ?_
          refine lv_icmp_eq (tgt := 82) hx hb dX6_orderHere_70 (by decide) (fun c70 => ?_) (fun c70 => ?_)
          · skip
            refine lv_aload_n hx hb dX6_orderHere_82 rfl (lv_at hl 1 rfl) ?_
            refine lv_iload_n hx hb dX6_orderHere_83 rfl (lv_at hl 0 rfl) ?_
            refine lv_iconst (v := 3) hx hb dX6_orderHere_84 (by decide) ?_
            refine k_iaddN (x := 5 * z) (y := 3) hx hb dX6_orderHere_85 ?_
            refine lv_iconst (v := 1) hx hb dX6_orderHere_86 (by decide) ?_
            refine tw_cW hx hb hml hown hts (CX6_signed l0 E w h ad (va_up f 17 (nI q58.2.1)) (va_up a 18 q58.2.2) n q58.2.1 (5 * z + 3) true hM hn9 rfl hn60 (by omega) (by omega)) (cwV 2 hts (lw_V q1896 q1898 qs63 q81 q1899) rfl rfl rfl dyX6_signed ⟨Nat.le_of_ble_eq_true rfl, Nat.le_of_ble_eq_true rfl⟩) hG hP hS hM hF (As := [.int (nI (5 * z + 3)), .int 1]) (rest := []) rfl hl.1 rfl (lv_room (Nat.le_of_ble_eq_true rfl)) dX6_orderHere_87 ⟨by omega, by omega⟩ (fun r87 f87 a87 w H locs hp hM hF hP hS => ?_)
            obtain ⟨hp0, hp1, hp2⟩ := hp
            obtain ⟨q87, hq87⟩ : ∃ z9 : q3, z9 = pSg (a 8) n q58.2.1 q58.2.2 (5 * z + 3) true := ⟨_, rfl⟩
            have hp0 : r87 = bI q87.1 := by rw [hq87]; exact hp0
            have hM : tM E w h ad (va_up (va_up f 17 (nI q58.2.1)) 17 (nI q87.2.1)) (va_up (va_up a 18 q58.2.2) 18 q87.2.2) := hM.ofF (by rw [hq87]; exact hp1) (by rw [hq87]; exact hp2)
            have hM : tM E w h ad (va_up (va_up f 17 (nI q58.2.1)) 17 (nI q87.2.1)) (va_up a 18 q87.2.2) := hM.uu
            have hM : tM E w h ad (va_up (va_up f 17 (nI q58.2.1)) 17 (nI q87.2.1)) (va_up a 18 q87.2.2) := hM
            have hM : tM E w h ad (va_up f 17 (nI q87.2.1)) (va_up a 18 q87.2.2) := hM.ofF (by rw [bx_uu]) rfl
            obtain ⟨hl87, hu87⟩ : q58.2.1 ≤ q87.2.1 ∧ q87.2.1 ≤ n := by rw [hq87]; exact pSg_G (by omega)
            refine k_top (y := (bI q87.1)) hp0 ?_
            refine k_ifeqB (x := q87.1) (tgt := 97) hx hb dX6_orderHere_90 (by decide) (fun c90 => ?_) (fun c90 => ?_)
            · skip
              refine lv_iconst (v := 0) hx hb dX6_orderHere_97 (by decide) ?_
              have hq : pOr (a 8) n pp (a 18) (5 * z) = (false, q87.2.1, q87.2.2) := by simp only [pOr, pEl, pTh, pWi, pKi, pRe, ← hq29, ← hq39, ← hq48, ← hq58, ← hq87, c32, c42, c51, c61, c70, c90, if_true, if_false, Bool.false_eq_true, reduceIte, decide_true, decide_false] <;> exact q3_e (by assumption)
              exact k_zret hx hb hr hlocks hQ hP hS (by omega) (by omega) dX6_orderHere_98 rfl (⟨_, _, ⟨by rw [hq] <;> rfl, by rw [hq], by rw [hq]⟩, hM, hF⟩)
            · skip
              refine lv_iconst (v := 1) hx hb dX6_orderHere_93 (by decide) ?_
              refine lv_goto (tgt := 98) hx hb dX6_orderHere_94 (by decide) ?_
              have hq : pOr (a 8) n pp (a 18) (5 * z) = (true, q87.2.1, q87.2.2) := by simp only [pOr, pEl, pTh, pWi, pKi, pRe, ← hq29, ← hq39, ← hq48, ← hq58, ← hq87, c32, c42, c51, c61, c70, c90, if_true, if_false, Bool.false_eq_true, reduceIte, decide_true, decide_false] <;> exact q3_e (by assumption)
              exact k_zret hx hb hr hlocks hQ hP hS (by omega) (by omega) dX6_orderHere_98 rfl (⟨_, _, ⟨by rw [hq] <;> rfl, by rw [hq], by rw [hq]⟩, hM, hF⟩)
          · skip
            refine lv_aload_n hx hb dX6_orderHere_73 rfl (lv_at hl 1 rfl) ?_
            refine tw_cR hx hb hml hown hts (val := (pHe (a 8) n q58.2.1)) (CX6_here l0 E w h ad (va_up f 17 (nI q58.2.1)) (va_up a 18 q58.2.2) n q58.2.1 hM hn9 rfl hn60 (by omega)) (cwV 0 hts (lw_V q1884 q1886 qs60 q81 q1887) rfl rfl rfl dyX6_here ⟨Nat.le_of_ble_eq_true rfl, Nat.le_of_ble_eq_true rfl⟩) hG hP hS hM (As := []) (rest := []) rfl hl.1 rfl (lv_room (Nat.le_of_ble_eq_true rfl)) dX6_orderHere_74 ⟨by omega, by omega⟩ (fun H locs hP hS => ?_)
            refine lv_bipush (v := 45) hx hb dX6_orderHere_77 (by decide) ?_
            refine lv_icmp_ne (tgt := 93) hx hb dX6_orderHere_79 (by decide) (fun c79 => ?_) (fun c79 => ?_)
            · skip
              refine lv_iconst (v := 1) hx hb dX6_orderHere_93 (by decide) ?_
              refine lv_goto (tgt := 98) hx hb dX6_orderHere_94 (by decide) ?_
              have hq : pOr (a 8) n pp (a 18) (5 * z) = (true, q58.2.1, q58.2.2) := by simp only [pOr, pEl, pTh, pWi, pKi, pRe, ← hq29, ← hq39, ← hq48, ← hq58, c32, c42, c51, c61, c70, c79, if_true, if_false, Bool.false_eq_true, reduceIte, decide_true, decide_false] <;> exact q3_e (by assumption)
              exact k_zret hx hb hr hlocks hQ hP hS (by omega) (by omega) dX6_orderHere_98 rfl (⟨_, _, ⟨by rw [hq] <;> rfl, by rw [hq], by rw [hq]⟩, hM, hF⟩)
            · skip
              refine lv_aload_n hx hb dX6_orderHere_82 rfl (lv_at hl 1 rfl) ?_
              refine lv_iload_n hx hb dX6_orderHere_83 rfl (lv_at hl 0 rfl) ?_
              refine lv_iconst (v := 3) hx hb dX6_orderHere_84 (by decide) ?_
              refine k_iaddN (x := 5 * z) (y := 3) hx hb dX6_orderHere_85 ?_
              refine lv_iconst (v := 1) hx hb dX6_orderHere_86 (by decide) ?_
              refine tw_cW hx hb hml hown hts (CX6_signed l0 E w h ad (va_up f 17 (nI q58.2.1)) (va_up a 18 q58.2.2) n q58.2.1 (5 * z + 3) true hM hn9 rfl hn60 (by omega) (by omega)) (cwV 2 hts (lw_V q1896 q1898 qs63 q81 q1899) rfl rfl rfl dyX6_signed ⟨Nat.le_of_ble_eq_true rfl, Nat.le_of_ble_eq_true rfl⟩) hG hP hS hM hF (As := [.int (nI (5 * z + 3)), .int 1]) (rest := []) rfl hl.1 rfl (lv_room (Nat.le_of_ble_eq_true rfl)) dX6_orderHere_87 ⟨by omega, by omega⟩ (fun r87 f87 a87 w H locs hp hM hF hP hS => ?_)
              obtain ⟨hp0, hp1, hp2⟩ := hp
              obtain ⟨q87, hq87⟩ : ∃ z9 : q3, z9 = pSg (a 8) n q58.2.1 q58.2.2 (5 * z + 3) true := ⟨_, rfl⟩
              have hp0 : r87 = bI q87.1 := by rw [hq87]; exact hp0
              have hM : tM E w h ad (va_up (va_up f 17 (nI q58.2.1)) 17 (nI q87.2.1)) (va_up (va_up a 18 q58.2.2) 18 q87.2.2) := hM.ofF (by rw [hq87]; exact hp1) (by rw [hq87]; exact hp2)
              have hM : tM E w h ad (va_up (va_up f 17 (nI q58.2.1)) 17 (nI q87.2.1)) (va_up a 18 q87.2.2) := hM.uu
              have hM : tM E w h ad (va_up (va_up f 17 (nI q58.2.1)) 17 (nI q87.2.1)) (va_up a 18 q87.2.2) := hM
              have hM : tM E w h ad (va_up f 17 (nI q87.2.1)) (va_up a 18 q87.2.2) := hM.ofF (by rw [bx_uu]) rfl
              obtain ⟨hl87, hu87⟩ : q58.2.1 ≤ q87.2.1 ∧ q87.2.1 ≤ n := by rw [hq87]; exact pSg_G (by omega)
              refine k_top (y := (bI q87.1)) hp0 ?_
              refine k_ifeqB (x := q87.1) (tgt := 97) hx hb dX6_orderHere_90 (by decide) (fun c90 => ?_) (fun c90 => ?_)
              · skip
                refine lv_iconst (v := 0) hx hb dX6_orderHere_97 (by decide) ?_
                have hq : pOr (a 8) n pp (a 18) (5 * z) = (false, q87.2.1, q87.2.2) := by simp only [pOr, pEl, pTh, pWi, pKi, pRe, ← hq29, ← hq39, ← hq48, ← hq58, ← hq87, c32, c42, c51, c61, c70, c79, c90, if_true, if_false, Bool.false_eq_true, reduceIte, decide_true, decide_false] <;> exact q3_e (by assumption)
                exact k_zret hx hb hr hlocks hQ hP hS (by omega) (by omega) dX6_orderHere_98 rfl (⟨_, _, ⟨by rw [hq] <;> rfl, by rw [hq], by rw [hq]⟩, hM, hF⟩)
              · skip
                refine lv_iconst (v := 1) hx hb dX6_orderHere_93 (by decide) ?_
                refine lv_goto (tgt := 98) hx hb dX6_orderHere_94 (by decide) ?_
                have hq : pOr (a 8) n pp (a 18) (5 * z) = (true, q87.2.1, q87.2.2) := by simp only [pOr, pEl, pTh, pWi, pKi, pRe, ← hq29, ← hq39, ← hq48, ← hq58, ← hq87, c32, c42, c51, c61, c70, c79, c90, if_true, if_false, Bool.false_eq_true, reduceIte, decide_true, decide_false] <;> exact q3_e (by assumption)
                exact k_zret hx hb hr hlocks hQ hP hS (by omega) (by omega) dX6_orderHere_98 rfl (⟨_, _, ⟨by rw [hq] <;> rfl, by rw [hq], by rw [hq]⟩, hM, hF⟩)
