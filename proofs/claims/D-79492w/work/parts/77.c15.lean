/-! THE COMPONENT, 19: orders, what may be -/
set_option maxRecDepth 100000
abbrev rmCX11_init : Room := { frames := 1, cells := 0, slots := 0, locals := 32 }
theorem dyX11_init : yX11_init.cls = RX11 ∧ yX11_init.cls ≠ "java/lang/invoke/MethodHandle" ∧ yX11_init.cls ≠ "java/lang/invoke/VarHandle" ∧ (parseMethodDescriptor yX11_init.desc).map (fun d => d.parameters.length) = some 3 := by decide +kernel
set_option maxHeartbeats 4000000 in
theorem CX11_init (l0 : Launch) (E : gE) (w : wd) (y : Nat) (ta9 : Nat × Nat) (x1 : Int32) (x2 : Int32) (x3 : Int32) (h1 : w y = some (ta9, .inr (9, [.int 0, .int 0, .int 0]))) : kC l0 yX11_init (ws_ yX11_init cX11_init 4 none) rmCX11_init 0 0 mV E w [.ref y, .int x1, .int x2, .int x3] (fun r w' => (True) ∧ (w' y = some (ta9, .inr (9, [.int x1, .int x2, .int x3])) ∧ True) ∧ fr (pO ta9) w w') := by
  refine k_open (cc := cX11_init) (maxL := 4) (ret := none) (by decide) rfl (Nat.le_of_ble_eq_true rfl) ?_
  intro p e s m args below meth c ls Q hx hb hr hml hown hts hlocks hname hQ hG hP hl hS
  have hl : lv_has ls 4 [(0, .ref y), (1, .int x1), (2, .int x2), (3, .int x3)] := hl
  obtain ⟨w0, hw0⟩ : ∃ z, z = w := ⟨_, rfl⟩
  have hF : fr (pO ta9) w0 w := by rw [hw0]; exact fr.rf
  rw [← hw0] at hQ
  refine lv_aload_n hx hb dX11_init_0 rfl (lv_at hl 0 rfl) ?_
  refine W.objInit hx hb hown (hts _ q1408) (hts _ q115) (hts _ q116) rfl (by rw [hml]; exact hl.1) rfl dX11_init_1 (Nat.le_of_ble_eq_true rfl) (Nat.le_of_ble_eq_true rfl) ?_
  refine W.eq (g2 := F0 m 4 ls []) rfl ?_
  refine lv_aload_n hx hb dX11_init_4 rfl (lv_at hl 0 rfl) ?_
  refine lv_iload_n hx hb dX11_init_5 rfl (lv_at hl 1 rfl) ?_
  refine k_putFW hx hb hts in_X11 tyX11 tyX11_ok nmX11 hown hG hP hS h1 rfl 0 (by decide) (hts _ q1409) (fun _ h9 => h9) rfl hname rfl (ty := .int) (v := .int x1) rfl rfl rfl (Nat.le_of_ble_eq_true rfl) dX11_init_6 (fun w1 H locs h9 hf9 hP hS => ?_)
  have h1 : w1 y = some (ta9, .inr (9, [.int x1, .int 0, .int 0])) := h9
  have hF : fr (pO ta9) w0 w1 := hF.tr (hf9.up (fun _ h9 => h9))
  refine lv_aload_n hx hb dX11_init_9 rfl (lv_at hl 0 rfl) ?_
  refine lv_iload_n hx hb dX11_init_10 rfl (lv_at hl 2 rfl) ?_
  refine k_putFW hx hb hts in_X11 tyX11 tyX11_ok nmX11 hown hG hP hS h1 rfl 1 (by decide) (hts _ q1411) (fun _ h9 => h9) rfl hname rfl (ty := .int) (v := .int x2) rfl rfl rfl (Nat.le_of_ble_eq_true rfl) dX11_init_11 (fun w2 H locs h9 hf9 hP hS => ?_)
  have h1 : w2 y = some (ta9, .inr (9, [.int x1, .int x2, .int 0])) := h9
  have hF : fr (pO ta9) w0 w2 := hF.tr (hf9.up (fun _ h9 => h9))
  refine lv_aload_n hx hb dX11_init_14 rfl (lv_at hl 0 rfl) ?_
  refine lv_iload_n hx hb dX11_init_15 rfl (lv_at hl 3 rfl) ?_
  refine k_putFW hx hb hts in_X11 tyX11 tyX11_ok nmX11 hown hG hP hS h1 rfl 2 (by decide) (hts _ q1413) (fun _ h9 => h9) rfl hname rfl (ty := .int) (v := .int x3) rfl rfl rfl (Nat.le_of_ble_eq_true rfl) dX11_init_16 (fun w3 H locs h9 hf9 hP hS => ?_)
  have h1 : w3 y = some (ta9, .inr (9, [.int x1, .int x2, .int x3])) := h9
  have hF : fr (pO ta9) w0 w3 := hF.tr (hf9.up (fun _ h9 => h9))
  exact k_vret hx hb hr hlocks hQ hP hS (by omega) (by omega) dX11_init_19 (⟨trivial, ⟨h1, trivial⟩, hF⟩)

abbrev rmCX12_init : Room := { frames := 1, cells := 0, slots := 0, locals := 32 }
theorem dyX12_init : yX12_init.cls = RX12 ∧ yX12_init.cls ≠ "java/lang/invoke/MethodHandle" ∧ yX12_init.cls ≠ "java/lang/invoke/VarHandle" ∧ (parseMethodDescriptor yX12_init.desc).map (fun d => d.parameters.length) = some 4 := by decide +kernel
set_option maxHeartbeats 4000000 in
theorem CX12_init (l0 : Launch) (E : gE) (w : wd) (y : Nat) (ta9 : Nat × Nat) (x1 : Int32) (x2 : Int32) (x3 : Int32) (x4 : Int32) (h1 : w y = some (ta9, .inr (10, [.int 0, .int 0, .int 0, .int 0]))) : kC l0 yX12_init (ws_ yX12_init cX12_init 5 none) rmCX12_init 0 0 mV E w [.ref y, .int x1, .int x2, .int x3, .int x4] (fun r w' => (True) ∧ (w' y = some (ta9, .inr (10, [.int x1, .int x2, .int x3, .int x4])) ∧ True) ∧ fr (pO ta9) w w') := by
  refine k_open (cc := cX12_init) (maxL := 5) (ret := none) (by decide) rfl (Nat.le_of_ble_eq_true rfl) ?_
  intro p e s m args below meth c ls Q hx hb hr hml hown hts hlocks hname hQ hG hP hl hS
  have hl : lv_has ls 5 [(0, .ref y), (1, .int x1), (2, .int x2), (3, .int x3), (4, .int x4)] := hl
  obtain ⟨w0, hw0⟩ : ∃ z, z = w := ⟨_, rfl⟩
  have hF : fr (pO ta9) w0 w := by rw [hw0]; exact fr.rf
  rw [← hw0] at hQ
  refine lv_aload_n hx hb dX12_init_0 rfl (lv_at hl 0 rfl) ?_
  refine W.objInit hx hb hown (hts _ q1439) (hts _ q115) (hts _ q116) rfl (by rw [hml]; exact hl.1) rfl dX12_init_1 (Nat.le_of_ble_eq_true rfl) (Nat.le_of_ble_eq_true rfl) ?_
  refine W.eq (g2 := F0 m 4 ls []) rfl ?_
  refine lv_aload_n hx hb dX12_init_4 rfl (lv_at hl 0 rfl) ?_
  refine lv_iload_n hx hb dX12_init_5 rfl (lv_at hl 1 rfl) ?_
  refine k_putFW hx hb hts in_X12 tyX12 tyX12_ok nmX12 hown hG hP hS h1 rfl 0 (by decide) (hts _ q1440) (fun _ h9 => h9) rfl hname rfl (ty := .int) (v := .int x1) rfl rfl rfl (Nat.le_of_ble_eq_true rfl) dX12_init_6 (fun w1 H locs h9 hf9 hP hS => ?_)
  have h1 : w1 y = some (ta9, .inr (10, [.int x1, .int 0, .int 0, .int 0])) := h9
  have hF : fr (pO ta9) w0 w1 := hF.tr (hf9.up (fun _ h9 => h9))
  refine lv_aload_n hx hb dX12_init_9 rfl (lv_at hl 0 rfl) ?_
  refine lv_iload_n hx hb dX12_init_10 rfl (lv_at hl 2 rfl) ?_
  refine k_putFW hx hb hts in_X12 tyX12 tyX12_ok nmX12 hown hG hP hS h1 rfl 1 (by decide) (hts _ q1442) (fun _ h9 => h9) rfl hname rfl (ty := .int) (v := .int x2) rfl rfl rfl (Nat.le_of_ble_eq_true rfl) dX12_init_11 (fun w2 H locs h9 hf9 hP hS => ?_)
  have h1 : w2 y = some (ta9, .inr (10, [.int x1, .int x2, .int 0, .int 0])) := h9
  have hF : fr (pO ta9) w0 w2 := hF.tr (hf9.up (fun _ h9 => h9))
  refine lv_aload_n hx hb dX12_init_14 rfl (lv_at hl 0 rfl) ?_
  refine lv_iload_n hx hb dX12_init_15 rfl (lv_at hl 3 rfl) ?_
  refine k_putFW hx hb hts in_X12 tyX12 tyX12_ok nmX12 hown hG hP hS h1 rfl 2 (by decide) (hts _ q1444) (fun _ h9 => h9) rfl hname rfl (ty := .int) (v := .int x3) rfl rfl rfl (Nat.le_of_ble_eq_true rfl) dX12_init_16 (fun w3 H locs h9 hf9 hP hS => ?_)
  have h1 : w3 y = some (ta9, .inr (10, [.int x1, .int x2, .int x3, .int 0])) := h9
  have hF : fr (pO ta9) w0 w3 := hF.tr (hf9.up (fun _ h9 => h9))
  refine lv_aload_n hx hb dX12_init_19 rfl (lv_at hl 0 rfl) ?_
  refine lv_iload hx hb dX12_init_20 (lv_at hl 4 rfl) ?_
  refine k_putFW hx hb hts in_X12 tyX12 tyX12_ok nmX12 hown hG hP hS h1 rfl 3 (by decide) (hts _ q1446) (fun _ h9 => h9) rfl hname rfl (ty := .int) (v := .int x4) rfl rfl rfl (Nat.le_of_ble_eq_true rfl) dX12_init_22 (fun w4 H locs h9 hf9 hP hS => ?_)
  have h1 : w4 y = some (ta9, .inr (10, [.int x1, .int x2, .int x3, .int x4])) := h9
  have hF : fr (pO ta9) w0 w4 := hF.tr (hf9.up (fun _ h9 => h9))
  exact k_vret hx hb hr hlocks hQ hP hS (by omega) (by omega) dX12_init_25 (⟨trivial, ⟨h1, trivial⟩, hF⟩)

abbrev rmCX13_init : Room := { frames := 1, cells := 0, slots := 0, locals := 32 }
theorem dyX13_init : yX13_init.cls = RX13 ∧ yX13_init.cls ≠ "java/lang/invoke/MethodHandle" ∧ yX13_init.cls ≠ "java/lang/invoke/VarHandle" ∧ (parseMethodDescriptor yX13_init.desc).map (fun d => d.parameters.length) = some 1 := by decide +kernel
set_option maxHeartbeats 4000000 in
theorem CX13_init (l0 : Launch) (E : gE) (w : wd) (y : Nat) (ta9 : Nat × Nat) (x1 : Int32) (h1 : w y = some (ta9, .inr (11, [.int 0]))) : kC l0 yX13_init (ws_ yX13_init cX13_init 2 none) rmCX13_init 0 0 mV E w [.ref y, .int x1] (fun r w' => (True) ∧ (w' y = some (ta9, .inr (11, [.int x1])) ∧ True) ∧ fr (pO ta9) w w') := by
  refine k_open (cc := cX13_init) (maxL := 2) (ret := none) (by decide) rfl (Nat.le_of_ble_eq_true rfl) ?_
  intro p e s m args below meth c ls Q hx hb hr hml hown hts hlocks hname hQ hG hP hl hS
  have hl : lv_has ls 2 [(0, .ref y), (1, .int x1)] := hl
  obtain ⟨w0, hw0⟩ : ∃ z, z = w := ⟨_, rfl⟩
  have hF : fr (pO ta9) w0 w := by rw [hw0]; exact fr.rf
  rw [← hw0] at hQ
  refine lv_aload_n hx hb dX13_init_0 rfl (lv_at hl 0 rfl) ?_
  refine W.objInit hx hb hown (hts _ q1462) (hts _ q115) (hts _ q116) rfl (by rw [hml]; exact hl.1) rfl dX13_init_1 (Nat.le_of_ble_eq_true rfl) (Nat.le_of_ble_eq_true rfl) ?_
  refine W.eq (g2 := F0 m 4 ls []) rfl ?_
  refine lv_aload_n hx hb dX13_init_4 rfl (lv_at hl 0 rfl) ?_
  refine lv_iload_n hx hb dX13_init_5 rfl (lv_at hl 1 rfl) ?_
  refine k_putFW hx hb hts in_X13 tyX13 tyX13_ok nmX13 hown hG hP hS h1 rfl 0 (by decide) (hts _ q1463) (fun _ h9 => h9) rfl hname rfl (ty := .int) (v := .int x1) rfl rfl rfl (Nat.le_of_ble_eq_true rfl) dX13_init_6 (fun w1 H locs h9 hf9 hP hS => ?_)
  have h1 : w1 y = some (ta9, .inr (11, [.int x1])) := h9
  have hF : fr (pO ta9) w0 w1 := hF.tr (hf9.up (fun _ h9 => h9))
  exact k_vret hx hb hr hlocks hQ hP hS (by omega) (by omega) dX13_init_9 (⟨trivial, ⟨h1, trivial⟩, hF⟩)

abbrev rmCX14_init : Room := { frames := 1, cells := 0, slots := 0, locals := 32 }
theorem dyX14_init : yX14_init.cls = RX14 ∧ yX14_init.cls ≠ "java/lang/invoke/MethodHandle" ∧ yX14_init.cls ≠ "java/lang/invoke/VarHandle" ∧ (parseMethodDescriptor yX14_init.desc).map (fun d => d.parameters.length) = some 2 := by decide +kernel
set_option maxHeartbeats 4000000 in
theorem CX14_init (l0 : Launch) (E : gE) (w : wd) (y : Nat) (ta9 : Nat × Nat) (x1 : Int32) (x2 : Int32) (h1 : w y = some (ta9, .inr (12, [.int 0, .int 0]))) : kC l0 yX14_init (ws_ yX14_init cX14_init 3 none) rmCX14_init 0 0 mV E w [.ref y, .int x1, .int x2] (fun r w' => (True) ∧ (w' y = some (ta9, .inr (12, [.int x1, .int x2])) ∧ True) ∧ fr (pO ta9) w w') := by
  refine k_open (cc := cX14_init) (maxL := 3) (ret := none) (by decide) rfl (Nat.le_of_ble_eq_true rfl) ?_
  intro p e s m args below meth c ls Q hx hb hr hml hown hts hlocks hname hQ hG hP hl hS
  have hl : lv_has ls 3 [(0, .ref y), (1, .int x1), (2, .int x2)] := hl
  obtain ⟨w0, hw0⟩ : ∃ z, z = w := ⟨_, rfl⟩
  have hF : fr (pO ta9) w0 w := by rw [hw0]; exact fr.rf
  rw [← hw0] at hQ
  refine lv_aload_n hx hb dX14_init_0 rfl (lv_at hl 0 rfl) ?_
  refine W.objInit hx hb hown (hts _ q1473) (hts _ q115) (hts _ q116) rfl (by rw [hml]; exact hl.1) rfl dX14_init_1 (Nat.le_of_ble_eq_true rfl) (Nat.le_of_ble_eq_true rfl) ?_
  refine W.eq (g2 := F0 m 4 ls []) rfl ?_
  refine lv_aload_n hx hb dX14_init_4 rfl (lv_at hl 0 rfl) ?_
  refine lv_iload_n hx hb dX14_init_5 rfl (lv_at hl 1 rfl) ?_
  refine k_putFW hx hb hts in_X14 tyX14 tyX14_ok nmX14 hown hG hP hS h1 rfl 0 (by decide) (hts _ q1474) (fun _ h9 => h9) rfl hname rfl (ty := .int) (v := .int x1) rfl rfl rfl (Nat.le_of_ble_eq_true rfl) dX14_init_6 (fun w1 H locs h9 hf9 hP hS => ?_)
  have h1 : w1 y = some (ta9, .inr (12, [.int x1, .int 0])) := h9
  have hF : fr (pO ta9) w0 w1 := hF.tr (hf9.up (fun _ h9 => h9))
  refine lv_aload_n hx hb dX14_init_9 rfl (lv_at hl 0 rfl) ?_
  refine lv_iload_n hx hb dX14_init_10 rfl (lv_at hl 2 rfl) ?_
  refine k_putFW hx hb hts in_X14 tyX14 tyX14_ok nmX14 hown hG hP hS h1 rfl 1 (by decide) (hts _ q1476) (fun _ h9 => h9) rfl hname rfl (ty := .int) (v := .int x2) rfl rfl rfl (Nat.le_of_ble_eq_true rfl) dX14_init_11 (fun w2 H locs h9 hf9 hP hS => ?_)
  have h1 : w2 y = some (ta9, .inr (12, [.int x1, .int x2])) := h9
  have hF : fr (pO ta9) w0 w2 := hF.tr (hf9.up (fun _ h9 => h9))
  exact k_vret hx hb hr hlocks hQ hP hS (by omega) (by omega) dX14_init_14 (⟨trivial, ⟨h1, trivial⟩, hF⟩)

abbrev rmCX15_init : Room := { frames := 1, cells := 0, slots := 0, locals := 32 }
theorem dyX15_init : yX15_init.cls = RX15 ∧ yX15_init.cls ≠ "java/lang/invoke/MethodHandle" ∧ yX15_init.cls ≠ "java/lang/invoke/VarHandle" ∧ (parseMethodDescriptor yX15_init.desc).map (fun d => d.parameters.length) = some 1 := by decide +kernel
set_option maxHeartbeats 4000000 in
theorem CX15_init (l0 : Launch) (E : gE) (w : wd) (y : Nat) (ta9 : Nat × Nat) (x1 : Int32) (h1 : w y = some (ta9, .inr (13, [.int 0]))) : kC l0 yX15_init (ws_ yX15_init cX15_init 2 none) rmCX15_init 0 0 mV E w [.ref y, .int x1] (fun r w' => (True) ∧ (w' y = some (ta9, .inr (13, [.int x1])) ∧ True) ∧ fr (pO ta9) w w') := by
  refine k_open (cc := cX15_init) (maxL := 2) (ret := none) (by decide) rfl (Nat.le_of_ble_eq_true rfl) ?_
  intro p e s m args below meth c ls Q hx hb hr hml hown hts hlocks hname hQ hG hP hl hS
  have hl : lv_has ls 2 [(0, .ref y), (1, .int x1)] := hl
  obtain ⟨w0, hw0⟩ : ∃ z, z = w := ⟨_, rfl⟩
  have hF : fr (pO ta9) w0 w := by rw [hw0]; exact fr.rf
  rw [← hw0] at hQ
  refine lv_aload_n hx hb dX15_init_0 rfl (lv_at hl 0 rfl) ?_
  refine W.objInit hx hb hown (hts _ q1488) (hts _ q115) (hts _ q116) rfl (by rw [hml]; exact hl.1) rfl dX15_init_1 (Nat.le_of_ble_eq_true rfl) (Nat.le_of_ble_eq_true rfl) ?_
  refine W.eq (g2 := F0 m 4 ls []) rfl ?_
  refine lv_aload_n hx hb dX15_init_4 rfl (lv_at hl 0 rfl) ?_
  refine lv_iload_n hx hb dX15_init_5 rfl (lv_at hl 1 rfl) ?_
  refine k_putFW hx hb hts in_X15 tyX15 tyX15_ok nmX15 hown hG hP hS h1 rfl 0 (by decide) (hts _ q1489) (fun _ h9 => h9) rfl hname rfl (ty := .int) (v := .int x1) rfl rfl rfl (Nat.le_of_ble_eq_true rfl) dX15_init_6 (fun w1 H locs h9 hf9 hP hS => ?_)
  have h1 : w1 y = some (ta9, .inr (13, [.int x1])) := h9
  have hF : fr (pO ta9) w0 w1 := hF.tr (hf9.up (fun _ h9 => h9))
  exact k_vret hx hb hr hlocks hQ hP hS (by omega) (by omega) dX15_init_9 (⟨trivial, ⟨h1, trivial⟩, hF⟩)

abbrev rmCX1_isLayer : Room := { frames := 1, cells := 0, slots := 0, locals := 22 }
theorem dyX1_isLayer : yX1_isLayer.cls ≠ "java/lang/invoke/MethodHandle" ∧ yX1_isLayer.cls ≠ "java/lang/invoke/VarHandle" ∧ (parseMethodDescriptor yX1_isLayer.desc).map (fun d => d.parameters.length) = some 1 := by decide +kernel
set_option maxHeartbeats 4000000 in
theorem CX1_isLayer (l0 : Launch) (E : gE) (w : wd) (x : Int32) : kC l0 yX1_isLayer (ws_ yX1_isLayer cX1_isLayer 1 (some .boolean)) rmCX1_isLayer 0 0 mI E w [.int x] (fun r w' => w' = w ∧ r = (bI (tin x 0 9))) := by
  refine k_open (cc := cX1_isLayer) (maxL := 1) (ret := (some .boolean)) (by decide) rfl (Nat.le_of_ble_eq_true rfl) ?_
  intro p e s m args below meth c ls Q hx hb hr hml hown hts hlocks hname hQ hG hP hl hS
  have hl : lv_has ls 1 [(0, .int x)] := hl
  refine lv_iload_n hx hb dX1_isLayer_0 rfl (lv_at hl 0 rfl) ?_
  refine lv_iconst (v := 0) hx hb dX1_isLayer_1 (by decide) ?_
  refine lv_bipush (v := 9) hx hb dX1_isLayer_2 (by decide) ?_
  refine k_cS hx hb hml hown hts (CX1_in l0 E w x 0 9) (va_cwS 3 hts (lw_S q453 q454 q69 q455) rfl rfl rfl dyX1_in ⟨Nat.le_of_ble_eq_true rfl, Nat.le_of_ble_eq_true rfl⟩) hG hP hS (As := [.int x, .int 0, .int 9]) (rest := []) rfl hl.1 rfl (lv_room (Nat.le_of_ble_eq_true rfl)) dX1_isLayer_4 ⟨show 0 + 0 ≤ 0 from by omega, show 0 + 0 ≤ 0 from by omega⟩ (fun r9 w9 H locs hp hP hS => ?_)
  obtain ⟨hp1, hp0⟩ := hp
  rw [hp1] at hP
  rw [hp0]
  show W p l0 e rmCX1_isLayer s m args below meth c H locs 0 0 Q (F0 m 7 ls [.int (bI (tin x 0 9))])
  exact k_zret hx hb hr hlocks hQ hP hS (by omega) (by omega) dX1_isLayer_7 (bI_nar _) (⟨rfl, rfl⟩)

abbrev rmCX1_isWind : Room := { frames := 1, cells := 0, slots := 0, locals := 22 }
theorem dyX1_isWind : yX1_isWind.cls ≠ "java/lang/invoke/MethodHandle" ∧ yX1_isWind.cls ≠ "java/lang/invoke/VarHandle" ∧ (parseMethodDescriptor yX1_isWind.desc).map (fun d => d.parameters.length) = some 2 := by decide +kernel
set_option maxHeartbeats 4000000 in
theorem CX1_isWind (l0 : Launch) (E : gE) (w : wd) (x : Int32) (x2 : Int32) : kC l0 yX1_isWind (ws_ yX1_isWind cX1_isWind 2 (some .boolean)) rmCX1_isWind 0 0 mI E w [.int x, .int x2] (fun r w' => w' = w ∧ r = (bI (tin x 0 9 && tin x2 (-3) 3))) := by
  refine k_open (cc := cX1_isWind) (maxL := 2) (ret := (some .boolean)) (by decide) rfl (Nat.le_of_ble_eq_true rfl) ?_
  intro p e s m args below meth c ls Q hx hb hr hml hown hts hlocks hname hQ hG hP hl hS
  have hl : lv_has ls 2 [(0, .int x), (1, .int x2)] := hl
  refine lv_iload_n hx hb dX1_isWind_0 rfl (lv_at hl 0 rfl) ?_
  refine lv_iconst (v := 0) hx hb dX1_isWind_1 (by decide) ?_
  refine lv_bipush (v := 9) hx hb dX1_isWind_2 (by decide) ?_
  refine k_cS hx hb hml hown hts (CX1_in l0 E w x 0 9) (va_cwS 3 hts (lw_S q453 q454 q69 q455) rfl rfl rfl dyX1_in ⟨Nat.le_of_ble_eq_true rfl, Nat.le_of_ble_eq_true rfl⟩) hG hP hS (As := [.int x, .int 0, .int 9]) (rest := []) rfl hl.1 rfl (lv_room (Nat.le_of_ble_eq_true rfl)) dX1_isWind_4 ⟨show 0 + 0 ≤ 0 from by omega, show 0 + 0 ≤ 0 from by omega⟩ (fun r9 w9 H locs hp hP hS => ?_)
  obtain ⟨hp1, hp0⟩ := hp
  rw [hp1] at hP
  rw [hp0]
  show W p l0 e rmCX1_isWind s m args below meth c H locs 0 0 Q (F0 m 7 ls [.int (bI (tin x 0 9))])
  refine k_ifeqB (x := tin x 0 9) (tgt := 24) hx hb dX1_isWind_7 (by decide) (fun c7 => ?_) (fun c7 => ?_)
  · skip
    refine lv_iconst (v := 0) hx hb dX1_isWind_24 (by decide) ?_
    exact k_zret hx hb hr hlocks hQ hP hS (by omega) (by omega) dX1_isWind_25 rfl (⟨rfl, by first | (simp [bI, c7]; done) | (simp_all [bI]; done)⟩)
  · skip
    refine lv_iload_n hx hb dX1_isWind_10 rfl (lv_at hl 1 rfl) ?_
    refine lv_bipush (v := (-3)) hx hb dX1_isWind_11 (by decide) ?_
    refine lv_iconst (v := 3) hx hb dX1_isWind_13 (by decide) ?_
    refine k_cS hx hb hml hown hts (CX1_in l0 E w x2 (-3) 3) (va_cwS 3 hts (lw_S q453 q454 q69 q455) rfl rfl rfl dyX1_in ⟨Nat.le_of_ble_eq_true rfl, Nat.le_of_ble_eq_true rfl⟩) hG hP hS (As := [.int x2, .int (-3), .int 3]) (rest := []) rfl hl.1 rfl (lv_room (Nat.le_of_ble_eq_true rfl)) dX1_isWind_14 ⟨show 0 + 0 ≤ 0 from by omega, show 0 + 0 ≤ 0 from by omega⟩ (fun r9 w9 H locs hp hP hS => ?_)
    obtain ⟨hp1, hp0⟩ := hp
    rw [hp1] at hP
    rw [hp0]
    show W p l0 e rmCX1_isWind s m args below meth c H locs 0 0 Q (F0 m 17 ls [.int (bI (tin x2 (-3) 3))])
    refine k_ifeqB (x := tin x2 (-3) 3) (tgt := 24) hx hb dX1_isWind_17 (by decide) (fun c17 => ?_) (fun c17 => ?_)
    · skip
      refine lv_iconst (v := 0) hx hb dX1_isWind_24 (by decide) ?_
      exact k_zret hx hb hr hlocks hQ hP hS (by omega) (by omega) dX1_isWind_25 rfl (⟨rfl, by first | (simp [bI, c7, c17]; done) | (simp_all [bI]; done)⟩)
    · skip
      refine lv_iconst (v := 1) hx hb dX1_isWind_20 (by decide) ?_
      refine lv_goto (tgt := 25) hx hb dX1_isWind_21 (by decide) ?_
      exact k_zret hx hb hr hlocks hQ hP hS (by omega) (by omega) dX1_isWind_25 rfl (⟨rfl, by first | (simp [bI, c7, c17]; done) | (simp_all [bI]; done)⟩)

abbrev rmCX1_mayBeKite : Room := { frames := 1, cells := 0, slots := 0, locals := 22 }
theorem dyX1_mayBeKite : yX1_mayBeKite.cls ≠ "java/lang/invoke/MethodHandle" ∧ yX1_mayBeKite.cls ≠ "java/lang/invoke/VarHandle" ∧ (parseMethodDescriptor yX1_mayBeKite.desc).map (fun d => d.parameters.length) = some 4 := by decide +kernel
set_option maxHeartbeats 4000000 in
theorem CX1_mayBeKite (l0 : Launch) (E : gE) (w : wd) (x1 : Int32) (x2 : Int32) (x3 : Int32) (x4 : Int32) : kC l0 yX1_mayBeKite (ws_ yX1_mayBeKite cX1_mayBeKite 4 (some .boolean)) rmCX1_mayBeKite 0 0 mI E w [.int x1, .int x2, .int x3, .int x4] (fun r w' => w' = w ∧ r = (bI (tin x1 0 2 && (tin x2 0 40 && (tin x3 10 99 && tin x4 0 9))))) := by
  refine k_open (cc := cX1_mayBeKite) (maxL := 4) (ret := (some .boolean)) (by decide) rfl (Nat.le_of_ble_eq_true rfl) ?_
  intro p e s m args below meth c ls Q hx hb hr hml hown hts hlocks hname hQ hG hP hl hS
  have hl : lv_has ls 4 [(0, .int x1), (1, .int x2), (2, .int x3), (3, .int x4)] := hl
  refine lv_iload_n hx hb dX1_mayBeKite_0 rfl (lv_at hl 0 rfl) ?_
  refine lv_iconst (v := 0) hx hb dX1_mayBeKite_1 (by decide) ?_
  refine lv_iconst (v := 2) hx hb dX1_mayBeKite_2 (by decide) ?_
  refine k_cS hx hb hml hown hts (CX1_in l0 E w x1 0 2) (va_cwS 3 hts (lw_S q453 q454 q69 q455) rfl rfl rfl dyX1_in ⟨Nat.le_of_ble_eq_true rfl, Nat.le_of_ble_eq_true rfl⟩) hG hP hS (As := [.int x1, .int 0, .int 2]) (rest := []) rfl hl.1 rfl (lv_room (Nat.le_of_ble_eq_true rfl)) dX1_mayBeKite_3 ⟨show 0 + 0 ≤ 0 from by omega, show 0 + 0 ≤ 0 from by omega⟩ (fun r9 w9 H locs hp hP hS => ?_)
  obtain ⟨hp1, hp0⟩ := hp
  rw [hp1] at hP
  rw [hp0]
  show W p l0 e rmCX1_mayBeKite s m args below meth c H locs 0 0 Q (F0 m 6 ls [.int (bI (tin x1 0 2))])
  refine k_ifeqB (x := tin x1 0 2) (tgt := 44) hx hb dX1_mayBeKite_6 (by decide) (fun c6 => ?_) (fun c6 => ?_)
  · skip
    refine lv_iconst (v := 0) hx hb dX1_mayBeKite_44 (by decide) ?_
    exact k_zret hx hb hr hlocks hQ hP hS (by omega) (by omega) dX1_mayBeKite_45 rfl (⟨rfl, by first | (simp [bI, c6]; done) | (simp_all [bI]; done)⟩)
  · skip
    refine lv_iload_n hx hb dX1_mayBeKite_9 rfl (lv_at hl 1 rfl) ?_
    refine lv_iconst (v := 0) hx hb dX1_mayBeKite_10 (by decide) ?_
    refine lv_bipush (v := 40) hx hb dX1_mayBeKite_11 (by decide) ?_
    refine k_cS hx hb hml hown hts (CX1_in l0 E w x2 0 40) (va_cwS 3 hts (lw_S q453 q454 q69 q455) rfl rfl rfl dyX1_in ⟨Nat.le_of_ble_eq_true rfl, Nat.le_of_ble_eq_true rfl⟩) hG hP hS (As := [.int x2, .int 0, .int 40]) (rest := []) rfl hl.1 rfl (lv_room (Nat.le_of_ble_eq_true rfl)) dX1_mayBeKite_13 ⟨show 0 + 0 ≤ 0 from by omega, show 0 + 0 ≤ 0 from by omega⟩ (fun r9 w9 H locs hp hP hS => ?_)
    obtain ⟨hp1, hp0⟩ := hp
    rw [hp1] at hP
    rw [hp0]
    show W p l0 e rmCX1_mayBeKite s m args below meth c H locs 0 0 Q (F0 m 16 ls [.int (bI (tin x2 0 40))])
    refine k_ifeqB (x := tin x2 0 40) (tgt := 44) hx hb dX1_mayBeKite_16 (by decide) (fun c16 => ?_) (fun c16 => ?_)
    · skip
      refine lv_iconst (v := 0) hx hb dX1_mayBeKite_44 (by decide) ?_
      exact k_zret hx hb hr hlocks hQ hP hS (by omega) (by omega) dX1_mayBeKite_45 rfl (⟨rfl, by first | (simp [bI, c6, c16]; done) | (simp_all [bI]; done)⟩)
    · skip
      refine lv_iload_n hx hb dX1_mayBeKite_19 rfl (lv_at hl 2 rfl) ?_
      refine lv_bipush (v := 10) hx hb dX1_mayBeKite_20 (by decide) ?_
      refine lv_bipush (v := 99) hx hb dX1_mayBeKite_22 (by decide) ?_
      refine k_cS hx hb hml hown hts (CX1_in l0 E w x3 10 99) (va_cwS 3 hts (lw_S q453 q454 q69 q455) rfl rfl rfl dyX1_in ⟨Nat.le_of_ble_eq_true rfl, Nat.le_of_ble_eq_true rfl⟩) hG hP hS (As := [.int x3, .int 10, .int 99]) (rest := []) rfl hl.1 rfl (lv_room (Nat.le_of_ble_eq_true rfl)) dX1_mayBeKite_24 ⟨show 0 + 0 ≤ 0 from by omega, show 0 + 0 ≤ 0 from by omega⟩ (fun r9 w9 H locs hp hP hS => ?_)
      obtain ⟨hp1, hp0⟩ := hp
      rw [hp1] at hP
      rw [hp0]
      show W p l0 e rmCX1_mayBeKite s m args below meth c H locs 0 0 Q (F0 m 27 ls [.int (bI (tin x3 10 99))])
      refine k_ifeqB (x := tin x3 10 99) (tgt := 44) hx hb dX1_mayBeKite_27 (by decide) (fun c27 => ?_) (fun c27 => ?_)
      · skip
        refine lv_iconst (v := 0) hx hb dX1_mayBeKite_44 (by decide) ?_
        exact k_zret hx hb hr hlocks hQ hP hS (by omega) (by omega) dX1_mayBeKite_45 rfl (⟨rfl, by first | (simp [bI, c6, c16, c27]; done) | (simp_all [bI]; done)⟩)
      · skip
        refine lv_iload_n hx hb dX1_mayBeKite_30 rfl (lv_at hl 3 rfl) ?_
        refine lv_iconst (v := 0) hx hb dX1_mayBeKite_31 (by decide) ?_
        refine lv_bipush (v := 9) hx hb dX1_mayBeKite_32 (by decide) ?_
        refine k_cS hx hb hml hown hts (CX1_in l0 E w x4 0 9) (va_cwS 3 hts (lw_S q453 q454 q69 q455) rfl rfl rfl dyX1_in ⟨Nat.le_of_ble_eq_true rfl, Nat.le_of_ble_eq_true rfl⟩) hG hP hS (As := [.int x4, .int 0, .int 9]) (rest := []) rfl hl.1 rfl (lv_room (Nat.le_of_ble_eq_true rfl)) dX1_mayBeKite_34 ⟨show 0 + 0 ≤ 0 from by omega, show 0 + 0 ≤ 0 from by omega⟩ (fun r9 w9 H locs hp hP hS => ?_)
        obtain ⟨hp1, hp0⟩ := hp
        rw [hp1] at hP
        rw [hp0]
        show W p l0 e rmCX1_mayBeKite s m args below meth c H locs 0 0 Q (F0 m 37 ls [.int (bI (tin x4 0 9))])
        refine k_ifeqB (x := tin x4 0 9) (tgt := 44) hx hb dX1_mayBeKite_37 (by decide) (fun c37 => ?_) (fun c37 => ?_)
        · skip
          refine lv_iconst (v := 0) hx hb dX1_mayBeKite_44 (by decide) ?_
          exact k_zret hx hb hr hlocks hQ hP hS (by omega) (by omega) dX1_mayBeKite_45 rfl (⟨rfl, by first | (simp [bI, c6, c16, c27, c37]; done) | (simp_all [bI]; done)⟩)
        · skip
          refine lv_iconst (v := 1) hx hb dX1_mayBeKite_40 (by decide) ?_
          refine lv_goto (tgt := 45) hx hb dX1_mayBeKite_41 (by decide) ?_
          exact k_zret hx hb hr hlocks hQ hP hS (by omega) (by omega) dX1_mayBeKite_45 rfl (⟨rfl, by first | (simp [bI, c6, c16, c27, c37]; done) | (simp_all [bI]; done)⟩)
