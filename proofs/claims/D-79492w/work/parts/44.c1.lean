/-! THE COMPONENT, 1: what kites do, what they are made of -/
set_option maxRecDepth 100000
abbrev rmCX5_init : Room := { frames := 1, cells := 0, slots := 0, locals := 32 }
theorem dyX5_init : yX5_init.cls = RX5 ∧ yX5_init.cls ≠ "java/lang/invoke/MethodHandle" ∧ yX5_init.cls ≠ "java/lang/invoke/VarHandle" ∧ (parseMethodDescriptor yX5_init.desc).map (fun d => d.parameters.length) = some 0 := by decide +kernel
set_option maxHeartbeats 4000000 in
theorem CX5_init (l0 : Launch) (E : gE) (w : wd) (y : Nat) (ta9 : Nat × Nat) (h1 : w y = some (ta9, .inr (4, []))) : kC l0 yX5_init (ws_ yX5_init cX5_init 1 none) rmCX5_init 0 0 mV E w [.ref y] (fun _ w' => w' = w ∧ True) := by
  refine k_open (cc := cX5_init) (maxL := 1) (ret := none) (by decide) rfl (Nat.le_of_ble_eq_true rfl) ?_
  intro p e s m args below meth c ls Q hx hb hr hml hown hts hlocks hname hQ hG hP hl hS
  have hl : lv_has ls 1 [(0, .ref y)] := hl
  refine lv_aload_n hx hb dX5_init_0 rfl (lv_at hl 0 rfl) ?_
  refine W.objInit hx hb hown (hts _ q137) (hts _ q115) (hts _ q116) rfl (by rw [hml]; exact hl.1) rfl dX5_init_1 (Nat.le_of_ble_eq_true rfl) (Nat.le_of_ble_eq_true rfl) ?_
  refine W.eq (g2 := F0 m 4 ls []) rfl ?_
  exact k_vret hx hb hr hlocks hQ hP hS (by omega) (by omega) dX5_init_4 (⟨rfl, trivial⟩)

abbrev rmCX7_init : Room := { frames := 1, cells := 0, slots := 0, locals := 32 }
theorem dyX7_init : yX7_init.cls = RX7 ∧ yX7_init.cls ≠ "java/lang/invoke/MethodHandle" ∧ yX7_init.cls ≠ "java/lang/invoke/VarHandle" ∧ (parseMethodDescriptor yX7_init.desc).map (fun d => d.parameters.length) = some 0 := by decide +kernel
set_option maxHeartbeats 4000000 in
theorem CX7_init (l0 : Launch) (E : gE) (w : wd) (y : Nat) (ta9 : Nat × Nat) (o : Int32) (e1 : Int32) (h1 : w y = some (ta9, .inr (5, [.int o, .int e1]))) : kC l0 yX7_init (ws_ yX7_init cX7_init 1 none) rmCX7_init 0 0 mV E w [.ref y] (fun _ w' => w' = w ∧ True) := by
  refine k_open (cc := cX7_init) (maxL := 1) (ret := none) (by decide) rfl (Nat.le_of_ble_eq_true rfl) ?_
  intro p e s m args below meth c ls Q hx hb hr hml hown hts hlocks hname hQ hG hP hl hS
  have hl : lv_has ls 1 [(0, .ref y)] := hl
  refine lv_aload_n hx hb dX7_init_0 rfl (lv_at hl 0 rfl) ?_
  refine W.objInit hx hb hown (hts _ q352) (hts _ q115) (hts _ q116) rfl (by rw [hml]; exact hl.1) rfl dX7_init_1 (Nat.le_of_ble_eq_true rfl) (Nat.le_of_ble_eq_true rfl) ?_
  refine W.eq (g2 := F0 m 4 ls []) rfl ?_
  exact k_vret hx hb hr hlocks hQ hP hS (by omega) (by omega) dX7_init_4 (⟨rfl, trivial⟩)

abbrev rmCX5_number : Room := { frames := 0, cells := 0, slots := 0, locals := 0 }
theorem dyX5_number : yX5_number.cls = RX5 ∧ yX5_number.cls ≠ "java/lang/invoke/MethodHandle" ∧ yX5_number.cls ≠ "java/lang/invoke/VarHandle" ∧ (parseMethodDescriptor yX5_number.desc).map (fun d => d.parameters.length) = some 0 := by decide +kernel
set_option maxHeartbeats 4000000 in
theorem CX5_number (l0 : Launch) (E : gE) (w : wd) (y : Nat) : kC l0 yX5_number (ws_ yX5_number cX5_number 1 (some .int)) rmCX5_number 0 0 mI E w [.ref y] (fun r w' => w' = w ∧ r = 0) := by
  refine k_open (cc := cX5_number) (maxL := 1) (ret := (some .int)) (by decide) rfl (Nat.le_of_ble_eq_true rfl) ?_
  intro p e s m args below meth c ls Q hx hb hr hml hown hts hlocks hname hQ hG hP hl hS
  have hl : lv_has ls 1 [(0, .ref y)] := hl
  refine lv_iconst (v := 0) hx hb dX5_number_0 (by decide) ?_
  exact k_iret hx hb hr hlocks hQ hP hS (by omega) (by omega) dX5_number_1 (⟨rfl, rfl⟩)

abbrev rmCX7_number : Room := { frames := 0, cells := 0, slots := 0, locals := 0 }
theorem dyX7_number : yX7_number.cls = RX7 ∧ yX7_number.cls ≠ "java/lang/invoke/MethodHandle" ∧ yX7_number.cls ≠ "java/lang/invoke/VarHandle" ∧ (parseMethodDescriptor yX7_number.desc).map (fun d => d.parameters.length) = some 0 := by decide +kernel
set_option maxHeartbeats 4000000 in
theorem CX7_number (l0 : Launch) (E : gE) (w : wd) (y : Nat) : kC l0 yX7_number (ws_ yX7_number cX7_number 1 (some .int)) rmCX7_number 0 0 mI E w [.ref y] (fun r w' => w' = w ∧ r = 1) := by
  refine k_open (cc := cX7_number) (maxL := 1) (ret := (some .int)) (by decide) rfl (Nat.le_of_ble_eq_true rfl) ?_
  intro p e s m args below meth c ls Q hx hb hr hml hown hts hlocks hname hQ hG hP hl hS
  have hl : lv_has ls 1 [(0, .ref y)] := hl
  refine lv_iconst (v := 1) hx hb dX7_number_0 (by decide) ?_
  exact k_iret hx hb hr hlocks hQ hP hS (by omega) (by omega) dX7_number_1 (⟨rfl, rfl⟩)

abbrev rmCX8_number : Room := { frames := 0, cells := 0, slots := 0, locals := 0 }
theorem dyX8_number : yX8_number.cls = RX8 ∧ yX8_number.cls ≠ "java/lang/invoke/MethodHandle" ∧ yX8_number.cls ≠ "java/lang/invoke/VarHandle" ∧ (parseMethodDescriptor yX8_number.desc).map (fun d => d.parameters.length) = some 0 := by decide +kernel
set_option maxHeartbeats 4000000 in
theorem CX8_number (l0 : Launch) (E : gE) (w : wd) (y : Nat) : kC l0 yX8_number (ws_ yX8_number cX8_number 1 (some .int)) rmCX8_number 0 0 mI E w [.ref y] (fun r w' => w' = w ∧ r = 2) := by
  refine k_open (cc := cX8_number) (maxL := 1) (ret := (some .int)) (by decide) rfl (Nat.le_of_ble_eq_true rfl) ?_
  intro p e s m args below meth c ls Q hx hb hr hml hown hts hlocks hname hQ hG hP hl hS
  have hl : lv_has ls 1 [(0, .ref y)] := hl
  refine lv_iconst (v := 2) hx hb dX8_number_0 (by decide) ?_
  exact k_iret hx hb hr hlocks hQ hP hS (by omega) (by omega) dX8_number_1 (⟨rfl, rfl⟩)

abbrev rmCX5_sign : Room := { frames := 0, cells := 0, slots := 0, locals := 0 }
theorem dyX5_sign : yX5_sign.cls = RX5 ∧ yX5_sign.cls ≠ "java/lang/invoke/MethodHandle" ∧ yX5_sign.cls ≠ "java/lang/invoke/VarHandle" ∧ (parseMethodDescriptor yX5_sign.desc).map (fun d => d.parameters.length) = some 0 := by decide +kernel
set_option maxHeartbeats 4000000 in
theorem CX5_sign (l0 : Launch) (E : gE) (w : wd) (y : Nat) : kC l0 yX5_sign (ws_ yX5_sign cX5_sign 1 (some .char)) rmCX5_sign 0 0 mI E w [.ref y] (fun r w' => w' = w ∧ r = 114) := by
  refine k_open (cc := cX5_sign) (maxL := 1) (ret := (some .char)) (by decide) rfl (Nat.le_of_ble_eq_true rfl) ?_
  intro p e s m args below meth c ls Q hx hb hr hml hown hts hlocks hname hQ hG hP hl hS
  have hl : lv_has ls 1 [(0, .ref y)] := hl
  refine lv_bipush (v := 114) hx hb dX5_sign_0 (by decide) ?_
  exact k_zret hx hb hr hlocks hQ hP hS (by omega) (by omega) dX5_sign_2 rfl (⟨rfl, rfl⟩)

abbrev rmCX7_sign : Room := { frames := 0, cells := 0, slots := 0, locals := 0 }
theorem dyX7_sign : yX7_sign.cls = RX7 ∧ yX7_sign.cls ≠ "java/lang/invoke/MethodHandle" ∧ yX7_sign.cls ≠ "java/lang/invoke/VarHandle" ∧ (parseMethodDescriptor yX7_sign.desc).map (fun d => d.parameters.length) = some 0 := by decide +kernel
set_option maxHeartbeats 4000000 in
theorem CX7_sign (l0 : Launch) (E : gE) (w : wd) (y : Nat) : kC l0 yX7_sign (ws_ yX7_sign cX7_sign 1 (some .char)) rmCX7_sign 0 0 mI E w [.ref y] (fun r w' => w' = w ∧ r = 117) := by
  refine k_open (cc := cX7_sign) (maxL := 1) (ret := (some .char)) (by decide) rfl (Nat.le_of_ble_eq_true rfl) ?_
  intro p e s m args below meth c ls Q hx hb hr hml hown hts hlocks hname hQ hG hP hl hS
  have hl : lv_has ls 1 [(0, .ref y)] := hl
  refine lv_bipush (v := 117) hx hb dX7_sign_0 (by decide) ?_
  exact k_zret hx hb hr hlocks hQ hP hS (by omega) (by omega) dX7_sign_2 rfl (⟨rfl, rfl⟩)

abbrev rmCX8_sign : Room := { frames := 0, cells := 0, slots := 0, locals := 0 }
theorem dyX8_sign : yX8_sign.cls = RX8 ∧ yX8_sign.cls ≠ "java/lang/invoke/MethodHandle" ∧ yX8_sign.cls ≠ "java/lang/invoke/VarHandle" ∧ (parseMethodDescriptor yX8_sign.desc).map (fun d => d.parameters.length) = some 0 := by decide +kernel
set_option maxHeartbeats 4000000 in
theorem CX8_sign (l0 : Launch) (E : gE) (w : wd) (y : Nat) : kC l0 yX8_sign (ws_ yX8_sign cX8_sign 1 (some .char)) rmCX8_sign 0 0 mI E w [.ref y] (fun r w' => w' = w ∧ r = 99) := by
  refine k_open (cc := cX8_sign) (maxL := 1) (ret := (some .char)) (by decide) rfl (Nat.le_of_ble_eq_true rfl) ?_
  intro p e s m args below meth c ls Q hx hb hr hml hown hts hlocks hname hQ hG hP hl hS
  have hl : lv_has ls 1 [(0, .ref y)] := hl
  refine lv_bipush (v := 99) hx hb dX8_sign_0 (by decide) ?_
  exact k_zret hx hb hr hlocks hQ hP hS (by omega) (by omega) dX8_sign_2 rfl (⟨rfl, rfl⟩)

abbrev rmCX4_factor : Room := { frames := 0, cells := 0, slots := 0, locals := 0 }
theorem dyX4_factor : yX4_factor.cls = RX4 ∧ yX4_factor.cls ≠ "java/lang/invoke/MethodHandle" ∧ yX4_factor.cls ≠ "java/lang/invoke/VarHandle" ∧ (parseMethodDescriptor yX4_factor.desc).map (fun d => d.parameters.length) = some 0 := by decide +kernel
set_option maxHeartbeats 4000000 in
theorem CX4_factor (l0 : Launch) (E : gE) (w : wd) (y : Nat) : kC l0 yX4_factor (ws_ yX4_factor cX4_factor 1 (some .int)) rmCX4_factor 0 0 mI E w [.ref y] (fun r w' => w' = w ∧ r = 1) := by
  refine k_open (cc := cX4_factor) (maxL := 1) (ret := (some .int)) (by decide) rfl (Nat.le_of_ble_eq_true rfl) ?_
  intro p e s m args below meth c ls Q hx hb hr hml hown hts hlocks hname hQ hG hP hl hS
  have hl : lv_has ls 1 [(0, .ref y)] := hl
  refine lv_iconst (v := 1) hx hb dX4_factor_0 (by decide) ?_
  exact k_iret hx hb hr hlocks hQ hP hS (by omega) (by omega) dX4_factor_1 (⟨rfl, rfl⟩)

abbrev rmCX18_factor : Room := { frames := 0, cells := 0, slots := 0, locals := 0 }
theorem dyX18_factor : yX18_factor.cls = RX18 ∧ yX18_factor.cls ≠ "java/lang/invoke/MethodHandle" ∧ yX18_factor.cls ≠ "java/lang/invoke/VarHandle" ∧ (parseMethodDescriptor yX18_factor.desc).map (fun d => d.parameters.length) = some 0 := by decide +kernel
set_option maxHeartbeats 4000000 in
theorem CX18_factor (l0 : Launch) (E : gE) (w : wd) (y : Nat) : kC l0 yX18_factor (ws_ yX18_factor cX18_factor 1 (some .int)) rmCX18_factor 0 0 mI E w [.ref y] (fun r w' => w' = w ∧ r = 2) := by
  refine k_open (cc := cX18_factor) (maxL := 1) (ret := (some .int)) (by decide) rfl (Nat.le_of_ble_eq_true rfl) ?_
  intro p e s m args below meth c ls Q hx hb hr hml hown hts hlocks hname hQ hG hP hl hS
  have hl : lv_has ls 1 [(0, .ref y)] := hl
  refine lv_iconst (v := 2) hx hb dX18_factor_0 (by decide) ?_
  exact k_iret hx hb hr hlocks hQ hP hS (by omega) (by omega) dX18_factor_1 (⟨rfl, rfl⟩)

abbrev rmCX16_area : Room := { frames := 0, cells := 0, slots := 0, locals := 0 }
theorem dyX16_area : yX16_area.cls = RX16 ∧ yX16_area.cls ≠ "java/lang/invoke/MethodHandle" ∧ yX16_area.cls ≠ "java/lang/invoke/VarHandle" ∧ (parseMethodDescriptor yX16_area.desc).map (fun d => d.parameters.length) = some 0 := by decide +kernel
set_option maxHeartbeats 4000000 in
theorem CX16_area (l0 : Launch) (E : gE) (w : wd) (y : Nat) : kC l0 yX16_area (ws_ yX16_area cX16_area 1 (some .int)) rmCX16_area 0 0 mI E w [.ref y] (fun r w' => w' = w ∧ r = 2) := by
  refine k_open (cc := cX16_area) (maxL := 1) (ret := (some .int)) (by decide) rfl (Nat.le_of_ble_eq_true rfl) ?_
  intro p e s m args below meth c ls Q hx hb hr hml hown hts hlocks hname hQ hG hP hl hS
  have hl : lv_has ls 1 [(0, .ref y)] := hl
  refine lv_iconst (v := 2) hx hb dX16_area_0 (by decide) ?_
  exact k_iret hx hb hr hlocks hQ hP hS (by omega) (by omega) dX16_area_1 (⟨rfl, rfl⟩)

abbrev rmCX17_area : Room := { frames := 0, cells := 0, slots := 0, locals := 0 }
theorem dyX17_area : yX17_area.cls = RX17 ∧ yX17_area.cls ≠ "java/lang/invoke/MethodHandle" ∧ yX17_area.cls ≠ "java/lang/invoke/VarHandle" ∧ (parseMethodDescriptor yX17_area.desc).map (fun d => d.parameters.length) = some 0 := by decide +kernel
set_option maxHeartbeats 4000000 in
theorem CX17_area (l0 : Launch) (E : gE) (w : wd) (y : Nat) : kC l0 yX17_area (ws_ yX17_area cX17_area 1 (some .int)) rmCX17_area 0 0 mI E w [.ref y] (fun r w' => w' = w ∧ r = 3) := by
  refine k_open (cc := cX17_area) (maxL := 1) (ret := (some .int)) (by decide) rfl (Nat.le_of_ble_eq_true rfl) ?_
  intro p e s m args below meth c ls Q hx hb hr hml hown hts hlocks hname hQ hG hP hl hS
  have hl : lv_has ls 1 [(0, .ref y)] := hl
  refine lv_iconst (v := 3) hx hb dX17_area_0 (by decide) ?_
  exact k_iret hx hb hr hlocks hQ hP hS (by omega) (by omega) dX17_area_1 (⟨rfl, rfl⟩)

abbrev rmCX18_area : Room := { frames := 0, cells := 0, slots := 0, locals := 0 }
theorem dyX18_area : yX18_area.cls = RX18 ∧ yX18_area.cls ≠ "java/lang/invoke/MethodHandle" ∧ yX18_area.cls ≠ "java/lang/invoke/VarHandle" ∧ (parseMethodDescriptor yX18_area.desc).map (fun d => d.parameters.length) = some 0 := by decide +kernel
set_option maxHeartbeats 4000000 in
theorem CX18_area (l0 : Launch) (E : gE) (w : wd) (y : Nat) : kC l0 yX18_area (ws_ yX18_area cX18_area 1 (some .int)) rmCX18_area 0 0 mI E w [.ref y] (fun r w' => w' = w ∧ r = 1) := by
  refine k_open (cc := cX18_area) (maxL := 1) (ret := (some .int)) (by decide) rfl (Nat.le_of_ble_eq_true rfl) ?_
  intro p e s m args below meth c ls Q hx hb hr hml hown hts hlocks hname hQ hG hP hl hS
  have hl : lv_has ls 1 [(0, .ref y)] := hl
  refine lv_iconst (v := 1) hx hb dX18_area_0 (by decide) ?_
  exact k_iret hx hb hr hlocks hQ hP hS (by omega) (by omega) dX18_area_1 (⟨rfl, rfl⟩)

abbrev rmCX16_hardness : Room := { frames := 0, cells := 0, slots := 0, locals := 0 }
theorem dyX16_hardness : yX16_hardness.cls = RX16 ∧ yX16_hardness.cls ≠ "java/lang/invoke/MethodHandle" ∧ yX16_hardness.cls ≠ "java/lang/invoke/VarHandle" ∧ (parseMethodDescriptor yX16_hardness.desc).map (fun d => d.parameters.length) = some 0 := by decide +kernel
set_option maxHeartbeats 4000000 in
theorem CX16_hardness (l0 : Launch) (E : gE) (w : wd) (y : Nat) : kC l0 yX16_hardness (ws_ yX16_hardness cX16_hardness 1 (some .int)) rmCX16_hardness 0 0 mI E w [.ref y] (fun r w' => w' = w ∧ r = 30) := by
  refine k_open (cc := cX16_hardness) (maxL := 1) (ret := (some .int)) (by decide) rfl (Nat.le_of_ble_eq_true rfl) ?_
  intro p e s m args below meth c ls Q hx hb hr hml hown hts hlocks hname hQ hG hP hl hS
  have hl : lv_has ls 1 [(0, .ref y)] := hl
  refine lv_bipush (v := 30) hx hb dX16_hardness_0 (by decide) ?_
  exact k_iret hx hb hr hlocks hQ hP hS (by omega) (by omega) dX16_hardness_2 (⟨rfl, rfl⟩)

abbrev rmCX17_hardness : Room := { frames := 0, cells := 0, slots := 0, locals := 0 }
theorem dyX17_hardness : yX17_hardness.cls = RX17 ∧ yX17_hardness.cls ≠ "java/lang/invoke/MethodHandle" ∧ yX17_hardness.cls ≠ "java/lang/invoke/VarHandle" ∧ (parseMethodDescriptor yX17_hardness.desc).map (fun d => d.parameters.length) = some 0 := by decide +kernel
set_option maxHeartbeats 4000000 in
theorem CX17_hardness (l0 : Launch) (E : gE) (w : wd) (y : Nat) : kC l0 yX17_hardness (ws_ yX17_hardness cX17_hardness 1 (some .int)) rmCX17_hardness 0 0 mI E w [.ref y] (fun r w' => w' = w ∧ r = 50) := by
  refine k_open (cc := cX17_hardness) (maxL := 1) (ret := (some .int)) (by decide) rfl (Nat.le_of_ble_eq_true rfl) ?_
  intro p e s m args below meth c ls Q hx hb hr hml hown hts hlocks hname hQ hG hP hl hS
  have hl : lv_has ls 1 [(0, .ref y)] := hl
  refine lv_bipush (v := 50) hx hb dX17_hardness_0 (by decide) ?_
  exact k_iret hx hb hr hlocks hQ hP hS (by omega) (by omega) dX17_hardness_2 (⟨rfl, rfl⟩)

abbrev rmCX18_hardness : Room := { frames := 0, cells := 0, slots := 0, locals := 0 }
theorem dyX18_hardness : yX18_hardness.cls = RX18 ∧ yX18_hardness.cls ≠ "java/lang/invoke/MethodHandle" ∧ yX18_hardness.cls ≠ "java/lang/invoke/VarHandle" ∧ (parseMethodDescriptor yX18_hardness.desc).map (fun d => d.parameters.length) = some 0 := by decide +kernel
set_option maxHeartbeats 4000000 in
theorem CX18_hardness (l0 : Launch) (E : gE) (w : wd) (y : Nat) : kC l0 yX18_hardness (ws_ yX18_hardness cX18_hardness 1 (some .int)) rmCX18_hardness 0 0 mI E w [.ref y] (fun r w' => w' = w ∧ r = 20) := by
  refine k_open (cc := cX18_hardness) (maxL := 1) (ret := (some .int)) (by decide) rfl (Nat.le_of_ble_eq_true rfl) ?_
  intro p e s m args below meth c ls Q hx hb hr hml hown hts hlocks hname hQ hG hP hl hS
  have hl : lv_has ls 1 [(0, .ref y)] := hl
  refine lv_bipush (v := 20) hx hb dX18_hardness_0 (by decide) ?_
  exact k_iret hx hb hr hlocks hQ hP hS (by omega) (by omega) dX18_hardness_2 (⟨rfl, rfl⟩)

abbrev rmCX7_like : Room := { frames := 0, cells := 0, slots := 0, locals := 0 }
theorem dyX7_like : yX7_like.cls = RX7 ∧ yX7_like.cls ≠ "java/lang/invoke/MethodHandle" ∧ yX7_like.cls ≠ "java/lang/invoke/VarHandle" ∧ (parseMethodDescriptor yX7_like.desc).map (fun d => d.parameters.length) = some 1 := by decide +kernel
set_option maxHeartbeats 4000000 in
theorem CX7_like (l0 : Launch) (E : gE) (w : wd) (y : Nat) (z : Nat) (tb9 : Nat × Nat) (o2 : Int32) (e2 : Int32) (ta9 : Nat × Nat) (o : Int32) (e1 : Int32) (hts9 : ta9 ≠ tb9) (h1 : w y = some (ta9, .inr (5, [.int o, .int e1]))) (h2 : w z = some (tb9, .inr (5, [.int o2, .int e2]))) : kC l0 yX7_like (ws_ yX7_like cX7_like 2 (some (.object "KiteRoofs$Up"))) rmCX7_like 0 0 mR E w [.ref y, .ref z] (fun r w' => (r = y) ∧ (w' y = some (ta9, .inr (5, [.int o2, .int e2])) ∧ True) ∧ fr (pO ta9) w w') := by
  refine k_open (cc := cX7_like) (maxL := 2) (ret := (some (.object "KiteRoofs$Up"))) (by decide) rfl (Nat.le_of_ble_eq_true rfl) ?_
  intro p e s m args below meth c ls Q hx hb hr hml hown hts hlocks hname hQ hG hP hl hS
  have hl : lv_has ls 2 [(0, .ref y), (1, .ref z)] := hl
  obtain ⟨w0, hw0⟩ : ∃ z, z = w := ⟨_, rfl⟩
  have hF : fr (pO ta9) w0 w := by rw [hw0]; exact fr.rf
  rw [← hw0] at hQ
  refine lv_aload_n hx hb dX7_like_0 rfl (lv_at hl 0 rfl) ?_
  refine lv_aload_n hx hb dX7_like_1 rfl (lv_at hl 1 rfl) ?_
  refine k_get hx hb hts in_X7 hown hG hP h2 rfl 0 (by decide) (hts _ q353) (fun _ h9 => h9) (v := .int o2) rfl dX7_like_2 ?_
  refine k_putW hx hb hts in_X7 tyX7 tyX7_ok nmX7 hown hG hP hS h1 rfl 0 (by decide) (hts _ q353) (fun _ h9 => h9) rfl (ty := .int) (v := .int o2) rfl rfl rfl (Nat.le_of_ble_eq_true rfl) dX7_like_5 (fun w1 H locs h9 hf9 hP hS => ?_)
  have h1 : w1 y = some (ta9, .inr (5, [.int o2, .int e1])) := h9
  have h2 : w1 z = some (tb9, .inr (5, [.int o2, .int e2])) := hf9 _ _ _ h2 (fun z9 => hts9 z9.symm)
  have hF : fr (pO ta9) w0 w1 := hF.tr (hf9.up (fun _ h9 => h9))
  refine lv_aload_n hx hb dX7_like_8 rfl (lv_at hl 0 rfl) ?_
  refine lv_aload_n hx hb dX7_like_9 rfl (lv_at hl 1 rfl) ?_
  refine k_get hx hb hts in_X7 hown hG hP h2 rfl 1 (by decide) (hts _ q355) (fun _ h9 => h9) (v := .int e2) rfl dX7_like_10 ?_
  refine k_putW hx hb hts in_X7 tyX7 tyX7_ok nmX7 hown hG hP hS h1 rfl 1 (by decide) (hts _ q355) (fun _ h9 => h9) rfl (ty := .int) (v := .int e2) rfl rfl rfl (Nat.le_of_ble_eq_true rfl) dX7_like_13 (fun w2 H locs h9 hf9 hP hS => ?_)
  have h1 : w2 y = some (ta9, .inr (5, [.int o2, .int e2])) := h9
  have h2 : w2 z = some (tb9, .inr (5, [.int o2, .int e2])) := hf9 _ _ _ h2 (fun z9 => hts9 z9.symm)
  have hF : fr (pO ta9) w0 w2 := hF.tr (hf9.up (fun _ h9 => h9))
  refine lv_aload_n hx hb dX7_like_16 rfl (lv_at hl 0 rfl) ?_
  exact k_aret hx hb hr (Or.inl ⟨_, rfl⟩) hlocks hQ hP hS (by omega) (by omega) dX7_like_17 (⟨rfl, ⟨h1, trivial⟩, hF⟩)

abbrev rmCX7_wears : Room := { frames := 0, cells := 0, slots := 0, locals := 0 }
theorem dyX7_wears : yX7_wears.cls = RX7 ∧ yX7_wears.cls ≠ "java/lang/invoke/MethodHandle" ∧ yX7_wears.cls ≠ "java/lang/invoke/VarHandle" ∧ (parseMethodDescriptor yX7_wears.desc).map (fun d => d.parameters.length) = some 1 := by decide +kernel
set_option maxHeartbeats 4000000 in
theorem CX7_wears (l0 : Launch) (E : gE) (w : wd) (y : Nat) (x : Int32) (ta9 : Nat × Nat) (o : Int32) (e1 : Int32) (h1 : w y = some (ta9, .inr (5, [.int o, .int e1]))) : kC l0 yX7_wears (ws_ yX7_wears cX7_wears 2 none) rmCX7_wears 0 0 mV E w [.ref y, .int x] (fun r w' => (True) ∧ (w' y = some (ta9, .inr (5, [.int o, .int (e1 + x)])) ∧ True) ∧ fr (pO ta9) w w') := by
  refine k_open (cc := cX7_wears) (maxL := 2) (ret := none) (by decide) rfl (Nat.le_of_ble_eq_true rfl) ?_
  intro p e s m args below meth c ls Q hx hb hr hml hown hts hlocks hname hQ hG hP hl hS
  have hl : lv_has ls 2 [(0, .ref y), (1, .int x)] := hl
  obtain ⟨w0, hw0⟩ : ∃ z, z = w := ⟨_, rfl⟩
  have hF : fr (pO ta9) w0 w := by rw [hw0]; exact fr.rf
  rw [← hw0] at hQ
  refine lv_aload_n hx hb dX7_wears_0 rfl (lv_at hl 0 rfl) ?_
  refine lv_dup hx hb dX7_wears_1 rfl ?_
  refine k_get hx hb hts in_X7 hown hG hP h1 rfl 1 (by decide) (hts _ q355) (fun _ h9 => h9) (v := .int e1) rfl dX7_wears_2 ?_
  refine lv_iload_n hx hb dX7_wears_5 rfl (lv_at hl 1 rfl) ?_
  refine lv_iadd hx hb dX7_wears_6 ?_
  refine k_putW hx hb hts in_X7 tyX7 tyX7_ok nmX7 hown hG hP hS h1 rfl 1 (by decide) (hts _ q355) (fun _ h9 => h9) rfl (ty := .int) (v := .int (e1 + x)) rfl rfl rfl (Nat.le_of_ble_eq_true rfl) dX7_wears_7 (fun w1 H locs h9 hf9 hP hS => ?_)
  have h1 : w1 y = some (ta9, .inr (5, [.int o, .int (e1 + x)])) := h9
  have hF : fr (pO ta9) w0 w1 := hF.tr (hf9.up (fun _ h9 => h9))
  exact k_vret hx hb hr hlocks hQ hP hS (by omega) (by omega) dX7_wears_10 (⟨trivial, ⟨h1, trivial⟩, hF⟩)

abbrev rmCX7_reels : Room := { frames := 1, cells := 0, slots := 0, locals := 32 }
theorem dyX7_reels : yX7_reels.cls = RX7 ∧ yX7_reels.cls ≠ "java/lang/invoke/MethodHandle" ∧ yX7_reels.cls ≠ "java/lang/invoke/VarHandle" ∧ (parseMethodDescriptor yX7_reels.desc).map (fun d => d.parameters.length) = some 2 := by decide +kernel
set_option maxHeartbeats 4000000 in
theorem CX7_reels (l0 : Launch) (E : gE) (w : wd) (y : Nat) (x : Int32) (x2 : Int32) (ta9 : Nat × Nat) (o : Int32) (e1 : Int32) (h1 : w y = some (ta9, .inr (5, [.int o, .int e1]))) : kC l0 yX7_reels (ws_ yX7_reels cX7_reels 4 (some .int)) rmCX7_reels 0 0 mI E w [.ref y, .int x, .int x2] (fun r w' => (r = (uRl o x2 x - o)) ∧ (w' y = some (ta9, .inr (5, [.int (uRl o x2 x), .int e1])) ∧ True) ∧ fr (pO ta9) w w') := by
  refine k_open (cc := cX7_reels) (maxL := 4) (ret := (some .int)) (by decide) rfl (Nat.le_of_ble_eq_true rfl) ?_
  intro p e s m args below meth c ls Q hx hb hr hml hown hts hlocks hname hQ hG hP hl hS
  have hl : lv_has ls 4 [(0, .ref y), (1, .int x), (2, .int x2)] := hl
  obtain ⟨w0, hw0⟩ : ∃ z, z = w := ⟨_, rfl⟩
  have hF : fr (pO ta9) w0 w := by rw [hw0]; exact fr.rf
  rw [← hw0] at hQ
  refine lv_aload_n hx hb dX7_reels_0 rfl (lv_at hl 0 rfl) ?_
  refine k_get hx hb hts in_X7 hown hG hP h1 rfl 0 (by decide) (hts _ q353) (fun _ h9 => h9) (v := .int o) rfl dX7_reels_1 ?_
  refine lv_istore_n (lv' := [(3, .int o), (0, .ref y), (1, .int x), (2, .int x2)]) hx hb dX7_reels_4 rfl hl (by decide) rfl (fun ls hl => ?_)
  refine lv_aload_n hx hb dX7_reels_5 rfl (lv_at hl 1 rfl) ?_
  refine lv_iconst (v := 0) hx hb dX7_reels_6 (by decide) ?_
  refine lv_iload_n hx hb dX7_reels_7 rfl (lv_at hl 3 rfl) ?_
  refine lv_aload_n hx hb dX7_reels_8 rfl (lv_at hl 1 rfl) ?_
  refine k_get hx hb hts in_X7 hown hG hP h1 rfl 0 (by decide) (hts _ q353) (fun _ h9 => h9) (v := .int o) rfl dX7_reels_9 ?_
  refine lv_iload_n hx hb dX7_reels_12 rfl (lv_at hl 2 rfl) ?_
  refine lv_iadd hx hb dX7_reels_13 ?_
  refine va_mmin hx hb (hml.trans hl.1.symm) hown (hts _ q728) (hts _ q592) (hts _ q92) (hts _ q593) (Nat.le_of_ble_eq_true rfl) (Nat.le_of_ble_eq_true rfl) (Nat.zero_le _) (Nat.zero_le _) dX7_reels_14 ?_
  refine va_mmax hx hb (hml.trans hl.1.symm) hown (hts _ q729) (hts _ q730) (hts _ q92) (hts _ q731) (Nat.le_of_ble_eq_true rfl) (Nat.le_of_ble_eq_true rfl) (Nat.zero_le _) (Nat.zero_le _) dX7_reels_17 ?_
  refine k_putW hx hb hts in_X7 tyX7 tyX7_ok nmX7 hown hG hP hS h1 rfl 0 (by decide) (hts _ q353) (fun _ h9 => h9) rfl (ty := .int) (v := .int (if 0 < (if (o + x) < x2 then (o + x) else x2) then (if (o + x) < x2 then (o + x) else x2) else 0)) rfl rfl rfl (Nat.le_of_ble_eq_true rfl) dX7_reels_20 (fun w1 H locs h9 hf9 hP hS => ?_)
  have h1 : w1 y = some (ta9, .inr (5, [.int (if 0 < (if (o + x) < x2 then (o + x) else x2) then (if (o + x) < x2 then (o + x) else x2) else 0), .int e1])) := h9
  have hF : fr (pO ta9) w0 w1 := hF.tr (hf9.up (fun _ h9 => h9))
  refine lv_aload_n hx hb dX7_reels_23 rfl (lv_at hl 1 rfl) ?_
  refine k_get hx hb hts in_X7 hown hG hP h1 rfl 0 (by decide) (hts _ q353) (fun _ h9 => h9) (v := .int (if 0 < (if (o + x) < x2 then (o + x) else x2) then (if (o + x) < x2 then (o + x) else x2) else 0)) rfl dX7_reels_24 ?_
  refine lv_iload_n hx hb dX7_reels_27 rfl (lv_at hl 0 rfl) ?_
  refine lv_isub hx hb dX7_reels_28 ?_
  exact k_iret hx hb hr hlocks hQ hP hS (by omega) (by omega) dX7_reels_29 (⟨rfl, ⟨h1, trivial⟩, hF⟩)
