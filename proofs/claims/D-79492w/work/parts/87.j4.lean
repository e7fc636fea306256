/-! THE JDK, 6: strings inflated -/
set_option maxRecDepth 100000
abbrev rmCJ5_checkBoundsOffCount : Room := { frames := 1, cells := 0, slots := 0, locals := 23 }
theorem dyJ5_checkBoundsOffCount : yJ5_checkBoundsOffCount.cls ≠ "java/lang/invoke/MethodHandle" ∧ yJ5_checkBoundsOffCount.cls ≠ "java/lang/invoke/VarHandle" ∧ (parseMethodDescriptor yJ5_checkBoundsOffCount.desc).map (fun d => d.parameters.length) = some 3 := by decide +kernel
set_option maxHeartbeats 4000000 in
theorem CJ5_checkBoundsOffCount (l0 : Launch) (E : gE) (w : wd) (off : Nat) (cnt : Nat) (len : Nat) (ho : off + cnt ≤ len) (hl9 : len < 2147483648) : kC l0 yJ5_checkBoundsOffCount (ws_ yJ5_checkBoundsOffCount cJ5_checkBoundsOffCount 3 (some .int)) rmCJ5_checkBoundsOffCount 0 0 mI E w [.int (nI off), .int (nI cnt), .int (nI len)] (fun r w' => w' = w ∧ r = (nI off)) := by
  refine k_open (cc := cJ5_checkBoundsOffCount) (maxL := 3) (ret := (some .int)) (by decide) rfl (Nat.le_of_ble_eq_true rfl) ?_
  intro p e s m args below meth c ls Q hx hb hr hml hown hts hlocks hname hQ hG hP hl hS
  have hl : lv_has ls 3 [(0, .int (nI off)), (1, .int (nI cnt)), (2, .int (nI len))] := hl
  refine lv_iload_n hx hb dJ5_checkBoundsOffCount_0 rfl (lv_at hl 0 rfl) ?_
  refine lv_iload_n hx hb dJ5_checkBoundsOffCount_1 rfl (lv_at hl 1 rfl) ?_
  refine lv_iload_n hx hb dJ5_checkBoundsOffCount_2 rfl (lv_at hl 2 rfl) ?_
  refine k_getQ hx hb hG.2.2.2.2.2.2.2 hown hS (hts _ q1153) (fun _ h9 => h9) dJ5_checkBoundsOffCount_3 (fun v9 => ?_)
  refine k_cS hx hb hml hown hts (CJ20_checkFromIndexSize l0 E w off cnt len v9 (by omega) (by omega)) (va_cwS 4 hts (lw_S q1155 q1156 q98 q1157) rfl rfl rfl dyJ20_checkFromIndexSize ⟨Nat.le_of_ble_eq_true rfl, Nat.le_of_ble_eq_true rfl⟩) hG hP hS (As := [.int (nI off), .int (nI cnt), .int (nI len), va_rf v9]) (rest := []) rfl hl.1 rfl (lv_room (Nat.le_of_ble_eq_true rfl)) dJ5_checkBoundsOffCount_6 ⟨show 0 + 0 ≤ 0 from by omega, show 0 + 0 ≤ 0 from by omega⟩ (fun r9 w9 H locs hp hP hS => ?_)
  obtain ⟨hp1, hp0⟩ := hp
  rw [hp1] at hP
  rw [hp0]
  show W p l0 e rmCJ5_checkBoundsOffCount s m args below meth c H locs 0 0 Q (F0 m 9 ls [.int (nI off)])
  exact k_iret hx hb hr hlocks hQ hP hS (by omega) (by omega) dJ5_checkBoundsOffCount_9 (⟨rfl, rfl⟩)

abbrev rmCJ5_checkIndex : Room := { frames := 1, cells := 0, slots := 0, locals := 22 }
theorem dyJ5_checkIndex : yJ5_checkIndex.cls ≠ "java/lang/invoke/MethodHandle" ∧ yJ5_checkIndex.cls ≠ "java/lang/invoke/VarHandle" ∧ (parseMethodDescriptor yJ5_checkIndex.desc).map (fun d => d.parameters.length) = some 2 := by decide +kernel
set_option maxHeartbeats 4000000 in
theorem CJ5_checkIndex (l0 : Launch) (E : gE) (w : wd) (i : Nat) (len : Nat) (hi : i < len) (hl9 : len < 2147483648) : kC l0 yJ5_checkIndex (ws_ yJ5_checkIndex cJ5_checkIndex 2 none) rmCJ5_checkIndex 0 0 mV E w [.int (nI i), .int (nI len)] (fun _ w' => w' = w ∧ True) := by
  refine k_open (cc := cJ5_checkIndex) (maxL := 2) (ret := none) (by decide) rfl (Nat.le_of_ble_eq_true rfl) ?_
  intro p e s m args below meth c ls Q hx hb hr hml hown hts hlocks hname hQ hG hP hl hS
  have hl : lv_has ls 2 [(0, .int (nI i)), (1, .int (nI len))] := hl
  refine lv_iload_n hx hb dJ5_checkIndex_0 rfl (lv_at hl 0 rfl) ?_
  refine lv_iload_n hx hb dJ5_checkIndex_1 rfl (lv_at hl 1 rfl) ?_
  refine k_getQ hx hb hG.2.2.2.2.2.2.2 hown hS (hts _ q1153) (fun _ h9 => h9) dJ5_checkIndex_2 (fun v9 => ?_)
  refine k_cS hx hb hml hown hts (CJ20_checkIndex l0 E w i len v9 (by omega) (by omega)) (va_cwS 3 hts (lw_S q1176 q1177 q98 q1178) rfl rfl rfl dyJ20_checkIndex ⟨Nat.le_of_ble_eq_true rfl, Nat.le_of_ble_eq_true rfl⟩) hG hP hS (As := [.int (nI i), .int (nI len), va_rf v9]) (rest := []) rfl hl.1 rfl (lv_room (Nat.le_of_ble_eq_true rfl)) dJ5_checkIndex_5 ⟨show 0 + 0 ≤ 0 from by omega, show 0 + 0 ≤ 0 from by omega⟩ (fun r9 w9 H locs hp hP hS => ?_)
  obtain ⟨hp1, hp0⟩ := hp
  rw [hp1] at hP
  rw [hp0]
  show W p l0 e rmCJ5_checkIndex s m args below meth c H locs 0 0 Q (F0 m 8 ls [.int (nI i)])
  refine lv_pop hx hb dJ5_checkIndex_8 rfl ?_
  exact k_vret hx hb hr hlocks hQ hP hS (by omega) (by omega) dJ5_checkIndex_9 (⟨rfl, trivial⟩)

abbrev rmCJ6_checkBoundsOffCount : Room := { frames := 2, cells := 0, slots := 0, locals := 45 }
theorem dyJ6_checkBoundsOffCount : yJ6_checkBoundsOffCount.cls ≠ "java/lang/invoke/MethodHandle" ∧ yJ6_checkBoundsOffCount.cls ≠ "java/lang/invoke/VarHandle" ∧ (parseMethodDescriptor yJ6_checkBoundsOffCount.desc).map (fun d => d.parameters.length) = some 3 := by decide +kernel
set_option maxHeartbeats 4000000 in
theorem CJ6_checkBoundsOffCount (l0 : Launch) (E : gE) (w : wd) (off : Nat) (cnt : Nat) (q : Nat) (mm : Nat) (f : Nat → Int32) (ta9 : Nat × Nat) (ho : off + cnt ≤ mm / 2) (hm : mm ≤ 65536) (hA : w q = some (ta9, .inl (eT E 3, mm, .inl f))) : kC l0 yJ6_checkBoundsOffCount (ws_ yJ6_checkBoundsOffCount cJ6_checkBoundsOffCount 3 none) rmCJ6_checkBoundsOffCount 0 0 mV E w [.int (nI off), .int (nI cnt), .ref q] (fun _ w' => w' = w ∧ True) := by
  refine k_open (cc := cJ6_checkBoundsOffCount) (maxL := 3) (ret := none) (by decide) rfl (Nat.le_of_ble_eq_true rfl) ?_
  intro p e s m args below meth c ls Q hx hb hr hml hown hts hlocks hname hQ hG hP hl hS
  have hl : lv_has ls 3 [(0, .int (nI off)), (1, .int (nI cnt)), (2, .ref q)] := hl
  refine lv_iload_n hx hb dJ6_checkBoundsOffCount_0 rfl (lv_at hl 0 rfl) ?_
  refine lv_iload_n hx hb dJ6_checkBoundsOffCount_1 rfl (lv_at hl 1 rfl) ?_
  refine lv_aload_n hx hb dJ6_checkBoundsOffCount_2 rfl (lv_at hl 2 rfl) ?_
  refine k_cS hx hb hml hown hts (CJ6_length l0 E w q mm f ta9 (by omega) hA) (va_cwS 1 hts (lw_S q1147 q1148 q80 q1149) rfl rfl rfl dyJ6_length ⟨Nat.le_of_ble_eq_true rfl, Nat.le_of_ble_eq_true rfl⟩) hG hP hS (As := [.ref q]) (rest := [.int (nI cnt), .int (nI off)]) rfl hl.1 rfl (lv_room (Nat.le_of_ble_eq_true rfl)) dJ6_checkBoundsOffCount_3 ⟨show 0 + 0 ≤ 0 from by omega, show 0 + 0 ≤ 0 from by omega⟩ (fun r9 w9 H locs hp hP hS => ?_)
  obtain ⟨hp1, hp0⟩ := hp
  rw [hp1] at hP
  rw [hp0]
  show W p l0 e rmCJ6_checkBoundsOffCount s m args below meth c H locs 0 0 Q (F0 m 6 ls [.int (nI (mm / 2)), .int (nI cnt), .int (nI off)])
  refine k_cS hx hb hml hown hts (CJ5_checkBoundsOffCount l0 E w off cnt (mm / 2) (by omega) (by omega)) (va_cwS 3 hts (lw_S q1150 q1151 q79 q1152) rfl rfl rfl dyJ5_checkBoundsOffCount ⟨Nat.le_of_ble_eq_true rfl, Nat.le_of_ble_eq_true rfl⟩) hG hP hS (As := [.int (nI off), .int (nI cnt), .int (nI (mm / 2))]) (rest := []) rfl hl.1 rfl (lv_room (Nat.le_of_ble_eq_true rfl)) dJ6_checkBoundsOffCount_6 ⟨show 0 + 0 ≤ 0 from by omega, show 0 + 0 ≤ 0 from by omega⟩ (fun r9 w9 H locs hp hP hS => ?_)
  obtain ⟨hp1, hp0⟩ := hp
  rw [hp1] at hP
  rw [hp0]
  show W p l0 e rmCJ6_checkBoundsOffCount s m args below meth c H locs 0 0 Q (F0 m 9 ls [.int (nI off)])
  refine lv_pop hx hb dJ6_checkBoundsOffCount_9 rfl ?_
  exact k_vret hx hb hr hlocks hQ hP hS (by omega) (by omega) dJ6_checkBoundsOffCount_10 (⟨rfl, trivial⟩)

abbrev rmCJ6_checkIndex : Room := { frames := 2, cells := 0, slots := 0, locals := 43 }
theorem dyJ6_checkIndex : yJ6_checkIndex.cls ≠ "java/lang/invoke/MethodHandle" ∧ yJ6_checkIndex.cls ≠ "java/lang/invoke/VarHandle" ∧ (parseMethodDescriptor yJ6_checkIndex.desc).map (fun d => d.parameters.length) = some 2 := by decide +kernel
set_option maxHeartbeats 4000000 in
theorem CJ6_checkIndex (l0 : Launch) (E : gE) (w : wd) (i : Nat) (q : Nat) (mm : Nat) (f : Nat → Int32) (ta9 : Nat × Nat) (hi : i < mm / 2) (hm : mm ≤ 65536) (hA : w q = some (ta9, .inl (eT E 3, mm, .inl f))) : kC l0 yJ6_checkIndex (ws_ yJ6_checkIndex cJ6_checkIndex 2 none) rmCJ6_checkIndex 0 0 mV E w [.int (nI i), .ref q] (fun _ w' => w' = w ∧ True) := by
  refine k_open (cc := cJ6_checkIndex) (maxL := 2) (ret := none) (by decide) rfl (Nat.le_of_ble_eq_true rfl) ?_
  intro p e s m args below meth c ls Q hx hb hr hml hown hts hlocks hname hQ hG hP hl hS
  have hl : lv_has ls 2 [(0, .int (nI i)), (1, .ref q)] := hl
  refine lv_iload_n hx hb dJ6_checkIndex_0 rfl (lv_at hl 0 rfl) ?_
  refine lv_aload_n hx hb dJ6_checkIndex_1 rfl (lv_at hl 1 rfl) ?_
  refine k_cS hx hb hml hown hts (CJ6_length l0 E w q mm f ta9 (by omega) hA) (va_cwS 1 hts (lw_S q1147 q1148 q80 q1149) rfl rfl rfl dyJ6_length ⟨Nat.le_of_ble_eq_true rfl, Nat.le_of_ble_eq_true rfl⟩) hG hP hS (As := [.ref q]) (rest := [.int (nI i)]) rfl hl.1 rfl (lv_room (Nat.le_of_ble_eq_true rfl)) dJ6_checkIndex_2 ⟨show 0 + 0 ≤ 0 from by omega, show 0 + 0 ≤ 0 from by omega⟩ (fun r9 w9 H locs hp hP hS => ?_)
  obtain ⟨hp1, hp0⟩ := hp
  rw [hp1] at hP
  rw [hp0]
  show W p l0 e rmCJ6_checkIndex s m args below meth c H locs 0 0 Q (F0 m 5 ls [.int (nI (mm / 2)), .int (nI i)])
  refine k_cS hx hb hml hown hts (CJ5_checkIndex l0 E w i (mm / 2) (by omega) (by omega)) (va_cwS 2 hts (lw_S q1173 q1174 q79 q1175) rfl rfl rfl dyJ5_checkIndex ⟨Nat.le_of_ble_eq_true rfl, Nat.le_of_ble_eq_true rfl⟩) hG hP hS (As := [.int (nI i), .int (nI (mm / 2))]) (rest := []) rfl hl.1 rfl (lv_room (Nat.le_of_ble_eq_true rfl)) dJ6_checkIndex_5 ⟨show 0 + 0 ≤ 0 from by omega, show 0 + 0 ≤ 0 from by omega⟩ (fun r9 w9 H locs hp hP hS => ?_)
  obtain ⟨hp1, hp0⟩ := hp
  rw [hp1] at hP
  show W p l0 e rmCJ6_checkIndex s m args below meth c H locs 0 0 Q (F0 m 8 ls [])
  exact k_vret hx hb hr hlocks hQ hP hS (by omega) (by omega) dJ6_checkIndex_8 (⟨rfl, trivial⟩)

abbrev rmCJ6_putChar : Room := { frames := 0, cells := 0, slots := 0, locals := 0 }
theorem dyJ6_putChar : yJ6_putChar.cls ≠ "java/lang/invoke/MethodHandle" ∧ yJ6_putChar.cls ≠ "java/lang/invoke/VarHandle" ∧ (parseMethodDescriptor yJ6_putChar.desc).map (fun d => d.parameters.length) = some 3 := by decide +kernel
set_option maxHeartbeats 4000000 in
theorem CJ6_putChar (l0 : Launch) (E : gE) (w : wd) (q : Nat) (mm : Nat) (i : Nat) (x : Int32) (f : Nat → Int32) (ta9 : Nat × Nat) (hi : 2 * i + 1 < mm) (hm : mm ≤ 65536) (hA : w q = some (ta9, .inl (eT E 3, mm, .inl f))) : kC l0 yJ6_putChar (ws_ yJ6_putChar cJ6_putChar 3 none) rmCJ6_putChar 0 0 mV E w [.ref q, .int (nI i), .int x] (fun r w' => (True) ∧ (w' q = some (ta9, .inl (eT E 3, mm, .inl (b8up (b8up f (2 * i) (by8 (x >>> (0 &&& 31)))) (2 * i + 1) (by8 (x >>> (8 &&& 31)))))) ∧ True) ∧ fr (pO ta9) w w') := by
  refine k_open (cc := cJ6_putChar) (maxL := 3) (ret := none) (by decide) rfl (Nat.le_of_ble_eq_true rfl) ?_
  intro p e s m args below meth c ls Q hx hb hr hml hown hts hlocks hname hQ hG hP hl hS
  have hl : lv_has ls 3 [(0, .ref q), (1, .int (nI i)), (2, .int x)] := hl
  obtain ⟨w0, hw0⟩ : ∃ z, z = w := ⟨_, rfl⟩
  have hF : fr (pO ta9) w0 w := by rw [hw0]; exact fr.rf
  rw [← hw0] at hQ
  refine k_getZ (v := 1) hx hb (List.mem_of_getElem? (i := 1) rfl) hown hG hS (hts _ q1161) (fun _ h9 => h9) dJ6_putChar_0 ?_
  refine lv_if_ne (tgt := 28) hx hb dJ6_putChar_3 (by decide) (fun c3 => ?_) (fun c3 => ?_)
  · skip
    refine lv_iload_n hx hb dJ6_putChar_28 rfl (lv_at hl 1 rfl) ?_
    refine lv_iconst (v := 1) hx hb dJ6_putChar_29 (by decide) ?_
    refine lv_ishl hx hb dJ6_putChar_30 ?_
    refine k_top (y := (nI (2 * i))) (shl1 (by omega)) ?_
    refine lv_istore_n (lv' := [(1, .int (nI (2 * i))), (0, .ref q), (2, .int x)]) hx hb dJ6_putChar_31 rfl hl (by decide) rfl (fun ls hl => ?_)
    refine lv_aload_n hx hb dJ6_putChar_32 rfl (lv_at hl 1 rfl) ?_
    refine lv_iload_n hx hb dJ6_putChar_33 rfl (lv_at hl 0 rfl) ?_
    refine lv_iinc (v := (nI (2 * i + 1))) (lv' := [(1, .int (nI (2 * i + 1))), (0, .ref q), (2, .int x)]) hx hb dJ6_putChar_34 hl (k := 0) rfl (nI_add (2 * i) 1) (by decide) rfl (fun ls hl => ?_)
    refine lv_iload_n hx hb dJ6_putChar_37 rfl (lv_at hl 2 rfl) ?_
    refine k_getZ (v := 0) hx hb (List.mem_of_getElem? (i := 2) rfl) hown hG hS (hts _ q1163) (fun _ h9 => h9) dJ6_putChar_38 ?_
    refine lv_ishr hx hb dJ6_putChar_41 ?_
    refine lv_i2b (v := by8 (x >>> (0 &&& 31))) hx hb dJ6_putChar_42 rfl ?_
    refine k_bastW hx hb hG hP hS (j := 2 * i) hA (by omega) (show 2 * i < mm from by omega) (x := (by8 (x >>> (0 &&& 31)))) dJ6_putChar_43 (fun w1 H locs h9 hf9 hP hS => ?_)
    have hA : w1 q = some (ta9, .inl (eT E 3, mm, .inl (b8up f (2 * i) (by8 (x >>> (0 &&& 31)))))) := h9
    have hF : fr (pO ta9) w0 w1 := hF.tr (hf9.up (fun _ h9 => h9))
    refine lv_aload_n hx hb dJ6_putChar_44 rfl (lv_at hl 1 rfl) ?_
    refine lv_iload_n hx hb dJ6_putChar_45 rfl (lv_at hl 0 rfl) ?_
    refine lv_iload_n hx hb dJ6_putChar_46 rfl (lv_at hl 2 rfl) ?_
    refine k_getZ (v := 8) hx hb (List.mem_of_getElem? (i := 3) rfl) hown hG hS (hts _ q1165) (fun _ h9 => h9) dJ6_putChar_47 ?_
    refine lv_ishr hx hb dJ6_putChar_50 ?_
    refine lv_i2b (v := by8 (x >>> (8 &&& 31))) hx hb dJ6_putChar_51 rfl ?_
    refine k_bastW hx hb hG hP hS (j := 2 * i + 1) hA (by omega) (show 2 * i + 1 < mm from by omega) (x := (by8 (x >>> (8 &&& 31)))) dJ6_putChar_52 (fun w2 H locs h9 hf9 hP hS => ?_)
    have hA : w2 q = some (ta9, .inl (eT E 3, mm, .inl (b8up (b8up f (2 * i) (by8 (x >>> (0 &&& 31)))) (2 * i + 1) (by8 (x >>> (8 &&& 31)))))) := h9
    have hF : fr (pO ta9) w0 w2 := hF.tr (hf9.up (fun _ h9 => h9))
    exact k_vret hx hb hr hlocks hQ hP hS (by omega) (by omega) dJ6_putChar_53 (⟨trivial, ⟨hA, trivial⟩, hF⟩)
  · skip
    exact absurd c3 (by decide)

abbrev rmCJ6_putCharSB : Room := { frames := 3, cells := 0, slots := 0, locals := 64 }
theorem dyJ6_putCharSB : yJ6_putCharSB.cls ≠ "java/lang/invoke/MethodHandle" ∧ yJ6_putCharSB.cls ≠ "java/lang/invoke/VarHandle" ∧ (parseMethodDescriptor yJ6_putCharSB.desc).map (fun d => d.parameters.length) = some 3 := by decide +kernel
set_option maxHeartbeats 4000000 in
theorem CJ6_putCharSB (l0 : Launch) (E : gE) (w : wd) (q : Nat) (mm : Nat) (i : Nat) (x : Int32) (f : Nat → Int32) (ta9 : Nat × Nat) (hi : 2 * i + 1 < mm) (hm : mm ≤ 65536) (hA : w q = some (ta9, .inl (eT E 3, mm, .inl f))) : kC l0 yJ6_putCharSB (ws_ yJ6_putCharSB cJ6_putCharSB 3 none) rmCJ6_putCharSB 0 0 mV E w [.ref q, .int (nI i), .int x] (fun r w' => (True) ∧ (w' q = some (ta9, .inl (eT E 3, mm, .inl (b8up (b8up f (2 * i) (by8 (x >>> (0 &&& 31)))) (2 * i + 1) (by8 (x >>> (8 &&& 31)))))) ∧ True) ∧ fr (pO ta9) w w') := by
  refine k_open (cc := cJ6_putCharSB) (maxL := 3) (ret := none) (by decide) rfl (Nat.le_of_ble_eq_true rfl) ?_
  intro p e s m args below meth c ls Q hx hb hr hml hown hts hlocks hname hQ hG hP hl hS
  have hl : lv_has ls 3 [(0, .ref q), (1, .int (nI i)), (2, .int x)] := hl
  obtain ⟨w0, hw0⟩ : ∃ z, z = w := ⟨_, rfl⟩
  have hF : fr (pO ta9) w0 w := by rw [hw0]; exact fr.rf
  rw [← hw0] at hQ
  refine lv_iload_n hx hb dJ6_putCharSB_0 rfl (lv_at hl 1 rfl) ?_
  refine lv_aload_n hx hb dJ6_putCharSB_1 rfl (lv_at hl 0 rfl) ?_
  refine k_cS hx hb hml hown hts (CJ6_checkIndex l0 E w i q mm f ta9 (by omega) (by omega) hA) (va_cwS 2 hts (lw_S q1170 q1171 q80 q1172) rfl rfl rfl dyJ6_checkIndex ⟨Nat.le_of_ble_eq_true rfl, Nat.le_of_ble_eq_true rfl⟩) hG hP hS (As := [.int (nI i), .ref q]) (rest := []) rfl hl.1 rfl (lv_room (Nat.le_of_ble_eq_true rfl)) dJ6_putCharSB_2 ⟨show 0 + 0 ≤ 0 from by omega, show 0 + 0 ≤ 0 from by omega⟩ (fun r9 w9 H locs hp hP hS => ?_)
  obtain ⟨hp1, hp0⟩ := hp
  rw [hp1] at hP
  show W p l0 e rmCJ6_putCharSB s m args below meth c H locs 0 0 Q (F0 m 5 ls [])
  refine lv_aload_n hx hb dJ6_putCharSB_5 rfl (lv_at hl 0 rfl) ?_
  refine lv_iload_n hx hb dJ6_putCharSB_6 rfl (lv_at hl 1 rfl) ?_
  refine lv_iload_n hx hb dJ6_putCharSB_7 rfl (lv_at hl 2 rfl) ?_
  refine k_cS hx hb hml hown hts (CJ6_putChar l0 E w q mm i x f ta9 (by omega) (by omega) hA) (va_cwS 3 hts (lw_S q1158 q1159 q80 q1160) rfl rfl rfl dyJ6_putChar ⟨Nat.le_of_ble_eq_true rfl, Nat.le_of_ble_eq_true rfl⟩) hG hP hS (As := [.ref q, .int (nI i), .int x]) (rest := []) rfl hl.1 rfl (lv_room (Nat.le_of_ble_eq_true rfl)) dJ6_putCharSB_8 ⟨show 0 + 0 ≤ 0 from by omega, show 0 + 0 ≤ 0 from by omega⟩ (fun r8 w1 H locs hp hP hS => ?_)
  obtain ⟨hp0, ⟨hA', -⟩, hf9⟩ := hp
  have hF : fr (pO ta9) w0 w1 := hF.tr (hf9.up (fun _ h9 => h9))
  have hA : w1 q = some (ta9, .inl (eT E 3, mm, .inl (b8up (b8up f (2 * i) (by8 (x >>> (0 &&& 31)))) (2 * i + 1) (by8 (x >>> (8 &&& 31)))))) := hA'
  show W p l0 e rmCJ6_putCharSB s m args below meth c H locs 0 0 Q (F0 m 11 ls [])
  exact k_vret hx hb hr hlocks hQ hP hS (by omega) (by omega) dJ6_putCharSB_11 (⟨trivial, ⟨hA, trivial⟩, hF⟩)

abbrev rmCJ6_newBytesLength : Room := { frames := 0, cells := 0, slots := 0, locals := 0 }
theorem dyJ6_newBytesLength : yJ6_newBytesLength.cls ≠ "java/lang/invoke/MethodHandle" ∧ yJ6_newBytesLength.cls ≠ "java/lang/invoke/VarHandle" ∧ (parseMethodDescriptor yJ6_newBytesLength.desc).map (fun d => d.parameters.length) = some 1 := by decide +kernel
set_option maxHeartbeats 4000000 in
theorem CJ6_newBytesLength (l0 : Launch) (E : gE) (w : wd) (mm : Nat) (hm : mm ≤ 65536) : kC l0 yJ6_newBytesLength (ws_ yJ6_newBytesLength cJ6_newBytesLength 1 (some .int)) rmCJ6_newBytesLength 0 0 mI E w [.int (nI mm)] (fun r w' => w' = w ∧ r = (nI (2 * mm))) := by
  refine k_open (cc := cJ6_newBytesLength) (maxL := 1) (ret := (some .int)) (by decide) rfl (Nat.le_of_ble_eq_true rfl) ?_
  intro p e s m args below meth c ls Q hx hb hr hml hown hts hlocks hname hQ hG hP hl hS
  have hl : lv_has ls 1 [(0, .int (nI mm))] := hl
  refine lv_iload_n hx hb dJ6_newBytesLength_0 rfl (lv_at hl 0 rfl) ?_
  refine lv_if_ge (tgt := 12) hx hb dJ6_newBytesLength_1 (by decide) (fun c1 => ?_) (fun c1 => ?_)
  · skip
    refine lv_iload_n hx hb dJ6_newBytesLength_12 rfl (lv_at hl 0 rfl) ?_
    refine lv_ldc (v := 1073741823) hx hb hown (hts _ q261) dJ6_newBytesLength_13 ?_
    refine k_icmp_ltN (x := mm) (y := 1073741823) (tgt := 55) hx hb (by omega) (by omega) dJ6_newBytesLength_15 (by decide) (fun c15 => ?_) (fun c15 => ?_)
    · skip
      refine lv_iload_n hx hb dJ6_newBytesLength_55 rfl (lv_at hl 0 rfl) ?_
      refine lv_iconst (v := 1) hx hb dJ6_newBytesLength_56 (by decide) ?_
      refine lv_ishl hx hb dJ6_newBytesLength_57 ?_
      refine k_top (y := (nI (2 * mm))) (shl1 (by omega)) ?_
      exact k_iret hx hb hr hlocks hQ hP hS (by omega) (by omega) dJ6_newBytesLength_58 (⟨rfl, rfl⟩)
    · skip
      omega
  · skip
    exact absurd (Int32.not_lt.mp (nI_pos (n := mm) (by omega))) c1

abbrev rmCJ6_newBytesFor : Room := { frames := 1, cells := 1, slots := 150, locals := 20 }
theorem dyJ6_newBytesFor : yJ6_newBytesFor.cls ≠ "java/lang/invoke/MethodHandle" ∧ yJ6_newBytesFor.cls ≠ "java/lang/invoke/VarHandle" ∧ (parseMethodDescriptor yJ6_newBytesFor.desc).map (fun d => d.parameters.length) = some 1 := by decide +kernel
set_option maxHeartbeats 4000000 in
theorem CJ6_newBytesFor (l0 : Launch) (E : gE) (w : wd) (mm : Nat) (hm : mm ≤ 75) : kC l0 yJ6_newBytesFor (ws_ yJ6_newBytesFor cJ6_newBytesFor 1 (some (.array .byte))) rmCJ6_newBytesFor 1 150 mR E w [.int (nI mm)] (fun r w' => ∃ q9 : Nat, (r = q9) ∧ (w' q9 = some ((96, 4), .inl (eT E 3, 2 * mm, .inl (fun _ => 0))) ∧ True) ∧ fr (pO (96, 4)) w w') := by
  refine k_open (cc := cJ6_newBytesFor) (maxL := 1) (ret := (some (.array .byte))) (by decide) rfl (Nat.le_of_ble_eq_true rfl) ?_
  intro p e s m args below meth c ls Q hx hb hr hml hown hts hlocks hname hQ hG hP hl hS
  have hl : lv_has ls 1 [(0, .int (nI mm))] := hl
  obtain ⟨w0, hw0⟩ : ∃ z, z = w := ⟨_, rfl⟩
  have hF : fr (pO (96, 4)) w0 w := by rw [hw0]; exact fr.rf
  rw [← hw0] at hQ
  refine lv_iload_n hx hb dJ6_newBytesFor_0 rfl (lv_at hl 0 rfl) ?_
  refine k_cS hx hb hml hown hts (CJ6_newBytesLength l0 E w mm (by omega)) (va_cwS 1 hts (lw_S q258 q259 q80 q260) rfl rfl rfl dyJ6_newBytesLength ⟨Nat.le_of_ble_eq_true rfl, Nat.le_of_ble_eq_true rfl⟩) hG hP hS (As := [.int (nI mm)]) (rest := []) rfl hl.1 rfl (lv_room (Nat.le_of_ble_eq_true rfl)) dJ6_newBytesFor_1 ⟨show 0 + 0 ≤ 1 from by omega, show 0 + 0 ≤ 150 from by omega⟩ (fun r9 w9 H locs hp hP hS => ?_)
  obtain ⟨hp1, hp0⟩ := hp
  rw [hp1] at hP
  rw [hp0]
  show W p l0 e rmCJ6_newBytesFor s m args below meth c H locs 0 0 Q (F0 m 4 ls [.int (nI (2 * mm))])
  refine k_newbW hx hb (96, 4) (hts _ q275) hG hP hS (n := 2 * mm) (by omega) (show 0 + 1 ≤ 1 from by omega) (show 0 + (2 * mm) ≤ 150 from by omega) dJ6_newBytesFor_4 (fun q4 w1 H h9 hf9 hP hS => ?_)
  have hD : w1 q4 = some ((96, 4), .inl (eT E 3, 2 * mm, .inl (fun _ => 0))) := h9
  have hF : fr (pO (96, 4)) w0 w1 := hF.tr (hf9.up (fun _ h9 => h9.elim))
  exact k_aret hx hb hr (Or.inr ⟨_, rfl⟩) hlocks hQ hP hS (by omega) (by omega) dJ6_newBytesFor_6 (⟨_, rfl, ⟨hD, trivial⟩, hF⟩)

abbrev rmCJ6_inflate : Room := { frames := 3, cells := 0, slots := 0, locals := 67 }
theorem dyJ6_inflate : yJ6_inflate.cls ≠ "java/lang/invoke/MethodHandle" ∧ yJ6_inflate.cls ≠ "java/lang/invoke/VarHandle" ∧ (parseMethodDescriptor yJ6_inflate.desc).map (fun d => d.parameters.length) = some 5 := by decide +kernel
set_option maxHeartbeats 4000000 in
theorem CJ6_inflate (l0 : Launch) (E : gE) (w : wd) (src : Nat) (dst : Nat) (mm : Nat) (m2 : Nat) (n : Nat) (f : Nat → Int32) (g : Nat → Int32) (B : Nat → Int32) (hn : n ≤ mm) (hn2 : 2 * n ≤ m2) (hm : mm ≤ 65536) (hm2 : m2 ≤ 65536) (hL : sL f B n) (hfg : sb_Fit g) (hA : w src = some ((96, 1), .inl (eT E 3, mm, .inl f))) (hD : w dst = some ((96, 4), .inl (eT E 3, m2, .inl g))) : kC l0 yJ6_inflate (ws_ yJ6_inflate cJ6_inflate 6 none) rmCJ6_inflate 0 0 mV E w [.ref src, .int 0, .ref dst, .int 0, .int (nI n)] (fun r w' => ∃ g9 : Nat → Int32, (sU g9 B n ∧ sb_Fit g9) ∧ (w' dst = some ((96, 4), .inl (eT E 3, m2, .inl g9)) ∧ True) ∧ fr (pO (96, 4)) w w') := by
  refine k_open (cc := cJ6_inflate) (maxL := 6) (ret := none) (by decide) rfl (Nat.le_of_ble_eq_true rfl) ?_
  intro p e s m args below meth c ls Q hx hb hr hml hown hts hlocks hname hQ hG hP hl hS
  have hl : lv_has ls 6 [(0, .ref src), (1, .int 0), (2, .ref dst), (3, .int 0), (4, .int (nI n))] := hl
  obtain ⟨w0, hw0⟩ : ∃ z, z = w := ⟨_, rfl⟩
  have hF : fr (pO (96, 4)) w0 w := by rw [hw0]; exact fr.rf
  rw [← hw0] at hQ
  refine lv_iload_n hx hb dJ6_inflate_0 rfl (lv_at hl 3 rfl) ?_
  refine lv_iload hx hb dJ6_inflate_1 (lv_at hl 4 rfl) ?_
  refine lv_aload_n hx hb dJ6_inflate_3 rfl (lv_at hl 2 rfl) ?_
  refine k_cS hx hb hml hown hts (CJ6_checkBoundsOffCount l0 E w 0 n dst m2 g (96, 4) (by omega) (by omega) hD) (va_cwS 3 hts (lw_S q1144 q1145 q80 q1146) rfl rfl rfl dyJ6_checkBoundsOffCount ⟨Nat.le_of_ble_eq_true rfl, Nat.le_of_ble_eq_true rfl⟩) hG hP hS (As := [.int 0, .int (nI n), .ref dst]) (rest := []) rfl hl.1 rfl (lv_room (Nat.le_of_ble_eq_true rfl)) dJ6_inflate_4 ⟨show 0 + 0 ≤ 0 from by omega, show 0 + 0 ≤ 0 from by omega⟩ (fun r9 w9 H locs hp hP hS => ?_)
  obtain ⟨hp1, hp0⟩ := hp
  rw [hp1] at hP
  show W p l0 e rmCJ6_inflate s m args below meth c H locs 0 0 Q (F0 m 7 ls [])
  refine lv_iconst (v := 0) hx hb dJ6_inflate_7 (by decide) ?_
  refine lv_istore (lv' := [(5, .int 0), (0, .ref src), (1, .int 0), (2, .ref dst), (3, .int 0), (4, .int (nI n))]) hx hb dJ6_inflate_8 hl (by decide) rfl (fun ls hl => ?_)
  have hloop_10 : ∀ (n9_10 : Nat) (i9 : Nat) (g : Nat → Int32), (i9 ≤ n) → (sU g B i9) → (sb_Fit g) → (n - i9) < n9_10 → ∀ (w : wd) (H : Heap) (locs : List Loc) (ls : Array Slot), (w src = some ((96, 1), .inl (eT E 3, mm, .inl f))) → (w dst = some ((96, 4), .inl (eT E 3, m2, .inl g))) → fr (pO (96, 4)) w0 w → wP E w H → va_S (gA E) s.heap H locs → lv_has ls 6 [(5, .int (nI i9)), (0, .ref src), (1, .int (nI i9)), (2, .ref dst), (3, .int (nI i9)), (4, .int (nI n))] → W p l0 e rmCJ6_inflate s m args below meth c H locs 0 0 Q (F0 m 10 ls []) := by
    intro n9_10
    induction n9_10 with
    | zero => intro i9 g hi9 hU hfg hn; exact absurd hn (Nat.not_lt_zero _)
    | succ n9_10 ih_10 =>
      intro i9 g hi9 hU hfg hn_10 w H locs ls hA hD hF hP hS hl
      refine lv_iload hx hb dJ6_inflate_10 (lv_at hl 0 rfl) ?_
      refine lv_iload hx hb dJ6_inflate_12 (lv_at hl 5 rfl) ?_
      refine k_icmp_geN (x := i9) (y := n) (tgt := 41) hx hb (by omega) (by omega) dJ6_inflate_14 (by decide) (fun c14 => ?_) (fun c14 => ?_)
      · skip
        exact k_vret hx hb hr hlocks hQ hP hS (by omega) (by omega) dJ6_inflate_41 (⟨_, ⟨by rw [show n = i9 from by omega]; exact hU, hfg⟩, ⟨hD, trivial⟩, hF⟩)
      · skip
        refine lv_aload_n hx hb dJ6_inflate_17 rfl (lv_at hl 3 rfl) ?_
        refine lv_iload_n hx hb dJ6_inflate_18 rfl (lv_at hl 4 rfl) ?_
        refine lv_iinc (v := (nI (i9 + 1))) (lv' := [(3, .int (nI (i9 + 1))), (5, .int (nI i9)), (0, .ref src), (1, .int (nI i9)), (2, .ref dst), (4, .int (nI n))]) hx hb dJ6_inflate_19 hl (k := 4) rfl (nI_add i9 1) (by decide) rfl (fun ls hl => ?_)
        refine lv_aload_n hx hb dJ6_inflate_22 rfl (lv_at hl 2 rfl) ?_
        refine lv_iload_n hx hb dJ6_inflate_23 rfl (lv_at hl 3 rfl) ?_
        refine lv_iinc (v := (nI (i9 + 1))) (lv' := [(1, .int (nI (i9 + 1))), (3, .int (nI (i9 + 1))), (5, .int (nI i9)), (0, .ref src), (2, .ref dst), (4, .int (nI n))]) hx hb dJ6_inflate_24 hl (k := 3) rfl (nI_add i9 1) (by decide) rfl (fun ls hl => ?_)
        refine k_bald hx hb hG hP (j := i9) hA (by omega) (show i9 < mm from by omega) dJ6_inflate_27 ?_
        refine lv_sipush (v := 255) hx hb dJ6_inflate_28 (by decide) ?_
        refine lv_iand hx hb dJ6_inflate_31 ?_
        refine k_cS hx hb hml hown hts (CJ6_putChar l0 E w dst m2 i9 ((f i9) &&& 255) g (96, 4) (by omega) (by omega) hD) (va_cwS 3 hts (lw_S q1158 q1159 q80 q1160) rfl rfl rfl dyJ6_putChar ⟨Nat.le_of_ble_eq_true rfl, Nat.le_of_ble_eq_true rfl⟩) hG hP hS (As := [.ref dst, .int (nI i9), .int ((f i9) &&& 255)]) (rest := []) rfl hl.1 rfl (lv_room (Nat.le_of_ble_eq_true rfl)) dJ6_inflate_32 ⟨show 0 + 0 ≤ 0 from by omega, show 0 + 0 ≤ 0 from by omega⟩ (fun r32 w1 H locs hp hP hS => ?_)
        obtain ⟨hp0, ⟨hD', -⟩, hf9⟩ := hp
        have hA : w1 src = some ((96, 1), .inl (eT E 3, mm, .inl f)) := hf9 _ _ _ hA (by intro z9; first | (simp only [pO, pN, pK, pT, pD, pB, Prod.mk.injEq] at z9; done) | (simp only [pO, pN, pK, pT, pD, pB, Prod.mk.injEq] at z9; omega) | exact hty z9 | exact hty z9.symm)
        have hF : fr (pO (96, 4)) w0 w1 := hF.tr (hf9.up (fun _ h9 => h9))
        have hD : w1 dst = some ((96, 4), .inl (eT E 3, m2, .inl (b8up (b8up g (2 * i9) (by8 (((f i9) &&& 255) >>> (0 &&& 31)))) (2 * i9 + 1) (by8 (((f i9) &&& 255) >>> (8 &&& 31)))))) := hD'
        show W p l0 e rmCJ6_inflate s m args below meth c H locs 0 0 Q (F0 m 35 ls [])
        refine lv_iinc (v := (nI (i9 + 1))) (lv' := [(5, .int (nI (i9 + 1))), (1, .int (nI (i9 + 1))), (3, .int (nI (i9 + 1))), (0, .ref src), (2, .ref dst), (4, .int (nI n))]) hx hb dJ6_inflate_35 hl (k := 2) rfl (nI_add i9 1) (by decide) rfl (fun ls hl => ?_)
        refine lv_goto (tgt := 10) hx hb dJ6_inflate_38 (by decide) ?_
        have hl := lv_sub (l' := [(5, .int (nI (i9 + 1))), (0, .ref src), (1, .int (nI (i9 + 1))), (2, .ref dst), (3, .int (nI (i9 + 1))), (4, .int (nI n))]) hl [0, 3, 1, 4, 2, 5] rfl
        exact ih_10 (i9 + 1) (b8up (b8up g (2 * i9) (by8 (((f i9) &&& 255) >>> (0 &&& 31)))) (2 * i9 + 1) (by8 (((f i9) &&& 255) >>> (8 &&& 31)))) (by omega) (sU_put hU (by obtain ⟨h8, k, hk, h9⟩ := hL i9 (by omega); exact ⟨k, by omega, by rw [h8, h9]⟩) (hL i9 (by omega)).1) (b8up_fit (b8up_fit hfg)) (by omega) _ _ _ _ hA hD hF hP hS hl
  have hl : lv_has ls 6 [(5, .int (nI 0)), (0, .ref src), (1, .int (nI 0)), (2, .ref dst), (3, .int (nI 0)), (4, .int (nI n))] := hl
  exact hloop_10 _ 0 g (by omega) (fun j hj => absurd hj (Nat.not_lt_zero j)) hfg (Nat.lt_succ_self _) _ _ _ _ hA hD hF hP hS hl

abbrev rmCJ19_inflate : Room := { frames := 4, cells := 0, slots := 0, locals := 92 }
theorem dyJ19_inflate : yJ19_inflate.cls ≠ "java/lang/invoke/MethodHandle" ∧ yJ19_inflate.cls ≠ "java/lang/invoke/VarHandle" ∧ (parseMethodDescriptor yJ19_inflate.desc).map (fun d => d.parameters.length) = some 5 := by decide +kernel
set_option maxHeartbeats 4000000 in
theorem CJ19_inflate (l0 : Launch) (E : gE) (w : wd) (src : Nat) (dst : Nat) (mm : Nat) (m2 : Nat) (n : Nat) (f : Nat → Int32) (g : Nat → Int32) (B : Nat → Int32) (hn : n ≤ mm) (hn2 : 2 * n ≤ m2) (hm : mm ≤ 65536) (hm2 : m2 ≤ 65536) (hL : sL f B n) (hfg : sb_Fit g) (hA : w src = some ((96, 1), .inl (eT E 3, mm, .inl f))) (hD : w dst = some ((96, 4), .inl (eT E 3, m2, .inl g))) : kC l0 yJ19_inflate (ws_ yJ19_inflate cJ19_inflate 5 none) rmCJ19_inflate 0 0 mV E w [.ref src, .int 0, .ref dst, .int 0, .int (nI n)] (fun r w' => ∃ g9 : Nat → Int32, (sU g9 B n ∧ sb_Fit g9) ∧ (w' dst = some ((96, 4), .inl (eT E 3, m2, .inl g9)) ∧ True) ∧ fr (pO (96, 4)) w w') := by
  refine k_open (cc := cJ19_inflate) (maxL := 5) (ret := none) (by decide) rfl (Nat.le_of_ble_eq_true rfl) ?_
  intro p e s m args below meth c ls Q hx hb hr hml hown hts hlocks hname hQ hG hP hl hS
  have hl : lv_has ls 5 [(0, .ref src), (1, .int 0), (2, .ref dst), (3, .int 0), (4, .int (nI n))] := hl
  obtain ⟨w0, hw0⟩ : ∃ z, z = w := ⟨_, rfl⟩
  have hF : fr (pO (96, 4)) w0 w := by rw [hw0]; exact fr.rf
  rw [← hw0] at hQ
  refine lv_aload_n hx hb dJ19_inflate_0 rfl (lv_at hl 0 rfl) ?_
  refine lv_iload_n hx hb dJ19_inflate_1 rfl (lv_at hl 1 rfl) ?_
  refine lv_aload_n hx hb dJ19_inflate_2 rfl (lv_at hl 2 rfl) ?_
  refine lv_iload_n hx hb dJ19_inflate_3 rfl (lv_at hl 3 rfl) ?_
  refine lv_iload hx hb dJ19_inflate_4 (lv_at hl 4 rfl) ?_
  refine k_cS hx hb hml hown hts (CJ6_inflate l0 E w src dst mm m2 n f g B (by omega) (by omega) (by omega) (by omega) hL hfg hA hD) (va_cwS 5 hts (lw_S q1141 q1142 q80 q1143) rfl rfl rfl dyJ6_inflate ⟨Nat.le_of_ble_eq_true rfl, Nat.le_of_ble_eq_true rfl⟩) hG hP hS (As := [.ref src, .int 0, .ref dst, .int 0, .int (nI n)]) (rest := []) rfl hl.1 rfl (lv_room (Nat.le_of_ble_eq_true rfl)) dJ19_inflate_6 ⟨show 0 + 0 ≤ 0 from by omega, show 0 + 0 ≤ 0 from by omega⟩ (fun r6 w1 H locs hp hP hS => ?_)
  obtain ⟨g9_1, hp0, ⟨hD', -⟩, hf9⟩ := hp
  have hA : w1 src = some ((96, 1), .inl (eT E 3, mm, .inl f)) := hf9 _ _ _ hA (by intro z9; first | (simp only [pO, pN, pK, pT, pD, pB, Prod.mk.injEq] at z9; done) | (simp only [pO, pN, pK, pT, pD, pB, Prod.mk.injEq] at z9; omega) | exact hty z9 | exact hty z9.symm)
  have hF : fr (pO (96, 4)) w0 w1 := hF.tr (hf9.up (fun _ h9 => h9))
  have hD : w1 dst = some ((96, 4), .inl (eT E 3, m2, .inl g9_1)) := hD'
  show W p l0 e rmCJ19_inflate s m args below meth c H locs 0 0 Q (F0 m 9 ls [])
  exact k_vret hx hb hr hlocks hQ hP hS (by omega) (by omega) dJ19_inflate_9 (⟨_, hp0, ⟨hD, trivial⟩, hF⟩)

abbrev rmCJ3_inflate : Room := { frames := 5, cells := 1, slots := 150, locals := 116 }
theorem dyJ3_inflate : yJ3_inflate.cls = RJ3 ∧ yJ3_inflate.cls ≠ "java/lang/invoke/MethodHandle" ∧ yJ3_inflate.cls ≠ "java/lang/invoke/VarHandle" ∧ (parseMethodDescriptor yJ3_inflate.desc).map (fun d => d.parameters.length) = some 0 := by decide +kernel
set_option maxHeartbeats 4000000 in
theorem CJ3_inflate (l0 : Launch) (E : gE) (w : wd) (b : Nat) (q : Nat) (mm : Nat) (n : Nat) (f : Nat → Int32) (B : Nat → Int32) (hn : n ≤ mm) (hm : mm ≤ 70) (hL : sL f B n) (hB : w b = some ((96, 0), .inr (15, [.ref q, .int 0, .int 0, .int (nI n)]))) (hA : w q = some ((96, 1), .inl (eT E 3, mm, .inl f))) : kC l0 yJ3_inflate (ws_ yJ3_inflate cJ3_inflate 2 none) rmCJ3_inflate 1 150 mV E w [.ref b] (fun r w' => ∃ q9 : Nat, ∃ g9 : Nat → Int32, (sU g9 B n ∧ sb_Fit g9) ∧ (w' b = some ((96, 0), .inr (15, [.ref q9, .int 1, .int 0, .int (nI n)])) ∧ w' q9 = some ((96, 1), .inl (eT E 3, 2 * mm, .inl g9)) ∧ True) ∧ fr pB w w') := by
  refine k_open (cc := cJ3_inflate) (maxL := 2) (ret := none) (by decide) rfl (Nat.le_of_ble_eq_true rfl) ?_
  intro p e s m args below meth c ls Q hx hb hr hml hown hts hlocks hname hQ hG hP hl hS
  have hl : lv_has ls 2 [(0, .ref b)] := hl
  obtain ⟨w0, hw0⟩ : ∃ z, z = w := ⟨_, rfl⟩
  have hF : fr pB w0 w := by rw [hw0]; exact fr.rf
  rw [← hw0] at hQ
  refine lv_aload_n hx hb dJ3_inflate_0 rfl (lv_at hl 0 rfl) ?_
  refine k_cV hx hb hml hown hts (CJ3_isLatin1L l0 E w b q n hB) (cwVi 0 hts q1126 q1127 q1129 q77 q1130 rfl rfl (by decide +kernel) ⟨Nat.le_of_ble_eq_true rfl, Nat.le_of_ble_eq_true rfl⟩) hG hP hS hB rfl (As := []) (rest := []) rfl hl.1 rfl (lv_room (Nat.le_of_ble_eq_true rfl)) dJ3_inflate_1 ⟨show 0 + 0 ≤ 1 from by omega, show 0 + 0 ≤ 150 from by omega⟩ (fun r9 w9 H locs hp hP hS => ?_)
  obtain ⟨hp1, hp0⟩ := hp
  rw [hp1] at hP
  rw [hp0]
  show W p l0 e rmCJ3_inflate s m args below meth c H locs 0 0 Q (F0 m 4 ls [.int 1])
  refine lv_if_ne (tgt := 8) hx hb dJ3_inflate_4 (by decide) (fun c4 => ?_) (fun c4 => ?_)
  · skip
    refine lv_aload_n hx hb dJ3_inflate_8 rfl (lv_at hl 0 rfl) ?_
    refine k_get hx hb hts in_J4 hown hG hP hB rfl 0 (by decide) (hts _ q262) (fun _ h9 => h9) (v := .ref q) rfl dJ3_inflate_9 ?_
    refine k_alenb hx hb hG hP hA dJ3_inflate_12 ?_
    refine k_cS hx hb hml hown hts (CJ6_newBytesFor l0 E w mm (by omega)) (va_cwS 1 hts (lw_S q255 q256 q80 q257) rfl rfl rfl dyJ6_newBytesFor ⟨Nat.le_of_ble_eq_true rfl, Nat.le_of_ble_eq_true rfl⟩) hG hP hS (As := [.int (nI mm)]) (rest := []) rfl hl.1 rfl (lv_room (Nat.le_of_ble_eq_true rfl)) dJ3_inflate_13 ⟨show 0 + 1 ≤ 1 from by omega, show 0 + 150 ≤ 150 from by omega⟩ (fun r13 w1 H locs hp hP hS => ?_)
    obtain ⟨q9_1, hp0, ⟨hn2', -⟩, hf9⟩ := hp
    have hB : w1 b = some ((96, 0), .inr (15, [.ref q, .int 0, .int 0, .int (nI n)])) := hf9 _ _ _ hB (by intro z9; first | (simp only [pO, pN, pK, pT, pD, pB, Prod.mk.injEq] at z9; done) | (simp only [pO, pN, pK, pT, pD, pB, Prod.mk.injEq] at z9; omega) | exact hty z9 | exact hty z9.symm)
    have hA : w1 q = some ((96, 1), .inl (eT E 3, mm, .inl f)) := hf9 _ _ _ hA (by intro z9; first | (simp only [pO, pN, pK, pT, pD, pB, Prod.mk.injEq] at z9; done) | (simp only [pO, pN, pK, pT, pD, pB, Prod.mk.injEq] at z9; omega) | exact hty z9 | exact hty z9.symm)
    have hF : fr pB w0 w1 := hF.tr (hf9.up (fun t9 h9 => by simp only [pO, pB] at h9 ⊢; first | exact h9 | (subst h9; rfl)))
    have hn2 : w1 q9_1 = some ((96, 4), .inl (eT E 3, 2 * mm, .inl (fun _ => 0))) := hn2'
    rw [hp0]
    show W p l0 e rmCJ3_inflate s m args below meth c H locs (0 + 1) (0 + 150) Q (F0 m 16 ls [.ref q9_1])
    refine lv_astore_n (lv' := [(1, .ref q9_1), (0, .ref b)]) hx hb dJ3_inflate_16 rfl hl (by decide) rfl (fun ls hl => ?_)
    refine lv_aload_n hx hb dJ3_inflate_17 rfl (lv_at hl 1 rfl) ?_
    refine k_get hx hb hts in_J4 hown hG hP hB rfl 0 (by decide) (hts _ q262) (fun _ h9 => h9) (v := .ref q) rfl dJ3_inflate_18 ?_
    refine lv_iconst (v := 0) hx hb dJ3_inflate_21 (by decide) ?_
    refine lv_aload_n hx hb dJ3_inflate_22 rfl (lv_at hl 0 rfl) ?_
    refine lv_iconst (v := 0) hx hb dJ3_inflate_23 (by decide) ?_
    refine lv_aload_n hx hb dJ3_inflate_24 rfl (lv_at hl 1 rfl) ?_
    refine k_get hx hb hts in_J4 hown hG hP hB rfl 3 (by decide) (hts _ q265) (fun _ h9 => h9) (v := .int (nI n)) rfl dJ3_inflate_25 ?_
    refine k_cS hx hb hml hown hts (CJ19_inflate l0 E w1 q q9_1 mm (2 * mm) n f (fun _ => 0) B (by omega) (by omega) (by omega) (by omega) hL sb_fit0 hA hn2) (va_cwS 5 hts (lw_S q1138 q1139 q97 q1140) rfl rfl rfl dyJ19_inflate ⟨Nat.le_of_ble_eq_true rfl, Nat.le_of_ble_eq_true rfl⟩) hG hP hS (As := [.ref q, .int 0, .ref q9_1, .int 0, .int (nI n)]) (rest := []) rfl hl.1 rfl (lv_room (Nat.le_of_ble_eq_true rfl)) dJ3_inflate_28 ⟨show (0 + 1) + 0 ≤ 1 from by omega, show (0 + 150) + 0 ≤ 150 from by omega⟩ (fun r28 w2 H locs hp hP hS => ?_)
    obtain ⟨g9_3, hp0, ⟨hn2', -⟩, hf9⟩ := hp
    have hB : w2 b = some ((96, 0), .inr (15, [.ref q, .int 0, .int 0, .int (nI n)])) := hf9 _ _ _ hB (by intro z9; first | (simp only [pO, pN, pK, pT, pD, pB, Prod.mk.injEq] at z9; done) | (simp only [pO, pN, pK, pT, pD, pB, Prod.mk.injEq] at z9; omega) | exact hty z9 | exact hty z9.symm)
    have hA : w2 q = some ((96, 1), .inl (eT E 3, mm, .inl f)) := hf9 _ _ _ hA (by intro z9; first | (simp only [pO, pN, pK, pT, pD, pB, Prod.mk.injEq] at z9; done) | (simp only [pO, pN, pK, pT, pD, pB, Prod.mk.injEq] at z9; omega) | exact hty z9 | exact hty z9.symm)
    have hF : fr pB w0 w2 := hF.tr (hf9.up (fun t9 h9 => by simp only [pO, pB] at h9 ⊢; first | exact h9 | (subst h9; rfl)))
    have hn2 : w2 q9_1 = some ((96, 4), .inl (eT E 3, (2 * mm), .inl g9_3)) := hn2'
    show W p l0 e rmCJ3_inflate s m args below meth c H locs (0 + 1) (0 + 150) Q (F0 m 31 ls [])
    obtain ⟨w3, h9, hf9, hP⟩ := k_retag (96, 1) hP hn2
    have hn2 : w3 q9_1 = some ((96, 1), .inl (eT E 3, (2 * mm), .inl g9_3)) := h9
    have hB : w3 b = some ((96, 0), .inr (15, [.ref q, .int 0, .int 0, .int (nI n)])) := hf9 _ _ _ hB (by intro z9; first | (simp only [pO, pN, pK, pT, pD, pB, Prod.mk.injEq] at z9; done) | (simp only [pO, pN, pK, pT, pD, pB, Prod.mk.injEq] at z9; omega) | exact hty z9 | exact hty z9.symm)
    have hF : fr pB w0 w3 := hF.tr (hf9.up (fun t9 h9 => by simp only [pO, pB] at h9 ⊢; first | exact h9 | (subst h9; rfl)))
    have hg9 := hp0
    refine lv_aload_n hx hb dJ3_inflate_31 rfl (lv_at hl 1 rfl) ?_
    refine lv_aload_n hx hb dJ3_inflate_32 rfl (lv_at hl 0 rfl) ?_
    refine k_putW hx hb hts in_J4 tyJ4 tyJ4_ok nmJ4 hown hG hP hS hB rfl 0 (by decide) (hts _ q262) (fun _ h9 => h9) rfl (ty := (.array .byte)) (v := .ref q9_1) rfl rfl rfl (Nat.le_of_ble_eq_true rfl) dJ3_inflate_33 (fun w4 H locs h9 hf9 hP hS => ?_)
    have hB : w4 b = some ((96, 0), .inr (15, [.ref q9_1, .int 0, .int 0, .int (nI n)])) := h9
    have hn2 : w4 q9_1 = some ((96, 1), .inl (eT E 3, (2 * mm), .inl g9_3)) := hf9 _ _ _ hn2 (by intro z9; first | (simp only [pO, pN, pK, pT, pD, pB, Prod.mk.injEq] at z9; done) | (simp only [pO, pN, pK, pT, pD, pB, Prod.mk.injEq] at z9; omega) | exact hty z9 | exact hty z9.symm)
    have hF : fr pB w0 w4 := hF.tr (hf9.up (fun t9 h9 => by simp only [pO, pB] at h9 ⊢; first | exact h9 | (subst h9; rfl)))
    refine lv_aload_n hx hb dJ3_inflate_36 rfl (lv_at hl 1 rfl) ?_
    refine lv_iconst (v := 1) hx hb dJ3_inflate_37 (by decide) ?_
    refine k_putW hx hb hts in_J4 tyJ4 tyJ4_ok nmJ4 hown hG hP hS hB rfl 1 (by decide) (hts _ q263) (fun _ h9 => h9) rfl (ty := .byte) (v := .int 1) rfl rfl rfl (Nat.le_of_ble_eq_true rfl) dJ3_inflate_38 (fun w5 H locs h9 hf9 hP hS => ?_)
    have hB : w5 b = some ((96, 0), .inr (15, [.ref q9_1, .int 1, .int 0, .int (nI n)])) := h9
    have hn2 : w5 q9_1 = some ((96, 1), .inl (eT E 3, (2 * mm), .inl g9_3)) := hf9 _ _ _ hn2 (by intro z9; first | (simp only [pO, pN, pK, pT, pD, pB, Prod.mk.injEq] at z9; done) | (simp only [pO, pN, pK, pT, pD, pB, Prod.mk.injEq] at z9; omega) | exact hty z9 | exact hty z9.symm)
    have hF : fr pB w0 w5 := hF.tr (hf9.up (fun t9 h9 => by simp only [pO, pB] at h9 ⊢; first | exact h9 | (subst h9; rfl)))
    exact k_vret hx hb hr hlocks hQ hP hS (by omega) (by omega) dJ3_inflate_41 (⟨_, _, hg9, ⟨hB, hn2, trivial⟩, hF⟩)
  · skip
    exact absurd c4 (by decide)
