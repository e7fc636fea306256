/-! THE JDK, 9: strings read -/
set_option maxRecDepth 100000
abbrev rmCJ5_init : Room := { frames := 4, cells := 1, slots := 150, locals := 130 }
theorem dyJ5_init : yJ5_init.cls = RJ5 ∧ yJ5_init.cls ≠ "java/lang/invoke/MethodHandle" ∧ yJ5_init.cls ≠ "java/lang/invoke/VarHandle" ∧ (parseMethodDescriptor yJ5_init.desc).map (fun d => d.parameters.length) = some 1 := by decide +kernel
set_option maxHeartbeats 4000000 in
theorem CJ5_init (l0 : Launch) (E : gE) (w : wd) (y : Nat) (b : Nat) (B : Nat → Int32) (n : Nat) (hSB : sbR E w b B n) (hy : w y = some ((96, 2), .inr (16, [.null, .int 0, .int 0, .int 0]))) : kC l0 yJ5_init (ws_ yJ5_init cJ5_init 2 none) rmCJ5_init 1 150 mV E w [.ref y, .ref b] (fun r w' => (True) ∧ (strR E w' y B n ∧ True) ∧ fr pS w w') := by
  refine k_open (cc := cJ5_init) (maxL := 2) (ret := none) (by decide) rfl (Nat.le_of_ble_eq_true rfl) ?_
  intro p e s m args below meth c ls Q hx hb hr hml hown hts hlocks hname hQ hG hP hl hS
  have hl : lv_has ls 2 [(0, .ref y), (1, .ref b)] := hl
  obtain ⟨w0, hw0⟩ : ∃ z, z = w := ⟨_, rfl⟩
  have hF : fr pS w0 w := by rw [hw0]; exact fr.rf
  rw [← hw0] at hQ
  refine lv_aload_n hx hb dJ5_init_0 rfl (lv_at hl 0 rfl) ?_
  refine lv_aload_n hx hb dJ5_init_1 rfl (lv_at hl 1 rfl) ?_
  refine lv_null hx hb dJ5_init_2 ?_
  refine k_cI hx hb hml hown hts (CJ5_init_2 l0 E w y b B n hSB hy) (cwI 2 hts (lw_meth q1199) rfl rfl rfl (hts _ q79) (hts _ q1197) (hts _ q1198) rfl dyJ5_init_2.2 ⟨Nat.le_of_ble_eq_true rfl, Nat.le_of_ble_eq_true rfl⟩) hG hP hS (As := [.ref b, .null]) (rest := []) rfl hl.1 rfl (lv_room (Nat.le_of_ble_eq_true rfl)) dJ5_init_3 ⟨show 0 + 1 ≤ 1 from by omega, show 0 + 150 ≤ 150 from by omega⟩ (fun r3 w1 H locs hp hP hS => ?_)
  obtain ⟨hp0, ⟨hn1', -⟩, hf9⟩ := hp
  have hSB : sbR E w1 b B n := hSB.fr hf9 (by intro z9; simp [pS, pO, pB, pN] at z9) (by intro z9; simp [pS, pO, pB, pN] at z9)
  have hF : fr pS w0 w1 := hF.tr (hf9.up (fun _ h9 => h9))
  have hn1 : strR E w1 y B n := hn1'
  show W p l0 e rmCJ5_init s m args below meth c H locs (0 + 1) (0 + 150) Q (F0 m 6 ls [])
  exact k_vret hx hb hr hlocks hQ hP hS (by omega) (by omega) dJ5_init_6 (⟨trivial, ⟨hn1, trivial⟩, hF⟩)

abbrev rmCJ4_toString : Room := { frames := 5, cells := 2, slots := 154, locals := 151 }
theorem dyJ4_toString : yJ4_toString.cls = RJ4 ∧ yJ4_toString.cls ≠ "java/lang/invoke/MethodHandle" ∧ yJ4_toString.cls ≠ "java/lang/invoke/VarHandle" ∧ (parseMethodDescriptor yJ4_toString.desc).map (fun d => d.parameters.length) = some 0 := by decide +kernel
set_option maxHeartbeats 4000000 in
theorem CJ4_toString (l0 : Launch) (E : gE) (w : wd) (b : Nat) (B : Nat → Int32) (n : Nat) (hSB : sbR E w b B n) : kC l0 yJ4_toString (ws_ yJ4_toString cJ4_toString 1 (some (.object "java/lang/String"))) rmCJ4_toString 2 154 mR E w [.ref b] (fun r w' => ∃ q9 : Nat, (r = q9) ∧ (strR E w' q9 B n ∧ True) ∧ fr pS w w') := by
  refine k_open (cc := cJ4_toString) (maxL := 1) (ret := (some (.object "java/lang/String"))) (by decide) rfl (Nat.le_of_ble_eq_true rfl) ?_
  intro p e s m args below meth c ls Q hx hb hr hml hown hts hlocks hname hQ hG hP hl hS
  have hl : lv_has ls 1 [(0, .ref b)] := hl
  obtain ⟨w0, hw0⟩ : ∃ z, z = w := ⟨_, rfl⟩
  have hF : fr pS w0 w := by rw [hw0]; exact fr.rf
  rw [← hw0] at hQ
  refine k_newW hx hb (96, 2) hts in_J5 tyJ5 tyJ5_ok hown (hts _ q1193) (hts _ q440) (hts _ q79) hG hP hS (ci := 16) rfl (fs := [.null, .int 0, .int 0, .int 0]) (by decide) (show 0 + 1 ≤ 2 from by omega) (show 0 + 4 ≤ 154 from by omega) dJ4_toString_0 (fun q0 w1 H h9 hf9 hP hS => ?_)
  have hy : w1 q0 = some ((96, 2), .inr (16, [.null, .int 0, .int 0, .int 0])) := h9
  have hSB : sbR E w1 b B n := hSB.fr hf9 (fun z9 => z9) (fun z9 => z9)
  have hF : fr pS w0 w1 := hF.tr (hf9.up (fun _ h9 => h9.elim))
  refine lv_dup hx hb dJ4_toString_3 rfl ?_
  refine lv_aload_n hx hb dJ4_toString_4 rfl (lv_at hl 0 rfl) ?_
  refine k_cI hx hb hml hown hts (CJ5_init l0 E w1 q0 b B n hSB hy) (cwI 1 hts (lw_meth q1196) rfl rfl rfl (hts _ q79) (hts _ q1194) (hts _ q1195) rfl dyJ5_init.2 ⟨Nat.le_of_ble_eq_true rfl, Nat.le_of_ble_eq_true rfl⟩) hG hP hS (As := [.ref b]) (rest := [.ref q0]) rfl hl.1 rfl (lv_room (Nat.le_of_ble_eq_true rfl)) dJ4_toString_5 ⟨show (0 + 1) + 1 ≤ 2 from by omega, show (0 + 4) + 150 ≤ 154 from by omega⟩ (fun r5 w2 H locs hp hP hS => ?_)
  obtain ⟨hp0, ⟨hn1', -⟩, hf9⟩ := hp
  have hSB : sbR E w2 b B n := hSB.fr hf9 (by intro z9; simp [pS, pO, pB, pN] at z9) (by intro z9; simp [pS, pO, pB, pN] at z9)
  have hF : fr pS w0 w2 := hF.tr (hf9.up (fun _ h9 => h9))
  have hn1 : strR E w2 q0 B n := hn1'
  show W p l0 e rmCJ4_toString s m args below meth c H locs ((0 + 1) + 1) ((0 + 4) + 150) Q (F0 m 8 ls [.ref q0])
  exact k_aret hx hb hr (Or.inl ⟨_, rfl⟩) hlocks hQ hP hS (by omega) (by omega) dJ4_toString_8 (⟨_, rfl, ⟨hn1, trivial⟩, hF⟩)

abbrev rmCJ5_coderL : Room := { frames := 0, cells := 0, slots := 0, locals := 0 }
theorem dyJ5_coder : yJ5_coder.cls = RJ5 ∧ yJ5_coder.cls ≠ "java/lang/invoke/MethodHandle" ∧ yJ5_coder.cls ≠ "java/lang/invoke/VarHandle" ∧ (parseMethodDescriptor yJ5_coder.desc).map (fun d => d.parameters.length) = some 0 := by decide +kernel
set_option maxHeartbeats 4000000 in
theorem CJ5_coderL (l0 : Launch) (E : gE) (w : wd) (y : Nat) (q : Nat) (hy : w y = some ((96, 2), .inr (16, [.ref q, .int 0, .int 0, .int 0]))) : kC l0 yJ5_coder (ws_ yJ5_coder cJ5_coder 1 (some .byte)) rmCJ5_coderL 0 0 mI E w [.ref y] (fun r w' => w' = w ∧ r = 0) := by
  refine k_open (cc := cJ5_coder) (maxL := 1) (ret := (some .byte)) (by decide) rfl (Nat.le_of_ble_eq_true rfl) ?_
  intro p e s m args below meth c ls Q hx hb hr hml hown hts hlocks hname hQ hG hP hl hS
  have hl : lv_has ls 1 [(0, .ref y)] := hl
  refine k_getZ (v := 1) hx hb (List.mem_of_getElem? (i := 0) rfl) hown hG hS (hts _ q1277) (fun _ h9 => h9) dJ5_coder_0 ?_
  refine lv_if_eq (tgt := 13) hx hb dJ5_coder_3 (by decide) (fun c3 => ?_) (fun c3 => ?_)
  · skip
    exact absurd c3 (by decide)
  · skip
    refine lv_aload_n hx hb dJ5_coder_6 rfl (lv_at hl 0 rfl) ?_
    refine k_get hx hb hts in_J5 hown hG hP hy rfl 1 (by decide) (hts _ q1312) (fun _ h9 => h9) (v := .int 0) rfl dJ5_coder_7 ?_
    refine lv_goto (tgt := 14) hx hb dJ5_coder_10 (by decide) ?_
    exact k_zret hx hb hr hlocks hQ hP hS (by omega) (by omega) dJ5_coder_14 rfl (⟨rfl, rfl⟩)

abbrev rmCJ5_coderU : Room := { frames := 0, cells := 0, slots := 0, locals := 0 }
set_option maxHeartbeats 4000000 in
theorem CJ5_coderU (l0 : Launch) (E : gE) (w : wd) (y : Nat) (q : Nat) (hy : w y = some ((96, 2), .inr (16, [.ref q, .int 1, .int 0, .int 0]))) : kC l0 yJ5_coder (ws_ yJ5_coder cJ5_coder 1 (some .byte)) rmCJ5_coderU 0 0 mI E w [.ref y] (fun r w' => w' = w ∧ r = 1) := by
  refine k_open (cc := cJ5_coder) (maxL := 1) (ret := (some .byte)) (by decide) rfl (Nat.le_of_ble_eq_true rfl) ?_
  intro p e s m args below meth c ls Q hx hb hr hml hown hts hlocks hname hQ hG hP hl hS
  have hl : lv_has ls 1 [(0, .ref y)] := hl
  refine k_getZ (v := 1) hx hb (List.mem_of_getElem? (i := 0) rfl) hown hG hS (hts _ q1277) (fun _ h9 => h9) dJ5_coder_0 ?_
  refine lv_if_eq (tgt := 13) hx hb dJ5_coder_3 (by decide) (fun c3 => ?_) (fun c3 => ?_)
  · skip
    exact absurd c3 (by decide)
  · skip
    refine lv_aload_n hx hb dJ5_coder_6 rfl (lv_at hl 0 rfl) ?_
    refine k_get hx hb hts in_J5 hown hG hP hy rfl 1 (by decide) (hts _ q1312) (fun _ h9 => h9) (v := .int 1) rfl dJ5_coder_7 ?_
    refine lv_goto (tgt := 14) hx hb dJ5_coder_10 (by decide) ?_
    exact k_zret hx hb hr hlocks hQ hP hS (by omega) (by omega) dJ5_coder_14 rfl (⟨rfl, rfl⟩)

abbrev rmCJ5_isLatin1L : Room := { frames := 0, cells := 0, slots := 0, locals := 0 }
theorem dyJ5_isLatin1 : yJ5_isLatin1.cls = RJ5 ∧ yJ5_isLatin1.cls ≠ "java/lang/invoke/MethodHandle" ∧ yJ5_isLatin1.cls ≠ "java/lang/invoke/VarHandle" ∧ (parseMethodDescriptor yJ5_isLatin1.desc).map (fun d => d.parameters.length) = some 0 := by decide +kernel
set_option maxHeartbeats 4000000 in
theorem CJ5_isLatin1L (l0 : Launch) (E : gE) (w : wd) (y : Nat) (q : Nat) (hy : w y = some ((96, 2), .inr (16, [.ref q, .int 0, .int 0, .int 0]))) : kC l0 yJ5_isLatin1 (ws_ yJ5_isLatin1 cJ5_isLatin1 1 (some .boolean)) rmCJ5_isLatin1L 0 0 mI E w [.ref y] (fun r w' => w' = w ∧ r = 1) := by
  refine k_open (cc := cJ5_isLatin1) (maxL := 1) (ret := (some .boolean)) (by decide) rfl (Nat.le_of_ble_eq_true rfl) ?_
  intro p e s m args below meth c ls Q hx hb hr hml hown hts hlocks hname hQ hG hP hl hS
  have hl : lv_has ls 1 [(0, .ref y)] := hl
  refine k_getZ (v := 1) hx hb (List.mem_of_getElem? (i := 0) rfl) hown hG hS (hts _ q1277) (fun _ h9 => h9) dJ5_isLatin1_0 ?_
  refine lv_if_eq (tgt := 17) hx hb dJ5_isLatin1_3 (by decide) (fun c3 => ?_) (fun c3 => ?_)
  · skip
    exact absurd c3 (by decide)
  · skip
    refine lv_aload_n hx hb dJ5_isLatin1_6 rfl (lv_at hl 0 rfl) ?_
    refine k_get hx hb hts in_J5 hown hG hP hy rfl 1 (by decide) (hts _ q1312) (fun _ h9 => h9) (v := .int 0) rfl dJ5_isLatin1_7 ?_
    refine lv_if_ne (tgt := 17) hx hb dJ5_isLatin1_10 (by decide) (fun c10 => ?_) (fun c10 => ?_)
    · skip
      exact absurd c10 (by decide)
    · skip
      refine lv_iconst (v := 1) hx hb dJ5_isLatin1_13 (by decide) ?_
      refine lv_goto (tgt := 18) hx hb dJ5_isLatin1_14 (by decide) ?_
      exact k_zret hx hb hr hlocks hQ hP hS (by omega) (by omega) dJ5_isLatin1_18 rfl (⟨rfl, rfl⟩)

abbrev rmCJ5_isLatin1U : Room := { frames := 0, cells := 0, slots := 0, locals := 0 }
set_option maxHeartbeats 4000000 in
theorem CJ5_isLatin1U (l0 : Launch) (E : gE) (w : wd) (y : Nat) (q : Nat) (hy : w y = some ((96, 2), .inr (16, [.ref q, .int 1, .int 0, .int 0]))) : kC l0 yJ5_isLatin1 (ws_ yJ5_isLatin1 cJ5_isLatin1 1 (some .boolean)) rmCJ5_isLatin1U 0 0 mI E w [.ref y] (fun r w' => w' = w ∧ r = 0) := by
  refine k_open (cc := cJ5_isLatin1) (maxL := 1) (ret := (some .boolean)) (by decide) rfl (Nat.le_of_ble_eq_true rfl) ?_
  intro p e s m args below meth c ls Q hx hb hr hml hown hts hlocks hname hQ hG hP hl hS
  have hl : lv_has ls 1 [(0, .ref y)] := hl
  refine k_getZ (v := 1) hx hb (List.mem_of_getElem? (i := 0) rfl) hown hG hS (hts _ q1277) (fun _ h9 => h9) dJ5_isLatin1_0 ?_
  refine lv_if_eq (tgt := 17) hx hb dJ5_isLatin1_3 (by decide) (fun c3 => ?_) (fun c3 => ?_)
  · skip
    exact absurd c3 (by decide)
  · skip
    refine lv_aload_n hx hb dJ5_isLatin1_6 rfl (lv_at hl 0 rfl) ?_
    refine k_get hx hb hts in_J5 hown hG hP hy rfl 1 (by decide) (hts _ q1312) (fun _ h9 => h9) (v := .int 1) rfl dJ5_isLatin1_7 ?_
    refine lv_if_ne (tgt := 17) hx hb dJ5_isLatin1_10 (by decide) (fun c10 => ?_) (fun c10 => ?_)
    · skip
      refine lv_iconst (v := 0) hx hb dJ5_isLatin1_17 (by decide) ?_
      exact k_zret hx hb hr hlocks hQ hP hS (by omega) (by omega) dJ5_isLatin1_18 rfl (⟨rfl, rfl⟩)
    · skip
      exact absurd c10 (by decide)

abbrev rmCJ5_length : Room := { frames := 1, cells := 0, slots := 0, locals := 20 }
theorem dyJ5_length : yJ5_length.cls = RJ5 ∧ yJ5_length.cls ≠ "java/lang/invoke/MethodHandle" ∧ yJ5_length.cls ≠ "java/lang/invoke/VarHandle" ∧ (parseMethodDescriptor yJ5_length.desc).map (fun d => d.parameters.length) = some 0 := by decide +kernel
set_option maxHeartbeats 4000000 in
theorem CJ5_length (l0 : Launch) (E : gE) (w : wd) (y : Nat) (B : Nat → Int32) (n : Nat) (hST : strR E w y B n) : kC l0 yJ5_length (ws_ yJ5_length cJ5_length 1 (some .int)) rmCJ5_length 0 0 mI E w [.ref y] (fun r w' => w' = w ∧ r = (nI n)) := by
  refine k_open (cc := cJ5_length) (maxL := 1) (ret := (some .int)) (by decide) rfl (Nat.le_of_ble_eq_true rfl) ?_
  intro p e s m args below meth c ls Q hx hb hr hml hown hts hlocks hname hQ hG hP hl hS
  have hl : lv_has ls 1 [(0, .ref y)] := hl
  obtain ⟨q, f, hn60, ⟨hy, hA, hL⟩ | ⟨hy, hA, hU⟩⟩ := hST
  · skip
    refine lv_aload_n hx hb dJ5_length_0 rfl (lv_at hl 0 rfl) ?_
    refine k_get hx hb hts in_J5 hown hG hP hy rfl 0 (by decide) (hts _ q1311) (fun _ h9 => h9) (v := .ref q) rfl dJ5_length_1 ?_
    refine k_alenb hx hb hG hP hA dJ5_length_4 ?_
    refine lv_aload_n hx hb dJ5_length_5 rfl (lv_at hl 0 rfl) ?_
    refine k_cV hx hb hml hown hts (CJ5_coderL l0 E w y q hy) (cwV 0 hts (lw_V q1273 q1274 q1275 q79 q1276) rfl rfl rfl dyJ5_coder ⟨Nat.le_of_ble_eq_true rfl, Nat.le_of_ble_eq_true rfl⟩) hG hP hS hy rfl (As := []) (rest := [.int (nI n)]) rfl hl.1 rfl (lv_room (Nat.le_of_ble_eq_true rfl)) dJ5_length_6 ⟨show 0 + 0 ≤ 0 from by omega, show 0 + 0 ≤ 0 from by omega⟩ (fun r9 w9 H locs hp hP hS => ?_)
    obtain ⟨hp1, hp0⟩ := hp
    rw [hp1] at hP
    rw [hp0]
    show W p l0 e rmCJ5_length s m args below meth c H locs 0 0 Q (F0 m 9 ls [.int 0, .int (nI n)])
    refine lv_ishr hx hb dJ5_length_9 ?_
    refine k_top (y := (nI n)) (shr0 n) ?_
    exact k_iret hx hb hr hlocks hQ hP hS (by omega) (by omega) dJ5_length_10 (⟨rfl, rfl⟩)
  · skip
    refine lv_aload_n hx hb dJ5_length_0 rfl (lv_at hl 0 rfl) ?_
    refine k_get hx hb hts in_J5 hown hG hP hy rfl 0 (by decide) (hts _ q1311) (fun _ h9 => h9) (v := .ref q) rfl dJ5_length_1 ?_
    refine k_alenb hx hb hG hP hA dJ5_length_4 ?_
    refine lv_aload_n hx hb dJ5_length_5 rfl (lv_at hl 0 rfl) ?_
    refine k_cV hx hb hml hown hts (CJ5_coderU l0 E w y q hy) (cwV 0 hts (lw_V q1273 q1274 q1275 q79 q1276) rfl rfl rfl dyJ5_coder ⟨Nat.le_of_ble_eq_true rfl, Nat.le_of_ble_eq_true rfl⟩) hG hP hS hy rfl (As := []) (rest := [.int (nI (2 * n))]) rfl hl.1 rfl (lv_room (Nat.le_of_ble_eq_true rfl)) dJ5_length_6 ⟨show 0 + 0 ≤ 0 from by omega, show 0 + 0 ≤ 0 from by omega⟩ (fun r9 w9 H locs hp hP hS => ?_)
    obtain ⟨hp1, hp0⟩ := hp
    rw [hp1] at hP
    rw [hp0]
    show W p l0 e rmCJ5_length s m args below meth c H locs 0 0 Q (F0 m 9 ls [.int 1, .int (nI (2 * n))])
    refine lv_ishr hx hb dJ5_length_9 ?_
    refine k_top (y := (nI n)) ((shr1 (by omega)).trans (congrArg nI (by omega))) ?_
    exact k_iret hx hb hr hlocks hQ hP hS (by omega) (by omega) dJ5_length_10 (⟨rfl, rfl⟩)

abbrev rmCJ19_charAt : Room := { frames := 2, cells := 0, slots := 0, locals := 43 }
theorem dyJ19_charAt : yJ19_charAt.cls ≠ "java/lang/invoke/MethodHandle" ∧ yJ19_charAt.cls ≠ "java/lang/invoke/VarHandle" ∧ (parseMethodDescriptor yJ19_charAt.desc).map (fun d => d.parameters.length) = some 2 := by decide +kernel
set_option maxHeartbeats 4000000 in
theorem CJ19_charAt (l0 : Launch) (E : gE) (w : wd) (q : Nat) (mm : Nat) (i : Nat) (f : Nat → Int32) (ta9 : Nat × Nat) (hi : i < mm) (hm : mm ≤ 65536) (hc9 : ∃ k, k < 65536 ∧ f i &&& 255 = nI k) (hA : w q = some (ta9, .inl (eT E 3, mm, .inl f))) : kC l0 yJ19_charAt (ws_ yJ19_charAt cJ19_charAt 2 (some .char)) rmCJ19_charAt 0 0 mI E w [.ref q, .int (nI i)] (fun r w' => w' = w ∧ r = (f i &&& 255)) := by
  refine k_open (cc := cJ19_charAt) (maxL := 2) (ret := (some .char)) (by decide) rfl (Nat.le_of_ble_eq_true rfl) ?_
  intro p e s m args below meth c ls Q hx hb hr hml hown hts hlocks hname hQ hG hP hl hS
  have hl : lv_has ls 2 [(0, .ref q), (1, .int (nI i))] := hl
  refine lv_iload_n hx hb dJ19_charAt_0 rfl (lv_at hl 1 rfl) ?_
  refine lv_aload_n hx hb dJ19_charAt_1 rfl (lv_at hl 0 rfl) ?_
  refine k_alenb hx hb hG hP hA dJ19_charAt_2 ?_
  refine k_cS hx hb hml hown hts (CJ5_checkIndex l0 E w i mm (by omega) (by omega)) (va_cwS 2 hts (lw_S q1367 q1174 q79 q1175) rfl rfl rfl dyJ5_checkIndex ⟨Nat.le_of_ble_eq_true rfl, Nat.le_of_ble_eq_true rfl⟩) hG hP hS (As := [.int (nI i), .int (nI mm)]) (rest := []) rfl hl.1 rfl (lv_room (Nat.le_of_ble_eq_true rfl)) dJ19_charAt_3 ⟨show 0 + 0 ≤ 0 from by omega, show 0 + 0 ≤ 0 from by omega⟩ (fun r9 w9 H locs hp hP hS => ?_)
  obtain ⟨hp1, hp0⟩ := hp
  rw [hp1] at hP
  show W p l0 e rmCJ19_charAt s m args below meth c H locs 0 0 Q (F0 m 6 ls [])
  refine lv_aload_n hx hb dJ19_charAt_6 rfl (lv_at hl 0 rfl) ?_
  refine lv_iload_n hx hb dJ19_charAt_7 rfl (lv_at hl 1 rfl) ?_
  refine k_bald hx hb hG hP (j := i) hA (by omega) (show i < mm from by omega) dJ19_charAt_8 ?_
  refine lv_sipush (v := 255) hx hb dJ19_charAt_9 (by decide) ?_
  refine lv_iand hx hb dJ19_charAt_12 ?_
  refine lv_i2c hx hb dJ19_charAt_13 rfl ?_
  refine k_top (y := (f i &&& 255)) (by obtain ⟨k, hk, h9⟩ := hc9; rw [h9]; exact i2c_n hk) ?_
  exact k_zret hx hb hr hlocks hQ hP hS (by omega) (by omega) dJ19_charAt_14 (by obtain ⟨k, hk, h9⟩ := hc9; rw [h9]; exact nar_c hk) (⟨rfl, rfl⟩)

abbrev rmCJ6_getChar : Room := { frames := 0, cells := 0, slots := 0, locals := 0 }
theorem dyJ6_getChar : yJ6_getChar.cls ≠ "java/lang/invoke/MethodHandle" ∧ yJ6_getChar.cls ≠ "java/lang/invoke/VarHandle" ∧ (parseMethodDescriptor yJ6_getChar.desc).map (fun d => d.parameters.length) = some 2 := by decide +kernel
set_option maxHeartbeats 4000000 in
theorem CJ6_getChar (l0 : Launch) (E : gE) (w : wd) (q : Nat) (mm : Nat) (i : Nat) (f : Nat → Int32) (ta9 : Nat × Nat) (hi : 2 * i + 1 < mm) (hm : mm ≤ 65536) (hc9 : ∃ k, k < 65536 ∧ chr2 (f (2 * i)) (f (2 * i + 1)) = nI k) (hA : w q = some (ta9, .inl (eT E 3, mm, .inl f))) : kC l0 yJ6_getChar (ws_ yJ6_getChar cJ6_getChar 2 (some .char)) rmCJ6_getChar 0 0 mI E w [.ref q, .int (nI i)] (fun r w' => w' = w ∧ r = (chr2 (f (2 * i)) (f (2 * i + 1)))) := by
  refine k_open (cc := cJ6_getChar) (maxL := 2) (ret := (some .char)) (by decide) rfl (Nat.le_of_ble_eq_true rfl) ?_
  intro p e s m args below meth c ls Q hx hb hr hml hown hts hlocks hname hQ hG hP hl hS
  have hl : lv_has ls 2 [(0, .ref q), (1, .int (nI i))] := hl
  refine k_getZ (v := 1) hx hb (List.mem_of_getElem? (i := 1) rfl) hown hG hS (hts _ q1161) (fun _ h9 => h9) dJ6_getChar_0 ?_
  refine lv_if_ne (tgt := 28) hx hb dJ6_getChar_3 (by decide) (fun c3 => ?_) (fun c3 => ?_)
  · skip
    refine lv_iload_n hx hb dJ6_getChar_28 rfl (lv_at hl 1 rfl) ?_
    refine lv_iconst (v := 1) hx hb dJ6_getChar_29 (by decide) ?_
    refine lv_ishl hx hb dJ6_getChar_30 ?_
    refine k_top (y := (nI (2 * i))) (shl1 (by omega)) ?_
    refine lv_istore_n (lv' := [(1, .int (nI (2 * i))), (0, .ref q)]) hx hb dJ6_getChar_31 rfl hl (by decide) rfl (fun ls hl => ?_)
    refine lv_aload_n hx hb dJ6_getChar_32 rfl (lv_at hl 1 rfl) ?_
    refine lv_iload_n hx hb dJ6_getChar_33 rfl (lv_at hl 0 rfl) ?_
    refine lv_iinc (v := (nI (2 * i + 1))) (lv' := [(1, .int (nI (2 * i + 1))), (0, .ref q)]) hx hb dJ6_getChar_34 hl (k := 0) rfl (nI_add (2 * i) 1) (by decide) rfl (fun ls hl => ?_)
    refine k_bald hx hb hG hP (j := 2 * i) hA (by omega) (show 2 * i < mm from by omega) dJ6_getChar_37 ?_
    refine lv_sipush (v := 255) hx hb dJ6_getChar_38 (by decide) ?_
    refine lv_iand hx hb dJ6_getChar_41 ?_
    refine k_getZ (v := 0) hx hb (List.mem_of_getElem? (i := 2) rfl) hown hG hS (hts _ q1163) (fun _ h9 => h9) dJ6_getChar_42 ?_
    refine lv_ishl hx hb dJ6_getChar_45 ?_
    refine lv_aload_n hx hb dJ6_getChar_46 rfl (lv_at hl 1 rfl) ?_
    refine lv_iload_n hx hb dJ6_getChar_47 rfl (lv_at hl 0 rfl) ?_
    refine k_bald hx hb hG hP (j := 2 * i + 1) hA (by omega) (show 2 * i + 1 < mm from by omega) dJ6_getChar_48 ?_
    refine lv_sipush (v := 255) hx hb dJ6_getChar_49 (by decide) ?_
    refine lv_iand hx hb dJ6_getChar_52 ?_
    refine k_getZ (v := 8) hx hb (List.mem_of_getElem? (i := 3) rfl) hown hG hS (hts _ q1165) (fun _ h9 => h9) dJ6_getChar_53 ?_
    refine lv_ishl hx hb dJ6_getChar_56 ?_
    refine lv_ior hx hb dJ6_getChar_57 ?_
    refine lv_i2c hx hb dJ6_getChar_58 rfl ?_
    refine k_top (y := (chr2 (f (2 * i)) (f (2 * i + 1)))) (rfl) ?_
    exact k_zret hx hb hr hlocks hQ hP hS (by omega) (by omega) dJ6_getChar_59 (by obtain ⟨k, hk, h9⟩ := hc9; rw [h9]; exact nar_c hk) (⟨rfl, rfl⟩)
  · skip
    exact absurd c3 (by decide)

abbrev rmCJ6_charAt : Room := { frames := 3, cells := 0, slots := 0, locals := 64 }
theorem dyJ6_charAt : yJ6_charAt.cls ≠ "java/lang/invoke/MethodHandle" ∧ yJ6_charAt.cls ≠ "java/lang/invoke/VarHandle" ∧ (parseMethodDescriptor yJ6_charAt.desc).map (fun d => d.parameters.length) = some 2 := by decide +kernel
set_option maxHeartbeats 4000000 in
theorem CJ6_charAt (l0 : Launch) (E : gE) (w : wd) (q : Nat) (mm : Nat) (i : Nat) (f : Nat → Int32) (ta9 : Nat × Nat) (hi : 2 * i + 1 < mm) (hm : mm ≤ 65536) (hc9 : ∃ k, k < 65536 ∧ chr2 (f (2 * i)) (f (2 * i + 1)) = nI k) (hA : w q = some (ta9, .inl (eT E 3, mm, .inl f))) : kC l0 yJ6_charAt (ws_ yJ6_charAt cJ6_charAt 2 (some .char)) rmCJ6_charAt 0 0 mI E w [.ref q, .int (nI i)] (fun r w' => w' = w ∧ r = (chr2 (f (2 * i)) (f (2 * i + 1)))) := by
  refine k_open (cc := cJ6_charAt) (maxL := 2) (ret := (some .char)) (by decide) rfl (Nat.le_of_ble_eq_true rfl) ?_
  intro p e s m args below meth c ls Q hx hb hr hml hown hts hlocks hname hQ hG hP hl hS
  have hl : lv_has ls 2 [(0, .ref q), (1, .int (nI i))] := hl
  refine lv_iload_n hx hb dJ6_charAt_0 rfl (lv_at hl 1 rfl) ?_
  refine lv_aload_n hx hb dJ6_charAt_1 rfl (lv_at hl 0 rfl) ?_
  refine k_cS hx hb hml hown hts (CJ6_checkIndex l0 E w i q mm f ta9 (by omega) (by omega) hA) (va_cwS 2 hts (lw_S q1170 q1171 q80 q1172) rfl rfl rfl dyJ6_checkIndex ⟨Nat.le_of_ble_eq_true rfl, Nat.le_of_ble_eq_true rfl⟩) hG hP hS (As := [.int (nI i), .ref q]) (rest := []) rfl hl.1 rfl (lv_room (Nat.le_of_ble_eq_true rfl)) dJ6_charAt_2 ⟨show 0 + 0 ≤ 0 from by omega, show 0 + 0 ≤ 0 from by omega⟩ (fun r9 w9 H locs hp hP hS => ?_)
  obtain ⟨hp1, hp0⟩ := hp
  rw [hp1] at hP
  show W p l0 e rmCJ6_charAt s m args below meth c H locs 0 0 Q (F0 m 5 ls [])
  refine lv_aload_n hx hb dJ6_charAt_5 rfl (lv_at hl 0 rfl) ?_
  refine lv_iload_n hx hb dJ6_charAt_6 rfl (lv_at hl 1 rfl) ?_
  refine k_cS hx hb hml hown hts (CJ6_getChar l0 E w q mm i f ta9 (by omega) (by omega) hc9 hA) (va_cwS 2 hts (lw_S q1304 q1305 q80 q1306) rfl rfl rfl dyJ6_getChar ⟨Nat.le_of_ble_eq_true rfl, Nat.le_of_ble_eq_true rfl⟩) hG hP hS (As := [.ref q, .int (nI i)]) (rest := []) rfl hl.1 rfl (lv_room (Nat.le_of_ble_eq_true rfl)) dJ6_charAt_7 ⟨show 0 + 0 ≤ 0 from by omega, show 0 + 0 ≤ 0 from by omega⟩ (fun r9 w9 H locs hp hP hS => ?_)
  obtain ⟨hp1, hp0⟩ := hp
  rw [hp1] at hP
  rw [hp0]
  show W p l0 e rmCJ6_charAt s m args below meth c H locs 0 0 Q (F0 m 10 ls [.int (chr2 (f (2 * i)) (f (2 * i + 1)))])
  exact k_zret hx hb hr hlocks hQ hP hS (by omega) (by omega) dJ6_charAt_10 (by obtain ⟨k, hk, h9⟩ := hc9; rw [h9]; exact nar_c hk) (⟨rfl, rfl⟩)

abbrev rmCJ5_charAt : Room := { frames := 4, cells := 0, slots := 0, locals := 85 }
theorem dyJ5_charAt : yJ5_charAt.cls = RJ5 ∧ yJ5_charAt.cls ≠ "java/lang/invoke/MethodHandle" ∧ yJ5_charAt.cls ≠ "java/lang/invoke/VarHandle" ∧ (parseMethodDescriptor yJ5_charAt.desc).map (fun d => d.parameters.length) = some 1 := by decide +kernel
set_option maxHeartbeats 4000000 in
theorem CJ5_charAt (l0 : Launch) (E : gE) (w : wd) (y : Nat) (B : Nat → Int32) (n : Nat) (i : Nat) (hi : i < n) (hcB : cB B n) (hST : strR E w y B n) : kC l0 yJ5_charAt (ws_ yJ5_charAt cJ5_charAt 2 (some .char)) rmCJ5_charAt 0 0 mI E w [.ref y, .int (nI i)] (fun r w' => w' = w ∧ r = (B i)) := by
  refine k_open (cc := cJ5_charAt) (maxL := 2) (ret := (some .char)) (by decide) rfl (Nat.le_of_ble_eq_true rfl) ?_
  intro p e s m args below meth c ls Q hx hb hr hml hown hts hlocks hname hQ hG hP hl hS
  have hl : lv_has ls 2 [(0, .ref y), (1, .int (nI i))] := hl
  obtain ⟨q, f, hn60, ⟨hy, hA, hL⟩ | ⟨hy, hA, hU⟩⟩ := hST
  · skip
    refine lv_aload_n hx hb dJ5_charAt_0 rfl (lv_at hl 0 rfl) ?_
    refine k_cV hx hb hml hown hts (CJ5_isLatin1L l0 E w y q hy) (cwV 0 hts (lw_V q1360 q1361 q1362 q79 q1363) rfl rfl rfl dyJ5_isLatin1 ⟨Nat.le_of_ble_eq_true rfl, Nat.le_of_ble_eq_true rfl⟩) hG hP hS hy rfl (As := []) (rest := []) rfl hl.1 rfl (lv_room (Nat.le_of_ble_eq_true rfl)) dJ5_charAt_1 ⟨show 0 + 0 ≤ 0 from by omega, show 0 + 0 ≤ 0 from by omega⟩ (fun r9 w9 H locs hp hP hS => ?_)
    obtain ⟨hp1, hp0⟩ := hp
    rw [hp1] at hP
    rw [hp0]
    show W p l0 e rmCJ5_charAt s m args below meth c H locs 0 0 Q (F0 m 4 ls [.int 1])
    refine lv_if_eq (tgt := 16) hx hb dJ5_charAt_4 (by decide) (fun c4 => ?_) (fun c4 => ?_)
    · skip
      exact absurd c4 (by decide)
    · skip
      refine lv_aload_n hx hb dJ5_charAt_7 rfl (lv_at hl 0 rfl) ?_
      refine k_get hx hb hts in_J5 hown hG hP hy rfl 0 (by decide) (hts _ q1311) (fun _ h9 => h9) (v := .ref q) rfl dJ5_charAt_8 ?_
      refine lv_iload_n hx hb dJ5_charAt_11 rfl (lv_at hl 1 rfl) ?_
      refine k_cS hx hb hml hown hts (CJ19_charAt l0 E w q n i f (96, 3) (by omega) (by omega) (by rw [(hL i hi).1]; exact hcB i hi) hA) (va_cwS 2 hts (lw_S q1364 q1365 q97 q1366) rfl rfl rfl dyJ19_charAt ⟨Nat.le_of_ble_eq_true rfl, Nat.le_of_ble_eq_true rfl⟩) hG hP hS (As := [.ref q, .int (nI i)]) (rest := []) rfl hl.1 rfl (lv_room (Nat.le_of_ble_eq_true rfl)) dJ5_charAt_12 ⟨show 0 + 0 ≤ 0 from by omega, show 0 + 0 ≤ 0 from by omega⟩ (fun r9 w9 H locs hp hP hS => ?_)
      obtain ⟨hp1, hp0⟩ := hp
      rw [hp1] at hP
      rw [hp0]
      show W p l0 e rmCJ5_charAt s m args below meth c H locs 0 0 Q (F0 m 15 ls [.int (f i &&& 255)])
      exact k_zret hx hb hr hlocks hQ hP hS (by omega) (by omega) dJ5_charAt_15 (by obtain ⟨k, hk, h9⟩ := hcB i hi; rw [(hL i hi).1, h9]; exact nar_c hk) (⟨rfl, (hL i hi).1⟩)
  · skip
    refine lv_aload_n hx hb dJ5_charAt_0 rfl (lv_at hl 0 rfl) ?_
    refine k_cV hx hb hml hown hts (CJ5_isLatin1U l0 E w y q hy) (cwV 0 hts (lw_V q1360 q1361 q1362 q79 q1363) rfl rfl rfl dyJ5_isLatin1 ⟨Nat.le_of_ble_eq_true rfl, Nat.le_of_ble_eq_true rfl⟩) hG hP hS hy rfl (As := []) (rest := []) rfl hl.1 rfl (lv_room (Nat.le_of_ble_eq_true rfl)) dJ5_charAt_1 ⟨show 0 + 0 ≤ 0 from by omega, show 0 + 0 ≤ 0 from by omega⟩ (fun r9 w9 H locs hp hP hS => ?_)
    obtain ⟨hp1, hp0⟩ := hp
    rw [hp1] at hP
    rw [hp0]
    show W p l0 e rmCJ5_charAt s m args below meth c H locs 0 0 Q (F0 m 4 ls [.int 0])
    refine lv_if_eq (tgt := 16) hx hb dJ5_charAt_4 (by decide) (fun c4 => ?_) (fun c4 => ?_)
    · skip
      refine lv_aload_n hx hb dJ5_charAt_16 rfl (lv_at hl 0 rfl) ?_
      refine k_get hx hb hts in_J5 hown hG hP hy rfl 0 (by decide) (hts _ q1311) (fun _ h9 => h9) (v := .ref q) rfl dJ5_charAt_17 ?_
      refine lv_iload_n hx hb dJ5_charAt_20 rfl (lv_at hl 1 rfl) ?_
      refine k_cS hx hb hml hown hts (CJ6_charAt l0 E w q (2 * n) i f (96, 3) (by omega) (by omega) (by rw [hU i hi]; exact hcB i hi) hA) (va_cwS 2 hts (lw_S q1368 q1369 q80 q1370) rfl rfl rfl dyJ6_charAt ⟨Nat.le_of_ble_eq_true rfl, Nat.le_of_ble_eq_true rfl⟩) hG hP hS (As := [.ref q, .int (nI i)]) (rest := []) rfl hl.1 rfl (lv_room (Nat.le_of_ble_eq_true rfl)) dJ5_charAt_21 ⟨show 0 + 0 ≤ 0 from by omega, show 0 + 0 ≤ 0 from by omega⟩ (fun r9 w9 H locs hp hP hS => ?_)
      obtain ⟨hp1, hp0⟩ := hp
      rw [hp1] at hP
      rw [hp0]
      show W p l0 e rmCJ5_charAt s m args below meth c H locs 0 0 Q (F0 m 24 ls [.int (chr2 (f (2 * i)) (f (2 * i + 1)))])
      exact k_zret hx hb hr hlocks hQ hP hS (by omega) (by omega) dJ5_charAt_24 (by obtain ⟨k, hk, h9⟩ := hcB i hi; rw [hU i hi, h9]; exact nar_c hk) (⟨rfl, hU i hi⟩)
    · skip
      exact absurd c4 (by decide)
