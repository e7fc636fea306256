/-! THE JDK, 5: strings, the leaves -/
set_option maxRecDepth 100000
abbrev rmCJ19_canEncode : Room := { frames := 0, cells := 0, slots := 0, locals := 0 }
theorem dyJ19_canEncode : yJ19_canEncode.cls ≠ "java/lang/invoke/MethodHandle" ∧ yJ19_canEncode.cls ≠ "java/lang/invoke/VarHandle" ∧ (parseMethodDescriptor yJ19_canEncode.desc).map (fun d => d.parameters.length) = some 1 := by decide +kernel
set_option maxHeartbeats 4000000 in
theorem CJ19_canEncode (l0 : Launch) (E : gE) (w : wd) (x : Int32) : kC l0 yJ19_canEncode (ws_ yJ19_canEncode cJ19_canEncode 1 (some .boolean)) rmCJ19_canEncode 0 0 mI E w [.int x] (fun r w' => w' = w ∧ r = (bI (decide (x ≤ 255)))) := by
  refine k_open (cc := cJ19_canEncode) (maxL := 1) (ret := (some .boolean)) (by decide) rfl (Nat.le_of_ble_eq_true rfl) ?_
  intro p e s m args below meth c ls Q hx hb hr hml hown hts hlocks hname hQ hG hP hl hS
  have hl : lv_has ls 1 [(0, .int x)] := hl
  refine lv_iload_n hx hb dJ19_canEncode_0 rfl (lv_at hl 0 rfl) ?_
  refine lv_sipush (v := 255) hx hb dJ19_canEncode_1 (by decide) ?_
  refine lv_icmp_gt (tgt := 11) hx hb dJ19_canEncode_4 (by decide) (fun c4 => ?_) (fun c4 => ?_)
  · skip
    refine lv_iconst (v := 0) hx hb dJ19_canEncode_11 (by decide) ?_
    exact k_zret hx hb hr hlocks hQ hP hS (by omega) (by omega) dJ19_canEncode_12 rfl (⟨rfl, by rw [decide_eq_false (Int32.not_le.mpr c4)]; rfl⟩)
  · skip
    refine lv_iconst (v := 1) hx hb dJ19_canEncode_7 (by decide) ?_
    refine lv_goto (tgt := 12) hx hb dJ19_canEncode_8 (by decide) ?_
    exact k_zret hx hb hr hlocks hQ hP hS (by omega) (by omega) dJ19_canEncode_12 rfl (⟨rfl, by rw [decide_eq_true (Int32.not_lt.mp c4)]; rfl⟩)

abbrev rmCJ18_newLength : Room := { frames := 1, cells := 0, slots := 0, locals := 32 }
theorem dyJ18_newLength : yJ18_newLength.cls ≠ "java/lang/invoke/MethodHandle" ∧ yJ18_newLength.cls ≠ "java/lang/invoke/VarHandle" ∧ (parseMethodDescriptor yJ18_newLength.desc).map (fun d => d.parameters.length) = some 3 := by decide +kernel
set_option maxHeartbeats 4000000 in
theorem CJ18_newLength (l0 : Launch) (E : gE) (w : wd) (len : Nat) (a : Nat) (b : Nat) (hab : a ≤ b) (hb9 : len + b < 2147483639) (h0 : 0 < len + b) : kC l0 yJ18_newLength (ws_ yJ18_newLength cJ18_newLength 4 (some .int)) rmCJ18_newLength 0 0 mI E w [.int (nI len), .int (nI a), .int (nI b)] (fun r w' => w' = w ∧ r = (nI (len + b))) := by
  refine k_open (cc := cJ18_newLength) (maxL := 4) (ret := (some .int)) (by decide) rfl (Nat.le_of_ble_eq_true rfl) ?_
  intro p e s m args below meth c ls Q hx hb hr hml hown hts hlocks hname hQ hG hP hl hS
  have hl : lv_has ls 4 [(0, .int (nI len)), (1, .int (nI a)), (2, .int (nI b))] := hl
  refine lv_iload_n hx hb dJ18_newLength_0 rfl (lv_at hl 0 rfl) ?_
  refine lv_iload_n hx hb dJ18_newLength_1 rfl (lv_at hl 1 rfl) ?_
  refine lv_iload_n hx hb dJ18_newLength_2 rfl (lv_at hl 2 rfl) ?_
  refine va_mmax hx hb (hml.trans hl.1.symm) hown (hts _ q1110) (hts _ q730) (hts _ q92) (hts _ q731) (Nat.le_of_ble_eq_true rfl) (Nat.le_of_ble_eq_true rfl) (Nat.zero_le _) (Nat.zero_le _) dJ18_newLength_3 ?_
  refine k_top (y := (nI b)) (mx_le hab (by omega)) ?_
  refine k_iaddN (x := len) (y := b) hx hb dJ18_newLength_6 ?_
  refine lv_istore_n (lv' := [(3, .int (nI (len + b))), (0, .int (nI len)), (1, .int (nI a)), (2, .int (nI b))]) hx hb dJ18_newLength_7 rfl hl (by decide) rfl (fun ls hl => ?_)
  refine lv_iconst (v := 0) hx hb dJ18_newLength_8 (by decide) ?_
  refine lv_iload_n hx hb dJ18_newLength_9 rfl (lv_at hl 0 rfl) ?_
  refine k_icmp_geN (x := 0) (y := len + b) (tgt := 21) hx hb (by omega) (by omega) dJ18_newLength_10 (by decide) (fun c10 => ?_) (fun c10 => ?_)
  · skip
    omega
  · skip
    refine lv_iload_n hx hb dJ18_newLength_13 rfl (lv_at hl 0 rfl) ?_
    refine lv_ldc (v := 2147483639) hx hb hown (hts _ q1111) dJ18_newLength_14 ?_
    refine k_icmp_gtN (x := len + b) (y := 2147483639) (tgt := 21) hx hb (by omega) (by omega) dJ18_newLength_16 (by decide) (fun c16 => ?_) (fun c16 => ?_)
    · skip
      omega
    · skip
      refine lv_iload_n hx hb dJ18_newLength_19 rfl (lv_at hl 0 rfl) ?_
      exact k_iret hx hb hr hlocks hQ hP hS (by omega) (by omega) dJ18_newLength_20 (⟨rfl, rfl⟩)

abbrev rmCJ3_newCapacityL : Room := { frames := 2, cells := 0, slots := 0, locals := 55 }
theorem dyJ3_newCapacity : yJ3_newCapacity.cls = RJ3 ∧ yJ3_newCapacity.cls ≠ "java/lang/invoke/MethodHandle" ∧ yJ3_newCapacity.cls ≠ "java/lang/invoke/VarHandle" ∧ (parseMethodDescriptor yJ3_newCapacity.desc).map (fun d => d.parameters.length) = some 1 := by decide +kernel
set_option maxHeartbeats 4000000 in
theorem CJ3_newCapacityL (l0 : Launch) (E : gE) (w : wd) (b : Nat) (q : Nat) (mm : Nat) (n : Nat) (k : Nat) (f : Nat → Int32) (hk : mm < k) (hk2 : k ≤ 2 * mm + 2) (hm : mm ≤ 1000) (hB : w b = some ((96, 0), .inr (15, [.ref q, .int 0, .int 0, .int (nI n)]))) (hA : w q = some ((96, 1), .inl (eT E 3, mm, .inl f))) : kC l0 yJ3_newCapacity (ws_ yJ3_newCapacity cJ3_newCapacity 6 (some .int)) rmCJ3_newCapacityL 0 0 mI E w [.ref b, .int (nI k)] (fun r w' => w' = w ∧ r = (nI (mm + (mm + 2)))) := by
  refine k_open (cc := cJ3_newCapacity) (maxL := 6) (ret := (some .int)) (by decide) rfl (Nat.le_of_ble_eq_true rfl) ?_
  intro p e s m args below meth c ls Q hx hb hr hml hown hts hlocks hname hQ hG hP hl hS
  have hl : lv_has ls 6 [(0, .ref b), (1, .int (nI k))] := hl
  refine lv_aload_n hx hb dJ3_newCapacity_0 rfl (lv_at hl 0 rfl) ?_
  refine k_get hx hb hts in_J4 hown hG hP hB rfl 0 (by decide) (hts _ q262) (fun _ h9 => h9) (v := .ref q) rfl dJ3_newCapacity_1 ?_
  refine k_alenb hx hb hG hP hA dJ3_newCapacity_4 ?_
  refine lv_istore_n (lv' := [(2, .int (nI mm)), (0, .ref b), (1, .int (nI k))]) hx hb dJ3_newCapacity_5 rfl hl (by decide) rfl (fun ls hl => ?_)
  refine lv_iload_n hx hb dJ3_newCapacity_6 rfl (lv_at hl 2 rfl) ?_
  refine lv_aload_n hx hb dJ3_newCapacity_7 rfl (lv_at hl 1 rfl) ?_
  refine k_get hx hb hts in_J4 hown hG hP hB rfl 1 (by decide) (hts _ q263) (fun _ h9 => h9) (v := .int 0) rfl dJ3_newCapacity_8 ?_
  refine lv_ishl hx hb dJ3_newCapacity_11 ?_
  refine k_top (y := (nI k)) (shl0 k) ?_
  refine lv_istore_n (lv' := [(3, .int (nI k)), (2, .int (nI mm)), (0, .ref b), (1, .int (nI k))]) hx hb dJ3_newCapacity_12 rfl hl (by decide) rfl (fun ls hl => ?_)
  refine lv_iload_n hx hb dJ3_newCapacity_13 rfl (lv_at hl 0 rfl) ?_
  refine lv_iload_n hx hb dJ3_newCapacity_14 rfl (lv_at hl 1 rfl) ?_
  refine k_isubN (x := k) (y := mm) hx hb (by omega) dJ3_newCapacity_15 ?_
  refine lv_istore (lv' := [(4, .int (nI (k - mm))), (3, .int (nI k)), (2, .int (nI mm)), (0, .ref b), (1, .int (nI k))]) hx hb dJ3_newCapacity_16 hl (by decide) rfl (fun ls hl => ?_)
  refine lv_iload_n hx hb dJ3_newCapacity_18 rfl (lv_at hl 2 rfl) ?_
  refine lv_iload hx hb dJ3_newCapacity_19 (lv_at hl 0 rfl) ?_
  refine lv_iload_n hx hb dJ3_newCapacity_21 rfl (lv_at hl 2 rfl) ?_
  refine lv_iconst (v := 2) hx hb dJ3_newCapacity_22 (by decide) ?_
  refine lv_aload_n hx hb dJ3_newCapacity_23 rfl (lv_at hl 3 rfl) ?_
  refine k_get hx hb hts in_J4 hown hG hP hB rfl 1 (by decide) (hts _ q263) (fun _ h9 => h9) (v := .int 0) rfl dJ3_newCapacity_24 ?_
  refine lv_ishl hx hb dJ3_newCapacity_27 ?_
  refine k_top (y := 2) (by decide) ?_
  refine k_iaddN (x := mm) (y := 2) hx hb dJ3_newCapacity_28 ?_
  refine k_cS hx hb hml hown hts (CJ18_newLength l0 E w mm (k - mm) (mm + 2) (by omega) (by omega) (by omega)) (va_cwS 3 hts (lw_S q1107 q1108 q96 q1109) rfl rfl rfl dyJ18_newLength ⟨Nat.le_of_ble_eq_true rfl, Nat.le_of_ble_eq_true rfl⟩) hG hP hS (As := [.int (nI mm), .int (nI (k - mm)), .int (nI (mm + 2))]) (rest := []) rfl hl.1 rfl (lv_room (Nat.le_of_ble_eq_true rfl)) dJ3_newCapacity_29 ⟨show 0 + 0 ≤ 0 from by omega, show 0 + 0 ≤ 0 from by omega⟩ (fun r9 w9 H locs hp hP hS => ?_)
  obtain ⟨hp1, hp0⟩ := hp
  rw [hp1] at hP
  rw [hp0]
  show W p l0 e rmCJ3_newCapacityL s m args below meth c H locs 0 0 Q (F0 m 32 ls [.int (nI (mm + (mm + 2)))])
  refine lv_istore (lv' := [(5, .int (nI (mm + (mm + 2)))), (4, .int (nI (k - mm))), (3, .int (nI k)), (2, .int (nI mm)), (0, .ref b), (1, .int (nI k))]) hx hb dJ3_newCapacity_32 hl (by decide) rfl (fun ls hl => ?_)
  refine lv_iload hx hb dJ3_newCapacity_34 (lv_at hl 0 rfl) ?_
  refine lv_ldc (v := 2147483647) hx hb hown (hts _ q1115) dJ3_newCapacity_36 ?_
  refine k_icmp_neN (x := mm + (mm + 2)) (y := 2147483647) (tgt := 51) hx hb (by omega) (by omega) dJ3_newCapacity_38 (by decide) (fun c38 => ?_) (fun c38 => ?_)
  · skip
    refine lv_iload hx hb dJ3_newCapacity_51 (lv_at hl 0 rfl) ?_
    refine lv_aload_n hx hb dJ3_newCapacity_53 rfl (lv_at hl 4 rfl) ?_
    refine k_get hx hb hts in_J4 hown hG hP hB rfl 1 (by decide) (hts _ q263) (fun _ h9 => h9) (v := .int 0) rfl dJ3_newCapacity_54 ?_
    refine lv_ishr hx hb dJ3_newCapacity_57 ?_
    refine k_top (y := (nI (mm + (mm + 2)))) (shr0 _) ?_
    exact k_iret hx hb hr hlocks hQ hP hS (by omega) (by omega) dJ3_newCapacity_58 (⟨rfl, rfl⟩)
  · skip
    omega

abbrev rmCJ3_newCapacityU : Room := { frames := 2, cells := 0, slots := 0, locals := 55 }
set_option maxHeartbeats 4000000 in
theorem CJ3_newCapacityU (l0 : Launch) (E : gE) (w : wd) (b : Nat) (q : Nat) (j : Nat) (n : Nat) (k : Nat) (f : Nat → Int32) (hk : j < k) (hk2 : k ≤ 2 * j + 2) (hm : j ≤ 1000) (hB : w b = some ((96, 0), .inr (15, [.ref q, .int 1, .int 0, .int (nI n)]))) (hA : w q = some ((96, 1), .inl (eT E 3, 2 * j, .inl f))) : kC l0 yJ3_newCapacity (ws_ yJ3_newCapacity cJ3_newCapacity 6 (some .int)) rmCJ3_newCapacityU 0 0 mI E w [.ref b, .int (nI k)] (fun r w' => w' = w ∧ r = (nI (2 * j + 2))) := by
  refine k_open (cc := cJ3_newCapacity) (maxL := 6) (ret := (some .int)) (by decide) rfl (Nat.le_of_ble_eq_true rfl) ?_
  intro p e s m args below meth c ls Q hx hb hr hml hown hts hlocks hname hQ hG hP hl hS
  have hl : lv_has ls 6 [(0, .ref b), (1, .int (nI k))] := hl
  refine lv_aload_n hx hb dJ3_newCapacity_0 rfl (lv_at hl 0 rfl) ?_
  refine k_get hx hb hts in_J4 hown hG hP hB rfl 0 (by decide) (hts _ q262) (fun _ h9 => h9) (v := .ref q) rfl dJ3_newCapacity_1 ?_
  refine k_alenb hx hb hG hP hA dJ3_newCapacity_4 ?_
  refine lv_istore_n (lv' := [(2, .int (nI (2 * j))), (0, .ref b), (1, .int (nI k))]) hx hb dJ3_newCapacity_5 rfl hl (by decide) rfl (fun ls hl => ?_)
  refine lv_iload_n hx hb dJ3_newCapacity_6 rfl (lv_at hl 2 rfl) ?_
  refine lv_aload_n hx hb dJ3_newCapacity_7 rfl (lv_at hl 1 rfl) ?_
  refine k_get hx hb hts in_J4 hown hG hP hB rfl 1 (by decide) (hts _ q263) (fun _ h9 => h9) (v := .int 1) rfl dJ3_newCapacity_8 ?_
  refine lv_ishl hx hb dJ3_newCapacity_11 ?_
  refine k_top (y := (nI (2 * k))) (shl1 (by omega)) ?_
  refine lv_istore_n (lv' := [(3, .int (nI (2 * k))), (2, .int (nI (2 * j))), (0, .ref b), (1, .int (nI k))]) hx hb dJ3_newCapacity_12 rfl hl (by decide) rfl (fun ls hl => ?_)
  refine lv_iload_n hx hb dJ3_newCapacity_13 rfl (lv_at hl 0 rfl) ?_
  refine lv_iload_n hx hb dJ3_newCapacity_14 rfl (lv_at hl 1 rfl) ?_
  refine k_isubN (x := 2 * k) (y := 2 * j) hx hb (by omega) dJ3_newCapacity_15 ?_
  refine lv_istore (lv' := [(4, .int (nI ((2 * k) - (2 * j)))), (3, .int (nI (2 * k))), (2, .int (nI (2 * j))), (0, .ref b), (1, .int (nI k))]) hx hb dJ3_newCapacity_16 hl (by decide) rfl (fun ls hl => ?_)
  refine lv_iload_n hx hb dJ3_newCapacity_18 rfl (lv_at hl 2 rfl) ?_
  refine lv_iload hx hb dJ3_newCapacity_19 (lv_at hl 0 rfl) ?_
  refine lv_iload_n hx hb dJ3_newCapacity_21 rfl (lv_at hl 2 rfl) ?_
  refine lv_iconst (v := 2) hx hb dJ3_newCapacity_22 (by decide) ?_
  refine lv_aload_n hx hb dJ3_newCapacity_23 rfl (lv_at hl 3 rfl) ?_
  refine k_get hx hb hts in_J4 hown hG hP hB rfl 1 (by decide) (hts _ q263) (fun _ h9 => h9) (v := .int 1) rfl dJ3_newCapacity_24 ?_
  refine lv_ishl hx hb dJ3_newCapacity_27 ?_
  refine k_top (y := 4) (by decide) ?_
  refine k_iaddN (x := 2 * j) (y := 4) hx hb dJ3_newCapacity_28 ?_
  refine k_cS hx hb hml hown hts (CJ18_newLength l0 E w (2 * j) ((2 * k) - (2 * j)) (2 * j + 4) (by omega) (by omega) (by omega)) (va_cwS 3 hts (lw_S q1107 q1108 q96 q1109) rfl rfl rfl dyJ18_newLength ⟨Nat.le_of_ble_eq_true rfl, Nat.le_of_ble_eq_true rfl⟩) hG hP hS (As := [.int (nI (2 * j)), .int (nI ((2 * k) - (2 * j))), .int (nI (2 * j + 4))]) (rest := []) rfl hl.1 rfl (lv_room (Nat.le_of_ble_eq_true rfl)) dJ3_newCapacity_29 ⟨show 0 + 0 ≤ 0 from by omega, show 0 + 0 ≤ 0 from by omega⟩ (fun r9 w9 H locs hp hP hS => ?_)
  obtain ⟨hp1, hp0⟩ := hp
  rw [hp1] at hP
  rw [hp0]
  show W p l0 e rmCJ3_newCapacityU s m args below meth c H locs 0 0 Q (F0 m 32 ls [.int (nI ((2 * j) + (2 * j + 4)))])
  refine lv_istore (lv' := [(5, .int (nI ((2 * j) + (2 * j + 4)))), (4, .int (nI ((2 * k) - (2 * j)))), (3, .int (nI (2 * k))), (2, .int (nI (2 * j))), (0, .ref b), (1, .int (nI k))]) hx hb dJ3_newCapacity_32 hl (by decide) rfl (fun ls hl => ?_)
  refine lv_iload hx hb dJ3_newCapacity_34 (lv_at hl 0 rfl) ?_
  refine lv_ldc (v := 2147483647) hx hb hown (hts _ q1115) dJ3_newCapacity_36 ?_
  refine k_icmp_neN (x := (2 * j) + (2 * j + 4)) (y := 2147483647) (tgt := 51) hx hb (by omega) (by omega) dJ3_newCapacity_38 (by decide) (fun c38 => ?_) (fun c38 => ?_)
  · skip
    refine lv_iload hx hb dJ3_newCapacity_51 (lv_at hl 0 rfl) ?_
    refine lv_aload_n hx hb dJ3_newCapacity_53 rfl (lv_at hl 4 rfl) ?_
    refine k_get hx hb hts in_J4 hown hG hP hB rfl 1 (by decide) (hts _ q263) (fun _ h9 => h9) (v := .int 1) rfl dJ3_newCapacity_54 ?_
    refine lv_ishr hx hb dJ3_newCapacity_57 ?_
    refine k_top (y := (nI (2 * j + 2))) ((shr1 (by omega)).trans (congrArg nI (by omega))) ?_
    exact k_iret hx hb hr hlocks hQ hP hS (by omega) (by omega) dJ3_newCapacity_58 (⟨rfl, rfl⟩)
  · skip
    omega

abbrev rmCJ14_copyOf_3 : Room := { frames := 1, cells := 1, slots := 150, locals := 60 }
theorem dyJ14_copyOf_3 : yJ14_copyOf_3.cls ≠ "java/lang/invoke/MethodHandle" ∧ yJ14_copyOf_3.cls ≠ "java/lang/invoke/VarHandle" ∧ (parseMethodDescriptor yJ14_copyOf_3.desc).map (fun d => d.parameters.length) = some 2 := by decide +kernel
set_option maxHeartbeats 4000000 in
theorem CJ14_copyOf_3 (l0 : Launch) (E : gE) (w : wd) (q : Nat) (mm : Nat) (k : Nat) (f : Nat → Int32) (ta9 : Nat × Nat) (hk : mm < k) (hk2 : k ≤ 150) (hfit : sb_Fit f) (hty : ta9 ≠ (96, 4)) (hA : w q = some (ta9, .inl (eT E 3, mm, .inl f))) : kC l0 yJ14_copyOf_3 (ws_ yJ14_copyOf_3 cJ14_copyOf_3 3 (some (.array .byte))) rmCJ14_copyOf_3 1 150 mR E w [.ref q, .int (nI k)] (fun r w' => ∃ q9 : Nat, (r = q9) ∧ (w' q9 = some ((96, 4), .inl (eT E 3, k, .inl (va_cpy f (fun _ => 0) 0 0 mm))) ∧ True) ∧ fr (pO (96, 4)) w w') := by
  refine k_open (cc := cJ14_copyOf_3) (maxL := 3) (ret := (some (.array .byte))) (by decide) rfl (Nat.le_of_ble_eq_true rfl) ?_
  intro p e s m args below meth c ls Q hx hb hr hml hown hts hlocks hname hQ hG hP hl hS
  have hl : lv_has ls 3 [(0, .ref q), (1, .int (nI k))] := hl
  obtain ⟨w0, hw0⟩ : ∃ z, z = w := ⟨_, rfl⟩
  have hF : fr (pO (96, 4)) w0 w := by rw [hw0]; exact fr.rf
  rw [← hw0] at hQ
  refine lv_iload_n hx hb dJ14_copyOf_3_0 rfl (lv_at hl 1 rfl) ?_
  refine lv_aload_n hx hb dJ14_copyOf_3_1 rfl (lv_at hl 0 rfl) ?_
  refine k_alenb hx hb hG hP hA dJ14_copyOf_3_2 ?_
  refine k_icmp_neN (x := k) (y := mm) (tgt := 14) hx hb (by omega) (by omega) dJ14_copyOf_3_3 (by decide) (fun c3 => ?_) (fun c3 => ?_)
  · skip
    refine lv_iload_n hx hb dJ14_copyOf_3_14 rfl (lv_at hl 1 rfl) ?_
    refine k_newbW hx hb (96, 4) (hts _ q275) hG hP hS (n := k) (by omega) (show 0 + 1 ≤ 1 from by omega) (show 0 + k ≤ 150 from by omega) dJ14_copyOf_3_15 (fun q15 w1 H h9 hf9 hP hS => ?_)
    have hD : w1 q15 = some ((96, 4), .inl (eT E 3, k, .inl (fun _ => 0))) := h9
    have hA : w1 q = some (ta9, .inl (eT E 3, mm, .inl f)) := hf9 _ _ _ hA (fun z9 => z9)
    have hF : fr (pO (96, 4)) w0 w1 := hF.tr (hf9.up (fun _ h9 => h9.elim))
    refine lv_astore_n (lv' := [(2, .ref q15), (0, .ref q), (1, .int (nI k))]) hx hb dJ14_copyOf_3_17 rfl hl (by decide) rfl (fun ls hl => ?_)
    refine lv_aload_n hx hb dJ14_copyOf_3_18 rfl (lv_at hl 1 rfl) ?_
    refine lv_iconst (v := 0) hx hb dJ14_copyOf_3_19 (by decide) ?_
    refine lv_aload_n hx hb dJ14_copyOf_3_20 rfl (lv_at hl 0 rfl) ?_
    refine lv_iconst (v := 0) hx hb dJ14_copyOf_3_21 (by decide) ?_
    refine lv_aload_n hx hb dJ14_copyOf_3_22 rfl (lv_at hl 1 rfl) ?_
    refine k_alenb hx hb hG hP hA dJ14_copyOf_3_23 ?_
    refine lv_iload_n hx hb dJ14_copyOf_3_24 rfl (lv_at hl 2 rfl) ?_
    refine va_mmin hx hb (hml.trans hl.1.symm) hown (hts _ q591) (hts _ q592) (hts _ q92) (hts _ q593) (Nat.le_of_ble_eq_true rfl) (Nat.le_of_ble_eq_true rfl) (show (0 + 1) ≤ 1 from by omega) (show (0 + k) ≤ 150 from by omega) dJ14_copyOf_3_25 ?_
    refine k_top (y := (nI mm)) (mn_le (by omega) (by omega)) ?_
    refine k_copybW (sp := 0) (dp := 0) (n := mm) hx hb (hml.trans hl.1.symm) hown (hts _ q594) (hts _ q335) (hts _ q334) (hts _ q88) hG hP hS hA hD (by omega) (by omega) hfit (by omega) (by omega) (Nat.le_of_ble_eq_true rfl) (by decide) dJ14_copyOf_3_28 (fun w2 H locs h9 hf9 hP hS => ?_)
    have hD : w2 q15 = some ((96, 4), .inl (eT E 3, k, .inl (va_cpy f (fun _ => 0) 0 0 mm))) := h9
    have hA : w2 q = some (ta9, .inl (eT E 3, mm, .inl f)) := hf9 _ _ _ hA (by intro z9; first | (simp only [pO, pN, pK, pT, pD, pB, Prod.mk.injEq] at z9; done) | (simp only [pO, pN, pK, pT, pD, pB, Prod.mk.injEq] at z9; omega) | exact hty z9 | exact hty z9.symm)
    have hF : fr (pO (96, 4)) w0 w2 := hF.tr (hf9.up (fun _ h9 => h9))
    show W p l0 e rmCJ14_copyOf_3 s m args below meth c H locs (0 + 1) (0 + k) Q (F0 m 31 ls [])
    refine lv_aload_n hx hb dJ14_copyOf_3_31 rfl (lv_at hl 0 rfl) ?_
    exact k_aret hx hb hr (Or.inr ⟨_, rfl⟩) hlocks hQ hP hS (by omega) (by omega) dJ14_copyOf_3_32 (⟨_, rfl, ⟨hD, trivial⟩, hF⟩)
  · skip
    omega

abbrev rmCJ3_ensureCapacityInternalL : Room := { frames := 3, cells := 1, slots := 150, locals := 82 }
theorem dyJ3_ensureCapacityInternal : yJ3_ensureCapacityInternal.cls = RJ3 ∧ yJ3_ensureCapacityInternal.cls ≠ "java/lang/invoke/MethodHandle" ∧ yJ3_ensureCapacityInternal.cls ≠ "java/lang/invoke/VarHandle" ∧ (parseMethodDescriptor yJ3_ensureCapacityInternal.desc).map (fun d => d.parameters.length) = some 1 := by decide +kernel
set_option maxHeartbeats 4000000 in
theorem CJ3_ensureCapacityInternalL (l0 : Launch) (E : gE) (w : wd) (b : Nat) (q : Nat) (mm : Nat) (n : Nat) (k : Nat) (f : Nat → Int32) (hm : mm ≤ 70) (hk : k ≤ 2 * mm + 2) (hfit : sb_Fit f) (hB : w b = some ((96, 0), .inr (15, [.ref q, .int 0, .int 0, .int (nI n)]))) (hA : w q = some ((96, 1), .inl (eT E 3, mm, .inl f))) : kC l0 yJ3_ensureCapacityInternal (ws_ yJ3_ensureCapacityInternal cJ3_ensureCapacityInternal 3 none) rmCJ3_ensureCapacityInternalL 1 150 mV E w [.ref b, .int (nI k)] (fun r w' => ∃ q9 : Nat, ∃ m9 : Nat, ∃ f9 : Nat → Int32, ((k ≤ m9 ∧ ((k ≤ mm ∧ m9 = mm) ∨ (mm < k ∧ m9 = 2 * mm + 2))) ∧ (∀ j, j < mm → f9 j = f j) ∧ sb_Fit f9) ∧ (w' b = some ((96, 0), .inr (15, [.ref q9, .int 0, .int 0, .int (nI n)])) ∧ w' q9 = some ((96, 1), .inl (eT E 3, m9, .inl f9)) ∧ True) ∧ fr pB w w') := by
  refine k_open (cc := cJ3_ensureCapacityInternal) (maxL := 3) (ret := none) (by decide) rfl (Nat.le_of_ble_eq_true rfl) ?_
  intro p e s m args below meth c ls Q hx hb hr hml hown hts hlocks hname hQ hG hP hl hS
  have hl : lv_has ls 3 [(0, .ref b), (1, .int (nI k))] := hl
  obtain ⟨w0, hw0⟩ : ∃ z, z = w := ⟨_, rfl⟩
  have hF : fr pB w0 w := by rw [hw0]; exact fr.rf
  rw [← hw0] at hQ
  refine lv_aload_n hx hb dJ3_ensureCapacityInternal_0 rfl (lv_at hl 0 rfl) ?_
  refine k_get hx hb hts in_J4 hown hG hP hB rfl 0 (by decide) (hts _ q262) (fun _ h9 => h9) (v := .ref q) rfl dJ3_ensureCapacityInternal_1 ?_
  refine k_alenb hx hb hG hP hA dJ3_ensureCapacityInternal_4 ?_
  refine lv_aload_n hx hb dJ3_ensureCapacityInternal_5 rfl (lv_at hl 0 rfl) ?_
  refine k_get hx hb hts in_J4 hown hG hP hB rfl 1 (by decide) (hts _ q263) (fun _ h9 => h9) (v := .int 0) rfl dJ3_ensureCapacityInternal_6 ?_
  refine lv_ishr hx hb dJ3_ensureCapacityInternal_9 ?_
  refine k_top (y := (nI mm)) (shr0 mm) ?_
  refine lv_istore_n (lv' := [(2, .int (nI mm)), (0, .ref b), (1, .int (nI k))]) hx hb dJ3_ensureCapacityInternal_10 rfl hl (by decide) rfl (fun ls hl => ?_)
  refine lv_iload_n hx hb dJ3_ensureCapacityInternal_11 rfl (lv_at hl 2 rfl) ?_
  refine lv_iload_n hx hb dJ3_ensureCapacityInternal_12 rfl (lv_at hl 0 rfl) ?_
  refine lv_isub hx hb dJ3_ensureCapacityInternal_13 ?_
  refine lv_if_le (tgt := 38) hx hb dJ3_ensureCapacityInternal_14 (by decide) (fun c14 => ?_) (fun c14 => ?_)
  · skip
    have hkm : k ≤ mm := (sub_le0 (by omega) (by omega)).mp c14
    exact k_vret hx hb hr hlocks hQ hP hS (by omega) (by omega) dJ3_ensureCapacityInternal_38 (⟨_, _, _, ⟨⟨hkm, Or.inl ⟨hkm, rfl⟩⟩, fun _ _ => rfl, hfit⟩, ⟨hB, hA, trivial⟩, hF⟩)
  · skip
    have hkm : mm < k := Nat.lt_of_not_le (fun z9 => c14 ((sub_le0 (by omega) (by omega)).mpr z9))
    refine lv_aload_n hx hb dJ3_ensureCapacityInternal_17 rfl (lv_at hl 1 rfl) ?_
    refine lv_aload_n hx hb dJ3_ensureCapacityInternal_18 rfl (lv_at hl 1 rfl) ?_
    refine k_get hx hb hts in_J4 hown hG hP hB rfl 0 (by decide) (hts _ q262) (fun _ h9 => h9) (v := .ref q) rfl dJ3_ensureCapacityInternal_19 ?_
    refine lv_aload_n hx hb dJ3_ensureCapacityInternal_22 rfl (lv_at hl 1 rfl) ?_
    refine lv_iload_n hx hb dJ3_ensureCapacityInternal_23 rfl (lv_at hl 2 rfl) ?_
    refine k_cV hx hb hml hown hts (CJ3_newCapacityL l0 E w b q mm n k f (by omega) (by omega) (by omega) hB hA) (cwVp (y2 := ⟨"java/lang/AbstractStringBuilder", "isLatin1", "()Z"⟩) 1 hts hG q1103 q1105 q1129 q77 q1106 q1104 rfl rfl rfl (by decide +kernel) ⟨Nat.le_of_ble_eq_true rfl, Nat.le_of_ble_eq_true rfl⟩) hG hP hS hB rfl (As := [.int (nI k)]) (rest := [.ref q, .ref b]) rfl hl.1 rfl (lv_room (Nat.le_of_ble_eq_true rfl)) dJ3_ensureCapacityInternal_24 ⟨show 0 + 0 ≤ 1 from by omega, show 0 + 0 ≤ 150 from by omega⟩ (fun r9 w9 H locs hp hP hS => ?_)
    obtain ⟨hp1, hp0⟩ := hp
    rw [hp1] at hP
    rw [hp0]
    show W p l0 e rmCJ3_ensureCapacityInternalL s m args below meth c H locs 0 0 Q (F0 m 27 ls [.int (nI (mm + (mm + 2))), .ref q, .ref b])
    refine lv_aload_n hx hb dJ3_ensureCapacityInternal_27 rfl (lv_at hl 1 rfl) ?_
    refine k_get hx hb hts in_J4 hown hG hP hB rfl 1 (by decide) (hts _ q263) (fun _ h9 => h9) (v := .int 0) rfl dJ3_ensureCapacityInternal_28 ?_
    refine lv_ishl hx hb dJ3_ensureCapacityInternal_31 ?_
    refine k_top (y := (nI (mm + (mm + 2)))) (shl0 _) ?_
    refine k_cS hx hb hml hown hts (CJ14_copyOf_3 l0 E w q mm (mm + (mm + 2)) f (96, 1) (by omega) (by omega) hfit (by decide) hA) (va_cwS 2 hts (lw_S q1116 q1117 q91 q1118) rfl rfl rfl dyJ14_copyOf_3 ⟨Nat.le_of_ble_eq_true rfl, Nat.le_of_ble_eq_true rfl⟩) hG hP hS (As := [.ref q, .int (nI (mm + (mm + 2)))]) (rest := [.ref b]) rfl hl.1 rfl (lv_room (Nat.le_of_ble_eq_true rfl)) dJ3_ensureCapacityInternal_32 ⟨show 0 + 1 ≤ 1 from by omega, show 0 + 150 ≤ 150 from by omega⟩ (fun r32 w1 H locs hp hP hS => ?_)
    obtain ⟨q9_1, hp0, ⟨hn2', -⟩, hf9⟩ := hp
    have hB : w1 b = some ((96, 0), .inr (15, [.ref q, .int 0, .int 0, .int (nI n)])) := hf9 _ _ _ hB (by intro z9; first | (simp only [pO, pN, pK, pT, pD, pB, Prod.mk.injEq] at z9; done) | (simp only [pO, pN, pK, pT, pD, pB, Prod.mk.injEq] at z9; omega) | exact hty z9 | exact hty z9.symm)
    have hA : w1 q = some ((96, 1), .inl (eT E 3, mm, .inl f)) := hf9 _ _ _ hA (by intro z9; first | (simp only [pO, pN, pK, pT, pD, pB, Prod.mk.injEq] at z9; done) | (simp only [pO, pN, pK, pT, pD, pB, Prod.mk.injEq] at z9; omega) | exact hty z9 | exact hty z9.symm)
    have hF : fr pB w0 w1 := hF.tr (hf9.up (fun t9 h9 => by simp only [pO, pB] at h9 ⊢; first | exact h9 | (subst h9; rfl)))
    have hn2 : w1 q9_1 = some ((96, 4), .inl (eT E 3, (mm + (mm + 2)), .inl (va_cpy f (fun _ => 0) 0 0 mm))) := hn2'
    rw [hp0]
    show W p l0 e rmCJ3_ensureCapacityInternalL s m args below meth c H locs (0 + 1) (0 + 150) Q (F0 m 35 ls [.ref q9_1, .ref b])
    obtain ⟨w2, h9, hf9, hP⟩ := k_retag (96, 1) hP hn2
    have hn2 : w2 q9_1 = some ((96, 1), .inl (eT E 3, (mm + (mm + 2)), .inl (va_cpy f (fun _ => 0) 0 0 mm))) := h9
    have hB : w2 b = some ((96, 0), .inr (15, [.ref q, .int 0, .int 0, .int (nI n)])) := hf9 _ _ _ hB (by intro z9; first | (simp only [pO, pN, pK, pT, pD, pB, Prod.mk.injEq] at z9; done) | (simp only [pO, pN, pK, pT, pD, pB, Prod.mk.injEq] at z9; omega) | exact hty z9 | exact hty z9.symm)
    have hF : fr pB w0 w2 := hF.tr (hf9.up (fun t9 h9 => by simp only [pO, pB] at h9 ⊢; first | exact h9 | (subst h9; rfl)))
    refine k_putW hx hb hts in_J4 tyJ4 tyJ4_ok nmJ4 hown hG hP hS hB rfl 0 (by decide) (hts _ q262) (fun _ h9 => h9) rfl (ty := (.array .byte)) (v := .ref q9_1) rfl rfl rfl (Nat.le_of_ble_eq_true rfl) dJ3_ensureCapacityInternal_35 (fun w3 H locs h9 hf9 hP hS => ?_)
    have hB : w3 b = some ((96, 0), .inr (15, [.ref q9_1, .int 0, .int 0, .int (nI n)])) := h9
    have hn2 : w3 q9_1 = some ((96, 1), .inl (eT E 3, (mm + (mm + 2)), .inl (va_cpy f (fun _ => 0) 0 0 mm))) := hf9 _ _ _ hn2 (by intro z9; first | (simp only [pO, pN, pK, pT, pD, pB, Prod.mk.injEq] at z9; done) | (simp only [pO, pN, pK, pT, pD, pB, Prod.mk.injEq] at z9; omega) | exact hty z9 | exact hty z9.symm)
    have hF : fr pB w0 w3 := hF.tr (hf9.up (fun t9 h9 => by simp only [pO, pB] at h9 ⊢; first | exact h9 | (subst h9; rfl)))
    exact k_vret hx hb hr hlocks hQ hP hS (by omega) (by omega) dJ3_ensureCapacityInternal_38 (⟨_, _, _, ⟨⟨by omega, Or.inr ⟨hkm, by omega⟩⟩, fun j hj => sb_cpy0 hj, sb_fitC hfit sb_fit0⟩, ⟨hB, hn2, trivial⟩, hF⟩)

abbrev rmCJ3_ensureCapacityInternalU : Room := { frames := 3, cells := 1, slots := 150, locals := 82 }
set_option maxHeartbeats 4000000 in
theorem CJ3_ensureCapacityInternalU (l0 : Launch) (E : gE) (w : wd) (b : Nat) (q : Nat) (j : Nat) (n : Nat) (k : Nat) (f : Nat → Int32) (hm : j ≤ 70) (hk : k ≤ 2 * j + 2) (hjk : k ≤ j ∨ j ≤ 34) (hfit : sb_Fit f) (hB : w b = some ((96, 0), .inr (15, [.ref q, .int 1, .int 0, .int (nI n)]))) (hA : w q = some ((96, 1), .inl (eT E 3, 2 * j, .inl f))) : kC l0 yJ3_ensureCapacityInternal (ws_ yJ3_ensureCapacityInternal cJ3_ensureCapacityInternal 3 none) rmCJ3_ensureCapacityInternalU 1 150 mV E w [.ref b, .int (nI k)] (fun r w' => ∃ q9 : Nat, ∃ m9 : Nat, ∃ f9 : Nat → Int32, ((k ≤ m9 ∧ ((k ≤ j ∧ m9 = j) ∨ (j < k ∧ m9 = 2 * j + 2))) ∧ (∀ i, i < 2 * j → f9 i = f i) ∧ sb_Fit f9) ∧ (w' b = some ((96, 0), .inr (15, [.ref q9, .int 1, .int 0, .int (nI n)])) ∧ w' q9 = some ((96, 1), .inl (eT E 3, 2 * m9, .inl f9)) ∧ True) ∧ fr pB w w') := by
  refine k_open (cc := cJ3_ensureCapacityInternal) (maxL := 3) (ret := none) (by decide) rfl (Nat.le_of_ble_eq_true rfl) ?_
  intro p e s m args below meth c ls Q hx hb hr hml hown hts hlocks hname hQ hG hP hl hS
  have hl : lv_has ls 3 [(0, .ref b), (1, .int (nI k))] := hl
  obtain ⟨w0, hw0⟩ : ∃ z, z = w := ⟨_, rfl⟩
  have hF : fr pB w0 w := by rw [hw0]; exact fr.rf
  rw [← hw0] at hQ
  refine lv_aload_n hx hb dJ3_ensureCapacityInternal_0 rfl (lv_at hl 0 rfl) ?_
  refine k_get hx hb hts in_J4 hown hG hP hB rfl 0 (by decide) (hts _ q262) (fun _ h9 => h9) (v := .ref q) rfl dJ3_ensureCapacityInternal_1 ?_
  refine k_alenb hx hb hG hP hA dJ3_ensureCapacityInternal_4 ?_
  refine lv_aload_n hx hb dJ3_ensureCapacityInternal_5 rfl (lv_at hl 0 rfl) ?_
  refine k_get hx hb hts in_J4 hown hG hP hB rfl 1 (by decide) (hts _ q263) (fun _ h9 => h9) (v := .int 1) rfl dJ3_ensureCapacityInternal_6 ?_
  refine lv_ishr hx hb dJ3_ensureCapacityInternal_9 ?_
  refine k_top (y := (nI j)) ((shr1 (by omega)).trans (congrArg nI (by omega))) ?_
  refine lv_istore_n (lv' := [(2, .int (nI j)), (0, .ref b), (1, .int (nI k))]) hx hb dJ3_ensureCapacityInternal_10 rfl hl (by decide) rfl (fun ls hl => ?_)
  refine lv_iload_n hx hb dJ3_ensureCapacityInternal_11 rfl (lv_at hl 2 rfl) ?_
  refine lv_iload_n hx hb dJ3_ensureCapacityInternal_12 rfl (lv_at hl 0 rfl) ?_
  refine lv_isub hx hb dJ3_ensureCapacityInternal_13 ?_
  refine lv_if_le (tgt := 38) hx hb dJ3_ensureCapacityInternal_14 (by decide) (fun c14 => ?_) (fun c14 => ?_)
  · skip
    have hkm : k ≤ j := (sub_le0 (by omega) (by omega)).mp c14
    exact k_vret hx hb hr hlocks hQ hP hS (by omega) (by omega) dJ3_ensureCapacityInternal_38 (⟨_, _, _, ⟨⟨hkm, Or.inl ⟨hkm, rfl⟩⟩, fun _ _ => rfl, hfit⟩, ⟨hB, hA, trivial⟩, hF⟩)
  · skip
    have hkm : j < k := Nat.lt_of_not_le (fun z9 => c14 ((sub_le0 (by omega) (by omega)).mpr z9))
    refine lv_aload_n hx hb dJ3_ensureCapacityInternal_17 rfl (lv_at hl 1 rfl) ?_
    refine lv_aload_n hx hb dJ3_ensureCapacityInternal_18 rfl (lv_at hl 1 rfl) ?_
    refine k_get hx hb hts in_J4 hown hG hP hB rfl 0 (by decide) (hts _ q262) (fun _ h9 => h9) (v := .ref q) rfl dJ3_ensureCapacityInternal_19 ?_
    refine lv_aload_n hx hb dJ3_ensureCapacityInternal_22 rfl (lv_at hl 1 rfl) ?_
    refine lv_iload_n hx hb dJ3_ensureCapacityInternal_23 rfl (lv_at hl 2 rfl) ?_
    refine k_cV hx hb hml hown hts (CJ3_newCapacityU l0 E w b q j n k f (by omega) (by omega) (by omega) hB hA) (cwVp (y2 := ⟨"java/lang/AbstractStringBuilder", "isLatin1", "()Z"⟩) 1 hts hG q1103 q1105 q1129 q77 q1106 q1104 rfl rfl rfl (by decide +kernel) ⟨Nat.le_of_ble_eq_true rfl, Nat.le_of_ble_eq_true rfl⟩) hG hP hS hB rfl (As := [.int (nI k)]) (rest := [.ref q, .ref b]) rfl hl.1 rfl (lv_room (Nat.le_of_ble_eq_true rfl)) dJ3_ensureCapacityInternal_24 ⟨show 0 + 0 ≤ 1 from by omega, show 0 + 0 ≤ 150 from by omega⟩ (fun r9 w9 H locs hp hP hS => ?_)
    obtain ⟨hp1, hp0⟩ := hp
    rw [hp1] at hP
    rw [hp0]
    show W p l0 e rmCJ3_ensureCapacityInternalU s m args below meth c H locs 0 0 Q (F0 m 27 ls [.int (nI (2 * j + 2)), .ref q, .ref b])
    refine lv_aload_n hx hb dJ3_ensureCapacityInternal_27 rfl (lv_at hl 1 rfl) ?_
    refine k_get hx hb hts in_J4 hown hG hP hB rfl 1 (by decide) (hts _ q263) (fun _ h9 => h9) (v := .int 1) rfl dJ3_ensureCapacityInternal_28 ?_
    refine lv_ishl hx hb dJ3_ensureCapacityInternal_31 ?_
    refine k_top (y := (nI (2 * (2 * j + 2)))) (shl1 (by omega)) ?_
    refine k_cS hx hb hml hown hts (CJ14_copyOf_3 l0 E w q (2 * j) (2 * (2 * j + 2)) f (96, 1) (by omega) (by omega) hfit (by decide) hA) (va_cwS 2 hts (lw_S q1116 q1117 q91 q1118) rfl rfl rfl dyJ14_copyOf_3 ⟨Nat.le_of_ble_eq_true rfl, Nat.le_of_ble_eq_true rfl⟩) hG hP hS (As := [.ref q, .int (nI (2 * (2 * j + 2)))]) (rest := [.ref b]) rfl hl.1 rfl (lv_room (Nat.le_of_ble_eq_true rfl)) dJ3_ensureCapacityInternal_32 ⟨show 0 + 1 ≤ 1 from by omega, show 0 + 150 ≤ 150 from by omega⟩ (fun r32 w1 H locs hp hP hS => ?_)
    obtain ⟨q9_1, hp0, ⟨hn2', -⟩, hf9⟩ := hp
    have hB : w1 b = some ((96, 0), .inr (15, [.ref q, .int 1, .int 0, .int (nI n)])) := hf9 _ _ _ hB (by intro z9; first | (simp only [pO, pN, pK, pT, pD, pB, Prod.mk.injEq] at z9; done) | (simp only [pO, pN, pK, pT, pD, pB, Prod.mk.injEq] at z9; omega) | exact hty z9 | exact hty z9.symm)
    have hA : w1 q = some ((96, 1), .inl (eT E 3, 2 * j, .inl f)) := hf9 _ _ _ hA (by intro z9; first | (simp only [pO, pN, pK, pT, pD, pB, Prod.mk.injEq] at z9; done) | (simp only [pO, pN, pK, pT, pD, pB, Prod.mk.injEq] at z9; omega) | exact hty z9 | exact hty z9.symm)
    have hF : fr pB w0 w1 := hF.tr (hf9.up (fun t9 h9 => by simp only [pO, pB] at h9 ⊢; first | exact h9 | (subst h9; rfl)))
    have hn2 : w1 q9_1 = some ((96, 4), .inl (eT E 3, (2 * (2 * j + 2)), .inl (va_cpy f (fun _ => 0) 0 0 (2 * j)))) := hn2'
    rw [hp0]
    show W p l0 e rmCJ3_ensureCapacityInternalU s m args below meth c H locs (0 + 1) (0 + 150) Q (F0 m 35 ls [.ref q9_1, .ref b])
    obtain ⟨w2, h9, hf9, hP⟩ := k_retag (96, 1) hP hn2
    have hn2 : w2 q9_1 = some ((96, 1), .inl (eT E 3, (2 * (2 * j + 2)), .inl (va_cpy f (fun _ => 0) 0 0 (2 * j)))) := h9
    have hB : w2 b = some ((96, 0), .inr (15, [.ref q, .int 1, .int 0, .int (nI n)])) := hf9 _ _ _ hB (by intro z9; first | (simp only [pO, pN, pK, pT, pD, pB, Prod.mk.injEq] at z9; done) | (simp only [pO, pN, pK, pT, pD, pB, Prod.mk.injEq] at z9; omega) | exact hty z9 | exact hty z9.symm)
    have hF : fr pB w0 w2 := hF.tr (hf9.up (fun t9 h9 => by simp only [pO, pB] at h9 ⊢; first | exact h9 | (subst h9; rfl)))
    refine k_putW hx hb hts in_J4 tyJ4 tyJ4_ok nmJ4 hown hG hP hS hB rfl 0 (by decide) (hts _ q262) (fun _ h9 => h9) rfl (ty := (.array .byte)) (v := .ref q9_1) rfl rfl rfl (Nat.le_of_ble_eq_true rfl) dJ3_ensureCapacityInternal_35 (fun w3 H locs h9 hf9 hP hS => ?_)
    have hB : w3 b = some ((96, 0), .inr (15, [.ref q9_1, .int 1, .int 0, .int (nI n)])) := h9
    have hn2 : w3 q9_1 = some ((96, 1), .inl (eT E 3, (2 * (2 * j + 2)), .inl (va_cpy f (fun _ => 0) 0 0 (2 * j)))) := hf9 _ _ _ hn2 (by intro z9; first | (simp only [pO, pN, pK, pT, pD, pB, Prod.mk.injEq] at z9; done) | (simp only [pO, pN, pK, pT, pD, pB, Prod.mk.injEq] at z9; omega) | exact hty z9 | exact hty z9.symm)
    have hF : fr pB w0 w3 := hF.tr (hf9.up (fun t9 h9 => by simp only [pO, pB] at h9 ⊢; first | exact h9 | (subst h9; rfl)))
    exact k_vret hx hb hr hlocks hQ hP hS (by omega) (by omega) dJ3_ensureCapacityInternal_38 (⟨_, _, _, ⟨⟨by omega, Or.inr ⟨hkm, rfl⟩⟩, fun j hj => sb_cpy0 hj, sb_fitC hfit sb_fit0⟩, ⟨hB, hn2, trivial⟩, hF⟩)

abbrev rmCJ3_isLatin1L : Room := { frames := 0, cells := 0, slots := 0, locals := 0 }
theorem dyJ3_isLatin1 : yJ3_isLatin1.cls = RJ3 ∧ yJ3_isLatin1.cls ≠ "java/lang/invoke/MethodHandle" ∧ yJ3_isLatin1.cls ≠ "java/lang/invoke/VarHandle" ∧ (parseMethodDescriptor yJ3_isLatin1.desc).map (fun d => d.parameters.length) = some 0 := by decide +kernel
set_option maxHeartbeats 4000000 in
theorem CJ3_isLatin1L (l0 : Launch) (E : gE) (w : wd) (b : Nat) (q : Nat) (n : Nat) (hB : w b = some ((96, 0), .inr (15, [.ref q, .int 0, .int 0, .int (nI n)]))) : kC l0 yJ3_isLatin1 (ws_ yJ3_isLatin1 cJ3_isLatin1 1 (some .boolean)) rmCJ3_isLatin1L 0 0 mI E w [.ref b] (fun r w' => w' = w ∧ r = 1) := by
  refine k_open (cc := cJ3_isLatin1) (maxL := 1) (ret := (some .boolean)) (by decide) rfl (Nat.le_of_ble_eq_true rfl) ?_
  intro p e s m args below meth c ls Q hx hb hr hml hown hts hlocks hname hQ hG hP hl hS
  have hl : lv_has ls 1 [(0, .ref b)] := hl
  refine k_getZ (v := 1) hx hb (List.mem_of_getElem? (i := 0) rfl) hown hG hS (hts _ q253) (fun _ h9 => h9) dJ3_isLatin1_0 ?_
  refine lv_if_eq (tgt := 17) hx hb dJ3_isLatin1_3 (by decide) (fun c3 => ?_) (fun c3 => ?_)
  · skip
    exact absurd c3 (by decide)
  · skip
    refine lv_aload_n hx hb dJ3_isLatin1_6 rfl (lv_at hl 0 rfl) ?_
    refine k_get hx hb hts in_J4 hown hG hP hB rfl 1 (by decide) (hts _ q263) (fun _ h9 => h9) (v := .int 0) rfl dJ3_isLatin1_7 ?_
    refine lv_if_ne (tgt := 17) hx hb dJ3_isLatin1_10 (by decide) (fun c10 => ?_) (fun c10 => ?_)
    · skip
      exact absurd c10 (by decide)
    · skip
      refine lv_iconst (v := 1) hx hb dJ3_isLatin1_13 (by decide) ?_
      refine lv_goto (tgt := 18) hx hb dJ3_isLatin1_14 (by decide) ?_
      exact k_zret hx hb hr hlocks hQ hP hS (by omega) (by omega) dJ3_isLatin1_18 rfl (⟨rfl, rfl⟩)

abbrev rmCJ3_isLatin1U : Room := { frames := 0, cells := 0, slots := 0, locals := 0 }
set_option maxHeartbeats 4000000 in
theorem CJ3_isLatin1U (l0 : Launch) (E : gE) (w : wd) (b : Nat) (q : Nat) (n : Nat) (hB : w b = some ((96, 0), .inr (15, [.ref q, .int 1, .int 0, .int (nI n)]))) : kC l0 yJ3_isLatin1 (ws_ yJ3_isLatin1 cJ3_isLatin1 1 (some .boolean)) rmCJ3_isLatin1U 0 0 mI E w [.ref b] (fun r w' => w' = w ∧ r = 0) := by
  refine k_open (cc := cJ3_isLatin1) (maxL := 1) (ret := (some .boolean)) (by decide) rfl (Nat.le_of_ble_eq_true rfl) ?_
  intro p e s m args below meth c ls Q hx hb hr hml hown hts hlocks hname hQ hG hP hl hS
  have hl : lv_has ls 1 [(0, .ref b)] := hl
  refine k_getZ (v := 1) hx hb (List.mem_of_getElem? (i := 0) rfl) hown hG hS (hts _ q253) (fun _ h9 => h9) dJ3_isLatin1_0 ?_
  refine lv_if_eq (tgt := 17) hx hb dJ3_isLatin1_3 (by decide) (fun c3 => ?_) (fun c3 => ?_)
  · skip
    exact absurd c3 (by decide)
  · skip
    refine lv_aload_n hx hb dJ3_isLatin1_6 rfl (lv_at hl 0 rfl) ?_
    refine k_get hx hb hts in_J4 hown hG hP hB rfl 1 (by decide) (hts _ q263) (fun _ h9 => h9) (v := .int 1) rfl dJ3_isLatin1_7 ?_
    refine lv_if_ne (tgt := 17) hx hb dJ3_isLatin1_10 (by decide) (fun c10 => ?_) (fun c10 => ?_)
    · skip
      refine lv_iconst (v := 0) hx hb dJ3_isLatin1_17 (by decide) ?_
      exact k_zret hx hb hr hlocks hQ hP hS (by omega) (by omega) dJ3_isLatin1_18 rfl (⟨rfl, rfl⟩)
    · skip
      exact absurd c10 (by decide)

abbrev rmCJ6_length : Room := { frames := 0, cells := 0, slots := 0, locals := 0 }
theorem dyJ6_length : yJ6_length.cls ≠ "java/lang/invoke/MethodHandle" ∧ yJ6_length.cls ≠ "java/lang/invoke/VarHandle" ∧ (parseMethodDescriptor yJ6_length.desc).map (fun d => d.parameters.length) = some 1 := by decide +kernel
set_option maxHeartbeats 4000000 in
theorem CJ6_length (l0 : Launch) (E : gE) (w : wd) (q : Nat) (mm : Nat) (f : Nat → Int32) (ta9 : Nat × Nat) (hm : mm ≤ 65536) (hA : w q = some (ta9, .inl (eT E 3, mm, .inl f))) : kC l0 yJ6_length (ws_ yJ6_length cJ6_length 1 (some .int)) rmCJ6_length 0 0 mI E w [.ref q] (fun r w' => w' = w ∧ r = (nI (mm / 2))) := by
  refine k_open (cc := cJ6_length) (maxL := 1) (ret := (some .int)) (by decide) rfl (Nat.le_of_ble_eq_true rfl) ?_
  intro p e s m args below meth c ls Q hx hb hr hml hown hts hlocks hname hQ hG hP hl hS
  have hl : lv_has ls 1 [(0, .ref q)] := hl
  refine lv_aload_n hx hb dJ6_length_0 rfl (lv_at hl 0 rfl) ?_
  refine k_alenb hx hb hG hP hA dJ6_length_1 ?_
  refine lv_iconst (v := 1) hx hb dJ6_length_2 (by decide) ?_
  refine lv_ishr hx hb dJ6_length_3 ?_
  refine k_top (y := (nI (mm / 2))) (shr1 (by omega)) ?_
  exact k_iret hx hb hr hlocks hQ hP hS (by omega) (by omega) dJ6_length_4 (⟨rfl, rfl⟩)

abbrev rmCJ20_checkFromIndexSizeN : Room := { frames := 0, cells := 0, slots := 0, locals := 0 }
theorem dyJ20_checkFromIndexSize : yJ20_checkFromIndexSize.cls ≠ "java/lang/invoke/MethodHandle" ∧ yJ20_checkFromIndexSize.cls ≠ "java/lang/invoke/VarHandle" ∧ (parseMethodDescriptor yJ20_checkFromIndexSize.desc).map (fun d => d.parameters.length) = some 4 := by decide +kernel
set_option maxHeartbeats 4000000 in
theorem CJ20_checkFromIndexSizeN (l0 : Launch) (E : gE) (w : wd) (off : Nat) (cnt : Nat) (len : Nat) (ho : off + cnt ≤ len) (hl9 : len < 2147483648) : kC l0 yJ20_checkFromIndexSize (ws_ yJ20_checkFromIndexSize cJ20_checkFromIndexSize 4 (some .int)) rmCJ20_checkFromIndexSizeN 0 0 mI E w [.int (nI off), .int (nI cnt), .int (nI len), .null] (fun r w' => w' = w ∧ r = (nI off)) := by
  refine k_open (cc := cJ20_checkFromIndexSize) (maxL := 4) (ret := (some .int)) (by decide) rfl (Nat.le_of_ble_eq_true rfl) ?_
  intro p e s m args below meth c ls Q hx hb hr hml hown hts hlocks hname hQ hG hP hl hS
  have hl : lv_has ls 4 [(0, .int (nI off)), (1, .int (nI cnt)), (2, .int (nI len)), (3, .null)] := hl
  refine lv_iload_n hx hb dJ20_checkFromIndexSize_0 rfl (lv_at hl 2 rfl) ?_
  refine lv_iload_n hx hb dJ20_checkFromIndexSize_1 rfl (lv_at hl 0 rfl) ?_
  refine lv_ior hx hb dJ20_checkFromIndexSize_2 ?_
  refine lv_iload_n hx hb dJ20_checkFromIndexSize_3 rfl (lv_at hl 1 rfl) ?_
  refine lv_ior hx hb dJ20_checkFromIndexSize_4 ?_
  refine lv_if_lt (tgt := 15) hx hb dJ20_checkFromIndexSize_5 (by decide) (fun c5 => ?_) (fun c5 => ?_)
  · skip
    exact absurd c5 (or3_nn (by omega) (by omega) (by omega))
  · skip
    refine lv_iload_n hx hb dJ20_checkFromIndexSize_8 rfl (lv_at hl 1 rfl) ?_
    refine lv_iload_n hx hb dJ20_checkFromIndexSize_9 rfl (lv_at hl 2 rfl) ?_
    refine lv_iload_n hx hb dJ20_checkFromIndexSize_10 rfl (lv_at hl 0 rfl) ?_
    refine k_isubN (x := len) (y := off) hx hb (by omega) dJ20_checkFromIndexSize_11 ?_
    refine k_icmp_leN (x := cnt) (y := len - off) (tgt := 23) hx hb (by omega) (by omega) dJ20_checkFromIndexSize_12 (by decide) (fun c12 => ?_) (fun c12 => ?_)
    · skip
      refine lv_iload_n hx hb dJ20_checkFromIndexSize_23 rfl (lv_at hl 0 rfl) ?_
      exact k_iret hx hb hr hlocks hQ hP hS (by omega) (by omega) dJ20_checkFromIndexSize_24 (⟨rfl, rfl⟩)
    · skip
      omega

abbrev rmCJ20_checkIndexN : Room := { frames := 0, cells := 0, slots := 0, locals := 0 }
theorem dyJ20_checkIndex : yJ20_checkIndex.cls ≠ "java/lang/invoke/MethodHandle" ∧ yJ20_checkIndex.cls ≠ "java/lang/invoke/VarHandle" ∧ (parseMethodDescriptor yJ20_checkIndex.desc).map (fun d => d.parameters.length) = some 3 := by decide +kernel
set_option maxHeartbeats 4000000 in
theorem CJ20_checkIndexN (l0 : Launch) (E : gE) (w : wd) (i : Nat) (len : Nat) (hi : i < len) (hl9 : len < 2147483648) : kC l0 yJ20_checkIndex (ws_ yJ20_checkIndex cJ20_checkIndex 3 (some .int)) rmCJ20_checkIndexN 0 0 mI E w [.int (nI i), .int (nI len), .null] (fun r w' => w' = w ∧ r = (nI i)) := by
  refine k_open (cc := cJ20_checkIndex) (maxL := 3) (ret := (some .int)) (by decide) rfl (Nat.le_of_ble_eq_true rfl) ?_
  intro p e s m args below meth c ls Q hx hb hr hml hown hts hlocks hname hQ hG hP hl hS
  have hl : lv_has ls 3 [(0, .int (nI i)), (1, .int (nI len)), (2, .null)] := hl
  refine lv_iload_n hx hb dJ20_checkIndex_0 rfl (lv_at hl 0 rfl) ?_
  refine lv_if_lt (tgt := 9) hx hb dJ20_checkIndex_1 (by decide) (fun c1 => ?_) (fun c1 => ?_)
  · skip
    exact absurd c1 (nI_pos (by omega))
  · skip
    refine lv_iload_n hx hb dJ20_checkIndex_4 rfl (lv_at hl 0 rfl) ?_
    refine lv_iload_n hx hb dJ20_checkIndex_5 rfl (lv_at hl 1 rfl) ?_
    refine k_icmp_ltN (x := i) (y := len) (tgt := 16) hx hb (by omega) (by omega) dJ20_checkIndex_6 (by decide) (fun c6 => ?_) (fun c6 => ?_)
    · skip
      refine lv_iload_n hx hb dJ20_checkIndex_16 rfl (lv_at hl 0 rfl) ?_
      exact k_iret hx hb hr hlocks hQ hP hS (by omega) (by omega) dJ20_checkIndex_17 (⟨rfl, rfl⟩)
    · skip
      omega

abbrev rmCJ20_checkFromIndexSizeR : Room := { frames := 0, cells := 0, slots := 0, locals := 0 }
set_option maxHeartbeats 4000000 in
theorem CJ20_checkFromIndexSizeR (l0 : Launch) (E : gE) (w : wd) (off : Nat) (cnt : Nat) (len : Nat) (z9 : Nat) (ho : off + cnt ≤ len) (hl9 : len < 2147483648) : kC l0 yJ20_checkFromIndexSize (ws_ yJ20_checkFromIndexSize cJ20_checkFromIndexSize 4 (some .int)) rmCJ20_checkFromIndexSizeR 0 0 mI E w [.int (nI off), .int (nI cnt), .int (nI len), .ref z9] (fun r w' => w' = w ∧ r = (nI off)) := by
  refine k_open (cc := cJ20_checkFromIndexSize) (maxL := 4) (ret := (some .int)) (by decide) rfl (Nat.le_of_ble_eq_true rfl) ?_
  intro p e s m args below meth c ls Q hx hb hr hml hown hts hlocks hname hQ hG hP hl hS
  have hl : lv_has ls 4 [(0, .int (nI off)), (1, .int (nI cnt)), (2, .int (nI len)), (3, .ref z9)] := hl
  refine lv_iload_n hx hb dJ20_checkFromIndexSize_0 rfl (lv_at hl 2 rfl) ?_
  refine lv_iload_n hx hb dJ20_checkFromIndexSize_1 rfl (lv_at hl 0 rfl) ?_
  refine lv_ior hx hb dJ20_checkFromIndexSize_2 ?_
  refine lv_iload_n hx hb dJ20_checkFromIndexSize_3 rfl (lv_at hl 1 rfl) ?_
  refine lv_ior hx hb dJ20_checkFromIndexSize_4 ?_
  refine lv_if_lt (tgt := 15) hx hb dJ20_checkFromIndexSize_5 (by decide) (fun c5 => ?_) (fun c5 => ?_)
  · skip
    exact absurd c5 (or3_nn (by omega) (by omega) (by omega))
  · skip
    refine lv_iload_n hx hb dJ20_checkFromIndexSize_8 rfl (lv_at hl 1 rfl) ?_
    refine lv_iload_n hx hb dJ20_checkFromIndexSize_9 rfl (lv_at hl 2 rfl) ?_
    refine lv_iload_n hx hb dJ20_checkFromIndexSize_10 rfl (lv_at hl 0 rfl) ?_
    refine k_isubN (x := len) (y := off) hx hb (by omega) dJ20_checkFromIndexSize_11 ?_
    refine k_icmp_leN (x := cnt) (y := len - off) (tgt := 23) hx hb (by omega) (by omega) dJ20_checkFromIndexSize_12 (by decide) (fun c12 => ?_) (fun c12 => ?_)
    · skip
      refine lv_iload_n hx hb dJ20_checkFromIndexSize_23 rfl (lv_at hl 0 rfl) ?_
      exact k_iret hx hb hr hlocks hQ hP hS (by omega) (by omega) dJ20_checkFromIndexSize_24 (⟨rfl, rfl⟩)
    · skip
      omega

abbrev rmCJ20_checkIndexR : Room := { frames := 0, cells := 0, slots := 0, locals := 0 }
set_option maxHeartbeats 4000000 in
theorem CJ20_checkIndexR (l0 : Launch) (E : gE) (w : wd) (i : Nat) (len : Nat) (z9 : Nat) (hi : i < len) (hl9 : len < 2147483648) : kC l0 yJ20_checkIndex (ws_ yJ20_checkIndex cJ20_checkIndex 3 (some .int)) rmCJ20_checkIndexR 0 0 mI E w [.int (nI i), .int (nI len), .ref z9] (fun r w' => w' = w ∧ r = (nI i)) := by
  refine k_open (cc := cJ20_checkIndex) (maxL := 3) (ret := (some .int)) (by decide) rfl (Nat.le_of_ble_eq_true rfl) ?_
  intro p e s m args below meth c ls Q hx hb hr hml hown hts hlocks hname hQ hG hP hl hS
  have hl : lv_has ls 3 [(0, .int (nI i)), (1, .int (nI len)), (2, .ref z9)] := hl
  refine lv_iload_n hx hb dJ20_checkIndex_0 rfl (lv_at hl 0 rfl) ?_
  refine lv_if_lt (tgt := 9) hx hb dJ20_checkIndex_1 (by decide) (fun c1 => ?_) (fun c1 => ?_)
  · skip
    exact absurd c1 (nI_pos (by omega))
  · skip
    refine lv_iload_n hx hb dJ20_checkIndex_4 rfl (lv_at hl 0 rfl) ?_
    refine lv_iload_n hx hb dJ20_checkIndex_5 rfl (lv_at hl 1 rfl) ?_
    refine k_icmp_ltN (x := i) (y := len) (tgt := 16) hx hb (by omega) (by omega) dJ20_checkIndex_6 (by decide) (fun c6 => ?_) (fun c6 => ?_)
    · skip
      refine lv_iload_n hx hb dJ20_checkIndex_16 rfl (lv_at hl 0 rfl) ?_
      exact k_iret hx hb hr hlocks hQ hP hS (by omega) (by omega) dJ20_checkIndex_17 (⟨rfl, rfl⟩)
    · skip
      omega
abbrev rmCJ20_checkFromIndexSize : Room := { frames := 0, cells := 0, slots := 0, locals := 0 }
theorem CJ20_checkFromIndexSize (l0 : Launch) (E : gE) (w : wd) (off : Nat) (cnt : Nat) (len : Nat) (z9 : Option Nat) (ho : off + cnt ≤ len) (hl9 : len < 2147483648) : kC l0 yJ20_checkFromIndexSize (ws_ yJ20_checkFromIndexSize cJ20_checkFromIndexSize 4 (some .int)) rmCJ20_checkFromIndexSize 0 0 mI E w [.int (nI off), .int (nI cnt), .int (nI len), va_rf z9] (fun r w' => w' = w ∧ r = ((nI off))) := by
  cases z9 with
  | none => exact CJ20_checkFromIndexSizeN l0 E w off cnt len ho hl9
  | some z => exact CJ20_checkFromIndexSizeR l0 E w off cnt len z ho hl9
abbrev rmCJ20_checkIndex : Room := { frames := 0, cells := 0, slots := 0, locals := 0 }
theorem CJ20_checkIndex (l0 : Launch) (E : gE) (w : wd) (i : Nat) (len : Nat) (z9 : Option Nat) (hi : i < len) (hl9 : len < 2147483648) : kC l0 yJ20_checkIndex (ws_ yJ20_checkIndex cJ20_checkIndex 3 (some .int)) rmCJ20_checkIndex 0 0 mI E w [.int (nI i), .int (nI len), va_rf z9] (fun r w' => w' = w ∧ r = ((nI i))) := by
  cases z9 with
  | none => exact CJ20_checkIndexN l0 E w i len hi hl9
  | some z => exact CJ20_checkIndexR l0 E w i len z hi hl9
