/-! THE TWIN, 3: what writes -/
set_option maxRecDepth 100000
abbrev rmCX6_fails : Room := { frames := 0, cells := 0, slots := 0, locals := 0 }
theorem dyX6_fails : yX6_fails.cls = RX6 ∧ yX6_fails.cls ≠ "java/lang/invoke/MethodHandle" ∧ yX6_fails.cls ≠ "java/lang/invoke/VarHandle" ∧ (parseMethodDescriptor yX6_fails.desc).map (fun d => d.parameters.length) = some 1 := by decide +kernel
set_option maxHeartbeats 4000000 in
theorem CX6_fails (l0 : Launch) (E : gE) (w : wd) (h : Nat) (ad : Nat → Nat) (f : Nat → Int32) (a : Nat → Nat → Int32) (z : Int32) (hM : tM E w h ad f a) : kC l0 yX6_fails (ws_ yX6_fails cX6_fails 2 (some .boolean)) rmCX6_fails 0 0 mI E w [.ref h, .int z] (fun r w' => ∃ f' a', (r = (bI (decide (0 < z))) ∧ f' = (va_up f 13 z) ∧ a' = a) ∧ tM E w' h ad f' a' ∧ fr tP w w') := by
  refine k_open (cc := cX6_fails) (maxL := 2) (ret := (some .boolean)) (by decide) rfl (Nat.le_of_ble_eq_true rfl) ?_
  intro p e s m args below meth c ls Q hx hb hr hml hown hts hlocks hname hQ hG hP hl hS
  have hl : lv_has ls 2 [(0, .ref h), (1, .int z)] := hl
  obtain ⟨w0, hw0⟩ : ∃ z, z = w := ⟨_, rfl⟩
  have hF : fr tP w0 w := by rw [hw0]; exact fr.rf
  rw [← hw0] at hQ
  refine lv_aload_n hx hb dX6_fails_0 rfl (lv_at hl 0 rfl) ?_
  refine lv_iload_n hx hb dX6_fails_1 rfl (lv_at hl 1 rfl) ?_
  refine tw_put hx hb hts hown hG hP hS hM hF 13 (by decide) (hts _ q1633) (fun _ h9 => h9) rfl (ty := .int) (v := z) rfl rfl rfl rfl dX6_fails_2 (fun w H locs hM hF hP hS => ?_)
  refine lv_iload_n hx hb dX6_fails_5 rfl (lv_at hl 1 rfl) ?_
  refine lv_if_le (tgt := 13) hx hb dX6_fails_6 (by decide) (fun c6 => ?_) (fun c6 => ?_)
  · skip
    refine lv_iconst (v := 0) hx hb dX6_fails_13 (by decide) ?_
    exact k_zret hx hb hr hlocks hQ hP hS (by omega) (by omega) dX6_fails_14 rfl (⟨_, _, ⟨by first | (rw [bI, decide_eq_true (Int32.not_le.mp c6)]; rfl) | (rw [bI, decide_eq_false (Int32.not_lt.mpr c6)]; rfl), rfl, rfl⟩, hM, hF⟩)
  · skip
    refine lv_iconst (v := 1) hx hb dX6_fails_9 (by decide) ?_
    refine lv_goto (tgt := 14) hx hb dX6_fails_10 (by decide) ?_
    exact k_zret hx hb hr hlocks hQ hP hS (by omega) (by omega) dX6_fails_14 rfl (⟨_, _, ⟨by first | (rw [bI, decide_eq_true (Int32.not_le.mp c6)]; rfl) | (rw [bI, decide_eq_false (Int32.not_lt.mpr c6)]; rfl), rfl, rfl⟩, hM, hF⟩)

abbrev rmCX6_refuses : Room := { frames := 0, cells := 0, slots := 0, locals := 0 }
theorem dyX6_refuses : yX6_refuses.cls = RX6 ∧ yX6_refuses.cls ≠ "java/lang/invoke/MethodHandle" ∧ yX6_refuses.cls ≠ "java/lang/invoke/VarHandle" ∧ (parseMethodDescriptor yX6_refuses.desc).map (fun d => d.parameters.length) = some 2 := by decide +kernel
set_option maxHeartbeats 4000000 in
theorem CX6_refuses (l0 : Launch) (E : gE) (w : wd) (h : Nat) (ad : Nat → Nat) (f : Nat → Int32) (a : Nat → Nat → Int32) (u : Int32) (z : Int32) (hM : tM E w h ad f a) : kC l0 yX6_refuses (ws_ yX6_refuses cX6_refuses 3 (some .int)) rmCX6_refuses 0 0 mI E w [.ref h, .int u, .int z] (fun r w' => ∃ f' a', (r = 0 ∧ f' = (va_up (va_up (va_up f 11 u) 12 (-1)) 13 z) ∧ a' = a) ∧ tM E w' h ad f' a' ∧ fr tP w w') := by
  refine k_open (cc := cX6_refuses) (maxL := 3) (ret := (some .int)) (by decide) rfl (Nat.le_of_ble_eq_true rfl) ?_
  intro p e s m args below meth c ls Q hx hb hr hml hown hts hlocks hname hQ hG hP hl hS
  have hl : lv_has ls 3 [(0, .ref h), (1, .int u), (2, .int z)] := hl
  obtain ⟨w0, hw0⟩ : ∃ z, z = w := ⟨_, rfl⟩
  have hF : fr tP w0 w := by rw [hw0]; exact fr.rf
  rw [← hw0] at hQ
  refine lv_aload_n hx hb dX6_refuses_0 rfl (lv_at hl 0 rfl) ?_
  refine lv_iload_n hx hb dX6_refuses_1 rfl (lv_at hl 1 rfl) ?_
  refine tw_put hx hb hts hown hG hP hS hM hF 11 (by decide) (hts _ q1631) (fun _ h9 => h9) rfl (ty := .int) (v := u) rfl rfl rfl rfl dX6_refuses_2 (fun w H locs hM hF hP hS => ?_)
  refine lv_aload_n hx hb dX6_refuses_5 rfl (lv_at hl 0 rfl) ?_
  refine lv_iconst (v := (-1)) hx hb dX6_refuses_6 (by decide) ?_
  refine tw_put hx hb hts hown hG hP hS hM hF 12 (by decide) (hts _ q1632) (fun _ h9 => h9) rfl (ty := .int) (v := (-1)) rfl rfl rfl rfl dX6_refuses_7 (fun w H locs hM hF hP hS => ?_)
  refine lv_aload_n hx hb dX6_refuses_10 rfl (lv_at hl 0 rfl) ?_
  refine lv_iload_n hx hb dX6_refuses_11 rfl (lv_at hl 2 rfl) ?_
  refine tw_put hx hb hts hown hG hP hS hM hF 13 (by decide) (hts _ q1633) (fun _ h9 => h9) rfl (ty := .int) (v := z) rfl rfl rfl rfl dX6_refuses_12 (fun w H locs hM hF hP hS => ?_)
  refine lv_iconst (v := 0) hx hb dX6_refuses_15 (by decide) ?_
  exact k_iret hx hb hr hlocks hQ hP hS (by omega) (by omega) dX6_refuses_16 (⟨_, _, ⟨rfl, rfl, rfl⟩, hM, hF⟩)

abbrev rmCX6_copies : Room := { frames := 0, cells := 0, slots := 0, locals := 0 }
theorem dyX6_copies : yX6_copies.cls ≠ "java/lang/invoke/MethodHandle" ∧ yX6_copies.cls ≠ "java/lang/invoke/VarHandle" ∧ (parseMethodDescriptor yX6_copies.desc).map (fun d => d.parameters.length) = some 4 := by decide +kernel
set_option maxHeartbeats 4000000 in
theorem CX6_copies (l0 : Launch) (E : gE) (w : wd) (h : Nat) (ad : Nat → Nat) (f : Nat → Int32) (a : Nat → Nat → Int32) (i : Nat) (x : Nat) (j : Nat) (y : Nat) (hM : tM E w h ad f a) (hi : i ∈ tArr) (hj : j ∈ tArr) (hij : i ≠ j) (hu : x + 116 ≤ tLen i) (hv : y + 116 ≤ tLen j) : kC l0 yX6_copies (ws_ yX6_copies cX6_copies 5 none) rmCX6_copies 0 0 mV E w [.ref (ad i), .int (nI x), .ref (ad j), .int (nI y)] (fun r w' => ∃ f' a', (f' = f ∧ a' = (va_up a j (va_cpy (a i) (a j) x y 116))) ∧ tM E w' h ad f' a' ∧ fr tP w w') := by
  refine k_open (cc := cX6_copies) (maxL := 5) (ret := none) (by decide) rfl (Nat.le_of_ble_eq_true rfl) ?_
  intro p e s m args below meth c ls Q hx hb hr hml hown hts hlocks hname hQ hG hP hl hS
  have hl : lv_has ls 5 [(0, .ref (ad i)), (1, .int (nI x)), (2, .ref (ad j)), (3, .int (nI y))] := hl
  obtain ⟨w0, hw0⟩ : ∃ z, z = w := ⟨_, rfl⟩
  have hF : fr tP w0 w := by rw [hw0]; exact fr.rf
  rw [← hw0] at hQ
  have t1 := tLen_le i
  have t2 := tLen_le j
  refine lv_iconst (v := 0) hx hb dX6_copies_0 (by decide) ?_
  refine lv_istore (lv' := [(4, .int 0), (0, .ref (ad i)), (1, .int (nI x)), (2, .ref (ad j)), (3, .int (nI y))]) hx hb dX6_copies_1 hl (by decide) rfl (fun ls hl => ?_)
  have hloop_3 : ∀ (n9_3 : Nat) (q : Nat), (q ≤ 116) → (116 - q) < n9_3 → ∀ (w : wd) (H : Heap) (locs : List Loc) (ls : Array Slot), tM E w h ad f (va_up a j (va_cpy (a i) (a j) x y q)) → fr tP w0 w → wP E w H → va_S (gA E) s.heap H locs → lv_has ls 5 [(4, .int (nI q)), (0, .ref (ad i)), (1, .int (nI x)), (2, .ref (ad j)), (3, .int (nI y))] → W p l0 e rmCX6_copies s m args below meth c H locs 0 0 Q (F0 m 3 ls []) := by
    intro n9_3
    induction n9_3 with
    | zero => intro q hq hn; exact absurd hn (Nat.not_lt_zero _)
    | succ n9_3 ih_3 =>
      intro q hq hn_3 w H locs ls hM hF hP hS hl
      refine lv_iload hx hb dX6_copies_3 (lv_at hl 0 rfl) ?_
      refine lv_bipush (v := 116) hx hb dX6_copies_5 (by decide) ?_
      refine k_icmp_geN (x := q) (y := 116) (tgt := 28) hx hb (by omega) (by omega) dX6_copies_7 (by decide) (fun c7 => ?_) (fun c7 => ?_)
      · skip
        obtain rfl : q = 116 := by omega
        exact k_vret hx hb hr hlocks hQ hP hS (by omega) (by omega) dX6_copies_28 (⟨_, _, ⟨rfl, rfl⟩, hM, hF⟩)
      · skip
        refine lv_aload_n hx hb dX6_copies_10 rfl (lv_at hl 3 rfl) ?_
        refine lv_iload_n hx hb dX6_copies_11 rfl (lv_at hl 4 rfl) ?_
        refine lv_iload hx hb dX6_copies_12 (lv_at hl 0 rfl) ?_
        refine k_iaddN (x := y) (y := q) hx hb dX6_copies_14 ?_
        refine lv_aload_n hx hb dX6_copies_15 rfl (lv_at hl 1 rfl) ?_
        refine lv_iload_n hx hb dX6_copies_16 rfl (lv_at hl 2 rfl) ?_
        refine lv_iload hx hb dX6_copies_17 (lv_at hl 0 rfl) ?_
        refine k_iaddN (x := x) (y := q) hx hb dX6_copies_19 ?_
        refine tw_ald hx hb hG hP hM i hi (j := x + q) (show x + q < tLen i from by omega) dX6_copies_20 ?_
        refine k_top (y := ((a i) (x + q))) (congrFun (up_n hij) _) ?_
        refine tw_ast hx hb hG hP hS hM hF j hj (j := y + q) (show y + q < tLen j from by omega) (x := ((a i) (x + q))) dX6_copies_21 (fun w H locs hM hF hP hS => ?_)
        have hM : tM E w h ad f (va_up a j (va_up (va_cpy (a i) (a j) x y q) (y + q) ((a i) (x + q)))) := hM.of (by simp only [up_s, bx_uu])
        refine lv_iinc (v := (nI (q + 1))) (lv' := [(4, .int (nI (q + 1))), (0, .ref (ad i)), (1, .int (nI x)), (2, .ref (ad j)), (3, .int (nI y))]) hx hb dX6_copies_22 hl (k := 0) rfl (nI_add q 1) (by decide) rfl (fun ls hl => ?_)
        refine lv_goto (tgt := 3) hx hb dX6_copies_25 (by decide) ?_
        have hl : lv_has ls 5 [(4, .int (nI (q + 1))), (0, .ref (ad i)), (1, .int (nI x)), (2, .ref (ad j)), (3, .int (nI y))] := hl
        have hM : tM E w h ad f (va_up a j (va_cpy (a i) (a j) x y (q + 1))) := hM.of (by rw [cpy_1])
        exact ih_3 (q + 1) (by omega) (by omega) _ _ _ _ hM hF hP hS hl
  have hl : lv_has ls 5 [(4, .int (nI 0)), (0, .ref (ad i)), (1, .int (nI x)), (2, .ref (ad j)), (3, .int (nI y))] := hl
  have hM : tM E w h ad f (va_up a j (va_cpy (a i) (a j) x y 0)) := hM.of (by rw [cpy_0, up_same])
  exact hloop_3 _ 0 (by omega) (Nat.lt_succ_self _) _ _ _ _ hM hF hP hS hl

abbrev rmCX6_lays : Room := { frames := 0, cells := 0, slots := 0, locals := 0 }
theorem dyX6_lays : yX6_lays.cls = RX6 ∧ yX6_lays.cls ≠ "java/lang/invoke/MethodHandle" ∧ yX6_lays.cls ≠ "java/lang/invoke/VarHandle" ∧ (parseMethodDescriptor yX6_lays.desc).map (fun d => d.parameters.length) = some 3 := by decide +kernel
set_option maxHeartbeats 4000000 in
theorem CX6_lays (l0 : Launch) (E : gE) (w : wd) (h : Nat) (ad : Nat → Nat) (f : Nat → Int32) (a : Nat → Nat → Int32) (k : Nat) (n : Nat) (z : Int32) (hM : tM E w h ad f a) (hk : k < 6) (hn : n < 15) : kC l0 yX6_lays (ws_ yX6_lays cX6_lays 4 none) rmCX6_lays 0 0 mV E w [.ref h, .int (nI k), .int (nI n), .int z] (fun r w' => ∃ f' a', (f' = f ∧ a' = (va_up a 0 (va_up (a 0) (kO k n) z))) ∧ tM E w' h ad f' a' ∧ fr tP w w') := by
  refine k_open (cc := cX6_lays) (maxL := 4) (ret := none) (by decide) rfl (Nat.le_of_ble_eq_true rfl) ?_
  intro p e s m args below meth c ls Q hx hb hr hml hown hts hlocks hname hQ hG hP hl hS
  have hl : lv_has ls 4 [(0, .ref h), (1, .int (nI k)), (2, .int (nI n)), (3, .int z)] := hl
  obtain ⟨w0, hw0⟩ : ∃ z, z = w := ⟨_, rfl⟩
  have hF : fr tP w0 w := by rw [hw0]; exact fr.rf
  rw [← hw0] at hQ
  refine lv_aload_n hx hb dX6_lays_0 rfl (lv_at hl 0 rfl) ?_
  refine tw_get hx hb hts hown hG hP hM 0 (by decide) (hts _ q1620) (fun _ h9 => h9) (v := .ref (ad 0)) rfl dX6_lays_1 ?_
  refine lv_bipush (v := 26) hx hb dX6_lays_4 (by decide) ?_
  refine lv_bipush (v := 15) hx hb dX6_lays_6 (by decide) ?_
  refine lv_iload_n hx hb dX6_lays_8 rfl (lv_at hl 1 rfl) ?_
  refine k_imulN (x := 15) (y := k) hx hb dX6_lays_9 ?_
  refine k_iaddN (x := 26) (y := 15 * k) hx hb dX6_lays_10 ?_
  refine lv_iload_n hx hb dX6_lays_11 rfl (lv_at hl 2 rfl) ?_
  refine k_iaddN (x := 26 + (15 * k)) (y := n) hx hb dX6_lays_12 ?_
  refine lv_iload_n hx hb dX6_lays_13 rfl (lv_at hl 3 rfl) ?_
  refine tw_ast hx hb hG hP hS hM hF 0 (by decide) (j := 26 + (15 * k) + n) (show 26 + (15 * k) + n < 116 from by omega) (x := z) dX6_lays_14 (fun w H locs hM hF hP hS => ?_)
  have hM : tM E w h ad f (va_up a 0 (va_up (a 0) (26 + (15 * k) + n) z)) := hM
  exact k_vret hx hb hr hlocks hQ hP hS (by omega) (by omega) dX6_lays_15 (⟨_, _, ⟨rfl, rfl⟩, hM, hF⟩)

abbrev rmCX6_lets : Room := { frames := 1, cells := 0, slots := 0, locals := 23 }
theorem dyX6_lets : yX6_lets.cls = RX6 ∧ yX6_lets.cls ≠ "java/lang/invoke/MethodHandle" ∧ yX6_lets.cls ≠ "java/lang/invoke/VarHandle" ∧ (parseMethodDescriptor yX6_lets.desc).map (fun d => d.parameters.length) = some 2 := by decide +kernel
set_option maxHeartbeats 4000000 in
theorem CX6_lets (l0 : Launch) (E : gE) (w : wd) (h : Nat) (ad : Nat → Nat) (f : Nat → Int32) (a : Nat → Nat → Int32) (k : Nat) (z : Int32) (hM : tM E w h ad f a) (hk : k < 6) : kC l0 yX6_lets (ws_ yX6_lets cX6_lets 3 none) rmCX6_lets 0 0 mV E w [.ref h, .int (nI k), .int z] (fun r w' => ∃ f' a', (f' = f ∧ a' = (va_up a 0 (tLt (a 0) k z))) ∧ tM E w' h ad f' a' ∧ fr tP w w') := by
  refine k_open (cc := cX6_lets) (maxL := 3) (ret := none) (by decide) rfl (Nat.le_of_ble_eq_true rfl) ?_
  intro p e s m args below meth c ls Q hx hb hr hml hown hts hlocks hname hQ hG hP hl hS
  have hl : lv_has ls 3 [(0, .ref h), (1, .int (nI k)), (2, .int z)] := hl
  obtain ⟨w0, hw0⟩ : ∃ z, z = w := ⟨_, rfl⟩
  have hF : fr tP w0 w := by rw [hw0]; exact fr.rf
  rw [← hw0] at hQ
  refine lv_aload_n hx hb dX6_lets_0 rfl (lv_at hl 0 rfl) ?_
  refine lv_iload_n hx hb dX6_lets_1 rfl (lv_at hl 1 rfl) ?_
  refine lv_iconst (v := 5) hx hb dX6_lets_2 (by decide) ?_
  refine lv_aload_n hx hb dX6_lets_3 rfl (lv_at hl 0 rfl) ?_
  refine lv_iload_n hx hb dX6_lets_4 rfl (lv_at hl 1 rfl) ?_
  refine lv_iconst (v := 5) hx hb dX6_lets_5 (by decide) ?_
  refine tw_cR hx hb hml hown hts (val := (a 0) (kO k 5)) (CX6_of l0 E w h ad f a k 5 hM (by omega) (by omega)) (cwV 2 hts (lw_V q1730 q1732 qs40 q81 q1733) rfl rfl rfl dyX6_of ⟨Nat.le_of_ble_eq_true rfl, Nat.le_of_ble_eq_true rfl⟩) hG hP hS hM (As := [.int (nI k), .int 5]) (rest := [.int 5, .int (nI k), .ref h]) rfl hl.1 rfl (lv_room (Nat.le_of_ble_eq_true rfl)) dX6_lets_6 ⟨by omega, by omega⟩ (fun H locs hP hS => ?_)
  refine lv_iload_n hx hb dX6_lets_9 rfl (lv_at hl 2 rfl) ?_
  refine lv_iadd hx hb dX6_lets_10 ?_
  refine tw_cW hx hb hml hown hts (CX6_lays l0 E w h ad f a k 5 ((a 0) (kO k 5) + z) hM (by omega) (by omega)) (cwV 3 hts (lw_V q1718 q1720 qs38 q81 q1721) rfl rfl rfl dyX6_lays ⟨Nat.le_of_ble_eq_true rfl, Nat.le_of_ble_eq_true rfl⟩) hG hP hS hM hF (As := [.int (nI k), .int 5, .int ((a 0) (kO k 5) + z)]) (rest := []) rfl hl.1 rfl (lv_room (Nat.le_of_ble_eq_true rfl)) dX6_lets_11 ⟨by omega, by omega⟩ (fun r11 f11 a11 w H locs hp hM hF hP hS => ?_)
  obtain ⟨hp1, hp2⟩ := hp
  have hM := hM.ofF hp1 hp2
  have hM : tM E w h ad f (va_up a 0 (va_up (a 0) (kO k 5) ((a 0) (kO k 5) + z))) := hM
  refine lv_iload_n hx hb dX6_lets_14 rfl (lv_at hl 2 rfl) ?_
  refine lv_if_le (tgt := 32) hx hb dX6_lets_15 (by decide) (fun c15 => ?_) (fun c15 => ?_)
  · skip
    refine lv_aload_n hx hb dX6_lets_32 rfl (lv_at hl 0 rfl) ?_
    refine tw_get hx hb hts hown hG hP hM 0 (by decide) (hts _ q1620) (fun _ h9 => h9) (v := .ref (ad 0)) rfl dX6_lets_33 ?_
    refine lv_bipush (v := 23) hx hb dX6_lets_36 (by decide) ?_
    refine lv_dup2_11 hx hb dX6_lets_38 rfl rfl ?_
    refine tw_ald hx hb hG hP hM 0 (by decide) (j := 23) (show 23 < 116 from by omega) dX6_lets_39 ?_
    refine k_top (y := ((va_up (a 0) (kO k 5) ((a 0) (kO k 5) + z)) 23)) rfl ?_
    refine k_top (y := ((a 0) 23)) (up_n (kO_lo (by omega))) ?_
    refine lv_iload_n hx hb dX6_lets_40 rfl (lv_at hl 2 rfl) ?_
    refine lv_isub hx hb dX6_lets_41 ?_
    refine tw_ast hx hb hG hP hS hM hF 0 (by decide) (j := 23) (show 23 < 116 from by omega) (x := (((a 0) 23) - z)) dX6_lets_42 (fun w H locs hM hF hP hS => ?_)
    have hM : tM E w h ad f (va_up a 0 (va_up (va_up (a 0) (kO k 5) ((a 0) (kO k 5) + z)) 23 (((a 0) 23) - z))) := hM.uu
    exact k_vret hx hb hr hlocks hQ hP hS (by omega) (by omega) dX6_lets_43 (⟨_, _, ⟨rfl, by first | rw [tLt, if_pos c15] | rw [tLt, if_neg c15]⟩, hM, hF⟩)
  · skip
    refine lv_aload_n hx hb dX6_lets_18 rfl (lv_at hl 0 rfl) ?_
    refine tw_get hx hb hts hown hG hP hM 0 (by decide) (hts _ q1620) (fun _ h9 => h9) (v := .ref (ad 0)) rfl dX6_lets_19 ?_
    refine lv_bipush (v := 21) hx hb dX6_lets_22 (by decide) ?_
    refine lv_dup2_11 hx hb dX6_lets_24 rfl rfl ?_
    refine tw_ald hx hb hG hP hM 0 (by decide) (j := 21) (show 21 < 116 from by omega) dX6_lets_25 ?_
    refine k_top (y := ((va_up (a 0) (kO k 5) ((a 0) (kO k 5) + z)) 21)) rfl ?_
    refine k_top (y := ((a 0) 21)) (up_n (kO_lo (by omega))) ?_
    refine lv_iload_n hx hb dX6_lets_26 rfl (lv_at hl 2 rfl) ?_
    refine lv_iadd hx hb dX6_lets_27 ?_
    refine tw_ast hx hb hG hP hS hM hF 0 (by decide) (j := 21) (show 21 < 116 from by omega) (x := (((a 0) 21) + z)) dX6_lets_28 (fun w H locs hM hF hP hS => ?_)
    have hM : tM E w h ad f (va_up a 0 (va_up (va_up (a 0) (kO k 5) ((a 0) (kO k 5) + z)) 21 (((a 0) 21) + z))) := hM.uu
    refine lv_goto (tgt := 43) hx hb dX6_lets_29 (by decide) ?_
    exact k_vret hx hb hr hlocks hQ hP hS (by omega) (by omega) dX6_lets_43 (⟨_, _, ⟨rfl, by first | rw [tLt, if_pos c15] | rw [tLt, if_neg c15]⟩, hM, hF⟩)

abbrev rmCX6_keeps0 : Room := { frames := 1, cells := 0, slots := 0, locals := 24 }
theorem dyX6_keeps : yX6_keeps.cls = RX6 ∧ yX6_keeps.cls ≠ "java/lang/invoke/MethodHandle" ∧ yX6_keeps.cls ≠ "java/lang/invoke/VarHandle" ∧ (parseMethodDescriptor yX6_keeps.desc).map (fun d => d.parameters.length) = some 1 := by decide +kernel
set_option maxHeartbeats 4000000 in
theorem CX6_keeps0 (l0 : Launch) (E : gE) (w : wd) (h : Nat) (ad : Nat → Nat) (f : Nat → Int32) (a : Nat → Nat → Int32) (ch : Nat) (hM : tM E w h ad f a) (hc : (f 6) = nI ch) (hc8 : ch ≤ 8) : kC l0 yX6_keeps (ws_ yX6_keeps cX6_keeps 3 none) rmCX6_keeps0 0 0 mV E w [.ref h, .ref (ad 0)] (fun r w' => ∃ f' a', (f' = (va_up f 6 (tC6 (f 7) ch)) ∧ a' = (va_up a 1 (tC1 (f 7) (a 1) (a 0) ch))) ∧ tM E w' h ad f' a' ∧ fr tP w w') := by
  refine k_open (cc := cX6_keeps) (maxL := 3) (ret := none) (by decide) rfl (Nat.le_of_ble_eq_true rfl) ?_
  intro p e s m args below meth c ls Q hx hb hr hml hown hts hlocks hname hQ hG hP hl hS
  have hl : lv_has ls 3 [(0, .ref h), (1, .ref (ad 0))] := hl
  obtain ⟨w0, hw0⟩ : ∃ z, z = w := ⟨_, rfl⟩
  have hF : fr tP w0 w := by rw [hw0]; exact fr.rf
  rw [← hw0] at hQ
  refine lv_aload_n hx hb dX6_keeps_0 rfl (lv_at hl 0 rfl) ?_
  refine tw_get hx hb hts hown hG hP hM 7 (by decide) (hts _ q1627) (fun _ h9 => h9) (v := .int (f 7)) rfl dX6_keeps_1 ?_
  refine lv_if_eq (tgt := 8) hx hb dX6_keeps_4 (by decide) (fun c4 => ?_) (fun c4 => ?_)
  · skip
    refine lv_aload_n hx hb dX6_keeps_8 rfl (lv_at hl 0 rfl) ?_
    refine tw_get hx hb hts hown hG hP hM 6 (by decide) (hts _ q1626) (fun _ h9 => h9) (v := .int (f 6)) rfl dX6_keeps_9 ?_
    refine k_top (y := (nI ch)) (hc) ?_
    refine lv_bipush (v := 8) hx hb dX6_keeps_12 (by decide) ?_
    refine k_icmp_neN (x := ch) (y := 8) (tgt := 57) hx hb (by omega) (by omega) dX6_keeps_14 (by decide) (fun c14 => ?_) (fun c14 => ?_)
    · skip
      refine lv_aload_n hx hb dX6_keeps_57 rfl (lv_at hl 1 rfl) ?_
      refine lv_iconst (v := 0) hx hb dX6_keeps_58 (by decide) ?_
      refine lv_aload_n hx hb dX6_keeps_59 rfl (lv_at hl 0 rfl) ?_
      refine tw_get hx hb hts hown hG hP hM 1 (by decide) (hts _ q1621) (fun _ h9 => h9) (v := .ref (ad 1)) rfl dX6_keeps_60 ?_
      refine lv_bipush (v := 116) hx hb dX6_keeps_63 (by decide) ?_
      refine lv_aload_n hx hb dX6_keeps_65 rfl (lv_at hl 0 rfl) ?_
      refine tw_get hx hb hts hown hG hP hM 6 (by decide) (hts _ q1626) (fun _ h9 => h9) (v := .int (f 6)) rfl dX6_keeps_66 ?_
      refine k_top (y := (nI ch)) (hc) ?_
      refine k_imulN (x := 116) (y := ch) hx hb dX6_keeps_69 ?_
      refine tw_cWS hx hb hml hown hts (CX6_copies l0 E w h ad f a 0 0 1 (116 * ch) hM (by decide) (by decide) (by decide) (by decide) (show _ ≤ 928 from by omega)) (va_cwS 4 hts (lw_S q1703 q1704 q81 q1705) rfl rfl rfl dyX6_copies ⟨Nat.le_of_ble_eq_true rfl, Nat.le_of_ble_eq_true rfl⟩) hG hP hS hF (As := [.ref (ad 0), .int 0, .ref (ad 1), .int (nI (116 * ch))]) (rest := []) rfl hl.1 rfl (lv_room (Nat.le_of_ble_eq_true rfl)) dX6_keeps_70 ⟨by omega, by omega⟩ (fun r70 f70 a70 w H locs hp hM hF hP hS => ?_)
      obtain ⟨hp1, hp2⟩ := hp
      have hM := hM.ofF hp1 hp2
      have hM : tM E w h ad f (va_up a 1 (va_cpy (a 0) (a 1) 0 (116 * ch) 116)) := hM
      refine lv_aload_n hx hb dX6_keeps_73 rfl (lv_at hl 0 rfl) ?_
      refine lv_dup hx hb dX6_keeps_74 rfl ?_
      refine tw_get hx hb hts hown hG hP hM 6 (by decide) (hts _ q1626) (fun _ h9 => h9) (v := .int (f 6)) rfl dX6_keeps_75 ?_
      refine k_top (y := (nI ch)) (hc) ?_
      refine lv_iconst (v := 1) hx hb dX6_keeps_78 (by decide) ?_
      refine k_iaddN (x := ch) (y := 1) hx hb dX6_keeps_79 ?_
      refine tw_put hx hb hts hown hG hP hS hM hF 6 (by decide) (hts _ q1626) (fun _ h9 => h9) rfl (ty := .int) (v := (nI (ch + 1))) rfl rfl rfl rfl dX6_keeps_80 (fun w H locs hM hF hP hS => ?_)
      exact k_vret hx hb hr hlocks hQ hP hS (by omega) (by omega) dX6_keeps_83 (⟨_, _, ⟨by first | (rw [tC6, if_pos c4, tKc, if_neg c14]; done) | (subst c14; rw [bx_uu, tC6, if_pos c4]; rfl), by first | (rw [tC1, if_pos c4, tKp, if_neg c14, tKc, if_neg c14]; done) | (subst c14; rw [tC1, if_pos c4]; rfl)⟩, hM, hF⟩)
    · skip
      refine lv_iconst (v := 0) hx hb dX6_keeps_17 (by decide) ?_
      refine lv_istore_n (lv' := [(2, .int 0), (0, .ref h), (1, .ref (ad 0))]) hx hb dX6_keeps_18 rfl hl (by decide) rfl (fun ls hl => ?_)
      have hloop_19 : ∀ (n9_19 : Nat) (q : Nat), (q ≤ 812) → (812 - q) < n9_19 → ∀ (w : wd) (H : Heap) (locs : List Loc) (ls : Array Slot), tM E w h ad f (va_up a 1 (tSh (a 1) q)) → fr tP w0 w → wP E w H → va_S (gA E) s.heap H locs → lv_has ls 3 [(2, .int (nI q)), (0, .ref h), (1, .ref (ad 0))] → W p l0 e rmCX6_keeps0 s m args below meth c H locs 0 0 Q (F0 m 19 ls []) := by
        intro n9_19
        induction n9_19 with
        | zero => intro q hq hn; exact absurd hn (Nat.not_lt_zero _)
        | succ n9_19 ih_19 =>
          intro q hq hn_19 w H locs ls hM hF hP hS hl
          refine lv_iload_n hx hb dX6_keeps_19 rfl (lv_at hl 0 rfl) ?_
          refine lv_sipush (v := 812) hx hb dX6_keeps_20 (by decide) ?_
          refine k_icmp_geN (x := q) (y := 812) (tgt := 47) hx hb (by omega) (by omega) dX6_keeps_23 (by decide) (fun c23 => ?_) (fun c23 => ?_)
          · skip
            have hM : tM E w h ad f (va_up a 1 (tSh (a 1) 812)) := hM.of (by rw [show q = 812 from by omega])
            refine lv_aload_n hx hb dX6_keeps_47 rfl (lv_at hl 1 rfl) ?_
            refine lv_dup hx hb dX6_keeps_48 rfl ?_
            refine tw_get hx hb hts hown hG hP hM 6 (by decide) (hts _ q1626) (fun _ h9 => h9) (v := .int (f 6)) rfl dX6_keeps_49 ?_
            refine k_top (y := (nI ch)) (hc) ?_
            refine lv_iconst (v := 1) hx hb dX6_keeps_52 (by decide) ?_
            refine k_isubN (x := ch) (y := 1) hx hb (by omega) dX6_keeps_53 ?_
            refine tw_put hx hb hts hown hG hP hS hM hF 6 (by decide) (hts _ q1626) (fun _ h9 => h9) rfl (ty := .int) (v := (nI (ch - 1))) rfl rfl rfl rfl dX6_keeps_54 (fun w H locs hM hF hP hS => ?_)
            refine lv_aload_n hx hb dX6_keeps_57 rfl (lv_at hl 2 rfl) ?_
            refine lv_iconst (v := 0) hx hb dX6_keeps_58 (by decide) ?_
            refine lv_aload_n hx hb dX6_keeps_59 rfl (lv_at hl 1 rfl) ?_
            refine tw_get hx hb hts hown hG hP hM 1 (by decide) (hts _ q1621) (fun _ h9 => h9) (v := .ref (ad 1)) rfl dX6_keeps_60 ?_
            refine lv_bipush (v := 116) hx hb dX6_keeps_63 (by decide) ?_
            refine lv_aload_n hx hb dX6_keeps_65 rfl (lv_at hl 1 rfl) ?_
            refine tw_get hx hb hts hown hG hP hM 6 (by decide) (hts _ q1626) (fun _ h9 => h9) (v := .int (nI (ch - 1))) rfl dX6_keeps_66 ?_
            refine k_top (y := (nI (ch - 1))) (rfl) ?_
            refine k_imulN (x := 116) (y := ch - 1) hx hb dX6_keeps_69 ?_
            refine tw_cWS hx hb hml hown hts (CX6_copies l0 E w h ad (va_up f 6 (nI (ch - 1))) (va_up a 1 (tSh (a 1) 812)) 0 0 1 (116 * (ch - 1)) hM (by decide) (by decide) (by decide) (by decide) (show _ ≤ 928 from by omega)) (va_cwS 4 hts (lw_S q1703 q1704 q81 q1705) rfl rfl rfl dyX6_copies ⟨Nat.le_of_ble_eq_true rfl, Nat.le_of_ble_eq_true rfl⟩) hG hP hS hF (As := [.ref (ad 0), .int 0, .ref (ad 1), .int (nI (116 * (ch - 1)))]) (rest := []) rfl hl.1 rfl (lv_room (Nat.le_of_ble_eq_true rfl)) dX6_keeps_70 ⟨by omega, by omega⟩ (fun r70 f70 a70 w H locs hp hM hF hP hS => ?_)
            obtain ⟨hp1, hp2⟩ := hp
            have hM := hM.ofF hp1 hp2
            have hM : tM E w h ad (va_up f 6 (nI (ch - 1))) (va_up a 1 (va_cpy (a 0) (tSh (a 1) 812) 0 (116 * (ch - 1)) 116)) := hM.uu
            refine lv_aload_n hx hb dX6_keeps_73 rfl (lv_at hl 1 rfl) ?_
            refine lv_dup hx hb dX6_keeps_74 rfl ?_
            refine tw_get hx hb hts hown hG hP hM 6 (by decide) (hts _ q1626) (fun _ h9 => h9) (v := .int (nI (ch - 1))) rfl dX6_keeps_75 ?_
            refine k_top (y := (nI (ch - 1))) (rfl) ?_
            refine lv_iconst (v := 1) hx hb dX6_keeps_78 (by decide) ?_
            refine k_iaddN (x := ch - 1) (y := 1) hx hb dX6_keeps_79 ?_
            refine tw_put hx hb hts hown hG hP hS hM hF 6 (by decide) (hts _ q1626) (fun _ h9 => h9) rfl (ty := .int) (v := (nI (ch - 1 + 1))) rfl rfl rfl rfl dX6_keeps_80 (fun w H locs hM hF hP hS => ?_)
            exact k_vret hx hb hr hlocks hQ hP hS (by omega) (by omega) dX6_keeps_83 (⟨_, _, ⟨by first | (rw [tC6, if_pos c4, tKc, if_neg c14]; done) | (subst c14; rw [bx_uu, tC6, if_pos c4]; rfl), by first | (rw [tC1, if_pos c4, tKp, if_neg c14, tKc, if_neg c14]; done) | (subst c14; rw [tC1, if_pos c4]; rfl)⟩, hM, hF⟩)
          · skip
            refine lv_aload_n hx hb dX6_keeps_26 rfl (lv_at hl 1 rfl) ?_
            refine tw_get hx hb hts hown hG hP hM 1 (by decide) (hts _ q1621) (fun _ h9 => h9) (v := .ref (ad 1)) rfl dX6_keeps_27 ?_
            refine lv_iload_n hx hb dX6_keeps_30 rfl (lv_at hl 0 rfl) ?_
            refine lv_aload_n hx hb dX6_keeps_31 rfl (lv_at hl 1 rfl) ?_
            refine tw_get hx hb hts hown hG hP hM 1 (by decide) (hts _ q1621) (fun _ h9 => h9) (v := .ref (ad 1)) rfl dX6_keeps_32 ?_
            refine lv_iload_n hx hb dX6_keeps_35 rfl (lv_at hl 0 rfl) ?_
            refine lv_bipush (v := 116) hx hb dX6_keeps_36 (by decide) ?_
            refine k_iaddN (x := q) (y := 116) hx hb dX6_keeps_38 ?_
            refine tw_ald hx hb hG hP hM 1 (by decide) (j := q + 116) (show q + 116 < 928 from by omega) dX6_keeps_39 ?_
            refine k_top (y := ((tSh (a 1) q) (q + 116))) rfl ?_
            refine tw_ast hx hb hG hP hS hM hF 1 (by decide) (j := q) (show q < 928 from by omega) (x := ((tSh (a 1) q) (q + 116))) dX6_keeps_40 (fun w H locs hM hF hP hS => ?_)
            have hM : tM E w h ad f (va_up a 1 (va_up (tSh (a 1) q) q ((tSh (a 1) q) (q + 116)))) := hM.uu
            refine lv_iinc (v := (nI (q + 1))) (lv' := [(2, .int (nI (q + 1))), (0, .ref h), (1, .ref (ad 0))]) hx hb dX6_keeps_41 hl (k := 0) rfl (nI_add q 1) (by decide) rfl (fun ls hl => ?_)
            refine lv_goto (tgt := 19) hx hb dX6_keeps_44 (by decide) ?_
            have hl : lv_has ls 3 [(2, .int (nI (q + 1))), (0, .ref h), (1, .ref (ad 0))] := hl
            have hM : tM E w h ad f (va_up a 1 (tSh (a 1) (q + 1))) := hM.of (by rw [sh_1])
            exact ih_19 (q + 1) (by omega) (by omega) _ _ _ _ hM hF hP hS hl
      have hl : lv_has ls 3 [(2, .int (nI 0)), (0, .ref h), (1, .ref (ad 0))] := hl
      have hM : tM E w h ad f (va_up a 1 (tSh (a 1) 0)) := hM.of (by rw [sh_0, up_same])
      exact hloop_19 _ 0 (by omega) (Nat.lt_succ_self _) _ _ _ _ hM hF hP hS hl
  · skip
    exact k_vret hx hb hr hlocks hQ hP hS (by omega) (by omega) dX6_keeps_7 (⟨_, _, ⟨by rw [tC6, if_neg c4, ← hc, up_same], by rw [tC1, if_neg c4, up_same]⟩, hM, hF⟩)

abbrev rmCX6_keeps3 : Room := { frames := 1, cells := 0, slots := 0, locals := 24 }
set_option maxHeartbeats 4000000 in
theorem CX6_keeps3 (l0 : Launch) (E : gE) (w : wd) (h : Nat) (ad : Nat → Nat) (f : Nat → Int32) (a : Nat → Nat → Int32) (ch : Nat) (hM : tM E w h ad f a) (hc : (f 6) = nI ch) (hc8 : ch ≤ 8) : kC l0 yX6_keeps (ws_ yX6_keeps cX6_keeps 3 none) rmCX6_keeps3 0 0 mV E w [.ref h, .ref (ad 3)] (fun r w' => ∃ f' a', (f' = (va_up f 6 (tC6 (f 7) ch)) ∧ a' = (va_up a 1 (tC1 (f 7) (a 1) (a 3) ch))) ∧ tM E w' h ad f' a' ∧ fr tP w w') := by
  refine k_open (cc := cX6_keeps) (maxL := 3) (ret := none) (by decide) rfl (Nat.le_of_ble_eq_true rfl) ?_
  intro p e s m args below meth c ls Q hx hb hr hml hown hts hlocks hname hQ hG hP hl hS
  have hl : lv_has ls 3 [(0, .ref h), (1, .ref (ad 3))] := hl
  obtain ⟨w0, hw0⟩ : ∃ z, z = w := ⟨_, rfl⟩
  have hF : fr tP w0 w := by rw [hw0]; exact fr.rf
  rw [← hw0] at hQ
  refine lv_aload_n hx hb dX6_keeps_0 rfl (lv_at hl 0 rfl) ?_
  refine tw_get hx hb hts hown hG hP hM 7 (by decide) (hts _ q1627) (fun _ h9 => h9) (v := .int (f 7)) rfl dX6_keeps_1 ?_
  refine lv_if_eq (tgt := 8) hx hb dX6_keeps_4 (by decide) (fun c4 => ?_) (fun c4 => ?_)
  · skip
    refine lv_aload_n hx hb dX6_keeps_8 rfl (lv_at hl 0 rfl) ?_
    refine tw_get hx hb hts hown hG hP hM 6 (by decide) (hts _ q1626) (fun _ h9 => h9) (v := .int (f 6)) rfl dX6_keeps_9 ?_
    refine k_top (y := (nI ch)) (hc) ?_
    refine lv_bipush (v := 8) hx hb dX6_keeps_12 (by decide) ?_
    refine k_icmp_neN (x := ch) (y := 8) (tgt := 57) hx hb (by omega) (by omega) dX6_keeps_14 (by decide) (fun c14 => ?_) (fun c14 => ?_)
    · skip
      refine lv_aload_n hx hb dX6_keeps_57 rfl (lv_at hl 1 rfl) ?_
      refine lv_iconst (v := 0) hx hb dX6_keeps_58 (by decide) ?_
      refine lv_aload_n hx hb dX6_keeps_59 rfl (lv_at hl 0 rfl) ?_
      refine tw_get hx hb hts hown hG hP hM 1 (by decide) (hts _ q1621) (fun _ h9 => h9) (v := .ref (ad 1)) rfl dX6_keeps_60 ?_
      refine lv_bipush (v := 116) hx hb dX6_keeps_63 (by decide) ?_
      refine lv_aload_n hx hb dX6_keeps_65 rfl (lv_at hl 0 rfl) ?_
      refine tw_get hx hb hts hown hG hP hM 6 (by decide) (hts _ q1626) (fun _ h9 => h9) (v := .int (f 6)) rfl dX6_keeps_66 ?_
      refine k_top (y := (nI ch)) (hc) ?_
      refine k_imulN (x := 116) (y := ch) hx hb dX6_keeps_69 ?_
      refine tw_cWS hx hb hml hown hts (CX6_copies l0 E w h ad f a 3 0 1 (116 * ch) hM (by decide) (by decide) (by decide) (by decide) (show _ ≤ 928 from by omega)) (va_cwS 4 hts (lw_S q1703 q1704 q81 q1705) rfl rfl rfl dyX6_copies ⟨Nat.le_of_ble_eq_true rfl, Nat.le_of_ble_eq_true rfl⟩) hG hP hS hF (As := [.ref (ad 3), .int 0, .ref (ad 1), .int (nI (116 * ch))]) (rest := []) rfl hl.1 rfl (lv_room (Nat.le_of_ble_eq_true rfl)) dX6_keeps_70 ⟨by omega, by omega⟩ (fun r70 f70 a70 w H locs hp hM hF hP hS => ?_)
      obtain ⟨hp1, hp2⟩ := hp
      have hM := hM.ofF hp1 hp2
      have hM : tM E w h ad f (va_up a 1 (va_cpy (a 3) (a 1) 0 (116 * ch) 116)) := hM
      refine lv_aload_n hx hb dX6_keeps_73 rfl (lv_at hl 0 rfl) ?_
      refine lv_dup hx hb dX6_keeps_74 rfl ?_
      refine tw_get hx hb hts hown hG hP hM 6 (by decide) (hts _ q1626) (fun _ h9 => h9) (v := .int (f 6)) rfl dX6_keeps_75 ?_
      refine k_top (y := (nI ch)) (hc) ?_
      refine lv_iconst (v := 1) hx hb dX6_keeps_78 (by decide) ?_
      refine k_iaddN (x := ch) (y := 1) hx hb dX6_keeps_79 ?_
      refine tw_put hx hb hts hown hG hP hS hM hF 6 (by decide) (hts _ q1626) (fun _ h9 => h9) rfl (ty := .int) (v := (nI (ch + 1))) rfl rfl rfl rfl dX6_keeps_80 (fun w H locs hM hF hP hS => ?_)
      exact k_vret hx hb hr hlocks hQ hP hS (by omega) (by omega) dX6_keeps_83 (⟨_, _, ⟨by first | (rw [tC6, if_pos c4, tKc, if_neg c14]; done) | (subst c14; rw [bx_uu, tC6, if_pos c4]; rfl), by first | (rw [tC1, if_pos c4, tKp, if_neg c14, tKc, if_neg c14]; done) | (subst c14; rw [tC1, if_pos c4]; rfl)⟩, hM, hF⟩)
    · skip
      refine lv_iconst (v := 0) hx hb dX6_keeps_17 (by decide) ?_
      refine lv_istore_n (lv' := [(2, .int 0), (0, .ref h), (1, .ref (ad 3))]) hx hb dX6_keeps_18 rfl hl (by decide) rfl (fun ls hl => ?_)
      have hloop_19 : ∀ (n9_19 : Nat) (q : Nat), (q ≤ 812) → (812 - q) < n9_19 → ∀ (w : wd) (H : Heap) (locs : List Loc) (ls : Array Slot), tM E w h ad f (va_up a 1 (tSh (a 1) q)) → fr tP w0 w → wP E w H → va_S (gA E) s.heap H locs → lv_has ls 3 [(2, .int (nI q)), (0, .ref h), (1, .ref (ad 3))] → W p l0 e rmCX6_keeps3 s m args below meth c H locs 0 0 Q (F0 m 19 ls []) := by
        intro n9_19
        induction n9_19 with
        | zero => intro q hq hn; exact absurd hn (Nat.not_lt_zero _)
        | succ n9_19 ih_19 =>
          intro q hq hn_19 w H locs ls hM hF hP hS hl
          refine lv_iload_n hx hb dX6_keeps_19 rfl (lv_at hl 0 rfl) ?_
          refine lv_sipush (v := 812) hx hb dX6_keeps_20 (by decide) ?_
          refine k_icmp_geN (x := q) (y := 812) (tgt := 47) hx hb (by omega) (by omega) dX6_keeps_23 (by decide) (fun c23 => ?_) (fun c23 => ?_)
          · skip
            have hM : tM E w h ad f (va_up a 1 (tSh (a 1) 812)) := hM.of (by rw [show q = 812 from by omega])
            refine lv_aload_n hx hb dX6_keeps_47 rfl (lv_at hl 1 rfl) ?_
            refine lv_dup hx hb dX6_keeps_48 rfl ?_
            refine tw_get hx hb hts hown hG hP hM 6 (by decide) (hts _ q1626) (fun _ h9 => h9) (v := .int (f 6)) rfl dX6_keeps_49 ?_
            refine k_top (y := (nI ch)) (hc) ?_
            refine lv_iconst (v := 1) hx hb dX6_keeps_52 (by decide) ?_
            refine k_isubN (x := ch) (y := 1) hx hb (by omega) dX6_keeps_53 ?_
            refine tw_put hx hb hts hown hG hP hS hM hF 6 (by decide) (hts _ q1626) (fun _ h9 => h9) rfl (ty := .int) (v := (nI (ch - 1))) rfl rfl rfl rfl dX6_keeps_54 (fun w H locs hM hF hP hS => ?_)
            refine lv_aload_n hx hb dX6_keeps_57 rfl (lv_at hl 2 rfl) ?_
            refine lv_iconst (v := 0) hx hb dX6_keeps_58 (by decide) ?_
            refine lv_aload_n hx hb dX6_keeps_59 rfl (lv_at hl 1 rfl) ?_
            refine tw_get hx hb hts hown hG hP hM 1 (by decide) (hts _ q1621) (fun _ h9 => h9) (v := .ref (ad 1)) rfl dX6_keeps_60 ?_
            refine lv_bipush (v := 116) hx hb dX6_keeps_63 (by decide) ?_
            refine lv_aload_n hx hb dX6_keeps_65 rfl (lv_at hl 1 rfl) ?_
            refine tw_get hx hb hts hown hG hP hM 6 (by decide) (hts _ q1626) (fun _ h9 => h9) (v := .int (nI (ch - 1))) rfl dX6_keeps_66 ?_
            refine k_top (y := (nI (ch - 1))) (rfl) ?_
            refine k_imulN (x := 116) (y := ch - 1) hx hb dX6_keeps_69 ?_
            refine tw_cWS hx hb hml hown hts (CX6_copies l0 E w h ad (va_up f 6 (nI (ch - 1))) (va_up a 1 (tSh (a 1) 812)) 3 0 1 (116 * (ch - 1)) hM (by decide) (by decide) (by decide) (by decide) (show _ ≤ 928 from by omega)) (va_cwS 4 hts (lw_S q1703 q1704 q81 q1705) rfl rfl rfl dyX6_copies ⟨Nat.le_of_ble_eq_true rfl, Nat.le_of_ble_eq_true rfl⟩) hG hP hS hF (As := [.ref (ad 3), .int 0, .ref (ad 1), .int (nI (116 * (ch - 1)))]) (rest := []) rfl hl.1 rfl (lv_room (Nat.le_of_ble_eq_true rfl)) dX6_keeps_70 ⟨by omega, by omega⟩ (fun r70 f70 a70 w H locs hp hM hF hP hS => ?_)
            obtain ⟨hp1, hp2⟩ := hp
            have hM := hM.ofF hp1 hp2
            have hM : tM E w h ad (va_up f 6 (nI (ch - 1))) (va_up a 1 (va_cpy (a 3) (tSh (a 1) 812) 0 (116 * (ch - 1)) 116)) := hM.uu
            refine lv_aload_n hx hb dX6_keeps_73 rfl (lv_at hl 1 rfl) ?_
            refine lv_dup hx hb dX6_keeps_74 rfl ?_
            refine tw_get hx hb hts hown hG hP hM 6 (by decide) (hts _ q1626) (fun _ h9 => h9) (v := .int (nI (ch - 1))) rfl dX6_keeps_75 ?_
            refine k_top (y := (nI (ch - 1))) (rfl) ?_
            refine lv_iconst (v := 1) hx hb dX6_keeps_78 (by decide) ?_
            refine k_iaddN (x := ch - 1) (y := 1) hx hb dX6_keeps_79 ?_
            refine tw_put hx hb hts hown hG hP hS hM hF 6 (by decide) (hts _ q1626) (fun _ h9 => h9) rfl (ty := .int) (v := (nI (ch - 1 + 1))) rfl rfl rfl rfl dX6_keeps_80 (fun w H locs hM hF hP hS => ?_)
            exact k_vret hx hb hr hlocks hQ hP hS (by omega) (by omega) dX6_keeps_83 (⟨_, _, ⟨by first | (rw [tC6, if_pos c4, tKc, if_neg c14]; done) | (subst c14; rw [bx_uu, tC6, if_pos c4]; rfl), by first | (rw [tC1, if_pos c4, tKp, if_neg c14, tKc, if_neg c14]; done) | (subst c14; rw [tC1, if_pos c4]; rfl)⟩, hM, hF⟩)
          · skip
            refine lv_aload_n hx hb dX6_keeps_26 rfl (lv_at hl 1 rfl) ?_
            refine tw_get hx hb hts hown hG hP hM 1 (by decide) (hts _ q1621) (fun _ h9 => h9) (v := .ref (ad 1)) rfl dX6_keeps_27 ?_
            refine lv_iload_n hx hb dX6_keeps_30 rfl (lv_at hl 0 rfl) ?_
            refine lv_aload_n hx hb dX6_keeps_31 rfl (lv_at hl 1 rfl) ?_
            refine tw_get hx hb hts hown hG hP hM 1 (by decide) (hts _ q1621) (fun _ h9 => h9) (v := .ref (ad 1)) rfl dX6_keeps_32 ?_
            refine lv_iload_n hx hb dX6_keeps_35 rfl (lv_at hl 0 rfl) ?_
            refine lv_bipush (v := 116) hx hb dX6_keeps_36 (by decide) ?_
            refine k_iaddN (x := q) (y := 116) hx hb dX6_keeps_38 ?_
            refine tw_ald hx hb hG hP hM 1 (by decide) (j := q + 116) (show q + 116 < 928 from by omega) dX6_keeps_39 ?_
            refine k_top (y := ((tSh (a 1) q) (q + 116))) rfl ?_
            refine tw_ast hx hb hG hP hS hM hF 1 (by decide) (j := q) (show q < 928 from by omega) (x := ((tSh (a 1) q) (q + 116))) dX6_keeps_40 (fun w H locs hM hF hP hS => ?_)
            have hM : tM E w h ad f (va_up a 1 (va_up (tSh (a 1) q) q ((tSh (a 1) q) (q + 116)))) := hM.uu
            refine lv_iinc (v := (nI (q + 1))) (lv' := [(2, .int (nI (q + 1))), (0, .ref h), (1, .ref (ad 3))]) hx hb dX6_keeps_41 hl (k := 0) rfl (nI_add q 1) (by decide) rfl (fun ls hl => ?_)
            refine lv_goto (tgt := 19) hx hb dX6_keeps_44 (by decide) ?_
            have hl : lv_has ls 3 [(2, .int (nI (q + 1))), (0, .ref h), (1, .ref (ad 3))] := hl
            have hM : tM E w h ad f (va_up a 1 (tSh (a 1) (q + 1))) := hM.of (by rw [sh_1])
            exact ih_19 (q + 1) (by omega) (by omega) _ _ _ _ hM hF hP hS hl
      have hl : lv_has ls 3 [(2, .int (nI 0)), (0, .ref h), (1, .ref (ad 3))] := hl
      have hM : tM E w h ad f (va_up a 1 (tSh (a 1) 0)) := hM.of (by rw [sh_0, up_same])
      exact hloop_19 _ 0 (by omega) (Nat.lt_succ_self _) _ _ _ _ hM hF hP hS hl
  · skip
    exact k_vret hx hb hr hlocks hQ hP hS (by omega) (by omega) dX6_keeps_7 (⟨_, _, ⟨by rw [tC6, if_neg c4, ← hc, up_same], by rw [tC1, if_neg c4, up_same]⟩, hM, hF⟩)

abbrev rmCX6_finds : Room := { frames := 6, cells := 0, slots := 0, locals := 136 }
theorem dyX6_finds : yX6_finds.cls = RX6 ∧ yX6_finds.cls ≠ "java/lang/invoke/MethodHandle" ∧ yX6_finds.cls ≠ "java/lang/invoke/VarHandle" ∧ (parseMethodDescriptor yX6_finds.desc).map (fun d => d.parameters.length) = some 1 := by decide +kernel
set_option maxHeartbeats 4000000 in
theorem CX6_finds (l0 : Launch) (E : gE) (w : wd) (h : Nat) (ad : Nat → Nat) (f : Nat → Int32) (a : Nat → Nat → Int32) (k : Nat) (mn : Nat) (hM : tM E w h ad f a) (hk : k < 6) (hmn : mn ≤ 6) (hm : (a 0) 25 = nI mn) : kC l0 yX6_finds (ws_ yX6_finds cX6_finds 6 none) rmCX6_finds 0 0 mV E w [.ref h, .int (nI k)] (fun r w' => ∃ f' a', (f' = f ∧ a' = (va_up (va_up (va_up a 14 (va_up (a 14) k (tFd (a 0) k mn).1)) 15 (va_up (a 15) k (tFd (a 0) k mn).2.1)) 16 (va_up (a 16) k (tFd (a 0) k mn).2.2.1))) ∧ tM E w' h ad f' a' ∧ fr tP w w') := by
  refine k_open (cc := cX6_finds) (maxL := 6) (ret := none) (by decide) rfl (Nat.le_of_ble_eq_true rfl) ?_
  intro p e s m args below meth c ls Q hx hb hr hml hown hts hlocks hname hQ hG hP hl hS
  have hl : lv_has ls 6 [(0, .ref h), (1, .int (nI k))] := hl
  obtain ⟨w0, hw0⟩ : ∃ z, z = w := ⟨_, rfl⟩
  have hF : fr tP w0 w := by rw [hw0]; exact fr.rf
  rw [← hw0] at hQ
  refine lv_aload_n hx hb dX6_finds_0 rfl (lv_at hl 0 rfl) ?_
  refine tw_get hx hb hts hown hG hP hM 14 (by decide) (hts _ q1634) (fun _ h9 => h9) (v := .ref (ad 14)) rfl dX6_finds_1 ?_
  refine lv_iload_n hx hb dX6_finds_4 rfl (lv_at hl 1 rfl) ?_
  refine lv_iconst (v := (-1)) hx hb dX6_finds_5 (by decide) ?_
  refine tw_ast hx hb hG hP hS hM hF 14 (by decide) (j := k) (show k < 6 from by omega) (x := (-1)) dX6_finds_6 (fun w H locs hM hF hP hS => ?_)
  have hM : tM E w h ad f (va_up a 14 (va_up (a 14) k (-1))) := hM
  refine lv_aload_n hx hb dX6_finds_7 rfl (lv_at hl 0 rfl) ?_
  refine tw_get hx hb hts hown hG hP hM 15 (by decide) (hts _ q1635) (fun _ h9 => h9) (v := .ref (ad 15)) rfl dX6_finds_8 ?_
  refine lv_iload_n hx hb dX6_finds_11 rfl (lv_at hl 1 rfl) ?_
  refine lv_iconst (v := (-1)) hx hb dX6_finds_12 (by decide) ?_
  refine tw_ast hx hb hG hP hS hM hF 15 (by decide) (j := k) (show k < 6 from by omega) (x := (-1)) dX6_finds_13 (fun w H locs hM hF hP hS => ?_)
  have hM : tM E w h ad f (va_up (va_up a 14 (va_up (a 14) k (-1))) 15 (va_up (a 15) k (-1))) := hM
  refine lv_aload_n hx hb dX6_finds_14 rfl (lv_at hl 0 rfl) ?_
  refine tw_get hx hb hts hown hG hP hM 16 (by decide) (hts _ q1636) (fun _ h9 => h9) (v := .ref (ad 16)) rfl dX6_finds_15 ?_
  refine lv_iload_n hx hb dX6_finds_18 rfl (lv_at hl 1 rfl) ?_
  refine lv_iconst (v := 0) hx hb dX6_finds_19 (by decide) ?_
  refine tw_ast hx hb hG hP hS hM hF 16 (by decide) (j := k) (show k < 6 from by omega) (x := 0) dX6_finds_20 (fun w H locs hM hF hP hS => ?_)
  have hM : tM E w h ad f (va_up (va_up (va_up a 14 (va_up (a 14) k (-1))) 15 (va_up (a 15) k (-1))) 16 (va_up (a 16) k 0)) := hM
  refine lv_iconst (v := 0) hx hb dX6_finds_21 (by decide) ?_
  refine lv_istore_n (lv' := [(2, .int 0), (0, .ref h), (1, .int (nI k))]) hx hb dX6_finds_22 rfl hl (by decide) rfl (fun ls hl => ?_)
  refine lv_iconst (v := 0) hx hb dX6_finds_23 (by decide) ?_
  refine lv_istore_n (lv' := [(3, .int 0), (2, .int 0), (0, .ref h), (1, .int (nI k))]) hx hb dX6_finds_24 rfl hl (by decide) rfl (fun ls hl => ?_)
  have hloop_25 : ∀ (n9_25 : Nat) (i : Nat), (i ≤ mn) → (mn - i) < n9_25 → ∀ (w : wd) (H : Heap) (locs : List Loc) (ls : Array Slot), tM E w h ad f (va_up (va_up (va_up a 14 (va_up (a 14) k (tFd (a 0) k i).1)) 15 (va_up (a 15) k (tFd (a 0) k i).2.1)) 16 (va_up (a 16) k (tFd (a 0) k i).2.2.1)) → fr tP w0 w → wP E w H → va_S (gA E) s.heap H locs → lv_has ls 6 [(3, .int (nI i)), (2, .int ((tFd (a 0) k i).2.2.2)), (0, .ref h), (1, .int (nI k))] → W p l0 e rmCX6_finds s m args below meth c H locs 0 0 Q (F0 m 25 ls []) := by
    intro n9_25
    induction n9_25 with
    | zero => intro i hi hn; exact absurd hn (Nat.not_lt_zero _)
    | succ n9_25 ih_25 =>
      intro i hi hn_25 w H locs ls hM hF hP hS hl
      refine lv_iload_n hx hb dX6_finds_25 rfl (lv_at hl 0 rfl) ?_
      refine lv_aload_n hx hb dX6_finds_26 rfl (lv_at hl 2 rfl) ?_
      refine tw_get hx hb hts hown hG hP hM 0 (by decide) (hts _ q1620) (fun _ h9 => h9) (v := .ref (ad 0)) rfl dX6_finds_27 ?_
      refine lv_bipush (v := 25) hx hb dX6_finds_30 (by decide) ?_
      refine tw_ald hx hb hG hP hM 0 (by decide) (j := 25) (show 25 < 116 from by omega) dX6_finds_32 ?_
      refine k_top (y := ((a 0) 25)) rfl ?_
      refine k_top (y := (nI mn)) (hm) ?_
      refine k_icmp_geN (x := i) (y := mn) (tgt := 132) hx hb (by omega) (by omega) dX6_finds_33 (by decide) (fun c33 => ?_) (fun c33 => ?_)
      · skip
        exact k_vret hx hb hr hlocks hQ hP hS (by omega) (by omega) dX6_finds_132 (⟨_, _, ⟨rfl, by rw [show i = mn from by omega]⟩, hM, hF⟩)
      · skip
        refine lv_aload_n hx hb dX6_finds_36 rfl (lv_at hl 2 rfl) ?_
        refine lv_iload_n hx hb dX6_finds_37 rfl (lv_at hl 3 rfl) ?_
        refine lv_iload_n hx hb dX6_finds_38 rfl (lv_at hl 0 rfl) ?_
        refine tw_cR hx hb hml hown hts (val := tWb (a 0) k i) (CX6_wearsBy l0 E w h ad f (va_up (va_up (va_up a 14 (va_up (a 14) k (tFd (a 0) k i).1)) 15 (va_up (a 15) k (tFd (a 0) k i).2.1)) 16 (va_up (a 16) k (tFd (a 0) k i).2.2.1)) k i hM (by omega) (by omega)) (cwV 2 hts (lw_V q1828 q1830 qs53 q81 q1831) rfl rfl rfl dyX6_wearsBy ⟨Nat.le_of_ble_eq_true rfl, Nat.le_of_ble_eq_true rfl⟩) hG hP hS hM (As := [.int (nI k), .int (nI i)]) (rest := []) rfl hl.1 rfl (lv_room (Nat.le_of_ble_eq_true rfl)) dX6_finds_39 ⟨by omega, by omega⟩ (fun H locs hP hS => ?_)
        refine lv_istore (lv' := [(4, .int (tWb (a 0) k i)), (3, .int (nI i)), (2, .int ((tFd (a 0) k i).2.2.2)), (0, .ref h), (1, .int (nI k))]) hx hb dX6_finds_42 hl (by decide) rfl (fun ls hl => ?_)
        refine lv_iload hx hb dX6_finds_44 (lv_at hl 0 rfl) ?_
        refine lv_if_ne (tgt := 52) hx hb dX6_finds_46 (by decide) (fun c46 => ?_) (fun c46 => ?_)
        · skip
          refine lv_aload_n hx hb dX6_finds_52 rfl (lv_at hl 3 rfl) ?_
          refine lv_iload_n hx hb dX6_finds_53 rfl (lv_at hl 4 rfl) ?_
          refine lv_iload_n hx hb dX6_finds_54 rfl (lv_at hl 1 rfl) ?_
          refine tw_cR hx hb hml hown hts (val := oI (tCr (a 0) k i)) (CX6_crosses l0 E w h ad f (va_up (va_up (va_up a 14 (va_up (a 14) k (tFd (a 0) k i).1)) 15 (va_up (a 15) k (tFd (a 0) k i).2.1)) 16 (va_up (a 16) k (tFd (a 0) k i).2.2.1)) k i hM (by omega) (by omega)) (cwV 2 hts (lw_V q1813 q1815 qs51 q81 q1816) rfl rfl rfl dyX6_crosses ⟨Nat.le_of_ble_eq_true rfl, Nat.le_of_ble_eq_true rfl⟩) hG hP hS hM (As := [.int (nI k), .int (nI i)]) (rest := []) rfl hl.1 rfl (lv_room (Nat.le_of_ble_eq_true rfl)) dX6_finds_55 ⟨by omega, by omega⟩ (fun H locs hP hS => ?_)
          refine lv_istore (lv' := [(5, .int (oI (tCr (a 0) k i))), (4, .int (tWb (a 0) k i)), (3, .int (nI i)), (2, .int ((tFd (a 0) k i).2.2.2)), (0, .ref h), (1, .int (nI k))]) hx hb dX6_finds_58 hl (by decide) rfl (fun ls hl => ?_)
          refine lv_aload_n hx hb dX6_finds_60 rfl (lv_at hl 4 rfl) ?_
          refine tw_get hx hb hts hown hG hP hM 16 (by decide) (hts _ q1636) (fun _ h9 => h9) (v := .ref (ad 16)) rfl dX6_finds_61 ?_
          refine lv_iload_n hx hb dX6_finds_64 rfl (lv_at hl 5 rfl) ?_
          refine lv_dup2_11 hx hb dX6_finds_65 rfl rfl ?_
          refine tw_ald hx hb hG hP hM 16 (by decide) (j := k) (show k < 6 from by omega) dX6_finds_66 ?_
          refine k_top (y := (tFd (a 0) k i).2.2.1) (by simp [va_up]) ?_
          refine lv_iconst (v := 1) hx hb dX6_finds_67 (by decide) ?_
          refine lv_iload_n hx hb dX6_finds_68 rfl (lv_at hl 2 rfl) ?_
          refine lv_ishl hx hb dX6_finds_69 ?_
          refine lv_ior hx hb dX6_finds_70 ?_
          refine tw_ast hx hb hG hP hS hM hF 16 (by decide) (j := k) (show k < 6 from by omega) (x := ((tFd (a 0) k i).2.2.1 ||| ((1 : Int32) <<< ((nI i) &&& 31)))) dX6_finds_71 (fun w H locs hM hF hP hS => ?_)
          have hM : tM E w h ad f (va_up (va_up (va_up a 14 (va_up (a 14) k (tFd (a 0) k i).1)) 15 (va_up (a 15) k (tFd (a 0) k i).2.1)) 16 (va_up (va_up (a 16) k (tFd (a 0) k i).2.2.1) k ((tFd (a 0) k i).2.2.1 ||| ((1 : Int32) <<< ((nI i) &&& 31))))) := hM.uu
          have hM : tM E w h ad f (va_up (va_up (va_up a 14 (va_up (a 14) k (tFd (a 0) k i).1)) 15 (va_up (a 15) k (tFd (a 0) k i).2.1)) 16 (va_up (a 16) k ((tFd (a 0) k i).2.2.1 ||| ((1 : Int32) <<< ((nI i) &&& 31))))) := hM.of (by rw [bx_uu])
          refine lv_aload_n hx hb dX6_finds_72 rfl (lv_at hl 4 rfl) ?_
          refine tw_get hx hb hts hown hG hP hM 14 (by decide) (hts _ q1634) (fun _ h9 => h9) (v := .ref (ad 14)) rfl dX6_finds_73 ?_
          refine lv_iload_n hx hb dX6_finds_76 rfl (lv_at hl 5 rfl) ?_
          refine tw_ald hx hb hG hP hM 14 (by decide) (j := k) (show k < 6 from by omega) dX6_finds_77 ?_
          refine k_top (y := (tFd (a 0) k i).1) (by simp [va_up]) ?_
          refine lv_if_lt (tgt := 92) hx hb dX6_finds_78 (by decide) (fun c78 => ?_) (fun c78 => ?_)
          · skip
            refine lv_aload_n hx hb dX6_finds_92 rfl (lv_at hl 4 rfl) ?_
            refine tw_get hx hb hts hown hG hP hM 14 (by decide) (hts _ q1634) (fun _ h9 => h9) (v := .ref (ad 14)) rfl dX6_finds_93 ?_
            refine lv_iload_n hx hb dX6_finds_96 rfl (lv_at hl 5 rfl) ?_
            refine lv_iload hx hb dX6_finds_97 (lv_at hl 0 rfl) ?_
            refine tw_ast hx hb hG hP hS hM hF 14 (by decide) (j := k) (show k < 6 from by omega) (x := oI (tCr (a 0) k i)) dX6_finds_99 (fun w H locs hM hF hP hS => ?_)
            have hM : tM E w h ad f (va_up (va_up (va_up (va_up a 14 (va_up (a 14) k (tFd (a 0) k i).1)) 15 (va_up (a 15) k (tFd (a 0) k i).2.1)) 16 (va_up (a 16) k ((tFd (a 0) k i).2.2.1 ||| ((1 : Int32) <<< ((nI i) &&& 31))))) 14 (va_up (va_up (a 14) k (tFd (a 0) k i).1) k (oI (tCr (a 0) k i)))) := hM
            have hM : tM E w h ad f (va_up (va_up (va_up a 14 (va_up (va_up (a 14) k (tFd (a 0) k i).1) k (oI (tCr (a 0) k i)))) 15 (va_up (a 15) k (tFd (a 0) k i).2.1)) 16 (va_up (a 16) k ((tFd (a 0) k i).2.2.1 ||| ((1 : Int32) <<< ((nI i) &&& 31))))) := hM.of (by rw [up_cm _ 14 16 _ _ (by decide), up_cm _ 14 15 _ _ (by decide), bx_uu])
            have hM : tM E w h ad f (va_up (va_up (va_up a 14 (va_up (a 14) k (oI (tCr (a 0) k i)))) 15 (va_up (a 15) k (tFd (a 0) k i).2.1)) 16 (va_up (a 16) k ((tFd (a 0) k i).2.2.1 ||| ((1 : Int32) <<< ((nI i) &&& 31))))) := hM.of (by rw [bx_uu])
            refine lv_iload hx hb dX6_finds_100 (lv_at hl 1 rfl) ?_
            refine lv_iload_n hx hb dX6_finds_102 rfl (lv_at hl 3 rfl) ?_
            refine lv_icmp_le (tgt := 113) hx hb dX6_finds_103 (by decide) (fun c103 => ?_) (fun c103 => ?_)
            · skip
              refine lv_iload hx hb dX6_finds_113 (lv_at hl 1 rfl) ?_
              refine lv_iload_n hx hb dX6_finds_115 rfl (lv_at hl 3 rfl) ?_
              refine lv_icmp_le (tgt := 124) hx hb dX6_finds_116 (by decide) (fun c116 => ?_) (fun c116 => ?_)
              · skip
                refine lv_iload_n hx hb dX6_finds_124 rfl (lv_at hl 3 rfl) ?_
                refine lv_istore_n (lv' := [(2, .int ((tFd (a 0) k i).2.2.2)), (5, .int (oI (tCr (a 0) k i))), (4, .int (tWb (a 0) k i)), (3, .int (nI i)), (0, .ref h), (1, .int (nI k))]) hx hb dX6_finds_125 rfl hl (by decide) rfl (fun ls hl => ?_)
                refine lv_iinc (v := (nI (i + 1))) (lv' := [(3, .int (nI (i + 1))), (2, .int ((tFd (a 0) k i).2.2.2)), (5, .int (oI (tCr (a 0) k i))), (4, .int (tWb (a 0) k i)), (0, .ref h), (1, .int (nI k))]) hx hb dX6_finds_126 hl (k := 3) rfl (nI_add i 1) (by decide) rfl (fun ls hl => ?_)
                refine lv_goto (tgt := 25) hx hb dX6_finds_129 (by decide) ?_
                have hl := Eq.mp (congrArg (fun z9 => lv_has ls 6 [(3, .int (nI (i + 1))), (2, .int z9), (5, .int (oI (tCr (a 0) k i))), (4, .int (tWb (a 0) k i)), (0, .ref h), (1, .int (nI k))]) (show (tFd (a 0) k i).2.2.2 = (tFd (a 0) k (i + 1)).2.2.2 from by first | contradiction | simp [tFd, c33, c46, c78, c103, c116])) hl
                have hl := lv_sub (l' := [(3, .int (nI (i + 1))), (2, .int ((tFd (a 0) k (i + 1)).2.2.2)), (0, .ref h), (1, .int (nI k))]) hl [0, 1, 4, 5] rfl
                have hM : tM E w h ad f (va_up (va_up (va_up a 14 (va_up (a 14) k (tFd (a 0) k (i + 1)).1)) 15 (va_up (a 15) k (tFd (a 0) k (i + 1)).2.1)) 16 (va_up (a 16) k (tFd (a 0) k (i + 1)).2.2.1)) := hM.of (by first | contradiction | simp [tFd, c33, c46, c78, c103, c116])
                exact ih_25 (i + 1) (by omega) (by omega) _ _ _ _ hM hF hP hS hl
              · skip
                refine lv_iload hx hb dX6_finds_119 (lv_at hl 1 rfl) ?_
                refine lv_goto (tgt := 125) hx hb dX6_finds_121 (by decide) ?_
                refine lv_istore_n (lv' := [(2, .int (tWb (a 0) k i)), (5, .int (oI (tCr (a 0) k i))), (4, .int (tWb (a 0) k i)), (3, .int (nI i)), (0, .ref h), (1, .int (nI k))]) hx hb dX6_finds_125 rfl hl (by decide) rfl (fun ls hl => ?_)
                refine lv_iinc (v := (nI (i + 1))) (lv' := [(3, .int (nI (i + 1))), (2, .int (tWb (a 0) k i)), (5, .int (oI (tCr (a 0) k i))), (4, .int (tWb (a 0) k i)), (0, .ref h), (1, .int (nI k))]) hx hb dX6_finds_126 hl (k := 3) rfl (nI_add i 1) (by decide) rfl (fun ls hl => ?_)
                refine lv_goto (tgt := 25) hx hb dX6_finds_129 (by decide) ?_
                have hl := Eq.mp (congrArg (fun z9 => lv_has ls 6 [(3, .int (nI (i + 1))), (2, .int z9), (5, .int (oI (tCr (a 0) k i))), (4, .int (tWb (a 0) k i)), (0, .ref h), (1, .int (nI k))]) (show tWb (a 0) k i = (tFd (a 0) k (i + 1)).2.2.2 from by first | contradiction | simp [tFd, c33, c46, c78, c103, c116])) hl
                have hl := lv_sub (l' := [(3, .int (nI (i + 1))), (2, .int ((tFd (a 0) k (i + 1)).2.2.2)), (0, .ref h), (1, .int (nI k))]) hl [0, 1, 4, 5] rfl
                have hM : tM E w h ad f (va_up (va_up (va_up a 14 (va_up (a 14) k (tFd (a 0) k (i + 1)).1)) 15 (va_up (a 15) k (tFd (a 0) k (i + 1)).2.1)) 16 (va_up (a 16) k (tFd (a 0) k (i + 1)).2.2.1)) := hM.of (by first | contradiction | simp [tFd, c33, c46, c78, c103, c116])
                exact ih_25 (i + 1) (by omega) (by omega) _ _ _ _ hM hF hP hS hl
            · skip
              refine lv_aload_n hx hb dX6_finds_106 rfl (lv_at hl 4 rfl) ?_
              refine tw_get hx hb hts hown hG hP hM 15 (by decide) (hts _ q1635) (fun _ h9 => h9) (v := .ref (ad 15)) rfl dX6_finds_107 ?_
              refine lv_iload_n hx hb dX6_finds_110 rfl (lv_at hl 5 rfl) ?_
              refine lv_iload_n hx hb dX6_finds_111 rfl (lv_at hl 2 rfl) ?_
              refine tw_ast hx hb hG hP hS hM hF 15 (by decide) (j := k) (show k < 6 from by omega) (x := (nI i)) dX6_finds_112 (fun w H locs hM hF hP hS => ?_)
              have hM : tM E w h ad f (va_up (va_up (va_up (va_up a 14 (va_up (a 14) k (oI (tCr (a 0) k i)))) 15 (va_up (a 15) k (tFd (a 0) k i).2.1)) 16 (va_up (a 16) k ((tFd (a 0) k i).2.2.1 ||| ((1 : Int32) <<< ((nI i) &&& 31))))) 15 (va_up (va_up (a 15) k (tFd (a 0) k i).2.1) k (nI i))) := hM
              have hM : tM E w h ad f (va_up (va_up (va_up a 14 (va_up (a 14) k (oI (tCr (a 0) k i)))) 15 (va_up (va_up (a 15) k (tFd (a 0) k i).2.1) k (nI i))) 16 (va_up (a 16) k ((tFd (a 0) k i).2.2.1 ||| ((1 : Int32) <<< ((nI i) &&& 31))))) := hM.of (by rw [up_cm _ 15 16 _ _ (by decide), bx_uu])
              have hM : tM E w h ad f (va_up (va_up (va_up a 14 (va_up (a 14) k (oI (tCr (a 0) k i)))) 15 (va_up (a 15) k (nI i))) 16 (va_up (a 16) k ((tFd (a 0) k i).2.2.1 ||| ((1 : Int32) <<< ((nI i) &&& 31))))) := hM.of (by rw [bx_uu])
              refine lv_iload hx hb dX6_finds_113 (lv_at hl 1 rfl) ?_
              refine lv_iload_n hx hb dX6_finds_115 rfl (lv_at hl 3 rfl) ?_
              refine lv_icmp_le (tgt := 124) hx hb dX6_finds_116 (by decide) (fun c116 => ?_) (fun c116 => ?_)
              · skip
                refine lv_iload_n hx hb dX6_finds_124 rfl (lv_at hl 3 rfl) ?_
                refine lv_istore_n (lv' := [(2, .int ((tFd (a 0) k i).2.2.2)), (5, .int (oI (tCr (a 0) k i))), (4, .int (tWb (a 0) k i)), (3, .int (nI i)), (0, .ref h), (1, .int (nI k))]) hx hb dX6_finds_125 rfl hl (by decide) rfl (fun ls hl => ?_)
                refine lv_iinc (v := (nI (i + 1))) (lv' := [(3, .int (nI (i + 1))), (2, .int ((tFd (a 0) k i).2.2.2)), (5, .int (oI (tCr (a 0) k i))), (4, .int (tWb (a 0) k i)), (0, .ref h), (1, .int (nI k))]) hx hb dX6_finds_126 hl (k := 3) rfl (nI_add i 1) (by decide) rfl (fun ls hl => ?_)
                refine lv_goto (tgt := 25) hx hb dX6_finds_129 (by decide) ?_
                have hl := Eq.mp (congrArg (fun z9 => lv_has ls 6 [(3, .int (nI (i + 1))), (2, .int z9), (5, .int (oI (tCr (a 0) k i))), (4, .int (tWb (a 0) k i)), (0, .ref h), (1, .int (nI k))]) (show (tFd (a 0) k i).2.2.2 = (tFd (a 0) k (i + 1)).2.2.2 from by first | contradiction | simp [tFd, c33, c46, c78, c103, c116])) hl
                have hl := lv_sub (l' := [(3, .int (nI (i + 1))), (2, .int ((tFd (a 0) k (i + 1)).2.2.2)), (0, .ref h), (1, .int (nI k))]) hl [0, 1, 4, 5] rfl
                have hM : tM E w h ad f (va_up (va_up (va_up a 14 (va_up (a 14) k (tFd (a 0) k (i + 1)).1)) 15 (va_up (a 15) k (tFd (a 0) k (i + 1)).2.1)) 16 (va_up (a 16) k (tFd (a 0) k (i + 1)).2.2.1)) := hM.of (by first | contradiction | simp [tFd, c33, c46, c78, c103, c116])
                exact ih_25 (i + 1) (by omega) (by omega) _ _ _ _ hM hF hP hS hl
              · skip
                refine lv_iload hx hb dX6_finds_119 (lv_at hl 1 rfl) ?_
                refine lv_goto (tgt := 125) hx hb dX6_finds_121 (by decide) ?_
                refine lv_istore_n (lv' := [(2, .int (tWb (a 0) k i)), (5, .int (oI (tCr (a 0) k i))), (4, .int (tWb (a 0) k i)), (3, .int (nI i)), (0, .ref h), (1, .int (nI k))]) hx hb dX6_finds_125 rfl hl (by decide) rfl (fun ls hl => ?_)
                refine lv_iinc (v := (nI (i + 1))) (lv' := [(3, .int (nI (i + 1))), (2, .int (tWb (a 0) k i)), (5, .int (oI (tCr (a 0) k i))), (4, .int (tWb (a 0) k i)), (0, .ref h), (1, .int (nI k))]) hx hb dX6_finds_126 hl (k := 3) rfl (nI_add i 1) (by decide) rfl (fun ls hl => ?_)
                refine lv_goto (tgt := 25) hx hb dX6_finds_129 (by decide) ?_
                have hl := Eq.mp (congrArg (fun z9 => lv_has ls 6 [(3, .int (nI (i + 1))), (2, .int z9), (5, .int (oI (tCr (a 0) k i))), (4, .int (tWb (a 0) k i)), (0, .ref h), (1, .int (nI k))]) (show tWb (a 0) k i = (tFd (a 0) k (i + 1)).2.2.2 from by first | contradiction | simp [tFd, c33, c46, c78, c103, c116])) hl
                have hl := lv_sub (l' := [(3, .int (nI (i + 1))), (2, .int ((tFd (a 0) k (i + 1)).2.2.2)), (0, .ref h), (1, .int (nI k))]) hl [0, 1, 4, 5] rfl
                have hM : tM E w h ad f (va_up (va_up (va_up a 14 (va_up (a 14) k (tFd (a 0) k (i + 1)).1)) 15 (va_up (a 15) k (tFd (a 0) k (i + 1)).2.1)) 16 (va_up (a 16) k (tFd (a 0) k (i + 1)).2.2.1)) := hM.of (by first | contradiction | simp [tFd, c33, c46, c78, c103, c116])
                exact ih_25 (i + 1) (by omega) (by omega) _ _ _ _ hM hF hP hS hl
          · skip
            refine lv_iload hx hb dX6_finds_81 (lv_at hl 0 rfl) ?_
            refine lv_aload_n hx hb dX6_finds_83 rfl (lv_at hl 4 rfl) ?_
            refine tw_get hx hb hts hown hG hP hM 14 (by decide) (hts _ q1634) (fun _ h9 => h9) (v := .ref (ad 14)) rfl dX6_finds_84 ?_
            refine lv_iload_n hx hb dX6_finds_87 rfl (lv_at hl 5 rfl) ?_
            refine tw_ald hx hb hG hP hM 14 (by decide) (j := k) (show k < 6 from by omega) dX6_finds_88 ?_
            refine k_top (y := (tFd (a 0) k i).1) (by simp [va_up]) ?_
            refine lv_icmp_ge (tgt := 100) hx hb dX6_finds_89 (by decide) (fun c89 => ?_) (fun c89 => ?_)
            · skip
              refine lv_iload hx hb dX6_finds_100 (lv_at hl 1 rfl) ?_
              refine lv_iload_n hx hb dX6_finds_102 rfl (lv_at hl 3 rfl) ?_
              refine lv_icmp_le (tgt := 113) hx hb dX6_finds_103 (by decide) (fun c103 => ?_) (fun c103 => ?_)
              · skip
                refine lv_iload hx hb dX6_finds_113 (lv_at hl 1 rfl) ?_
                refine lv_iload_n hx hb dX6_finds_115 rfl (lv_at hl 3 rfl) ?_
                refine lv_icmp_le (tgt := 124) hx hb dX6_finds_116 (by decide) (fun c116 => ?_) (fun c116 => ?_)
                · skip
                  refine lv_iload_n hx hb dX6_finds_124 rfl (lv_at hl 3 rfl) ?_
                  refine lv_istore_n (lv' := [(2, .int ((tFd (a 0) k i).2.2.2)), (5, .int (oI (tCr (a 0) k i))), (4, .int (tWb (a 0) k i)), (3, .int (nI i)), (0, .ref h), (1, .int (nI k))]) hx hb dX6_finds_125 rfl hl (by decide) rfl (fun ls hl => ?_)
                  refine lv_iinc (v := (nI (i + 1))) (lv' := [(3, .int (nI (i + 1))), (2, .int ((tFd (a 0) k i).2.2.2)), (5, .int (oI (tCr (a 0) k i))), (4, .int (tWb (a 0) k i)), (0, .ref h), (1, .int (nI k))]) hx hb dX6_finds_126 hl (k := 3) rfl (nI_add i 1) (by decide) rfl (fun ls hl => ?_)
                  refine lv_goto (tgt := 25) hx hb dX6_finds_129 (by decide) ?_
                  have hl := Eq.mp (congrArg (fun z9 => lv_has ls 6 [(3, .int (nI (i + 1))), (2, .int z9), (5, .int (oI (tCr (a 0) k i))), (4, .int (tWb (a 0) k i)), (0, .ref h), (1, .int (nI k))]) (show (tFd (a 0) k i).2.2.2 = (tFd (a 0) k (i + 1)).2.2.2 from by first | contradiction | simp [tFd, c33, c46, c78, c89, c103, c116])) hl
                  have hl := lv_sub (l' := [(3, .int (nI (i + 1))), (2, .int ((tFd (a 0) k (i + 1)).2.2.2)), (0, .ref h), (1, .int (nI k))]) hl [0, 1, 4, 5] rfl
                  have hM : tM E w h ad f (va_up (va_up (va_up a 14 (va_up (a 14) k (tFd (a 0) k (i + 1)).1)) 15 (va_up (a 15) k (tFd (a 0) k (i + 1)).2.1)) 16 (va_up (a 16) k (tFd (a 0) k (i + 1)).2.2.1)) := hM.of (by first | contradiction | simp [tFd, c33, c46, c78, c89, c103, c116])
                  exact ih_25 (i + 1) (by omega) (by omega) _ _ _ _ hM hF hP hS hl
                · skip
                  refine lv_iload hx hb dX6_finds_119 (lv_at hl 1 rfl) ?_
                  refine lv_goto (tgt := 125) hx hb dX6_finds_121 (by decide) ?_
                  refine lv_istore_n (lv' := [(2, .int (tWb (a 0) k i)), (5, .int (oI (tCr (a 0) k i))), (4, .int (tWb (a 0) k i)), (3, .int (nI i)), (0, .ref h), (1, .int (nI k))]) hx hb dX6_finds_125 rfl hl (by decide) rfl (fun ls hl => ?_)
                  refine lv_iinc (v := (nI (i + 1))) (lv' := [(3, .int (nI (i + 1))), (2, .int (tWb (a 0) k i)), (5, .int (oI (tCr (a 0) k i))), (4, .int (tWb (a 0) k i)), (0, .ref h), (1, .int (nI k))]) hx hb dX6_finds_126 hl (k := 3) rfl (nI_add i 1) (by decide) rfl (fun ls hl => ?_)
                  refine lv_goto (tgt := 25) hx hb dX6_finds_129 (by decide) ?_
                  have hl := Eq.mp (congrArg (fun z9 => lv_has ls 6 [(3, .int (nI (i + 1))), (2, .int z9), (5, .int (oI (tCr (a 0) k i))), (4, .int (tWb (a 0) k i)), (0, .ref h), (1, .int (nI k))]) (show tWb (a 0) k i = (tFd (a 0) k (i + 1)).2.2.2 from by first | contradiction | simp [tFd, c33, c46, c78, c89, c103, c116])) hl
                  have hl := lv_sub (l' := [(3, .int (nI (i + 1))), (2, .int ((tFd (a 0) k (i + 1)).2.2.2)), (0, .ref h), (1, .int (nI k))]) hl [0, 1, 4, 5] rfl
                  have hM : tM E w h ad f (va_up (va_up (va_up a 14 (va_up (a 14) k (tFd (a 0) k (i + 1)).1)) 15 (va_up (a 15) k (tFd (a 0) k (i + 1)).2.1)) 16 (va_up (a 16) k (tFd (a 0) k (i + 1)).2.2.1)) := hM.of (by first | contradiction | simp [tFd, c33, c46, c78, c89, c103, c116])
                  exact ih_25 (i + 1) (by omega) (by omega) _ _ _ _ hM hF hP hS hl
              · skip
                refine lv_aload_n hx hb dX6_finds_106 rfl (lv_at hl 4 rfl) ?_
                refine tw_get hx hb hts hown hG hP hM 15 (by decide) (hts _ q1635) (fun _ h9 => h9) (v := .ref (ad 15)) rfl dX6_finds_107 ?_
                refine lv_iload_n hx hb dX6_finds_110 rfl (lv_at hl 5 rfl) ?_
                refine lv_iload_n hx hb dX6_finds_111 rfl (lv_at hl 2 rfl) ?_
                refine tw_ast hx hb hG hP hS hM hF 15 (by decide) (j := k) (show k < 6 from by omega) (x := (nI i)) dX6_finds_112 (fun w H locs hM hF hP hS => ?_)
                have hM : tM E w h ad f (va_up (va_up (va_up (va_up a 14 (va_up (a 14) k (tFd (a 0) k i).1)) 15 (va_up (a 15) k (tFd (a 0) k i).2.1)) 16 (va_up (a 16) k ((tFd (a 0) k i).2.2.1 ||| ((1 : Int32) <<< ((nI i) &&& 31))))) 15 (va_up (va_up (a 15) k (tFd (a 0) k i).2.1) k (nI i))) := hM
                have hM : tM E w h ad f (va_up (va_up (va_up a 14 (va_up (a 14) k (tFd (a 0) k i).1)) 15 (va_up (va_up (a 15) k (tFd (a 0) k i).2.1) k (nI i))) 16 (va_up (a 16) k ((tFd (a 0) k i).2.2.1 ||| ((1 : Int32) <<< ((nI i) &&& 31))))) := hM.of (by rw [up_cm _ 15 16 _ _ (by decide), bx_uu])
                have hM : tM E w h ad f (va_up (va_up (va_up a 14 (va_up (a 14) k (tFd (a 0) k i).1)) 15 (va_up (a 15) k (nI i))) 16 (va_up (a 16) k ((tFd (a 0) k i).2.2.1 ||| ((1 : Int32) <<< ((nI i) &&& 31))))) := hM.of (by rw [bx_uu])
                refine lv_iload hx hb dX6_finds_113 (lv_at hl 1 rfl) ?_
                refine lv_iload_n hx hb dX6_finds_115 rfl (lv_at hl 3 rfl) ?_
                refine lv_icmp_le (tgt := 124) hx hb dX6_finds_116 (by decide) (fun c116 => ?_) (fun c116 => ?_)
                · skip
                  refine lv_iload_n hx hb dX6_finds_124 rfl (lv_at hl 3 rfl) ?_
                  refine lv_istore_n (lv' := [(2, .int ((tFd (a 0) k i).2.2.2)), (5, .int (oI (tCr (a 0) k i))), (4, .int (tWb (a 0) k i)), (3, .int (nI i)), (0, .ref h), (1, .int (nI k))]) hx hb dX6_finds_125 rfl hl (by decide) rfl (fun ls hl => ?_)
                  refine lv_iinc (v := (nI (i + 1))) (lv' := [(3, .int (nI (i + 1))), (2, .int ((tFd (a 0) k i).2.2.2)), (5, .int (oI (tCr (a 0) k i))), (4, .int (tWb (a 0) k i)), (0, .ref h), (1, .int (nI k))]) hx hb dX6_finds_126 hl (k := 3) rfl (nI_add i 1) (by decide) rfl (fun ls hl => ?_)
                  refine lv_goto (tgt := 25) hx hb dX6_finds_129 (by decide) ?_
                  have hl := Eq.mp (congrArg (fun z9 => lv_has ls 6 [(3, .int (nI (i + 1))), (2, .int z9), (5, .int (oI (tCr (a 0) k i))), (4, .int (tWb (a 0) k i)), (0, .ref h), (1, .int (nI k))]) (show (tFd (a 0) k i).2.2.2 = (tFd (a 0) k (i + 1)).2.2.2 from by first | contradiction | simp [tFd, c33, c46, c78, c89, c103, c116])) hl
                  have hl := lv_sub (l' := [(3, .int (nI (i + 1))), (2, .int ((tFd (a 0) k (i + 1)).2.2.2)), (0, .ref h), (1, .int (nI k))]) hl [0, 1, 4, 5] rfl
                  have hM : tM E w h ad f (va_up (va_up (va_up a 14 (va_up (a 14) k (tFd (a 0) k (i + 1)).1)) 15 (va_up (a 15) k (tFd (a 0) k (i + 1)).2.1)) 16 (va_up (a 16) k (tFd (a 0) k (i + 1)).2.2.1)) := hM.of (by first | contradiction | simp [tFd, c33, c46, c78, c89, c103, c116])
                  exact ih_25 (i + 1) (by omega) (by omega) _ _ _ _ hM hF hP hS hl
                · skip
                  refine lv_iload hx hb dX6_finds_119 (lv_at hl 1 rfl) ?_
                  refine lv_goto (tgt := 125) hx hb dX6_finds_121 (by decide) ?_
                  refine lv_istore_n (lv' := [(2, .int (tWb (a 0) k i)), (5, .int (oI (tCr (a 0) k i))), (4, .int (tWb (a 0) k i)), (3, .int (nI i)), (0, .ref h), (1, .int (nI k))]) hx hb dX6_finds_125 rfl hl (by decide) rfl (fun ls hl => ?_)
                  refine lv_iinc (v := (nI (i + 1))) (lv' := [(3, .int (nI (i + 1))), (2, .int (tWb (a 0) k i)), (5, .int (oI (tCr (a 0) k i))), (4, .int (tWb (a 0) k i)), (0, .ref h), (1, .int (nI k))]) hx hb dX6_finds_126 hl (k := 3) rfl (nI_add i 1) (by decide) rfl (fun ls hl => ?_)
                  refine lv_goto (tgt := 25) hx hb dX6_finds_129 (by decide) ?_
                  have hl := Eq.mp (congrArg (fun z9 => lv_has ls 6 [(3, .int (nI (i + 1))), (2, .int z9), (5, .int (oI (tCr (a 0) k i))), (4, .int (tWb (a 0) k i)), (0, .ref h), (1, .int (nI k))]) (show tWb (a 0) k i = (tFd (a 0) k (i + 1)).2.2.2 from by first | contradiction | simp [tFd, c33, c46, c78, c89, c103, c116])) hl
                  have hl := lv_sub (l' := [(3, .int (nI (i + 1))), (2, .int ((tFd (a 0) k (i + 1)).2.2.2)), (0, .ref h), (1, .int (nI k))]) hl [0, 1, 4, 5] rfl
                  have hM : tM E w h ad f (va_up (va_up (va_up a 14 (va_up (a 14) k (tFd (a 0) k (i + 1)).1)) 15 (va_up (a 15) k (tFd (a 0) k (i + 1)).2.1)) 16 (va_up (a 16) k (tFd (a 0) k (i + 1)).2.2.1)) := hM.of (by first | contradiction | simp [tFd, c33, c46, c78, c89, c103, c116])
                  exact ih_25 (i + 1) (by omega) (by omega) _ _ _ _ hM hF hP hS hl
            · skip
              refine lv_aload_n hx hb dX6_finds_92 rfl (lv_at hl 4 rfl) ?_
              refine tw_get hx hb hts hown hG hP hM 14 (by decide) (hts _ q1634) (fun _ h9 => h9) (v := .ref (ad 14)) rfl dX6_finds_93 ?_
              refine lv_iload_n hx hb dX6_finds_96 rfl (lv_at hl 5 rfl) ?_
              refine lv_iload hx hb dX6_finds_97 (lv_at hl 0 rfl) ?_
              refine tw_ast hx hb hG hP hS hM hF 14 (by decide) (j := k) (show k < 6 from by omega) (x := oI (tCr (a 0) k i)) dX6_finds_99 (fun w H locs hM hF hP hS => ?_)
              have hM : tM E w h ad f (va_up (va_up (va_up (va_up a 14 (va_up (a 14) k (tFd (a 0) k i).1)) 15 (va_up (a 15) k (tFd (a 0) k i).2.1)) 16 (va_up (a 16) k ((tFd (a 0) k i).2.2.1 ||| ((1 : Int32) <<< ((nI i) &&& 31))))) 14 (va_up (va_up (a 14) k (tFd (a 0) k i).1) k (oI (tCr (a 0) k i)))) := hM
              have hM : tM E w h ad f (va_up (va_up (va_up a 14 (va_up (va_up (a 14) k (tFd (a 0) k i).1) k (oI (tCr (a 0) k i)))) 15 (va_up (a 15) k (tFd (a 0) k i).2.1)) 16 (va_up (a 16) k ((tFd (a 0) k i).2.2.1 ||| ((1 : Int32) <<< ((nI i) &&& 31))))) := hM.of (by rw [up_cm _ 14 16 _ _ (by decide), up_cm _ 14 15 _ _ (by decide), bx_uu])
              have hM : tM E w h ad f (va_up (va_up (va_up a 14 (va_up (a 14) k (oI (tCr (a 0) k i)))) 15 (va_up (a 15) k (tFd (a 0) k i).2.1)) 16 (va_up (a 16) k ((tFd (a 0) k i).2.2.1 ||| ((1 : Int32) <<< ((nI i) &&& 31))))) := hM.of (by rw [bx_uu])
              refine lv_iload hx hb dX6_finds_100 (lv_at hl 1 rfl) ?_
              refine lv_iload_n hx hb dX6_finds_102 rfl (lv_at hl 3 rfl) ?_
              refine lv_icmp_le (tgt := 113) hx hb dX6_finds_103 (by decide) (fun c103 => ?_) (fun c103 => ?_)
              · skip
                refine lv_iload hx hb dX6_finds_113 (lv_at hl 1 rfl) ?_
                refine lv_iload_n hx hb dX6_finds_115 rfl (lv_at hl 3 rfl) ?_
                refine lv_icmp_le (tgt := 124) hx hb dX6_finds_116 (by decide) (fun c116 => ?_) (fun c116 => ?_)
                · skip
                  refine lv_iload_n hx hb dX6_finds_124 rfl (lv_at hl 3 rfl) ?_
                  refine lv_istore_n (lv' := [(2, .int ((tFd (a 0) k i).2.2.2)), (5, .int (oI (tCr (a 0) k i))), (4, .int (tWb (a 0) k i)), (3, .int (nI i)), (0, .ref h), (1, .int (nI k))]) hx hb dX6_finds_125 rfl hl (by decide) rfl (fun ls hl => ?_)
                  refine lv_iinc (v := (nI (i + 1))) (lv' := [(3, .int (nI (i + 1))), (2, .int ((tFd (a 0) k i).2.2.2)), (5, .int (oI (tCr (a 0) k i))), (4, .int (tWb (a 0) k i)), (0, .ref h), (1, .int (nI k))]) hx hb dX6_finds_126 hl (k := 3) rfl (nI_add i 1) (by decide) rfl (fun ls hl => ?_)
                  refine lv_goto (tgt := 25) hx hb dX6_finds_129 (by decide) ?_
                  have hl := Eq.mp (congrArg (fun z9 => lv_has ls 6 [(3, .int (nI (i + 1))), (2, .int z9), (5, .int (oI (tCr (a 0) k i))), (4, .int (tWb (a 0) k i)), (0, .ref h), (1, .int (nI k))]) (show (tFd (a 0) k i).2.2.2 = (tFd (a 0) k (i + 1)).2.2.2 from by first | contradiction | simp [tFd, c33, c46, c78, c89, c103, c116])) hl
                  have hl := lv_sub (l' := [(3, .int (nI (i + 1))), (2, .int ((tFd (a 0) k (i + 1)).2.2.2)), (0, .ref h), (1, .int (nI k))]) hl [0, 1, 4, 5] rfl
                  have hM : tM E w h ad f (va_up (va_up (va_up a 14 (va_up (a 14) k (tFd (a 0) k (i + 1)).1)) 15 (va_up (a 15) k (tFd (a 0) k (i + 1)).2.1)) 16 (va_up (a 16) k (tFd (a 0) k (i + 1)).2.2.1)) := hM.of (by first | contradiction | simp [tFd, c33, c46, c78, c89, c103, c116])
                  exact ih_25 (i + 1) (by omega) (by omega) _ _ _ _ hM hF hP hS hl
                · skip
                  refine lv_iload hx hb dX6_finds_119 (lv_at hl 1 rfl) ?_
                  refine lv_goto (tgt := 125) hx hb dX6_finds_121 (by decide) ?_
                  refine lv_istore_n (lv' := [(2, .int (tWb (a 0) k i)), (5, .int (oI (tCr (a 0) k i))), (4, .int (tWb (a 0) k i)), (3, .int (nI i)), (0, .ref h), (1, .int (nI k))]) hx hb dX6_finds_125 rfl hl (by decide) rfl (fun ls hl => ?_)
                  refine lv_iinc (v := (nI (i + 1))) (lv' := [(3, .int (nI (i + 1))), (2, .int (tWb (a 0) k i)), (5, .int (oI (tCr (a 0) k i))), (4, .int (tWb (a 0) k i)), (0, .ref h), (1, .int (nI k))]) hx hb dX6_finds_126 hl (k := 3) rfl (nI_add i 1) (by decide) rfl (fun ls hl => ?_)
                  refine lv_goto (tgt := 25) hx hb dX6_finds_129 (by decide) ?_
                  have hl := Eq.mp (congrArg (fun z9 => lv_has ls 6 [(3, .int (nI (i + 1))), (2, .int z9), (5, .int (oI (tCr (a 0) k i))), (4, .int (tWb (a 0) k i)), (0, .ref h), (1, .int (nI k))]) (show tWb (a 0) k i = (tFd (a 0) k (i + 1)).2.2.2 from by first | contradiction | simp [tFd, c33, c46, c78, c89, c103, c116])) hl
                  have hl := lv_sub (l' := [(3, .int (nI (i + 1))), (2, .int ((tFd (a 0) k (i + 1)).2.2.2)), (0, .ref h), (1, .int (nI k))]) hl [0, 1, 4, 5] rfl
                  have hM : tM E w h ad f (va_up (va_up (va_up a 14 (va_up (a 14) k (tFd (a 0) k (i + 1)).1)) 15 (va_up (a 15) k (tFd (a 0) k (i + 1)).2.1)) 16 (va_up (a 16) k (tFd (a 0) k (i + 1)).2.2.1)) := hM.of (by first | contradiction | simp [tFd, c33, c46, c78, c89, c103, c116])
                  exact ih_25 (i + 1) (by omega) (by omega) _ _ _ _ hM hF hP hS hl
              · skip
                refine lv_aload_n hx hb dX6_finds_106 rfl (lv_at hl 4 rfl) ?_
                refine tw_get hx hb hts hown hG hP hM 15 (by decide) (hts _ q1635) (fun _ h9 => h9) (v := .ref (ad 15)) rfl dX6_finds_107 ?_
                refine lv_iload_n hx hb dX6_finds_110 rfl (lv_at hl 5 rfl) ?_
                refine lv_iload_n hx hb dX6_finds_111 rfl (lv_at hl 2 rfl) ?_
                refine tw_ast hx hb hG hP hS hM hF 15 (by decide) (j := k) (show k < 6 from by omega) (x := (nI i)) dX6_finds_112 (fun w H locs hM hF hP hS => ?_)
                have hM : tM E w h ad f (va_up (va_up (va_up (va_up a 14 (va_up (a 14) k (oI (tCr (a 0) k i)))) 15 (va_up (a 15) k (tFd (a 0) k i).2.1)) 16 (va_up (a 16) k ((tFd (a 0) k i).2.2.1 ||| ((1 : Int32) <<< ((nI i) &&& 31))))) 15 (va_up (va_up (a 15) k (tFd (a 0) k i).2.1) k (nI i))) := hM
                have hM : tM E w h ad f (va_up (va_up (va_up a 14 (va_up (a 14) k (oI (tCr (a 0) k i)))) 15 (va_up (va_up (a 15) k (tFd (a 0) k i).2.1) k (nI i))) 16 (va_up (a 16) k ((tFd (a 0) k i).2.2.1 ||| ((1 : Int32) <<< ((nI i) &&& 31))))) := hM.of (by rw [up_cm _ 15 16 _ _ (by decide), bx_uu])
                have hM : tM E w h ad f (va_up (va_up (va_up a 14 (va_up (a 14) k (oI (tCr (a 0) k i)))) 15 (va_up (a 15) k (nI i))) 16 (va_up (a 16) k ((tFd (a 0) k i).2.2.1 ||| ((1 : Int32) <<< ((nI i) &&& 31))))) := hM.of (by rw [bx_uu])
                refine lv_iload hx hb dX6_finds_113 (lv_at hl 1 rfl) ?_
                refine lv_iload_n hx hb dX6_finds_115 rfl (lv_at hl 3 rfl) ?_
                refine lv_icmp_le (tgt := 124) hx hb dX6_finds_116 (by decide) (fun c116 => ?_) (fun c116 => ?_)
                · skip
                  refine lv_iload_n hx hb dX6_finds_124 rfl (lv_at hl 3 rfl) ?_
                  refine lv_istore_n (lv' := [(2, .int ((tFd (a 0) k i).2.2.2)), (5, .int (oI (tCr (a 0) k i))), (4, .int (tWb (a 0) k i)), (3, .int (nI i)), (0, .ref h), (1, .int (nI k))]) hx hb dX6_finds_125 rfl hl (by decide) rfl (fun ls hl => ?_)
                  refine lv_iinc (v := (nI (i + 1))) (lv' := [(3, .int (nI (i + 1))), (2, .int ((tFd (a 0) k i).2.2.2)), (5, .int (oI (tCr (a 0) k i))), (4, .int (tWb (a 0) k i)), (0, .ref h), (1, .int (nI k))]) hx hb dX6_finds_126 hl (k := 3) rfl (nI_add i 1) (by decide) rfl (fun ls hl => ?_)
                  refine lv_goto (tgt := 25) hx hb dX6_finds_129 (by decide) ?_
                  have hl := Eq.mp (congrArg (fun z9 => lv_has ls 6 [(3, .int (nI (i + 1))), (2, .int z9), (5, .int (oI (tCr (a 0) k i))), (4, .int (tWb (a 0) k i)), (0, .ref h), (1, .int (nI k))]) (show (tFd (a 0) k i).2.2.2 = (tFd (a 0) k (i + 1)).2.2.2 from by first | contradiction | simp [tFd, c33, c46, c78, c89, c103, c116])) hl
                  have hl := lv_sub (l' := [(3, .int (nI (i + 1))), (2, .int ((tFd (a 0) k (i + 1)).2.2.2)), (0, .ref h), (1, .int (nI k))]) hl [0, 1, 4, 5] rfl
                  have hM : tM E w h ad f (va_up (va_up (va_up a 14 (va_up (a 14) k (tFd (a 0) k (i + 1)).1)) 15 (va_up (a 15) k (tFd (a 0) k (i + 1)).2.1)) 16 (va_up (a 16) k (tFd (a 0) k (i + 1)).2.2.1)) := hM.of (by first | contradiction | simp [tFd, c33, c46, c78, c89, c103, c116])
                  exact ih_25 (i + 1) (by omega) (by omega) _ _ _ _ hM hF hP hS hl
                · skip
                  refine lv_iload hx hb dX6_finds_119 (lv_at hl 1 rfl) ?_
                  refine lv_goto (tgt := 125) hx hb dX6_finds_121 (by decide) ?_
                  refine lv_istore_n (lv' := [(2, .int (tWb (a 0) k i)), (5, .int (oI (tCr (a 0) k i))), (4, .int (tWb (a 0) k i)), (3, .int (nI i)), (0, .ref h), (1, .int (nI k))]) hx hb dX6_finds_125 rfl hl (by decide) rfl (fun ls hl => ?_)
                  refine lv_iinc (v := (nI (i + 1))) (lv' := [(3, .int (nI (i + 1))), (2, .int (tWb (a 0) k i)), (5, .int (oI (tCr (a 0) k i))), (4, .int (tWb (a 0) k i)), (0, .ref h), (1, .int (nI k))]) hx hb dX6_finds_126 hl (k := 3) rfl (nI_add i 1) (by decide) rfl (fun ls hl => ?_)
                  refine lv_goto (tgt := 25) hx hb dX6_finds_129 (by decide) ?_
                  have hl := Eq.mp (congrArg (fun z9 => lv_has ls 6 [(3, .int (nI (i + 1))), (2, .int z9), (5, .int (oI (tCr (a 0) k i))), (4, .int (tWb (a 0) k i)), (0, .ref h), (1, .int (nI k))]) (show tWb (a 0) k i = (tFd (a 0) k (i + 1)).2.2.2 from by first | contradiction | simp [tFd, c33, c46, c78, c89, c103, c116])) hl
                  have hl := lv_sub (l' := [(3, .int (nI (i + 1))), (2, .int ((tFd (a 0) k (i + 1)).2.2.2)), (0, .ref h), (1, .int (nI k))]) hl [0, 1, 4, 5] rfl
                  have hM : tM E w h ad f (va_up (va_up (va_up a 14 (va_up (a 14) k (tFd (a 0) k (i + 1)).1)) 15 (va_up (a 15) k (tFd (a 0) k (i + 1)).2.1)) 16 (va_up (a 16) k (tFd (a 0) k (i + 1)).2.2.1)) := hM.of (by first | contradiction | simp [tFd, c33, c46, c78, c89, c103, c116])
                  exact ih_25 (i + 1) (by omega) (by omega) _ _ _ _ hM hF hP hS hl
        · skip
          refine lv_goto (tgt := 126) hx hb dX6_finds_49 (by decide) ?_
          refine lv_iinc (v := (nI (i + 1))) (lv' := [(3, .int (nI (i + 1))), (4, .int (tWb (a 0) k i)), (2, .int ((tFd (a 0) k i).2.2.2)), (0, .ref h), (1, .int (nI k))]) hx hb dX6_finds_126 hl (k := 1) rfl (nI_add i 1) (by decide) rfl (fun ls hl => ?_)
          refine lv_goto (tgt := 25) hx hb dX6_finds_129 (by decide) ?_
          have hl := Eq.mp (congrArg (fun z9 => lv_has ls 6 [(3, .int (nI (i + 1))), (4, .int (tWb (a 0) k i)), (2, .int z9), (0, .ref h), (1, .int (nI k))]) (show (tFd (a 0) k i).2.2.2 = (tFd (a 0) k (i + 1)).2.2.2 from by first | contradiction | simp [tFd, c33, c46])) hl
          have hl := lv_sub (l' := [(3, .int (nI (i + 1))), (2, .int ((tFd (a 0) k (i + 1)).2.2.2)), (0, .ref h), (1, .int (nI k))]) hl [0, 2, 3, 4] rfl
          have hM : tM E w h ad f (va_up (va_up (va_up a 14 (va_up (a 14) k (tFd (a 0) k (i + 1)).1)) 15 (va_up (a 15) k (tFd (a 0) k (i + 1)).2.1)) 16 (va_up (a 16) k (tFd (a 0) k (i + 1)).2.2.1)) := hM.of (by first | contradiction | simp [tFd, c33, c46])
          exact ih_25 (i + 1) (by omega) (by omega) _ _ _ _ hM hF hP hS hl
  have hl : lv_has ls 6 [(3, .int (nI 0)), (2, .int ((tFd (a 0) k 0).2.2.2)), (0, .ref h), (1, .int (nI k))] := hl
  have hM : tM E w h ad f (va_up (va_up (va_up a 14 (va_up (a 14) k (tFd (a 0) k 0).1)) 15 (va_up (a 15) k (tFd (a 0) k 0).2.1)) 16 (va_up (a 16) k (tFd (a 0) k 0).2.2.1)) := hM
  exact hloop_25 _ 0 (by omega) (Nat.lt_succ_self _) _ _ _ _ hM hF hP hS hl

abbrev rmCX6_cuts : Room := { frames := 4, cells := 0, slots := 0, locals := 89 }
theorem dyX6_cuts : yX6_cuts.cls = RX6 ∧ yX6_cuts.cls ≠ "java/lang/invoke/MethodHandle" ∧ yX6_cuts.cls ≠ "java/lang/invoke/VarHandle" ∧ (parseMethodDescriptor yX6_cuts.desc).map (fun d => d.parameters.length) = some 1 := by decide +kernel
set_option maxHeartbeats 4000000 in
theorem CX6_cuts (l0 : Launch) (E : gE) (w : wd) (h : Nat) (ad : Nat → Nat) (f : Nat → Int32) (a : Nat → Nat → Int32) (k : Nat) (z : Nat) (hM : tM E w h ad f a) (hk : k < 6) (hz : z ≤ 10) (hA : (a 14) k = nI z) : kC l0 yX6_cuts (ws_ yX6_cuts cX6_cuts 4 none) rmCX6_cuts 0 0 mV E w [.ref h, .int (nI k)] (fun r w' => ∃ f' a', (f' = f ∧ a' = (va_up a 0 (tCu (a 0) k (tBl (a 0) k z) ((a 0) (kO k 5) - tBl (a 0) k z) (nI z) ((a 16) k)))) ∧ tM E w' h ad f' a' ∧ fr tP w w') := by
  refine k_open (cc := cX6_cuts) (maxL := 4) (ret := none) (by decide) rfl (Nat.le_of_ble_eq_true rfl) ?_
  intro p e s m args below meth c ls Q hx hb hr hml hown hts hlocks hname hQ hG hP hl hS
  have hl : lv_has ls 4 [(0, .ref h), (1, .int (nI k))] := hl
  obtain ⟨w0, hw0⟩ : ∃ z, z = w := ⟨_, rfl⟩
  have hF : fr tP w0 w := by rw [hw0]; exact fr.rf
  rw [← hw0] at hQ
  refine lv_aload_n hx hb dX6_cuts_0 rfl (lv_at hl 0 rfl) ?_
  refine lv_iload_n hx hb dX6_cuts_1 rfl (lv_at hl 1 rfl) ?_
  refine lv_aload_n hx hb dX6_cuts_2 rfl (lv_at hl 0 rfl) ?_
  refine tw_get hx hb hts hown hG hP hM 14 (by decide) (hts _ q1634) (fun _ h9 => h9) (v := .ref (ad 14)) rfl dX6_cuts_3 ?_
  refine lv_iload_n hx hb dX6_cuts_6 rfl (lv_at hl 1 rfl) ?_
  refine tw_ald hx hb hG hP hM 14 (by decide) (j := k) (show k < 6 from by omega) dX6_cuts_7 ?_
  refine k_top (y := (nI z)) (hA) ?_
  refine tw_cR hx hb hml hown hts (val := tBl (a 0) k z) (CX6_takesBelow l0 E w h ad f a k z hM (by omega) (by omega)) (cwV 2 hts (lw_V q1793 q1795 qs50 q81 q1796) rfl rfl rfl dyX6_takesBelow ⟨Nat.le_of_ble_eq_true rfl, Nat.le_of_ble_eq_true rfl⟩) hG hP hS hM (As := [.int (nI k), .int (nI z)]) (rest := []) rfl hl.1 rfl (lv_room (Nat.le_of_ble_eq_true rfl)) dX6_cuts_8 ⟨by omega, by omega⟩ (fun H locs hP hS => ?_)
  refine lv_istore_n (lv' := [(2, .int (tBl (a 0) k z)), (0, .ref h), (1, .int (nI k))]) hx hb dX6_cuts_11 rfl hl (by decide) rfl (fun ls hl => ?_)
  refine lv_aload_n hx hb dX6_cuts_12 rfl (lv_at hl 1 rfl) ?_
  refine lv_iload_n hx hb dX6_cuts_13 rfl (lv_at hl 2 rfl) ?_
  refine lv_iconst (v := 5) hx hb dX6_cuts_14 (by decide) ?_
  refine tw_cR hx hb hml hown hts (val := (a 0) (kO k 5)) (CX6_of l0 E w h ad f a k 5 hM (by omega) (by omega)) (cwV 2 hts (lw_V q1730 q1732 qs40 q81 q1733) rfl rfl rfl dyX6_of ⟨Nat.le_of_ble_eq_true rfl, Nat.le_of_ble_eq_true rfl⟩) hG hP hS hM (As := [.int (nI k), .int 5]) (rest := []) rfl hl.1 rfl (lv_room (Nat.le_of_ble_eq_true rfl)) dX6_cuts_15 ⟨by omega, by omega⟩ (fun H locs hP hS => ?_)
  refine lv_iload_n hx hb dX6_cuts_18 rfl (lv_at hl 0 rfl) ?_
  refine lv_isub hx hb dX6_cuts_19 ?_
  refine lv_istore_n (lv' := [(3, .int ((a 0) (kO k 5) - tBl (a 0) k z)), (2, .int (tBl (a 0) k z)), (0, .ref h), (1, .int (nI k))]) hx hb dX6_cuts_20 rfl hl (by decide) rfl (fun ls hl => ?_)
  refine lv_aload_n hx hb dX6_cuts_21 rfl (lv_at hl 2 rfl) ?_
  refine tw_get hx hb hts hown hG hP hM 0 (by decide) (hts _ q1620) (fun _ h9 => h9) (v := .ref (ad 0)) rfl dX6_cuts_22 ?_
  refine lv_bipush (v := 23) hx hb dX6_cuts_25 (by decide) ?_
  refine lv_dup2_11 hx hb dX6_cuts_27 rfl rfl ?_
  refine tw_ald hx hb hG hP hM 0 (by decide) (j := 23) (show 23 < 116 from by omega) dX6_cuts_28 ?_
  refine lv_iload_n hx hb dX6_cuts_29 rfl (lv_at hl 1 rfl) ?_
  refine lv_iadd hx hb dX6_cuts_30 ?_
  refine tw_ast hx hb hG hP hS hM hF 0 (by decide) (j := 23) (show 23 < 116 from by omega) (x := (((a 0) 23) + tBl (a 0) k z)) dX6_cuts_31 (fun w H locs hM hF hP hS => ?_)
  have hM : tM E w h ad f (va_up a 0 (va_up (a 0) 23 (((a 0) 23) + tBl (a 0) k z))) := hM
  refine lv_aload_n hx hb dX6_cuts_32 rfl (lv_at hl 2 rfl) ?_
  refine tw_get hx hb hts hown hG hP hM 0 (by decide) (hts _ q1620) (fun _ h9 => h9) (v := .ref (ad 0)) rfl dX6_cuts_33 ?_
  refine lv_bipush (v := 22) hx hb dX6_cuts_36 (by decide) ?_
  refine lv_dup2_11 hx hb dX6_cuts_38 rfl rfl ?_
  refine tw_ald hx hb hG hP hM 0 (by decide) (j := 22) (show 22 < 116 from by omega) dX6_cuts_39 ?_
  refine k_top (y := ((va_up (a 0) 23 (((a 0) 23) + tBl (a 0) k z)) 22)) rfl ?_
  refine k_top (y := ((a 0) 22)) (by repeat (rw [up_n (by first | decide | (unfold kO; omega))])) ?_
  refine lv_iload_n hx hb dX6_cuts_40 rfl (lv_at hl 0 rfl) ?_
  refine lv_iadd hx hb dX6_cuts_41 ?_
  refine tw_ast hx hb hG hP hS hM hF 0 (by decide) (j := 22) (show 22 < 116 from by omega) (x := (((a 0) 22) + ((a 0) (kO k 5) - tBl (a 0) k z))) dX6_cuts_42 (fun w H locs hM hF hP hS => ?_)
  have hM : tM E w h ad f (va_up a 0 (va_up (va_up (a 0) 23 (((a 0) 23) + tBl (a 0) k z)) 22 (((a 0) 22) + ((a 0) (kO k 5) - tBl (a 0) k z)))) := hM.uu
  refine lv_aload_n hx hb dX6_cuts_43 rfl (lv_at hl 2 rfl) ?_
  refine tw_get hx hb hts hown hG hP hM 0 (by decide) (hts _ q1620) (fun _ h9 => h9) (v := .ref (ad 0)) rfl dX6_cuts_44 ?_
  refine lv_bipush (v := 24) hx hb dX6_cuts_47 (by decide) ?_
  refine lv_dup2_11 hx hb dX6_cuts_49 rfl rfl ?_
  refine tw_ald hx hb hG hP hM 0 (by decide) (j := 24) (show 24 < 116 from by omega) dX6_cuts_50 ?_
  refine k_top (y := ((va_up (va_up (a 0) 23 (((a 0) 23) + tBl (a 0) k z)) 22 (((a 0) 22) + ((a 0) (kO k 5) - tBl (a 0) k z))) 24)) rfl ?_
  refine k_top (y := ((a 0) 24)) (by repeat (rw [up_n (by first | decide | (unfold kO; omega))])) ?_
  refine lv_iconst (v := 1) hx hb dX6_cuts_51 (by decide) ?_
  refine lv_iadd hx hb dX6_cuts_52 ?_
  refine tw_ast hx hb hG hP hS hM hF 0 (by decide) (j := 24) (show 24 < 116 from by omega) (x := (((a 0) 24) + 1)) dX6_cuts_53 (fun w H locs hM hF hP hS => ?_)
  have hM : tM E w h ad f (va_up a 0 (va_up (va_up (va_up (a 0) 23 (((a 0) 23) + tBl (a 0) k z)) 22 (((a 0) 22) + ((a 0) (kO k 5) - tBl (a 0) k z))) 24 (((a 0) 24) + 1))) := hM.uu
  refine lv_aload_n hx hb dX6_cuts_54 rfl (lv_at hl 2 rfl) ?_
  refine lv_iload_n hx hb dX6_cuts_55 rfl (lv_at hl 3 rfl) ?_
  refine lv_iconst (v := 3) hx hb dX6_cuts_56 (by decide) ?_
  refine lv_aload_n hx hb dX6_cuts_57 rfl (lv_at hl 2 rfl) ?_
  refine lv_iload_n hx hb dX6_cuts_58 rfl (lv_at hl 3 rfl) ?_
  refine lv_iconst (v := 3) hx hb dX6_cuts_59 (by decide) ?_
  refine tw_cR hx hb hml hown hts (val := (va_up (va_up (va_up (a 0) 23 (((a 0) 23) + tBl (a 0) k z)) 22 (((a 0) 22) + ((a 0) (kO k 5) - tBl (a 0) k z))) 24 (((a 0) 24) + 1)) (kO k 3)) (CX6_of l0 E w h ad f (va_up a 0 (va_up (va_up (va_up (a 0) 23 (((a 0) 23) + tBl (a 0) k z)) 22 (((a 0) 22) + ((a 0) (kO k 5) - tBl (a 0) k z))) 24 (((a 0) 24) + 1))) k 3 hM (by omega) (by omega)) (cwV 2 hts (lw_V q1730 q1732 qs40 q81 q1733) rfl rfl rfl dyX6_of ⟨Nat.le_of_ble_eq_true rfl, Nat.le_of_ble_eq_true rfl⟩) hG hP hS hM (As := [.int (nI k), .int 3]) (rest := [.int 3, .int (nI k), .ref h]) rfl hl.1 rfl (lv_room (Nat.le_of_ble_eq_true rfl)) dX6_cuts_60 ⟨by omega, by omega⟩ (fun H locs hP hS => ?_)
  refine k_top (y := ((a 0) (kO k 3))) (by repeat (rw [up_n (by first | decide | (unfold kO; omega))])) ?_
  refine lv_iload_n hx hb dX6_cuts_63 rfl (lv_at hl 0 rfl) ?_
  refine lv_isub hx hb dX6_cuts_64 ?_
  refine tw_cW hx hb hml hown hts (CX6_lays l0 E w h ad f (va_up a 0 (va_up (va_up (va_up (a 0) 23 (((a 0) 23) + tBl (a 0) k z)) 22 (((a 0) 22) + ((a 0) (kO k 5) - tBl (a 0) k z))) 24 (((a 0) 24) + 1))) k 3 (((a 0) (kO k 3)) - ((a 0) (kO k 5) - tBl (a 0) k z)) hM (by omega) (by omega)) (cwV 3 hts (lw_V q1718 q1720 qs38 q81 q1721) rfl rfl rfl dyX6_lays ⟨Nat.le_of_ble_eq_true rfl, Nat.le_of_ble_eq_true rfl⟩) hG hP hS hM hF (As := [.int (nI k), .int 3, .int (((a 0) (kO k 3)) - ((a 0) (kO k 5) - tBl (a 0) k z))]) (rest := []) rfl hl.1 rfl (lv_room (Nat.le_of_ble_eq_true rfl)) dX6_cuts_65 ⟨by omega, by omega⟩ (fun r65 f65 a65 w H locs hp hM hF hP hS => ?_)
  obtain ⟨hp1, hp2⟩ := hp
  have hM := hM.ofF hp1 hp2
  have hM : tM E w h ad f (va_up a 0 (va_up (va_up (va_up (va_up (a 0) 23 (((a 0) 23) + tBl (a 0) k z)) 22 (((a 0) 22) + ((a 0) (kO k 5) - tBl (a 0) k z))) 24 (((a 0) 24) + 1)) (kO k 3) (((a 0) (kO k 3)) - ((a 0) (kO k 5) - tBl (a 0) k z)))) := hM.uu
  refine lv_aload_n hx hb dX6_cuts_68 rfl (lv_at hl 2 rfl) ?_
  refine lv_iload_n hx hb dX6_cuts_69 rfl (lv_at hl 3 rfl) ?_
  refine lv_bipush (v := 13) hx hb dX6_cuts_70 (by decide) ?_
  refine lv_aload_n hx hb dX6_cuts_72 rfl (lv_at hl 2 rfl) ?_
  refine lv_iload_n hx hb dX6_cuts_73 rfl (lv_at hl 3 rfl) ?_
  refine lv_bipush (v := 13) hx hb dX6_cuts_74 (by decide) ?_
  refine tw_cR hx hb hml hown hts (val := (va_up (va_up (va_up (va_up (a 0) 23 (((a 0) 23) + tBl (a 0) k z)) 22 (((a 0) 22) + ((a 0) (kO k 5) - tBl (a 0) k z))) 24 (((a 0) 24) + 1)) (kO k 3) (((a 0) (kO k 3)) - ((a 0) (kO k 5) - tBl (a 0) k z))) (kO k 13)) (CX6_of l0 E w h ad f (va_up a 0 (va_up (va_up (va_up (va_up (a 0) 23 (((a 0) 23) + tBl (a 0) k z)) 22 (((a 0) 22) + ((a 0) (kO k 5) - tBl (a 0) k z))) 24 (((a 0) 24) + 1)) (kO k 3) (((a 0) (kO k 3)) - ((a 0) (kO k 5) - tBl (a 0) k z)))) k 13 hM (by omega) (by omega)) (cwV 2 hts (lw_V q1730 q1732 qs40 q81 q1733) rfl rfl rfl dyX6_of ⟨Nat.le_of_ble_eq_true rfl, Nat.le_of_ble_eq_true rfl⟩) hG hP hS hM (As := [.int (nI k), .int 13]) (rest := [.int 13, .int (nI k), .ref h]) rfl hl.1 rfl (lv_room (Nat.le_of_ble_eq_true rfl)) dX6_cuts_76 ⟨by omega, by omega⟩ (fun H locs hP hS => ?_)
  refine k_top (y := ((a 0) (kO k 13))) (by repeat (rw [up_n (by first | decide | (unfold kO; omega))])) ?_
  refine lv_iload_n hx hb dX6_cuts_79 rfl (lv_at hl 0 rfl) ?_
  refine lv_iadd hx hb dX6_cuts_80 ?_
  refine tw_cW hx hb hml hown hts (CX6_lays l0 E w h ad f (va_up a 0 (va_up (va_up (va_up (va_up (a 0) 23 (((a 0) 23) + tBl (a 0) k z)) 22 (((a 0) 22) + ((a 0) (kO k 5) - tBl (a 0) k z))) 24 (((a 0) 24) + 1)) (kO k 3) (((a 0) (kO k 3)) - ((a 0) (kO k 5) - tBl (a 0) k z)))) k 13 (((a 0) (kO k 13)) + ((a 0) (kO k 5) - tBl (a 0) k z)) hM (by omega) (by omega)) (cwV 3 hts (lw_V q1718 q1720 qs38 q81 q1721) rfl rfl rfl dyX6_lays ⟨Nat.le_of_ble_eq_true rfl, Nat.le_of_ble_eq_true rfl⟩) hG hP hS hM hF (As := [.int (nI k), .int 13, .int (((a 0) (kO k 13)) + ((a 0) (kO k 5) - tBl (a 0) k z))]) (rest := []) rfl hl.1 rfl (lv_room (Nat.le_of_ble_eq_true rfl)) dX6_cuts_81 ⟨by omega, by omega⟩ (fun r81 f81 a81 w H locs hp hM hF hP hS => ?_)
  obtain ⟨hp1, hp2⟩ := hp
  have hM := hM.ofF hp1 hp2
  have hM : tM E w h ad f (va_up a 0 (va_up (va_up (va_up (va_up (va_up (a 0) 23 (((a 0) 23) + tBl (a 0) k z)) 22 (((a 0) 22) + ((a 0) (kO k 5) - tBl (a 0) k z))) 24 (((a 0) 24) + 1)) (kO k 3) (((a 0) (kO k 3)) - ((a 0) (kO k 5) - tBl (a 0) k z))) (kO k 13) (((a 0) (kO k 13)) + ((a 0) (kO k 5) - tBl (a 0) k z)))) := hM.uu
  refine lv_aload_n hx hb dX6_cuts_84 rfl (lv_at hl 2 rfl) ?_
  refine lv_iload_n hx hb dX6_cuts_85 rfl (lv_at hl 3 rfl) ?_
  refine lv_iconst (v := 5) hx hb dX6_cuts_86 (by decide) ?_
  refine lv_iconst (v := 0) hx hb dX6_cuts_87 (by decide) ?_
  refine tw_cW hx hb hml hown hts (CX6_lays l0 E w h ad f (va_up a 0 (va_up (va_up (va_up (va_up (va_up (a 0) 23 (((a 0) 23) + tBl (a 0) k z)) 22 (((a 0) 22) + ((a 0) (kO k 5) - tBl (a 0) k z))) 24 (((a 0) 24) + 1)) (kO k 3) (((a 0) (kO k 3)) - ((a 0) (kO k 5) - tBl (a 0) k z))) (kO k 13) (((a 0) (kO k 13)) + ((a 0) (kO k 5) - tBl (a 0) k z)))) k 5 0 hM (by omega) (by omega)) (cwV 3 hts (lw_V q1718 q1720 qs38 q81 q1721) rfl rfl rfl dyX6_lays ⟨Nat.le_of_ble_eq_true rfl, Nat.le_of_ble_eq_true rfl⟩) hG hP hS hM hF (As := [.int (nI k), .int 5, .int 0]) (rest := []) rfl hl.1 rfl (lv_room (Nat.le_of_ble_eq_true rfl)) dX6_cuts_88 ⟨by omega, by omega⟩ (fun r88 f88 a88 w H locs hp hM hF hP hS => ?_)
  obtain ⟨hp1, hp2⟩ := hp
  have hM := hM.ofF hp1 hp2
  have hM : tM E w h ad f (va_up a 0 (va_up (va_up (va_up (va_up (va_up (va_up (a 0) 23 (((a 0) 23) + tBl (a 0) k z)) 22 (((a 0) 22) + ((a 0) (kO k 5) - tBl (a 0) k z))) 24 (((a 0) 24) + 1)) (kO k 3) (((a 0) (kO k 3)) - ((a 0) (kO k 5) - tBl (a 0) k z))) (kO k 13) (((a 0) (kO k 13)) + ((a 0) (kO k 5) - tBl (a 0) k z))) (kO k 5) 0)) := hM.uu
  refine lv_aload_n hx hb dX6_cuts_91 rfl (lv_at hl 2 rfl) ?_
  refine lv_iload_n hx hb dX6_cuts_92 rfl (lv_at hl 3 rfl) ?_
  refine lv_iconst (v := 0) hx hb dX6_cuts_93 (by decide) ?_
  refine lv_iconst (v := 2) hx hb dX6_cuts_94 (by decide) ?_
  refine tw_cW hx hb hml hown hts (CX6_lays l0 E w h ad f (va_up a 0 (va_up (va_up (va_up (va_up (va_up (va_up (a 0) 23 (((a 0) 23) + tBl (a 0) k z)) 22 (((a 0) 22) + ((a 0) (kO k 5) - tBl (a 0) k z))) 24 (((a 0) 24) + 1)) (kO k 3) (((a 0) (kO k 3)) - ((a 0) (kO k 5) - tBl (a 0) k z))) (kO k 13) (((a 0) (kO k 13)) + ((a 0) (kO k 5) - tBl (a 0) k z))) (kO k 5) 0)) k 0 2 hM (by omega) (by omega)) (cwV 3 hts (lw_V q1718 q1720 qs38 q81 q1721) rfl rfl rfl dyX6_lays ⟨Nat.le_of_ble_eq_true rfl, Nat.le_of_ble_eq_true rfl⟩) hG hP hS hM hF (As := [.int (nI k), .int 0, .int 2]) (rest := []) rfl hl.1 rfl (lv_room (Nat.le_of_ble_eq_true rfl)) dX6_cuts_95 ⟨by omega, by omega⟩ (fun r95 f95 a95 w H locs hp hM hF hP hS => ?_)
  obtain ⟨hp1, hp2⟩ := hp
  have hM := hM.ofF hp1 hp2
  have hM : tM E w h ad f (va_up a 0 (va_up (va_up (va_up (va_up (va_up (va_up (va_up (a 0) 23 (((a 0) 23) + tBl (a 0) k z)) 22 (((a 0) 22) + ((a 0) (kO k 5) - tBl (a 0) k z))) 24 (((a 0) 24) + 1)) (kO k 3) (((a 0) (kO k 3)) - ((a 0) (kO k 5) - tBl (a 0) k z))) (kO k 13) (((a 0) (kO k 13)) + ((a 0) (kO k 5) - tBl (a 0) k z))) (kO k 5) 0) (kO k 0) 2)) := hM.uu
  refine lv_aload_n hx hb dX6_cuts_98 rfl (lv_at hl 2 rfl) ?_
  refine lv_iload_n hx hb dX6_cuts_99 rfl (lv_at hl 3 rfl) ?_
  refine lv_bipush (v := 9) hx hb dX6_cuts_100 (by decide) ?_
  refine lv_aload_n hx hb dX6_cuts_102 rfl (lv_at hl 2 rfl) ?_
  refine tw_get hx hb hts hown hG hP hM 0 (by decide) (hts _ q1620) (fun _ h9 => h9) (v := .ref (ad 0)) rfl dX6_cuts_103 ?_
  refine lv_bipush (v := 20) hx hb dX6_cuts_106 (by decide) ?_
  refine tw_ald hx hb hG hP hM 0 (by decide) (j := 20) (show 20 < 116 from by omega) dX6_cuts_108 ?_
  refine k_top (y := ((va_up (va_up (va_up (va_up (va_up (va_up (va_up (a 0) 23 (((a 0) 23) + tBl (a 0) k z)) 22 (((a 0) 22) + ((a 0) (kO k 5) - tBl (a 0) k z))) 24 (((a 0) 24) + 1)) (kO k 3) (((a 0) (kO k 3)) - ((a 0) (kO k 5) - tBl (a 0) k z))) (kO k 13) (((a 0) (kO k 13)) + ((a 0) (kO k 5) - tBl (a 0) k z))) (kO k 5) 0) (kO k 0) 2) 20)) rfl ?_
  refine k_top (y := ((a 0) 20)) (by repeat (rw [up_n (by first | decide | (unfold kO; omega))])) ?_
  refine tw_cW hx hb hml hown hts (CX6_lays l0 E w h ad f (va_up a 0 (va_up (va_up (va_up (va_up (va_up (va_up (va_up (a 0) 23 (((a 0) 23) + tBl (a 0) k z)) 22 (((a 0) 22) + ((a 0) (kO k 5) - tBl (a 0) k z))) 24 (((a 0) 24) + 1)) (kO k 3) (((a 0) (kO k 3)) - ((a 0) (kO k 5) - tBl (a 0) k z))) (kO k 13) (((a 0) (kO k 13)) + ((a 0) (kO k 5) - tBl (a 0) k z))) (kO k 5) 0) (kO k 0) 2)) k 9 ((a 0) 20) hM (by omega) (by omega)) (cwV 3 hts (lw_V q1718 q1720 qs38 q81 q1721) rfl rfl rfl dyX6_lays ⟨Nat.le_of_ble_eq_true rfl, Nat.le_of_ble_eq_true rfl⟩) hG hP hS hM hF (As := [.int (nI k), .int 9, .int ((a 0) 20)]) (rest := []) rfl hl.1 rfl (lv_room (Nat.le_of_ble_eq_true rfl)) dX6_cuts_109 ⟨by omega, by omega⟩ (fun r109 f109 a109 w H locs hp hM hF hP hS => ?_)
  obtain ⟨hp1, hp2⟩ := hp
  have hM := hM.ofF hp1 hp2
  have hM : tM E w h ad f (va_up a 0 (va_up (va_up (va_up (va_up (va_up (va_up (va_up (va_up (a 0) 23 (((a 0) 23) + tBl (a 0) k z)) 22 (((a 0) 22) + ((a 0) (kO k 5) - tBl (a 0) k z))) 24 (((a 0) 24) + 1)) (kO k 3) (((a 0) (kO k 3)) - ((a 0) (kO k 5) - tBl (a 0) k z))) (kO k 13) (((a 0) (kO k 13)) + ((a 0) (kO k 5) - tBl (a 0) k z))) (kO k 5) 0) (kO k 0) 2) (kO k 9) ((a 0) 20))) := hM.uu
  refine lv_aload_n hx hb dX6_cuts_112 rfl (lv_at hl 2 rfl) ?_
  refine lv_iload_n hx hb dX6_cuts_113 rfl (lv_at hl 3 rfl) ?_
  refine lv_bipush (v := 10) hx hb dX6_cuts_114 (by decide) ?_
  refine lv_aload_n hx hb dX6_cuts_116 rfl (lv_at hl 2 rfl) ?_
  refine tw_get hx hb hts hown hG hP hM 14 (by decide) (hts _ q1634) (fun _ h9 => h9) (v := .ref (ad 14)) rfl dX6_cuts_117 ?_
  refine lv_iload_n hx hb dX6_cuts_120 rfl (lv_at hl 3 rfl) ?_
  refine tw_ald hx hb hG hP hM 14 (by decide) (j := k) (show k < 6 from by omega) dX6_cuts_121 ?_
  refine k_top (y := ((a 14) k)) rfl ?_
  refine k_top (y := (nI z)) (hA) ?_
  refine tw_cW hx hb hml hown hts (CX6_lays l0 E w h ad f (va_up a 0 (va_up (va_up (va_up (va_up (va_up (va_up (va_up (va_up (a 0) 23 (((a 0) 23) + tBl (a 0) k z)) 22 (((a 0) 22) + ((a 0) (kO k 5) - tBl (a 0) k z))) 24 (((a 0) 24) + 1)) (kO k 3) (((a 0) (kO k 3)) - ((a 0) (kO k 5) - tBl (a 0) k z))) (kO k 13) (((a 0) (kO k 13)) + ((a 0) (kO k 5) - tBl (a 0) k z))) (kO k 5) 0) (kO k 0) 2) (kO k 9) ((a 0) 20))) k 10 (nI z) hM (by omega) (by omega)) (cwV 3 hts (lw_V q1718 q1720 qs38 q81 q1721) rfl rfl rfl dyX6_lays ⟨Nat.le_of_ble_eq_true rfl, Nat.le_of_ble_eq_true rfl⟩) hG hP hS hM hF (As := [.int (nI k), .int 10, .int (nI z)]) (rest := []) rfl hl.1 rfl (lv_room (Nat.le_of_ble_eq_true rfl)) dX6_cuts_122 ⟨by omega, by omega⟩ (fun r122 f122 a122 w H locs hp hM hF hP hS => ?_)
  obtain ⟨hp1, hp2⟩ := hp
  have hM := hM.ofF hp1 hp2
  have hM : tM E w h ad f (va_up a 0 (va_up (va_up (va_up (va_up (va_up (va_up (va_up (va_up (va_up (a 0) 23 (((a 0) 23) + tBl (a 0) k z)) 22 (((a 0) 22) + ((a 0) (kO k 5) - tBl (a 0) k z))) 24 (((a 0) 24) + 1)) (kO k 3) (((a 0) (kO k 3)) - ((a 0) (kO k 5) - tBl (a 0) k z))) (kO k 13) (((a 0) (kO k 13)) + ((a 0) (kO k 5) - tBl (a 0) k z))) (kO k 5) 0) (kO k 0) 2) (kO k 9) ((a 0) 20)) (kO k 10) (nI z))) := hM.uu
  refine lv_aload_n hx hb dX6_cuts_125 rfl (lv_at hl 2 rfl) ?_
  refine lv_iload_n hx hb dX6_cuts_126 rfl (lv_at hl 3 rfl) ?_
  refine lv_bipush (v := 11) hx hb dX6_cuts_127 (by decide) ?_
  refine lv_aload_n hx hb dX6_cuts_129 rfl (lv_at hl 2 rfl) ?_
  refine tw_get hx hb hts hown hG hP hM 16 (by decide) (hts _ q1636) (fun _ h9 => h9) (v := .ref (ad 16)) rfl dX6_cuts_130 ?_
  refine lv_iload_n hx hb dX6_cuts_133 rfl (lv_at hl 3 rfl) ?_
  refine tw_ald hx hb hG hP hM 16 (by decide) (j := k) (show k < 6 from by omega) dX6_cuts_134 ?_
  refine k_top (y := ((a 16) k)) rfl ?_
  refine tw_cW hx hb hml hown hts (CX6_lays l0 E w h ad f (va_up a 0 (va_up (va_up (va_up (va_up (va_up (va_up (va_up (va_up (va_up (a 0) 23 (((a 0) 23) + tBl (a 0) k z)) 22 (((a 0) 22) + ((a 0) (kO k 5) - tBl (a 0) k z))) 24 (((a 0) 24) + 1)) (kO k 3) (((a 0) (kO k 3)) - ((a 0) (kO k 5) - tBl (a 0) k z))) (kO k 13) (((a 0) (kO k 13)) + ((a 0) (kO k 5) - tBl (a 0) k z))) (kO k 5) 0) (kO k 0) 2) (kO k 9) ((a 0) 20)) (kO k 10) (nI z))) k 11 ((a 16) k) hM (by omega) (by omega)) (cwV 3 hts (lw_V q1718 q1720 qs38 q81 q1721) rfl rfl rfl dyX6_lays ⟨Nat.le_of_ble_eq_true rfl, Nat.le_of_ble_eq_true rfl⟩) hG hP hS hM hF (As := [.int (nI k), .int 11, .int ((a 16) k)]) (rest := []) rfl hl.1 rfl (lv_room (Nat.le_of_ble_eq_true rfl)) dX6_cuts_135 ⟨by omega, by omega⟩ (fun r135 f135 a135 w H locs hp hM hF hP hS => ?_)
  obtain ⟨hp1, hp2⟩ := hp
  have hM := hM.ofF hp1 hp2
  have hM : tM E w h ad f (va_up a 0 (va_up (va_up (va_up (va_up (va_up (va_up (va_up (va_up (va_up (va_up (a 0) 23 (((a 0) 23) + tBl (a 0) k z)) 22 (((a 0) 22) + ((a 0) (kO k 5) - tBl (a 0) k z))) 24 (((a 0) 24) + 1)) (kO k 3) (((a 0) (kO k 3)) - ((a 0) (kO k 5) - tBl (a 0) k z))) (kO k 13) (((a 0) (kO k 13)) + ((a 0) (kO k 5) - tBl (a 0) k z))) (kO k 5) 0) (kO k 0) 2) (kO k 9) ((a 0) 20)) (kO k 10) (nI z)) (kO k 11) ((a 16) k))) := hM.uu
  exact k_vret hx hb hr hlocks hQ hP hS (by omega) (by omega) dX6_cuts_138 (⟨_, _, ⟨rfl, rfl⟩, hM, hF⟩)
