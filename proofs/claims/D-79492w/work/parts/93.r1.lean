/-! THE READER, 2: its methods -/
set_option maxRecDepth 100000
abbrev rmCX9_here : Room := { frames := 5, cells := 0, slots := 0, locals := 106 }
theorem dyX9_here : yX9_here.cls = RX9 ∧ yX9_here.cls ≠ "java/lang/invoke/MethodHandle" ∧ yX9_here.cls ≠ "java/lang/invoke/VarHandle" ∧ (parseMethodDescriptor yX9_here.desc).map (fun d => d.parameters.length) = some 0 := by decide +kernel
set_option maxHeartbeats 4000000 in
theorem CX9_here (l0 : Launch) (E : gE) (w : wd) (h : Nat) (T : Nat) (o : Nat) (po : Nat) (mn : Nat) (B : Nat → Int32) (n : Nat) (hp9 : po ≤ n) (hcB : cB B n) (hr9 : w h = some ((98, 0), .inr (7, [.ref T, .int (nI po), .ref o, .int (nI mn)]))) (hST : strR E w T B n) : kC l0 yX9_here (ws_ yX9_here cX9_here 1 (some .int)) rmCX9_here 0 0 mI E w [.ref h] (fun r w' => w' = w ∧ r = (pHe B n po)) := by
  refine k_open (cc := cX9_here) (maxL := 1) (ret := (some .int)) (by decide) rfl (Nat.le_of_ble_eq_true rfl) ?_
  intro p e s m args below meth c ls Q hx hb hr hml hown hts hlocks hname hQ hG hP hl hS
  have hl : lv_has ls 1 [(0, .ref h)] := hl
  have hn60 := hST.le
  obtain ⟨qT, co, hT⟩ := hST.obj
  refine lv_aload_n hx hb dX9_here_0 rfl (lv_at hl 0 rfl) ?_
  refine k_get hx hb hts in_X9 hown hG hP hr9 rfl 1 (by decide) (hts _ q1325) (fun _ h9 => h9) (v := .int (nI po)) rfl dX9_here_1 ?_
  refine lv_aload_n hx hb dX9_here_4 rfl (lv_at hl 0 rfl) ?_
  refine k_get hx hb hts in_X9 hown hG hP hr9 rfl 0 (by decide) (hts _ q1324) (fun _ h9 => h9) (v := .ref T) rfl dX9_here_5 ?_
  refine k_cV hx hb hml hown hts (CJ5_length l0 E w T B n hST) (cwV 0 hts (lw_V q1355 q1270 q1271 q79 q1272) rfl rfl rfl dyJ5_length ⟨Nat.le_of_ble_eq_true rfl, Nat.le_of_ble_eq_true rfl⟩) hG hP hS hT rfl (As := []) (rest := [.int (nI po)]) rfl hl.1 rfl (lv_room (Nat.le_of_ble_eq_true rfl)) dX9_here_8 ⟨show 0 + 0 ≤ 0 from by omega, show 0 + 0 ≤ 0 from by omega⟩ (fun r9 w9 H locs hp hP hS => ?_)
  obtain ⟨hp1, hp0⟩ := hp
  rw [hp1] at hP
  rw [hp0]
  show W p l0 e rmCX9_here s m args below meth c H locs 0 0 Q (F0 m 11 ls [.int (nI n), .int (nI po)])
  refine k_icmp_geN (x := po) (y := n) (tgt := 28) hx hb (by omega) (by omega) dX9_here_11 (by decide) (fun c11 => ?_) (fun c11 => ?_)
  · skip
    refine lv_iconst (v := (-1)) hx hb dX9_here_28 (by decide) ?_
    exact k_iret hx hb hr hlocks hQ hP hS (by omega) (by omega) dX9_here_29 (⟨rfl, (if_pos c11).symm⟩)
  · skip
    refine lv_aload_n hx hb dX9_here_14 rfl (lv_at hl 0 rfl) ?_
    refine k_get hx hb hts in_X9 hown hG hP hr9 rfl 0 (by decide) (hts _ q1324) (fun _ h9 => h9) (v := .ref T) rfl dX9_here_15 ?_
    refine lv_aload_n hx hb dX9_here_18 rfl (lv_at hl 0 rfl) ?_
    refine k_get hx hb hts in_X9 hown hG hP hr9 rfl 1 (by decide) (hts _ q1325) (fun _ h9 => h9) (v := .int (nI po)) rfl dX9_here_19 ?_
    refine k_cV hx hb hml hown hts (CJ5_charAt l0 E w T B n po (by omega) hcB hST) (cwV 1 hts (lw_V q1356 q1357 q1358 q79 q1359) rfl rfl rfl dyJ5_charAt ⟨Nat.le_of_ble_eq_true rfl, Nat.le_of_ble_eq_true rfl⟩) hG hP hS hT rfl (As := [.int (nI po)]) (rest := []) rfl hl.1 rfl (lv_room (Nat.le_of_ble_eq_true rfl)) dX9_here_22 ⟨show 0 + 0 ≤ 0 from by omega, show 0 + 0 ≤ 0 from by omega⟩ (fun r9 w9 H locs hp hP hS => ?_)
    obtain ⟨hp1, hp0⟩ := hp
    rw [hp1] at hP
    rw [hp0]
    show W p l0 e rmCX9_here s m args below meth c H locs 0 0 Q (F0 m 25 ls [.int (B po)])
    refine lv_goto (tgt := 29) hx hb dX9_here_25 (by decide) ?_
    exact k_iret hx hb hr hlocks hQ hP hS (by omega) (by omega) dX9_here_29 (⟨rfl, (if_neg (by omega)).symm⟩)

abbrev rmCX9_skip : Room := { frames := 6, cells := 0, slots := 0, locals := 126 }
theorem dyX9_skip : yX9_skip.cls = RX9 ∧ yX9_skip.cls ≠ "java/lang/invoke/MethodHandle" ∧ yX9_skip.cls ≠ "java/lang/invoke/VarHandle" ∧ (parseMethodDescriptor yX9_skip.desc).map (fun d => d.parameters.length) = some 1 := by decide +kernel
set_option maxHeartbeats 4000000 in
theorem CX9_skip (l0 : Launch) (E : gE) (w : wd) (h : Nat) (T : Nat) (o : Nat) (po : Nat) (mn : Nat) (B : Nat → Int32) (n : Nat) (x : Int32) (hp9 : po ≤ n) (hcB : cB B n) (hr9 : w h = some ((98, 0), .inr (7, [.ref T, .int (nI po), .ref o, .int (nI mn)]))) (hST : strR E w T B n) : kC l0 yX9_skip (ws_ yX9_skip cX9_skip 2 (some .boolean)) rmCX9_skip 0 0 mI E w [.ref h, .int x] (fun r w' => (r = (bI (decide (pHe B n po = x)))) ∧ (w' h = some ((98, 0), .inr (7, [.ref T, .int (nI (cSk B n po x)), .ref o, .int (nI mn)])) ∧ True) ∧ fr (pO (98, 0)) w w') := by
  refine k_open (cc := cX9_skip) (maxL := 2) (ret := (some .boolean)) (by decide) rfl (Nat.le_of_ble_eq_true rfl) ?_
  intro p e s m args below meth c ls Q hx hb hr hml hown hts hlocks hname hQ hG hP hl hS
  have hl : lv_has ls 2 [(0, .ref h), (1, .int x)] := hl
  obtain ⟨w0, hw0⟩ : ∃ z, z = w := ⟨_, rfl⟩
  have hF : fr (pO (98, 0)) w0 w := by rw [hw0]; exact fr.rf
  rw [← hw0] at hQ
  have hn60 := hST.le
  refine lv_aload_n hx hb dX9_skip_0 rfl (lv_at hl 0 rfl) ?_
  refine k_cV hx hb hml hown hts (CX9_here l0 E w h T o po mn B n (by omega) hcB hr9 hST) (cwV 0 hts (lw_V q1351 q1353 qs25 q99 q1354) rfl rfl rfl dyX9_here ⟨Nat.le_of_ble_eq_true rfl, Nat.le_of_ble_eq_true rfl⟩) hG hP hS hr9 rfl (As := []) (rest := []) rfl hl.1 rfl (lv_room (Nat.le_of_ble_eq_true rfl)) dX9_skip_1 ⟨show 0 + 0 ≤ 0 from by omega, show 0 + 0 ≤ 0 from by omega⟩ (fun r9 w9 H locs hp hP hS => ?_)
  obtain ⟨hp1, hp0⟩ := hp
  rw [hp1] at hP
  rw [hp0]
  show W p l0 e rmCX9_skip s m args below meth c H locs 0 0 Q (F0 m 4 ls [.int (pHe B n po)])
  refine lv_iload_n hx hb dX9_skip_4 rfl (lv_at hl 1 rfl) ?_
  refine lv_icmp_eq (tgt := 10) hx hb dX9_skip_5 (by decide) (fun c5 => ?_) (fun c5 => ?_)
  · skip
    refine lv_aload_n hx hb dX9_skip_10 rfl (lv_at hl 0 rfl) ?_
    refine lv_dup hx hb dX9_skip_11 rfl ?_
    refine k_get hx hb hts in_X9 hown hG hP hr9 rfl 1 (by decide) (hts _ q1325) (fun _ h9 => h9) (v := .int (nI po)) rfl dX9_skip_12 ?_
    refine lv_iconst (v := 1) hx hb dX9_skip_15 (by decide) ?_
    refine k_iaddN (x := po) (y := 1) hx hb dX9_skip_16 ?_
    refine k_putW hx hb hts in_X9 tyX9 tyX9_ok nmX9 hown hG hP hS hr9 rfl 1 (by decide) (hts _ q1325) (fun _ h9 => h9) rfl (ty := .int) (v := .int (nI (po + 1))) rfl rfl rfl (Nat.le_of_ble_eq_true rfl) dX9_skip_17 (fun w1 H locs h9 hf9 hP hS => ?_)
    have hr9 : w1 h = some ((98, 0), .inr (7, [.ref T, .int (nI (po + 1)), .ref o, .int (nI mn)])) := h9
    have hST : strR E w1 T B n := hST.fr hf9 (by intro z9; simp [pRd, pRo, pR, pO, pN] at z9) (by intro z9; simp [pRd, pRo, pR, pO, pN] at z9)
    have hF : fr (pO (98, 0)) w0 w1 := hF.tr (hf9.up (fun _ h9 => h9))
    refine lv_iconst (v := 1) hx hb dX9_skip_20 (by decide) ?_
    exact k_zret hx hb hr hlocks hQ hP hS (by omega) (by omega) dX9_skip_21 rfl (⟨by rw [decide_eq_true c5]; rfl, ⟨(by rw [show cSk B n po x = po + 1 from if_pos c5]; exact hr9), trivial⟩, hF⟩)
  · skip
    refine lv_iconst (v := 0) hx hb dX9_skip_8 (by decide) ?_
    exact k_zret hx hb hr hlocks hQ hP hS (by omega) (by omega) dX9_skip_9 rfl (⟨by rw [decide_eq_false c5]; rfl, ⟨(by rw [show cSk B n po x = po from if_neg c5]; exact hr9), trivial⟩, hF⟩)

abbrev rmCX9_must : Room := { frames := 7, cells := 1, slots := 7, locals := 147 }
theorem dyX9_must : yX9_must.cls = RX9 ∧ yX9_must.cls ≠ "java/lang/invoke/MethodHandle" ∧ yX9_must.cls ≠ "java/lang/invoke/VarHandle" ∧ (parseMethodDescriptor yX9_must.desc).map (fun d => d.parameters.length) = some 1 := by decide +kernel
set_option maxHeartbeats 4000000 in
theorem CX9_must (l0 : Launch) (hl0 : l0.stackTraces = false) (E : gE) (w : wd) (h : Nat) (T : Nat) (o : Nat) (po : Nat) (mn : Nat) (B : Nat → Int32) (n : Nat) (x : Int32) (hp9 : po ≤ n) (hcB : cB B n) (hr9 : w h = some ((98, 0), .inr (7, [.ref T, .int (nI po), .ref o, .int (nI mn)]))) (hST : strR E w T B n) : kX l0 yX9_must (ws_ yX9_must cX9_must 2 none) rmCX9_must 1 7 mV E w [.ref h, .int x] (fun r w' => ∃ p9 : Nat, (cMu B n po x = (some (), p9)) ∧ (w' h = some ((98, 0), .inr (7, [.ref T, .int (nI p9), .ref o, .int (nI mn)])) ∧ True) ∧ fr pRd w w') (pxF pRd w (cMu B n po x)) := by
  refine kx_open (cc := cX9_must) (maxL := 2) (ret := none) (by decide) rfl (Nat.le_of_ble_eq_true rfl) ?_
  intro p e s m args below meth c ls Q hx hb hr hml hown hts hlocks hname ht hQ hG hP hl hS
  have hl : lv_has ls 2 [(0, .ref h), (1, .int x)] := hl
  obtain ⟨w0, hw0⟩ : ∃ z, z = w := ⟨_, rfl⟩
  have hF : fr pRd w0 w := by rw [hw0]; exact fr.rf
  rw [← hw0] at hQ
  refine lv_aload_n hx hb dX9_must_0 rfl (lv_at hl 0 rfl) ?_
  refine lv_iload_n hx hb dX9_must_1 rfl (lv_at hl 1 rfl) ?_
  refine k_cV hx hb hml hown hts (CX9_skip l0 E w h T o po mn B n x (by omega) hcB hr9 hST) (cwV 1 hts (lw_V q1347 q1349 qs24 q99 q1350) rfl rfl rfl dyX9_skip ⟨Nat.le_of_ble_eq_true rfl, Nat.le_of_ble_eq_true rfl⟩) hG hP hS hr9 rfl (As := [.int x]) (rest := []) rfl hl.1 rfl (lv_room (Nat.le_of_ble_eq_true rfl)) dX9_must_2 ⟨show 0 + 0 ≤ 1 from by omega, show 0 + 0 ≤ 7 from by omega⟩ (fun r2 w1 H locs hp hP hS => ?_)
  obtain ⟨hp0, ⟨hr9', -⟩, hf9⟩ := hp
  have hST : strR E w1 T B n := hST.fr hf9 (by intro z9; simp [pRd, pRo, pR, pO, pN] at z9) (by intro z9; simp [pRd, pRo, pR, pO, pN] at z9)
  have hF : fr pRd w0 w1 := hF.tr (hf9.up (fun t9 h9 => by simp only [pO, pRd, pRo, pR] at h9 ⊢; first | exact h9 | (subst h9; simp) | (rcases h9 with h9 | h9 <;> subst h9 <;> simp) | (rcases h9 with h9 | h9 | h9 <;> subst h9 <;> simp) | omega))
  have hr9 : w1 h = some ((98, 0), .inr (7, [.ref T, .int (nI (cSk B n po x)), .ref o, .int (nI mn)])) := hr9'
  rw [hp0]
  show W p l0 e rmCX9_must s m args below meth c H locs 0 0 Q (F0 m 5 ls [.int (bI (decide (pHe B n po = x)))])
  refine k_ifneB (x := decide (pHe B n po = x)) (tgt := 20) hx hb dX9_must_5 (by decide) (fun c5 => ?_) (fun c5 => ?_)
  · skip
    exact kx_vret hx hb hr hlocks hQ hP hS (by omega) (by omega) dX9_must_20 (⟨po + 1, cMu_p c5, ⟨(by rw [← sDp c5]; exact hr9), trivial⟩, hF⟩)
  · skip
    exact kx_fault hx hb hml hl0 hown hts hQ ht hlocks hG hP hS hl.1 hr9 (lv_at hl 0 rfl) dX9_must_8 dX9_must_11 dX9_must_12 dX9_must_13 dX9_must_16 dX9_must_19 ⟨Nat.le_of_ble_eq_true rfl, Nat.le_of_ble_eq_true rfl, show 0 + 1 ≤ 1 from by omega, show 0 + 7 ≤ 7 from by omega⟩ (show 0 + 1 ≤ 1 from by omega) (show 0 + 7 ≤ 7 from by omega) (fun q9 w9 v0 v1 v2 v3 v4 v5 h9 hf9 => pxF.mk' (by simp [pRd]) h9 (by rw [sDn c5]; exact cMu_n c5) hF hf9)

abbrev rmCX9_digit : Room := { frames := 6, cells := 1, slots := 7, locals := 126 }
theorem dyX9_digit : yX9_digit.cls = RX9 ∧ yX9_digit.cls ≠ "java/lang/invoke/MethodHandle" ∧ yX9_digit.cls ≠ "java/lang/invoke/VarHandle" ∧ (parseMethodDescriptor yX9_digit.desc).map (fun d => d.parameters.length) = some 0 := by decide +kernel
set_option maxHeartbeats 4000000 in
theorem CX9_digit (l0 : Launch) (hl0 : l0.stackTraces = false) (E : gE) (w : wd) (h : Nat) (T : Nat) (o : Nat) (po : Nat) (mn : Nat) (B : Nat → Int32) (n : Nat) (hp9 : po ≤ n) (hcB : cB B n) (hr9 : w h = some ((98, 0), .inr (7, [.ref T, .int (nI po), .ref o, .int (nI mn)]))) (hST : strR E w T B n) : kX l0 yX9_digit (ws_ yX9_digit cX9_digit 1 (some .int)) rmCX9_digit 1 7 mI E w [.ref h] (fun r w' => ∃ p9 : Nat, (cDg B n po = (some r, p9)) ∧ (w' h = some ((98, 0), .inr (7, [.ref T, .int (nI p9), .ref o, .int (nI mn)])) ∧ True) ∧ fr pRd w w') (pxF pRd w (cDg B n po)) := by
  refine kx_open (cc := cX9_digit) (maxL := 1) (ret := (some .int)) (by decide) rfl (Nat.le_of_ble_eq_true rfl) ?_
  intro p e s m args below meth c ls Q hx hb hr hml hown hts hlocks hname ht hQ hG hP hl hS
  have hl : lv_has ls 1 [(0, .ref h)] := hl
  obtain ⟨w0, hw0⟩ : ∃ z, z = w := ⟨_, rfl⟩
  have hF : fr pRd w0 w := by rw [hw0]; exact fr.rf
  rw [← hw0] at hQ
  have hn60 := hST.le
  obtain ⟨qT, co, hT⟩ := hST.obj
  refine lv_aload_n hx hb dX9_digit_0 rfl (lv_at hl 0 rfl) ?_
  refine k_cV hx hb hml hown hts (CX9_here l0 E w h T o po mn B n (by omega) hcB hr9 hST) (cwV 0 hts (lw_V q1351 q1353 qs25 q99 q1354) rfl rfl rfl dyX9_here ⟨Nat.le_of_ble_eq_true rfl, Nat.le_of_ble_eq_true rfl⟩) hG hP hS hr9 rfl (As := []) (rest := []) rfl hl.1 rfl (lv_room (Nat.le_of_ble_eq_true rfl)) dX9_digit_1 ⟨show 0 + 0 ≤ 1 from by omega, show 0 + 0 ≤ 7 from by omega⟩ (fun r9 w9 H locs hp hP hS => ?_)
  obtain ⟨hp1, hp0⟩ := hp
  rw [hp1] at hP
  rw [hp0]
  show W p l0 e rmCX9_digit s m args below meth c H locs 0 0 Q (F0 m 4 ls [.int (pHe B n po)])
  refine lv_bipush (v := 48) hx hb dX9_digit_4 (by decide) ?_
  refine lv_bipush (v := 57) hx hb dX9_digit_6 (by decide) ?_
  refine k_cSN hx hb hml hown hts (CX1_in l0 E w (pHe B n po) 48 57) ⟨va_cnB 3 hts (lw_meth q455) rfl rfl rfl (hG.2.1.1 _ q1379 rfl) (hts _ q69) dyX1_in ⟨Nat.le_of_ble_eq_true rfl, Nat.le_of_ble_eq_true rfl⟩, hts _ q454, trivial⟩ hG hP hS (As := [.int (pHe B n po), .int 48, .int 57]) (rest := []) rfl hl.1 rfl (lv_room (Nat.le_of_ble_eq_true rfl)) dX9_digit_8 ⟨show 0 + 0 ≤ 1 from by omega, show 0 + 0 ≤ 7 from by omega⟩ (fun r9 w9 H locs hp hP hS => ?_)
  obtain ⟨hp1, hp0⟩ := hp
  rw [hp1] at hP
  rw [hp0]
  show W p l0 e rmCX9_digit s m args below meth c H locs 0 0 Q (F0 m 11 ls [.int (bI (tin (pHe B n po) 48 57))])
  refine k_ifneB (x := tin (pHe B n po) 48 57) (tgt := 26) hx hb dX9_digit_11 (by decide) (fun c11 => ?_) (fun c11 => ?_)
  · skip
    have hlt := pHe_dg c11
    refine lv_aload_n hx hb dX9_digit_26 rfl (lv_at hl 0 rfl) ?_
    refine lv_dup hx hb dX9_digit_27 rfl ?_
    refine k_get hx hb hts in_X9 hown hG hP hr9 rfl 1 (by decide) (hts _ q1325) (fun _ h9 => h9) (v := .int (nI po)) rfl dX9_digit_28 ?_
    refine lv_iconst (v := 1) hx hb dX9_digit_31 (by decide) ?_
    refine k_iaddN (x := po) (y := 1) hx hb dX9_digit_32 ?_
    refine k_putW hx hb hts in_X9 tyX9 tyX9_ok nmX9 hown hG hP hS hr9 rfl 1 (by decide) (hts _ q1325) (fun _ h9 => h9) rfl (ty := .int) (v := .int (nI (po + 1))) rfl rfl rfl (Nat.le_of_ble_eq_true rfl) dX9_digit_33 (fun w1 H locs h9 hf9 hP hS => ?_)
    have hr9 : w1 h = some ((98, 0), .inr (7, [.ref T, .int (nI (po + 1)), .ref o, .int (nI mn)])) := h9
    have hST : strR E w1 T B n := hST.fr hf9 (by intro z9; simp [pRd, pRo, pR, pO, pN] at z9) (by intro z9; simp [pRd, pRo, pR, pO, pN] at z9)
    have hT : w1 T = some ((96, 2), .inr (16, [.ref qT, .int co, .int 0, .int 0])) := hf9 _ _ _ hT (by intro z9; first | (simp only [pO, pB, pS, pRd, pRo, pR, pN, Prod.mk.injEq] at z9; done) | (simp only [pO, pB, pS, pRd, pRo, pR, pN, Prod.mk.injEq] at z9; omega))
    have hF : fr pRd w0 w1 := hF.tr (hf9.up (fun t9 h9 => by simp only [pO, pRd, pRo, pR] at h9 ⊢; first | exact h9 | (subst h9; simp) | (rcases h9 with h9 | h9 <;> subst h9 <;> simp) | (rcases h9 with h9 | h9 | h9 <;> subst h9 <;> simp) | omega))
    refine lv_aload_n hx hb dX9_digit_36 rfl (lv_at hl 0 rfl) ?_
    refine k_get hx hb hts in_X9 hown hG hP hr9 rfl 0 (by decide) (hts _ q1324) (fun _ h9 => h9) (v := .ref T) rfl dX9_digit_37 ?_
    refine lv_aload_n hx hb dX9_digit_40 rfl (lv_at hl 0 rfl) ?_
    refine k_get hx hb hts in_X9 hown hG hP hr9 rfl 1 (by decide) (hts _ q1325) (fun _ h9 => h9) (v := .int (nI (po + 1))) rfl dX9_digit_41 ?_
    refine lv_iconst (v := 1) hx hb dX9_digit_44 (by decide) ?_
    refine k_isubN (x := po + 1) (y := 1) hx hb ((Nat.le_add_left 1 po)) dX9_digit_45 ?_
    refine k_top (y := (nI po)) (rfl) ?_
    refine k_cV hx hb hml hown hts (CJ5_charAt l0 E w1 T B n po (pHe_dg c11) hcB hST) (cwV 1 hts (lw_V q1356 q1357 q1358 q79 q1359) rfl rfl rfl dyJ5_charAt ⟨Nat.le_of_ble_eq_true rfl, Nat.le_of_ble_eq_true rfl⟩) hG hP hS hT rfl (As := [.int (nI po)]) (rest := []) rfl hl.1 rfl (lv_room (Nat.le_of_ble_eq_true rfl)) dX9_digit_46 ⟨show 0 + 0 ≤ 1 from by omega, show 0 + 0 ≤ 7 from by omega⟩ (fun r9 w9 H locs hp hP hS => ?_)
    obtain ⟨hp1, hp0⟩ := hp
    rw [hp1] at hP
    rw [hp0]
    show W p l0 e rmCX9_digit s m args below meth c H locs 0 0 Q (F0 m 49 ls [.int (B po)])
    refine lv_bipush (v := 48) hx hb dX9_digit_49 (by decide) ?_
    refine lv_isub hx hb dX9_digit_51 ?_
    exact kx_iret hx hb hr hlocks hQ hP hS (by omega) (by omega) dX9_digit_52 (⟨po + 1, cDg_p c11, ⟨hr9, trivial⟩, hF⟩)
  · skip
    exact kx_fault hx hb hml hl0 hown hts hQ ht hlocks hG hP hS hl.1 hr9 (lv_at hl 0 rfl) dX9_digit_14 dX9_digit_17 dX9_digit_18 dX9_digit_19 dX9_digit_22 dX9_digit_25 ⟨Nat.le_of_ble_eq_true rfl, Nat.le_of_ble_eq_true rfl, show 0 + 1 ≤ 1 from by omega, show 0 + 7 ≤ 7 from by omega⟩ (show 0 + 1 ≤ 1 from by omega) (show 0 + 7 ≤ 7 from by omega) (fun q9 w9 v0 v1 v2 v3 v4 v5 h9 hf9 => pxF.mk' (by simp [pRd]) h9 (cDg_n c11) hF hf9)

abbrev rmCX9_number : Room := { frames := 7, cells := 2, slots := 14, locals := 146 }
theorem dyX9_number : yX9_number.cls = RX9 ∧ yX9_number.cls ≠ "java/lang/invoke/MethodHandle" ∧ yX9_number.cls ≠ "java/lang/invoke/VarHandle" ∧ (parseMethodDescriptor yX9_number.desc).map (fun d => d.parameters.length) = some 0 := by decide +kernel
set_option maxHeartbeats 4000000 in
theorem CX9_number (l0 : Launch) (hl0 : l0.stackTraces = false) (E : gE) (w : wd) (h : Nat) (T : Nat) (o : Nat) (po : Nat) (mn : Nat) (B : Nat → Int32) (n : Nat) (hp9 : po ≤ n) (hcB : cB B n) (hr9 : w h = some ((98, 0), .inr (7, [.ref T, .int (nI po), .ref o, .int (nI mn)]))) (hST : strR E w T B n) : kX l0 yX9_number (ws_ yX9_number cX9_number 2 (some .int)) rmCX9_number 2 14 mI E w [.ref h] (fun r w' => ∃ p9 : Nat, (cNu B n po = (some r, p9)) ∧ (w' h = some ((98, 0), .inr (7, [.ref T, .int (nI p9), .ref o, .int (nI mn)])) ∧ True) ∧ fr pRd w w') (pxF pRd w (cNu B n po)) := by
  refine kx_open (cc := cX9_number) (maxL := 2) (ret := (some .int)) (by decide) rfl (Nat.le_of_ble_eq_true rfl) ?_
  intro p e s m args below meth c ls Q hx hb hr hml hown hts hlocks hname ht hQ hG hP hl hS
  have hl : lv_has ls 2 [(0, .ref h)] := hl
  obtain ⟨w0, hw0⟩ : ∃ z, z = w := ⟨_, rfl⟩
  have hF : fr pRd w0 w := by rw [hw0]; exact fr.rf
  rw [← hw0] at hQ
  have hn60 := hST.le
  refine lv_aload_n hx hb dX9_number_0 rfl (lv_at hl 0 rfl) ?_
  refine kx_cV hx hb hml hown hts hQ ht hlocks (CX9_digit l0 hl0 E w h T o po mn B n (by omega) hcB hr9 hST) (cwV 0 hts (lw_V q1375 q1377 qs27 q99 q1378) rfl rfl rfl dyX9_digit ⟨Nat.le_of_ble_eq_true rfl, Nat.le_of_ble_eq_true rfl⟩) hG hP hS hr9 rfl (As := []) (rest := []) rfl hl.1 rfl (lv_room (Nat.le_of_ble_eq_true rfl)) dX9_number_1 ⟨show 0 + 1 ≤ 2 from by omega, show 0 + 7 ≤ 14 from by omega⟩ ⟨show 0 + 1 ≤ 2 from by omega, show 0 + 7 ≤ 14 from by omega⟩ (fun X9 q9 w9 h9 => h9.up (fun p9 e9 => by simp [cNu, rB_n e9]) hF (fun t9 h9 => by simp only [pRd, pRo, pR] at h9 ⊢; first | exact h9 | (rcases h9 with h9 | h9 <;> subst h9 <;> simp))) (fun r1 w1 H locs hp hP hS => ?_)
  obtain ⟨p9_1, hp0, ⟨hr9', -⟩, hf9⟩ := hp
  have hST : strR E w1 T B n := hST.fr hf9 (by intro z9; simp [pRd, pRo, pR, pO, pN] at z9) (by intro z9; simp [pRd, pRo, pR, pO, pN] at z9)
  have hF : fr pRd w0 w1 := hF.tr (hf9.up (fun _ h9 => h9))
  have hr9 : w1 h = some ((98, 0), .inr (7, [.ref T, .int (nI p9_1), .ref o, .int (nI mn)])) := hr9'
  show W p l0 e rmCX9_number s m args below meth c H locs (0 + 1) (0 + 7) Q (F0 m 4 ls [.int r1])
  have he1 := hp0
  have hb1 := (cDg_G hp9).at he1
  refine lv_istore_n (lv' := [(1, .int r1), (0, .ref h)]) hx hb dX9_number_4 rfl hl (by decide) rfl (fun ls hl => ?_)
  refine lv_aload_n hx hb dX9_number_5 rfl (lv_at hl 1 rfl) ?_
  refine k_cV hx hb hml hown hts (CX9_here l0 E w1 h T o p9_1 mn B n (by omega) hcB hr9 hST) (cwV 0 hts (lw_V q1351 q1353 qs25 q99 q1354) rfl rfl rfl dyX9_here ⟨Nat.le_of_ble_eq_true rfl, Nat.le_of_ble_eq_true rfl⟩) hG hP hS hr9 rfl (As := []) (rest := []) rfl hl.1 rfl (lv_room (Nat.le_of_ble_eq_true rfl)) dX9_number_6 ⟨show (0 + 1) + 0 ≤ 2 from by omega, show (0 + 7) + 0 ≤ 14 from by omega⟩ (fun r9 w9 H locs hp hP hS => ?_)
  obtain ⟨hp1, hp0⟩ := hp
  rw [hp1] at hP
  rw [hp0]
  show W p l0 e rmCX9_number s m args below meth c H locs (0 + 1) (0 + 7) Q (F0 m 9 ls [.int (pHe B n p9_1)])
  refine lv_bipush (v := 48) hx hb dX9_number_9 (by decide) ?_
  refine lv_bipush (v := 57) hx hb dX9_number_11 (by decide) ?_
  refine k_cSN hx hb hml hown hts (CX1_in l0 E w1 (pHe B n p9_1) 48 57) ⟨va_cnB 3 hts (lw_meth q455) rfl rfl rfl (hG.2.1.1 _ q1379 rfl) (hts _ q69) dyX1_in ⟨Nat.le_of_ble_eq_true rfl, Nat.le_of_ble_eq_true rfl⟩, hts _ q454, trivial⟩ hG hP hS (As := [.int (pHe B n p9_1), .int 48, .int 57]) (rest := []) rfl hl.1 rfl (lv_room (Nat.le_of_ble_eq_true rfl)) dX9_number_13 ⟨show (0 + 1) + 0 ≤ 2 from by omega, show (0 + 7) + 0 ≤ 14 from by omega⟩ (fun r9 w9 H locs hp hP hS => ?_)
  obtain ⟨hp1, hp0⟩ := hp
  rw [hp1] at hP
  rw [hp0]
  show W p l0 e rmCX9_number s m args below meth c H locs (0 + 1) (0 + 7) Q (F0 m 16 ls [.int (bI (tin (pHe B n p9_1) 48 57))])
  refine k_ifeqB (x := tin (pHe B n p9_1) 48 57) (tgt := 31) hx hb dX9_number_16 (by decide) (fun c16 => ?_) (fun c16 => ?_)
  · skip
    refine lv_iload_n hx hb dX9_number_31 rfl (lv_at hl 0 rfl) ?_
    exact kx_iret hx hb hr hlocks hQ hP hS (by omega) (by omega) dX9_number_32 (⟨_, by simp [cNu, rB_s he1, c16], ⟨hr9, trivial⟩, hF⟩)
  · skip
    refine lv_bipush (v := 10) hx hb dX9_number_19 (by decide) ?_
    refine lv_iload_n hx hb dX9_number_21 rfl (lv_at hl 0 rfl) ?_
    refine lv_imul hx hb dX9_number_22 ?_
    refine lv_aload_n hx hb dX9_number_23 rfl (lv_at hl 1 rfl) ?_
    refine kx_cV hx hb hml hown hts hQ ht hlocks (CX9_digit l0 hl0 E w1 h T o p9_1 mn B n (by omega) hcB hr9 hST) (cwV 0 hts (lw_V q1375 q1377 qs27 q99 q1378) rfl rfl rfl dyX9_digit ⟨Nat.le_of_ble_eq_true rfl, Nat.le_of_ble_eq_true rfl⟩) hG hP hS hr9 rfl (As := []) (rest := [.int (10 * r1)]) rfl hl.1 rfl (lv_room (Nat.le_of_ble_eq_true rfl)) dX9_number_24 ⟨show (0 + 1) + 1 ≤ 2 from by omega, show (0 + 7) + 7 ≤ 14 from by omega⟩ ⟨show (0 + 1) + 1 ≤ 2 from by omega, show (0 + 7) + 7 ≤ 14 from by omega⟩ (fun X9 q9 w9 h9 => h9.up (fun p9 e9 => by simp [cNu, rB_s he1, c16, rB_n e9]) hF (fun t9 h9 => h9)) (fun r24 w2 H locs hp hP hS => ?_)
    obtain ⟨p9_2, hp0, ⟨hr9', -⟩, hf9⟩ := hp
    have hST : strR E w2 T B n := hST.fr hf9 (by intro z9; simp [pRd, pRo, pR, pO, pN] at z9) (by intro z9; simp [pRd, pRo, pR, pO, pN] at z9)
    have hF : fr pRd w0 w2 := hF.tr (hf9.up (fun _ h9 => h9))
    have hr9 : w2 h = some ((98, 0), .inr (7, [.ref T, .int (nI p9_2), .ref o, .int (nI mn)])) := hr9'
    show W p l0 e rmCX9_number s m args below meth c H locs ((0 + 1) + 1) ((0 + 7) + 7) Q (F0 m 27 ls [.int r24, .int (10 * r1)])
    have he24 := hp0
    have hb24 := (cDg_G hb1.2).at he24
    refine lv_iadd hx hb dX9_number_27 ?_
    refine lv_goto (tgt := 32) hx hb dX9_number_28 (by decide) ?_
    exact kx_iret hx hb hr hlocks hQ hP hS (by omega) (by omega) dX9_number_32 (⟨_, by simp [cNu, rB_s he1, rB_s he24, c16], ⟨hr9, trivial⟩, hF⟩)

abbrev rmCX9_sign : Room := { frames := 8, cells := 1, slots := 7, locals := 168 }
theorem dyX9_sign : yX9_sign.cls = RX9 ∧ yX9_sign.cls ≠ "java/lang/invoke/MethodHandle" ∧ yX9_sign.cls ≠ "java/lang/invoke/VarHandle" ∧ (parseMethodDescriptor yX9_sign.desc).map (fun d => d.parameters.length) = some 0 := by decide +kernel
set_option maxHeartbeats 4000000 in
theorem CX9_sign (l0 : Launch) (hl0 : l0.stackTraces = false) (E : gE) (w : wd) (h : Nat) (T : Nat) (o : Nat) (po : Nat) (mn : Nat) (B : Nat → Int32) (n : Nat) (hp9 : po ≤ n) (hcB : cB B n) (hr9 : w h = some ((98, 0), .inr (7, [.ref T, .int (nI po), .ref o, .int (nI mn)]))) (hST : strR E w T B n) : kX l0 yX9_sign (ws_ yX9_sign cX9_sign 1 (some .int)) rmCX9_sign 1 7 mI E w [.ref h] (fun r w' => ∃ p9 : Nat, (cSi B n po = (some r, p9)) ∧ (w' h = some ((98, 0), .inr (7, [.ref T, .int (nI p9), .ref o, .int (nI mn)])) ∧ True) ∧ fr pRd w w') (pxF pRd w (cSi B n po)) := by
  refine kx_open (cc := cX9_sign) (maxL := 1) (ret := (some .int)) (by decide) rfl (Nat.le_of_ble_eq_true rfl) ?_
  intro p e s m args below meth c ls Q hx hb hr hml hown hts hlocks hname ht hQ hG hP hl hS
  have hl : lv_has ls 1 [(0, .ref h)] := hl
  obtain ⟨w0, hw0⟩ : ∃ z, z = w := ⟨_, rfl⟩
  have hF : fr pRd w0 w := by rw [hw0]; exact fr.rf
  rw [← hw0] at hQ
  refine lv_aload_n hx hb dX9_sign_0 rfl (lv_at hl 0 rfl) ?_
  refine lv_bipush (v := 43) hx hb dX9_sign_1 (by decide) ?_
  refine k_cV hx hb hml hown hts (CX9_skip l0 E w h T o po mn B n 43 (by omega) hcB hr9 hST) (cwV 1 hts (lw_V q1347 q1349 qs24 q99 q1350) rfl rfl rfl dyX9_skip ⟨Nat.le_of_ble_eq_true rfl, Nat.le_of_ble_eq_true rfl⟩) hG hP hS hr9 rfl (As := [.int 43]) (rest := []) rfl hl.1 rfl (lv_room (Nat.le_of_ble_eq_true rfl)) dX9_sign_3 ⟨show 0 + 0 ≤ 1 from by omega, show 0 + 0 ≤ 7 from by omega⟩ (fun r3 w1 H locs hp hP hS => ?_)
  obtain ⟨hp0, ⟨hr9', -⟩, hf9⟩ := hp
  have hST : strR E w1 T B n := hST.fr hf9 (by intro z9; simp [pRd, pRo, pR, pO, pN] at z9) (by intro z9; simp [pRd, pRo, pR, pO, pN] at z9)
  have hF : fr pRd w0 w1 := hF.tr (hf9.up (fun t9 h9 => by simp only [pO, pRd, pRo, pR] at h9 ⊢; first | exact h9 | (subst h9; simp) | (rcases h9 with h9 | h9 <;> subst h9 <;> simp) | (rcases h9 with h9 | h9 | h9 <;> subst h9 <;> simp) | omega))
  have hr9 : w1 h = some ((98, 0), .inr (7, [.ref T, .int (nI (cSk B n po 43)), .ref o, .int (nI mn)])) := hr9'
  rw [hp0]
  show W p l0 e rmCX9_sign s m args below meth c H locs 0 0 Q (F0 m 6 ls [.int (bI (decide (pHe B n po = 43)))])
  refine k_ifeqB (x := decide (pHe B n po = 43)) (tgt := 11) hx hb dX9_sign_6 (by decide) (fun c6 => ?_) (fun c6 => ?_)
  · skip
    rw [sDn c6] at hr9
    have hr9 : w1 h = some ((98, 0), .inr (7, [.ref T, .int (nI po), .ref o, .int (nI mn)])) := hr9
    refine lv_aload_n hx hb dX9_sign_11 rfl (lv_at hl 0 rfl) ?_
    refine lv_bipush (v := 45) hx hb dX9_sign_12 (by decide) ?_
    refine kx_cV hx hb hml hown hts hQ ht hlocks (CX9_must l0 hl0 E w1 h T o po mn B n 45 (by omega) hcB hr9 hST) (cwV 1 hts (lw_V q1399 q1401 qs28 q99 q1402) rfl rfl rfl dyX9_must ⟨Nat.le_of_ble_eq_true rfl, Nat.le_of_ble_eq_true rfl⟩) hG hP hS hr9 rfl (As := [.int 45]) (rest := []) rfl hl.1 rfl (lv_room (Nat.le_of_ble_eq_true rfl)) dX9_sign_14 ⟨show 0 + 1 ≤ 1 from by omega, show 0 + 7 ≤ 7 from by omega⟩ ⟨show 0 + 1 ≤ 1 from by omega, show 0 + 7 ≤ 7 from by omega⟩ (fun X9 q9 w9 h9 => h9.up (fun p9 e9 => by simp [cSi, of_decide_eq_false c6, rB_n e9]) hF (fun t9 h9 => h9)) (fun r14 w2 H locs hp hP hS => ?_)
    obtain ⟨p9_1, hp0, ⟨hr9', -⟩, hf9⟩ := hp
    have hST : strR E w2 T B n := hST.fr hf9 (by intro z9; simp [pRd, pRo, pR, pO, pN] at z9) (by intro z9; simp [pRd, pRo, pR, pO, pN] at z9)
    have hF : fr pRd w0 w2 := hF.tr (hf9.up (fun _ h9 => h9))
    have hr9 : w2 h = some ((98, 0), .inr (7, [.ref T, .int (nI p9_1), .ref o, .int (nI mn)])) := hr9'
    show W p l0 e rmCX9_sign s m args below meth c H locs (0 + 1) (0 + 7) Q (F0 m 17 ls [])
    have he14 := hp0
    have hb14 := (cMu_G hp9 (by decide)).at he14
    refine lv_iconst (v := (-1)) hx hb dX9_sign_17 (by decide) ?_
    exact kx_iret hx hb hr hlocks hQ hP hS (by omega) (by omega) dX9_sign_18 (⟨_, by simp [cSi, of_decide_eq_false c6, rB_s he14], ⟨hr9, trivial⟩, hF⟩)
  · skip
    rw [sDp c6] at hr9
    have hr9 : w1 h = some ((98, 0), .inr (7, [.ref T, .int (nI (po + 1)), .ref o, .int (nI mn)])) := hr9
    refine lv_iconst (v := 1) hx hb dX9_sign_9 (by decide) ?_
    exact kx_iret hx hb hr hlocks hQ hP hS (by omega) (by omega) dX9_sign_10 (⟨po + 1, if_pos (of_decide_eq_true c6), ⟨hr9, trivial⟩, hF⟩)
