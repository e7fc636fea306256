/-! THE READER, 3: winds and kites -/
set_option maxRecDepth 100000
abbrev rmCX9_wind : Room := { frames := 9, cells := 6, slots := 40, locals := 188 }
theorem dyX9_wind : yX9_wind.cls = RX9 ∧ yX9_wind.cls ≠ "java/lang/invoke/MethodHandle" ∧ yX9_wind.cls ≠ "java/lang/invoke/VarHandle" ∧ (parseMethodDescriptor yX9_wind.desc).map (fun d => d.parameters.length) = some 0 := by decide +kernel
set_option maxHeartbeats 4000000 in
theorem CX9_wind (l0 : Launch) (hl0 : l0.stackTraces = false) (E : gE) (w : wd) (h : Nat) (T : Nat) (o : Nat) (po : Nat) (mn : Nat) (B : Nat → Int32) (n : Nat) (hp9 : po ≤ n) (hcB : cB B n) (hr9 : w h = some ((98, 0), .inr (7, [.ref T, .int (nI po), .ref o, .int (nI mn)]))) (hST : strR E w T B n) : kX l0 yX9_wind (ws_ yX9_wind cX9_wind 4 (some (.object "KiteRoofs$Order"))) rmCX9_wind 6 40 mR E w [.ref h] (fun r w' => ∃ p9 : Nat, ∃ v9 : Nat → Int32, (cWi B n po = (some v9, p9)) ∧ (w' h = some ((98, 0), .inr (7, [.ref T, .int (nI p9), .ref o, .int (nI mn)])) ∧ odR w' r v9 ∧ True) ∧ fr pRo w w') (pxF pRo w (cWi B n po)) := by
  refine kx_open (cc := cX9_wind) (maxL := 4) (ret := (some (.object "KiteRoofs$Order"))) (by decide) rfl (Nat.le_of_ble_eq_true rfl) ?_
  intro p e s m args below meth c ls Q hx hb hr hml hown hts hlocks hname ht hQ hG hP hl hS
  have hl : lv_has ls 4 [(0, .ref h)] := hl
  obtain ⟨w0, hw0⟩ : ∃ z, z = w := ⟨_, rfl⟩
  have hF : fr pRo w0 w := by rw [hw0]; exact fr.rf
  rw [← hw0] at hQ
  have hn60 := hST.le
  refine lv_aload_n hx hb dX9_wind_0 rfl (lv_at hl 0 rfl) ?_
  refine kx_cV hx hb hml hown hts hQ ht hlocks (CX9_digit l0 hl0 E w h T o po mn B n (by omega) hcB hr9 hST) (cwV 0 hts (lw_V q1375 q1377 qs27 q99 q1378) rfl rfl rfl dyX9_digit ⟨Nat.le_of_ble_eq_true rfl, Nat.le_of_ble_eq_true rfl⟩) hG hP hS hr9 rfl (As := []) (rest := []) rfl hl.1 rfl (lv_room (Nat.le_of_ble_eq_true rfl)) dX9_wind_1 ⟨show 0 + 1 ≤ 6 from by omega, show 0 + 7 ≤ 40 from by omega⟩ ⟨show 0 + 1 ≤ 6 from by omega, show 0 + 7 ≤ 40 from by omega⟩ (fun X9 q9 w9 h9 => h9.up (fun p9 e9 => by simp [cWi, rB_n e9]) hF (fun t9 h9 => by simp only [pRd, pRo, pR] at h9 ⊢; first | exact h9 | (rcases h9 with h9 | h9 <;> subst h9 <;> simp))) (fun r1 w1 H locs hp hP hS => ?_)
  obtain ⟨p9_1, hp0, ⟨hr9', -⟩, hf9⟩ := hp
  have hST : strR E w1 T B n := hST.fr hf9 (by intro z9; simp [pRd, pRo, pR, pO, pN] at z9) (by intro z9; simp [pRd, pRo, pR, pO, pN] at z9)
  have hF : fr pRo w0 w1 := hF.tr (hf9.up (fun t9 h9 => by simp only [pO, pRd, pRo, pR] at h9 ⊢; first | exact h9 | (subst h9; simp) | (rcases h9 with h9 | h9 <;> subst h9 <;> simp) | (rcases h9 with h9 | h9 | h9 <;> subst h9 <;> simp) | omega))
  have hr9 : w1 h = some ((98, 0), .inr (7, [.ref T, .int (nI p9_1), .ref o, .int (nI mn)])) := hr9'
  show W p l0 e rmCX9_wind s m args below meth c H locs (0 + 1) (0 + 7) Q (F0 m 4 ls [.int r1])
  have he1 := hp0
  have hb1 := (cDg_G hp9).at he1
  refine lv_istore_n (lv' := [(1, .int r1), (0, .ref h)]) hx hb dX9_wind_4 rfl hl (by decide) rfl (fun ls hl => ?_)
  refine lv_aload_n hx hb dX9_wind_5 rfl (lv_at hl 1 rfl) ?_
  refine lv_bipush (v := 58) hx hb dX9_wind_6 (by decide) ?_
  refine kx_cV hx hb hml hown hts hQ ht hlocks (CX9_must l0 hl0 E w1 h T o p9_1 mn B n 58 (by omega) hcB hr9 hST) (cwV 1 hts (lw_V q1399 q1401 qs28 q99 q1402) rfl rfl rfl dyX9_must ⟨Nat.le_of_ble_eq_true rfl, Nat.le_of_ble_eq_true rfl⟩) hG hP hS hr9 rfl (As := [.int 58]) (rest := []) rfl hl.1 rfl (lv_room (Nat.le_of_ble_eq_true rfl)) dX9_wind_8 ⟨show (0 + 1) + 1 ≤ 6 from by omega, show (0 + 7) + 7 ≤ 40 from by omega⟩ ⟨show (0 + 1) + 1 ≤ 6 from by omega, show (0 + 7) + 7 ≤ 40 from by omega⟩ (fun X9 q9 w9 h9 => h9.up (fun p9 e9 => by simp [cWi, rB_s he1, rB_n e9]) hF (fun t9 h9 => by simp only [pRd, pRo, pR] at h9 ⊢; first | exact h9 | (rcases h9 with h9 | h9 <;> subst h9 <;> simp))) (fun r8 w2 H locs hp hP hS => ?_)
  obtain ⟨p9_2, hp0, ⟨hr9', -⟩, hf9⟩ := hp
  have hST : strR E w2 T B n := hST.fr hf9 (by intro z9; simp [pRd, pRo, pR, pO, pN] at z9) (by intro z9; simp [pRd, pRo, pR, pO, pN] at z9)
  have hF : fr pRo w0 w2 := hF.tr (hf9.up (fun t9 h9 => by simp only [pO, pRd, pRo, pR] at h9 ⊢; first | exact h9 | (subst h9; simp) | (rcases h9 with h9 | h9 <;> subst h9 <;> simp) | (rcases h9 with h9 | h9 | h9 <;> subst h9 <;> simp) | omega))
  have hr9 : w2 h = some ((98, 0), .inr (7, [.ref T, .int (nI p9_2), .ref o, .int (nI mn)])) := hr9'
  show W p l0 e rmCX9_wind s m args below meth c H locs ((0 + 1) + 1) ((0 + 7) + 7) Q (F0 m 11 ls [])
  have he8 := hp0
  have hb8 := (cMu_G hb1.2 (by decide)).at he8
  refine lv_aload_n hx hb dX9_wind_11 rfl (lv_at hl 1 rfl) ?_
  refine kx_cV hx hb hml hown hts hQ ht hlocks (CX9_digit l0 hl0 E w2 h T o p9_2 mn B n (by omega) hcB hr9 hST) (cwV 0 hts (lw_V q1375 q1377 qs27 q99 q1378) rfl rfl rfl dyX9_digit ⟨Nat.le_of_ble_eq_true rfl, Nat.le_of_ble_eq_true rfl⟩) hG hP hS hr9 rfl (As := []) (rest := []) rfl hl.1 rfl (lv_room (Nat.le_of_ble_eq_true rfl)) dX9_wind_12 ⟨show ((0 + 1) + 1) + 1 ≤ 6 from by omega, show ((0 + 7) + 7) + 7 ≤ 40 from by omega⟩ ⟨show ((0 + 1) + 1) + 1 ≤ 6 from by omega, show ((0 + 7) + 7) + 7 ≤ 40 from by omega⟩ (fun X9 q9 w9 h9 => h9.up (fun p9 e9 => by simp [cWi, rB_s he1, rB_s he8, rB_n e9]) hF (fun t9 h9 => by simp only [pRd, pRo, pR] at h9 ⊢; first | exact h9 | (rcases h9 with h9 | h9 <;> subst h9 <;> simp))) (fun r12 w3 H locs hp hP hS => ?_)
  obtain ⟨p9_3, hp0, ⟨hr9', -⟩, hf9⟩ := hp
  have hST : strR E w3 T B n := hST.fr hf9 (by intro z9; simp [pRd, pRo, pR, pO, pN] at z9) (by intro z9; simp [pRd, pRo, pR, pO, pN] at z9)
  have hF : fr pRo w0 w3 := hF.tr (hf9.up (fun t9 h9 => by simp only [pO, pRd, pRo, pR] at h9 ⊢; first | exact h9 | (subst h9; simp) | (rcases h9 with h9 | h9 <;> subst h9 <;> simp) | (rcases h9 with h9 | h9 | h9 <;> subst h9 <;> simp) | omega))
  have hr9 : w3 h = some ((98, 0), .inr (7, [.ref T, .int (nI p9_3), .ref o, .int (nI mn)])) := hr9'
  show W p l0 e rmCX9_wind s m args below meth c H locs (((0 + 1) + 1) + 1) (((0 + 7) + 7) + 7) Q (F0 m 15 ls [.int r12])
  have he12 := hp0
  have hb12 := (cDg_G hb8.2).at he12
  refine lv_istore_n (lv' := [(2, .int r12), (1, .int r1), (0, .ref h)]) hx hb dX9_wind_15 rfl hl (by decide) rfl (fun ls hl => ?_)
  refine lv_aload_n hx hb dX9_wind_16 rfl (lv_at hl 2 rfl) ?_
  refine k_cV hx hb hml hown hts (CX9_here l0 E w3 h T o p9_3 mn B n (by omega) hcB hr9 hST) (cwV 0 hts (lw_V q1351 q1353 qs25 q99 q1354) rfl rfl rfl dyX9_here ⟨Nat.le_of_ble_eq_true rfl, Nat.le_of_ble_eq_true rfl⟩) hG hP hS hr9 rfl (As := []) (rest := []) rfl hl.1 rfl (lv_room (Nat.le_of_ble_eq_true rfl)) dX9_wind_17 ⟨show (((0 + 1) + 1) + 1) + 0 ≤ 6 from by omega, show (((0 + 7) + 7) + 7) + 0 ≤ 40 from by omega⟩ (fun r9 w9 H locs hp hP hS => ?_)
  obtain ⟨hp1, hp0⟩ := hp
  rw [hp1] at hP
  rw [hp0]
  show W p l0 e rmCX9_wind s m args below meth c H locs (((0 + 1) + 1) + 1) (((0 + 7) + 7) + 7) Q (F0 m 20 ls [.int (pHe B n p9_3)])
  refine lv_bipush (v := 43) hx hb dX9_wind_20 (by decide) ?_
  refine lv_icmp_eq (tgt := 45) hx hb dX9_wind_22 (by decide) (fun c22 => ?_) (fun c22 => ?_)
  · skip
    refine lv_aload_n hx hb dX9_wind_45 rfl (lv_at hl 2 rfl) ?_
    refine kx_cV hx hb hml hown hts hQ ht hlocks (CX9_sign l0 hl0 E w3 h T o p9_3 mn B n (by omega) hcB hr9 hST) (cwV 0 hts (lw_V q1422 q1424 qs29 q99 q1425) rfl rfl rfl dyX9_sign ⟨Nat.le_of_ble_eq_true rfl, Nat.le_of_ble_eq_true rfl⟩) hG hP hS hr9 rfl (As := []) (rest := []) rfl hl.1 rfl (lv_room (Nat.le_of_ble_eq_true rfl)) dX9_wind_46 ⟨show (((0 + 1) + 1) + 1) + 1 ≤ 6 from by omega, show (((0 + 7) + 7) + 7) + 7 ≤ 40 from by omega⟩ ⟨show (((0 + 1) + 1) + 1) + 1 ≤ 6 from by omega, show (((0 + 7) + 7) + 7) + 7 ≤ 40 from by omega⟩ (fun X9 q9 w9 h9 => h9.up (fun p9 e9 => by simp [cWi, rB_s he1, rB_s he8, rB_s he12, c22, rB_n e9]) hF (fun t9 h9 => by simp only [pRd, pRo, pR] at h9 ⊢; first | exact h9 | (rcases h9 with h9 | h9 <;> subst h9 <;> simp))) (fun r46 w4 H locs hp hP hS => ?_)
    obtain ⟨p9_4, hp0, ⟨hr9', -⟩, hf9⟩ := hp
    have hST : strR E w4 T B n := hST.fr hf9 (by intro z9; simp [pRd, pRo, pR, pO, pN] at z9) (by intro z9; simp [pRd, pRo, pR, pO, pN] at z9)
    have hF : fr pRo w0 w4 := hF.tr (hf9.up (fun t9 h9 => by simp only [pO, pRd, pRo, pR] at h9 ⊢; first | exact h9 | (subst h9; simp) | (rcases h9 with h9 | h9 <;> subst h9 <;> simp) | (rcases h9 with h9 | h9 | h9 <;> subst h9 <;> simp) | omega))
    have hr9 : w4 h = some ((98, 0), .inr (7, [.ref T, .int (nI p9_4), .ref o, .int (nI mn)])) := hr9'
    show W p l0 e rmCX9_wind s m args below meth c H locs ((((0 + 1) + 1) + 1) + 1) ((((0 + 7) + 7) + 7) + 7) Q (F0 m 49 ls [.int r46])
    have he46 := hp0
    have hb46 := (cSi_G hb12.2).at he46
    refine lv_istore_n (lv' := [(3, .int r46), (2, .int r12), (1, .int r1), (0, .ref h)]) hx hb dX9_wind_49 rfl hl (by decide) rfl (fun ls hl => ?_)
    refine k_newW hx hb (98, 3) hts in_X11 tyX11 tyX11_ok hown (hts _ q1403) (hts _ q1404) (hts _ q103) hG hP hS (ci := 9) rfl (fs := [.int 0, .int 0, .int 0]) (by decide) (show ((((0 + 1) + 1) + 1) + 1) + 1 ≤ 6 from by omega) (show ((((0 + 7) + 7) + 7) + 7) + 3 ≤ 40 from by omega) dX9_wind_50 (fun q50 w5 H h9 hf9 hP hS => ?_)
    have hN : w5 q50 = some ((98, 3), .inr (9, [.int 0, .int 0, .int 0])) := h9
    have hr9 : w5 h = some ((98, 0), .inr (7, [.ref T, .int (nI p9_4), .ref o, .int (nI mn)])) := hf9 _ _ _ hr9 (fun z9 => z9)
    have hST : strR E w5 T B n := hST.fr hf9 (fun z9 => z9) (fun z9 => z9)
    have hF : fr pRo w0 w5 := hF.tr (hf9.up (fun _ h9 => h9.elim))
    refine lv_dup hx hb dX9_wind_53 rfl ?_
    refine lv_iload_n hx hb dX9_wind_54 rfl (lv_at hl 2 rfl) ?_
    refine lv_iload_n hx hb dX9_wind_55 rfl (lv_at hl 1 rfl) ?_
    refine lv_iload_n hx hb dX9_wind_56 rfl (lv_at hl 0 rfl) ?_
    refine lv_aload_n hx hb dX9_wind_57 rfl (lv_at hl 3 rfl) ?_
    refine kx_cV hx hb hml hown hts hQ ht hlocks (CX9_digit l0 hl0 E w5 h T o p9_4 mn B n (by omega) hcB hr9 hST) (cwV 0 hts (lw_V q1375 q1377 qs27 q99 q1378) rfl rfl rfl dyX9_digit ⟨Nat.le_of_ble_eq_true rfl, Nat.le_of_ble_eq_true rfl⟩) hG hP hS hr9 rfl (As := []) (rest := [.int r46, .int r12, .int r1, .ref q50, .ref q50]) rfl hl.1 rfl (lv_room (Nat.le_of_ble_eq_true rfl)) dX9_wind_58 ⟨show (((((0 + 1) + 1) + 1) + 1) + 1) + 1 ≤ 6 from by omega, show (((((0 + 7) + 7) + 7) + 7) + 3) + 7 ≤ 40 from by omega⟩ ⟨show (((((0 + 1) + 1) + 1) + 1) + 1) + 1 ≤ 6 from by omega, show (((((0 + 7) + 7) + 7) + 7) + 3) + 7 ≤ 40 from by omega⟩ (fun X9 q9 w9 h9 => h9.up (fun p9 e9 => by simp [cWi, rB_s he1, rB_s he8, rB_s he12, rB_s he46, c22, rB_n e9]) hF (fun t9 h9 => by simp only [pRd, pRo, pR] at h9 ⊢; first | exact h9 | (rcases h9 with h9 | h9 <;> subst h9 <;> simp))) (fun r58 w6 H locs hp hP hS => ?_)
    obtain ⟨p9_5, hp0, ⟨hr9', -⟩, hf9⟩ := hp
    have hST : strR E w6 T B n := hST.fr hf9 (by intro z9; simp [pRd, pRo, pR, pO, pN] at z9) (by intro z9; simp [pRd, pRo, pR, pO, pN] at z9)
    have hN : w6 q50 = some ((98, 3), .inr (9, [.int 0, .int 0, .int 0])) := hf9 _ _ _ hN (by intro z9; first | (simp only [pO, pB, pS, pRd, pRo, pR, pN, Prod.mk.injEq] at z9; done) | (simp only [pO, pB, pS, pRd, pRo, pR, pN, Prod.mk.injEq] at z9; omega))
    have hF : fr pRo w0 w6 := hF.tr (hf9.up (fun t9 h9 => by simp only [pO, pRd, pRo, pR] at h9 ⊢; first | exact h9 | (subst h9; simp) | (rcases h9 with h9 | h9 <;> subst h9 <;> simp) | (rcases h9 with h9 | h9 | h9 <;> subst h9 <;> simp) | omega))
    have hr9 : w6 h = some ((98, 0), .inr (7, [.ref T, .int (nI p9_5), .ref o, .int (nI mn)])) := hr9'
    show W p l0 e rmCX9_wind s m args below meth c H locs ((((((0 + 1) + 1) + 1) + 1) + 1) + 1) ((((((0 + 7) + 7) + 7) + 7) + 3) + 7) Q (F0 m 61 ls [.int r58, .int r46, .int r12, .int r1, .ref q50, .ref q50])
    have he58 := hp0
    have hb58 := (cDg_G hb46.2).at he58
    refine lv_imul hx hb dX9_wind_61 ?_
    refine k_cI hx hb hml hown hts (CX11_init l0 E w6 q50 (98, 3) r1 r12 (r46 * r58) hN) (cwI 3 hts (lw_meth q1407) rfl rfl rfl (hts _ q103) (hts _ q1405) (hts _ q1406) rfl dyX11_init.2 ⟨Nat.le_of_ble_eq_true rfl, Nat.le_of_ble_eq_true rfl⟩) hG hP hS (As := [.int r1, .int r12, .int (r46 * r58)]) (rest := [.ref q50]) rfl hl.1 rfl (lv_room (Nat.le_of_ble_eq_true rfl)) dX9_wind_62 ⟨show ((((((0 + 1) + 1) + 1) + 1) + 1) + 1) + 0 ≤ 6 from by omega, show ((((((0 + 7) + 7) + 7) + 7) + 3) + 7) + 0 ≤ 40 from by omega⟩ (fun r62 w7 H locs hp hP hS => ?_)
    obtain ⟨hp0, ⟨hN', -⟩, hf9⟩ := hp
    have hr9 : w7 h = some ((98, 0), .inr (7, [.ref T, .int (nI p9_5), .ref o, .int (nI mn)])) := hf9 _ _ _ hr9 (by intro z9; first | (simp only [pO, pB, pS, pRd, pRo, pR, pN, Prod.mk.injEq] at z9; done) | (simp only [pO, pB, pS, pRd, pRo, pR, pN, Prod.mk.injEq] at z9; omega))
    have hST : strR E w7 T B n := hST.fr hf9 (by intro z9; simp [pRd, pRo, pR, pO, pN] at z9) (by intro z9; simp [pRd, pRo, pR, pO, pN] at z9)
    have hF : fr pRo w0 w7 := hF.tr (hf9.up (fun t9 h9 => by simp only [pO, pRd, pRo, pR] at h9 ⊢; first | exact h9 | (subst h9; simp) | (rcases h9 with h9 | h9 <;> subst h9 <;> simp) | (rcases h9 with h9 | h9 | h9 <;> subst h9 <;> simp) | omega))
    have hN : w7 q50 = some ((98, 3), .inr (9, [.int r1, .int r12, .int (r46 * r58)])) := hN'
    show W p l0 e rmCX9_wind s m args below meth c H locs ((((((0 + 1) + 1) + 1) + 1) + 1) + 1) ((((((0 + 7) + 7) + 7) + 7) + 3) + 7) Q (F0 m 65 ls [.ref q50])
    obtain ⟨w8, h9, hf9, hP⟩ := k_retag (98, 2) hP hN
    have hN : w8 q50 = some ((98, 2), .inr (9, [.int r1, .int r12, .int (r46 * r58)])) := h9
    have hr9 : w8 h = some ((98, 0), .inr (7, [.ref T, .int (nI p9_5), .ref o, .int (nI mn)])) := hf9 _ _ _ hr9 (by intro z9; first | (simp only [pO, pB, pS, pRd, pRo, pR, pN, Prod.mk.injEq] at z9; done) | (simp only [pO, pB, pS, pRd, pRo, pR, pN, Prod.mk.injEq] at z9; omega))
    have hST : strR E w8 T B n := hST.fr hf9 (by intro z9; simp [pRd, pRo, pR, pO, pN] at z9) (by intro z9; simp [pRd, pRo, pR, pO, pN] at z9)
    have hF : fr pRo w0 w8 := hF.tr (hf9.up (fun t9 h9 => by simp only [pO, pRd, pRo, pR] at h9 ⊢; first | exact h9 | (subst h9; simp) | (rcases h9 with h9 | h9 <;> subst h9 <;> simp) | (rcases h9 with h9 | h9 | h9 <;> subst h9 <;> simp) | omega))
    exact kx_aret hx hb hr (Or.inl ⟨_, rfl⟩) hlocks hQ hP hS (by omega) (by omega) dX9_wind_65 (⟨_, (od 119 r1 r12 (r46 * r58) 0), by simp [cWi, rB_s he1, rB_s he8, rB_s he12, rB_s he46, rB_s he58, c22], ⟨hr9, (by unfold odR; rw [ordE_w]; exact hN), trivial⟩, hF⟩)
  · skip
    refine lv_aload_n hx hb dX9_wind_25 rfl (lv_at hl 2 rfl) ?_
    refine k_cV hx hb hml hown hts (CX9_here l0 E w3 h T o p9_3 mn B n (by omega) hcB hr9 hST) (cwV 0 hts (lw_V q1351 q1353 qs25 q99 q1354) rfl rfl rfl dyX9_here ⟨Nat.le_of_ble_eq_true rfl, Nat.le_of_ble_eq_true rfl⟩) hG hP hS hr9 rfl (As := []) (rest := []) rfl hl.1 rfl (lv_room (Nat.le_of_ble_eq_true rfl)) dX9_wind_26 ⟨show (((0 + 1) + 1) + 1) + 0 ≤ 6 from by omega, show (((0 + 7) + 7) + 7) + 0 ≤ 40 from by omega⟩ (fun r9 w9 H locs hp hP hS => ?_)
    obtain ⟨hp1, hp0⟩ := hp
    rw [hp1] at hP
    rw [hp0]
    show W p l0 e rmCX9_wind s m args below meth c H locs (((0 + 1) + 1) + 1) (((0 + 7) + 7) + 7) Q (F0 m 29 ls [.int (pHe B n p9_3)])
    refine lv_bipush (v := 45) hx hb dX9_wind_29 (by decide) ?_
    refine lv_icmp_eq (tgt := 45) hx hb dX9_wind_31 (by decide) (fun c31 => ?_) (fun c31 => ?_)
    · skip
      refine lv_aload_n hx hb dX9_wind_45 rfl (lv_at hl 2 rfl) ?_
      refine kx_cV hx hb hml hown hts hQ ht hlocks (CX9_sign l0 hl0 E w3 h T o p9_3 mn B n (by omega) hcB hr9 hST) (cwV 0 hts (lw_V q1422 q1424 qs29 q99 q1425) rfl rfl rfl dyX9_sign ⟨Nat.le_of_ble_eq_true rfl, Nat.le_of_ble_eq_true rfl⟩) hG hP hS hr9 rfl (As := []) (rest := []) rfl hl.1 rfl (lv_room (Nat.le_of_ble_eq_true rfl)) dX9_wind_46 ⟨show (((0 + 1) + 1) + 1) + 1 ≤ 6 from by omega, show (((0 + 7) + 7) + 7) + 7 ≤ 40 from by omega⟩ ⟨show (((0 + 1) + 1) + 1) + 1 ≤ 6 from by omega, show (((0 + 7) + 7) + 7) + 7 ≤ 40 from by omega⟩ (fun X9 q9 w9 h9 => h9.up (fun p9 e9 => by simp [cWi, rB_s he1, rB_s he8, rB_s he12, c22, c31, rB_n e9]) hF (fun t9 h9 => by simp only [pRd, pRo, pR] at h9 ⊢; first | exact h9 | (rcases h9 with h9 | h9 <;> subst h9 <;> simp))) (fun r46 w9 H locs hp hP hS => ?_)
      obtain ⟨p9_6, hp0, ⟨hr9', -⟩, hf9⟩ := hp
      have hST : strR E w9 T B n := hST.fr hf9 (by intro z9; simp [pRd, pRo, pR, pO, pN] at z9) (by intro z9; simp [pRd, pRo, pR, pO, pN] at z9)
      have hF : fr pRo w0 w9 := hF.tr (hf9.up (fun t9 h9 => by simp only [pO, pRd, pRo, pR] at h9 ⊢; first | exact h9 | (subst h9; simp) | (rcases h9 with h9 | h9 <;> subst h9 <;> simp) | (rcases h9 with h9 | h9 | h9 <;> subst h9 <;> simp) | omega))
      have hr9 : w9 h = some ((98, 0), .inr (7, [.ref T, .int (nI p9_6), .ref o, .int (nI mn)])) := hr9'
      show W p l0 e rmCX9_wind s m args below meth c H locs ((((0 + 1) + 1) + 1) + 1) ((((0 + 7) + 7) + 7) + 7) Q (F0 m 49 ls [.int r46])
      have he46 := hp0
      have hb46 := (cSi_G hb12.2).at he46
      refine lv_istore_n (lv' := [(3, .int r46), (2, .int r12), (1, .int r1), (0, .ref h)]) hx hb dX9_wind_49 rfl hl (by decide) rfl (fun ls hl => ?_)
      refine k_newW hx hb (98, 3) hts in_X11 tyX11 tyX11_ok hown (hts _ q1403) (hts _ q1404) (hts _ q103) hG hP hS (ci := 9) rfl (fs := [.int 0, .int 0, .int 0]) (by decide) (show ((((0 + 1) + 1) + 1) + 1) + 1 ≤ 6 from by omega) (show ((((0 + 7) + 7) + 7) + 7) + 3 ≤ 40 from by omega) dX9_wind_50 (fun q50 w10 H h9 hf9 hP hS => ?_)
      have hN : w10 q50 = some ((98, 3), .inr (9, [.int 0, .int 0, .int 0])) := h9
      have hr9 : w10 h = some ((98, 0), .inr (7, [.ref T, .int (nI p9_6), .ref o, .int (nI mn)])) := hf9 _ _ _ hr9 (fun z9 => z9)
      have hST : strR E w10 T B n := hST.fr hf9 (fun z9 => z9) (fun z9 => z9)
      have hF : fr pRo w0 w10 := hF.tr (hf9.up (fun _ h9 => h9.elim))
      refine lv_dup hx hb dX9_wind_53 rfl ?_
      refine lv_iload_n hx hb dX9_wind_54 rfl (lv_at hl 2 rfl) ?_
      refine lv_iload_n hx hb dX9_wind_55 rfl (lv_at hl 1 rfl) ?_
      refine lv_iload_n hx hb dX9_wind_56 rfl (lv_at hl 0 rfl) ?_
      refine lv_aload_n hx hb dX9_wind_57 rfl (lv_at hl 3 rfl) ?_
      refine kx_cV hx hb hml hown hts hQ ht hlocks (CX9_digit l0 hl0 E w10 h T o p9_6 mn B n (by omega) hcB hr9 hST) (cwV 0 hts (lw_V q1375 q1377 qs27 q99 q1378) rfl rfl rfl dyX9_digit ⟨Nat.le_of_ble_eq_true rfl, Nat.le_of_ble_eq_true rfl⟩) hG hP hS hr9 rfl (As := []) (rest := [.int r46, .int r12, .int r1, .ref q50, .ref q50]) rfl hl.1 rfl (lv_room (Nat.le_of_ble_eq_true rfl)) dX9_wind_58 ⟨show (((((0 + 1) + 1) + 1) + 1) + 1) + 1 ≤ 6 from by omega, show (((((0 + 7) + 7) + 7) + 7) + 3) + 7 ≤ 40 from by omega⟩ ⟨show (((((0 + 1) + 1) + 1) + 1) + 1) + 1 ≤ 6 from by omega, show (((((0 + 7) + 7) + 7) + 7) + 3) + 7 ≤ 40 from by omega⟩ (fun X9 q9 w9 h9 => h9.up (fun p9 e9 => by simp [cWi, rB_s he1, rB_s he8, rB_s he12, rB_s he46, c22, c31, rB_n e9]) hF (fun t9 h9 => by simp only [pRd, pRo, pR] at h9 ⊢; first | exact h9 | (rcases h9 with h9 | h9 <;> subst h9 <;> simp))) (fun r58 w11 H locs hp hP hS => ?_)
      obtain ⟨p9_7, hp0, ⟨hr9', -⟩, hf9⟩ := hp
      have hST : strR E w11 T B n := hST.fr hf9 (by intro z9; simp [pRd, pRo, pR, pO, pN] at z9) (by intro z9; simp [pRd, pRo, pR, pO, pN] at z9)
      have hN : w11 q50 = some ((98, 3), .inr (9, [.int 0, .int 0, .int 0])) := hf9 _ _ _ hN (by intro z9; first | (simp only [pO, pB, pS, pRd, pRo, pR, pN, Prod.mk.injEq] at z9; done) | (simp only [pO, pB, pS, pRd, pRo, pR, pN, Prod.mk.injEq] at z9; omega))
      have hF : fr pRo w0 w11 := hF.tr (hf9.up (fun t9 h9 => by simp only [pO, pRd, pRo, pR] at h9 ⊢; first | exact h9 | (subst h9; simp) | (rcases h9 with h9 | h9 <;> subst h9 <;> simp) | (rcases h9 with h9 | h9 | h9 <;> subst h9 <;> simp) | omega))
      have hr9 : w11 h = some ((98, 0), .inr (7, [.ref T, .int (nI p9_7), .ref o, .int (nI mn)])) := hr9'
      show W p l0 e rmCX9_wind s m args below meth c H locs ((((((0 + 1) + 1) + 1) + 1) + 1) + 1) ((((((0 + 7) + 7) + 7) + 7) + 3) + 7) Q (F0 m 61 ls [.int r58, .int r46, .int r12, .int r1, .ref q50, .ref q50])
      have he58 := hp0
      have hb58 := (cDg_G hb46.2).at he58
      refine lv_imul hx hb dX9_wind_61 ?_
      refine k_cI hx hb hml hown hts (CX11_init l0 E w11 q50 (98, 3) r1 r12 (r46 * r58) hN) (cwI 3 hts (lw_meth q1407) rfl rfl rfl (hts _ q103) (hts _ q1405) (hts _ q1406) rfl dyX11_init.2 ⟨Nat.le_of_ble_eq_true rfl, Nat.le_of_ble_eq_true rfl⟩) hG hP hS (As := [.int r1, .int r12, .int (r46 * r58)]) (rest := [.ref q50]) rfl hl.1 rfl (lv_room (Nat.le_of_ble_eq_true rfl)) dX9_wind_62 ⟨show ((((((0 + 1) + 1) + 1) + 1) + 1) + 1) + 0 ≤ 6 from by omega, show ((((((0 + 7) + 7) + 7) + 7) + 3) + 7) + 0 ≤ 40 from by omega⟩ (fun r62 w12 H locs hp hP hS => ?_)
      obtain ⟨hp0, ⟨hN', -⟩, hf9⟩ := hp
      have hr9 : w12 h = some ((98, 0), .inr (7, [.ref T, .int (nI p9_7), .ref o, .int (nI mn)])) := hf9 _ _ _ hr9 (by intro z9; first | (simp only [pO, pB, pS, pRd, pRo, pR, pN, Prod.mk.injEq] at z9; done) | (simp only [pO, pB, pS, pRd, pRo, pR, pN, Prod.mk.injEq] at z9; omega))
      have hST : strR E w12 T B n := hST.fr hf9 (by intro z9; simp [pRd, pRo, pR, pO, pN] at z9) (by intro z9; simp [pRd, pRo, pR, pO, pN] at z9)
      have hF : fr pRo w0 w12 := hF.tr (hf9.up (fun t9 h9 => by simp only [pO, pRd, pRo, pR] at h9 ⊢; first | exact h9 | (subst h9; simp) | (rcases h9 with h9 | h9 <;> subst h9 <;> simp) | (rcases h9 with h9 | h9 | h9 <;> subst h9 <;> simp) | omega))
      have hN : w12 q50 = some ((98, 3), .inr (9, [.int r1, .int r12, .int (r46 * r58)])) := hN'
      show W p l0 e rmCX9_wind s m args below meth c H locs ((((((0 + 1) + 1) + 1) + 1) + 1) + 1) ((((((0 + 7) + 7) + 7) + 7) + 3) + 7) Q (F0 m 65 ls [.ref q50])
      obtain ⟨w13, h9, hf9, hP⟩ := k_retag (98, 2) hP hN
      have hN : w13 q50 = some ((98, 2), .inr (9, [.int r1, .int r12, .int (r46 * r58)])) := h9
      have hr9 : w13 h = some ((98, 0), .inr (7, [.ref T, .int (nI p9_7), .ref o, .int (nI mn)])) := hf9 _ _ _ hr9 (by intro z9; first | (simp only [pO, pB, pS, pRd, pRo, pR, pN, Prod.mk.injEq] at z9; done) | (simp only [pO, pB, pS, pRd, pRo, pR, pN, Prod.mk.injEq] at z9; omega))
      have hST : strR E w13 T B n := hST.fr hf9 (by intro z9; simp [pRd, pRo, pR, pO, pN] at z9) (by intro z9; simp [pRd, pRo, pR, pO, pN] at z9)
      have hF : fr pRo w0 w13 := hF.tr (hf9.up (fun t9 h9 => by simp only [pO, pRd, pRo, pR] at h9 ⊢; first | exact h9 | (subst h9; simp) | (rcases h9 with h9 | h9 <;> subst h9 <;> simp) | (rcases h9 with h9 | h9 | h9 <;> subst h9 <;> simp) | omega))
      exact kx_aret hx hb hr (Or.inl ⟨_, rfl⟩) hlocks hQ hP hS (by omega) (by omega) dX9_wind_65 (⟨_, (od 119 r1 r12 (r46 * r58) 0), by simp [cWi, rB_s he1, rB_s he8, rB_s he12, rB_s he46, rB_s he58, c22, c31], ⟨hr9, (by unfold odR; rw [ordE_w]; exact hN), trivial⟩, hF⟩)
    · skip
      refine k_newW hx hb (98, 3) hts in_X11 tyX11 tyX11_ok hown (hts _ q1403) (hts _ q1404) (hts _ q103) hG hP hS (ci := 9) rfl (fs := [.int 0, .int 0, .int 0]) (by decide) (show (((0 + 1) + 1) + 1) + 1 ≤ 6 from by omega) (show (((0 + 7) + 7) + 7) + 3 ≤ 40 from by omega) dX9_wind_34 (fun q34 w14 H h9 hf9 hP hS => ?_)
      have hN : w14 q34 = some ((98, 3), .inr (9, [.int 0, .int 0, .int 0])) := h9
      have hr9 : w14 h = some ((98, 0), .inr (7, [.ref T, .int (nI p9_3), .ref o, .int (nI mn)])) := hf9 _ _ _ hr9 (fun z9 => z9)
      have hST : strR E w14 T B n := hST.fr hf9 (fun z9 => z9) (fun z9 => z9)
      have hF : fr pRo w0 w14 := hF.tr (hf9.up (fun _ h9 => h9.elim))
      refine lv_dup hx hb dX9_wind_37 rfl ?_
      refine lv_iload_n hx hb dX9_wind_38 rfl (lv_at hl 1 rfl) ?_
      refine lv_iload_n hx hb dX9_wind_39 rfl (lv_at hl 0 rfl) ?_
      refine lv_iconst (v := 0) hx hb dX9_wind_40 (by decide) ?_
      refine k_cI hx hb hml hown hts (CX11_init l0 E w14 q34 (98, 3) r1 r12 0 hN) (cwI 3 hts (lw_meth q1407) rfl rfl rfl (hts _ q103) (hts _ q1405) (hts _ q1406) rfl dyX11_init.2 ⟨Nat.le_of_ble_eq_true rfl, Nat.le_of_ble_eq_true rfl⟩) hG hP hS (As := [.int r1, .int r12, .int 0]) (rest := [.ref q34]) rfl hl.1 rfl (lv_room (Nat.le_of_ble_eq_true rfl)) dX9_wind_41 ⟨show ((((0 + 1) + 1) + 1) + 1) + 0 ≤ 6 from by omega, show ((((0 + 7) + 7) + 7) + 3) + 0 ≤ 40 from by omega⟩ (fun r41 w15 H locs hp hP hS => ?_)
      obtain ⟨hp0, ⟨hN', -⟩, hf9⟩ := hp
      have hr9 : w15 h = some ((98, 0), .inr (7, [.ref T, .int (nI p9_3), .ref o, .int (nI mn)])) := hf9 _ _ _ hr9 (by intro z9; first | (simp only [pO, pB, pS, pRd, pRo, pR, pN, Prod.mk.injEq] at z9; done) | (simp only [pO, pB, pS, pRd, pRo, pR, pN, Prod.mk.injEq] at z9; omega))
      have hST : strR E w15 T B n := hST.fr hf9 (by intro z9; simp [pRd, pRo, pR, pO, pN] at z9) (by intro z9; simp [pRd, pRo, pR, pO, pN] at z9)
      have hF : fr pRo w0 w15 := hF.tr (hf9.up (fun t9 h9 => by simp only [pO, pRd, pRo, pR] at h9 ⊢; first | exact h9 | (subst h9; simp) | (rcases h9 with h9 | h9 <;> subst h9 <;> simp) | (rcases h9 with h9 | h9 | h9 <;> subst h9 <;> simp) | omega))
      have hN : w15 q34 = some ((98, 3), .inr (9, [.int r1, .int r12, .int 0])) := hN'
      show W p l0 e rmCX9_wind s m args below meth c H locs ((((0 + 1) + 1) + 1) + 1) ((((0 + 7) + 7) + 7) + 3) Q (F0 m 44 ls [.ref q34])
      obtain ⟨w16, h9, hf9, hP⟩ := k_retag (98, 2) hP hN
      have hN : w16 q34 = some ((98, 2), .inr (9, [.int r1, .int r12, .int 0])) := h9
      have hr9 : w16 h = some ((98, 0), .inr (7, [.ref T, .int (nI p9_3), .ref o, .int (nI mn)])) := hf9 _ _ _ hr9 (by intro z9; first | (simp only [pO, pB, pS, pRd, pRo, pR, pN, Prod.mk.injEq] at z9; done) | (simp only [pO, pB, pS, pRd, pRo, pR, pN, Prod.mk.injEq] at z9; omega))
      have hST : strR E w16 T B n := hST.fr hf9 (by intro z9; simp [pRd, pRo, pR, pO, pN] at z9) (by intro z9; simp [pRd, pRo, pR, pO, pN] at z9)
      have hF : fr pRo w0 w16 := hF.tr (hf9.up (fun t9 h9 => by simp only [pO, pRd, pRo, pR] at h9 ⊢; first | exact h9 | (subst h9; simp) | (rcases h9 with h9 | h9 <;> subst h9 <;> simp) | (rcases h9 with h9 | h9 | h9 <;> subst h9 <;> simp) | omega))
      exact kx_aret hx hb hr (Or.inl ⟨_, rfl⟩) hlocks hQ hP hS (by omega) (by omega) dX9_wind_44 (⟨_, (od 119 r1 r12 0 0), by simp [cWi, rB_s he1, rB_s he8, rB_s he12, c22, c31], ⟨hr9, (by unfold odR; rw [ordE_w]; exact hN), trivial⟩, hF⟩)

abbrev rmCX9_kite : Room := { frames := 8, cells := 10, slots := 70, locals := 168 }
theorem dyX9_kite : yX9_kite.cls = RX9 ∧ yX9_kite.cls ≠ "java/lang/invoke/MethodHandle" ∧ yX9_kite.cls ≠ "java/lang/invoke/VarHandle" ∧ (parseMethodDescriptor yX9_kite.desc).map (fun d => d.parameters.length) = some 0 := by decide +kernel
set_option maxHeartbeats 4000000 in
theorem CX9_kite (l0 : Launch) (hl0 : l0.stackTraces = false) (E : gE) (w : wd) (h : Nat) (T : Nat) (o : Nat) (po : Nat) (mn : Nat) (B : Nat → Int32) (n : Nat) (hp9 : po ≤ n) (hcB : cB B n) (hr9 : w h = some ((98, 0), .inr (7, [.ref T, .int (nI po), .ref o, .int (nI mn)]))) (hST : strR E w T B n) : kX l0 yX9_kite (ws_ yX9_kite cX9_kite 4 (some (.object "KiteRoofs$Order"))) rmCX9_kite 10 70 mR E w [.ref h] (fun r w' => ∃ p9 : Nat, ∃ v9 : Nat → Int32, (cKi B n po = (some v9, p9)) ∧ (w' h = some ((98, 0), .inr (7, [.ref T, .int (nI p9), .ref o, .int (nI mn)])) ∧ odR w' r v9 ∧ True) ∧ fr pRo w w') (pxF pRo w (cKi B n po)) := by
  refine kx_open (cc := cX9_kite) (maxL := 4) (ret := (some (.object "KiteRoofs$Order"))) (by decide) rfl (Nat.le_of_ble_eq_true rfl) ?_
  intro p e s m args below meth c ls Q hx hb hr hml hown hts hlocks hname ht hQ hG hP hl hS
  have hl : lv_has ls 4 [(0, .ref h)] := hl
  obtain ⟨w0, hw0⟩ : ∃ z, z = w := ⟨_, rfl⟩
  have hF : fr pRo w0 w := by rw [hw0]; exact fr.rf
  rw [← hw0] at hQ
  have hn60 := hST.le
  refine lv_aload_n hx hb dX9_kite_0 rfl (lv_at hl 0 rfl) ?_
  refine kx_cV hx hb hml hown hts hQ ht hlocks (CX9_digit l0 hl0 E w h T o po mn B n (by omega) hcB hr9 hST) (cwV 0 hts (lw_V q1375 q1377 qs27 q99 q1378) rfl rfl rfl dyX9_digit ⟨Nat.le_of_ble_eq_true rfl, Nat.le_of_ble_eq_true rfl⟩) hG hP hS hr9 rfl (As := []) (rest := []) rfl hl.1 rfl (lv_room (Nat.le_of_ble_eq_true rfl)) dX9_kite_1 ⟨show 0 + 1 ≤ 10 from by omega, show 0 + 7 ≤ 70 from by omega⟩ ⟨show 0 + 1 ≤ 10 from by omega, show 0 + 7 ≤ 70 from by omega⟩ (fun X9 q9 w9 h9 => h9.up (fun p9 e9 => by simp [cKi, rB_n e9]) hF (fun t9 h9 => by simp only [pRd, pRo, pR] at h9 ⊢; first | exact h9 | (rcases h9 with h9 | h9 <;> subst h9 <;> simp))) (fun r1 w1 H locs hp hP hS => ?_)
  obtain ⟨p9_1, hp0, ⟨hr9', -⟩, hf9⟩ := hp
  have hST : strR E w1 T B n := hST.fr hf9 (by intro z9; simp [pRd, pRo, pR, pO, pN] at z9) (by intro z9; simp [pRd, pRo, pR, pO, pN] at z9)
  have hF : fr pRo w0 w1 := hF.tr (hf9.up (fun t9 h9 => by simp only [pO, pRd, pRo, pR] at h9 ⊢; first | exact h9 | (subst h9; simp) | (rcases h9 with h9 | h9 <;> subst h9 <;> simp) | (rcases h9 with h9 | h9 | h9 <;> subst h9 <;> simp) | omega))
  have hr9 : w1 h = some ((98, 0), .inr (7, [.ref T, .int (nI p9_1), .ref o, .int (nI mn)])) := hr9'
  show W p l0 e rmCX9_kite s m args below meth c H locs (0 + 1) (0 + 7) Q (F0 m 4 ls [.int r1])
  have he1 := hp0
  have hb1 := (cDg_G hp9).at he1
  refine lv_istore_n (lv' := [(1, .int r1), (0, .ref h)]) hx hb dX9_kite_4 rfl hl (by decide) rfl (fun ls hl => ?_)
  refine lv_aload_n hx hb dX9_kite_5 rfl (lv_at hl 1 rfl) ?_
  refine lv_bipush (v := 64) hx hb dX9_kite_6 (by decide) ?_
  refine kx_cV hx hb hml hown hts hQ ht hlocks (CX9_must l0 hl0 E w1 h T o p9_1 mn B n 64 (by omega) hcB hr9 hST) (cwV 1 hts (lw_V q1399 q1401 qs28 q99 q1402) rfl rfl rfl dyX9_must ⟨Nat.le_of_ble_eq_true rfl, Nat.le_of_ble_eq_true rfl⟩) hG hP hS hr9 rfl (As := [.int 64]) (rest := []) rfl hl.1 rfl (lv_room (Nat.le_of_ble_eq_true rfl)) dX9_kite_8 ⟨show (0 + 1) + 1 ≤ 10 from by omega, show (0 + 7) + 7 ≤ 70 from by omega⟩ ⟨show (0 + 1) + 1 ≤ 10 from by omega, show (0 + 7) + 7 ≤ 70 from by omega⟩ (fun X9 q9 w9 h9 => h9.up (fun p9 e9 => by simp [cKi, rB_s he1, rB_n e9]) hF (fun t9 h9 => by simp only [pRd, pRo, pR] at h9 ⊢; first | exact h9 | (rcases h9 with h9 | h9 <;> subst h9 <;> simp))) (fun r8 w2 H locs hp hP hS => ?_)
  obtain ⟨p9_2, hp0, ⟨hr9', -⟩, hf9⟩ := hp
  have hST : strR E w2 T B n := hST.fr hf9 (by intro z9; simp [pRd, pRo, pR, pO, pN] at z9) (by intro z9; simp [pRd, pRo, pR, pO, pN] at z9)
  have hF : fr pRo w0 w2 := hF.tr (hf9.up (fun t9 h9 => by simp only [pO, pRd, pRo, pR] at h9 ⊢; first | exact h9 | (subst h9; simp) | (rcases h9 with h9 | h9 <;> subst h9 <;> simp) | (rcases h9 with h9 | h9 | h9 <;> subst h9 <;> simp) | omega))
  have hr9 : w2 h = some ((98, 0), .inr (7, [.ref T, .int (nI p9_2), .ref o, .int (nI mn)])) := hr9'
  show W p l0 e rmCX9_kite s m args below meth c H locs ((0 + 1) + 1) ((0 + 7) + 7) Q (F0 m 11 ls [])
  have he8 := hp0
  have hb8 := (cMu_G hb1.2 (by decide)).at he8
  refine lv_aload_n hx hb dX9_kite_11 rfl (lv_at hl 1 rfl) ?_
  refine kx_cV hx hb hml hown hts hQ ht hlocks (CX9_number l0 hl0 E w2 h T o p9_2 mn B n (by omega) hcB hr9 hST) (cwV 0 hts (lw_V q1430 q1432 qs31 q99 q1433) rfl rfl rfl dyX9_number ⟨Nat.le_of_ble_eq_true rfl, Nat.le_of_ble_eq_true rfl⟩) hG hP hS hr9 rfl (As := []) (rest := []) rfl hl.1 rfl (lv_room (Nat.le_of_ble_eq_true rfl)) dX9_kite_12 ⟨show ((0 + 1) + 1) + 2 ≤ 10 from by omega, show ((0 + 7) + 7) + 14 ≤ 70 from by omega⟩ ⟨show ((0 + 1) + 1) + 2 ≤ 10 from by omega, show ((0 + 7) + 7) + 14 ≤ 70 from by omega⟩ (fun X9 q9 w9 h9 => h9.up (fun p9 e9 => by simp [cKi, rB_s he1, rB_s he8, rB_n e9]) hF (fun t9 h9 => by simp only [pRd, pRo, pR] at h9 ⊢; first | exact h9 | (rcases h9 with h9 | h9 <;> subst h9 <;> simp))) (fun r12 w3 H locs hp hP hS => ?_)
  obtain ⟨p9_3, hp0, ⟨hr9', -⟩, hf9⟩ := hp
  have hST : strR E w3 T B n := hST.fr hf9 (by intro z9; simp [pRd, pRo, pR, pO, pN] at z9) (by intro z9; simp [pRd, pRo, pR, pO, pN] at z9)
  have hF : fr pRo w0 w3 := hF.tr (hf9.up (fun t9 h9 => by simp only [pO, pRd, pRo, pR] at h9 ⊢; first | exact h9 | (subst h9; simp) | (rcases h9 with h9 | h9 <;> subst h9 <;> simp) | (rcases h9 with h9 | h9 | h9 <;> subst h9 <;> simp) | omega))
  have hr9 : w3 h = some ((98, 0), .inr (7, [.ref T, .int (nI p9_3), .ref o, .int (nI mn)])) := hr9'
  show W p l0 e rmCX9_kite s m args below meth c H locs (((0 + 1) + 1) + 2) (((0 + 7) + 7) + 14) Q (F0 m 15 ls [.int r12])
  have he12 := hp0
  have hb12 := (cNu_G hb8.2).at he12
  refine lv_istore_n (lv' := [(2, .int r12), (1, .int r1), (0, .ref h)]) hx hb dX9_kite_15 rfl hl (by decide) rfl (fun ls hl => ?_)
  refine lv_aload_n hx hb dX9_kite_16 rfl (lv_at hl 2 rfl) ?_
  refine lv_bipush (v := 42) hx hb dX9_kite_17 (by decide) ?_
  refine kx_cV hx hb hml hown hts hQ ht hlocks (CX9_must l0 hl0 E w3 h T o p9_3 mn B n 42 (by omega) hcB hr9 hST) (cwV 1 hts (lw_V q1399 q1401 qs28 q99 q1402) rfl rfl rfl dyX9_must ⟨Nat.le_of_ble_eq_true rfl, Nat.le_of_ble_eq_true rfl⟩) hG hP hS hr9 rfl (As := [.int 42]) (rest := []) rfl hl.1 rfl (lv_room (Nat.le_of_ble_eq_true rfl)) dX9_kite_19 ⟨show (((0 + 1) + 1) + 2) + 1 ≤ 10 from by omega, show (((0 + 7) + 7) + 14) + 7 ≤ 70 from by omega⟩ ⟨show (((0 + 1) + 1) + 2) + 1 ≤ 10 from by omega, show (((0 + 7) + 7) + 14) + 7 ≤ 70 from by omega⟩ (fun X9 q9 w9 h9 => h9.up (fun p9 e9 => by simp [cKi, rB_s he1, rB_s he8, rB_s he12, rB_n e9]) hF (fun t9 h9 => by simp only [pRd, pRo, pR] at h9 ⊢; first | exact h9 | (rcases h9 with h9 | h9 <;> subst h9 <;> simp))) (fun r19 w4 H locs hp hP hS => ?_)
  obtain ⟨p9_4, hp0, ⟨hr9', -⟩, hf9⟩ := hp
  have hST : strR E w4 T B n := hST.fr hf9 (by intro z9; simp [pRd, pRo, pR, pO, pN] at z9) (by intro z9; simp [pRd, pRo, pR, pO, pN] at z9)
  have hF : fr pRo w0 w4 := hF.tr (hf9.up (fun t9 h9 => by simp only [pO, pRd, pRo, pR] at h9 ⊢; first | exact h9 | (subst h9; simp) | (rcases h9 with h9 | h9 <;> subst h9 <;> simp) | (rcases h9 with h9 | h9 | h9 <;> subst h9 <;> simp) | omega))
  have hr9 : w4 h = some ((98, 0), .inr (7, [.ref T, .int (nI p9_4), .ref o, .int (nI mn)])) := hr9'
  show W p l0 e rmCX9_kite s m args below meth c H locs ((((0 + 1) + 1) + 2) + 1) ((((0 + 7) + 7) + 14) + 7) Q (F0 m 22 ls [])
  have he19 := hp0
  have hb19 := (cMu_G hb12.2 (by decide)).at he19
  refine lv_aload_n hx hb dX9_kite_22 rfl (lv_at hl 2 rfl) ?_
  refine kx_cV hx hb hml hown hts hQ ht hlocks (CX9_number l0 hl0 E w4 h T o p9_4 mn B n (by omega) hcB hr9 hST) (cwV 0 hts (lw_V q1430 q1432 qs31 q99 q1433) rfl rfl rfl dyX9_number ⟨Nat.le_of_ble_eq_true rfl, Nat.le_of_ble_eq_true rfl⟩) hG hP hS hr9 rfl (As := []) (rest := []) rfl hl.1 rfl (lv_room (Nat.le_of_ble_eq_true rfl)) dX9_kite_23 ⟨show ((((0 + 1) + 1) + 2) + 1) + 2 ≤ 10 from by omega, show ((((0 + 7) + 7) + 14) + 7) + 14 ≤ 70 from by omega⟩ ⟨show ((((0 + 1) + 1) + 2) + 1) + 2 ≤ 10 from by omega, show ((((0 + 7) + 7) + 14) + 7) + 14 ≤ 70 from by omega⟩ (fun X9 q9 w9 h9 => h9.up (fun p9 e9 => by simp [cKi, rB_s he1, rB_s he8, rB_s he12, rB_s he19, rB_n e9]) hF (fun t9 h9 => by simp only [pRd, pRo, pR] at h9 ⊢; first | exact h9 | (rcases h9 with h9 | h9 <;> subst h9 <;> simp))) (fun r23 w5 H locs hp hP hS => ?_)
  obtain ⟨p9_5, hp0, ⟨hr9', -⟩, hf9⟩ := hp
  have hST : strR E w5 T B n := hST.fr hf9 (by intro z9; simp [pRd, pRo, pR, pO, pN] at z9) (by intro z9; simp [pRd, pRo, pR, pO, pN] at z9)
  have hF : fr pRo w0 w5 := hF.tr (hf9.up (fun t9 h9 => by simp only [pO, pRd, pRo, pR] at h9 ⊢; first | exact h9 | (subst h9; simp) | (rcases h9 with h9 | h9 <;> subst h9 <;> simp) | (rcases h9 with h9 | h9 | h9 <;> subst h9 <;> simp) | omega))
  have hr9 : w5 h = some ((98, 0), .inr (7, [.ref T, .int (nI p9_5), .ref o, .int (nI mn)])) := hr9'
  show W p l0 e rmCX9_kite s m args below meth c H locs (((((0 + 1) + 1) + 2) + 1) + 2) (((((0 + 7) + 7) + 14) + 7) + 14) Q (F0 m 26 ls [.int r23])
  have he23 := hp0
  have hb23 := (cNu_G hb19.2).at he23
  refine lv_istore_n (lv' := [(3, .int r23), (2, .int r12), (1, .int r1), (0, .ref h)]) hx hb dX9_kite_26 rfl hl (by decide) rfl (fun ls hl => ?_)
  refine lv_aload_n hx hb dX9_kite_27 rfl (lv_at hl 3 rfl) ?_
  refine lv_bipush (v := 35) hx hb dX9_kite_28 (by decide) ?_
  refine kx_cV hx hb hml hown hts hQ ht hlocks (CX9_must l0 hl0 E w5 h T o p9_5 mn B n 35 (by omega) hcB hr9 hST) (cwV 1 hts (lw_V q1399 q1401 qs28 q99 q1402) rfl rfl rfl dyX9_must ⟨Nat.le_of_ble_eq_true rfl, Nat.le_of_ble_eq_true rfl⟩) hG hP hS hr9 rfl (As := [.int 35]) (rest := []) rfl hl.1 rfl (lv_room (Nat.le_of_ble_eq_true rfl)) dX9_kite_30 ⟨show (((((0 + 1) + 1) + 2) + 1) + 2) + 1 ≤ 10 from by omega, show (((((0 + 7) + 7) + 14) + 7) + 14) + 7 ≤ 70 from by omega⟩ ⟨show (((((0 + 1) + 1) + 2) + 1) + 2) + 1 ≤ 10 from by omega, show (((((0 + 7) + 7) + 14) + 7) + 14) + 7 ≤ 70 from by omega⟩ (fun X9 q9 w9 h9 => h9.up (fun p9 e9 => by simp [cKi, rB_s he1, rB_s he8, rB_s he12, rB_s he19, rB_s he23, rB_n e9]) hF (fun t9 h9 => by simp only [pRd, pRo, pR] at h9 ⊢; first | exact h9 | (rcases h9 with h9 | h9 <;> subst h9 <;> simp))) (fun r30 w6 H locs hp hP hS => ?_)
  obtain ⟨p9_6, hp0, ⟨hr9', -⟩, hf9⟩ := hp
  have hST : strR E w6 T B n := hST.fr hf9 (by intro z9; simp [pRd, pRo, pR, pO, pN] at z9) (by intro z9; simp [pRd, pRo, pR, pO, pN] at z9)
  have hF : fr pRo w0 w6 := hF.tr (hf9.up (fun t9 h9 => by simp only [pO, pRd, pRo, pR] at h9 ⊢; first | exact h9 | (subst h9; simp) | (rcases h9 with h9 | h9 <;> subst h9 <;> simp) | (rcases h9 with h9 | h9 | h9 <;> subst h9 <;> simp) | omega))
  have hr9 : w6 h = some ((98, 0), .inr (7, [.ref T, .int (nI p9_6), .ref o, .int (nI mn)])) := hr9'
  show W p l0 e rmCX9_kite s m args below meth c H locs ((((((0 + 1) + 1) + 2) + 1) + 2) + 1) ((((((0 + 7) + 7) + 14) + 7) + 14) + 7) Q (F0 m 33 ls [])
  have he30 := hp0
  have hb30 := (cMu_G hb23.2 (by decide)).at he30
  refine k_newW hx hb (98, 3) hts in_X12 tyX12 tyX12_ok hown (hts _ q1434) (hts _ q1435) (hts _ q104) hG hP hS (ci := 10) rfl (fs := [.int 0, .int 0, .int 0, .int 0]) (by decide) (show ((((((0 + 1) + 1) + 2) + 1) + 2) + 1) + 1 ≤ 10 from by omega) (show ((((((0 + 7) + 7) + 14) + 7) + 14) + 7) + 4 ≤ 70 from by omega) dX9_kite_33 (fun q33 w7 H h9 hf9 hP hS => ?_)
  have hN : w7 q33 = some ((98, 3), .inr (10, [.int 0, .int 0, .int 0, .int 0])) := h9
  have hr9 : w7 h = some ((98, 0), .inr (7, [.ref T, .int (nI p9_6), .ref o, .int (nI mn)])) := hf9 _ _ _ hr9 (fun z9 => z9)
  have hST : strR E w7 T B n := hST.fr hf9 (fun z9 => z9) (fun z9 => z9)
  have hF : fr pRo w0 w7 := hF.tr (hf9.up (fun _ h9 => h9.elim))
  refine lv_dup hx hb dX9_kite_36 rfl ?_
  refine lv_iload_n hx hb dX9_kite_37 rfl (lv_at hl 2 rfl) ?_
  refine lv_iload_n hx hb dX9_kite_38 rfl (lv_at hl 1 rfl) ?_
  refine lv_iload_n hx hb dX9_kite_39 rfl (lv_at hl 0 rfl) ?_
  refine lv_aload_n hx hb dX9_kite_40 rfl (lv_at hl 3 rfl) ?_
  refine kx_cV hx hb hml hown hts hQ ht hlocks (CX9_digit l0 hl0 E w7 h T o p9_6 mn B n (by omega) hcB hr9 hST) (cwV 0 hts (lw_V q1375 q1377 qs27 q99 q1378) rfl rfl rfl dyX9_digit ⟨Nat.le_of_ble_eq_true rfl, Nat.le_of_ble_eq_true rfl⟩) hG hP hS hr9 rfl (As := []) (rest := [.int r23, .int r12, .int r1, .ref q33, .ref q33]) rfl hl.1 rfl (lv_room (Nat.le_of_ble_eq_true rfl)) dX9_kite_41 ⟨show (((((((0 + 1) + 1) + 2) + 1) + 2) + 1) + 1) + 1 ≤ 10 from by omega, show (((((((0 + 7) + 7) + 14) + 7) + 14) + 7) + 4) + 7 ≤ 70 from by omega⟩ ⟨show (((((((0 + 1) + 1) + 2) + 1) + 2) + 1) + 1) + 1 ≤ 10 from by omega, show (((((((0 + 7) + 7) + 14) + 7) + 14) + 7) + 4) + 7 ≤ 70 from by omega⟩ (fun X9 q9 w9 h9 => h9.up (fun p9 e9 => by simp [cKi, rB_s he1, rB_s he8, rB_s he12, rB_s he19, rB_s he23, rB_s he30, rB_n e9]) hF (fun t9 h9 => by simp only [pRd, pRo, pR] at h9 ⊢; first | exact h9 | (rcases h9 with h9 | h9 <;> subst h9 <;> simp))) (fun r41 w8 H locs hp hP hS => ?_)
  obtain ⟨p9_7, hp0, ⟨hr9', -⟩, hf9⟩ := hp
  have hST : strR E w8 T B n := hST.fr hf9 (by intro z9; simp [pRd, pRo, pR, pO, pN] at z9) (by intro z9; simp [pRd, pRo, pR, pO, pN] at z9)
  have hN : w8 q33 = some ((98, 3), .inr (10, [.int 0, .int 0, .int 0, .int 0])) := hf9 _ _ _ hN (by intro z9; first | (simp only [pO, pB, pS, pRd, pRo, pR, pN, Prod.mk.injEq] at z9; done) | (simp only [pO, pB, pS, pRd, pRo, pR, pN, Prod.mk.injEq] at z9; omega))
  have hF : fr pRo w0 w8 := hF.tr (hf9.up (fun t9 h9 => by simp only [pO, pRd, pRo, pR] at h9 ⊢; first | exact h9 | (subst h9; simp) | (rcases h9 with h9 | h9 <;> subst h9 <;> simp) | (rcases h9 with h9 | h9 | h9 <;> subst h9 <;> simp) | omega))
  have hr9 : w8 h = some ((98, 0), .inr (7, [.ref T, .int (nI p9_7), .ref o, .int (nI mn)])) := hr9'
  show W p l0 e rmCX9_kite s m args below meth c H locs ((((((((0 + 1) + 1) + 2) + 1) + 2) + 1) + 1) + 1) ((((((((0 + 7) + 7) + 14) + 7) + 14) + 7) + 4) + 7) Q (F0 m 44 ls [.int r41, .int r23, .int r12, .int r1, .ref q33, .ref q33])
  have he41 := hp0
  have hb41 := (cDg_G hb30.2).at he41
  refine k_cI hx hb hml hown hts (CX12_init l0 E w8 q33 (98, 3) r1 r12 r23 r41 hN) (cwI 4 hts (lw_meth q1438) rfl rfl rfl (hts _ q104) (hts _ q1436) (hts _ q1437) rfl dyX12_init.2 ⟨Nat.le_of_ble_eq_true rfl, Nat.le_of_ble_eq_true rfl⟩) hG hP hS (As := [.int r1, .int r12, .int r23, .int r41]) (rest := [.ref q33]) rfl hl.1 rfl (lv_room (Nat.le_of_ble_eq_true rfl)) dX9_kite_44 ⟨show ((((((((0 + 1) + 1) + 2) + 1) + 2) + 1) + 1) + 1) + 0 ≤ 10 from by omega, show ((((((((0 + 7) + 7) + 14) + 7) + 14) + 7) + 4) + 7) + 0 ≤ 70 from by omega⟩ (fun r44 w9 H locs hp hP hS => ?_)
  obtain ⟨hp0, ⟨hN', -⟩, hf9⟩ := hp
  have hr9 : w9 h = some ((98, 0), .inr (7, [.ref T, .int (nI p9_7), .ref o, .int (nI mn)])) := hf9 _ _ _ hr9 (by intro z9; first | (simp only [pO, pB, pS, pRd, pRo, pR, pN, Prod.mk.injEq] at z9; done) | (simp only [pO, pB, pS, pRd, pRo, pR, pN, Prod.mk.injEq] at z9; omega))
  have hST : strR E w9 T B n := hST.fr hf9 (by intro z9; simp [pRd, pRo, pR, pO, pN] at z9) (by intro z9; simp [pRd, pRo, pR, pO, pN] at z9)
  have hF : fr pRo w0 w9 := hF.tr (hf9.up (fun t9 h9 => by simp only [pO, pRd, pRo, pR] at h9 ⊢; first | exact h9 | (subst h9; simp) | (rcases h9 with h9 | h9 <;> subst h9 <;> simp) | (rcases h9 with h9 | h9 | h9 <;> subst h9 <;> simp) | omega))
  have hN : w9 q33 = some ((98, 3), .inr (10, [.int r1, .int r12, .int r23, .int r41])) := hN'
  show W p l0 e rmCX9_kite s m args below meth c H locs ((((((((0 + 1) + 1) + 2) + 1) + 2) + 1) + 1) + 1) ((((((((0 + 7) + 7) + 14) + 7) + 14) + 7) + 4) + 7) Q (F0 m 47 ls [.ref q33])
  obtain ⟨w10, h9, hf9, hP⟩ := k_retag (98, 2) hP hN
  have hN : w10 q33 = some ((98, 2), .inr (10, [.int r1, .int r12, .int r23, .int r41])) := h9
  have hr9 : w10 h = some ((98, 0), .inr (7, [.ref T, .int (nI p9_7), .ref o, .int (nI mn)])) := hf9 _ _ _ hr9 (by intro z9; first | (simp only [pO, pB, pS, pRd, pRo, pR, pN, Prod.mk.injEq] at z9; done) | (simp only [pO, pB, pS, pRd, pRo, pR, pN, Prod.mk.injEq] at z9; omega))
  have hST : strR E w10 T B n := hST.fr hf9 (by intro z9; simp [pRd, pRo, pR, pO, pN] at z9) (by intro z9; simp [pRd, pRo, pR, pO, pN] at z9)
  have hF : fr pRo w0 w10 := hF.tr (hf9.up (fun t9 h9 => by simp only [pO, pRd, pRo, pR] at h9 ⊢; first | exact h9 | (subst h9; simp) | (rcases h9 with h9 | h9 <;> subst h9 <;> simp) | (rcases h9 with h9 | h9 | h9 <;> subst h9 <;> simp) | omega))
  exact kx_aret hx hb hr (Or.inl ⟨_, rfl⟩) hlocks hQ hP hS (by omega) (by omega) dX9_kite_47 (⟨_, (od 107 r1 r12 r23 r41), by simp [cKi, rB_s he1, rB_s he8, rB_s he12, rB_s he19, rB_s he23, rB_s he30, rB_s he41], ⟨hr9, (by unfold odR; rw [ordE_k]; exact hN), trivial⟩, hF⟩)
