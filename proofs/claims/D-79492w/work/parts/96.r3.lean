/-! THE READER, 5: the orders read -/
set_option maxRecDepth 100000
abbrev rmCX9_order : Room := { frames := 10, cells := 12, slots := 90, locals := 211 }
theorem dyX9_order : yX9_order.cls = RX9 ∧ yX9_order.cls ≠ "java/lang/invoke/MethodHandle" ∧ yX9_order.cls ≠ "java/lang/invoke/VarHandle" ∧ (parseMethodDescriptor yX9_order.desc).map (fun d => d.parameters.length) = some 0 := by decide +kernel
set_option maxHeartbeats 4000000 in
theorem CX9_order (l0 : Launch) (hl0 : l0.stackTraces = false) (E : gE) (w : wd) (h : Nat) (T : Nat) (o : Nat) (po : Nat) (mn : Nat) (B : Nat → Int32) (n : Nat) (hp9 : po ≤ n) (hcB : cB B n) (hr9 : w h = some ((98, 0), .inr (7, [.ref T, .int (nI po), .ref o, .int (nI mn)]))) (hST : strR E w T B n) : kX l0 yX9_order (ws_ yX9_order cX9_order 3 (some (.object "KiteRoofs$Order"))) rmCX9_order 12 90 mR E w [.ref h] (fun r w' => ∃ p9 : Nat, ∃ v9 : Nat → Int32, (cOr B n po = (some v9, p9)) ∧ (w' h = some ((98, 0), .inr (7, [.ref T, .int (nI p9), .ref o, .int (nI mn)])) ∧ odR w' r v9 ∧ True) ∧ fr pRo w w') (pxF pRo w (cOr B n po)) := by
  refine kx_open (cc := cX9_order) (maxL := 3) (ret := (some (.object "KiteRoofs$Order"))) (by decide) rfl (Nat.le_of_ble_eq_true rfl) ?_
  intro p e s m args below meth c ls Q hx hb hr hml hown hts hlocks hname ht hQ hG hP hl hS
  have hl : lv_has ls 3 [(0, .ref h)] := hl
  obtain ⟨w0, hw0⟩ : ∃ z, z = w := ⟨_, rfl⟩
  have hF : fr pRo w0 w := by rw [hw0]; exact fr.rf
  rw [← hw0] at hQ
  have hn60 := hST.le
  refine lv_aload_n hx hb dX9_order_0 rfl (lv_at hl 0 rfl) ?_
  refine lv_bipush (v := 119) hx hb dX9_order_1 (by decide) ?_
  refine k_cV hx hb hml hown hts (CX9_skip l0 E w h T o po mn B n 119 (by omega) hcB hr9 hST) (cwV 1 hts (lw_V q1347 q1349 qs24 q99 q1350) rfl rfl rfl dyX9_skip ⟨Nat.le_of_ble_eq_true rfl, Nat.le_of_ble_eq_true rfl⟩) hG hP hS hr9 rfl (As := [.int 119]) (rest := []) rfl hl.1 rfl (lv_room (Nat.le_of_ble_eq_true rfl)) dX9_order_3 ⟨show 0 + 0 ≤ 12 from by omega, show 0 + 0 ≤ 90 from by omega⟩ (fun r3 w1 H locs hp hP hS => ?_)
  obtain ⟨hp0, ⟨hr9', -⟩, hf9⟩ := hp
  have hST : strR E w1 T B n := hST.fr hf9 (by intro z9; simp [pRd, pRo, pR, pO, pN] at z9) (by intro z9; simp [pRd, pRo, pR, pO, pN] at z9)
  have hF : fr pRo w0 w1 := hF.tr (hf9.up (fun t9 h9 => by simp only [pO, pRd, pRo, pR] at h9 ⊢; first | exact h9 | (subst h9; simp) | (rcases h9 with h9 | h9 <;> subst h9 <;> simp) | (rcases h9 with h9 | h9 | h9 <;> subst h9 <;> simp) | omega))
  have hr9 : w1 h = some ((98, 0), .inr (7, [.ref T, .int (nI (cSk B n po 119)), .ref o, .int (nI mn)])) := hr9'
  rw [hp0]
  show W p l0 e rmCX9_order s m args below meth c H locs 0 0 Q (F0 m 6 ls [.int (bI (decide (pHe B n po = 119)))])
  refine k_ifeqB (x := decide (pHe B n po = 119)) (tgt := 14) hx hb dX9_order_6 (by decide) (fun c6 => ?_) (fun c6 => ?_)
  · skip
    rw [sDn c6] at hr9
    have hr9 : w1 h = some ((98, 0), .inr (7, [.ref T, .int (nI po), .ref o, .int (nI mn)])) := hr9
    refine lv_aload_n hx hb dX9_order_14 rfl (lv_at hl 0 rfl) ?_
    refine lv_bipush (v := 107) hx hb dX9_order_15 (by decide) ?_
    refine k_cV hx hb hml hown hts (CX9_skip l0 E w1 h T o po mn B n 107 (by omega) hcB hr9 hST) (cwV 1 hts (lw_V q1347 q1349 qs24 q99 q1350) rfl rfl rfl dyX9_skip ⟨Nat.le_of_ble_eq_true rfl, Nat.le_of_ble_eq_true rfl⟩) hG hP hS hr9 rfl (As := [.int 107]) (rest := []) rfl hl.1 rfl (lv_room (Nat.le_of_ble_eq_true rfl)) dX9_order_17 ⟨show 0 + 0 ≤ 12 from by omega, show 0 + 0 ≤ 90 from by omega⟩ (fun r17 w2 H locs hp hP hS => ?_)
    obtain ⟨hp0, ⟨hr9', -⟩, hf9⟩ := hp
    have hST : strR E w2 T B n := hST.fr hf9 (by intro z9; simp [pRd, pRo, pR, pO, pN] at z9) (by intro z9; simp [pRd, pRo, pR, pO, pN] at z9)
    have hF : fr pRo w0 w2 := hF.tr (hf9.up (fun t9 h9 => by simp only [pO, pRd, pRo, pR] at h9 ⊢; first | exact h9 | (subst h9; simp) | (rcases h9 with h9 | h9 <;> subst h9 <;> simp) | (rcases h9 with h9 | h9 | h9 <;> subst h9 <;> simp) | omega))
    have hr9 : w2 h = some ((98, 0), .inr (7, [.ref T, .int (nI (cSk B n po 107)), .ref o, .int (nI mn)])) := hr9'
    rw [hp0]
    show W p l0 e rmCX9_order s m args below meth c H locs 0 0 Q (F0 m 20 ls [.int (bI (decide (pHe B n po = 107)))])
    refine k_ifeqB (x := decide (pHe B n po = 107)) (tgt := 28) hx hb dX9_order_20 (by decide) (fun c20 => ?_) (fun c20 => ?_)
    · skip
      rw [sDn c20] at hr9
      have hr9 : w2 h = some ((98, 0), .inr (7, [.ref T, .int (nI po), .ref o, .int (nI mn)])) := hr9
      refine lv_aload_n hx hb dX9_order_28 rfl (lv_at hl 0 rfl) ?_
      refine lv_bipush (v := 117) hx hb dX9_order_29 (by decide) ?_
      refine k_cV hx hb hml hown hts (CX9_skip l0 E w2 h T o po mn B n 117 (by omega) hcB hr9 hST) (cwV 1 hts (lw_V q1347 q1349 qs24 q99 q1350) rfl rfl rfl dyX9_skip ⟨Nat.le_of_ble_eq_true rfl, Nat.le_of_ble_eq_true rfl⟩) hG hP hS hr9 rfl (As := [.int 117]) (rest := []) rfl hl.1 rfl (lv_room (Nat.le_of_ble_eq_true rfl)) dX9_order_31 ⟨show 0 + 0 ≤ 12 from by omega, show 0 + 0 ≤ 90 from by omega⟩ (fun r31 w3 H locs hp hP hS => ?_)
      obtain ⟨hp0, ⟨hr9', -⟩, hf9⟩ := hp
      have hST : strR E w3 T B n := hST.fr hf9 (by intro z9; simp [pRd, pRo, pR, pO, pN] at z9) (by intro z9; simp [pRd, pRo, pR, pO, pN] at z9)
      have hF : fr pRo w0 w3 := hF.tr (hf9.up (fun t9 h9 => by simp only [pO, pRd, pRo, pR] at h9 ⊢; first | exact h9 | (subst h9; simp) | (rcases h9 with h9 | h9 <;> subst h9 <;> simp) | (rcases h9 with h9 | h9 | h9 <;> subst h9 <;> simp) | omega))
      have hr9 : w3 h = some ((98, 0), .inr (7, [.ref T, .int (nI (cSk B n po 117)), .ref o, .int (nI mn)])) := hr9'
      rw [hp0]
      show W p l0 e rmCX9_order s m args below meth c H locs 0 0 Q (F0 m 34 ls [.int (bI (decide (pHe B n po = 117)))])
      refine k_ifeqB (x := decide (pHe B n po = 117)) (tgt := 49) hx hb dX9_order_34 (by decide) (fun c34 => ?_) (fun c34 => ?_)
      · skip
        rw [sDn c34] at hr9
        have hr9 : w3 h = some ((98, 0), .inr (7, [.ref T, .int (nI po), .ref o, .int (nI mn)])) := hr9
        refine lv_aload_n hx hb dX9_order_49 rfl (lv_at hl 0 rfl) ?_
        refine lv_bipush (v := 114) hx hb dX9_order_50 (by decide) ?_
        refine k_cV hx hb hml hown hts (CX9_skip l0 E w3 h T o po mn B n 114 (by omega) hcB hr9 hST) (cwV 1 hts (lw_V q1347 q1349 qs24 q99 q1350) rfl rfl rfl dyX9_skip ⟨Nat.le_of_ble_eq_true rfl, Nat.le_of_ble_eq_true rfl⟩) hG hP hS hr9 rfl (As := [.int 114]) (rest := []) rfl hl.1 rfl (lv_room (Nat.le_of_ble_eq_true rfl)) dX9_order_52 ⟨show 0 + 0 ≤ 12 from by omega, show 0 + 0 ≤ 90 from by omega⟩ (fun r52 w4 H locs hp hP hS => ?_)
        obtain ⟨hp0, ⟨hr9', -⟩, hf9⟩ := hp
        have hST : strR E w4 T B n := hST.fr hf9 (by intro z9; simp [pRd, pRo, pR, pO, pN] at z9) (by intro z9; simp [pRd, pRo, pR, pO, pN] at z9)
        have hF : fr pRo w0 w4 := hF.tr (hf9.up (fun t9 h9 => by simp only [pO, pRd, pRo, pR] at h9 ⊢; first | exact h9 | (subst h9; simp) | (rcases h9 with h9 | h9 <;> subst h9 <;> simp) | (rcases h9 with h9 | h9 | h9 <;> subst h9 <;> simp) | omega))
        have hr9 : w4 h = some ((98, 0), .inr (7, [.ref T, .int (nI (cSk B n po 114)), .ref o, .int (nI mn)])) := hr9'
        rw [hp0]
        show W p l0 e rmCX9_order s m args below meth c H locs 0 0 Q (F0 m 55 ls [.int (bI (decide (pHe B n po = 114)))])
        refine k_ifeqB (x := decide (pHe B n po = 114)) (tgt := 83) hx hb dX9_order_55 (by decide) (fun c55 => ?_) (fun c55 => ?_)
        · skip
          rw [sDn c55] at hr9
          have hr9 : w4 h = some ((98, 0), .inr (7, [.ref T, .int (nI po), .ref o, .int (nI mn)])) := hr9
          refine lv_aload_n hx hb dX9_order_83 rfl (lv_at hl 0 rfl) ?_
          refine lv_bipush (v := 116) hx hb dX9_order_84 (by decide) ?_
          refine kx_cV hx hb hml hown hts hQ ht hlocks (CX9_must l0 hl0 E w4 h T o po mn B n 116 (by omega) hcB hr9 hST) (cwV 1 hts (lw_V q1399 q1401 qs28 q99 q1402) rfl rfl rfl dyX9_must ⟨Nat.le_of_ble_eq_true rfl, Nat.le_of_ble_eq_true rfl⟩) hG hP hS hr9 rfl (As := [.int 116]) (rest := []) rfl hl.1 rfl (lv_room (Nat.le_of_ble_eq_true rfl)) dX9_order_86 ⟨show 0 + 1 ≤ 12 from by omega, show 0 + 7 ≤ 90 from by omega⟩ ⟨show 0 + 1 ≤ 12 from by omega, show 0 + 7 ≤ 90 from by omega⟩ (fun X9 q9 w9 h9 => h9.up (fun p9 e9 => by simp [cOr, of_decide_eq_false c6, of_decide_eq_false c20, of_decide_eq_false c34, of_decide_eq_false c55, rB_n e9]) hF (fun t9 h9 => by simp only [pRd, pRo, pR] at h9 ⊢; first | exact h9 | (rcases h9 with h9 | h9 <;> subst h9 <;> simp))) (fun r86 w5 H locs hp hP hS => ?_)
          obtain ⟨p9_1, hp0, ⟨hr9', -⟩, hf9⟩ := hp
          have hST : strR E w5 T B n := hST.fr hf9 (by intro z9; simp [pRd, pRo, pR, pO, pN] at z9) (by intro z9; simp [pRd, pRo, pR, pO, pN] at z9)
          have hF : fr pRo w0 w5 := hF.tr (hf9.up (fun t9 h9 => by simp only [pO, pRd, pRo, pR] at h9 ⊢; first | exact h9 | (subst h9; simp) | (rcases h9 with h9 | h9 <;> subst h9 <;> simp) | (rcases h9 with h9 | h9 | h9 <;> subst h9 <;> simp) | omega))
          have hr9 : w5 h = some ((98, 0), .inr (7, [.ref T, .int (nI p9_1), .ref o, .int (nI mn)])) := hr9'
          show W p l0 e rmCX9_order s m args below meth c H locs (0 + 1) (0 + 7) Q (F0 m 89 ls [])
          have he86 := hp0
          have hb86 := (cMu_G hp9 (by decide)).at he86
          refine k_newW hx hb (98, 3) hts in_X15 tyX15 tyX15_ok hown (hts _ q1483) (hts _ q1484) (hts _ q107) hG hP hS (ci := 13) rfl (fs := [.int 0]) (by decide) (show (0 + 1) + 1 ≤ 12 from by omega) (show (0 + 7) + 1 ≤ 90 from by omega) dX9_order_89 (fun q89 w6 H h9 hf9 hP hS => ?_)
          have hN : w6 q89 = some ((98, 3), .inr (13, [.int 0])) := h9
          have hr9 : w6 h = some ((98, 0), .inr (7, [.ref T, .int (nI p9_1), .ref o, .int (nI mn)])) := hf9 _ _ _ hr9 (fun z9 => z9)
          have hST : strR E w6 T B n := hST.fr hf9 (fun z9 => z9) (fun z9 => z9)
          have hF : fr pRo w0 w6 := hF.tr (hf9.up (fun _ h9 => h9.elim))
          refine lv_dup hx hb dX9_order_92 rfl ?_
          refine lv_aload_n hx hb dX9_order_93 rfl (lv_at hl 0 rfl) ?_
          refine kx_cV hx hb hml hown hts hQ ht hlocks (CX9_number l0 hl0 E w6 h T o p9_1 mn B n (by omega) hcB hr9 hST) (cwV 0 hts (lw_V q1430 q1432 qs31 q99 q1433) rfl rfl rfl dyX9_number ⟨Nat.le_of_ble_eq_true rfl, Nat.le_of_ble_eq_true rfl⟩) hG hP hS hr9 rfl (As := []) (rest := [.ref q89, .ref q89]) rfl hl.1 rfl (lv_room (Nat.le_of_ble_eq_true rfl)) dX9_order_94 ⟨show ((0 + 1) + 1) + 2 ≤ 12 from by omega, show ((0 + 7) + 1) + 14 ≤ 90 from by omega⟩ ⟨show ((0 + 1) + 1) + 2 ≤ 12 from by omega, show ((0 + 7) + 1) + 14 ≤ 90 from by omega⟩ (fun X9 q9 w9 h9 => h9.up (fun p9 e9 => by simp [cOr, of_decide_eq_false c6, of_decide_eq_false c20, of_decide_eq_false c34, of_decide_eq_false c55, rB_s he86, rB_n e9]) hF (fun t9 h9 => by simp only [pRd, pRo, pR] at h9 ⊢; first | exact h9 | (rcases h9 with h9 | h9 <;> subst h9 <;> simp))) (fun r94 w7 H locs hp hP hS => ?_)
          obtain ⟨p9_2, hp0, ⟨hr9', -⟩, hf9⟩ := hp
          have hST : strR E w7 T B n := hST.fr hf9 (by intro z9; simp [pRd, pRo, pR, pO, pN] at z9) (by intro z9; simp [pRd, pRo, pR, pO, pN] at z9)
          have hN : w7 q89 = some ((98, 3), .inr (13, [.int 0])) := hf9 _ _ _ hN (by intro z9; first | (simp only [pO, pB, pS, pRd, pRo, pR, pN, Prod.mk.injEq] at z9; done) | (simp only [pO, pB, pS, pRd, pRo, pR, pN, Prod.mk.injEq] at z9; omega))
          have hF : fr pRo w0 w7 := hF.tr (hf9.up (fun t9 h9 => by simp only [pO, pRd, pRo, pR] at h9 ⊢; first | exact h9 | (subst h9; simp) | (rcases h9 with h9 | h9 <;> subst h9 <;> simp) | (rcases h9 with h9 | h9 | h9 <;> subst h9 <;> simp) | omega))
          have hr9 : w7 h = some ((98, 0), .inr (7, [.ref T, .int (nI p9_2), .ref o, .int (nI mn)])) := hr9'
          show W p l0 e rmCX9_order s m args below meth c H locs (((0 + 1) + 1) + 2) (((0 + 7) + 1) + 14) Q (F0 m 97 ls [.int r94, .ref q89, .ref q89])
          have he94 := hp0
          have hb94 := (cNu_G hb86.2).at he94
          refine k_cI hx hb hml hown hts (CX15_init l0 E w7 q89 (98, 3) r94 hN) (cwI 1 hts (lw_meth q1487) rfl rfl rfl (hts _ q107) (hts _ q1485) (hts _ q1486) rfl dyX15_init.2 ⟨Nat.le_of_ble_eq_true rfl, Nat.le_of_ble_eq_true rfl⟩) hG hP hS (As := [.int r94]) (rest := [.ref q89]) rfl hl.1 rfl (lv_room (Nat.le_of_ble_eq_true rfl)) dX9_order_97 ⟨show (((0 + 1) + 1) + 2) + 0 ≤ 12 from by omega, show (((0 + 7) + 1) + 14) + 0 ≤ 90 from by omega⟩ (fun r97 w8 H locs hp hP hS => ?_)
          obtain ⟨hp0, ⟨hN', -⟩, hf9⟩ := hp
          have hr9 : w8 h = some ((98, 0), .inr (7, [.ref T, .int (nI p9_2), .ref o, .int (nI mn)])) := hf9 _ _ _ hr9 (by intro z9; first | (simp only [pO, pB, pS, pRd, pRo, pR, pN, Prod.mk.injEq] at z9; done) | (simp only [pO, pB, pS, pRd, pRo, pR, pN, Prod.mk.injEq] at z9; omega))
          have hST : strR E w8 T B n := hST.fr hf9 (by intro z9; simp [pRd, pRo, pR, pO, pN] at z9) (by intro z9; simp [pRd, pRo, pR, pO, pN] at z9)
          have hF : fr pRo w0 w8 := hF.tr (hf9.up (fun t9 h9 => by simp only [pO, pRd, pRo, pR] at h9 ⊢; first | exact h9 | (subst h9; simp) | (rcases h9 with h9 | h9 <;> subst h9 <;> simp) | (rcases h9 with h9 | h9 | h9 <;> subst h9 <;> simp) | omega))
          have hN : w8 q89 = some ((98, 3), .inr (13, [.int r94])) := hN'
          show W p l0 e rmCX9_order s m args below meth c H locs (((0 + 1) + 1) + 2) (((0 + 7) + 1) + 14) Q (F0 m 100 ls [.ref q89])
          obtain ⟨w9, h9, hf9, hP⟩ := k_retag (98, 2) hP hN
          have hN : w9 q89 = some ((98, 2), .inr (13, [.int r94])) := h9
          have hr9 : w9 h = some ((98, 0), .inr (7, [.ref T, .int (nI p9_2), .ref o, .int (nI mn)])) := hf9 _ _ _ hr9 (by intro z9; first | (simp only [pO, pB, pS, pRd, pRo, pR, pN, Prod.mk.injEq] at z9; done) | (simp only [pO, pB, pS, pRd, pRo, pR, pN, Prod.mk.injEq] at z9; omega))
          have hST : strR E w9 T B n := hST.fr hf9 (by intro z9; simp [pRd, pRo, pR, pO, pN] at z9) (by intro z9; simp [pRd, pRo, pR, pO, pN] at z9)
          have hF : fr pRo w0 w9 := hF.tr (hf9.up (fun t9 h9 => by simp only [pO, pRd, pRo, pR] at h9 ⊢; first | exact h9 | (subst h9; simp) | (rcases h9 with h9 | h9 <;> subst h9 <;> simp) | (rcases h9 with h9 | h9 | h9 <;> subst h9 <;> simp) | omega))
          exact kx_aret hx hb hr (Or.inl ⟨_, rfl⟩) hlocks hQ hP hS (by omega) (by omega) dX9_order_100 (⟨_, (od 116 r94 0 0 0), by simp [cOr, of_decide_eq_false c6, of_decide_eq_false c20, of_decide_eq_false c34, of_decide_eq_false c55, rB_s he86, rB_s he94], ⟨hr9, (by unfold odR; rw [ordE_t]; exact hN), trivial⟩, hF⟩)
        · skip
          rw [sDp c55] at hr9
          have hb55 := pHe_lt' (of_decide_eq_true c55) (by decide)
          have hr9 : w4 h = some ((98, 0), .inr (7, [.ref T, .int (nI (po + 1)), .ref o, .int (nI mn)])) := hr9
          refine lv_aload_n hx hb dX9_order_58 rfl (lv_at hl 0 rfl) ?_
          refine kx_cV hx hb hml hown hts hQ ht hlocks (CX9_digit l0 hl0 E w4 h T o (po + 1) mn B n (by omega) hcB hr9 hST) (cwV 0 hts (lw_V q1375 q1377 qs27 q99 q1378) rfl rfl rfl dyX9_digit ⟨Nat.le_of_ble_eq_true rfl, Nat.le_of_ble_eq_true rfl⟩) hG hP hS hr9 rfl (As := []) (rest := []) rfl hl.1 rfl (lv_room (Nat.le_of_ble_eq_true rfl)) dX9_order_59 ⟨show 0 + 1 ≤ 12 from by omega, show 0 + 7 ≤ 90 from by omega⟩ ⟨show 0 + 1 ≤ 12 from by omega, show 0 + 7 ≤ 90 from by omega⟩ (fun X9 q9 w9 h9 => h9.up (fun p9 e9 => by simp [cOr, of_decide_eq_false c6, of_decide_eq_false c20, of_decide_eq_false c34, of_decide_eq_true c55, rB_n e9]) hF (fun t9 h9 => by simp only [pRd, pRo, pR] at h9 ⊢; first | exact h9 | (rcases h9 with h9 | h9 <;> subst h9 <;> simp))) (fun r59 w10 H locs hp hP hS => ?_)
          obtain ⟨p9_3, hp0, ⟨hr9', -⟩, hf9⟩ := hp
          have hST : strR E w10 T B n := hST.fr hf9 (by intro z9; simp [pRd, pRo, pR, pO, pN] at z9) (by intro z9; simp [pRd, pRo, pR, pO, pN] at z9)
          have hF : fr pRo w0 w10 := hF.tr (hf9.up (fun t9 h9 => by simp only [pO, pRd, pRo, pR] at h9 ⊢; first | exact h9 | (subst h9; simp) | (rcases h9 with h9 | h9 <;> subst h9 <;> simp) | (rcases h9 with h9 | h9 | h9 <;> subst h9 <;> simp) | omega))
          have hr9 : w10 h = some ((98, 0), .inr (7, [.ref T, .int (nI p9_3), .ref o, .int (nI mn)])) := hr9'
          show W p l0 e rmCX9_order s m args below meth c H locs (0 + 1) (0 + 7) Q (F0 m 62 ls [.int r59])
          have he59 := hp0
          have hb59 := (cDg_G hb55).at he59
          refine lv_istore_n (lv' := [(1, .int r59), (0, .ref h)]) hx hb dX9_order_62 rfl hl (by decide) rfl (fun ls hl => ?_)
          refine lv_aload_n hx hb dX9_order_63 rfl (lv_at hl 1 rfl) ?_
          refine kx_cV hx hb hml hown hts hQ ht hlocks (CX9_sign l0 hl0 E w10 h T o p9_3 mn B n (by omega) hcB hr9 hST) (cwV 0 hts (lw_V q1422 q1424 qs29 q99 q1425) rfl rfl rfl dyX9_sign ⟨Nat.le_of_ble_eq_true rfl, Nat.le_of_ble_eq_true rfl⟩) hG hP hS hr9 rfl (As := []) (rest := []) rfl hl.1 rfl (lv_room (Nat.le_of_ble_eq_true rfl)) dX9_order_64 ⟨show (0 + 1) + 1 ≤ 12 from by omega, show (0 + 7) + 7 ≤ 90 from by omega⟩ ⟨show (0 + 1) + 1 ≤ 12 from by omega, show (0 + 7) + 7 ≤ 90 from by omega⟩ (fun X9 q9 w9 h9 => h9.up (fun p9 e9 => by simp [cOr, of_decide_eq_false c6, of_decide_eq_false c20, of_decide_eq_false c34, of_decide_eq_true c55, rB_s he59, rB_n e9]) hF (fun t9 h9 => by simp only [pRd, pRo, pR] at h9 ⊢; first | exact h9 | (rcases h9 with h9 | h9 <;> subst h9 <;> simp))) (fun r64 w11 H locs hp hP hS => ?_)
          obtain ⟨p9_4, hp0, ⟨hr9', -⟩, hf9⟩ := hp
          have hST : strR E w11 T B n := hST.fr hf9 (by intro z9; simp [pRd, pRo, pR, pO, pN] at z9) (by intro z9; simp [pRd, pRo, pR, pO, pN] at z9)
          have hF : fr pRo w0 w11 := hF.tr (hf9.up (fun t9 h9 => by simp only [pO, pRd, pRo, pR] at h9 ⊢; first | exact h9 | (subst h9; simp) | (rcases h9 with h9 | h9 <;> subst h9 <;> simp) | (rcases h9 with h9 | h9 | h9 <;> subst h9 <;> simp) | omega))
          have hr9 : w11 h = some ((98, 0), .inr (7, [.ref T, .int (nI p9_4), .ref o, .int (nI mn)])) := hr9'
          show W p l0 e rmCX9_order s m args below meth c H locs ((0 + 1) + 1) ((0 + 7) + 7) Q (F0 m 67 ls [.int r64])
          have he64 := hp0
          have hb64 := (cSi_G hb59.2).at he64
          refine lv_istore_n (lv' := [(2, .int r64), (1, .int r59), (0, .ref h)]) hx hb dX9_order_67 rfl hl (by decide) rfl (fun ls hl => ?_)
          refine k_newW hx hb (98, 3) hts in_X14 tyX14 tyX14_ok hown (hts _ q1468) (hts _ q1469) (hts _ q106) hG hP hS (ci := 12) rfl (fs := [.int 0, .int 0]) (by decide) (show ((0 + 1) + 1) + 1 ≤ 12 from by omega) (show ((0 + 7) + 7) + 2 ≤ 90 from by omega) dX9_order_68 (fun q68 w12 H h9 hf9 hP hS => ?_)
          have hN : w12 q68 = some ((98, 3), .inr (12, [.int 0, .int 0])) := h9
          have hr9 : w12 h = some ((98, 0), .inr (7, [.ref T, .int (nI p9_4), .ref o, .int (nI mn)])) := hf9 _ _ _ hr9 (fun z9 => z9)
          have hST : strR E w12 T B n := hST.fr hf9 (fun z9 => z9) (fun z9 => z9)
          have hF : fr pRo w0 w12 := hF.tr (hf9.up (fun _ h9 => h9.elim))
          refine lv_dup hx hb dX9_order_71 rfl ?_
          refine lv_iload_n hx hb dX9_order_72 rfl (lv_at hl 1 rfl) ?_
          refine lv_iload_n hx hb dX9_order_73 rfl (lv_at hl 0 rfl) ?_
          refine lv_aload_n hx hb dX9_order_74 rfl (lv_at hl 2 rfl) ?_
          refine kx_cV hx hb hml hown hts hQ ht hlocks (CX9_number l0 hl0 E w12 h T o p9_4 mn B n (by omega) hcB hr9 hST) (cwV 0 hts (lw_V q1430 q1432 qs31 q99 q1433) rfl rfl rfl dyX9_number ⟨Nat.le_of_ble_eq_true rfl, Nat.le_of_ble_eq_true rfl⟩) hG hP hS hr9 rfl (As := []) (rest := [.int r64, .int r59, .ref q68, .ref q68]) rfl hl.1 rfl (lv_room (Nat.le_of_ble_eq_true rfl)) dX9_order_75 ⟨show (((0 + 1) + 1) + 1) + 2 ≤ 12 from by omega, show (((0 + 7) + 7) + 2) + 14 ≤ 90 from by omega⟩ ⟨show (((0 + 1) + 1) + 1) + 2 ≤ 12 from by omega, show (((0 + 7) + 7) + 2) + 14 ≤ 90 from by omega⟩ (fun X9 q9 w9 h9 => h9.up (fun p9 e9 => by simp [cOr, of_decide_eq_false c6, of_decide_eq_false c20, of_decide_eq_false c34, of_decide_eq_true c55, rB_s he59, rB_s he64, rB_n e9]) hF (fun t9 h9 => by simp only [pRd, pRo, pR] at h9 ⊢; first | exact h9 | (rcases h9 with h9 | h9 <;> subst h9 <;> simp))) (fun r75 w13 H locs hp hP hS => ?_)
          obtain ⟨p9_5, hp0, ⟨hr9', -⟩, hf9⟩ := hp
          have hST : strR E w13 T B n := hST.fr hf9 (by intro z9; simp [pRd, pRo, pR, pO, pN] at z9) (by intro z9; simp [pRd, pRo, pR, pO, pN] at z9)
          have hN : w13 q68 = some ((98, 3), .inr (12, [.int 0, .int 0])) := hf9 _ _ _ hN (by intro z9; first | (simp only [pO, pB, pS, pRd, pRo, pR, pN, Prod.mk.injEq] at z9; done) | (simp only [pO, pB, pS, pRd, pRo, pR, pN, Prod.mk.injEq] at z9; omega))
          have hF : fr pRo w0 w13 := hF.tr (hf9.up (fun t9 h9 => by simp only [pO, pRd, pRo, pR] at h9 ⊢; first | exact h9 | (subst h9; simp) | (rcases h9 with h9 | h9 <;> subst h9 <;> simp) | (rcases h9 with h9 | h9 | h9 <;> subst h9 <;> simp) | omega))
          have hr9 : w13 h = some ((98, 0), .inr (7, [.ref T, .int (nI p9_5), .ref o, .int (nI mn)])) := hr9'
          show W p l0 e rmCX9_order s m args below meth c H locs ((((0 + 1) + 1) + 1) + 2) ((((0 + 7) + 7) + 2) + 14) Q (F0 m 78 ls [.int r75, .int r64, .int r59, .ref q68, .ref q68])
          have he75 := hp0
          have hb75 := (cNu_G hb64.2).at he75
          refine lv_imul hx hb dX9_order_78 ?_
          refine k_cI hx hb hml hown hts (CX14_init l0 E w13 q68 (98, 3) r59 (r64 * r75) hN) (cwI 2 hts (lw_meth q1472) rfl rfl rfl (hts _ q106) (hts _ q1470) (hts _ q1471) rfl dyX14_init.2 ⟨Nat.le_of_ble_eq_true rfl, Nat.le_of_ble_eq_true rfl⟩) hG hP hS (As := [.int r59, .int (r64 * r75)]) (rest := [.ref q68]) rfl hl.1 rfl (lv_room (Nat.le_of_ble_eq_true rfl)) dX9_order_79 ⟨show ((((0 + 1) + 1) + 1) + 2) + 0 ≤ 12 from by omega, show ((((0 + 7) + 7) + 2) + 14) + 0 ≤ 90 from by omega⟩ (fun r79 w14 H locs hp hP hS => ?_)
          obtain ⟨hp0, ⟨hN', -⟩, hf9⟩ := hp
          have hr9 : w14 h = some ((98, 0), .inr (7, [.ref T, .int (nI p9_5), .ref o, .int (nI mn)])) := hf9 _ _ _ hr9 (by intro z9; first | (simp only [pO, pB, pS, pRd, pRo, pR, pN, Prod.mk.injEq] at z9; done) | (simp only [pO, pB, pS, pRd, pRo, pR, pN, Prod.mk.injEq] at z9; omega))
          have hST : strR E w14 T B n := hST.fr hf9 (by intro z9; simp [pRd, pRo, pR, pO, pN] at z9) (by intro z9; simp [pRd, pRo, pR, pO, pN] at z9)
          have hF : fr pRo w0 w14 := hF.tr (hf9.up (fun t9 h9 => by simp only [pO, pRd, pRo, pR] at h9 ⊢; first | exact h9 | (subst h9; simp) | (rcases h9 with h9 | h9 <;> subst h9 <;> simp) | (rcases h9 with h9 | h9 | h9 <;> subst h9 <;> simp) | omega))
          have hN : w14 q68 = some ((98, 3), .inr (12, [.int r59, .int (r64 * r75)])) := hN'
          show W p l0 e rmCX9_order s m args below meth c H locs ((((0 + 1) + 1) + 1) + 2) ((((0 + 7) + 7) + 2) + 14) Q (F0 m 82 ls [.ref q68])
          obtain ⟨w15, h9, hf9, hP⟩ := k_retag (98, 2) hP hN
          have hN : w15 q68 = some ((98, 2), .inr (12, [.int r59, .int (r64 * r75)])) := h9
          have hr9 : w15 h = some ((98, 0), .inr (7, [.ref T, .int (nI p9_5), .ref o, .int (nI mn)])) := hf9 _ _ _ hr9 (by intro z9; first | (simp only [pO, pB, pS, pRd, pRo, pR, pN, Prod.mk.injEq] at z9; done) | (simp only [pO, pB, pS, pRd, pRo, pR, pN, Prod.mk.injEq] at z9; omega))
          have hST : strR E w15 T B n := hST.fr hf9 (by intro z9; simp [pRd, pRo, pR, pO, pN] at z9) (by intro z9; simp [pRd, pRo, pR, pO, pN] at z9)
          have hF : fr pRo w0 w15 := hF.tr (hf9.up (fun t9 h9 => by simp only [pO, pRd, pRo, pR] at h9 ⊢; first | exact h9 | (subst h9; simp) | (rcases h9 with h9 | h9 <;> subst h9 <;> simp) | (rcases h9 with h9 | h9 | h9 <;> subst h9 <;> simp) | omega))
          exact kx_aret hx hb hr (Or.inl ⟨_, rfl⟩) hlocks hQ hP hS (by omega) (by omega) dX9_order_82 (⟨_, (od 114 r59 (r64 * r75) 0 0), by simp [cOr, of_decide_eq_false c6, of_decide_eq_false c20, of_decide_eq_false c34, of_decide_eq_true c55, rB_s he59, rB_s he64, rB_s he75], ⟨hr9, (by unfold odR; rw [ordE_r]; exact hN), trivial⟩, hF⟩)
      · skip
        rw [sDp c34] at hr9
        have hb34 := pHe_lt' (of_decide_eq_true c34) (by decide)
        have hr9 : w3 h = some ((98, 0), .inr (7, [.ref T, .int (nI (po + 1)), .ref o, .int (nI mn)])) := hr9
        refine k_newW hx hb (98, 3) hts in_X13 tyX13 tyX13_ok hown (hts _ q1457) (hts _ q1458) (hts _ q105) hG hP hS (ci := 11) rfl (fs := [.int 0]) (by decide) (show 0 + 1 ≤ 12 from by omega) (show 0 + 1 ≤ 90 from by omega) dX9_order_37 (fun q37 w16 H h9 hf9 hP hS => ?_)
        have hN : w16 q37 = some ((98, 3), .inr (11, [.int 0])) := h9
        have hr9 : w16 h = some ((98, 0), .inr (7, [.ref T, .int (nI (po + 1)), .ref o, .int (nI mn)])) := hf9 _ _ _ hr9 (fun z9 => z9)
        have hST : strR E w16 T B n := hST.fr hf9 (fun z9 => z9) (fun z9 => z9)
        have hF : fr pRo w0 w16 := hF.tr (hf9.up (fun _ h9 => h9.elim))
        refine lv_dup hx hb dX9_order_40 rfl ?_
        refine lv_aload_n hx hb dX9_order_41 rfl (lv_at hl 0 rfl) ?_
        refine kx_cV hx hb hml hown hts hQ ht hlocks (CX9_digit l0 hl0 E w16 h T o (po + 1) mn B n (by omega) hcB hr9 hST) (cwV 0 hts (lw_V q1375 q1377 qs27 q99 q1378) rfl rfl rfl dyX9_digit ⟨Nat.le_of_ble_eq_true rfl, Nat.le_of_ble_eq_true rfl⟩) hG hP hS hr9 rfl (As := []) (rest := [.ref q37, .ref q37]) rfl hl.1 rfl (lv_room (Nat.le_of_ble_eq_true rfl)) dX9_order_42 ⟨show (0 + 1) + 1 ≤ 12 from by omega, show (0 + 1) + 7 ≤ 90 from by omega⟩ ⟨show (0 + 1) + 1 ≤ 12 from by omega, show (0 + 1) + 7 ≤ 90 from by omega⟩ (fun X9 q9 w9 h9 => h9.up (fun p9 e9 => by simp [cOr, of_decide_eq_false c6, of_decide_eq_false c20, of_decide_eq_true c34, rB_n e9]) hF (fun t9 h9 => by simp only [pRd, pRo, pR] at h9 ⊢; first | exact h9 | (rcases h9 with h9 | h9 <;> subst h9 <;> simp))) (fun r42 w17 H locs hp hP hS => ?_)
        obtain ⟨p9_6, hp0, ⟨hr9', -⟩, hf9⟩ := hp
        have hST : strR E w17 T B n := hST.fr hf9 (by intro z9; simp [pRd, pRo, pR, pO, pN] at z9) (by intro z9; simp [pRd, pRo, pR, pO, pN] at z9)
        have hN : w17 q37 = some ((98, 3), .inr (11, [.int 0])) := hf9 _ _ _ hN (by intro z9; first | (simp only [pO, pB, pS, pRd, pRo, pR, pN, Prod.mk.injEq] at z9; done) | (simp only [pO, pB, pS, pRd, pRo, pR, pN, Prod.mk.injEq] at z9; omega))
        have hF : fr pRo w0 w17 := hF.tr (hf9.up (fun t9 h9 => by simp only [pO, pRd, pRo, pR] at h9 ⊢; first | exact h9 | (subst h9; simp) | (rcases h9 with h9 | h9 <;> subst h9 <;> simp) | (rcases h9 with h9 | h9 | h9 <;> subst h9 <;> simp) | omega))
        have hr9 : w17 h = some ((98, 0), .inr (7, [.ref T, .int (nI p9_6), .ref o, .int (nI mn)])) := hr9'
        show W p l0 e rmCX9_order s m args below meth c H locs ((0 + 1) + 1) ((0 + 1) + 7) Q (F0 m 45 ls [.int r42, .ref q37, .ref q37])
        have he42 := hp0
        have hb42 := (cDg_G hb34).at he42
        refine k_cI hx hb hml hown hts (CX13_init l0 E w17 q37 (98, 3) r42 hN) (cwI 1 hts (lw_meth q1461) rfl rfl rfl (hts _ q105) (hts _ q1459) (hts _ q1460) rfl dyX13_init.2 ⟨Nat.le_of_ble_eq_true rfl, Nat.le_of_ble_eq_true rfl⟩) hG hP hS (As := [.int r42]) (rest := [.ref q37]) rfl hl.1 rfl (lv_room (Nat.le_of_ble_eq_true rfl)) dX9_order_45 ⟨show ((0 + 1) + 1) + 0 ≤ 12 from by omega, show ((0 + 1) + 7) + 0 ≤ 90 from by omega⟩ (fun r45 w18 H locs hp hP hS => ?_)
        obtain ⟨hp0, ⟨hN', -⟩, hf9⟩ := hp
        have hr9 : w18 h = some ((98, 0), .inr (7, [.ref T, .int (nI p9_6), .ref o, .int (nI mn)])) := hf9 _ _ _ hr9 (by intro z9; first | (simp only [pO, pB, pS, pRd, pRo, pR, pN, Prod.mk.injEq] at z9; done) | (simp only [pO, pB, pS, pRd, pRo, pR, pN, Prod.mk.injEq] at z9; omega))
        have hST : strR E w18 T B n := hST.fr hf9 (by intro z9; simp [pRd, pRo, pR, pO, pN] at z9) (by intro z9; simp [pRd, pRo, pR, pO, pN] at z9)
        have hF : fr pRo w0 w18 := hF.tr (hf9.up (fun t9 h9 => by simp only [pO, pRd, pRo, pR] at h9 ⊢; first | exact h9 | (subst h9; simp) | (rcases h9 with h9 | h9 <;> subst h9 <;> simp) | (rcases h9 with h9 | h9 | h9 <;> subst h9 <;> simp) | omega))
        have hN : w18 q37 = some ((98, 3), .inr (11, [.int r42])) := hN'
        show W p l0 e rmCX9_order s m args below meth c H locs ((0 + 1) + 1) ((0 + 1) + 7) Q (F0 m 48 ls [.ref q37])
        obtain ⟨w19, h9, hf9, hP⟩ := k_retag (98, 2) hP hN
        have hN : w19 q37 = some ((98, 2), .inr (11, [.int r42])) := h9
        have hr9 : w19 h = some ((98, 0), .inr (7, [.ref T, .int (nI p9_6), .ref o, .int (nI mn)])) := hf9 _ _ _ hr9 (by intro z9; first | (simp only [pO, pB, pS, pRd, pRo, pR, pN, Prod.mk.injEq] at z9; done) | (simp only [pO, pB, pS, pRd, pRo, pR, pN, Prod.mk.injEq] at z9; omega))
        have hST : strR E w19 T B n := hST.fr hf9 (by intro z9; simp [pRd, pRo, pR, pO, pN] at z9) (by intro z9; simp [pRd, pRo, pR, pO, pN] at z9)
        have hF : fr pRo w0 w19 := hF.tr (hf9.up (fun t9 h9 => by simp only [pO, pRd, pRo, pR] at h9 ⊢; first | exact h9 | (subst h9; simp) | (rcases h9 with h9 | h9 <;> subst h9 <;> simp) | (rcases h9 with h9 | h9 | h9 <;> subst h9 <;> simp) | omega))
        exact kx_aret hx hb hr (Or.inl ⟨_, rfl⟩) hlocks hQ hP hS (by omega) (by omega) dX9_order_48 (⟨_, (od 117 r42 0 0 0), by simp [cOr, of_decide_eq_false c6, of_decide_eq_false c20, of_decide_eq_true c34, rB_s he42], ⟨hr9, (by unfold odR; rw [ordE_u]; exact hN), trivial⟩, hF⟩)
    · skip
      rw [sDp c20] at hr9
      have hb20 := pHe_lt' (of_decide_eq_true c20) (by decide)
      have hr9 : w2 h = some ((98, 0), .inr (7, [.ref T, .int (nI (po + 1)), .ref o, .int (nI mn)])) := hr9
      refine lv_aload_n hx hb dX9_order_23 rfl (lv_at hl 0 rfl) ?_
      refine kx_cV hx hb hml hown hts hQ ht hlocks (CX9_kite l0 hl0 E w2 h T o (po + 1) mn B n (by omega) hcB hr9 hST) (cwV 0 hts (lw_V q1426 q1428 qs30 q99 q1429) rfl rfl rfl dyX9_kite ⟨Nat.le_of_ble_eq_true rfl, Nat.le_of_ble_eq_true rfl⟩) hG hP hS hr9 rfl (As := []) (rest := []) rfl hl.1 rfl (lv_room (Nat.le_of_ble_eq_true rfl)) dX9_order_24 ⟨show 0 + 10 ≤ 12 from by omega, show 0 + 70 ≤ 90 from by omega⟩ ⟨show 0 + 10 ≤ 12 from by omega, show 0 + 70 ≤ 90 from by omega⟩ (fun X9 q9 w9 h9 => h9.up (fun p9 e9 => by simp [cOr, of_decide_eq_false c6, of_decide_eq_true c20, e9]) hF (fun t9 h9 => by simp only [pRd, pRo, pR] at h9 ⊢; first | exact h9 | (rcases h9 with h9 | h9 <;> subst h9 <;> simp))) (fun r24 w20 H locs hp hP hS => ?_)
      obtain ⟨p9_7, v9_8, hp0, ⟨hr9', hn9', -⟩, hf9⟩ := hp
      have hST : strR E w20 T B n := hST.fr hf9 (by intro z9; simp [pRd, pRo, pR, pO, pN] at z9) (by intro z9; simp [pRd, pRo, pR, pO, pN] at z9)
      have hF : fr pRo w0 w20 := hF.tr (hf9.up (fun _ h9 => h9))
      have hr9 : w20 h = some ((98, 0), .inr (7, [.ref T, .int (nI p9_7), .ref o, .int (nI mn)])) := hr9'
      have hn9 : odR w20 r24 v9_8 := hn9'
      show W p l0 e rmCX9_order s m args below meth c H locs (0 + 10) (0 + 70) Q (F0 m 27 ls [.ref r24])
      have he24 := hp0
      exact kx_aret hx hb hr (Or.inl ⟨_, rfl⟩) hlocks hQ hP hS (by omega) (by omega) dX9_order_27 (⟨_, _, by simp [cOr, of_decide_eq_false c6, of_decide_eq_true c20, he24], ⟨hr9, hn9, trivial⟩, hF⟩)
  · skip
    rw [sDp c6] at hr9
    have hb6 := pHe_lt' (of_decide_eq_true c6) (by decide)
    have hr9 : w1 h = some ((98, 0), .inr (7, [.ref T, .int (nI (po + 1)), .ref o, .int (nI mn)])) := hr9
    refine lv_aload_n hx hb dX9_order_9 rfl (lv_at hl 0 rfl) ?_
    refine kx_cV hx hb hml hown hts hQ ht hlocks (CX9_wind l0 hl0 E w1 h T o (po + 1) mn B n (by omega) hcB hr9 hST) (cwV 0 hts (lw_V q1371 q1373 qs26 q99 q1374) rfl rfl rfl dyX9_wind ⟨Nat.le_of_ble_eq_true rfl, Nat.le_of_ble_eq_true rfl⟩) hG hP hS hr9 rfl (As := []) (rest := []) rfl hl.1 rfl (lv_room (Nat.le_of_ble_eq_true rfl)) dX9_order_10 ⟨show 0 + 6 ≤ 12 from by omega, show 0 + 40 ≤ 90 from by omega⟩ ⟨show 0 + 6 ≤ 12 from by omega, show 0 + 40 ≤ 90 from by omega⟩ (fun X9 q9 w9 h9 => h9.up (fun p9 e9 => by simp [cOr, of_decide_eq_true c6, e9]) hF (fun t9 h9 => by simp only [pRd, pRo, pR] at h9 ⊢; first | exact h9 | (rcases h9 with h9 | h9 <;> subst h9 <;> simp))) (fun r10 w21 H locs hp hP hS => ?_)
    obtain ⟨p9_10, v9_11, hp0, ⟨hr9', hn12', -⟩, hf9⟩ := hp
    have hST : strR E w21 T B n := hST.fr hf9 (by intro z9; simp [pRd, pRo, pR, pO, pN] at z9) (by intro z9; simp [pRd, pRo, pR, pO, pN] at z9)
    have hF : fr pRo w0 w21 := hF.tr (hf9.up (fun _ h9 => h9))
    have hr9 : w21 h = some ((98, 0), .inr (7, [.ref T, .int (nI p9_10), .ref o, .int (nI mn)])) := hr9'
    have hn12 : odR w21 r10 v9_11 := hn12'
    show W p l0 e rmCX9_order s m args below meth c H locs (0 + 6) (0 + 40) Q (F0 m 13 ls [.ref r10])
    have he10 := hp0
    exact kx_aret hx hb hr (Or.inl ⟨_, rfl⟩) hlocks hQ hP hS (by omega) (by omega) dX9_order_13 (⟨_, _, by simp [cOr, of_decide_eq_true c6, he10], ⟨hr9, hn12, trivial⟩, hF⟩)

abbrev rmCX9_init : Room := { frames := 1, cells := 1, slots := 60, locals := 32 }
theorem dyX9_init : yX9_init.cls = RX9 ∧ yX9_init.cls ≠ "java/lang/invoke/MethodHandle" ∧ yX9_init.cls ≠ "java/lang/invoke/VarHandle" ∧ (parseMethodDescriptor yX9_init.desc).map (fun d => d.parameters.length) = some 1 := by decide +kernel
set_option maxHeartbeats 4000000 in
theorem CX9_init (l0 : Launch) (E : gE) (w : wd) (h : Nat) (T : Nat) (q : Nat) (co : Int32) (hr9 : w h = some ((98, 0), .inr (7, [.null, .int 0, .null, .int 0]))) (hT : w T = some ((96, 2), .inr (16, [.ref q, .int co, .int 0, .int 0]))) : kC l0 yX9_init (ws_ yX9_init cX9_init 2 none) rmCX9_init 1 60 mV E w [.ref h, .ref T] (fun r w' => ∃ o9 : Nat, (True) ∧ (w' h = some ((98, 0), .inr (7, [.ref T, .int 0, .ref o9, .int 0])) ∧ w' o9 = some ((98, 1), .inl (eT E 5, 60, .inr (.inr (.inr (.inr (fun _ => none)))))) ∧ True) ∧ fr (pO (98, 0)) w w') := by
  refine k_open (cc := cX9_init) (maxL := 2) (ret := none) (by decide) rfl (Nat.le_of_ble_eq_true rfl) ?_
  intro p e s m args below meth c ls Q hx hb hr hml hown hts hlocks hname hQ hG hP hl hS
  have hl : lv_has ls 2 [(0, .ref h), (1, .ref T)] := hl
  obtain ⟨w0, hw0⟩ : ∃ z, z = w := ⟨_, rfl⟩
  have hF : fr (pO (98, 0)) w0 w := by rw [hw0]; exact fr.rf
  rw [← hw0] at hQ
  refine lv_aload_n hx hb dX9_init_0 rfl (lv_at hl 0 rfl) ?_
  refine W.objInit hx hb hown (hts _ q1321) (hts _ q115) (hts _ q116) rfl (by rw [hml]; exact hl.1) rfl dX9_init_1 (Nat.le_of_ble_eq_true rfl) (Nat.le_of_ble_eq_true rfl) ?_
  refine W.eq (g2 := F0 m 4 ls []) rfl ?_
  refine lv_aload_n hx hb dX9_init_4 rfl (lv_at hl 0 rfl) ?_
  refine lv_bipush (v := 60) hx hb dX9_init_5 (by decide) ?_
  refine k_newqW hx hb (98, 1) 5 hown (hts _ q1322) (hG.2.1.1 _ q1323 rfl) rfl hG hP hS (n := 60) (by omega) (show 0 + 1 ≤ 1 from by omega) (show 0 + 60 ≤ 60 from by omega) dX9_init_7 (fun q7 w1 H h9 hf9 hP hS => ?_)
  have hO : w1 q7 = some ((98, 1), .inl (eT E 5, 60, .inr (.inr (.inr (.inr (fun _ => none)))))) := h9
  have hr9 : w1 h = some ((98, 0), .inr (7, [.null, .int 0, .null, .int 0])) := hf9 _ _ _ hr9 (fun z9 => z9)
  have hT : w1 T = some ((96, 2), .inr (16, [.ref q, .int co, .int 0, .int 0])) := hf9 _ _ _ hT (fun z9 => z9)
  have hF : fr (pO (98, 0)) w0 w1 := hF.tr (hf9.up (fun _ h9 => h9.elim))
  refine k_putFW hx hb hts in_X9 tyX9 tyX9_ok nmX9 hown hG hP hS hr9 rfl 2 (by decide) (hts _ q1326) (fun _ h9 => h9) rfl hname rfl (ty := (.array (.object "KiteRoofs$Order"))) (v := .ref q7) rfl rfl rfl (Nat.le_of_ble_eq_true rfl) dX9_init_10 (fun w2 H locs h9 hf9 hP hS => ?_)
  have hr9 : w2 h = some ((98, 0), .inr (7, [.null, .int 0, .ref q7, .int 0])) := h9
  have hT : w2 T = some ((96, 2), .inr (16, [.ref q, .int co, .int 0, .int 0])) := hf9 _ _ _ hT (by intro z9; first | (simp only [pO, pB, pS, pRd, pRo, pR, pN, Prod.mk.injEq] at z9; done) | (simp only [pO, pB, pS, pRd, pRo, pR, pN, Prod.mk.injEq] at z9; omega))
  have hO : w2 q7 = some ((98, 1), .inl (eT E 5, 60, .inr (.inr (.inr (.inr (fun _ => none)))))) := hf9 _ _ _ hO (by intro z9; first | (simp only [pO, pB, pS, pRd, pRo, pR, pN, Prod.mk.injEq] at z9; done) | (simp only [pO, pB, pS, pRd, pRo, pR, pN, Prod.mk.injEq] at z9; omega))
  have hF : fr (pO (98, 0)) w0 w2 := hF.tr (hf9.up (fun _ h9 => h9))
  refine lv_aload_n hx hb dX9_init_13 rfl (lv_at hl 0 rfl) ?_
  refine lv_aload_n hx hb dX9_init_14 rfl (lv_at hl 1 rfl) ?_
  refine k_putFW hx hb hts in_X9 tyX9 tyX9_ok nmX9 hown hG hP hS hr9 rfl 0 (by decide) (hts _ q1324) (fun _ h9 => h9) rfl hname rfl (ty := (.object "java/lang/String")) (v := .ref T) rfl rfl rfl (Nat.le_of_ble_eq_true rfl) dX9_init_15 (fun w3 H locs h9 hf9 hP hS => ?_)
  have hr9 : w3 h = some ((98, 0), .inr (7, [.ref T, .int 0, .ref q7, .int 0])) := h9
  have hT : w3 T = some ((96, 2), .inr (16, [.ref q, .int co, .int 0, .int 0])) := hf9 _ _ _ hT (by intro z9; first | (simp only [pO, pB, pS, pRd, pRo, pR, pN, Prod.mk.injEq] at z9; done) | (simp only [pO, pB, pS, pRd, pRo, pR, pN, Prod.mk.injEq] at z9; omega))
  have hO : w3 q7 = some ((98, 1), .inl (eT E 5, 60, .inr (.inr (.inr (.inr (fun _ => none)))))) := hf9 _ _ _ hO (by intro z9; first | (simp only [pO, pB, pS, pRd, pRo, pR, pN, Prod.mk.injEq] at z9; done) | (simp only [pO, pB, pS, pRd, pRo, pR, pN, Prod.mk.injEq] at z9; omega))
  have hF : fr (pO (98, 0)) w0 w3 := hF.tr (hf9.up (fun _ h9 => h9))
  exact k_vret hx hb hr hlocks hQ hP hS (by omega) (by omega) dX9_init_18 (⟨_, trivial, ⟨hr9, hO, trivial⟩, hF⟩)

abbrev rmCX9_read : Room := { frames := 11, cells := 400, slots := 3000, locals := 233 }
theorem dyX9_read : yX9_read.cls = RX9 ∧ yX9_read.cls ≠ "java/lang/invoke/MethodHandle" ∧ yX9_read.cls ≠ "java/lang/invoke/VarHandle" ∧ (parseMethodDescriptor yX9_read.desc).map (fun d => d.parameters.length) = some 0 := by decide +kernel
set_option maxHeartbeats 4000000 in
theorem CX9_read (l0 : Launch) (hl0 : l0.stackTraces = false) (E : gE) (w : wd) (h : Nat) (T : Nat) (o : Nat) (B : Nat → Int32) (n : Nat) (fo : Nat → Option Nat) (V : Nat → Nat → Int32) (hcB : cB B n) (hr9 : w h = some ((98, 0), .inr (7, [.ref T, .int 0, .ref o, .int 0]))) (hO : w o = some ((98, 1), .inl (eT E 5, 60, .inr (.inr (.inr (.inr fo)))))) (hV : oaR w fo V 0) (hST : strR E w T B n) : kX l0 yX9_read (ws_ yX9_read cX9_read 1 none) rmCX9_read 400 3000 mV E w [.ref h] (fun r w' => ∃ p9 : Nat, ∃ m9 : Nat, ∃ f9 : Nat → Option Nat, ∃ V9 : Nat → Nat → Int32, (cTx B n 61 0 0 V = (true, p9, m9, V9) ∧ m9 ≤ 30) ∧ (w' h = some ((98, 0), .inr (7, [.ref T, .int (nI p9), .ref o, .int (nI m9)])) ∧ w' o = some ((98, 1), .inl (eT E 5, 60, .inr (.inr (.inr (.inr f9))))) ∧ oaR w' f9 V9 m9 ∧ True) ∧ fr pR w w') (pxF pR w (cTR (cTx B n 61 0 0 V))) := by
  refine kx_open (cc := cX9_read) (maxL := 1) (ret := none) (by decide) rfl (Nat.le_of_ble_eq_true rfl) ?_
  intro p e s m args below meth c ls Q hx hb hr hml hown hts hlocks hname ht hQ hG hP hl hS
  have hl : lv_has ls 1 [(0, .ref h)] := hl
  obtain ⟨w0, hw0⟩ : ∃ z, z = w := ⟨_, rfl⟩
  have hF : fr pR w0 w := by rw [hw0]; exact fr.rf
  rw [← hw0] at hQ
  have hn60 := hST.le
  obtain ⟨qT, co, hT⟩ := hST.obj
  obtain ⟨R9, hR9⟩ : ∃ z, z = cTx B n 61 0 0 V := ⟨_, rfl⟩
  have hv0 : cTx B n (61 - 0) 0 0 V = R9 := hR9.symm
  have hloop_0 : ∀ (n9_0 : Nat) (po : Nat) (mn : Nat) (fo : Nat → Option Nat) (V : Nat → Nat → Int32), (po ≤ n) → (2 * mn ≤ po) → (cTx B n (61 - mn) po mn V = R9) → (n - po) < n9_0 → ∀ (w : wd) (H : Heap) (locs : List Loc) (ls : Array Slot), (w h = some ((98, 0), .inr (7, [.ref T, .int (nI po), .ref o, .int (nI mn)]))) → (w o = some ((98, 1), .inl (eT E 5, 60, .inr (.inr (.inr (.inr fo)))))) → (oaR w fo V mn) → (strR E w T B n) → (w T = some ((96, 2), .inr (16, [.ref qT, .int co, .int 0, .int 0]))) → fr pR w0 w → wP E w H → va_S (gA E) s.heap H locs → lv_has ls 1 [(0, .ref h)] → W p l0 e rmCX9_read s m args below meth c H locs (12 * mn) (90 * mn) Q (F0 m 0 ls []) := by
    intro n9_0
    induction n9_0 with
    | zero => intro po mn fo V hp9 hmp hv hn; exact absurd hn (Nat.not_lt_zero _)
    | succ n9_0 ih_0 =>
      intro po mn fo V hp9 hmp hv hn_0 w H locs ls hr9 hO hV hST hT hF hP hS hl
      refine lv_aload_n hx hb dX9_read_0 rfl (lv_at hl 0 rfl) ?_
      refine k_get hx hb hts in_X9 hown hG hP hr9 rfl 2 (by decide) (hts _ q1326) (fun _ h9 => h9) (v := .ref o) rfl dX9_read_1 ?_
      refine lv_aload_n hx hb dX9_read_4 rfl (lv_at hl 0 rfl) ?_
      refine k_get hx hb hts in_X9 hown hG hP hr9 rfl 3 (by decide) (hts _ q1328) (fun _ h9 => h9) (v := .int (nI mn)) rfl dX9_read_5 ?_
      refine lv_aload_n hx hb dX9_read_8 rfl (lv_at hl 0 rfl) ?_
      refine kx_cV hx hb hml hown hts hQ ht hlocks (CX9_order l0 hl0 E w h T o po mn B n (by omega) hcB hr9 hST) (cwV 0 hts (lw_V q1343 q1345 qs23 q99 q1346) rfl rfl rfl dyX9_order ⟨Nat.le_of_ble_eq_true rfl, Nat.le_of_ble_eq_true rfl⟩) hG hP hS hr9 rfl (As := []) (rest := [.int (nI mn), .ref o]) rfl hl.1 rfl (lv_room (Nat.le_of_ble_eq_true rfl)) dX9_read_9 ⟨show (12 * mn) + 12 ≤ 400 from by omega, show (90 * mn) + 90 ≤ 3000 from by omega⟩ ⟨show (12 * mn) + 12 ≤ 400 from by omega, show (90 * mn) + 90 ≤ 3000 from by omega⟩ (fun X9 q9 w9 h9 => h9.up (fun p9 e9 => by rw [← hR9, ← hv, cTx_n e9 (by omega)]; rfl) hF (fun t9 h9 => by simp only [pRo, pR] at h9 ⊢; rcases h9 with h9 | h9 | h9 <;> subst h9 <;> simp)) (fun r9 w1 H locs hp hP hS => ?_)
      obtain ⟨p9_1, v9_2, hp0, ⟨hr9', hn3', -⟩, hf9⟩ := hp
      have hO : w1 o = some ((98, 1), .inl (eT E 5, 60, .inr (.inr (.inr (.inr fo))))) := hf9 _ _ _ hO (by intro z9; first | (simp only [pO, pB, pS, pRd, pRo, pR, pN, Prod.mk.injEq] at z9; done) | (simp only [pO, pB, pS, pRd, pRo, pR, pN, Prod.mk.injEq] at z9; omega))
      have hV : oaR w1 fo V mn := hV.fr hf9 (by intro z9; simp [pRd, pRo, pR, pO, pN] at z9)
      have hST : strR E w1 T B n := hST.fr hf9 (by intro z9; simp [pRd, pRo, pR, pO, pN] at z9) (by intro z9; simp [pRd, pRo, pR, pO, pN] at z9)
      have hT : w1 T = some ((96, 2), .inr (16, [.ref qT, .int co, .int 0, .int 0])) := hf9 _ _ _ hT (by intro z9; first | (simp only [pO, pB, pS, pRd, pRo, pR, pN, Prod.mk.injEq] at z9; done) | (simp only [pO, pB, pS, pRd, pRo, pR, pN, Prod.mk.injEq] at z9; omega))
      have hF : fr pR w0 w1 := hF.tr (hf9.up (fun t9 h9 => by simp only [pO, pRd, pRo, pR] at h9 ⊢; first | exact h9 | (subst h9; simp) | (rcases h9 with h9 | h9 <;> subst h9 <;> simp) | (rcases h9 with h9 | h9 | h9 <;> subst h9 <;> simp) | omega))
      have hr9 : w1 h = some ((98, 0), .inr (7, [.ref T, .int (nI p9_1), .ref o, .int (nI mn)])) := hr9'
      have hn3 : odR w1 r9 v9_2 := hn3'
      show W p l0 e rmCX9_read s m args below meth c H locs ((12 * mn) + 12) ((90 * mn) + 90) Q (F0 m 12 ls [.ref r9, .int (nI mn), .ref o])
      have he9 := hp0
      have hb9 := cOr_lt he9
      refine k_aastO hx hb hG hP hS (j := mn) hO (by omega) (show mn < 60 from by omega) hn3 dX9_read_12 (fun w2 H locs h9 hf9 hP hS => ?_)
      have hO : w2 o = some ((98, 1), .inl (eT E 5, 60, .inr (.inr (.inr (.inr (va_up fo mn (some r9))))))) := h9
      have hr9 : w2 h = some ((98, 0), .inr (7, [.ref T, .int (nI p9_1), .ref o, .int (nI mn)])) := hf9 _ _ _ hr9 (by intro z9; first | (simp only [pO, pB, pS, pRd, pRo, pR, pN, Prod.mk.injEq] at z9; done) | (simp only [pO, pB, pS, pRd, pRo, pR, pN, Prod.mk.injEq] at z9; omega))
      have hV : oaR w2 fo V mn := hV.fr hf9 (by intro z9; simp [pRd, pRo, pR, pO, pN] at z9)
      have hST : strR E w2 T B n := hST.fr hf9 (by intro z9; simp [pRd, pRo, pR, pO, pN] at z9) (by intro z9; simp [pRd, pRo, pR, pO, pN] at z9)
      have hT : w2 T = some ((96, 2), .inr (16, [.ref qT, .int co, .int 0, .int 0])) := hf9 _ _ _ hT (by intro z9; first | (simp only [pO, pB, pS, pRd, pRo, pR, pN, Prod.mk.injEq] at z9; done) | (simp only [pO, pB, pS, pRd, pRo, pR, pN, Prod.mk.injEq] at z9; omega))
      have hn3 : odR w2 r9 v9_2 := hn3.fr hf9 (by intro z9; simp [pRd, pRo, pR, pO, pN] at z9)
      have hF : fr pR w0 w2 := hF.tr (hf9.up (fun t9 h9 => by simp only [pO, pRd, pRo, pR] at h9 ⊢; first | exact h9 | (subst h9; simp) | (rcases h9 with h9 | h9 <;> subst h9 <;> simp) | (rcases h9 with h9 | h9 | h9 <;> subst h9 <;> simp) | omega))
      have hV : oaR w2 (va_up fo mn (some r9)) (va_up V mn v9_2) (mn + 1) := hV.push hn3
      refine lv_aload_n hx hb dX9_read_13 rfl (lv_at hl 0 rfl) ?_
      refine lv_dup hx hb dX9_read_14 rfl ?_
      refine k_get hx hb hts in_X9 hown hG hP hr9 rfl 3 (by decide) (hts _ q1328) (fun _ h9 => h9) (v := .int (nI mn)) rfl dX9_read_15 ?_
      refine lv_iconst (v := 1) hx hb dX9_read_18 (by decide) ?_
      refine k_iaddN (x := mn) (y := 1) hx hb dX9_read_19 ?_
      refine k_putW hx hb hts in_X9 tyX9 tyX9_ok nmX9 hown hG hP hS hr9 rfl 3 (by decide) (hts _ q1328) (fun _ h9 => h9) rfl (ty := .int) (v := .int (nI (mn + 1))) rfl rfl rfl (Nat.le_of_ble_eq_true rfl) dX9_read_20 (fun w3 H locs h9 hf9 hP hS => ?_)
      have hr9 : w3 h = some ((98, 0), .inr (7, [.ref T, .int (nI p9_1), .ref o, .int (nI (mn + 1))])) := h9
      have hO : w3 o = some ((98, 1), .inl (eT E 5, 60, .inr (.inr (.inr (.inr (va_up fo mn (some r9))))))) := hf9 _ _ _ hO (by intro z9; first | (simp only [pO, pB, pS, pRd, pRo, pR, pN, Prod.mk.injEq] at z9; done) | (simp only [pO, pB, pS, pRd, pRo, pR, pN, Prod.mk.injEq] at z9; omega))
      have hV : oaR w3 (va_up fo mn (some r9)) (va_up V mn v9_2) (mn + 1) := hV.fr hf9 (by intro z9; simp [pRd, pRo, pR, pO, pN] at z9)
      have hST : strR E w3 T B n := hST.fr hf9 (by intro z9; simp [pRd, pRo, pR, pO, pN] at z9) (by intro z9; simp [pRd, pRo, pR, pO, pN] at z9)
      have hT : w3 T = some ((96, 2), .inr (16, [.ref qT, .int co, .int 0, .int 0])) := hf9 _ _ _ hT (by intro z9; first | (simp only [pO, pB, pS, pRd, pRo, pR, pN, Prod.mk.injEq] at z9; done) | (simp only [pO, pB, pS, pRd, pRo, pR, pN, Prod.mk.injEq] at z9; omega))
      have hF : fr pR w0 w3 := hF.tr (hf9.up (fun t9 h9 => by simp only [pO, pRd, pRo, pR] at h9 ⊢; first | exact h9 | (subst h9; simp) | (rcases h9 with h9 | h9 <;> subst h9 <;> simp) | (rcases h9 with h9 | h9 | h9 <;> subst h9 <;> simp) | omega))
      refine lv_aload_n hx hb dX9_read_23 rfl (lv_at hl 0 rfl) ?_
      refine lv_bipush (v := 59) hx hb dX9_read_24 (by decide) ?_
      refine k_cV hx hb hml hown hts (CX9_skip l0 E w3 h T o p9_1 (mn + 1) B n 59 (by omega) hcB hr9 hST) (cwV 1 hts (lw_V q1347 q1349 qs24 q99 q1350) rfl rfl rfl dyX9_skip ⟨Nat.le_of_ble_eq_true rfl, Nat.le_of_ble_eq_true rfl⟩) hG hP hS hr9 rfl (As := [.int 59]) (rest := []) rfl hl.1 rfl (lv_room (Nat.le_of_ble_eq_true rfl)) dX9_read_26 ⟨show ((12 * mn) + 12) + 0 ≤ 400 from by omega, show ((90 * mn) + 90) + 0 ≤ 3000 from by omega⟩ (fun r26 w4 H locs hp hP hS => ?_)
      obtain ⟨hp0, ⟨hr9', -⟩, hf9⟩ := hp
      have hO : w4 o = some ((98, 1), .inl (eT E 5, 60, .inr (.inr (.inr (.inr (va_up fo mn (some r9))))))) := hf9 _ _ _ hO (by intro z9; first | (simp only [pO, pB, pS, pRd, pRo, pR, pN, Prod.mk.injEq] at z9; done) | (simp only [pO, pB, pS, pRd, pRo, pR, pN, Prod.mk.injEq] at z9; omega))
      have hV : oaR w4 (va_up fo mn (some r9)) (va_up V mn v9_2) (mn + 1) := hV.fr hf9 (by intro z9; simp [pRd, pRo, pR, pO, pN] at z9)
      have hST : strR E w4 T B n := hST.fr hf9 (by intro z9; simp [pRd, pRo, pR, pO, pN] at z9) (by intro z9; simp [pRd, pRo, pR, pO, pN] at z9)
      have hT : w4 T = some ((96, 2), .inr (16, [.ref qT, .int co, .int 0, .int 0])) := hf9 _ _ _ hT (by intro z9; first | (simp only [pO, pB, pS, pRd, pRo, pR, pN, Prod.mk.injEq] at z9; done) | (simp only [pO, pB, pS, pRd, pRo, pR, pN, Prod.mk.injEq] at z9; omega))
      have hF : fr pR w0 w4 := hF.tr (hf9.up (fun t9 h9 => by simp only [pO, pRd, pRo, pR] at h9 ⊢; first | exact h9 | (subst h9; simp) | (rcases h9 with h9 | h9 <;> subst h9 <;> simp) | (rcases h9 with h9 | h9 | h9 <;> subst h9 <;> simp) | omega))
      have hr9 : w4 h = some ((98, 0), .inr (7, [.ref T, .int (nI (cSk B n p9_1 59)), .ref o, .int (nI (mn + 1))])) := hr9'
      rw [hp0]
      show W p l0 e rmCX9_read s m args below meth c H locs ((12 * mn) + 12) ((90 * mn) + 90) Q (F0 m 29 ls [.int (bI (decide (pHe B n p9_1 = 59)))])
      refine k_ifneB (x := decide (pHe B n p9_1 = 59)) (tgt := 0) hx hb dX9_read_29 (by decide) (fun c29 => ?_) (fun c29 => ?_)
      · skip
        have hlt := pHe_lt' (of_decide_eq_true c29) (by decide)
        rw [sDp c29] at hr9
        have hr9 : w4 h = some ((98, 0), .inr (7, [.ref T, .int (nI (p9_1 + 1)), .ref o, .int (nI (mn + 1))])) := hr9
        have hl : lv_has ls 1 [(0, .ref h)] := hl
        refine W.widen (show ((12 * mn) + 12) ≤ (12 * (mn + 1)) from by omega) (show ((90 * mn) + 90) ≤ (90 * (mn + 1)) from by omega) ?_
        exact ih_0 (p9_1 + 1) (mn + 1) (va_up fo mn (some r9)) (va_up V mn v9_2) (by omega) (by omega) (by rw [← hv, cTx_s he9 (of_decide_eq_true c29) (by omega)]; rfl) (by omega) _ _ _ _ hr9 hO hV hST hT hF hP hS hl
      · skip
        rw [sDn c29] at hr9
        have hr9 : w4 h = some ((98, 0), .inr (7, [.ref T, .int (nI p9_1), .ref o, .int (nI (mn + 1))])) := hr9
        refine lv_aload_n hx hb dX9_read_32 rfl (lv_at hl 0 rfl) ?_
        refine k_get hx hb hts in_X9 hown hG hP hr9 rfl 1 (by decide) (hts _ q1325) (fun _ h9 => h9) (v := .int (nI p9_1)) rfl dX9_read_33 ?_
        refine lv_aload_n hx hb dX9_read_36 rfl (lv_at hl 0 rfl) ?_
        refine k_get hx hb hts in_X9 hown hG hP hr9 rfl 0 (by decide) (hts _ q1324) (fun _ h9 => h9) (v := .ref T) rfl dX9_read_37 ?_
        refine k_cV hx hb hml hown hts (CJ5_length l0 E w4 T B n hST) (cwV 0 hts (lw_V q1355 q1270 q1271 q79 q1272) rfl rfl rfl dyJ5_length ⟨Nat.le_of_ble_eq_true rfl, Nat.le_of_ble_eq_true rfl⟩) hG hP hS hT rfl (As := []) (rest := [.int (nI p9_1)]) rfl hl.1 rfl (lv_room (Nat.le_of_ble_eq_true rfl)) dX9_read_40 ⟨show ((12 * mn) + 12) + 0 ≤ 400 from by omega, show ((90 * mn) + 90) + 0 ≤ 3000 from by omega⟩ (fun r9 w9 H locs hp hP hS => ?_)
        obtain ⟨hp1, hp0⟩ := hp
        rw [hp1] at hP
        rw [hp0]
        show W p l0 e rmCX9_read s m args below meth c H locs ((12 * mn) + 12) ((90 * mn) + 90) Q (F0 m 43 ls [.int (nI n), .int (nI p9_1)])
        refine k_icmp_geN (x := p9_1) (y := n) (tgt := 58) hx hb (by omega) (by omega) dX9_read_43 (by decide) (fun c43 => ?_) (fun c43 => ?_)
        · skip
          exact kx_vret hx hb hr hlocks hQ hP hS (by omega) (by omega) dX9_read_58 (⟨_, _, _, _, ⟨by rw [← hR9, ← hv, cTx_e he9 (of_decide_eq_false c29) (by omega), decide_eq_true (show p9_1 = n from by omega)], by omega⟩, ⟨hr9, hO, hV, trivial⟩, hF⟩)
        · skip
          exact kx_fault hx hb hml hl0 hown hts hQ ht hlocks hG hP hS hl.1 hr9 (lv_at hl 0 rfl) dX9_read_46 dX9_read_49 dX9_read_50 dX9_read_51 dX9_read_54 dX9_read_57 ⟨Nat.le_of_ble_eq_true rfl, Nat.le_of_ble_eq_true rfl, show ((12 * mn) + 12) + 1 ≤ 400 from by omega, show ((90 * mn) + 90) + 7 ≤ 3000 from by omega⟩ (show ((12 * mn) + 12) + 1 ≤ 400 from by omega) (show ((90 * mn) + 90) + 7 ≤ 3000 from by omega) (fun q9 w9 v0 v1 v2 v3 v4 v5 h9 hf9 => pxF.mk' (by simp [pR]) h9 (by rw [← hR9, ← hv, cTx_e he9 (of_decide_eq_false c29) (by omega)]; simp [cTR, show ¬ p9_1 = n from by omega]) hF hf9)
  have hl : lv_has ls 1 [(0, .ref h)] := hl
  refine W.widen (show 0 ≤ (12 * 0) from by omega) (show 0 ≤ (90 * 0) from by omega) ?_
  exact hloop_0 _ 0 0 fo V (by omega) (by omega) hv0 (Nat.lt_succ_self _) _ _ _ _ hr9 hO hV hST hT hF hP hS hl
