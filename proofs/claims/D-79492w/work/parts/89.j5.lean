/-! THE JDK, 7: the builder -/
set_option maxRecDepth 100000
abbrev rmCJ3_append : Room := { frames := 6, cells := 2, slots := 300, locals := 137 }
theorem dyJ3_append : yJ3_append.cls = RJ3 ∧ yJ3_append.cls ≠ "java/lang/invoke/MethodHandle" ∧ yJ3_append.cls ≠ "java/lang/invoke/VarHandle" ∧ (parseMethodDescriptor yJ3_append.desc).map (fun d => d.parameters.length) = some 1 := by decide +kernel
set_option maxHeartbeats 4000000 in
theorem CJ3_append (l0 : Launch) (E : gE) (w : wd) (b : Nat) (B : Nat → Int32) (n : Nat) (k : Nat) (hk : k < 65536) (hn : n < 60) (hSB : sbR E w b B n) : kC l0 yJ3_append (ws_ yJ3_append cJ3_append 2 (some (.object "java/lang/AbstractStringBuilder"))) rmCJ3_append 2 300 mR E w [.ref b, .int (nI k)] (fun r w' => (r = b) ∧ (sbR E w' b (va_up B n (nI k)) (n + 1) ∧ True) ∧ fr pB w w') := by
  refine k_open (cc := cJ3_append) (maxL := 2) (ret := (some (.object "java/lang/AbstractStringBuilder"))) (by decide) rfl (Nat.le_of_ble_eq_true rfl) ?_
  intro p e s m args below meth c ls Q hx hb hr hml hown hts hlocks hname hQ hG hP hl hS
  have hl : lv_has ls 2 [(0, .ref b), (1, .int (nI k))] := hl
  obtain ⟨w0, hw0⟩ : ∃ z, z = w := ⟨_, rfl⟩
  have hF : fr pB w0 w := by rw [hw0]; exact fr.rf
  rw [← hw0] at hQ
  obtain ⟨q, mm, f, ⟨hfit, hn60, hcap⟩, ⟨hB, hA, hL⟩ | ⟨hB, hA, hU⟩⟩ := hSB
  · skip
    obtain ⟨hc1, hc2⟩ := hcap
    refine lv_aload_n hx hb dJ3_append_0 rfl (lv_at hl 0 rfl) ?_
    refine lv_aload_n hx hb dJ3_append_1 rfl (lv_at hl 0 rfl) ?_
    refine k_get hx hb hts in_J4 hown hG hP hB rfl 3 (by decide) (hts _ q265) (fun _ h9 => h9) (v := .int (nI n)) rfl dJ3_append_2 ?_
    refine lv_iconst (v := 1) hx hb dJ3_append_5 (by decide) ?_
    refine k_iaddN (x := n) (y := 1) hx hb dJ3_append_6 ?_
    refine k_cV hx hb hml hown hts (CJ3_ensureCapacityInternalL l0 E w b q mm n (n + 1) f (by omega) (by omega) hfit hB hA) (cwVp (y2 := ⟨"java/lang/AbstractStringBuilder", "isLatin1", "()Z"⟩) 1 hts hG q1099 q1101 q1129 q77 q1102 q1100 rfl rfl rfl (by decide +kernel) ⟨Nat.le_of_ble_eq_true rfl, Nat.le_of_ble_eq_true rfl⟩) hG hP hS hB rfl (As := [.int (nI (n + 1))]) (rest := []) rfl hl.1 rfl (lv_room (Nat.le_of_ble_eq_true rfl)) dJ3_append_7 ⟨show 0 + 1 ≤ 2 from by omega, show 0 + 150 ≤ 300 from by omega⟩ (fun r7 w1 H locs hp hP hS => ?_)
    obtain ⟨q9_1, m9_2, f9_3, hp0, ⟨hB', hn4', -⟩, hf9⟩ := hp
    have hF : fr pB w0 w1 := hF.tr (hf9.up (fun _ h9 => h9))
    have hB : w1 b = some ((96, 0), .inr (15, [.ref q9_1, .int 0, .int 0, .int (nI n)])) := hB'
    have hn4 : w1 q9_1 = some ((96, 1), .inl (eT E 3, m9_2, .inl f9_3)) := hn4'
    show W p l0 e rmCJ3_append s m args below meth c H locs (0 + 1) (0 + 150) Q (F0 m 10 ls [])
    obtain ⟨⟨he1, he2⟩, he3, he4⟩ := hp0
    have hL := sL_co hL (fun i hi => he3 i (by omega))
    refine lv_aload_n hx hb dJ3_append_10 rfl (lv_at hl 0 rfl) ?_
    refine k_cV hx hb hml hown hts (CJ3_isLatin1L l0 E w1 b q9_1 n hB) (cwVi 0 hts q1126 q1127 q1129 q77 q1130 rfl rfl (by decide +kernel) ⟨Nat.le_of_ble_eq_true rfl, Nat.le_of_ble_eq_true rfl⟩) hG hP hS hB rfl (As := []) (rest := []) rfl hl.1 rfl (lv_room (Nat.le_of_ble_eq_true rfl)) dJ3_append_11 ⟨show (0 + 1) + 0 ≤ 2 from by omega, show (0 + 150) + 0 ≤ 300 from by omega⟩ (fun r9 w9 H locs hp hP hS => ?_)
    obtain ⟨hp1, hp0⟩ := hp
    rw [hp1] at hP
    rw [hp0]
    show W p l0 e rmCJ3_append s m args below meth c H locs (0 + 1) (0 + 150) Q (F0 m 14 ls [.int 1])
    refine lv_if_eq (tgt := 45) hx hb dJ3_append_14 (by decide) (fun c14 => ?_) (fun c14 => ?_)
    · skip
      exact absurd c14 (by decide)
    · skip
      refine lv_iload_n hx hb dJ3_append_17 rfl (lv_at hl 1 rfl) ?_
      refine k_cS hx hb hml hown hts (CJ19_canEncode l0 E w1 (nI k)) (va_cwS 1 hts (lw_S q1131 q1132 q97 q1133) rfl rfl rfl dyJ19_canEncode ⟨Nat.le_of_ble_eq_true rfl, Nat.le_of_ble_eq_true rfl⟩) hG hP hS (As := [.int (nI k)]) (rest := []) rfl hl.1 rfl (lv_room (Nat.le_of_ble_eq_true rfl)) dJ3_append_18 ⟨show (0 + 1) + 0 ≤ 2 from by omega, show (0 + 150) + 0 ≤ 300 from by omega⟩ (fun r9 w9 H locs hp hP hS => ?_)
      obtain ⟨hp1, hp0⟩ := hp
      rw [hp1] at hP
      rw [hp0]
      show W p l0 e rmCJ3_append s m args below meth c H locs (0 + 1) (0 + 150) Q (F0 m 21 ls [.int (bI (decide ((nI k) ≤ 255)))])
      refine k_ifeqB (x := decide ((nI k) ≤ 255)) (tgt := 45) hx hb dJ3_append_21 (by decide) (fun c21 => ?_) (fun c21 => ?_)
      · skip
        refine lv_aload_n hx hb dJ3_append_45 rfl (lv_at hl 0 rfl) ?_
        refine k_cV hx hb hml hown hts (CJ3_isLatin1L l0 E w1 b q9_1 n hB) (cwVi 0 hts q1126 q1127 q1129 q77 q1130 rfl rfl (by decide +kernel) ⟨Nat.le_of_ble_eq_true rfl, Nat.le_of_ble_eq_true rfl⟩) hG hP hS hB rfl (As := []) (rest := []) rfl hl.1 rfl (lv_room (Nat.le_of_ble_eq_true rfl)) dJ3_append_46 ⟨show (0 + 1) + 0 ≤ 2 from by omega, show (0 + 150) + 0 ≤ 300 from by omega⟩ (fun r9 w9 H locs hp hP hS => ?_)
        obtain ⟨hp1, hp0⟩ := hp
        rw [hp1] at hP
        rw [hp0]
        show W p l0 e rmCJ3_append s m args below meth c H locs (0 + 1) (0 + 150) Q (F0 m 49 ls [.int 1])
        refine lv_if_eq (tgt := 56) hx hb dJ3_append_49 (by decide) (fun c49 => ?_) (fun c49 => ?_)
        · skip
          exact absurd c49 (by decide)
        · skip
          refine lv_aload_n hx hb dJ3_append_52 rfl (lv_at hl 0 rfl) ?_
          refine k_cV hx hb hml hown hts (CJ3_inflate l0 E w1 b q9_1 m9_2 n f9_3 B (by omega) (by omega) hL hB hn4) (cwVp (y2 := ⟨"java/lang/AbstractStringBuilder", "isLatin1", "()Z"⟩) 0 hts hG q1134 q1136 q1129 q77 q1137 q1135 rfl rfl rfl (by decide +kernel) ⟨Nat.le_of_ble_eq_true rfl, Nat.le_of_ble_eq_true rfl⟩) hG hP hS hB rfl (As := []) (rest := []) rfl hl.1 rfl (lv_room (Nat.le_of_ble_eq_true rfl)) dJ3_append_53 ⟨show (0 + 1) + 1 ≤ 2 from by omega, show (0 + 150) + 150 ≤ 300 from by omega⟩ (fun r53 w2 H locs hp hP hS => ?_)
          obtain ⟨q9_5, g9_6, hp0, ⟨hB', hn7', -⟩, hf9⟩ := hp
          have hF : fr pB w0 w2 := hF.tr (hf9.up (fun _ h9 => h9))
          have hB : w2 b = some ((96, 0), .inr (15, [.ref q9_5, .int 1, .int 0, .int (nI n)])) := hB'
          have hn7 : w2 q9_5 = some ((96, 1), .inl (eT E 3, 2 * m9_2, .inl g9_6)) := hn7'
          show W p l0 e rmCJ3_append s m args below meth c H locs ((0 + 1) + 1) ((0 + 150) + 150) Q (F0 m 56 ls [])
          obtain ⟨hg3, hg4⟩ := hp0
          refine lv_aload_n hx hb dJ3_append_56 rfl (lv_at hl 0 rfl) ?_
          refine k_get hx hb hts in_J4 hown hG hP hB rfl 0 (by decide) (hts _ q262) (fun _ h9 => h9) (v := .ref q9_5) rfl dJ3_append_57 ?_
          refine lv_aload_n hx hb dJ3_append_60 rfl (lv_at hl 0 rfl) ?_
          refine lv_dup hx hb dJ3_append_61 rfl ?_
          refine k_get hx hb hts in_J4 hown hG hP hB rfl 3 (by decide) (hts _ q265) (fun _ h9 => h9) (v := .int (nI n)) rfl dJ3_append_62 ?_
          refine lv_dup_x1 hx hb dJ3_append_65 rfl rfl ?_
          refine lv_iconst (v := 1) hx hb dJ3_append_66 (by decide) ?_
          refine k_iaddN (x := n) (y := 1) hx hb dJ3_append_67 ?_
          refine k_putW hx hb hts in_J4 tyJ4 tyJ4_ok nmJ4 hown hG hP hS hB rfl 3 (by decide) (hts _ q265) (fun _ h9 => h9) rfl (ty := .int) (v := .int (nI (n + 1))) rfl rfl rfl (Nat.le_of_ble_eq_true rfl) dJ3_append_68 (fun w3 H locs h9 hf9 hP hS => ?_)
          have hB : w3 b = some ((96, 0), .inr (15, [.ref q9_5, .int 1, .int 0, .int (nI (n + 1))])) := h9
          have hn7 : w3 q9_5 = some ((96, 1), .inl (eT E 3, 2 * m9_2, .inl g9_6)) := hf9 _ _ _ hn7 (by intro z9; first | (simp only [pO, pN, pK, pT, pD, pB, pBs, pS, Prod.mk.injEq] at z9; done) | (simp only [pO, pN, pK, pT, pD, pB, pBs, pS, Prod.mk.injEq] at z9; omega) | exact hty z9 | exact hty z9.symm)
          have hF : fr pB w0 w3 := hF.tr (hf9.up (fun t9 h9 => by simp only [pO, pB, pBs, pS] at h9 ⊢; first | exact h9 | (subst h9; simp; done) | (subst h9; rfl) | exact Or.inl h9 | exact Or.inr h9))
          refine lv_iload_n hx hb dJ3_append_71 rfl (lv_at hl 1 rfl) ?_
          refine k_cS hx hb hml hown hts (CJ6_putCharSB l0 E w3 q9_5 (2 * m9_2) n (nI k) g9_6 (96, 1) (by omega) (by omega) hn7) (va_cwS 3 hts (lw_S q1167 q1168 q80 q1169) rfl rfl rfl dyJ6_putCharSB ⟨Nat.le_of_ble_eq_true rfl, Nat.le_of_ble_eq_true rfl⟩) hG hP hS (As := [.ref q9_5, .int (nI n), .int (nI k)]) (rest := []) rfl hl.1 rfl (lv_room (Nat.le_of_ble_eq_true rfl)) dJ3_append_72 ⟨show ((0 + 1) + 1) + 0 ≤ 2 from by omega, show ((0 + 150) + 150) + 0 ≤ 300 from by omega⟩ (fun r72 w4 H locs hp hP hS => ?_)
          obtain ⟨hp0, ⟨hn7', -⟩, hf9⟩ := hp
          have hB : w4 b = some ((96, 0), .inr (15, [.ref q9_5, .int 1, .int 0, .int (nI (n + 1))])) := hf9 _ _ _ hB (by intro z9; first | (simp only [pO, pN, pK, pT, pD, pB, pBs, pS, Prod.mk.injEq] at z9; done) | (simp only [pO, pN, pK, pT, pD, pB, pBs, pS, Prod.mk.injEq] at z9; omega) | exact hty z9 | exact hty z9.symm)
          have hF : fr pB w0 w4 := hF.tr (hf9.up (fun t9 h9 => by simp only [pO, pB, pBs, pS] at h9 ⊢; first | exact h9 | (subst h9; simp; done) | (subst h9; rfl) | exact Or.inl h9 | exact Or.inr h9))
          have hn7 : w4 q9_5 = some ((96, 1), .inl (eT E 3, (2 * m9_2), .inl (b8up (b8up g9_6 (2 * n) (by8 ((nI k) >>> (0 &&& 31)))) (2 * n + 1) (by8 ((nI k) >>> (8 &&& 31)))))) := hn7'
          show W p l0 e rmCJ3_append s m args below meth c H locs ((0 + 1) + 1) ((0 + 150) + 150) Q (F0 m 75 ls [])
          refine lv_aload_n hx hb dJ3_append_75 rfl (lv_at hl 0 rfl) ?_
          exact k_aret hx hb hr (Or.inl ⟨_, rfl⟩) hlocks hQ hP hS (by omega) (by omega) dJ3_append_76 (⟨rfl, ⟨⟨_, _, _, ⟨b8up_fit (b8up_fit hg4), by omega, ⟨by omega, by omega⟩⟩, Or.inr ⟨hB, hn7, sU_put (sU_B hg3 (fun i hi => up_n (by omega))) ⟨k, by omega, rfl⟩ (up_s _ _ _).symm⟩⟩, trivial⟩, hF⟩)
      · skip
        refine lv_aload_n hx hb dJ3_append_24 rfl (lv_at hl 0 rfl) ?_
        refine k_get hx hb hts in_J4 hown hG hP hB rfl 0 (by decide) (hts _ q262) (fun _ h9 => h9) (v := .ref q9_1) rfl dJ3_append_25 ?_
        refine lv_aload_n hx hb dJ3_append_28 rfl (lv_at hl 0 rfl) ?_
        refine lv_dup hx hb dJ3_append_29 rfl ?_
        refine k_get hx hb hts in_J4 hown hG hP hB rfl 3 (by decide) (hts _ q265) (fun _ h9 => h9) (v := .int (nI n)) rfl dJ3_append_30 ?_
        refine lv_dup_x1 hx hb dJ3_append_33 rfl rfl ?_
        refine lv_iconst (v := 1) hx hb dJ3_append_34 (by decide) ?_
        refine k_iaddN (x := n) (y := 1) hx hb dJ3_append_35 ?_
        refine k_putW hx hb hts in_J4 tyJ4 tyJ4_ok nmJ4 hown hG hP hS hB rfl 3 (by decide) (hts _ q265) (fun _ h9 => h9) rfl (ty := .int) (v := .int (nI (n + 1))) rfl rfl rfl (Nat.le_of_ble_eq_true rfl) dJ3_append_36 (fun w5 H locs h9 hf9 hP hS => ?_)
        have hB : w5 b = some ((96, 0), .inr (15, [.ref q9_1, .int 0, .int 0, .int (nI (n + 1))])) := h9
        have hn4 : w5 q9_1 = some ((96, 1), .inl (eT E 3, m9_2, .inl f9_3)) := hf9 _ _ _ hn4 (by intro z9; first | (simp only [pO, pN, pK, pT, pD, pB, pBs, pS, Prod.mk.injEq] at z9; done) | (simp only [pO, pN, pK, pT, pD, pB, pBs, pS, Prod.mk.injEq] at z9; omega) | exact hty z9 | exact hty z9.symm)
        have hF : fr pB w0 w5 := hF.tr (hf9.up (fun t9 h9 => by simp only [pO, pB, pBs, pS] at h9 ⊢; first | exact h9 | (subst h9; simp; done) | (subst h9; rfl) | exact Or.inl h9 | exact Or.inr h9))
        refine lv_iload_n hx hb dJ3_append_39 rfl (lv_at hl 1 rfl) ?_
        refine lv_i2b (v := by8 (nI k)) hx hb dJ3_append_40 rfl ?_
        refine k_bastW hx hb hG hP hS (j := n) hn4 (by omega) (show n < m9_2 from by omega) (x := (by8 (nI k))) dJ3_append_41 (fun w6 H locs h9 hf9 hP hS => ?_)
        have hn4 : w6 q9_1 = some ((96, 1), .inl (eT E 3, m9_2, .inl (b8up f9_3 n (by8 (nI k))))) := h9
        have hB : w6 b = some ((96, 0), .inr (15, [.ref q9_1, .int 0, .int 0, .int (nI (n + 1))])) := hf9 _ _ _ hB (by intro z9; first | (simp only [pO, pN, pK, pT, pD, pB, pBs, pS, Prod.mk.injEq] at z9; done) | (simp only [pO, pN, pK, pT, pD, pB, pBs, pS, Prod.mk.injEq] at z9; omega) | exact hty z9 | exact hty z9.symm)
        have hF : fr pB w0 w6 := hF.tr (hf9.up (fun t9 h9 => by simp only [pO, pB, pBs, pS] at h9 ⊢; first | exact h9 | (subst h9; simp; done) | (subst h9; rfl) | exact Or.inl h9 | exact Or.inr h9))
        refine lv_goto (tgt := 75) hx hb dJ3_append_42 (by decide) ?_
        refine lv_aload_n hx hb dJ3_append_75 rfl (lv_at hl 0 rfl) ?_
        exact k_aret hx hb hr (Or.inl ⟨_, rfl⟩) hlocks hQ hP hS (by omega) (by omega) dJ3_append_76 (⟨rfl, ⟨⟨_, _, _, ⟨b8up_fit he4, by omega, ⟨by omega, by omega⟩⟩, Or.inl ⟨hB, hn4, sL_put (sL_B hL (fun i hi => up_n (by omega))) (le255 (by omega) c21) (up_s _ _ _)⟩⟩, trivial⟩, hF⟩)
  · skip
    obtain ⟨hc1, hc2⟩ := hcap
    refine lv_aload_n hx hb dJ3_append_0 rfl (lv_at hl 0 rfl) ?_
    refine lv_aload_n hx hb dJ3_append_1 rfl (lv_at hl 0 rfl) ?_
    refine k_get hx hb hts in_J4 hown hG hP hB rfl 3 (by decide) (hts _ q265) (fun _ h9 => h9) (v := .int (nI n)) rfl dJ3_append_2 ?_
    refine lv_iconst (v := 1) hx hb dJ3_append_5 (by decide) ?_
    refine k_iaddN (x := n) (y := 1) hx hb dJ3_append_6 ?_
    refine k_cV hx hb hml hown hts (CJ3_ensureCapacityInternalU l0 E w b q mm n (n + 1) f (by omega) (by omega) (by omega) hfit hB hA) (cwVp (y2 := ⟨"java/lang/AbstractStringBuilder", "isLatin1", "()Z"⟩) 1 hts hG q1099 q1101 q1129 q77 q1102 q1100 rfl rfl rfl (by decide +kernel) ⟨Nat.le_of_ble_eq_true rfl, Nat.le_of_ble_eq_true rfl⟩) hG hP hS hB rfl (As := [.int (nI (n + 1))]) (rest := []) rfl hl.1 rfl (lv_room (Nat.le_of_ble_eq_true rfl)) dJ3_append_7 ⟨show 0 + 1 ≤ 2 from by omega, show 0 + 150 ≤ 300 from by omega⟩ (fun r7 w7 H locs hp hP hS => ?_)
    obtain ⟨q9_8, m9_9, f9_10, hp0, ⟨hB', hn11', -⟩, hf9⟩ := hp
    have hF : fr pB w0 w7 := hF.tr (hf9.up (fun _ h9 => h9))
    have hB : w7 b = some ((96, 0), .inr (15, [.ref q9_8, .int 1, .int 0, .int (nI n)])) := hB'
    have hn11 : w7 q9_8 = some ((96, 1), .inl (eT E 3, 2 * m9_9, .inl f9_10)) := hn11'
    show W p l0 e rmCJ3_append s m args below meth c H locs (0 + 1) (0 + 150) Q (F0 m 10 ls [])
    obtain ⟨⟨he1, he2⟩, he3, he4⟩ := hp0
    have hU := sU_co hU (fun i hi => he3 i (by omega))
    refine lv_aload_n hx hb dJ3_append_10 rfl (lv_at hl 0 rfl) ?_
    refine k_cV hx hb hml hown hts (CJ3_isLatin1U l0 E w7 b q9_8 n hB) (cwVi 0 hts q1126 q1127 q1129 q77 q1130 rfl rfl (by decide +kernel) ⟨Nat.le_of_ble_eq_true rfl, Nat.le_of_ble_eq_true rfl⟩) hG hP hS hB rfl (As := []) (rest := []) rfl hl.1 rfl (lv_room (Nat.le_of_ble_eq_true rfl)) dJ3_append_11 ⟨show (0 + 1) + 0 ≤ 2 from by omega, show (0 + 150) + 0 ≤ 300 from by omega⟩ (fun r9 w9 H locs hp hP hS => ?_)
    obtain ⟨hp1, hp0⟩ := hp
    rw [hp1] at hP
    rw [hp0]
    show W p l0 e rmCJ3_append s m args below meth c H locs (0 + 1) (0 + 150) Q (F0 m 14 ls [.int 0])
    refine lv_if_eq (tgt := 45) hx hb dJ3_append_14 (by decide) (fun c14 => ?_) (fun c14 => ?_)
    · skip
      refine lv_aload_n hx hb dJ3_append_45 rfl (lv_at hl 0 rfl) ?_
      refine k_cV hx hb hml hown hts (CJ3_isLatin1U l0 E w7 b q9_8 n hB) (cwVi 0 hts q1126 q1127 q1129 q77 q1130 rfl rfl (by decide +kernel) ⟨Nat.le_of_ble_eq_true rfl, Nat.le_of_ble_eq_true rfl⟩) hG hP hS hB rfl (As := []) (rest := []) rfl hl.1 rfl (lv_room (Nat.le_of_ble_eq_true rfl)) dJ3_append_46 ⟨show (0 + 1) + 0 ≤ 2 from by omega, show (0 + 150) + 0 ≤ 300 from by omega⟩ (fun r9 w9 H locs hp hP hS => ?_)
      obtain ⟨hp1, hp0⟩ := hp
      rw [hp1] at hP
      rw [hp0]
      show W p l0 e rmCJ3_append s m args below meth c H locs (0 + 1) (0 + 150) Q (F0 m 49 ls [.int 0])
      refine lv_if_eq (tgt := 56) hx hb dJ3_append_49 (by decide) (fun c49 => ?_) (fun c49 => ?_)
      · skip
        refine lv_aload_n hx hb dJ3_append_56 rfl (lv_at hl 0 rfl) ?_
        refine k_get hx hb hts in_J4 hown hG hP hB rfl 0 (by decide) (hts _ q262) (fun _ h9 => h9) (v := .ref q9_8) rfl dJ3_append_57 ?_
        refine lv_aload_n hx hb dJ3_append_60 rfl (lv_at hl 0 rfl) ?_
        refine lv_dup hx hb dJ3_append_61 rfl ?_
        refine k_get hx hb hts in_J4 hown hG hP hB rfl 3 (by decide) (hts _ q265) (fun _ h9 => h9) (v := .int (nI n)) rfl dJ3_append_62 ?_
        refine lv_dup_x1 hx hb dJ3_append_65 rfl rfl ?_
        refine lv_iconst (v := 1) hx hb dJ3_append_66 (by decide) ?_
        refine k_iaddN (x := n) (y := 1) hx hb dJ3_append_67 ?_
        refine k_putW hx hb hts in_J4 tyJ4 tyJ4_ok nmJ4 hown hG hP hS hB rfl 3 (by decide) (hts _ q265) (fun _ h9 => h9) rfl (ty := .int) (v := .int (nI (n + 1))) rfl rfl rfl (Nat.le_of_ble_eq_true rfl) dJ3_append_68 (fun w8 H locs h9 hf9 hP hS => ?_)
        have hB : w8 b = some ((96, 0), .inr (15, [.ref q9_8, .int 1, .int 0, .int (nI (n + 1))])) := h9
        have hn11 : w8 q9_8 = some ((96, 1), .inl (eT E 3, 2 * m9_9, .inl f9_10)) := hf9 _ _ _ hn11 (by intro z9; first | (simp only [pO, pN, pK, pT, pD, pB, pBs, pS, Prod.mk.injEq] at z9; done) | (simp only [pO, pN, pK, pT, pD, pB, pBs, pS, Prod.mk.injEq] at z9; omega) | exact hty z9 | exact hty z9.symm)
        have hF : fr pB w0 w8 := hF.tr (hf9.up (fun t9 h9 => by simp only [pO, pB, pBs, pS] at h9 ⊢; first | exact h9 | (subst h9; simp; done) | (subst h9; rfl) | exact Or.inl h9 | exact Or.inr h9))
        refine lv_iload_n hx hb dJ3_append_71 rfl (lv_at hl 1 rfl) ?_
        refine k_cS hx hb hml hown hts (CJ6_putCharSB l0 E w8 q9_8 (2 * m9_9) n (nI k) f9_10 (96, 1) (by omega) (by omega) hn11) (va_cwS 3 hts (lw_S q1167 q1168 q80 q1169) rfl rfl rfl dyJ6_putCharSB ⟨Nat.le_of_ble_eq_true rfl, Nat.le_of_ble_eq_true rfl⟩) hG hP hS (As := [.ref q9_8, .int (nI n), .int (nI k)]) (rest := []) rfl hl.1 rfl (lv_room (Nat.le_of_ble_eq_true rfl)) dJ3_append_72 ⟨show (0 + 1) + 0 ≤ 2 from by omega, show (0 + 150) + 0 ≤ 300 from by omega⟩ (fun r72 w9 H locs hp hP hS => ?_)
        obtain ⟨hp0, ⟨hn11', -⟩, hf9⟩ := hp
        have hB : w9 b = some ((96, 0), .inr (15, [.ref q9_8, .int 1, .int 0, .int (nI (n + 1))])) := hf9 _ _ _ hB (by intro z9; first | (simp only [pO, pN, pK, pT, pD, pB, pBs, pS, Prod.mk.injEq] at z9; done) | (simp only [pO, pN, pK, pT, pD, pB, pBs, pS, Prod.mk.injEq] at z9; omega) | exact hty z9 | exact hty z9.symm)
        have hF : fr pB w0 w9 := hF.tr (hf9.up (fun t9 h9 => by simp only [pO, pB, pBs, pS] at h9 ⊢; first | exact h9 | (subst h9; simp; done) | (subst h9; rfl) | exact Or.inl h9 | exact Or.inr h9))
        have hn11 : w9 q9_8 = some ((96, 1), .inl (eT E 3, (2 * m9_9), .inl (b8up (b8up f9_10 (2 * n) (by8 ((nI k) >>> (0 &&& 31)))) (2 * n + 1) (by8 ((nI k) >>> (8 &&& 31)))))) := hn11'
        show W p l0 e rmCJ3_append s m args below meth c H locs (0 + 1) (0 + 150) Q (F0 m 75 ls [])
        refine lv_aload_n hx hb dJ3_append_75 rfl (lv_at hl 0 rfl) ?_
        exact k_aret hx hb hr (Or.inl ⟨_, rfl⟩) hlocks hQ hP hS (by omega) (by omega) dJ3_append_76 (⟨rfl, ⟨⟨_, _, _, ⟨b8up_fit (b8up_fit he4), by omega, ⟨by omega, by omega⟩⟩, Or.inr ⟨hB, hn11, sU_put (sU_B hU (fun i hi => up_n (by omega))) ⟨k, by omega, rfl⟩ (up_s _ _ _).symm⟩⟩, trivial⟩, hF⟩)
      · skip
        exact absurd c49 (by decide)
    · skip
      exact absurd c14 (by decide)

abbrev rmCJ4_append : Room := { frames := 7, cells := 2, slots := 300, locals := 158 }
theorem dyJ4_append : yJ4_append.cls = RJ4 ∧ yJ4_append.cls ≠ "java/lang/invoke/MethodHandle" ∧ yJ4_append.cls ≠ "java/lang/invoke/VarHandle" ∧ (parseMethodDescriptor yJ4_append.desc).map (fun d => d.parameters.length) = some 1 := by decide +kernel
set_option maxHeartbeats 4000000 in
theorem CJ4_append (l0 : Launch) (E : gE) (w : wd) (b : Nat) (B : Nat → Int32) (n : Nat) (k : Nat) (hk : k < 65536) (hn : n < 60) (hSB : sbR E w b B n) : kC l0 yJ4_append (ws_ yJ4_append cJ4_append 2 (some (.object "java/lang/StringBuilder"))) rmCJ4_append 2 300 mR E w [.ref b, .int (nI k)] (fun r w' => (r = b) ∧ (sbR E w' b (va_up B n (nI k)) (n + 1) ∧ True) ∧ fr pB w w') := by
  refine k_open (cc := cJ4_append) (maxL := 2) (ret := (some (.object "java/lang/StringBuilder"))) (by decide) rfl (Nat.le_of_ble_eq_true rfl) ?_
  intro p e s m args below meth c ls Q hx hb hr hml hown hts hlocks hname hQ hG hP hl hS
  have hl : lv_has ls 2 [(0, .ref b), (1, .int (nI k))] := hl
  obtain ⟨w0, hw0⟩ : ∃ z, z = w := ⟨_, rfl⟩
  have hF : fr pB w0 w := by rw [hw0]; exact fr.rf
  rw [← hw0] at hQ
  obtain ⟨q, co, hB⟩ := hSB.obj
  refine lv_aload_n hx hb dJ4_append_0 rfl (lv_at hl 0 rfl) ?_
  refine lv_iload_n hx hb dJ4_append_1 rfl (lv_at hl 1 rfl) ?_
  refine k_cSU (n := 1) hx hb hml hown hts (CJ3_append l0 E w b B n k (by omega) (by omega) hSB) q1096 q1961 q274 q1097 q77 q1098 rfl rfl (by decide +kernel) ⟨Nat.le_of_ble_eq_true rfl, Nat.le_of_ble_eq_true rfl⟩ hG hP hS hB rfl (As := [.int (nI k)]) (rest := []) rfl hl.1 rfl (lv_room (Nat.le_of_ble_eq_true rfl)) dJ4_append_2 ⟨show 0 + 2 ≤ 2 from by omega, show 0 + 300 ≤ 300 from by omega⟩ (fun r2 w1 H locs hp hP hS => ?_)
  obtain ⟨hp0, ⟨hSB', -⟩, hf9⟩ := hp
  have hF : fr pB w0 w1 := hF.tr (hf9.up (fun _ h9 => h9))
  have hSB : sbR E w1 b (va_up B n (nI k)) (n + 1) := hSB'
  rw [hp0]
  show W p l0 e rmCJ4_append s m args below meth c H locs (0 + 2) (0 + 300) Q (F0 m 5 ls [.ref b])
  refine lv_pop hx hb dJ4_append_5 rfl ?_
  refine lv_aload_n hx hb dJ4_append_6 rfl (lv_at hl 0 rfl) ?_
  exact k_aret hx hb hr (Or.inl ⟨_, rfl⟩) hlocks hQ hP hS (by omega) (by omega) dJ4_append_7 (⟨rfl, ⟨hSB, trivial⟩, hF⟩)

abbrev rmCJ3_length : Room := { frames := 0, cells := 0, slots := 0, locals := 0 }
theorem dyJ3_length : yJ3_length.cls = RJ3 ∧ yJ3_length.cls ≠ "java/lang/invoke/MethodHandle" ∧ yJ3_length.cls ≠ "java/lang/invoke/VarHandle" ∧ (parseMethodDescriptor yJ3_length.desc).map (fun d => d.parameters.length) = some 0 := by decide +kernel
set_option maxHeartbeats 4000000 in
theorem CJ3_length (l0 : Launch) (E : gE) (w : wd) (b : Nat) (q : Nat) (n : Nat) (co : Int32) (hB : w b = some ((96, 0), .inr (15, [.ref q, .int co, .int 0, .int (nI n)]))) : kC l0 yJ3_length (ws_ yJ3_length cJ3_length 1 (some .int)) rmCJ3_length 0 0 mI E w [.ref b] (fun r w' => w' = w ∧ r = (nI n)) := by
  refine k_open (cc := cJ3_length) (maxL := 1) (ret := (some .int)) (by decide) rfl (Nat.le_of_ble_eq_true rfl) ?_
  intro p e s m args below meth c ls Q hx hb hr hml hown hts hlocks hname hQ hG hP hl hS
  have hl : lv_has ls 1 [(0, .ref b)] := hl
  refine lv_aload_n hx hb dJ3_length_0 rfl (lv_at hl 0 rfl) ?_
  refine k_get hx hb hts in_J4 hown hG hP hB rfl 3 (by decide) (hts _ q265) (fun _ h9 => h9) (v := .int (nI n)) rfl dJ3_length_1 ?_
  exact k_iret hx hb hr hlocks hQ hP hS (by omega) (by omega) dJ3_length_4 (⟨rfl, rfl⟩)

abbrev rmCJ4_length : Room := { frames := 1, cells := 0, slots := 0, locals := 20 }
theorem dyJ4_length : yJ4_length.cls = RJ4 ∧ yJ4_length.cls ≠ "java/lang/invoke/MethodHandle" ∧ yJ4_length.cls ≠ "java/lang/invoke/VarHandle" ∧ (parseMethodDescriptor yJ4_length.desc).map (fun d => d.parameters.length) = some 0 := by decide +kernel
set_option maxHeartbeats 4000000 in
theorem CJ4_length (l0 : Launch) (E : gE) (w : wd) (b : Nat) (q : Nat) (n : Nat) (co : Int32) (hB : w b = some ((96, 0), .inr (15, [.ref q, .int co, .int 0, .int (nI n)]))) : kC l0 yJ4_length (ws_ yJ4_length cJ4_length 1 (some .int)) rmCJ4_length 0 0 mI E w [.ref b] (fun r w' => w' = w ∧ r = (nI n)) := by
  refine k_open (cc := cJ4_length) (maxL := 1) (ret := (some .int)) (by decide) rfl (Nat.le_of_ble_eq_true rfl) ?_
  intro p e s m args below meth c ls Q hx hb hr hml hown hts hlocks hname hQ hG hP hl hS
  have hl : lv_has ls 1 [(0, .ref b)] := hl
  refine lv_aload_n hx hb dJ4_length_0 rfl (lv_at hl 0 rfl) ?_
  refine k_cSU (n := 0) hx hb hml hown hts (CJ3_length l0 E w b q n co hB) q1081 q1960 q274 q1082 q77 q1083 rfl rfl (by decide +kernel) ⟨Nat.le_of_ble_eq_true rfl, Nat.le_of_ble_eq_true rfl⟩ hG hP hS hB rfl (As := []) (rest := []) rfl hl.1 rfl (lv_room (Nat.le_of_ble_eq_true rfl)) dJ4_length_1 ⟨show 0 + 0 ≤ 0 from by omega, show 0 + 0 ≤ 0 from by omega⟩ (fun r9 w9 H locs hp hP hS => ?_)
  obtain ⟨hp1, hp0⟩ := hp
  rw [hp1] at hP
  rw [hp0]
  show W p l0 e rmCJ4_length s m args below meth c H locs 0 0 Q (F0 m 4 ls [.int (nI n)])
  exact k_iret hx hb hr hlocks hQ hP hS (by omega) (by omega) dJ4_length_4 (⟨rfl, rfl⟩)

abbrev rmCJ3_getValue : Room := { frames := 0, cells := 0, slots := 0, locals := 0 }
theorem dyJ3_getValue : yJ3_getValue.cls = RJ3 ∧ yJ3_getValue.cls ≠ "java/lang/invoke/MethodHandle" ∧ yJ3_getValue.cls ≠ "java/lang/invoke/VarHandle" ∧ (parseMethodDescriptor yJ3_getValue.desc).map (fun d => d.parameters.length) = some 0 := by decide +kernel
set_option maxHeartbeats 4000000 in
theorem CJ3_getValue (l0 : Launch) (E : gE) (w : wd) (b : Nat) (q : Nat) (n : Nat) (co : Int32) (hB : w b = some ((96, 0), .inr (15, [.ref q, .int co, .int 0, .int (nI n)]))) : kC l0 yJ3_getValue (ws_ yJ3_getValue cJ3_getValue 1 (some (.array .byte))) rmCJ3_getValue 0 0 mR E w [.ref b] (fun r w' => w' = w ∧ r = q) := by
  refine k_open (cc := cJ3_getValue) (maxL := 1) (ret := (some (.array .byte))) (by decide) rfl (Nat.le_of_ble_eq_true rfl) ?_
  intro p e s m args below meth c ls Q hx hb hr hml hown hts hlocks hname hQ hG hP hl hS
  have hl : lv_has ls 1 [(0, .ref b)] := hl
  refine lv_aload_n hx hb dJ3_getValue_0 rfl (lv_at hl 0 rfl) ?_
  refine k_get hx hb hts in_J4 hown hG hP hB rfl 0 (by decide) (hts _ q262) (fun _ h9 => h9) (v := .ref q) rfl dJ3_getValue_1 ?_
  exact k_aret hx hb hr (Or.inr ⟨_, rfl⟩) hlocks hQ hP hS (by omega) (by omega) dJ3_getValue_4 (⟨rfl, rfl⟩)

abbrev rmCJ3_init : Room := { frames := 1, cells := 1, slots := 16, locals := 32 }
theorem dyJ3_init : yJ3_init.cls = RJ3 ∧ yJ3_init.cls ≠ "java/lang/invoke/MethodHandle" ∧ yJ3_init.cls ≠ "java/lang/invoke/VarHandle" ∧ (parseMethodDescriptor yJ3_init.desc).map (fun d => d.parameters.length) = some 1 := by decide +kernel
set_option maxHeartbeats 4000000 in
theorem CJ3_init (l0 : Launch) (E : gE) (w : wd) (b : Nat) (B : Nat → Int32) (hB : w b = some ((96, 0), .inr (15, [.null, .int 0, .int 0, .int 0]))) : kC l0 yJ3_init (ws_ yJ3_init cJ3_init 2 none) rmCJ3_init 1 16 mV E w [.ref b, .int 16] (fun r w' => (True) ∧ (sbR E w' b B 0 ∧ True) ∧ fr pBs w w') := by
  refine k_open (cc := cJ3_init) (maxL := 2) (ret := none) (by decide) rfl (Nat.le_of_ble_eq_true rfl) ?_
  intro p e s m args below meth c ls Q hx hb hr hml hown hts hlocks hname hQ hG hP hl hS
  have hl : lv_has ls 2 [(0, .ref b), (1, .int 16)] := hl
  obtain ⟨w0, hw0⟩ : ∃ z, z = w := ⟨_, rfl⟩
  have hF : fr pBs w0 w := by rw [hw0]; exact fr.rf
  rw [← hw0] at hQ
  refine lv_aload_n hx hb dJ3_init_0 rfl (lv_at hl 0 rfl) ?_
  refine W.objInit hx hb hown (hts _ q252) (hts _ q115) (hts _ q116) rfl (by rw [hml]; exact hl.1) rfl dJ3_init_1 (Nat.le_of_ble_eq_true rfl) (Nat.le_of_ble_eq_true rfl) ?_
  refine W.eq (g2 := F0 m 4 ls []) rfl ?_
  refine k_getZ (v := 1) hx hb (List.mem_of_getElem? (i := 0) rfl) hown hG hS (hts _ q253) (fun _ h9 => h9) dJ3_init_4 ?_
  refine lv_if_eq (tgt := 25) hx hb dJ3_init_7 (by decide) (fun c7 => ?_) (fun c7 => ?_)
  · skip
    exact absurd c7 (by decide)
  · skip
    refine lv_aload_n hx hb dJ3_init_10 rfl (lv_at hl 0 rfl) ?_
    refine lv_iload_n hx hb dJ3_init_11 rfl (lv_at hl 1 rfl) ?_
    refine k_newbW hx hb (96, 1) (hts _ q275) hG hP hS (n := 16) (by omega) (show 0 + 1 ≤ 1 from by omega) (show 0 + 16 ≤ 16 from by omega) dJ3_init_12 (fun q12 w1 H h9 hf9 hP hS => ?_)
    have hA : w1 q12 = some ((96, 1), .inl (eT E 3, 16, .inl (fun _ => 0))) := h9
    have hB : w1 b = some ((96, 0), .inr (15, [.null, .int 0, .int 0, .int 0])) := hf9 _ _ _ hB (fun z9 => z9)
    have hF : fr pBs w0 w1 := hF.tr (hf9.up (fun _ h9 => h9.elim))
    refine k_putW hx hb hts in_J4 tyJ4 tyJ4_ok nmJ4 hown hG hP hS hB rfl 0 (by decide) (hts _ q262) (fun _ h9 => h9) rfl (ty := (.array .byte)) (v := .ref q12) rfl rfl rfl (Nat.le_of_ble_eq_true rfl) dJ3_init_14 (fun w2 H locs h9 hf9 hP hS => ?_)
    have hB : w2 b = some ((96, 0), .inr (15, [.ref q12, .int 0, .int 0, .int 0])) := h9
    have hA : w2 q12 = some ((96, 1), .inl (eT E 3, 16, .inl (fun _ => 0))) := hf9 _ _ _ hA (by intro z9; first | (simp only [pO, pN, pK, pT, pD, pB, pBs, pS, Prod.mk.injEq] at z9; done) | (simp only [pO, pN, pK, pT, pD, pB, pBs, pS, Prod.mk.injEq] at z9; omega) | exact hty z9 | exact hty z9.symm)
    have hF : fr pBs w0 w2 := hF.tr (hf9.up (fun t9 h9 => by simp only [pO, pB, pBs, pS] at h9 ⊢; first | exact h9 | (subst h9; simp; done) | (subst h9; rfl) | exact Or.inl h9 | exact Or.inr h9))
    refine lv_aload_n hx hb dJ3_init_17 rfl (lv_at hl 0 rfl) ?_
    refine lv_iconst (v := 0) hx hb dJ3_init_18 (by decide) ?_
    refine k_putW hx hb hts in_J4 tyJ4 tyJ4_ok nmJ4 hown hG hP hS hB rfl 1 (by decide) (hts _ q263) (fun _ h9 => h9) rfl (ty := .byte) (v := .int 0) rfl rfl rfl (Nat.le_of_ble_eq_true rfl) dJ3_init_19 (fun w3 H locs h9 hf9 hP hS => ?_)
    have hB : w3 b = some ((96, 0), .inr (15, [.ref q12, .int 0, .int 0, .int 0])) := h9
    have hA : w3 q12 = some ((96, 1), .inl (eT E 3, 16, .inl (fun _ => 0))) := hf9 _ _ _ hA (by intro z9; first | (simp only [pO, pN, pK, pT, pD, pB, pBs, pS, Prod.mk.injEq] at z9; done) | (simp only [pO, pN, pK, pT, pD, pB, pBs, pS, Prod.mk.injEq] at z9; omega) | exact hty z9 | exact hty z9.symm)
    have hF : fr pBs w0 w3 := hF.tr (hf9.up (fun t9 h9 => by simp only [pO, pB, pBs, pS] at h9 ⊢; first | exact h9 | (subst h9; simp; done) | (subst h9; rfl) | exact Or.inl h9 | exact Or.inr h9))
    refine lv_goto (tgt := 38) hx hb dJ3_init_22 (by decide) ?_
    exact k_vret hx hb hr hlocks hQ hP hS (by omega) (by omega) dJ3_init_38 (⟨trivial, ⟨⟨_, _, _, ⟨sb_fit0, by decide, by decide, Or.inl rfl⟩, Or.inl ⟨hB, hA, fun j hj => absurd hj (Nat.not_lt_zero j)⟩⟩, trivial⟩, hF⟩)

abbrev rmCJ4_init : Room := { frames := 2, cells := 1, slots := 16, locals := 53 }
theorem dyJ4_init : yJ4_init.cls = RJ4 ∧ yJ4_init.cls ≠ "java/lang/invoke/MethodHandle" ∧ yJ4_init.cls ≠ "java/lang/invoke/VarHandle" ∧ (parseMethodDescriptor yJ4_init.desc).map (fun d => d.parameters.length) = some 0 := by decide +kernel
set_option maxHeartbeats 4000000 in
theorem CJ4_init (l0 : Launch) (E : gE) (w : wd) (b : Nat) (B : Nat → Int32) (hB : w b = some ((96, 0), .inr (15, [.null, .int 0, .int 0, .int 0]))) : kC l0 yJ4_init (ws_ yJ4_init cJ4_init 1 none) rmCJ4_init 1 16 mV E w [.ref b] (fun r w' => (True) ∧ (sbR E w' b B 0 ∧ True) ∧ fr pBs w w') := by
  refine k_open (cc := cJ4_init) (maxL := 1) (ret := none) (by decide) rfl (Nat.le_of_ble_eq_true rfl) ?_
  intro p e s m args below meth c ls Q hx hb hr hml hown hts hlocks hname hQ hG hP hl hS
  have hl : lv_has ls 1 [(0, .ref b)] := hl
  obtain ⟨w0, hw0⟩ : ∃ z, z = w := ⟨_, rfl⟩
  have hF : fr pBs w0 w := by rw [hw0]; exact fr.rf
  rw [← hw0] at hQ
  refine lv_aload_n hx hb dJ4_init_0 rfl (lv_at hl 0 rfl) ?_
  refine lv_bipush (v := 16) hx hb dJ4_init_1 (by decide) ?_
  refine k_cI hx hb hml hown hts (CJ3_init l0 E w b B hB) (cwI 1 hts (lw_meth q251) rfl rfl rfl (hts _ q77) (hts _ q249) (hts _ q250) rfl dyJ3_init.2 ⟨Nat.le_of_ble_eq_true rfl, Nat.le_of_ble_eq_true rfl⟩) hG hP hS (As := [.int 16]) (rest := []) rfl hl.1 rfl (lv_room (Nat.le_of_ble_eq_true rfl)) dJ4_init_3 ⟨show 0 + 1 ≤ 1 from by omega, show 0 + 16 ≤ 16 from by omega⟩ (fun r3 w1 H locs hp hP hS => ?_)
  obtain ⟨hp0, ⟨hn1', -⟩, hf9⟩ := hp
  have hF : fr pBs w0 w1 := hF.tr (hf9.up (fun _ h9 => h9))
  have hn1 : sbR E w1 b B 0 := hn1'
  show W p l0 e rmCJ4_init s m args below meth c H locs (0 + 1) (0 + 16) Q (F0 m 6 ls [])
  exact k_vret hx hb hr hlocks hQ hP hS (by omega) (by omega) dJ4_init_6 (⟨trivial, ⟨hn1, trivial⟩, hF⟩)
