/-! THE JDK, 8: a string is made -/
set_option maxRecDepth 100000
abbrev rmCJ14_checkLength : Room := { frames := 0, cells := 0, slots := 0, locals := 0 }
theorem dyJ14_checkLength : yJ14_checkLength.cls ≠ "java/lang/invoke/MethodHandle" ∧ yJ14_checkLength.cls ≠ "java/lang/invoke/VarHandle" ∧ (parseMethodDescriptor yJ14_checkLength.desc).map (fun d => d.parameters.length) = some 2 := by decide +kernel
set_option maxHeartbeats 4000000 in
theorem CJ14_checkLength (l0 : Launch) (E : gE) (w : wd) (a : Nat) (b : Nat) (hab : a ≤ b) (hb9 : b < 2147483648) : kC l0 yJ14_checkLength (ws_ yJ14_checkLength cJ14_checkLength 2 none) rmCJ14_checkLength 0 0 mV E w [.int (nI a), .int (nI b)] (fun _ w' => w' = w ∧ True) := by
  refine k_open (cc := cJ14_checkLength) (maxL := 2) (ret := none) (by decide) rfl (Nat.le_of_ble_eq_true rfl) ?_
  intro p e s m args below meth c ls Q hx hb hr hml hown hts hlocks hname hQ hG hP hl hS
  have hl : lv_has ls 2 [(0, .int (nI a)), (1, .int (nI b))] := hl
  refine lv_iload_n hx hb dJ14_checkLength_0 rfl (lv_at hl 1 rfl) ?_
  refine lv_iload_n hx hb dJ14_checkLength_1 rfl (lv_at hl 0 rfl) ?_
  refine k_icmp_geN (x := b) (y := a) (tgt := 37) hx hb (by omega) (by omega) dJ14_checkLength_2 (by decide) (fun c2 => ?_) (fun c2 => ?_)
  · skip
    exact k_vret hx hb hr hlocks hQ hP hS (by omega) (by omega) dJ14_checkLength_37 (⟨rfl, trivial⟩)
  · skip
    omega

abbrev rmCJ14_copyOfRangeByte : Room := { frames := 1, cells := 1, slots := 150, locals := 60 }
theorem dyJ14_copyOfRangeByte : yJ14_copyOfRangeByte.cls ≠ "java/lang/invoke/MethodHandle" ∧ yJ14_copyOfRangeByte.cls ≠ "java/lang/invoke/VarHandle" ∧ (parseMethodDescriptor yJ14_copyOfRangeByte.desc).map (fun d => d.parameters.length) = some 3 := by decide +kernel
set_option maxHeartbeats 4000000 in
theorem CJ14_copyOfRangeByte (l0 : Launch) (E : gE) (w : wd) (q : Nat) (mm : Nat) (k : Nat) (f : Nat → Int32) (ta9 : Nat × Nat) (hk : k ≤ mm) (hm : mm ≤ 65536) (hk2 : k ≤ 150) (hfit : sb_Fit f) (hty : ta9 ≠ (96, 3)) (hA : w q = some (ta9, .inl (eT E 3, mm, .inl f))) : kC l0 yJ14_copyOfRangeByte (ws_ yJ14_copyOfRangeByte cJ14_copyOfRangeByte 5 (some (.array .byte))) rmCJ14_copyOfRangeByte 1 150 mR E w [.ref q, .int 0, .int (nI k)] (fun r w' => ∃ q9 : Nat, (r = q9) ∧ (w' q9 = some ((96, 3), .inl (eT E 3, k, .inl (va_cpy f (fun _ => 0) 0 0 k))) ∧ True) ∧ fr (pO (96, 3)) w w') := by
  refine k_open (cc := cJ14_copyOfRangeByte) (maxL := 5) (ret := (some (.array .byte))) (by decide) rfl (Nat.le_of_ble_eq_true rfl) ?_
  intro p e s m args below meth c ls Q hx hb hr hml hown hts hlocks hname hQ hG hP hl hS
  have hl : lv_has ls 5 [(0, .ref q), (1, .int 0), (2, .int (nI k))] := hl
  obtain ⟨w0, hw0⟩ : ∃ z, z = w := ⟨_, rfl⟩
  have hF : fr (pO (96, 3)) w0 w := by rw [hw0]; exact fr.rf
  rw [← hw0] at hQ
  refine lv_iload_n hx hb dJ14_copyOfRangeByte_0 rfl (lv_at hl 1 rfl) ?_
  refine lv_iload_n hx hb dJ14_copyOfRangeByte_1 rfl (lv_at hl 2 rfl) ?_
  refine k_cS hx hb hml hown hts (CJ14_checkLength l0 E w 0 k (by omega) (by omega)) (va_cwS 2 hts (lw_S q1214 q1215 q91 q1216) rfl rfl rfl dyJ14_checkLength ⟨Nat.le_of_ble_eq_true rfl, Nat.le_of_ble_eq_true rfl⟩) hG hP hS (As := [.int 0, .int (nI k)]) (rest := []) rfl hl.1 rfl (lv_room (Nat.le_of_ble_eq_true rfl)) dJ14_copyOfRangeByte_2 ⟨show 0 + 0 ≤ 1 from by omega, show 0 + 0 ≤ 150 from by omega⟩ (fun r9 w9 H locs hp hP hS => ?_)
  obtain ⟨hp1, hp0⟩ := hp
  rw [hp1] at hP
  show W p l0 e rmCJ14_copyOfRangeByte s m args below meth c H locs 0 0 Q (F0 m 5 ls [])
  refine lv_iload_n hx hb dJ14_copyOfRangeByte_5 rfl (lv_at hl 2 rfl) ?_
  refine lv_iload_n hx hb dJ14_copyOfRangeByte_6 rfl (lv_at hl 1 rfl) ?_
  refine k_isubN (x := k) (y := 0) hx hb ((Nat.zero_le k)) dJ14_copyOfRangeByte_7 ?_
  refine k_top (y := (nI k)) (rfl) ?_
  refine lv_istore_n (lv' := [(3, .int (nI k)), (0, .ref q), (1, .int 0), (2, .int (nI k))]) hx hb dJ14_copyOfRangeByte_8 rfl hl (by decide) rfl (fun ls hl => ?_)
  refine lv_iload_n hx hb dJ14_copyOfRangeByte_9 rfl (lv_at hl 0 rfl) ?_
  refine k_newbW hx hb (96, 3) (hts _ q275) hG hP hS (n := k) (by omega) (show 0 + 1 ≤ 1 from by omega) (show 0 + k ≤ 150 from by omega) dJ14_copyOfRangeByte_10 (fun q10 w1 H h9 hf9 hP hS => ?_)
  have hD : w1 q10 = some ((96, 3), .inl (eT E 3, k, .inl (fun _ => 0))) := h9
  have hA : w1 q = some (ta9, .inl (eT E 3, mm, .inl f)) := hf9 _ _ _ hA (fun z9 => z9)
  have hF : fr (pO (96, 3)) w0 w1 := hF.tr (hf9.up (fun _ h9 => h9.elim))
  refine lv_astore (lv' := [(4, .ref q10), (3, .int (nI k)), (0, .ref q), (1, .int 0), (2, .int (nI k))]) hx hb dJ14_copyOfRangeByte_12 hl (by decide) rfl (fun ls hl => ?_)
  refine lv_aload_n hx hb dJ14_copyOfRangeByte_14 rfl (lv_at hl 2 rfl) ?_
  refine lv_iload_n hx hb dJ14_copyOfRangeByte_15 rfl (lv_at hl 3 rfl) ?_
  refine lv_aload hx hb dJ14_copyOfRangeByte_16 (lv_at hl 0 rfl) ?_
  refine lv_iconst (v := 0) hx hb dJ14_copyOfRangeByte_18 (by decide) ?_
  refine lv_aload_n hx hb dJ14_copyOfRangeByte_19 rfl (lv_at hl 2 rfl) ?_
  refine k_alenb hx hb hG hP hA dJ14_copyOfRangeByte_20 ?_
  refine lv_iload_n hx hb dJ14_copyOfRangeByte_21 rfl (lv_at hl 3 rfl) ?_
  refine k_isubN (x := mm) (y := 0) hx hb ((Nat.zero_le mm)) dJ14_copyOfRangeByte_22 ?_
  refine k_top (y := (nI mm)) (rfl) ?_
  refine lv_iload_n hx hb dJ14_copyOfRangeByte_23 rfl (lv_at hl 1 rfl) ?_
  refine va_mmin hx hb (hml.trans hl.1.symm) hown (hts _ q591) (hts _ q592) (hts _ q92) (hts _ q593) (Nat.le_of_ble_eq_true rfl) (Nat.le_of_ble_eq_true rfl) (show (0 + 1) ≤ 1 from by omega) (show (0 + k) ≤ 150 from by omega) dJ14_copyOfRangeByte_24 ?_
  refine k_top (y := (nI k)) (mn_ge (by omega) (by omega)) ?_
  refine k_copybW (sp := 0) (dp := 0) (n := k) hx hb (hml.trans hl.1.symm) hown (hts _ q594) (hts _ q335) (hts _ q334) (hts _ q88) hG hP hS hA hD (by omega) (by omega) hfit (by omega) (by omega) (Nat.le_of_ble_eq_true rfl) (by decide) dJ14_copyOfRangeByte_27 (fun w2 H locs h9 hf9 hP hS => ?_)
  have hD : w2 q10 = some ((96, 3), .inl (eT E 3, k, .inl (va_cpy f (fun _ => 0) 0 0 k))) := h9
  have hA : w2 q = some (ta9, .inl (eT E 3, mm, .inl f)) := hf9 _ _ _ hA (by intro z9; first | (simp only [pO, pN, pK, pT, pD, pB, Prod.mk.injEq] at z9; done) | (simp only [pO, pN, pK, pT, pD, pB, Prod.mk.injEq] at z9; omega) | exact hty z9 | exact hty z9.symm)
  have hF : fr (pO (96, 3)) w0 w2 := hF.tr (hf9.up (fun _ h9 => h9))
  show W p l0 e rmCJ14_copyOfRangeByte s m args below meth c H locs (0 + 1) (0 + k) Q (F0 m 30 ls [])
  refine lv_aload hx hb dJ14_copyOfRangeByte_30 (lv_at hl 0 rfl) ?_
  exact k_aret hx hb hr (Or.inr ⟨_, rfl⟩) hlocks hQ hP hS (by omega) (by omega) dJ14_copyOfRangeByte_32 (⟨_, rfl, ⟨hD, trivial⟩, hF⟩)

abbrev rmCJ14_copyOfRange : Room := { frames := 2, cells := 1, slots := 150, locals := 84 }
theorem dyJ14_copyOfRange : yJ14_copyOfRange.cls ≠ "java/lang/invoke/MethodHandle" ∧ yJ14_copyOfRange.cls ≠ "java/lang/invoke/VarHandle" ∧ (parseMethodDescriptor yJ14_copyOfRange.desc).map (fun d => d.parameters.length) = some 3 := by decide +kernel
set_option maxHeartbeats 4000000 in
theorem CJ14_copyOfRange (l0 : Launch) (E : gE) (w : wd) (q : Nat) (mm : Nat) (k : Nat) (f : Nat → Int32) (ta9 : Nat × Nat) (hk : k ≤ mm) (hm : mm ≤ 65536) (hk2 : k ≤ 150) (hfit : sb_Fit f) (hty : ta9 ≠ (96, 3)) (hA : w q = some (ta9, .inl (eT E 3, mm, .inl f))) : kC l0 yJ14_copyOfRange (ws_ yJ14_copyOfRange cJ14_copyOfRange 3 (some (.array .byte))) rmCJ14_copyOfRange 1 150 mR E w [.ref q, .int 0, .int (nI k)] (fun r w' => ∃ q9 : Nat, ∃ f9 : Nat → Int32, (r = q9 ∧ ∀ j, j < k → f9 j = f j) ∧ (w' q9 = some ((96, 3), .inl (eT E 3, k, .inl f9)) ∧ True) ∧ fr (pO (96, 3)) w w') := by
  refine k_open (cc := cJ14_copyOfRange) (maxL := 3) (ret := (some (.array .byte))) (by decide) rfl (Nat.le_of_ble_eq_true rfl) ?_
  intro p e s m args below meth c ls Q hx hb hr hml hown hts hlocks hname hQ hG hP hl hS
  have hl : lv_has ls 3 [(0, .ref q), (1, .int 0), (2, .int (nI k))] := hl
  obtain ⟨w0, hw0⟩ : ∃ z, z = w := ⟨_, rfl⟩
  have hF : fr (pO (96, 3)) w0 w := by rw [hw0]; exact fr.rf
  rw [← hw0] at hQ
  refine lv_iload_n hx hb dJ14_copyOfRange_0 rfl (lv_at hl 1 rfl) ?_
  refine lv_if_ne (tgt := 10) hx hb dJ14_copyOfRange_1 (by decide) (fun c1 => ?_) (fun c1 => ?_)
  · skip
    exact absurd c1 (by decide)
  · skip
    refine lv_iload_n hx hb dJ14_copyOfRange_4 rfl (lv_at hl 2 rfl) ?_
    refine lv_aload_n hx hb dJ14_copyOfRange_5 rfl (lv_at hl 0 rfl) ?_
    refine k_alenb hx hb hG hP hA dJ14_copyOfRange_6 ?_
    refine k_icmp_eqN (x := k) (y := mm) (tgt := 17) hx hb (by omega) (by omega) dJ14_copyOfRange_7 (by decide) (fun c7 => ?_) (fun c7 => ?_)
    · skip
      refine lv_aload_n hx hb dJ14_copyOfRange_17 rfl (lv_at hl 0 rfl) ?_
      refine k_clonebW hx hb (96, 3) (hml.trans hl.1.symm) hown hts q1119 (hG.2.1.1 _ q1124 rfl) hG hP hS hA hfit (Nat.le_of_ble_eq_true rfl) (by decide) (show 0 + 1 ≤ 1 from by omega) (show 0 + mm ≤ 150 from by omega) dJ14_copyOfRange_18 (fun q18 w1 H h9 hf9 hP hS => ?_)
      have hD : w1 q18 = some ((96, 3), .inl (eT E 3, mm, .inl f)) := h9
      have hA : w1 q = some (ta9, .inl (eT E 3, mm, .inl f)) := hf9 _ _ _ hA (fun z9 => z9)
      have hF : fr (pO (96, 3)) w0 w1 := hF.tr (hf9.up (fun _ h9 => h9.elim))
      refine k_castB hx hb hown (hts _ q1125) hG hP hD dJ14_copyOfRange_21 ?_
      exact k_aret hx hb hr (Or.inr ⟨_, rfl⟩) hlocks hQ hP hS (by omega) (by omega) dJ14_copyOfRange_24 (⟨_, _, ⟨rfl, fun j hj => rfl⟩, ⟨(by rw [c7]; exact hD), trivial⟩, hF⟩)
    · skip
      refine lv_aload_n hx hb dJ14_copyOfRange_10 rfl (lv_at hl 0 rfl) ?_
      refine lv_iload_n hx hb dJ14_copyOfRange_11 rfl (lv_at hl 1 rfl) ?_
      refine lv_iload_n hx hb dJ14_copyOfRange_12 rfl (lv_at hl 2 rfl) ?_
      refine k_cS hx hb hml hown hts (CJ14_copyOfRangeByte l0 E w q mm k f ta9 (by omega) (by omega) (by omega) hfit hty hA) (va_cwS 3 hts (lw_S q1211 q1212 q91 q1213) rfl rfl rfl dyJ14_copyOfRangeByte ⟨Nat.le_of_ble_eq_true rfl, Nat.le_of_ble_eq_true rfl⟩) hG hP hS (As := [.ref q, .int 0, .int (nI k)]) (rest := []) rfl hl.1 rfl (lv_room (Nat.le_of_ble_eq_true rfl)) dJ14_copyOfRange_13 ⟨show 0 + 1 ≤ 1 from by omega, show 0 + 150 ≤ 150 from by omega⟩ (fun r13 w2 H locs hp hP hS => ?_)
      obtain ⟨q9_1, hp0, ⟨hn2', -⟩, hf9⟩ := hp
      have hA : w2 q = some (ta9, .inl (eT E 3, mm, .inl f)) := hf9 _ _ _ hA (by intro z9; first | (simp only [pO, pN, pK, pT, pD, pB, Prod.mk.injEq] at z9; done) | (simp only [pO, pN, pK, pT, pD, pB, Prod.mk.injEq] at z9; omega) | exact hty z9 | exact hty z9.symm)
      have hF : fr (pO (96, 3)) w0 w2 := hF.tr (hf9.up (fun _ h9 => h9))
      have hn2 : w2 q9_1 = some ((96, 3), .inl (eT E 3, k, .inl (va_cpy f (fun _ => 0) 0 0 k))) := hn2'
      rw [hp0]
      show W p l0 e rmCJ14_copyOfRange s m args below meth c H locs (0 + 1) (0 + 150) Q (F0 m 16 ls [.ref q9_1])
      exact k_aret hx hb hr (Or.inr ⟨_, rfl⟩) hlocks hQ hP hS (by omega) (by omega) dJ14_copyOfRange_16 (⟨_, _, ⟨rfl, fun j hj => sb_cpy0 hj⟩, ⟨hn2, trivial⟩, hF⟩)

abbrev rmCJ5_init_2 : Room := { frames := 3, cells := 1, slots := 150, locals := 106 }
theorem dyJ5_init_2 : yJ5_init_2.cls = RJ5 ∧ yJ5_init_2.cls ≠ "java/lang/invoke/MethodHandle" ∧ yJ5_init_2.cls ≠ "java/lang/invoke/VarHandle" ∧ (parseMethodDescriptor yJ5_init_2.desc).map (fun d => d.parameters.length) = some 2 := by decide +kernel
set_option maxHeartbeats 4000000 in
theorem CJ5_init_2 (l0 : Launch) (E : gE) (w : wd) (y : Nat) (b : Nat) (B : Nat → Int32) (n : Nat) (hSB : sbR E w b B n) (hy : w y = some ((96, 2), .inr (16, [.null, .int 0, .int 0, .int 0]))) : kC l0 yJ5_init_2 (ws_ yJ5_init_2 cJ5_init_2 5 none) rmCJ5_init_2 1 150 mV E w [.ref y, .ref b, .null] (fun r w' => (True) ∧ (strR E w' y B n ∧ True) ∧ fr pS w w') := by
  refine k_open (cc := cJ5_init_2) (maxL := 5) (ret := none) (by decide) rfl (Nat.le_of_ble_eq_true rfl) ?_
  intro p e s m args below meth c ls Q hx hb hr hml hown hts hlocks hname hQ hG hP hl hS
  have hl : lv_has ls 5 [(0, .ref y), (1, .ref b), (2, .null)] := hl
  obtain ⟨w0, hw0⟩ : ∃ z, z = w := ⟨_, rfl⟩
  have hF : fr pS w0 w := by rw [hw0]; exact fr.rf
  rw [← hw0] at hQ
  obtain ⟨q, mm, f, ⟨hfit, hn60, hcap⟩, ⟨hB, hA, hL⟩ | ⟨hB, hA, hU⟩⟩ := hSB
  · skip
    obtain ⟨hc1, hc2⟩ := hcap
    refine lv_aload_n hx hb dJ5_init_2_0 rfl (lv_at hl 0 rfl) ?_
    refine W.objInit hx hb hown (hts _ q1200) (hts _ q115) (hts _ q116) rfl (by rw [hml]; exact hl.1) rfl dJ5_init_2_1 (Nat.le_of_ble_eq_true rfl) (Nat.le_of_ble_eq_true rfl) ?_
    refine W.eq (g2 := F0 m 4 ls []) rfl ?_
    refine lv_aload_n hx hb dJ5_init_2_4 rfl (lv_at hl 1 rfl) ?_
    refine k_cV hx hb hml hown hts (CJ3_getValue l0 E w b q n 0 hB) (cwVi 0 hts q1201 q1202 q1204 q77 q1205 rfl rfl (by decide +kernel) ⟨Nat.le_of_ble_eq_true rfl, Nat.le_of_ble_eq_true rfl⟩) hG hP hS hB rfl (As := []) (rest := []) rfl hl.1 rfl (lv_room (Nat.le_of_ble_eq_true rfl)) dJ5_init_2_5 ⟨show 0 + 0 ≤ 1 from by omega, show 0 + 0 ≤ 150 from by omega⟩ (fun r9 w9 H locs hp hP hS => ?_)
    obtain ⟨hp1, hp0⟩ := hp
    rw [hp1] at hP
    rw [hp0]
    show W p l0 e rmCJ5_init_2 s m args below meth c H locs 0 0 Q (F0 m 8 ls [.ref q])
    refine lv_astore_n (lv' := [(3, .ref q), (0, .ref y), (1, .ref b), (2, .null)]) hx hb dJ5_init_2_8 rfl hl (by decide) rfl (fun ls hl => ?_)
    refine lv_aload_n hx hb dJ5_init_2_9 rfl (lv_at hl 2 rfl) ?_
    refine k_cU hx hb hml hown hts (CJ4_length l0 E w b q n 0 hB) (cwUo (x := ⟨"java/lang/AbstractStringBuilder", "length", "()I"⟩) (owner := "java/lang/AbstractStringBuilder") 0 hts q1206 q1960 q1965 q1078 q78 q1080 (va_Decl.of (hts _ q1082) (hts _ q1083)) rfl rfl (by decide +kernel) ⟨Nat.le_of_ble_eq_true rfl, Nat.le_of_ble_eq_true rfl⟩) hG hP hS hB rfl (As := []) (rest := []) rfl hl.1 rfl (lv_room (Nat.le_of_ble_eq_true rfl)) dJ5_init_2_10 ⟨show 0 + 0 ≤ 1 from by omega, show 0 + 0 ≤ 150 from by omega⟩ (fun r9 w9 H locs hp hP hS => ?_)
    obtain ⟨hp1, hp0⟩ := hp
    rw [hp1] at hP
    rw [hp0]
    show W p l0 e rmCJ5_init_2 s m args below meth c H locs 0 0 Q (F0 m 13 ls [.int (nI n)])
    refine lv_istore (lv' := [(4, .int (nI n)), (3, .ref q), (0, .ref y), (1, .ref b), (2, .null)]) hx hb dJ5_init_2_13 hl (by decide) rfl (fun ls hl => ?_)
    refine lv_aload_n hx hb dJ5_init_2_15 rfl (lv_at hl 3 rfl) ?_
    refine k_cV hx hb hml hown hts (CJ3_isLatin1L l0 E w b q n hB) (cwVi 0 hts q1207 q1127 q1129 q77 q1130 rfl rfl (by decide +kernel) ⟨Nat.le_of_ble_eq_true rfl, Nat.le_of_ble_eq_true rfl⟩) hG hP hS hB rfl (As := []) (rest := []) rfl hl.1 rfl (lv_room (Nat.le_of_ble_eq_true rfl)) dJ5_init_2_16 ⟨show 0 + 0 ≤ 1 from by omega, show 0 + 0 ≤ 150 from by omega⟩ (fun r9 w9 H locs hp hP hS => ?_)
    obtain ⟨hp1, hp0⟩ := hp
    rw [hp1] at hP
    rw [hp0]
    show W p l0 e rmCJ5_init_2 s m args below meth c H locs 0 0 Q (F0 m 19 ls [.int 1])
    refine lv_if_eq (tgt := 41) hx hb dJ5_init_2_19 (by decide) (fun c19 => ?_) (fun c19 => ?_)
    · skip
      exact absurd c19 (by decide)
    · skip
      refine lv_aload_n hx hb dJ5_init_2_22 rfl (lv_at hl 2 rfl) ?_
      refine lv_iconst (v := 0) hx hb dJ5_init_2_23 (by decide) ?_
      refine k_putFW hx hb hts in_J5 tyJ5 tyJ5_ok nmJ5 hown hG hP hS hy rfl 1 (by decide) (hts _ q1312) (fun _ h9 => h9) rfl hname rfl (ty := .byte) (v := .int 0) rfl rfl rfl (Nat.le_of_ble_eq_true rfl) dJ5_init_2_24 (fun w1 H locs h9 hf9 hP hS => ?_)
      have hy : w1 y = some ((96, 2), .inr (16, [.null, .int 0, .int 0, .int 0])) := h9
      have hB : w1 b = some ((96, 0), .inr (15, [.ref q, .int 0, .int 0, .int (nI n)])) := hf9 _ _ _ hB (by intro z9; first | (simp only [pO, pN, pK, pT, pD, pB, pS, Prod.mk.injEq] at z9; done) | (simp only [pO, pN, pK, pT, pD, pB, pS, Prod.mk.injEq] at z9; omega) | exact hty z9 | exact hty z9.symm)
      have hA : w1 q = some ((96, 1), .inl (eT E 3, mm, .inl f)) := hf9 _ _ _ hA (by intro z9; first | (simp only [pO, pN, pK, pT, pD, pB, pS, Prod.mk.injEq] at z9; done) | (simp only [pO, pN, pK, pT, pD, pB, pS, Prod.mk.injEq] at z9; omega) | exact hty z9 | exact hty z9.symm)
      have hF : fr pS w0 w1 := hF.tr (hf9.up (fun t9 h9 => by simp only [pO, pB, pS] at h9 ⊢; first | exact h9 | (subst h9; rfl) | exact Or.inl h9 | exact Or.inr h9))
      refine lv_aload_n hx hb dJ5_init_2_27 rfl (lv_at hl 2 rfl) ?_
      refine lv_aload_n hx hb dJ5_init_2_28 rfl (lv_at hl 1 rfl) ?_
      refine lv_iconst (v := 0) hx hb dJ5_init_2_29 (by decide) ?_
      refine lv_iload hx hb dJ5_init_2_30 (lv_at hl 0 rfl) ?_
      refine k_cS hx hb hml hown hts (CJ14_copyOfRange l0 E w1 q mm n f (96, 1) (by omega) (by omega) (by omega) hfit (by decide) hA) (va_cwS 3 hts (lw_S q1208 q1209 q91 q1210) rfl rfl rfl dyJ14_copyOfRange ⟨Nat.le_of_ble_eq_true rfl, Nat.le_of_ble_eq_true rfl⟩) hG hP hS (As := [.ref q, .int 0, .int (nI n)]) (rest := [.ref y]) rfl hl.1 rfl (lv_room (Nat.le_of_ble_eq_true rfl)) dJ5_init_2_32 ⟨show 0 + 1 ≤ 1 from by omega, show 0 + 150 ≤ 150 from by omega⟩ (fun r32 w2 H locs hp hP hS => ?_)
      obtain ⟨q9_1, f9_2, hp0, ⟨hn3', -⟩, hf9⟩ := hp
      have hy : w2 y = some ((96, 2), .inr (16, [.null, .int 0, .int 0, .int 0])) := hf9 _ _ _ hy (by intro z9; first | (simp only [pO, pN, pK, pT, pD, pB, pS, Prod.mk.injEq] at z9; done) | (simp only [pO, pN, pK, pT, pD, pB, pS, Prod.mk.injEq] at z9; omega) | exact hty z9 | exact hty z9.symm)
      have hB : w2 b = some ((96, 0), .inr (15, [.ref q, .int 0, .int 0, .int (nI n)])) := hf9 _ _ _ hB (by intro z9; first | (simp only [pO, pN, pK, pT, pD, pB, pS, Prod.mk.injEq] at z9; done) | (simp only [pO, pN, pK, pT, pD, pB, pS, Prod.mk.injEq] at z9; omega) | exact hty z9 | exact hty z9.symm)
      have hA : w2 q = some ((96, 1), .inl (eT E 3, mm, .inl f)) := hf9 _ _ _ hA (by intro z9; first | (simp only [pO, pN, pK, pT, pD, pB, pS, Prod.mk.injEq] at z9; done) | (simp only [pO, pN, pK, pT, pD, pB, pS, Prod.mk.injEq] at z9; omega) | exact hty z9 | exact hty z9.symm)
      have hF : fr pS w0 w2 := hF.tr (hf9.up (fun t9 h9 => by simp only [pO, pB, pS] at h9 ⊢; first | exact h9 | (subst h9; rfl) | exact Or.inl h9 | exact Or.inr h9))
      have hn3 : w2 q9_1 = some ((96, 3), .inl (eT E 3, n, .inl f9_2)) := hn3'
      obtain ⟨hp9, hp0⟩ := hp0
      rw [hp9]
      show W p l0 e rmCJ5_init_2 s m args below meth c H locs (0 + 1) (0 + 150) Q (F0 m 35 ls [.ref q9_1, .ref y])
      have he9 := hp0
      refine k_putFW hx hb hts in_J5 tyJ5 tyJ5_ok nmJ5 hown hG hP hS hy rfl 0 (by decide) (hts _ q1311) (fun _ h9 => h9) rfl hname rfl (ty := (.array .byte)) (v := .ref q9_1) rfl rfl rfl (Nat.le_of_ble_eq_true rfl) dJ5_init_2_35 (fun w3 H locs h9 hf9 hP hS => ?_)
      have hy : w3 y = some ((96, 2), .inr (16, [.ref q9_1, .int 0, .int 0, .int 0])) := h9
      have hB : w3 b = some ((96, 0), .inr (15, [.ref q, .int 0, .int 0, .int (nI n)])) := hf9 _ _ _ hB (by intro z9; first | (simp only [pO, pN, pK, pT, pD, pB, pS, Prod.mk.injEq] at z9; done) | (simp only [pO, pN, pK, pT, pD, pB, pS, Prod.mk.injEq] at z9; omega) | exact hty z9 | exact hty z9.symm)
      have hA : w3 q = some ((96, 1), .inl (eT E 3, mm, .inl f)) := hf9 _ _ _ hA (by intro z9; first | (simp only [pO, pN, pK, pT, pD, pB, pS, Prod.mk.injEq] at z9; done) | (simp only [pO, pN, pK, pT, pD, pB, pS, Prod.mk.injEq] at z9; omega) | exact hty z9 | exact hty z9.symm)
      have hn3 : w3 q9_1 = some ((96, 3), .inl (eT E 3, n, .inl f9_2)) := hf9 _ _ _ hn3 (by intro z9; first | (simp only [pO, pN, pK, pT, pD, pB, pS, Prod.mk.injEq] at z9; done) | (simp only [pO, pN, pK, pT, pD, pB, pS, Prod.mk.injEq] at z9; omega) | exact hty z9 | exact hty z9.symm)
      have hF : fr pS w0 w3 := hF.tr (hf9.up (fun t9 h9 => by simp only [pO, pB, pS] at h9 ⊢; first | exact h9 | (subst h9; rfl) | exact Or.inl h9 | exact Or.inr h9))
      refine lv_goto (tgt := 97) hx hb dJ5_init_2_38 (by decide) ?_
      exact k_vret hx hb hr hlocks hQ hP hS (by omega) (by omega) dJ5_init_2_97 (⟨trivial, ⟨⟨_, _, hn60, Or.inl ⟨hy, hn3, sL_co hL he9⟩⟩, trivial⟩, hF⟩)
  · skip
    obtain ⟨hc1, hc2⟩ := hcap
    refine lv_aload_n hx hb dJ5_init_2_0 rfl (lv_at hl 0 rfl) ?_
    refine W.objInit hx hb hown (hts _ q1200) (hts _ q115) (hts _ q116) rfl (by rw [hml]; exact hl.1) rfl dJ5_init_2_1 (Nat.le_of_ble_eq_true rfl) (Nat.le_of_ble_eq_true rfl) ?_
    refine W.eq (g2 := F0 m 4 ls []) rfl ?_
    refine lv_aload_n hx hb dJ5_init_2_4 rfl (lv_at hl 1 rfl) ?_
    refine k_cV hx hb hml hown hts (CJ3_getValue l0 E w b q n 1 hB) (cwVi 0 hts q1201 q1202 q1204 q77 q1205 rfl rfl (by decide +kernel) ⟨Nat.le_of_ble_eq_true rfl, Nat.le_of_ble_eq_true rfl⟩) hG hP hS hB rfl (As := []) (rest := []) rfl hl.1 rfl (lv_room (Nat.le_of_ble_eq_true rfl)) dJ5_init_2_5 ⟨show 0 + 0 ≤ 1 from by omega, show 0 + 0 ≤ 150 from by omega⟩ (fun r9 w9 H locs hp hP hS => ?_)
    obtain ⟨hp1, hp0⟩ := hp
    rw [hp1] at hP
    rw [hp0]
    show W p l0 e rmCJ5_init_2 s m args below meth c H locs 0 0 Q (F0 m 8 ls [.ref q])
    refine lv_astore_n (lv' := [(3, .ref q), (0, .ref y), (1, .ref b), (2, .null)]) hx hb dJ5_init_2_8 rfl hl (by decide) rfl (fun ls hl => ?_)
    refine lv_aload_n hx hb dJ5_init_2_9 rfl (lv_at hl 2 rfl) ?_
    refine k_cU hx hb hml hown hts (CJ4_length l0 E w b q n 1 hB) (cwUo (x := ⟨"java/lang/AbstractStringBuilder", "length", "()I"⟩) (owner := "java/lang/AbstractStringBuilder") 0 hts q1206 q1960 q1965 q1078 q78 q1080 (va_Decl.of (hts _ q1082) (hts _ q1083)) rfl rfl (by decide +kernel) ⟨Nat.le_of_ble_eq_true rfl, Nat.le_of_ble_eq_true rfl⟩) hG hP hS hB rfl (As := []) (rest := []) rfl hl.1 rfl (lv_room (Nat.le_of_ble_eq_true rfl)) dJ5_init_2_10 ⟨show 0 + 0 ≤ 1 from by omega, show 0 + 0 ≤ 150 from by omega⟩ (fun r9 w9 H locs hp hP hS => ?_)
    obtain ⟨hp1, hp0⟩ := hp
    rw [hp1] at hP
    rw [hp0]
    show W p l0 e rmCJ5_init_2 s m args below meth c H locs 0 0 Q (F0 m 13 ls [.int (nI n)])
    refine lv_istore (lv' := [(4, .int (nI n)), (3, .ref q), (0, .ref y), (1, .ref b), (2, .null)]) hx hb dJ5_init_2_13 hl (by decide) rfl (fun ls hl => ?_)
    refine lv_aload_n hx hb dJ5_init_2_15 rfl (lv_at hl 3 rfl) ?_
    refine k_cV hx hb hml hown hts (CJ3_isLatin1U l0 E w b q n hB) (cwVi 0 hts q1207 q1127 q1129 q77 q1130 rfl rfl (by decide +kernel) ⟨Nat.le_of_ble_eq_true rfl, Nat.le_of_ble_eq_true rfl⟩) hG hP hS hB rfl (As := []) (rest := []) rfl hl.1 rfl (lv_room (Nat.le_of_ble_eq_true rfl)) dJ5_init_2_16 ⟨show 0 + 0 ≤ 1 from by omega, show 0 + 0 ≤ 150 from by omega⟩ (fun r9 w9 H locs hp hP hS => ?_)
    obtain ⟨hp1, hp0⟩ := hp
    rw [hp1] at hP
    rw [hp0]
    show W p l0 e rmCJ5_init_2 s m args below meth c H locs 0 0 Q (F0 m 19 ls [.int 0])
    refine lv_if_eq (tgt := 41) hx hb dJ5_init_2_19 (by decide) (fun c19 => ?_) (fun c19 => ?_)
    · skip
      refine k_getZ (v := 1) hx hb (List.mem_of_getElem? (i := 0) rfl) hown hG hS (hts _ q1277) (fun _ h9 => h9) dJ5_init_2_41 ?_
      refine lv_if_eq (tgt := 79) hx hb dJ5_init_2_44 (by decide) (fun c44 => ?_) (fun c44 => ?_)
      · skip
        exact absurd c44 (by decide)
      · skip
        refine lv_aload_n hx hb dJ5_init_2_47 rfl (lv_at hl 3 rfl) ?_
        refine k_get hx hb hts in_J4 hown hG hP hB rfl 2 (by decide) (hts _ q264) (fun _ h9 => h9) (v := .int 0) rfl dJ5_init_2_48 ?_
        refine lv_if_eq (tgt := 79) hx hb dJ5_init_2_51 (by decide) (fun c51 => ?_) (fun c51 => ?_)
        · skip
          refine lv_aload_n hx hb dJ5_init_2_79 rfl (lv_at hl 2 rfl) ?_
          refine lv_iconst (v := 1) hx hb dJ5_init_2_80 (by decide) ?_
          refine k_putFW hx hb hts in_J5 tyJ5 tyJ5_ok nmJ5 hown hG hP hS hy rfl 1 (by decide) (hts _ q1312) (fun _ h9 => h9) rfl hname rfl (ty := .byte) (v := .int 1) rfl rfl rfl (Nat.le_of_ble_eq_true rfl) dJ5_init_2_81 (fun w4 H locs h9 hf9 hP hS => ?_)
          have hy : w4 y = some ((96, 2), .inr (16, [.null, .int 1, .int 0, .int 0])) := h9
          have hB : w4 b = some ((96, 0), .inr (15, [.ref q, .int 1, .int 0, .int (nI n)])) := hf9 _ _ _ hB (by intro z9; first | (simp only [pO, pN, pK, pT, pD, pB, pS, Prod.mk.injEq] at z9; done) | (simp only [pO, pN, pK, pT, pD, pB, pS, Prod.mk.injEq] at z9; omega) | exact hty z9 | exact hty z9.symm)
          have hA : w4 q = some ((96, 1), .inl (eT E 3, 2 * mm, .inl f)) := hf9 _ _ _ hA (by intro z9; first | (simp only [pO, pN, pK, pT, pD, pB, pS, Prod.mk.injEq] at z9; done) | (simp only [pO, pN, pK, pT, pD, pB, pS, Prod.mk.injEq] at z9; omega) | exact hty z9 | exact hty z9.symm)
          have hF : fr pS w0 w4 := hF.tr (hf9.up (fun t9 h9 => by simp only [pO, pB, pS] at h9 ⊢; first | exact h9 | (subst h9; rfl) | exact Or.inl h9 | exact Or.inr h9))
          refine lv_aload_n hx hb dJ5_init_2_84 rfl (lv_at hl 2 rfl) ?_
          refine lv_aload_n hx hb dJ5_init_2_85 rfl (lv_at hl 1 rfl) ?_
          refine lv_iconst (v := 0) hx hb dJ5_init_2_86 (by decide) ?_
          refine lv_iload hx hb dJ5_init_2_87 (lv_at hl 0 rfl) ?_
          refine lv_iconst (v := 1) hx hb dJ5_init_2_89 (by decide) ?_
          refine lv_ishl hx hb dJ5_init_2_90 ?_
          refine k_top (y := (nI (2 * n))) (shl1 (by omega)) ?_
          refine k_cS hx hb hml hown hts (CJ14_copyOfRange l0 E w4 q (2 * mm) (2 * n) f (96, 1) (by omega) (by omega) (by omega) hfit (by decide) hA) (va_cwS 3 hts (lw_S q1208 q1209 q91 q1210) rfl rfl rfl dyJ14_copyOfRange ⟨Nat.le_of_ble_eq_true rfl, Nat.le_of_ble_eq_true rfl⟩) hG hP hS (As := [.ref q, .int 0, .int (nI (2 * n))]) (rest := [.ref y]) rfl hl.1 rfl (lv_room (Nat.le_of_ble_eq_true rfl)) dJ5_init_2_91 ⟨show 0 + 1 ≤ 1 from by omega, show 0 + 150 ≤ 150 from by omega⟩ (fun r91 w5 H locs hp hP hS => ?_)
          obtain ⟨q9_4, f9_5, hp0, ⟨hn6', -⟩, hf9⟩ := hp
          have hy : w5 y = some ((96, 2), .inr (16, [.null, .int 1, .int 0, .int 0])) := hf9 _ _ _ hy (by intro z9; first | (simp only [pO, pN, pK, pT, pD, pB, pS, Prod.mk.injEq] at z9; done) | (simp only [pO, pN, pK, pT, pD, pB, pS, Prod.mk.injEq] at z9; omega) | exact hty z9 | exact hty z9.symm)
          have hB : w5 b = some ((96, 0), .inr (15, [.ref q, .int 1, .int 0, .int (nI n)])) := hf9 _ _ _ hB (by intro z9; first | (simp only [pO, pN, pK, pT, pD, pB, pS, Prod.mk.injEq] at z9; done) | (simp only [pO, pN, pK, pT, pD, pB, pS, Prod.mk.injEq] at z9; omega) | exact hty z9 | exact hty z9.symm)
          have hA : w5 q = some ((96, 1), .inl (eT E 3, 2 * mm, .inl f)) := hf9 _ _ _ hA (by intro z9; first | (simp only [pO, pN, pK, pT, pD, pB, pS, Prod.mk.injEq] at z9; done) | (simp only [pO, pN, pK, pT, pD, pB, pS, Prod.mk.injEq] at z9; omega) | exact hty z9 | exact hty z9.symm)
          have hF : fr pS w0 w5 := hF.tr (hf9.up (fun t9 h9 => by simp only [pO, pB, pS] at h9 ⊢; first | exact h9 | (subst h9; rfl) | exact Or.inl h9 | exact Or.inr h9))
          have hn6 : w5 q9_4 = some ((96, 3), .inl (eT E 3, (2 * n), .inl f9_5)) := hn6'
          obtain ⟨hp9, hp0⟩ := hp0
          rw [hp9]
          show W p l0 e rmCJ5_init_2 s m args below meth c H locs (0 + 1) (0 + 150) Q (F0 m 94 ls [.ref q9_4, .ref y])
          have he9 := hp0
          refine k_putFW hx hb hts in_J5 tyJ5 tyJ5_ok nmJ5 hown hG hP hS hy rfl 0 (by decide) (hts _ q1311) (fun _ h9 => h9) rfl hname rfl (ty := (.array .byte)) (v := .ref q9_4) rfl rfl rfl (Nat.le_of_ble_eq_true rfl) dJ5_init_2_94 (fun w6 H locs h9 hf9 hP hS => ?_)
          have hy : w6 y = some ((96, 2), .inr (16, [.ref q9_4, .int 1, .int 0, .int 0])) := h9
          have hB : w6 b = some ((96, 0), .inr (15, [.ref q, .int 1, .int 0, .int (nI n)])) := hf9 _ _ _ hB (by intro z9; first | (simp only [pO, pN, pK, pT, pD, pB, pS, Prod.mk.injEq] at z9; done) | (simp only [pO, pN, pK, pT, pD, pB, pS, Prod.mk.injEq] at z9; omega) | exact hty z9 | exact hty z9.symm)
          have hA : w6 q = some ((96, 1), .inl (eT E 3, 2 * mm, .inl f)) := hf9 _ _ _ hA (by intro z9; first | (simp only [pO, pN, pK, pT, pD, pB, pS, Prod.mk.injEq] at z9; done) | (simp only [pO, pN, pK, pT, pD, pB, pS, Prod.mk.injEq] at z9; omega) | exact hty z9 | exact hty z9.symm)
          have hn6 : w6 q9_4 = some ((96, 3), .inl (eT E 3, (2 * n), .inl f9_5)) := hf9 _ _ _ hn6 (by intro z9; first | (simp only [pO, pN, pK, pT, pD, pB, pS, Prod.mk.injEq] at z9; done) | (simp only [pO, pN, pK, pT, pD, pB, pS, Prod.mk.injEq] at z9; omega) | exact hty z9 | exact hty z9.symm)
          have hF : fr pS w0 w6 := hF.tr (hf9.up (fun t9 h9 => by simp only [pO, pB, pS] at h9 ⊢; first | exact h9 | (subst h9; rfl) | exact Or.inl h9 | exact Or.inr h9))
          exact k_vret hx hb hr hlocks hQ hP hS (by omega) (by omega) dJ5_init_2_97 (⟨trivial, ⟨⟨_, _, hn60, Or.inr ⟨hy, hn6, sU_co hU he9⟩⟩, trivial⟩, hF⟩)
        · skip
          exact absurd c51 (by decide)
    · skip
      exact absurd c19 (by decide)
