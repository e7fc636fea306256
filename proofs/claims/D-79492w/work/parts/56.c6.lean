/-! THE COMPONENT, 9: a round, 2 -/
set_option maxRecDepth 100000
abbrev rmCX2_saws : Room := { frames := 5, cells := 0, slots := 0, locals := 127 }
theorem dyX2_saws : yX2_saws.cls = RX2 ∧ yX2_saws.cls ≠ "java/lang/invoke/MethodHandle" ∧ yX2_saws.cls ≠ "java/lang/invoke/VarHandle" ∧ (parseMethodDescriptor yX2_saws.desc).map (fun d => d.parameters.length) = some 0 := by decide +kernel
set_option maxHeartbeats 4000000 in
theorem CX2_saws (l0 : Launch) (E : gE) (w : wd) (i : Nat) (A : Nat → Nat) (g : Nat → Int32) (mn : Nat) (wn : Nat → Int32) (ly : Nat → Int32) (N : Nat) (hI : gI g mn N) (hi0 : i ≠ 0) (hM : townR E w i A g mn wn ly) : kC l0 yX2_saws (ws_ yX2_saws cX2_saws 3 none) rmCX2_saws 0 0 mV E w [.ref (A 0)] (fun r w' => ∃ wn9 : Nat → Int32, (∀ l, l < mn → ∀ o, o < mn → wn9 (6 * l + o) = tWb g l o) ∧ (townR E w' i A g mn wn9 ly ∧ True) ∧ fr (pT i) w w') := by
  refine k_open (cc := cX2_saws) (maxL := 3) (ret := none) (by decide) rfl (Nat.le_of_ble_eq_true rfl) ?_
  intro p e s m args below meth c ls Q hx hb hr hml hown hts hlocks hname hQ hG hP hl hS
  have hl : lv_has ls 3 [(0, .ref (A 0))] := hl
  obtain ⟨w0, hw0⟩ : ∃ z, z = w := ⟨_, rfl⟩
  have hF : fr (pT i) w0 w := by rw [hw0]; exact fr.rf
  rw [← hw0] at hQ
  obtain ⟨hT, ⟨fs9, hS1, hs1⟩, ⟨fd9, hS2, hs2⟩, ⟨fk9, hS3, hs3⟩, hS4, hS5, ⟨hm, hmn⟩, hK⟩ := id hM
  refine lv_iconst (v := 0) hx hb dX2_saws_0 (by decide) ?_
  refine lv_istore_n (lv' := [(1, .int 0), (0, .ref (A 0))]) hx hb dX2_saws_1 rfl hl (by decide) rfl (fun ls hl => ?_)
  have hloop_2 : ∀ (n9_2 : Nat) (z : Nat) (wn2 : Nat → Int32), (z ≤ mn) → (sW g mn wn2 z 0) → (mn - z) < n9_2 → ∀ (w : wd) (H : Heap) (locs : List Loc) (ls : Array Slot), (townR E w i A g mn wn2 ly) → fr (pT i) w0 w → wP E w H → va_S (gA E) s.heap H locs → lv_has ls 3 [(1, .int (nI z)), (0, .ref (A 0))] → W p l0 e rmCX2_saws s m args below meth c H locs 0 0 Q (F0 m 2 ls []) := by
    intro n9_2
    induction n9_2 with
    | zero => intro z wn2 hz hs hn; exact absurd hn (Nat.not_lt_zero _)
    | succ n9_2 ih_2 =>
      intro z wn2 hz hs hn_2 w H locs ls hM hF hP hS hl
      obtain ⟨hT, ⟨fs9, hS1, hs1⟩, ⟨fd9, hS2, hs2⟩, ⟨fk9, hS3, hs3⟩, hS4, hS5, ⟨hm, hmn⟩, hK⟩ := id hM
      refine lv_iload_n hx hb dX2_saws_2 rfl (lv_at hl 0 rfl) ?_
      refine lv_aload_n hx hb dX2_saws_3 rfl (lv_at hl 1 rfl) ?_
      refine k_get hx hb hts in_X2 hown hG hP hT rfl 3 (by decide) (hts _ q186) (fun _ h9 => h9) (v := .int (nI mn)) rfl dX2_saws_4 ?_
      refine k_icmp_geN (x := z) (y := mn) (tgt := 49) hx hb (by omega) (by omega) dX2_saws_7 (by decide) (fun c7 => ?_) (fun c7 => ?_)
      · skip
        exact k_vret hx hb hr hlocks hQ hP hS (by omega) (by omega) dX2_saws_49 (⟨_, fun l hl o ho => hs.1 l (by omega) o ho, ⟨hM, trivial⟩, hF⟩)
      · skip
        refine lv_iconst (v := 0) hx hb dX2_saws_10 (by decide) ?_
        refine lv_istore_n (lv' := [(2, .int 0), (1, .int (nI z)), (0, .ref (A 0))]) hx hb dX2_saws_11 rfl hl (by decide) rfl (fun ls hl => ?_)
        have hloop_12 : ∀ (n9_12 : Nat) (u : Nat) (wn3 : Nat → Int32), (u ≤ mn) → (sW g mn wn3 z u) → (mn - u) < n9_12 → ∀ (w : wd) (H : Heap) (locs : List Loc) (ls : Array Slot), (townR E w i A g mn wn3 ly) → fr (pT i) w0 w → wP E w H → va_S (gA E) s.heap H locs → lv_has ls 3 [(2, .int (nI u)), (1, .int (nI z)), (0, .ref (A 0))] → W p l0 e rmCX2_saws s m args below meth c H locs 0 0 Q (F0 m 12 ls []) := by
          intro n9_12
          induction n9_12 with
          | zero => intro u wn3 hu hsw hn; exact absurd hn (Nat.not_lt_zero _)
          | succ n9_12 ih_12 =>
            intro u wn3 hu hsw hn_12 w H locs ls hM hF hP hS hl
            obtain ⟨hT, ⟨fs9, hS1, hs1⟩, ⟨fd9, hS2, hs2⟩, ⟨fk9, hS3, hs3⟩, hS4, hS5, ⟨hm, hmn⟩, hK⟩ := id hM
            refine lv_iload_n hx hb dX2_saws_12 rfl (lv_at hl 0 rfl) ?_
            refine lv_aload_n hx hb dX2_saws_13 rfl (lv_at hl 2 rfl) ?_
            refine k_get hx hb hts in_X2 hown hG hP hT rfl 3 (by decide) (hts _ q186) (fun _ h9 => h9) (v := .int (nI mn)) rfl dX2_saws_14 ?_
            refine k_icmp_geN (x := u) (y := mn) (tgt := 43) hx hb (by omega) (by omega) dX2_saws_17 (by decide) (fun c17 => ?_) (fun c17 => ?_)
            · skip
              refine lv_iinc (v := (nI (z + 1))) (lv' := [(1, .int (nI (z + 1))), (2, .int (nI u)), (0, .ref (A 0))]) hx hb dX2_saws_43 hl (k := 1) rfl (nI_add z 1) (by decide) rfl (fun ls hl => ?_)
              refine lv_goto (tgt := 2) hx hb dX2_saws_46 (by decide) ?_
              have hl := lv_sub (l' := [(1, .int (nI (z + 1))), (0, .ref (A 0))]) hl [0, 2] rfl
              exact ih_2 (z + 1) wn3 (by omega) (sW_z hsw (by omega)) (by omega) _ _ _ _ hM hF hP hS hl
            · skip
              refine lv_aload_n hx hb dX2_saws_20 rfl (lv_at hl 2 rfl) ?_
              refine k_get hx hb hts in_X2 hown hG hP hT rfl 9 (by decide) (hts _ q198) (fun _ h9 => h9) (v := .ref (A 4)) rfl dX2_saws_21 ?_
              refine lv_bipush (v := 6) hx hb dX2_saws_24 (by decide) ?_
              refine lv_iload_n hx hb dX2_saws_26 rfl (lv_at hl 1 rfl) ?_
              refine k_imulN (x := 6) (y := z) hx hb dX2_saws_27 ?_
              refine lv_iload_n hx hb dX2_saws_28 rfl (lv_at hl 0 rfl) ?_
              refine k_iaddN (x := 6 * z) (y := u) hx hb dX2_saws_29 ?_
              refine lv_aload_n hx hb dX2_saws_30 rfl (lv_at hl 2 rfl) ?_
              refine lv_iload_n hx hb dX2_saws_31 rfl (lv_at hl 1 rfl) ?_
              refine lv_iload_n hx hb dX2_saws_32 rfl (lv_at hl 0 rfl) ?_
              refine k_cV hx hb hml hown hts (CX2_wearsBy l0 E w i A g mn wn3 ly N z u hI (by omega) (by omega) hM) (cwV 2 hts (lw_V q947 q949 qs13 q70 q950) rfl rfl rfl dyX2_wearsBy ⟨Nat.le_of_ble_eq_true rfl, Nat.le_of_ble_eq_true rfl⟩) hG hP hS hT rfl (As := [.int (nI z), .int (nI u)]) (rest := [.int (nI (6 * z + u)), .ref (A 4)]) rfl hl.1 rfl (lv_room (Nat.le_of_ble_eq_true rfl)) dX2_saws_33 ⟨show 0 + 0 ≤ 0 from by omega, show 0 + 0 ≤ 0 from by omega⟩ (fun r9 w9 H locs hp hP hS => ?_)
              obtain ⟨hp1, hp0⟩ := hp
              rw [hp1] at hP
              rw [hp0]
              show W p l0 e rmCX2_saws s m args below meth c H locs 0 0 Q (F0 m 36 ls [.int (tWb g z u), .int (nI (6 * z + u)), .ref (A 4)])
              refine k_iastW hx hb hG hP hS (j := 6 * z + u) hS4 (by omega) (show 6 * z + u < 36 from by omega) (x := (tWb g z u)) dX2_saws_36 (fun w1 H locs h9 hf9 hP hS => ?_)
              have hM : townR E w1 i A g mn (va_up wn3 (6 * z + u) (tWb g z u)) ly := hM.wst hi0 hf9 h9
              have hF : fr (pT i) w0 w1 := hF.tr (fr_OT hf9)
              obtain ⟨hT, ⟨fs9, hS1, hs1⟩, ⟨fd9, hS2, hs2⟩, ⟨fk9, hS3, hs3⟩, hS4, hS5, ⟨hm, hmn⟩, hK⟩ := id hM
              refine lv_iinc (v := (nI (u + 1))) (lv' := [(2, .int (nI (u + 1))), (1, .int (nI z)), (0, .ref (A 0))]) hx hb dX2_saws_37 hl (k := 0) rfl (nI_add u 1) (by decide) rfl (fun ls hl => ?_)
              refine lv_goto (tgt := 12) hx hb dX2_saws_40 (by decide) ?_
              have hl : lv_has ls 3 [(2, .int (nI (u + 1))), (1, .int (nI z)), (0, .ref (A 0))] := hl
              exact ih_12 (u + 1) (va_up wn3 (6 * z + u) (tWb g z u)) (by omega) (sW_u hsw (by omega) hmn) (by omega) _ _ _ _ hM hF hP hS hl
        have hl : lv_has ls 3 [(2, .int (nI 0)), (1, .int (nI z)), (0, .ref (A 0))] := hl
        exact hloop_12 _ 0 wn2 (by omega) hs (Nat.lt_succ_self _) _ _ _ _ hM hF hP hS hl
  have hl : lv_has ls 3 [(1, .int (nI 0)), (0, .ref (A 0))] := hl
  exact hloop_2 _ 0 wn (by omega) sW_0 (Nat.lt_succ_self _) _ _ _ _ hM hF hP hS hl

abbrev rmCX2_wearsAll : Room := { frames := 2, cells := 0, slots := 0, locals := 44 }
theorem dyX2_wearsAll : yX2_wearsAll.cls = RX2 ∧ yX2_wearsAll.cls ≠ "java/lang/invoke/MethodHandle" ∧ yX2_wearsAll.cls ≠ "java/lang/invoke/VarHandle" ∧ (parseMethodDescriptor yX2_wearsAll.desc).map (fun d => d.parameters.length) = some 0 := by decide +kernel
set_option maxHeartbeats 4000000 in
theorem CX2_wearsAll (l0 : Launch) (E : gE) (w : wd) (i : Nat) (A : Nat → Nat) (g : Nat → Int32) (mn : Nat) (wn : Nat → Int32) (ly : Nat → Int32) (N : Nat) (hI : gI g mn N) (hi0 : i ≠ 0) (hW : ∀ l, l < mn → ∀ o, o < mn → wn (6 * l + o) = tWb g l o) (hM : townR E w i A g mn wn ly) : kC l0 yX2_wearsAll (ws_ yX2_wearsAll cX2_wearsAll 3 none) rmCX2_wearsAll 0 0 mV E w [.ref (A 0)] (fun r w' => (True) ∧ (townR E w' i A (tWA g mn mn) mn wn ly ∧ True) ∧ fr (pT i) w w') := by
  refine k_open (cc := cX2_wearsAll) (maxL := 3) (ret := none) (by decide) rfl (Nat.le_of_ble_eq_true rfl) ?_
  intro p e s m args below meth c ls Q hx hb hr hml hown hts hlocks hname hQ hG hP hl hS
  have hl : lv_has ls 3 [(0, .ref (A 0))] := hl
  obtain ⟨w0, hw0⟩ : ∃ z, z = w := ⟨_, rfl⟩
  have hF : fr (pT i) w0 w := by rw [hw0]; exact fr.rf
  rw [← hw0] at hQ
  obtain ⟨hT, ⟨fs9, hS1, hs1⟩, ⟨fd9, hS2, hs2⟩, ⟨fk9, hS3, hs3⟩, hS4, hS5, ⟨hm, hmn⟩, hK⟩ := id hM
  refine lv_iconst (v := 0) hx hb dX2_wearsAll_0 (by decide) ?_
  refine lv_istore_n (lv' := [(1, .int 0), (0, .ref (A 0))]) hx hb dX2_wearsAll_1 rfl hl (by decide) rfl (fun ls hl => ?_)
  have hloop_2 : ∀ (n9_2 : Nat) (z : Nat), (z ≤ mn) → (mn - z) < n9_2 → ∀ (w : wd) (H : Heap) (locs : List Loc) (ls : Array Slot), (townR E w i A (tWA g mn z) mn wn ly) → fr (pT i) w0 w → wP E w H → va_S (gA E) s.heap H locs → lv_has ls 3 [(1, .int (nI z)), (0, .ref (A 0))] → W p l0 e rmCX2_wearsAll s m args below meth c H locs 0 0 Q (F0 m 2 ls []) := by
    intro n9_2
    induction n9_2 with
    | zero => intro z hz hn; exact absurd hn (Nat.not_lt_zero _)
    | succ n9_2 ih_2 =>
      intro z hz hn_2 w H locs ls hM hF hP hS hl
      obtain ⟨hT, ⟨fs9, hS1, hs1⟩, ⟨fd9, hS2, hs2⟩, ⟨fk9, hS3, hs3⟩, hS4, hS5, ⟨hm, hmn⟩, hK⟩ := id hM
      refine lv_iload_n hx hb dX2_wearsAll_2 rfl (lv_at hl 0 rfl) ?_
      refine lv_aload_n hx hb dX2_wearsAll_3 rfl (lv_at hl 1 rfl) ?_
      refine k_get hx hb hts in_X2 hown hG hP hT rfl 3 (by decide) (hts _ q186) (fun _ h9 => h9) (v := .int (nI mn)) rfl dX2_wearsAll_4 ?_
      refine k_icmp_geN (x := z) (y := mn) (tgt := 52) hx hb (by omega) (by omega) dX2_wearsAll_7 (by decide) (fun c7 => ?_) (fun c7 => ?_)
      · skip
        exact k_vret hx hb hr hlocks hQ hP hS (by omega) (by omega) dX2_wearsAll_52 (⟨trivial, ⟨hM.row (by rw [show z = mn from by omega]), trivial⟩, hF⟩)
      · skip
        refine lv_iconst (v := 0) hx hb dX2_wearsAll_10 (by decide) ?_
        refine lv_istore_n (lv' := [(2, .int 0), (1, .int (nI z)), (0, .ref (A 0))]) hx hb dX2_wearsAll_11 rfl hl (by decide) rfl (fun ls hl => ?_)
        have hloop_12 : ∀ (n9_12 : Nat) (u : Nat), (u ≤ mn) → (mn - u) < n9_12 → ∀ (w : wd) (H : Heap) (locs : List Loc) (ls : Array Slot), (townR E w i A (tWr (tWA g mn z) z (tWn g z u)) mn wn ly) → fr (pT i) w0 w → wP E w H → va_S (gA E) s.heap H locs → lv_has ls 3 [(2, .int (nI u)), (1, .int (nI z)), (0, .ref (A 0))] → W p l0 e rmCX2_wearsAll s m args below meth c H locs 0 0 Q (F0 m 12 ls []) := by
          intro n9_12
          induction n9_12 with
          | zero => intro u hu hn; exact absurd hn (Nat.not_lt_zero _)
          | succ n9_12 ih_12 =>
            intro u hu hn_12 w H locs ls hM hF hP hS hl
            obtain ⟨hT, ⟨fs9, hS1, hs1⟩, ⟨fd9, hS2, hs2⟩, ⟨fk9, hS3, hs3⟩, hS4, hS5, ⟨hm, hmn⟩, hK⟩ := id hM
            refine lv_iload_n hx hb dX2_wearsAll_12 rfl (lv_at hl 0 rfl) ?_
            refine lv_aload_n hx hb dX2_wearsAll_13 rfl (lv_at hl 2 rfl) ?_
            refine k_get hx hb hts in_X2 hown hG hP hT rfl 3 (by decide) (hts _ q186) (fun _ h9 => h9) (v := .int (nI mn)) rfl dX2_wearsAll_14 ?_
            refine k_icmp_geN (x := u) (y := mn) (tgt := 46) hx hb (by omega) (by omega) dX2_wearsAll_17 (by decide) (fun c17 => ?_) (fun c17 => ?_)
            · skip
              refine lv_iinc (v := (nI (z + 1))) (lv' := [(1, .int (nI (z + 1))), (2, .int (nI u)), (0, .ref (A 0))]) hx hb dX2_wearsAll_46 hl (k := 1) rfl (nI_add z 1) (by decide) rfl (fun ls hl => ?_)
              refine lv_goto (tgt := 2) hx hb dX2_wearsAll_49 (by decide) ?_
              have hl := lv_sub (l' := [(1, .int (nI (z + 1))), (0, .ref (A 0))]) hl [0, 2] rfl
              have hM : townR E w i A (tWA g mn (z + 1)) mn wn ly := hM.row (by rw [show u = mn from by omega]; rfl)
              exact ih_2 (z + 1) (by omega) (by omega) _ _ _ _ hM hF hP hS hl
            · skip
              refine lv_aload_n hx hb dX2_wearsAll_20 rfl (lv_at hl 2 rfl) ?_
              refine k_get hx hb hts in_X2 hown hG hP hT rfl 2 (by decide) (hts _ q184) (fun _ h9 => h9) (v := .ref (A 3)) rfl dX2_wearsAll_21 ?_
              refine lv_iload_n hx hb dX2_wearsAll_24 rfl (lv_at hl 1 rfl) ?_
              refine k_aald hx hb hG hP (j := z) 4 hS3 rfl (by omega) (show z < 6 from by omega) dX2_wearsAll_25 ?_
              rw [hs3 z (by omega)]
              refine lv_aload_n hx hb dX2_wearsAll_26 rfl (lv_at hl 2 rfl) ?_
              refine k_get hx hb hts in_X2 hown hG hP hT rfl 9 (by decide) (hts _ q198) (fun _ h9 => h9) (v := .ref (A 4)) rfl dX2_wearsAll_27 ?_
              refine lv_bipush (v := 6) hx hb dX2_wearsAll_30 (by decide) ?_
              refine lv_iload_n hx hb dX2_wearsAll_32 rfl (lv_at hl 1 rfl) ?_
              refine k_imulN (x := 6) (y := z) hx hb dX2_wearsAll_33 ?_
              refine lv_iload_n hx hb dX2_wearsAll_34 rfl (lv_at hl 0 rfl) ?_
              refine k_iaddN (x := 6 * z) (y := u) hx hb dX2_wearsAll_35 ?_
              refine k_iald hx hb hG hP (j := 6 * z + u) hS4 (by omega) (show 6 * z + u < 36 from by omega) dX2_wearsAll_36 ?_
              refine k_top (y := (tWb g z u)) (hW z (by omega) u (by omega)) ?_
              obtain ⟨tz1, hkz1, hsz1⟩ := hM.kite (k := z) (by omega)
              refine k_cV hx hb hml hown hts (CX3_wears l0 E w i z (A (6 + z)) (kv (tWr (tWA g mn z) z (tWn g z u)) z) tz1 (tWb g z u) hkz1 hsz1) (cwV 1 hts (lw_V q976 q977 q978 q71 q979) rfl rfl rfl dyX3_wears ⟨Nat.le_of_ble_eq_true rfl, Nat.le_of_ble_eq_true rfl⟩) hG hP hS hkz1 rfl (As := [.int (tWb g z u)]) (rest := []) rfl hl.1 rfl (lv_room (Nat.le_of_ble_eq_true rfl)) dX2_wearsAll_37 ⟨show 0 + 0 ≤ 0 from by omega, show 0 + 0 ≤ 0 from by omega⟩ (fun r37 w1 H locs hp hP hS => ?_)
              obtain ⟨hp0, ⟨hkz1', hsz1', -⟩, hf9⟩ := hp
              have hM : townR E w1 i A (tWr (tWr (tWA g mn z) z (tWn g z u)) z (tWb g z u)) mn wn ly := hM.kup hi0 (k := z) (v := (kWv (kv (tWr (tWA g mn z) z (tWn g z u)) z) (tWb g z u))) (by omega) hf9 ⟨(by rw [kF_wv]; exact hkz1'), hsz1'⟩ (fun _ => kv_wr) (fun j hj => tWr_lo hj) (fun j _ hj => tWr_ne hj)
              have hF : fr (pT i) w0 w1 := hF.tr (fr_KT hf9)
              obtain ⟨hT, ⟨fs9, hS1, hs1⟩, ⟨fd9, hS2, hs2⟩, ⟨fk9, hS3, hs3⟩, hS4, hS5, ⟨hm, hmn⟩, hK⟩ := id hM
              show W p l0 e rmCX2_wearsAll s m args below meth c H locs 0 0 Q (F0 m 40 ls [])
              refine lv_iinc (v := (nI (u + 1))) (lv' := [(2, .int (nI (u + 1))), (1, .int (nI z)), (0, .ref (A 0))]) hx hb dX2_wearsAll_40 hl (k := 0) rfl (nI_add u 1) (by decide) rfl (fun ls hl => ?_)
              refine lv_goto (tgt := 12) hx hb dX2_wearsAll_43 (by decide) ?_
              have hl : lv_has ls 3 [(2, .int (nI (u + 1))), (1, .int (nI z)), (0, .ref (A 0))] := hl
              have hM : townR E w1 i A (tWr (tWA g mn z) z (tWn g z (u + 1))) mn wn ly := hM.row tWr_s
              exact ih_12 (u + 1) (by omega) (by omega) _ _ _ _ hM hF hP hS hl
        have hl : lv_has ls 3 [(2, .int (nI 0)), (1, .int (nI z)), (0, .ref (A 0))] := hl
        have hM : townR E w i A (tWr (tWA g mn z) z (tWn g z 0)) mn wn ly := hM.row tWr_0.symm
        exact hloop_12 _ 0 (by omega) (Nat.lt_succ_self _) _ _ _ _ hM hF hP hS hl
  have hl : lv_has ls 3 [(1, .int (nI 0)), (0, .ref (A 0))] := hl
  exact hloop_2 _ 0 (by omega) (Nat.lt_succ_self _) _ _ _ _ hM hF hP hS hl

abbrev rmCX2_lowestSawn : Room := { frames := 4, cells := 0, slots := 0, locals := 104 }
theorem dyX2_lowestSawn : yX2_lowestSawn.cls = RX2 ∧ yX2_lowestSawn.cls ≠ "java/lang/invoke/MethodHandle" ∧ yX2_lowestSawn.cls ≠ "java/lang/invoke/VarHandle" ∧ (parseMethodDescriptor yX2_lowestSawn.desc).map (fun d => d.parameters.length) = some 1 := by decide +kernel
set_option maxHeartbeats 4000000 in
theorem CX2_lowestSawn (l0 : Launch) (E : gE) (w : wd) (i : Nat) (A : Nat → Nat) (g : Nat → Int32) (mn : Nat) (wn : Nat → Int32) (ly : Nat → Int32) (N : Nat) (l : Nat) (hI : gI g mn N) (hl9 : l < mn) (hW : ∀ o, o < mn → wn (6 * l + o) = tWb g l o) (hM : townR E w i A g mn wn ly) : kC l0 yX2_lowestSawn (ws_ yX2_lowestSawn cX2_lowestSawn 5 (some .int)) rmCX2_lowestSawn 0 0 mI E w [.ref (A 0), .int (nI l)] (fun r w' => w' = w ∧ r = ((tFd g l mn).1)) := by
  refine k_open (cc := cX2_lowestSawn) (maxL := 5) (ret := (some .int)) (by decide) rfl (Nat.le_of_ble_eq_true rfl) ?_
  intro p e s m args below meth c ls Q hx hb hr hml hown hts hlocks hname hQ hG hP hl hS
  have hl : lv_has ls 5 [(0, .ref (A 0)), (1, .int (nI l))] := hl
  obtain ⟨hT, ⟨fs9, hS1, hs1⟩, ⟨fd9, hS2, hs2⟩, ⟨fk9, hS3, hs3⟩, hS4, hS5, ⟨hm, hmn⟩, hK⟩ := id hM
  refine lv_iconst (v := (-1)) hx hb dX2_lowestSawn_0 (by decide) ?_
  refine lv_istore_n (lv' := [(2, .int (-1)), (0, .ref (A 0)), (1, .int (nI l))]) hx hb dX2_lowestSawn_1 rfl hl (by decide) rfl (fun ls hl => ?_)
  refine lv_iconst (v := 0) hx hb dX2_lowestSawn_2 (by decide) ?_
  refine lv_istore_n (lv' := [(3, .int 0), (2, .int (-1)), (0, .ref (A 0)), (1, .int (nI l))]) hx hb dX2_lowestSawn_3 rfl hl (by decide) rfl (fun ls hl => ?_)
  have hloop_4 : ∀ (n9_4 : Nat) (z : Nat), (z ≤ mn) → (mn - z) < n9_4 → ∀ (H : Heap) (locs : List Loc) (ls : Array Slot), wP E w H → va_S (gA E) s.heap H locs → lv_has ls 5 [(3, .int (nI z)), (2, .int ((tFd g l z).1)), (0, .ref (A 0)), (1, .int (nI l))] → W p l0 e rmCX2_lowestSawn s m args below meth c H locs 0 0 Q (F0 m 4 ls []) := by
    intro n9_4
    induction n9_4 with
    | zero => intro z hz hn; exact absurd hn (Nat.not_lt_zero _)
    | succ n9_4 ih_4 =>
      intro z hz hn_4 H locs ls  hP hS hl
      refine lv_iload_n hx hb dX2_lowestSawn_4 rfl (lv_at hl 0 rfl) ?_
      refine lv_aload_n hx hb dX2_lowestSawn_5 rfl (lv_at hl 2 rfl) ?_
      refine k_get hx hb hts in_X2 hown hG hP hT rfl 3 (by decide) (hts _ q186) (fun _ h9 => h9) (v := .int (nI mn)) rfl dX2_lowestSawn_6 ?_
      refine k_icmp_geN (x := z) (y := mn) (tgt := 64) hx hb (by omega) (by omega) dX2_lowestSawn_9 (by decide) (fun c9 => ?_) (fun c9 => ?_)
      · skip
        refine lv_iload_n hx hb dX2_lowestSawn_64 rfl (lv_at hl 1 rfl) ?_
        exact k_iret hx hb hr hlocks hQ hP hS (by omega) (by omega) dX2_lowestSawn_65 (⟨rfl, by rw [show z = mn from by omega]⟩)
      · skip
        refine lv_aload_n hx hb dX2_lowestSawn_12 rfl (lv_at hl 2 rfl) ?_
        refine k_get hx hb hts in_X2 hown hG hP hT rfl 9 (by decide) (hts _ q198) (fun _ h9 => h9) (v := .ref (A 4)) rfl dX2_lowestSawn_13 ?_
        refine lv_bipush (v := 6) hx hb dX2_lowestSawn_16 (by decide) ?_
        refine lv_iload_n hx hb dX2_lowestSawn_18 rfl (lv_at hl 3 rfl) ?_
        refine k_imulN (x := 6) (y := l) hx hb dX2_lowestSawn_19 ?_
        refine lv_iload_n hx hb dX2_lowestSawn_20 rfl (lv_at hl 0 rfl) ?_
        refine k_iaddN (x := 6 * l) (y := z) hx hb dX2_lowestSawn_21 ?_
        refine k_iald hx hb hG hP (j := 6 * l + z) hS4 (by omega) (show 6 * l + z < 36 from by omega) dX2_lowestSawn_22 ?_
        refine k_top (y := (tWb g l z)) (hW z (by omega)) ?_
        refine lv_if_le (tgt := 35) hx hb dX2_lowestSawn_23 (by decide) (fun c23 => ?_) (fun c23 => ?_)
        · skip
          refine lv_iconst (v := (-1)) hx hb dX2_lowestSawn_35 (by decide) ?_
          refine lv_istore (lv' := [(4, .int (-1)), (3, .int (nI z)), (2, .int ((tFd g l z).1)), (0, .ref (A 0)), (1, .int (nI l))]) hx hb dX2_lowestSawn_36 hl (by decide) rfl (fun ls hl => ?_)
          refine lv_iload hx hb dX2_lowestSawn_38 (lv_at hl 0 rfl) ?_
          refine lv_iconst (v := (-1)) hx hb dX2_lowestSawn_40 (by decide) ?_
          refine lv_icmp_eq (tgt := 58) hx hb dX2_lowestSawn_41 (by decide) (fun c41 => ?_) (fun c41 => ?_)
          · skip
            refine lv_iinc (v := (nI (z + 1))) (lv' := [(3, .int (nI (z + 1))), (4, .int (-1)), (2, .int ((tFd g l z).1)), (0, .ref (A 0)), (1, .int (nI l))]) hx hb dX2_lowestSawn_58 hl (k := 1) rfl (nI_add z 1) (by decide) rfl (fun ls hl => ?_)
            refine lv_goto (tgt := 4) hx hb dX2_lowestSawn_61 (by decide) ?_
            have hl := Eq.mp (congrArg (fun z9 => lv_has ls 5 [(3, .int (nI (z + 1))), (4, .int (-1)), (2, .int z9), (0, .ref (A 0)), (1, .int (nI l))]) (show ((tFd g l z).1) = ((tFd g l (z + 1)).1) from by first | exact lo_A hI (by omega) c23 | exact lo_B c23 c46 | exact lo_C c23 c46 c52 | exact lo_D c23 c46 c52)) hl
            have hl := lv_sub (l' := [(3, .int (nI (z + 1))), (2, .int ((tFd g l (z + 1)).1)), (0, .ref (A 0)), (1, .int (nI l))]) hl [0, 2, 3, 4] rfl
            exact ih_4 (z + 1) (by omega) (by omega) _ _ _ hP hS hl
          · skip
            exact absurd rfl c41
        · skip
          refine lv_aload_n hx hb dX2_lowestSawn_26 rfl (lv_at hl 2 rfl) ?_
          refine lv_iload_n hx hb dX2_lowestSawn_27 rfl (lv_at hl 3 rfl) ?_
          refine lv_iload_n hx hb dX2_lowestSawn_28 rfl (lv_at hl 0 rfl) ?_
          refine k_cV hx hb hml hown hts (CX2_crossing l0 E w i A g mn wn ly N l z hI (by omega) (by omega) hM) (cwV 2 hts (lw_V q951 q928 q929 q70 q930) rfl rfl rfl dyX2_crossing ⟨Nat.le_of_ble_eq_true rfl, Nat.le_of_ble_eq_true rfl⟩) hG hP hS hT rfl (As := [.int (nI l), .int (nI z)]) (rest := []) rfl hl.1 rfl (lv_room (Nat.le_of_ble_eq_true rfl)) dX2_lowestSawn_29 ⟨show 0 + 0 ≤ 0 from by omega, show 0 + 0 ≤ 0 from by omega⟩ (fun r9 w9 H locs hp hP hS => ?_)
          obtain ⟨hp1, hp0⟩ := hp
          rw [hp1] at hP
          rw [hp0]
          show W p l0 e rmCX2_lowestSawn s m args below meth c H locs 0 0 Q (F0 m 32 ls [.int (oI (tCr g l z))])
          refine lv_goto (tgt := 36) hx hb dX2_lowestSawn_32 (by decide) ?_
          refine lv_istore (lv' := [(4, .int (oI (tCr g l z))), (3, .int (nI z)), (2, .int ((tFd g l z).1)), (0, .ref (A 0)), (1, .int (nI l))]) hx hb dX2_lowestSawn_36 hl (by decide) rfl (fun ls hl => ?_)
          refine lv_iload hx hb dX2_lowestSawn_38 (lv_at hl 0 rfl) ?_
          refine lv_iconst (v := (-1)) hx hb dX2_lowestSawn_40 (by decide) ?_
          refine lv_icmp_eq (tgt := 58) hx hb dX2_lowestSawn_41 (by decide) (fun c41 => ?_) (fun c41 => ?_)
          · skip
            exact absurd (show oI (tCr g l z) = -1 from c41) (tWb_cr c23)
          · skip
            refine lv_iload_n hx hb dX2_lowestSawn_44 rfl (lv_at hl 2 rfl) ?_
            refine lv_iconst (v := (-1)) hx hb dX2_lowestSawn_45 (by decide) ?_
            refine lv_icmp_eq (tgt := 55) hx hb dX2_lowestSawn_46 (by decide) (fun c46 => ?_) (fun c46 => ?_)
            · skip
              refine lv_iload hx hb dX2_lowestSawn_55 (lv_at hl 0 rfl) ?_
              refine lv_istore_n (lv' := [(2, .int (oI (tCr g l z))), (4, .int (oI (tCr g l z))), (3, .int (nI z)), (0, .ref (A 0)), (1, .int (nI l))]) hx hb dX2_lowestSawn_57 rfl hl (by decide) rfl (fun ls hl => ?_)
              refine lv_iinc (v := (nI (z + 1))) (lv' := [(3, .int (nI (z + 1))), (2, .int (oI (tCr g l z))), (4, .int (oI (tCr g l z))), (0, .ref (A 0)), (1, .int (nI l))]) hx hb dX2_lowestSawn_58 hl (k := 2) rfl (nI_add z 1) (by decide) rfl (fun ls hl => ?_)
              refine lv_goto (tgt := 4) hx hb dX2_lowestSawn_61 (by decide) ?_
              have hl := Eq.mp (congrArg (fun z9 => lv_has ls 5 [(3, .int (nI (z + 1))), (2, .int z9), (4, .int (oI (tCr g l z))), (0, .ref (A 0)), (1, .int (nI l))]) (show (oI (tCr g l z)) = ((tFd g l (z + 1)).1) from by first | exact lo_A hI (by omega) c23 | exact lo_B c23 c46 | exact lo_C c23 c46 c52 | exact lo_D c23 c46 c52)) hl
              have hl := lv_sub (l' := [(3, .int (nI (z + 1))), (2, .int ((tFd g l (z + 1)).1)), (0, .ref (A 0)), (1, .int (nI l))]) hl [0, 1, 3, 4] rfl
              exact ih_4 (z + 1) (by omega) (by omega) _ _ _ hP hS hl
            · skip
              refine lv_iload hx hb dX2_lowestSawn_49 (lv_at hl 0 rfl) ?_
              refine lv_iload_n hx hb dX2_lowestSawn_51 rfl (lv_at hl 2 rfl) ?_
              refine lv_icmp_ge (tgt := 58) hx hb dX2_lowestSawn_52 (by decide) (fun c52 => ?_) (fun c52 => ?_)
              · skip
                refine lv_iinc (v := (nI (z + 1))) (lv' := [(3, .int (nI (z + 1))), (4, .int (oI (tCr g l z))), (2, .int ((tFd g l z).1)), (0, .ref (A 0)), (1, .int (nI l))]) hx hb dX2_lowestSawn_58 hl (k := 1) rfl (nI_add z 1) (by decide) rfl (fun ls hl => ?_)
                refine lv_goto (tgt := 4) hx hb dX2_lowestSawn_61 (by decide) ?_
                have hl := Eq.mp (congrArg (fun z9 => lv_has ls 5 [(3, .int (nI (z + 1))), (4, .int (oI (tCr g l z))), (2, .int z9), (0, .ref (A 0)), (1, .int (nI l))]) (show ((tFd g l z).1) = ((tFd g l (z + 1)).1) from by first | exact lo_A hI (by omega) c23 | exact lo_B c23 c46 | exact lo_C c23 c46 c52 | exact lo_D c23 c46 c52)) hl
                have hl := lv_sub (l' := [(3, .int (nI (z + 1))), (2, .int ((tFd g l (z + 1)).1)), (0, .ref (A 0)), (1, .int (nI l))]) hl [0, 2, 3, 4] rfl
                exact ih_4 (z + 1) (by omega) (by omega) _ _ _ hP hS hl
              · skip
                refine lv_iload hx hb dX2_lowestSawn_55 (lv_at hl 0 rfl) ?_
                refine lv_istore_n (lv' := [(2, .int (oI (tCr g l z))), (4, .int (oI (tCr g l z))), (3, .int (nI z)), (0, .ref (A 0)), (1, .int (nI l))]) hx hb dX2_lowestSawn_57 rfl hl (by decide) rfl (fun ls hl => ?_)
                refine lv_iinc (v := (nI (z + 1))) (lv' := [(3, .int (nI (z + 1))), (2, .int (oI (tCr g l z))), (4, .int (oI (tCr g l z))), (0, .ref (A 0)), (1, .int (nI l))]) hx hb dX2_lowestSawn_58 hl (k := 2) rfl (nI_add z 1) (by decide) rfl (fun ls hl => ?_)
                refine lv_goto (tgt := 4) hx hb dX2_lowestSawn_61 (by decide) ?_
                have hl := Eq.mp (congrArg (fun z9 => lv_has ls 5 [(3, .int (nI (z + 1))), (2, .int z9), (4, .int (oI (tCr g l z))), (0, .ref (A 0)), (1, .int (nI l))]) (show (oI (tCr g l z)) = ((tFd g l (z + 1)).1) from by first | exact lo_A hI (by omega) c23 | exact lo_B c23 c46 | exact lo_C c23 c46 c52 | exact lo_D c23 c46 c52)) hl
                have hl := lv_sub (l' := [(3, .int (nI (z + 1))), (2, .int ((tFd g l (z + 1)).1)), (0, .ref (A 0)), (1, .int (nI l))]) hl [0, 1, 3, 4] rfl
                exact ih_4 (z + 1) (by omega) (by omega) _ _ _ hP hS hl
  have hl : lv_has ls 5 [(3, .int (nI 0)), (2, .int ((tFd g l 0).1)), (0, .ref (A 0)), (1, .int (nI l))] := hl
  exact hloop_4 _ 0 (by omega) (Nat.lt_succ_self _) _ _ _ hP hS hl

abbrev rmCX2_sawers : Room := { frames := 0, cells := 0, slots := 0, locals := 0 }
theorem dyX2_sawers : yX2_sawers.cls = RX2 ∧ yX2_sawers.cls ≠ "java/lang/invoke/MethodHandle" ∧ yX2_sawers.cls ≠ "java/lang/invoke/VarHandle" ∧ (parseMethodDescriptor yX2_sawers.desc).map (fun d => d.parameters.length) = some 1 := by decide +kernel
set_option maxHeartbeats 4000000 in
theorem CX2_sawers (l0 : Launch) (E : gE) (w : wd) (i : Nat) (A : Nat → Nat) (g : Nat → Int32) (mn : Nat) (wn : Nat → Int32) (ly : Nat → Int32) (N : Nat) (l : Nat) (g0 : Nat → Int32) (hI0 : gI g0 mn N) (hl9 : l < mn) (hW : ∀ o, o < mn → wn (6 * l + o) = tWb g0 l o) (hM : townR E w i A g mn wn ly) : kC l0 yX2_sawers (ws_ yX2_sawers cX2_sawers 4 (some .int)) rmCX2_sawers 0 0 mI E w [.ref (A 0), .int (nI l)] (fun r w' => w' = w ∧ r = ((tFd g0 l mn).2.2.1)) := by
  refine k_open (cc := cX2_sawers) (maxL := 4) (ret := (some .int)) (by decide) rfl (Nat.le_of_ble_eq_true rfl) ?_
  intro p e s m args below meth c ls Q hx hb hr hml hown hts hlocks hname hQ hG hP hl hS
  have hl : lv_has ls 4 [(0, .ref (A 0)), (1, .int (nI l))] := hl
  obtain ⟨hT, ⟨fs9, hS1, hs1⟩, ⟨fd9, hS2, hs2⟩, ⟨fk9, hS3, hs3⟩, hS4, hS5, ⟨hm, hmn⟩, hK⟩ := id hM
  refine lv_iconst (v := 0) hx hb dX2_sawers_0 (by decide) ?_
  refine lv_istore_n (lv' := [(2, .int 0), (0, .ref (A 0)), (1, .int (nI l))]) hx hb dX2_sawers_1 rfl hl (by decide) rfl (fun ls hl => ?_)
  refine lv_iconst (v := 0) hx hb dX2_sawers_2 (by decide) ?_
  refine lv_istore_n (lv' := [(3, .int 0), (2, .int 0), (0, .ref (A 0)), (1, .int (nI l))]) hx hb dX2_sawers_3 rfl hl (by decide) rfl (fun ls hl => ?_)
  have hloop_4 : ∀ (n9_4 : Nat) (z : Nat), (z ≤ mn) → (mn - z) < n9_4 → ∀ (H : Heap) (locs : List Loc) (ls : Array Slot), wP E w H → va_S (gA E) s.heap H locs → lv_has ls 4 [(3, .int (nI z)), (2, .int ((tFd g0 l z).2.2.1)), (0, .ref (A 0)), (1, .int (nI l))] → W p l0 e rmCX2_sawers s m args below meth c H locs 0 0 Q (F0 m 4 ls []) := by
    intro n9_4
    induction n9_4 with
    | zero => intro z hz hn; exact absurd hn (Nat.not_lt_zero _)
    | succ n9_4 ih_4 =>
      intro z hz hn_4 H locs ls  hP hS hl
      refine lv_iload_n hx hb dX2_sawers_4 rfl (lv_at hl 0 rfl) ?_
      refine lv_aload_n hx hb dX2_sawers_5 rfl (lv_at hl 2 rfl) ?_
      refine k_get hx hb hts in_X2 hown hG hP hT rfl 3 (by decide) (hts _ q186) (fun _ h9 => h9) (v := .int (nI mn)) rfl dX2_sawers_6 ?_
      refine k_icmp_geN (x := z) (y := mn) (tgt := 42) hx hb (by omega) (by omega) dX2_sawers_9 (by decide) (fun c9 => ?_) (fun c9 => ?_)
      · skip
        refine lv_iload_n hx hb dX2_sawers_42 rfl (lv_at hl 1 rfl) ?_
        exact k_iret hx hb hr hlocks hQ hP hS (by omega) (by omega) dX2_sawers_43 (⟨rfl, by rw [show z = mn from by omega]⟩)
      · skip
        refine lv_iload_n hx hb dX2_sawers_12 rfl (lv_at hl 1 rfl) ?_
        refine lv_aload_n hx hb dX2_sawers_13 rfl (lv_at hl 2 rfl) ?_
        refine k_get hx hb hts in_X2 hown hG hP hT rfl 9 (by decide) (hts _ q198) (fun _ h9 => h9) (v := .ref (A 4)) rfl dX2_sawers_14 ?_
        refine lv_bipush (v := 6) hx hb dX2_sawers_17 (by decide) ?_
        refine lv_iload_n hx hb dX2_sawers_19 rfl (lv_at hl 3 rfl) ?_
        refine k_imulN (x := 6) (y := l) hx hb dX2_sawers_20 ?_
        refine lv_iload_n hx hb dX2_sawers_21 rfl (lv_at hl 0 rfl) ?_
        refine k_iaddN (x := 6 * l) (y := z) hx hb dX2_sawers_22 ?_
        refine k_iald hx hb hG hP (j := 6 * l + z) hS4 (by omega) (show 6 * l + z < 36 from by omega) dX2_sawers_23 ?_
        refine k_top (y := (tWb g0 l z)) (hW z (by omega)) ?_
        refine lv_if_le (tgt := 33) hx hb dX2_sawers_24 (by decide) (fun c24 => ?_) (fun c24 => ?_)
        · skip
          refine lv_iconst (v := 0) hx hb dX2_sawers_33 (by decide) ?_
          refine lv_ior hx hb dX2_sawers_34 ?_
          refine lv_istore_n (lv' := [(2, .int (((tFd g0 l z).2.2.1) ||| 0)), (3, .int (nI z)), (0, .ref (A 0)), (1, .int (nI l))]) hx hb dX2_sawers_35 rfl hl (by decide) rfl (fun ls hl => ?_)
          refine lv_iinc (v := (nI (z + 1))) (lv' := [(3, .int (nI (z + 1))), (2, .int (((tFd g0 l z).2.2.1) ||| 0)), (0, .ref (A 0)), (1, .int (nI l))]) hx hb dX2_sawers_36 hl (k := 1) rfl (nI_add z 1) (by decide) rfl (fun ls hl => ?_)
          refine lv_goto (tgt := 4) hx hb dX2_sawers_39 (by decide) ?_
          have hl := Eq.mp (congrArg (fun z9 => lv_has ls 4 [(3, .int (nI (z + 1))), (2, .int z9), (0, .ref (A 0)), (1, .int (nI l))]) (show (((tFd g0 l z).2.2.1) ||| 0) = ((tFd g0 l (z + 1)).2.2.1) from by first | exact sa_A hI0 (by omega) c24 | exact sa_B c24)) hl
          have hl : lv_has ls 4 [(3, .int (nI (z + 1))), (2, .int ((tFd g0 l (z + 1)).2.2.1)), (0, .ref (A 0)), (1, .int (nI l))] := hl
          exact ih_4 (z + 1) (by omega) (by omega) _ _ _ hP hS hl
        · skip
          refine lv_iconst (v := 1) hx hb dX2_sawers_27 (by decide) ?_
          refine lv_iload_n hx hb dX2_sawers_28 rfl (lv_at hl 0 rfl) ?_
          refine lv_ishl hx hb dX2_sawers_29 ?_
          refine lv_goto (tgt := 34) hx hb dX2_sawers_30 (by decide) ?_
          refine lv_ior hx hb dX2_sawers_34 ?_
          refine lv_istore_n (lv' := [(2, .int (((tFd g0 l z).2.2.1) ||| ((1 : Int32) <<< ((nI z) &&& 31)))), (3, .int (nI z)), (0, .ref (A 0)), (1, .int (nI l))]) hx hb dX2_sawers_35 rfl hl (by decide) rfl (fun ls hl => ?_)
          refine lv_iinc (v := (nI (z + 1))) (lv' := [(3, .int (nI (z + 1))), (2, .int (((tFd g0 l z).2.2.1) ||| ((1 : Int32) <<< ((nI z) &&& 31)))), (0, .ref (A 0)), (1, .int (nI l))]) hx hb dX2_sawers_36 hl (k := 1) rfl (nI_add z 1) (by decide) rfl (fun ls hl => ?_)
          refine lv_goto (tgt := 4) hx hb dX2_sawers_39 (by decide) ?_
          have hl := Eq.mp (congrArg (fun z9 => lv_has ls 4 [(3, .int (nI (z + 1))), (2, .int z9), (0, .ref (A 0)), (1, .int (nI l))]) (show (((tFd g0 l z).2.2.1) ||| ((1 : Int32) <<< ((nI z) &&& 31))) = ((tFd g0 l (z + 1)).2.2.1) from by first | exact sa_A hI0 (by omega) c24 | exact sa_B c24)) hl
          have hl : lv_has ls 4 [(3, .int (nI (z + 1))), (2, .int ((tFd g0 l (z + 1)).2.2.1)), (0, .ref (A 0)), (1, .int (nI l))] := hl
          exact ih_4 (z + 1) (by omega) (by omega) _ _ _ hP hS hl
  have hl : lv_has ls 4 [(3, .int (nI 0)), (2, .int ((tFd g0 l 0).2.2.1)), (0, .ref (A 0)), (1, .int (nI l))] := hl
  exact hloop_4 _ 0 (by omega) (Nat.lt_succ_self _) _ _ _ hP hS hl

abbrev rmCX2_cutter : Room := { frames := 0, cells := 0, slots := 0, locals := 0 }
theorem dyX2_cutter : yX2_cutter.cls = RX2 ∧ yX2_cutter.cls ≠ "java/lang/invoke/MethodHandle" ∧ yX2_cutter.cls ≠ "java/lang/invoke/VarHandle" ∧ (parseMethodDescriptor yX2_cutter.desc).map (fun d => d.parameters.length) = some 1 := by decide +kernel
set_option maxHeartbeats 4000000 in
theorem CX2_cutter (l0 : Launch) (E : gE) (w : wd) (i : Nat) (A : Nat → Nat) (g : Nat → Int32) (mn : Nat) (wn : Nat → Int32) (ly : Nat → Int32) (l : Nat) (g0 : Nat → Int32) (hl9 : l < mn) (hW : ∀ o, o < mn → wn (6 * l + o) = tWb g0 l o) (hM : townR E w i A g mn wn ly) : kC l0 yX2_cutter (ws_ yX2_cutter cX2_cutter 4 (some .int)) rmCX2_cutter 0 0 mI E w [.ref (A 0), .int (nI l)] (fun r w' => w' = w ∧ r = (nI (kB g0 l mn))) := by
  refine k_open (cc := cX2_cutter) (maxL := 4) (ret := (some .int)) (by decide) rfl (Nat.le_of_ble_eq_true rfl) ?_
  intro p e s m args below meth c ls Q hx hb hr hml hown hts hlocks hname hQ hG hP hl hS
  have hl : lv_has ls 4 [(0, .ref (A 0)), (1, .int (nI l))] := hl
  obtain ⟨hT, ⟨fs9, hS1, hs1⟩, ⟨fd9, hS2, hs2⟩, ⟨fk9, hS3, hs3⟩, hS4, hS5, ⟨hm, hmn⟩, hK⟩ := id hM
  have hk1 : kB g0 l 1 = 0 := by unfold kB; split <;> rfl
  refine lv_iconst (v := 0) hx hb dX2_cutter_0 (by decide) ?_
  refine lv_istore_n (lv' := [(2, .int 0), (0, .ref (A 0)), (1, .int (nI l))]) hx hb dX2_cutter_1 rfl hl (by decide) rfl (fun ls hl => ?_)
  refine lv_iconst (v := 1) hx hb dX2_cutter_2 (by decide) ?_
  refine lv_istore_n (lv' := [(3, .int 1), (2, .int 0), (0, .ref (A 0)), (1, .int (nI l))]) hx hb dX2_cutter_3 rfl hl (by decide) rfl (fun ls hl => ?_)
  have hloop_4 : ∀ (n9_4 : Nat) (z : Nat), (1 ≤ z ∧ z ≤ mn) → (mn - z) < n9_4 → ∀ (H : Heap) (locs : List Loc) (ls : Array Slot), wP E w H → va_S (gA E) s.heap H locs → lv_has ls 4 [(3, .int (nI z)), (2, .int (nI (kB g0 l z))), (0, .ref (A 0)), (1, .int (nI l))] → W p l0 e rmCX2_cutter s m args below meth c H locs 0 0 Q (F0 m 4 ls []) := by
    intro n9_4
    induction n9_4 with
    | zero => intro z hz hn; exact absurd hn (Nat.not_lt_zero _)
    | succ n9_4 ih_4 =>
      intro z hz hn_4 H locs ls  hP hS hl
      refine lv_iload_n hx hb dX2_cutter_4 rfl (lv_at hl 0 rfl) ?_
      refine lv_aload_n hx hb dX2_cutter_5 rfl (lv_at hl 2 rfl) ?_
      refine k_get hx hb hts in_X2 hown hG hP hT rfl 3 (by decide) (hts _ q186) (fun _ h9 => h9) (v := .int (nI mn)) rfl dX2_cutter_6 ?_
      refine k_icmp_geN (x := z) (y := mn) (tgt := 45) hx hb (by omega) (by omega) dX2_cutter_9 (by decide) (fun c9 => ?_) (fun c9 => ?_)
      · skip
        refine lv_iload_n hx hb dX2_cutter_45 rfl (lv_at hl 1 rfl) ?_
        exact k_iret hx hb hr hlocks hQ hP hS (by omega) (by omega) dX2_cutter_46 (⟨rfl, by rw [show z = mn from by omega]⟩)
      · skip
        refine lv_aload_n hx hb dX2_cutter_12 rfl (lv_at hl 2 rfl) ?_
        refine k_get hx hb hts in_X2 hown hG hP hT rfl 9 (by decide) (hts _ q198) (fun _ h9 => h9) (v := .ref (A 4)) rfl dX2_cutter_13 ?_
        refine lv_bipush (v := 6) hx hb dX2_cutter_16 (by decide) ?_
        refine lv_iload_n hx hb dX2_cutter_18 rfl (lv_at hl 3 rfl) ?_
        refine k_imulN (x := 6) (y := l) hx hb dX2_cutter_19 ?_
        refine lv_iload_n hx hb dX2_cutter_20 rfl (lv_at hl 0 rfl) ?_
        refine k_iaddN (x := 6 * l) (y := z) hx hb dX2_cutter_21 ?_
        refine k_iald hx hb hG hP (j := 6 * l + z) hS4 (by omega) (show 6 * l + z < 36 from by omega) dX2_cutter_22 ?_
        refine k_top (y := (tWb g0 l z)) (hW z (by omega)) ?_
        refine lv_aload_n hx hb dX2_cutter_23 rfl (lv_at hl 2 rfl) ?_
        refine k_get hx hb hts in_X2 hown hG hP hT rfl 9 (by decide) (hts _ q198) (fun _ h9 => h9) (v := .ref (A 4)) rfl dX2_cutter_24 ?_
        refine lv_bipush (v := 6) hx hb dX2_cutter_27 (by decide) ?_
        refine lv_iload_n hx hb dX2_cutter_29 rfl (lv_at hl 3 rfl) ?_
        refine k_imulN (x := 6) (y := l) hx hb dX2_cutter_30 ?_
        refine lv_iload_n hx hb dX2_cutter_31 rfl (lv_at hl 1 rfl) ?_
        refine k_iaddN (x := 6 * l) (y := kB g0 l z) hx hb dX2_cutter_32 ?_
        refine k_iald hx hb hG hP (j := 6 * l + (kB g0 l z)) hS4 (by omega) (show 6 * l + (kB g0 l z) < 36 from by have := kB_lt (g := g0) (x := l) (n := z) (by omega); omega) dX2_cutter_33 ?_
        refine k_top (y := (tWb g0 l (kB g0 l z))) (hW _ (by have := kB_lt (g := g0) (x := l) (n := z) (by omega); omega)) ?_
        refine lv_icmp_le (tgt := 39) hx hb dX2_cutter_34 (by decide) (fun c34 => ?_) (fun c34 => ?_)
        · skip
          refine lv_iinc (v := (nI (z + 1))) (lv' := [(3, .int (nI (z + 1))), (2, .int (nI (kB g0 l z))), (0, .ref (A 0)), (1, .int (nI l))]) hx hb dX2_cutter_39 hl (k := 0) rfl (nI_add z 1) (by decide) rfl (fun ls hl => ?_)
          refine lv_goto (tgt := 4) hx hb dX2_cutter_42 (by decide) ?_
          have hl := Eq.mp (congrArg (fun z9 => lv_has ls 4 [(3, .int (nI (z + 1))), (2, .int z9), (0, .ref (A 0)), (1, .int (nI l))]) (show (nI (kB g0 l z)) = (nI (kB g0 l (z + 1))) from by first | rw [kB, if_pos c34] | rw [kB, if_neg c34])) hl
          have hl : lv_has ls 4 [(3, .int (nI (z + 1))), (2, .int (nI (kB g0 l (z + 1)))), (0, .ref (A 0)), (1, .int (nI l))] := hl
          exact ih_4 (z + 1) (by omega) (by omega) _ _ _ hP hS hl
        · skip
          refine lv_iload_n hx hb dX2_cutter_37 rfl (lv_at hl 0 rfl) ?_
          refine lv_istore_n (lv' := [(2, .int (nI z)), (3, .int (nI z)), (0, .ref (A 0)), (1, .int (nI l))]) hx hb dX2_cutter_38 rfl hl (by decide) rfl (fun ls hl => ?_)
          refine lv_iinc (v := (nI (z + 1))) (lv' := [(3, .int (nI (z + 1))), (2, .int (nI z)), (0, .ref (A 0)), (1, .int (nI l))]) hx hb dX2_cutter_39 hl (k := 1) rfl (nI_add z 1) (by decide) rfl (fun ls hl => ?_)
          refine lv_goto (tgt := 4) hx hb dX2_cutter_42 (by decide) ?_
          have hl := Eq.mp (congrArg (fun z9 => lv_has ls 4 [(3, .int (nI (z + 1))), (2, .int z9), (0, .ref (A 0)), (1, .int (nI l))]) (show (nI z) = (nI (kB g0 l (z + 1))) from by first | rw [kB, if_pos c34] | rw [kB, if_neg c34])) hl
          have hl : lv_has ls 4 [(3, .int (nI (z + 1))), (2, .int (nI (kB g0 l (z + 1)))), (0, .ref (A 0)), (1, .int (nI l))] := hl
          exact ih_4 (z + 1) (by omega) (by omega) _ _ _ hP hS hl
  have hl := Eq.mp (congrArg (fun z9 => lv_has ls 4 [(3, .int (nI 1)), (2, .int z9), (0, .ref (A 0)), (1, .int (nI l))]) (show 0 = (nI (kB g0 l 1)) from by rw [hk1]; rfl)) hl
  have hl : lv_has ls 4 [(3, .int (nI 1)), (2, .int (nI (kB g0 l 1))), (0, .ref (A 0)), (1, .int (nI l))] := hl
  exact hloop_4 _ 1 (by omega) (Nat.lt_succ_self _) _ _ _ hP hS hl

abbrev rmCX2_marks : Room := { frames := 5, cells := 0, slots := 0, locals := 128 }
theorem dyX2_marks : yX2_marks.cls = RX2 ∧ yX2_marks.cls ≠ "java/lang/invoke/MethodHandle" ∧ yX2_marks.cls ≠ "java/lang/invoke/VarHandle" ∧ (parseMethodDescriptor yX2_marks.desc).map (fun d => d.parameters.length) = some 0 := by decide +kernel
set_option maxHeartbeats 4000000 in
theorem CX2_marks (l0 : Launch) (E : gE) (w : wd) (i : Nat) (A : Nat → Nat) (g : Nat → Int32) (mn : Nat) (wn : Nat → Int32) (ly : Nat → Int32) (N : Nat) (hI : gI g mn N) (hi0 : i ≠ 0) (hW : ∀ l, l < mn → ∀ o, o < mn → wn (6 * l + o) = tWb g l o) (hM : townR E w i A g mn wn ly) : kC l0 yX2_marks (ws_ yX2_marks cX2_marks 3 none) rmCX2_marks 0 0 mV E w [.ref (A 0)] (fun r w' => ∃ ly9 : Nat → Int32, (∀ l, l < mn → ly9 l = kMk g mn l) ∧ (townR E w' i A g mn wn ly9 ∧ True) ∧ fr (pT i) w w') := by
  refine k_open (cc := cX2_marks) (maxL := 3) (ret := none) (by decide) rfl (Nat.le_of_ble_eq_true rfl) ?_
  intro p e s m args below meth c ls Q hx hb hr hml hown hts hlocks hname hQ hG hP hl hS
  have hl : lv_has ls 3 [(0, .ref (A 0))] := hl
  obtain ⟨w0, hw0⟩ : ∃ z, z = w := ⟨_, rfl⟩
  have hF : fr (pT i) w0 w := by rw [hw0]; exact fr.rf
  rw [← hw0] at hQ
  obtain ⟨hT, ⟨fs9, hS1, hs1⟩, ⟨fd9, hS2, hs2⟩, ⟨fk9, hS3, hs3⟩, hS4, hS5, ⟨hm, hmn⟩, hK⟩ := id hM
  refine lv_iconst (v := 0) hx hb dX2_marks_0 (by decide) ?_
  refine lv_istore_n (lv' := [(1, .int 0), (0, .ref (A 0))]) hx hb dX2_marks_1 rfl hl (by decide) rfl (fun ls hl => ?_)
  have hloop_2 : ∀ (n9_2 : Nat) (z : Nat) (ly2 : Nat → Int32), (z ≤ mn) → (∀ l, l < z → ly2 l = kMk g mn l) → (mn - z) < n9_2 → ∀ (w : wd) (H : Heap) (locs : List Loc) (ls : Array Slot), (townR E w i A g mn wn ly2) → fr (pT i) w0 w → wP E w H → va_S (gA E) s.heap H locs → lv_has ls 3 [(1, .int (nI z)), (0, .ref (A 0))] → W p l0 e rmCX2_marks s m args below meth c H locs 0 0 Q (F0 m 2 ls []) := by
    intro n9_2
    induction n9_2 with
    | zero => intro z ly2 hz hq hn; exact absurd hn (Nat.not_lt_zero _)
    | succ n9_2 ih_2 =>
      intro z ly2 hz hq hn_2 w H locs ls hM hF hP hS hl
      obtain ⟨hT, ⟨fs9, hS1, hs1⟩, ⟨fd9, hS2, hs2⟩, ⟨fk9, hS3, hs3⟩, hS4, hS5, ⟨hm, hmn⟩, hK⟩ := id hM
      refine lv_iload_n hx hb dX2_marks_2 rfl (lv_at hl 0 rfl) ?_
      refine lv_aload_n hx hb dX2_marks_3 rfl (lv_at hl 1 rfl) ?_
      refine k_get hx hb hts in_X2 hown hG hP hT rfl 3 (by decide) (hts _ q186) (fun _ h9 => h9) (v := .int (nI mn)) rfl dX2_marks_4 ?_
      refine k_icmp_geN (x := z) (y := mn) (tgt := 59) hx hb (by omega) (by omega) dX2_marks_7 (by decide) (fun c7 => ?_) (fun c7 => ?_)
      · skip
        exact k_vret hx hb hr hlocks hQ hP hS (by omega) (by omega) dX2_marks_59 (⟨_, fun l hl => hq l (by omega), ⟨hM, trivial⟩, hF⟩)
      · skip
        refine lv_aload_n hx hb dX2_marks_10 rfl (lv_at hl 1 rfl) ?_
        refine k_get hx hb hts in_X2 hown hG hP hT rfl 2 (by decide) (hts _ q184) (fun _ h9 => h9) (v := .ref (A 3)) rfl dX2_marks_11 ?_
        refine lv_iload_n hx hb dX2_marks_14 rfl (lv_at hl 0 rfl) ?_
        refine k_aald hx hb hG hP (j := z) 4 hS3 rfl (by omega) (show z < 6 from by omega) dX2_marks_15 ?_
        rw [hs3 z (by omega)]
        refine lv_astore_n (lv' := [(2, .ref (A (6 + z))), (1, .int (nI z)), (0, .ref (A 0))]) hx hb dX2_marks_16 rfl hl (by decide) rfl (fun ls hl => ?_)
        refine lv_aload_n hx hb dX2_marks_17 rfl (lv_at hl 2 rfl) ?_
        refine k_get hx hb hts in_X2 hown hG hP hT rfl 10 (by decide) (hts _ q199) (fun _ h9 => h9) (v := .ref (A 5)) rfl dX2_marks_18 ?_
        refine lv_iload_n hx hb dX2_marks_21 rfl (lv_at hl 1 rfl) ?_
        refine lv_aload_n hx hb dX2_marks_22 rfl (lv_at hl 0 rfl) ?_
        obtain ⟨tz1, hkz1, hsz1⟩ := hM.kite (k := z) (by omega)
        refine k_cV hx hb hml hown hts (CX3_isUp l0 E w i z (A (6 + z)) (kv g z) tz1 hkz1 hsz1) (cwV 0 hts (lw_V q712 q713 q714 q71 q715) rfl rfl rfl dyX3_isUp ⟨Nat.le_of_ble_eq_true rfl, Nat.le_of_ble_eq_true rfl⟩) hG hP hS hkz1 rfl (As := []) (rest := [.int (nI z), .ref (A 5)]) rfl hl.1 rfl (lv_room (Nat.le_of_ble_eq_true rfl)) dX2_marks_23 ⟨show 0 + 0 ≤ 0 from by omega, show 0 + 0 ≤ 0 from by omega⟩ (fun r9 w9 H locs hp hP hS => ?_)
        obtain ⟨hp1, hp0⟩ := hp
        rw [hp1] at hP
        rw [hp0]
        show W p l0 e rmCX2_marks s m args below meth c H locs 0 0 Q (F0 m 26 ls [.int (bI (decide (((kv g z) 0) = 1))), .int (nI z), .ref (A 5)])
        refine k_top (y := (bI (tUp g z))) (rfl) ?_
        refine k_ifeqB (x := tUp g z) (tgt := 51) hx hb dX2_marks_26 (by decide) (fun c26 => ?_) (fun c26 => ?_)
        · skip
          refine lv_iconst (v := (-1)) hx hb dX2_marks_51 (by decide) ?_
          refine k_iastW hx hb hG hP hS (j := z) hS5 (by omega) (show z < 6 from by omega) (x := (-1)) dX2_marks_52 (fun w1 H locs h9 hf9 hP hS => ?_)
          have hM : townR E w1 i A g mn wn (va_up ly2 z (-1)) := hM.lst hi0 hf9 h9
          have hF : fr (pT i) w0 w1 := hF.tr (fr_OT hf9)
          obtain ⟨hT, ⟨fs9, hS1, hs1⟩, ⟨fd9, hS2, hs2⟩, ⟨fk9, hS3, hs3⟩, hS4, hS5, ⟨hm, hmn⟩, hK⟩ := id hM
          refine lv_iinc (v := (nI (z + 1))) (lv' := [(1, .int (nI (z + 1))), (2, .ref (A (6 + z))), (0, .ref (A 0))]) hx hb dX2_marks_53 hl (k := 1) rfl (nI_add z 1) (by decide) rfl (fun ls hl => ?_)
          refine lv_goto (tgt := 2) hx hb dX2_marks_56 (by decide) ?_
          have hl := lv_sub (l' := [(1, .int (nI (z + 1))), (0, .ref (A 0))]) hl [0, 2] rfl
          exact ih_2 (z + 1) (va_up ly2 z (-1)) (by omega) (kMk_s hq (by first | (rw [kMk, if_neg (by rw [c26]; decide)]; done) | (rw [kMk, if_pos c26, if_pos c40]; done) | (rw [kMk, if_pos c26, if_neg c40]; done))) (by omega) _ _ _ _ hM hF hP hS hl
        · skip
          refine lv_aload_n hx hb dX2_marks_29 rfl (lv_at hl 0 rfl) ?_
          refine k_cV hx hb hml hown hts (CX3_wear l0 E w i z (A (6 + z)) (kv g z) tz1 hkz1 hsz1) (cwV 0 hts (lw_V q988 q800 q801 q71 q802) rfl rfl rfl dyX3_wear ⟨Nat.le_of_ble_eq_true rfl, Nat.le_of_ble_eq_true rfl⟩) hG hP hS hkz1 rfl (As := []) (rest := [.int (nI z), .ref (A 5)]) rfl hl.1 rfl (lv_room (Nat.le_of_ble_eq_true rfl)) dX2_marks_30 ⟨show 0 + 0 ≤ 0 from by omega, show 0 + 0 ≤ 0 from by omega⟩ (fun r9 w9 H locs hp hP hS => ?_)
          obtain ⟨hp1, hp0⟩ := hp
          rw [hp1] at hP
          rw [hp0]
          show W p l0 e rmCX2_marks s m args below meth c H locs 0 0 Q (F0 m 33 ls [.int (kWr (kv g z)), .int (nI z), .ref (A 5)])
          refine k_top (y := (g (kO z 6))) (if_pos (of_decide_eq_true c26)) ?_
          refine lv_aload_n hx hb dX2_marks_33 rfl (lv_at hl 0 rfl) ?_
          refine k_getN hx hb hts in_X3 hown hG hP hkz1 rfl 0 (by decide) (hG.2.1.1 _ q141 rfl) (fun _ h9 => h9) (v := .ref (eM E (g (kO z 1)).toNatClampNeg)) rfl dX2_marks_34 ?_
          refine k_hard hx hb hml hown hts q989 (gI.kind hI (k := z) (by omega)) hG hP hS hl.1 dX2_marks_37 ⟨Nat.le_of_ble_eq_true rfl, Nat.le_of_ble_eq_true rfl⟩ (Nat.le_of_ble_eq_true rfl) ⟨show 0 ≤ 0 from by omega, show 0 ≤ 0 from by omega⟩ (fun H locs hP hS => ?_)
          refine k_top (y := tHd g z) rfl ?_
          refine lv_icmp_lt (tgt := 51) hx hb dX2_marks_40 (by decide) (fun c40 => ?_) (fun c40 => ?_)
          · skip
            refine lv_iconst (v := (-1)) hx hb dX2_marks_51 (by decide) ?_
            refine k_iastW hx hb hG hP hS (j := z) hS5 (by omega) (show z < 6 from by omega) (x := (-1)) dX2_marks_52 (fun w2 H locs h9 hf9 hP hS => ?_)
            have hM : townR E w2 i A g mn wn (va_up ly2 z (-1)) := hM.lst hi0 hf9 h9
            have hF : fr (pT i) w0 w2 := hF.tr (fr_OT hf9)
            obtain ⟨hT, ⟨fs9, hS1, hs1⟩, ⟨fd9, hS2, hs2⟩, ⟨fk9, hS3, hs3⟩, hS4, hS5, ⟨hm, hmn⟩, hK⟩ := id hM
            refine lv_iinc (v := (nI (z + 1))) (lv' := [(1, .int (nI (z + 1))), (2, .ref (A (6 + z))), (0, .ref (A 0))]) hx hb dX2_marks_53 hl (k := 1) rfl (nI_add z 1) (by decide) rfl (fun ls hl => ?_)
            refine lv_goto (tgt := 2) hx hb dX2_marks_56 (by decide) ?_
            have hl := lv_sub (l' := [(1, .int (nI (z + 1))), (0, .ref (A 0))]) hl [0, 2] rfl
            exact ih_2 (z + 1) (va_up ly2 z (-1)) (by omega) (kMk_s hq (by first | (rw [kMk, if_neg (by rw [c26]; decide)]; done) | (rw [kMk, if_pos c26, if_pos c40]; done) | (rw [kMk, if_pos c26, if_neg c40]; done))) (by omega) _ _ _ _ hM hF hP hS hl
          · skip
            refine lv_aload_n hx hb dX2_marks_43 rfl (lv_at hl 2 rfl) ?_
            refine lv_iload_n hx hb dX2_marks_44 rfl (lv_at hl 1 rfl) ?_
            refine k_cV hx hb hml hown hts (CX2_lowestSawn l0 E w i A g mn wn ly2 N z hI (by omega) (hW z (by omega)) hM) (cwV 1 hts (lw_V q1001 q1003 qs18 q70 q1004) rfl rfl rfl dyX2_lowestSawn ⟨Nat.le_of_ble_eq_true rfl, Nat.le_of_ble_eq_true rfl⟩) hG hP hS hT rfl (As := [.int (nI z)]) (rest := [.int (nI z), .ref (A 5)]) rfl hl.1 rfl (lv_room (Nat.le_of_ble_eq_true rfl)) dX2_marks_45 ⟨show 0 + 0 ≤ 0 from by omega, show 0 + 0 ≤ 0 from by omega⟩ (fun r9 w9 H locs hp hP hS => ?_)
            obtain ⟨hp1, hp0⟩ := hp
            rw [hp1] at hP
            rw [hp0]
            show W p l0 e rmCX2_marks s m args below meth c H locs 0 0 Q (F0 m 48 ls [.int ((tFd g z mn).1), .int (nI z), .ref (A 5)])
            refine lv_goto (tgt := 52) hx hb dX2_marks_48 (by decide) ?_
            refine k_iastW hx hb hG hP hS (j := z) hS5 (by omega) (show z < 6 from by omega) (x := ((tFd g z mn).1)) dX2_marks_52 (fun w3 H locs h9 hf9 hP hS => ?_)
            have hM : townR E w3 i A g mn wn (va_up ly2 z ((tFd g z mn).1)) := hM.lst hi0 hf9 h9
            have hF : fr (pT i) w0 w3 := hF.tr (fr_OT hf9)
            obtain ⟨hT, ⟨fs9, hS1, hs1⟩, ⟨fd9, hS2, hs2⟩, ⟨fk9, hS3, hs3⟩, hS4, hS5, ⟨hm, hmn⟩, hK⟩ := id hM
            refine lv_iinc (v := (nI (z + 1))) (lv' := [(1, .int (nI (z + 1))), (2, .ref (A (6 + z))), (0, .ref (A 0))]) hx hb dX2_marks_53 hl (k := 1) rfl (nI_add z 1) (by decide) rfl (fun ls hl => ?_)
            refine lv_goto (tgt := 2) hx hb dX2_marks_56 (by decide) ?_
            have hl := lv_sub (l' := [(1, .int (nI (z + 1))), (0, .ref (A 0))]) hl [0, 2] rfl
            exact ih_2 (z + 1) (va_up ly2 z ((tFd g z mn).1)) (by omega) (kMk_s hq (by first | (rw [kMk, if_neg (by rw [c26]; decide)]; done) | (rw [kMk, if_pos c26, if_pos c40]; done) | (rw [kMk, if_pos c26, if_neg c40]; done))) (by omega) _ _ _ _ hM hF hP hS hl
  have hl : lv_has ls 3 [(1, .int (nI 0)), (0, .ref (A 0))] := hl
  exact hloop_2 _ 0 ly (by omega) (fun l h => absurd h (Nat.not_lt_zero l)) (Nat.lt_succ_self _) _ _ _ _ hM hF hP hS hl
