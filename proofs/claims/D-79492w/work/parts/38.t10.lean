/-! THE TWIN, 10: read -/
set_option maxRecDepth 100000
abbrev rmCX6_read : Room := { frames := 10, cells := 0, slots := 0, locals := 230 }
theorem dyX6_read : yX6_read.cls = RX6 ∧ yX6_read.cls ≠ "java/lang/invoke/MethodHandle" ∧ yX6_read.cls ≠ "java/lang/invoke/VarHandle" ∧ (parseMethodDescriptor yX6_read.desc).map (fun d => d.parameters.length) = some 0 := by decide +kernel
set_option maxHeartbeats 4000000 in
theorem CX6_read (l0 : Launch) (E : gE) (w : wd) (h : Nat) (ad : Nat → Nat) (f : Nat → Int32) (a : Nat → Nat → Int32) (n : Nat) (ch : Nat) (mn : Nat) (hM : tM E w h ad f a) (hn9 : (f 9) = nI n) (hn60 : n ≤ 60) (h7 : (f 7) = 0) (hc : (f 6) = nI ch) (hc8 : ch ≤ 8) (hmn : mn ≤ 6) (hm : (a 0) 25 = nI mn) : kC l0 yX6_read (ws_ yX6_read cX6_read 5 (some .int)) rmCX6_read 0 0 mI E w [.ref h] (fun r w' => ∃ f' a', (∃ T9 : q5, T9 = (pTx (a 8) n 61 0 0 (a 18)) ∧ ((T9.1 = false ∧ r = 0 ∧ f' = (va_up (va_up (va_up (va_up (va_up f 17 (nI T9.2.1)) 19 (nI T9.2.2.1)) 10 (nI T9.2.1)) 9 0) 13 1) ∧ a' = va_up a 18 T9.2.2.2) ∨ (T9.1 = true ∧ (tRo T9.2.2.2 T9.2.2.1 0 (a 0)).2.1 = 0 ∧ r = nI T9.2.2.1 ∧ f' = va_up (va_up (va_up (va_up (va_up (va_up (va_up (va_up (va_up f 17 (nI T9.2.1)) 19 (nI T9.2.2.1)) 10 (-1)) 9 0) 13 0) 7 1) 13 0) 7 0) 6 (tC6 0 ch) ∧ ∃ x9 y9 z9, a' = va_up (va_up (va_up (va_up (va_up (va_up (va_up a 18 T9.2.2.2) 3 (va_cpy (a 0) (a 3) 0 0 116)) 0 (tRo T9.2.2.2 T9.2.2.1 0 (a 0)).2.2.2.2) 14 x9) 15 y9) 16 z9) 1 (tC1 0 (a 1) (va_cpy (a 0) (a 3) 0 0 116) ch)) ∨ (T9.1 = true ∧ ¬ (tRo T9.2.2.2 T9.2.2.1 0 (a 0)).2.1 = 0 ∧ r = 0 ∧ f' = (if (tRo T9.2.2.2 T9.2.2.1 0 (a 0)).2.1 = rCy T9.2.2.2 (5 * ((tRo T9.2.2.2 T9.2.2.1 0 (a 0)).1 - 1)) then va_up (va_up (va_up (oC (va_up (va_up (va_up (va_up (va_up (va_up f 17 (nI T9.2.1)) 19 (nI T9.2.2.1)) 10 (-1)) 9 0) 13 0) 7 1) ((tRo T9.2.2.2 T9.2.2.1 0 (a 0)).2.1, (tRo T9.2.2.2 T9.2.2.1 0 (a 0)).2.2.1, 0)) 7 0) 12 (nI ((tRo T9.2.2.2 T9.2.2.1 0 (a 0)).1 - 1))) 13 2 else va_up (va_up (oC (va_up (va_up (va_up (va_up (va_up (va_up f 17 (nI T9.2.1)) 19 (nI T9.2.2.1)) 10 (-1)) 9 0) 13 0) 7 1) ((tRo T9.2.2.2 T9.2.2.1 0 (a 0)).2.1, (tRo T9.2.2.2 T9.2.2.1 0 (a 0)).2.2.1, 0)) 7 0) 13 1) ∧ ∃ x9 y9 z9, a' = va_up (va_up (va_up (va_up (va_up (va_up a 18 T9.2.2.2) 3 (va_cpy (a 0) (a 3) 0 0 116)) 0 (a 0)) 14 x9) 15 y9) 16 z9))) ∧ tM E w' h ad f' a' ∧ fr tP w w') := by
  refine k_open (cc := cX6_read) (maxL := 5) (ret := (some .int)) (by decide) rfl (Nat.le_of_ble_eq_true rfl) ?_
  intro p e s m args below meth c ls Q hx hb hr hml hown hts hlocks hname hQ hG hP hl hS
  have hl : lv_has ls 5 [(0, .ref h)] := hl
  obtain ⟨w0, hw0⟩ : ∃ z, z = w := ⟨_, rfl⟩
  have hF : fr tP w0 w := by rw [hw0]; exact fr.rf
  rw [← hw0] at hQ
  refine lv_aload_n hx hb dX6_read_0 rfl (lv_at hl 0 rfl) ?_
  refine tw_cW hx hb hml hown hts (CX6_isText l0 E w h ad f a n hM hn9 hn60) (cwV 0 hts (lw_V q1876 q1878 qs58 q81 q1879) rfl rfl rfl dyX6_isText ⟨Nat.le_of_ble_eq_true rfl, Nat.le_of_ble_eq_true rfl⟩) hG hP hS hM hF (As := []) (rest := []) rfl hl.1 rfl (lv_room (Nat.le_of_ble_eq_true rfl)) dX6_read_1 ⟨by omega, by omega⟩ (fun r1 f1 a1 w H locs hp hM hF hP hS => ?_)
  obtain ⟨hp0, hp1, hp2⟩ := hp
  obtain ⟨T9, hT⟩ : ∃ z9 : q5, z9 = (pTx (a 8) n 61 0 0 (a 18)) := ⟨_, rfl⟩
  rw [← hT] at hp0 hp1 hp2
  subst hp0
  have hM : tM E w h ad (va_up (va_up f 17 (nI T9.2.1)) 19 (nI T9.2.2.1)) (va_up a 18 T9.2.2.2) := hM.ofF hp1 hp2
  refine lv_istore_n (lv' := [(1, .int (bI T9.1)), (0, .ref h)]) hx hb dX6_read_4 rfl hl (by decide) rfl (fun ls hl => ?_)
  refine lv_aload_n hx hb dX6_read_5 rfl (lv_at hl 1 rfl) ?_
  refine lv_iload_n hx hb dX6_read_6 rfl (lv_at hl 0 rfl) ?_
  refine k_ifeqB (x := T9.1) (tgt := 14) hx hb dX6_read_7 (by decide) (fun c7 => ?_) (fun c7 => ?_)
  · skip
    refine lv_aload_n hx hb dX6_read_14 rfl (lv_at hl 1 rfl) ?_
    refine tw_get hx hb hts hown hG hP hM 17 (by decide) (hts _ q1637) (fun _ h9 => h9) (v := .int (nI T9.2.1)) rfl dX6_read_15 ?_
    refine tw_put hx hb hts hown hG hP hS hM hF 10 (by decide) (hts _ q1630) (fun _ h9 => h9) rfl (ty := .int) (v := (nI T9.2.1)) rfl rfl rfl rfl dX6_read_18 (fun w H locs hM hF hP hS => ?_)
    refine lv_aload_n hx hb dX6_read_21 rfl (lv_at hl 1 rfl) ?_
    refine lv_iconst (v := 0) hx hb dX6_read_22 (by decide) ?_
    refine tw_put hx hb hts hown hG hP hS hM hF 9 (by decide) (hts _ q1629) (fun _ h9 => h9) rfl (ty := .int) (v := 0) rfl rfl rfl rfl dX6_read_23 (fun w H locs hM hF hP hS => ?_)
    refine lv_aload_n hx hb dX6_read_26 rfl (lv_at hl 1 rfl) ?_
    refine lv_iload_n hx hb dX6_read_27 rfl (lv_at hl 0 rfl) ?_
    refine k_ifeqB (x := T9.1) (tgt := 35) hx hb dX6_read_28 (by decide) (fun c28 => ?_) (fun c28 => ?_)
    · skip
      refine lv_iconst (v := 1) hx hb dX6_read_35 (by decide) ?_
      refine tw_cW hx hb hml hown hts (CX6_fails l0 E w h ad (va_up (va_up (va_up (va_up f 17 (nI T9.2.1)) 19 (nI T9.2.2.1)) 10 (nI T9.2.1)) 9 0) (va_up a 18 T9.2.2.2) 1 hM ) (cwV 1 hts (lw_V q1695 q1697 qs35 q81 q1698) rfl rfl rfl dyX6_fails ⟨Nat.le_of_ble_eq_true rfl, Nat.le_of_ble_eq_true rfl⟩) hG hP hS hM hF (As := [.int 1]) (rest := []) rfl hl.1 rfl (lv_room (Nat.le_of_ble_eq_true rfl)) dX6_read_36 ⟨by omega, by omega⟩ (fun r36 f36 a36 w H locs hp hM hF hP hS => ?_)
      obtain ⟨hp0, hp1, hp2⟩ := hp
      have hM := hM.ofF hp1 hp2
      have hM : tM E w h ad (va_up (va_up (va_up (va_up (va_up f 17 (nI T9.2.1)) 19 (nI T9.2.2.1)) 10 (nI T9.2.1)) 9 0) 13 1) (va_up a 18 T9.2.2.2) := hM
      refine k_top (y := (bI (decide (0 < 1)))) hp0 ?_
      refine k_ifeqB (x := decide (0 < 1)) (tgt := 44) hx hb dX6_read_39 (by decide) (fun c39 => ?_) (fun c39 => ?_)
      · skip
        exact absurd c39 (by decide)
      · skip
        refine lv_iconst (v := 0) hx hb dX6_read_42 (by decide) ?_
        exact k_iret hx hb hr hlocks hQ hP hS (by omega) (by omega) dX6_read_43 (⟨_, _, ⟨T9, hT, Or.inl ⟨c7, rfl, rfl, rfl⟩⟩, hM, hF⟩)
    · skip
      exact absurd (c7.symm.trans c28) (by decide)
  · skip
    have hm30 : T9.2.2.1 ≤ 30 := by rw [hT]; exact pTx_t hn60 61 0 0 _ (Nat.zero_le _) (Nat.le_refl _) (by rw [← hT]; exact c7)
    refine lv_iconst (v := (-1)) hx hb dX6_read_10 (by decide) ?_
    refine lv_goto (tgt := 18) hx hb dX6_read_11 (by decide) ?_
    refine tw_put hx hb hts hown hG hP hS hM hF 10 (by decide) (hts _ q1630) (fun _ h9 => h9) rfl (ty := .int) (v := (-1)) rfl rfl rfl rfl dX6_read_18 (fun w H locs hM hF hP hS => ?_)
    refine lv_aload_n hx hb dX6_read_21 rfl (lv_at hl 1 rfl) ?_
    refine lv_iconst (v := 0) hx hb dX6_read_22 (by decide) ?_
    refine tw_put hx hb hts hown hG hP hS hM hF 9 (by decide) (hts _ q1629) (fun _ h9 => h9) rfl (ty := .int) (v := 0) rfl rfl rfl rfl dX6_read_23 (fun w H locs hM hF hP hS => ?_)
    refine lv_aload_n hx hb dX6_read_26 rfl (lv_at hl 1 rfl) ?_
    refine lv_iload_n hx hb dX6_read_27 rfl (lv_at hl 0 rfl) ?_
    refine k_ifeqB (x := T9.1) (tgt := 35) hx hb dX6_read_28 (by decide) (fun c28 => ?_) (fun c28 => ?_)
    · skip
      exact absurd (c7.symm.trans c28) (by decide)
    · skip
      refine lv_iconst (v := 0) hx hb dX6_read_31 (by decide) ?_
      refine lv_goto (tgt := 36) hx hb dX6_read_32 (by decide) ?_
      refine tw_cW hx hb hml hown hts (CX6_fails l0 E w h ad (va_up (va_up (va_up (va_up f 17 (nI T9.2.1)) 19 (nI T9.2.2.1)) 10 (-1)) 9 0) (va_up a 18 T9.2.2.2) 0 hM ) (cwV 1 hts (lw_V q1695 q1697 qs35 q81 q1698) rfl rfl rfl dyX6_fails ⟨Nat.le_of_ble_eq_true rfl, Nat.le_of_ble_eq_true rfl⟩) hG hP hS hM hF (As := [.int 0]) (rest := []) rfl hl.1 rfl (lv_room (Nat.le_of_ble_eq_true rfl)) dX6_read_36 ⟨by omega, by omega⟩ (fun r36 f36 a36 w H locs hp hM hF hP hS => ?_)
      obtain ⟨hp0, hp1, hp2⟩ := hp
      have hM := hM.ofF hp1 hp2
      have hM : tM E w h ad (va_up (va_up (va_up (va_up (va_up f 17 (nI T9.2.1)) 19 (nI T9.2.2.1)) 10 (-1)) 9 0) 13 0) (va_up a 18 T9.2.2.2) := hM
      refine k_top (y := (bI (decide (0 < 0)))) hp0 ?_
      refine k_ifeqB (x := decide (0 < 0)) (tgt := 44) hx hb dX6_read_39 (by decide) (fun c39 => ?_) (fun c39 => ?_)
      · skip
        refine lv_aload_n hx hb dX6_read_44 rfl (lv_at hl 1 rfl) ?_
        refine tw_get hx hb hts hown hG hP hM 0 (by decide) (hts _ q1620) (fun _ h9 => h9) (v := .ref (ad 0)) rfl dX6_read_45 ?_
        refine lv_iconst (v := 0) hx hb dX6_read_48 (by decide) ?_
        refine lv_aload_n hx hb dX6_read_49 rfl (lv_at hl 1 rfl) ?_
        refine tw_get hx hb hts hown hG hP hM 3 (by decide) (hts _ q1623) (fun _ h9 => h9) (v := .ref (ad 3)) rfl dX6_read_50 ?_
        refine lv_iconst (v := 0) hx hb dX6_read_53 (by decide) ?_
        refine tw_cWS hx hb hml hown hts (CX6_copies l0 E w h ad (va_up (va_up (va_up (va_up (va_up f 17 (nI T9.2.1)) 19 (nI T9.2.2.1)) 10 (-1)) 9 0) 13 0) (va_up a 18 T9.2.2.2) 0 0 3 0 hM (by decide) (by decide) (by decide) (by decide) (by decide)) (va_cwS 4 hts (lw_S q1703 q1704 q81 q1705) rfl rfl rfl dyX6_copies ⟨Nat.le_of_ble_eq_true rfl, Nat.le_of_ble_eq_true rfl⟩) hG hP hS hF (As := [.ref (ad 0), .int 0, .ref (ad 3), .int 0]) (rest := []) rfl hl.1 rfl (lv_room (Nat.le_of_ble_eq_true rfl)) dX6_read_54 ⟨by omega, by omega⟩ (fun r54 f54 a54 w H locs hp hM hF hP hS => ?_)
        obtain ⟨hp1, hp2⟩ := hp
        have hM := hM.ofF hp1 hp2
        have hM : tM E w h ad (va_up (va_up (va_up (va_up (va_up f 17 (nI T9.2.1)) 19 (nI T9.2.2.1)) 10 (-1)) 9 0) 13 0) (va_up (va_up a 18 T9.2.2.2) 3 (va_cpy (a 0) (a 3) 0 0 116)) := hM
        refine lv_aload_n hx hb dX6_read_57 rfl (lv_at hl 1 rfl) ?_
        refine lv_iconst (v := 1) hx hb dX6_read_58 (by decide) ?_
        refine tw_put hx hb hts hown hG hP hS hM hF 7 (by decide) (hts _ q1627) (fun _ h9 => h9) rfl (ty := .boolean) (v := 1) rfl rfl rfl rfl dX6_read_59 (fun w H locs hM hF hP hS => ?_)
        refine lv_iconst (v := 0) hx hb dX6_read_62 (by decide) ?_
        refine lv_istore_n (lv' := [(2, .int 0), (1, .int (bI T9.1)), (0, .ref h)]) hx hb dX6_read_63 rfl hl (by decide) rfl (fun ls hl => ?_)
        refine lv_iconst (v := 0) hx hb dX6_read_64 (by decide) ?_
        refine lv_istore_n (lv' := [(3, .int 0), (2, .int 0), (1, .int (bI T9.1)), (0, .ref h)]) hx hb dX6_read_65 rfl hl (by decide) rfl (fun ls hl => ?_)
        refine lv_aload_n hx hb dX6_read_66 rfl (lv_at hl 3 rfl) ?_
        refine lv_iconst (v := 0) hx hb dX6_read_67 (by decide) ?_
        refine tw_put hx hb hts hown hG hP hS hM hF 13 (by decide) (hts _ q1633) (fun _ h9 => h9) rfl (ty := .int) (v := 0) rfl rfl rfl rfl dX6_read_68 (fun w H locs hM hF hP hS => ?_)
        have hM : tM E w h ad (va_up (va_up (va_up (va_up (va_up (va_up (va_up f 17 (nI T9.2.1)) 19 (nI T9.2.2.1)) 10 (-1)) 9 0) 13 0) 7 1) 13 0) (va_up (va_up a 18 T9.2.2.2) 3 (va_cpy (a 0) (a 3) 0 0 116)) := hM
        have hM : tM E w h ad (va_up (va_up (va_up (va_up (va_up (va_up f 17 (nI T9.2.1)) 19 (nI T9.2.2.1)) 10 (-1)) 9 0) 13 0) 7 1) (va_up (va_up a 18 T9.2.2.2) 3 (va_cpy (a 0) (a 3) 0 0 116)) := hM.ofF (by rw [up_cm _ 13 7 _ _ (by decide), bx_uu]) rfl
        have hloop_71 : ∀ (n9_71 : Nat) (i : Nat) (u : Nat) (c9 : Int32) (d9 : Int32) (e9 : Int32) (r9 : Int32) (g9 : Nat → Int32) (x9 : Nat → Int32) (y9 : Nat → Int32) (z9 : Nat → Int32), (i ≤ T9.2.2.1) → (u ≤ 6) → (g9 25 = nI u) → (∀ j, 116 ≤ j → g9 j = a 0 j) → (0 ≤ c9) → ((c9 = 0 ∧ tRo T9.2.2.2 (T9.2.2.1 - i) i g9 = (tRo T9.2.2.2 T9.2.2.1 0 (a 0))) ∨ (¬ c9 = 0 ∧ 0 < i ∧ r9 = rCy T9.2.2.2 (5 * (i - 1)) ∧ (tRo T9.2.2.2 T9.2.2.1 0 (a 0)) = (i, (c9, d9, e9, g9)))) → (T9.2.2.1 + 1 - i) < n9_71 → ∀ (w : wd) (H : Heap) (locs : List Loc) (ls : Array Slot), tM E w h ad (oC (va_up (va_up (va_up (va_up (va_up (va_up f 17 (nI T9.2.1)) 19 (nI T9.2.2.1)) 10 (-1)) 9 0) 13 0) 7 1) (c9, d9, 0)) (va_up (va_up (va_up (va_up (va_up (va_up a 18 T9.2.2.2) 3 (va_cpy (a 0) (a 3) 0 0 116)) 0 g9) 14 x9) 15 y9) 16 z9) → fr tP w0 w → wP E w H → va_S (gA E) s.heap H locs → lv_has ls 5 [(3, .int r9), (2, .int (nI i)), (1, .int (bI T9.1)), (0, .ref h)] → W p l0 e rmCX6_read s m args below meth c H locs 0 0 Q (F0 m 71 ls []) := by
          intro n9_71
          induction n9_71 with
          | zero => intro i u c9 d9 e9 r9 g9 x9 y9 z9 hi9 hu9 hg25 hgi hc0 hv hn; exact absurd hn (Nat.not_lt_zero _)
          | succ n9_71 ih_71 =>
            intro i u c9 d9 e9 r9 g9 x9 y9 z9 hi9 hu9 hg25 hgi hc0 hv hn_71 w H locs ls hM hF hP hS hl
            refine lv_iload_n hx hb dX6_read_71 rfl (lv_at hl 1 rfl) ?_
            refine lv_aload_n hx hb dX6_read_72 rfl (lv_at hl 3 rfl) ?_
            refine tw_get hx hb hts hown hG hP hM 19 (by decide) (hts _ q1639) (fun _ h9 => h9) (v := .int ((oC (va_up (va_up (va_up (va_up (va_up (va_up f 17 (nI T9.2.1)) 19 (nI T9.2.2.1)) 10 (-1)) 9 0) 13 0) 7 1) (c9, d9, 0)) 19)) rfl dX6_read_73 ?_
            refine k_top (y := (nI T9.2.2.1)) ((oC_at (by decide) (by decide) (by decide)).trans rfl) ?_
            refine k_icmp_geN (x := i) (y := T9.2.2.1) (tgt := 100) hx hb (by omega) (by omega) dX6_read_76 (by decide) (fun c76 => ?_) (fun c76 => ?_)
            · skip
              refine lv_aload_n hx hb dX6_read_100 rfl (lv_at hl 3 rfl) ?_
              refine lv_iconst (v := 0) hx hb dX6_read_101 (by decide) ?_
              refine tw_put hx hb hts hown hG hP hS hM hF 7 (by decide) (hts _ q1627) (fun _ h9 => h9) rfl (ty := .boolean) (v := 0) rfl rfl rfl rfl dX6_read_102 (fun w H locs hM hF hP hS => ?_)
              refine lv_aload_n hx hb dX6_read_105 rfl (lv_at hl 3 rfl) ?_
              refine tw_get hx hb hts hown hG hP hM 13 (by decide) (hts _ q1633) (fun _ h9 => h9) (v := .int ((oC (va_up (va_up (va_up (va_up (va_up (va_up f 17 (nI T9.2.1)) 19 (nI T9.2.2.1)) 10 (-1)) 9 0) 13 0) 7 1) (c9, d9, 0)) 13)) rfl dX6_read_106 ?_
              refine k_top (y := c9) (oC_13) ?_
              refine lv_if_le (tgt := 168) hx hb dX6_read_109 (by decide) (fun c109 => ?_) (fun c109 => ?_)
              · skip
                have h09 : c9 = 0 := Int32.le_antisymm c109 hc0
                refine lv_aload_n hx hb dX6_read_168 rfl (lv_at hl 3 rfl) ?_
                refine lv_aload_n hx hb dX6_read_169 rfl (lv_at hl 3 rfl) ?_
                refine tw_get hx hb hts hown hG hP hM 3 (by decide) (hts _ q1623) (fun _ h9 => h9) (v := .ref (ad 3)) rfl dX6_read_170 ?_
                refine tw_cW hx hb hml hown hts (CX6_keeps3 l0 E w h ad (va_up (oC (va_up (va_up (va_up (va_up (va_up (va_up f 17 (nI T9.2.1)) 19 (nI T9.2.2.1)) 10 (-1)) 9 0) 13 0) 7 1) (c9, d9, 0)) 7 0) (va_up (va_up (va_up (va_up (va_up (va_up a 18 T9.2.2.2) 3 (va_cpy (a 0) (a 3) 0 0 116)) 0 g9) 14 x9) 15 y9) 16 z9) ch hM ((oC_at (by decide) (by decide) (by decide)).trans hc) (by omega)) (cwV 1 hts (lw_V q1699 q1701 qs36 q81 q1702) rfl rfl rfl dyX6_keeps ⟨Nat.le_of_ble_eq_true rfl, Nat.le_of_ble_eq_true rfl⟩) hG hP hS hM hF (As := [.ref (ad 3)]) (rest := []) rfl hl.1 rfl (lv_room (Nat.le_of_ble_eq_true rfl)) dX6_read_173 ⟨by omega, by omega⟩ (fun r173 f173 a173 w H locs hp hM hF hP hS => ?_)
                obtain ⟨hp1, hp2⟩ := hp
                have hM := hM.ofF hp1 hp2
                have hM : tM E w h ad (va_up (va_up (oC (va_up (va_up (va_up (va_up (va_up (va_up f 17 (nI T9.2.1)) 19 (nI T9.2.2.1)) 10 (-1)) 9 0) 13 0) 7 1) (c9, d9, 0)) 7 0) 6 (tC6 0 ch)) (va_up (va_up (va_up (va_up (va_up (va_up (va_up a 18 T9.2.2.2) 3 (va_cpy (a 0) (a 3) 0 0 116)) 0 g9) 14 x9) 15 y9) 16 z9) 1 (tC1 0 (a 1) (va_cpy (a 0) (a 3) 0 0 116) ch)) := hM
                refine lv_aload_n hx hb dX6_read_176 rfl (lv_at hl 3 rfl) ?_
                refine tw_get hx hb hts hown hG hP hM 19 (by decide) (hts _ q1639) (fun _ h9 => h9) (v := .int ((oC (va_up (va_up (va_up (va_up (va_up (va_up f 17 (nI T9.2.1)) 19 (nI T9.2.2.1)) 10 (-1)) 9 0) 13 0) 7 1) (c9, d9, 0)) 19)) rfl dX6_read_177 ?_
                refine k_top (y := (nI T9.2.2.1)) ((oC_at (by decide) (by decide) (by decide)).trans rfl) ?_
                obtain ⟨_, hv1⟩ : c9 = 0 ∧ tRo T9.2.2.2 (T9.2.2.1 - i) i g9 = (tRo T9.2.2.2 T9.2.2.1 0 (a 0)) := by rcases hv with e | ⟨e, _⟩; exact e; exact absurd h09 e
                have him : i = T9.2.2.1 := by first | omega | exact absurd h09 c83
                rw [him, Nat.sub_self, tRo] at hv1
                exact k_iret hx hb hr hlocks hQ hP hS (by omega) (by omega) dX6_read_180 (⟨_, _, ⟨T9, hT, Or.inr (Or.inl ⟨c7, by rw [← hv1], rfl, by rw [h09, oC_ok], _, _, _, by rw [← hv1]⟩)⟩, hM, hF⟩)
              · skip
                obtain ⟨hne, hi0, hr9, hR⟩ : ¬ c9 = 0 ∧ 0 < i ∧ r9 = rCy T9.2.2.2 (5 * (i - 1)) ∧ (tRo T9.2.2.2 T9.2.2.1 0 (a 0)) = (i, (c9, d9, e9, g9)) := by rcases hv with ⟨e, _⟩ | e; exact absurd (by rw [e]; exact Int32.le_refl 0) c109; exact e
                refine lv_aload_n hx hb dX6_read_112 rfl (lv_at hl 3 rfl) ?_
                refine tw_get hx hb hts hown hG hP hM 3 (by decide) (hts _ q1623) (fun _ h9 => h9) (v := .ref (ad 3)) rfl dX6_read_113 ?_
                refine lv_iconst (v := 0) hx hb dX6_read_116 (by decide) ?_
                refine lv_aload_n hx hb dX6_read_117 rfl (lv_at hl 3 rfl) ?_
                refine tw_get hx hb hts hown hG hP hM 0 (by decide) (hts _ q1620) (fun _ h9 => h9) (v := .ref (ad 0)) rfl dX6_read_118 ?_
                refine lv_iconst (v := 0) hx hb dX6_read_121 (by decide) ?_
                refine tw_cWS hx hb hml hown hts (CX6_copies l0 E w h ad (va_up (oC (va_up (va_up (va_up (va_up (va_up (va_up f 17 (nI T9.2.1)) 19 (nI T9.2.2.1)) 10 (-1)) 9 0) 13 0) 7 1) (c9, d9, 0)) 7 0) (va_up (va_up (va_up (va_up (va_up (va_up a 18 T9.2.2.2) 3 (va_cpy (a 0) (a 3) 0 0 116)) 0 g9) 14 x9) 15 y9) 16 z9) 3 0 0 0 hM (by decide) (by decide) (by decide) (by decide) (by decide)) (va_cwS 4 hts (lw_S q1703 q1704 q81 q1705) rfl rfl rfl dyX6_copies ⟨Nat.le_of_ble_eq_true rfl, Nat.le_of_ble_eq_true rfl⟩) hG hP hS hF (As := [.ref (ad 3), .int 0, .ref (ad 0), .int 0]) (rest := []) rfl hl.1 rfl (lv_room (Nat.le_of_ble_eq_true rfl)) dX6_read_122 ⟨by omega, by omega⟩ (fun r122 f122 a122 w H locs hp hM hF hP hS => ?_)
                obtain ⟨hp1, hp2⟩ := hp
                have hM := hM.ofF hp1 hp2
                have hM : tM E w h ad (va_up (oC (va_up (va_up (va_up (va_up (va_up (va_up f 17 (nI T9.2.1)) 19 (nI T9.2.2.1)) 10 (-1)) 9 0) 13 0) 7 1) (c9, d9, 0)) 7 0) (va_up (va_up (va_up (va_up (va_up (va_up (va_up a 18 T9.2.2.2) 3 (va_cpy (a 0) (a 3) 0 0 116)) 0 g9) 14 x9) 15 y9) 16 z9) 0 (va_cpy (va_cpy (a 0) (a 3) 0 0 116) g9 0 0 116)) := hM
                have hM : tM E w h ad (va_up (oC (va_up (va_up (va_up (va_up (va_up (va_up f 17 (nI T9.2.1)) 19 (nI T9.2.2.1)) 10 (-1)) 9 0) 13 0) 7 1) (c9, d9, 0)) 7 0) (va_up (va_up (va_up (va_up (va_up (va_up a 18 T9.2.2.2) 3 (va_cpy (a 0) (a 3) 0 0 116)) 0 (va_cpy (va_cpy (a 0) (a 3) 0 0 116) g9 0 0 116)) 14 x9) 15 y9) 16 z9) := hM.of (by rw [up_cm _ 0 16 _ _ (by decide), up_cm _ 0 15 _ _ (by decide), up_cm _ 0 14 _ _ (by decide), bx_uu])
                have hM : tM E w h ad (va_up (oC (va_up (va_up (va_up (va_up (va_up (va_up f 17 (nI T9.2.1)) 19 (nI T9.2.2.1)) 10 (-1)) 9 0) 13 0) 7 1) (c9, d9, 0)) 7 0) (va_up (va_up (va_up (va_up (va_up (va_up a 18 T9.2.2.2) 3 (va_cpy (a 0) (a 3) 0 0 116)) 0 (a 0)) 14 x9) 15 y9) 16 z9) := hM.of (by rw [cpy_back hgi])
                refine lv_aload_n hx hb dX6_read_125 rfl (lv_at hl 3 rfl) ?_
                refine tw_get hx hb hts hown hG hP hM 13 (by decide) (hts _ q1633) (fun _ h9 => h9) (v := .int ((oC (va_up (va_up (va_up (va_up (va_up (va_up f 17 (nI T9.2.1)) 19 (nI T9.2.2.1)) 10 (-1)) 9 0) 13 0) 7 1) (c9, d9, 0)) 13)) rfl dX6_read_126 ?_
                refine k_top (y := c9) (oC_13) ?_
                refine lv_iload_n hx hb dX6_read_129 rfl (lv_at hl 0 rfl) ?_
                refine lv_icmp_ne (tgt := 137) hx hb dX6_read_130 (by decide) (fun c130 => ?_) (fun c130 => ?_)
                · skip
                  refine lv_iconst (v := 0) hx hb dX6_read_137 (by decide) ?_
                  refine lv_istore (lv' := [(4, .int 0), (3, .int r9), (2, .int (nI i)), (1, .int (bI T9.1)), (0, .ref h)]) hx hb dX6_read_138 hl (by decide) rfl (fun ls hl => ?_)
                  refine lv_iload hx hb dX6_read_140 (lv_at hl 0 rfl) ?_
                  refine lv_if_eq (tgt := 152) hx hb dX6_read_142 (by decide) (fun c142 => ?_) (fun c142 => ?_)
                  · skip
                    refine lv_aload_n hx hb dX6_read_152 rfl (lv_at hl 4 rfl) ?_
                    refine lv_iload hx hb dX6_read_153 (lv_at hl 0 rfl) ?_
                    refine lv_if_eq (tgt := 162) hx hb dX6_read_155 (by decide) (fun c155 => ?_) (fun c155 => ?_)
                    · skip
                      refine lv_iconst (v := 1) hx hb dX6_read_162 (by decide) ?_
                      refine tw_put hx hb hts hown hG hP hS hM hF 13 (by decide) (hts _ q1633) (fun _ h9 => h9) rfl (ty := .int) (v := 1) rfl rfl rfl rfl dX6_read_163 (fun w H locs hM hF hP hS => ?_)
                      refine lv_iconst (v := 0) hx hb dX6_read_166 (by decide) ?_
                      exact k_iret hx hb hr hlocks hQ hP hS (by omega) (by omega) dX6_read_167 (⟨_, _, ⟨T9, hT, Or.inr (Or.inr ⟨c7, by rw [hR]; exact hne, rfl, by rw [hR]; dsimp only; rw [← hr9]; first | rw [if_pos c130] | rw [if_neg c130], _, _, _, rfl⟩)⟩, hM, hF⟩)
                    · skip
                      exact absurd c155 (by decide)
                  · skip
                    exact absurd c142 (by decide)
                · skip
                  refine lv_iconst (v := 1) hx hb dX6_read_133 (by decide) ?_
                  refine lv_goto (tgt := 138) hx hb dX6_read_134 (by decide) ?_
                  refine lv_istore (lv' := [(4, .int 1), (3, .int r9), (2, .int (nI i)), (1, .int (bI T9.1)), (0, .ref h)]) hx hb dX6_read_138 hl (by decide) rfl (fun ls hl => ?_)
                  refine lv_iload hx hb dX6_read_140 (lv_at hl 0 rfl) ?_
                  refine lv_if_eq (tgt := 152) hx hb dX6_read_142 (by decide) (fun c142 => ?_) (fun c142 => ?_)
                  · skip
                    exact absurd c142 (by decide)
                  · skip
                    refine lv_aload_n hx hb dX6_read_145 rfl (lv_at hl 4 rfl) ?_
                    refine lv_iload_n hx hb dX6_read_146 rfl (lv_at hl 2 rfl) ?_
                    refine lv_iconst (v := 1) hx hb dX6_read_147 (by decide) ?_
                    refine k_isubN (x := i) (y := 1) hx hb (by omega) dX6_read_148 ?_
                    refine tw_put hx hb hts hown hG hP hS hM hF 12 (by decide) (hts _ q1632) (fun _ h9 => h9) rfl (ty := .int) (v := (nI (i - 1))) rfl rfl rfl rfl dX6_read_149 (fun w H locs hM hF hP hS => ?_)
                    refine lv_aload_n hx hb dX6_read_152 rfl (lv_at hl 4 rfl) ?_
                    refine lv_iload hx hb dX6_read_153 (lv_at hl 0 rfl) ?_
                    refine lv_if_eq (tgt := 162) hx hb dX6_read_155 (by decide) (fun c155 => ?_) (fun c155 => ?_)
                    · skip
                      exact absurd c155 (by decide)
                    · skip
                      refine lv_iconst (v := 2) hx hb dX6_read_158 (by decide) ?_
                      refine lv_goto (tgt := 163) hx hb dX6_read_159 (by decide) ?_
                      refine tw_put hx hb hts hown hG hP hS hM hF 13 (by decide) (hts _ q1633) (fun _ h9 => h9) rfl (ty := .int) (v := 2) rfl rfl rfl rfl dX6_read_163 (fun w H locs hM hF hP hS => ?_)
                      refine lv_iconst (v := 0) hx hb dX6_read_166 (by decide) ?_
                      exact k_iret hx hb hr hlocks hQ hP hS (by omega) (by omega) dX6_read_167 (⟨_, _, ⟨T9, hT, Or.inr (Or.inr ⟨c7, by rw [hR]; exact hne, rfl, by rw [hR]; dsimp only; rw [← hr9]; first | rw [if_pos c130] | rw [if_neg c130], _, _, _, rfl⟩)⟩, hM, hF⟩)
            · skip
              refine lv_aload_n hx hb dX6_read_79 rfl (lv_at hl 3 rfl) ?_
              refine tw_get hx hb hts hown hG hP hM 13 (by decide) (hts _ q1633) (fun _ h9 => h9) (v := .int ((oC (va_up (va_up (va_up (va_up (va_up (va_up f 17 (nI T9.2.1)) 19 (nI T9.2.2.1)) 10 (-1)) 9 0) 13 0) 7 1) (c9, d9, 0)) 13)) rfl dX6_read_80 ?_
              refine k_top (y := c9) (oC_13) ?_
              refine lv_if_ne (tgt := 100) hx hb dX6_read_83 (by decide) (fun c83 => ?_) (fun c83 => ?_)
              · skip
                refine lv_aload_n hx hb dX6_read_100 rfl (lv_at hl 3 rfl) ?_
                refine lv_iconst (v := 0) hx hb dX6_read_101 (by decide) ?_
                refine tw_put hx hb hts hown hG hP hS hM hF 7 (by decide) (hts _ q1627) (fun _ h9 => h9) rfl (ty := .boolean) (v := 0) rfl rfl rfl rfl dX6_read_102 (fun w H locs hM hF hP hS => ?_)
                refine lv_aload_n hx hb dX6_read_105 rfl (lv_at hl 3 rfl) ?_
                refine tw_get hx hb hts hown hG hP hM 13 (by decide) (hts _ q1633) (fun _ h9 => h9) (v := .int ((oC (va_up (va_up (va_up (va_up (va_up (va_up f 17 (nI T9.2.1)) 19 (nI T9.2.2.1)) 10 (-1)) 9 0) 13 0) 7 1) (c9, d9, 0)) 13)) rfl dX6_read_106 ?_
                refine k_top (y := c9) (oC_13) ?_
                refine lv_if_le (tgt := 168) hx hb dX6_read_109 (by decide) (fun c109 => ?_) (fun c109 => ?_)
                · skip
                  have h09 : c9 = 0 := Int32.le_antisymm c109 hc0
                  refine lv_aload_n hx hb dX6_read_168 rfl (lv_at hl 3 rfl) ?_
                  refine lv_aload_n hx hb dX6_read_169 rfl (lv_at hl 3 rfl) ?_
                  refine tw_get hx hb hts hown hG hP hM 3 (by decide) (hts _ q1623) (fun _ h9 => h9) (v := .ref (ad 3)) rfl dX6_read_170 ?_
                  refine tw_cW hx hb hml hown hts (CX6_keeps3 l0 E w h ad (va_up (oC (va_up (va_up (va_up (va_up (va_up (va_up f 17 (nI T9.2.1)) 19 (nI T9.2.2.1)) 10 (-1)) 9 0) 13 0) 7 1) (c9, d9, 0)) 7 0) (va_up (va_up (va_up (va_up (va_up (va_up a 18 T9.2.2.2) 3 (va_cpy (a 0) (a 3) 0 0 116)) 0 g9) 14 x9) 15 y9) 16 z9) ch hM ((oC_at (by decide) (by decide) (by decide)).trans hc) (by omega)) (cwV 1 hts (lw_V q1699 q1701 qs36 q81 q1702) rfl rfl rfl dyX6_keeps ⟨Nat.le_of_ble_eq_true rfl, Nat.le_of_ble_eq_true rfl⟩) hG hP hS hM hF (As := [.ref (ad 3)]) (rest := []) rfl hl.1 rfl (lv_room (Nat.le_of_ble_eq_true rfl)) dX6_read_173 ⟨by omega, by omega⟩ (fun r173 f173 a173 w H locs hp hM hF hP hS => ?_)
                  obtain ⟨hp1, hp2⟩ := hp
                  have hM := hM.ofF hp1 hp2
                  have hM : tM E w h ad (va_up (va_up (oC (va_up (va_up (va_up (va_up (va_up (va_up f 17 (nI T9.2.1)) 19 (nI T9.2.2.1)) 10 (-1)) 9 0) 13 0) 7 1) (c9, d9, 0)) 7 0) 6 (tC6 0 ch)) (va_up (va_up (va_up (va_up (va_up (va_up (va_up a 18 T9.2.2.2) 3 (va_cpy (a 0) (a 3) 0 0 116)) 0 g9) 14 x9) 15 y9) 16 z9) 1 (tC1 0 (a 1) (va_cpy (a 0) (a 3) 0 0 116) ch)) := hM
                  refine lv_aload_n hx hb dX6_read_176 rfl (lv_at hl 3 rfl) ?_
                  refine tw_get hx hb hts hown hG hP hM 19 (by decide) (hts _ q1639) (fun _ h9 => h9) (v := .int ((oC (va_up (va_up (va_up (va_up (va_up (va_up f 17 (nI T9.2.1)) 19 (nI T9.2.2.1)) 10 (-1)) 9 0) 13 0) 7 1) (c9, d9, 0)) 19)) rfl dX6_read_177 ?_
                  refine k_top (y := (nI T9.2.2.1)) ((oC_at (by decide) (by decide) (by decide)).trans rfl) ?_
                  obtain ⟨_, hv1⟩ : c9 = 0 ∧ tRo T9.2.2.2 (T9.2.2.1 - i) i g9 = (tRo T9.2.2.2 T9.2.2.1 0 (a 0)) := by rcases hv with e | ⟨e, _⟩; exact e; exact absurd h09 e
                  have him : i = T9.2.2.1 := by first | omega | exact absurd h09 c83
                  rw [him, Nat.sub_self, tRo] at hv1
                  exact k_iret hx hb hr hlocks hQ hP hS (by omega) (by omega) dX6_read_180 (⟨_, _, ⟨T9, hT, Or.inr (Or.inl ⟨c7, by rw [← hv1], rfl, by rw [h09, oC_ok], _, _, _, by rw [← hv1]⟩)⟩, hM, hF⟩)
                · skip
                  obtain ⟨hne, hi0, hr9, hR⟩ : ¬ c9 = 0 ∧ 0 < i ∧ r9 = rCy T9.2.2.2 (5 * (i - 1)) ∧ (tRo T9.2.2.2 T9.2.2.1 0 (a 0)) = (i, (c9, d9, e9, g9)) := by rcases hv with ⟨e, _⟩ | e; exact absurd (by rw [e]; exact Int32.le_refl 0) c109; exact e
                  refine lv_aload_n hx hb dX6_read_112 rfl (lv_at hl 3 rfl) ?_
                  refine tw_get hx hb hts hown hG hP hM 3 (by decide) (hts _ q1623) (fun _ h9 => h9) (v := .ref (ad 3)) rfl dX6_read_113 ?_
                  refine lv_iconst (v := 0) hx hb dX6_read_116 (by decide) ?_
                  refine lv_aload_n hx hb dX6_read_117 rfl (lv_at hl 3 rfl) ?_
                  refine tw_get hx hb hts hown hG hP hM 0 (by decide) (hts _ q1620) (fun _ h9 => h9) (v := .ref (ad 0)) rfl dX6_read_118 ?_
                  refine lv_iconst (v := 0) hx hb dX6_read_121 (by decide) ?_
                  refine tw_cWS hx hb hml hown hts (CX6_copies l0 E w h ad (va_up (oC (va_up (va_up (va_up (va_up (va_up (va_up f 17 (nI T9.2.1)) 19 (nI T9.2.2.1)) 10 (-1)) 9 0) 13 0) 7 1) (c9, d9, 0)) 7 0) (va_up (va_up (va_up (va_up (va_up (va_up a 18 T9.2.2.2) 3 (va_cpy (a 0) (a 3) 0 0 116)) 0 g9) 14 x9) 15 y9) 16 z9) 3 0 0 0 hM (by decide) (by decide) (by decide) (by decide) (by decide)) (va_cwS 4 hts (lw_S q1703 q1704 q81 q1705) rfl rfl rfl dyX6_copies ⟨Nat.le_of_ble_eq_true rfl, Nat.le_of_ble_eq_true rfl⟩) hG hP hS hF (As := [.ref (ad 3), .int 0, .ref (ad 0), .int 0]) (rest := []) rfl hl.1 rfl (lv_room (Nat.le_of_ble_eq_true rfl)) dX6_read_122 ⟨by omega, by omega⟩ (fun r122 f122 a122 w H locs hp hM hF hP hS => ?_)
                  obtain ⟨hp1, hp2⟩ := hp
                  have hM := hM.ofF hp1 hp2
                  have hM : tM E w h ad (va_up (oC (va_up (va_up (va_up (va_up (va_up (va_up f 17 (nI T9.2.1)) 19 (nI T9.2.2.1)) 10 (-1)) 9 0) 13 0) 7 1) (c9, d9, 0)) 7 0) (va_up (va_up (va_up (va_up (va_up (va_up (va_up a 18 T9.2.2.2) 3 (va_cpy (a 0) (a 3) 0 0 116)) 0 g9) 14 x9) 15 y9) 16 z9) 0 (va_cpy (va_cpy (a 0) (a 3) 0 0 116) g9 0 0 116)) := hM
                  have hM : tM E w h ad (va_up (oC (va_up (va_up (va_up (va_up (va_up (va_up f 17 (nI T9.2.1)) 19 (nI T9.2.2.1)) 10 (-1)) 9 0) 13 0) 7 1) (c9, d9, 0)) 7 0) (va_up (va_up (va_up (va_up (va_up (va_up a 18 T9.2.2.2) 3 (va_cpy (a 0) (a 3) 0 0 116)) 0 (va_cpy (va_cpy (a 0) (a 3) 0 0 116) g9 0 0 116)) 14 x9) 15 y9) 16 z9) := hM.of (by rw [up_cm _ 0 16 _ _ (by decide), up_cm _ 0 15 _ _ (by decide), up_cm _ 0 14 _ _ (by decide), bx_uu])
                  have hM : tM E w h ad (va_up (oC (va_up (va_up (va_up (va_up (va_up (va_up f 17 (nI T9.2.1)) 19 (nI T9.2.2.1)) 10 (-1)) 9 0) 13 0) 7 1) (c9, d9, 0)) 7 0) (va_up (va_up (va_up (va_up (va_up (va_up a 18 T9.2.2.2) 3 (va_cpy (a 0) (a 3) 0 0 116)) 0 (a 0)) 14 x9) 15 y9) 16 z9) := hM.of (by rw [cpy_back hgi])
                  refine lv_aload_n hx hb dX6_read_125 rfl (lv_at hl 3 rfl) ?_
                  refine tw_get hx hb hts hown hG hP hM 13 (by decide) (hts _ q1633) (fun _ h9 => h9) (v := .int ((oC (va_up (va_up (va_up (va_up (va_up (va_up f 17 (nI T9.2.1)) 19 (nI T9.2.2.1)) 10 (-1)) 9 0) 13 0) 7 1) (c9, d9, 0)) 13)) rfl dX6_read_126 ?_
                  refine k_top (y := c9) (oC_13) ?_
                  refine lv_iload_n hx hb dX6_read_129 rfl (lv_at hl 0 rfl) ?_
                  refine lv_icmp_ne (tgt := 137) hx hb dX6_read_130 (by decide) (fun c130 => ?_) (fun c130 => ?_)
                  · skip
                    refine lv_iconst (v := 0) hx hb dX6_read_137 (by decide) ?_
                    refine lv_istore (lv' := [(4, .int 0), (3, .int r9), (2, .int (nI i)), (1, .int (bI T9.1)), (0, .ref h)]) hx hb dX6_read_138 hl (by decide) rfl (fun ls hl => ?_)
                    refine lv_iload hx hb dX6_read_140 (lv_at hl 0 rfl) ?_
                    refine lv_if_eq (tgt := 152) hx hb dX6_read_142 (by decide) (fun c142 => ?_) (fun c142 => ?_)
                    · skip
                      refine lv_aload_n hx hb dX6_read_152 rfl (lv_at hl 4 rfl) ?_
                      refine lv_iload hx hb dX6_read_153 (lv_at hl 0 rfl) ?_
                      refine lv_if_eq (tgt := 162) hx hb dX6_read_155 (by decide) (fun c155 => ?_) (fun c155 => ?_)
                      · skip
                        refine lv_iconst (v := 1) hx hb dX6_read_162 (by decide) ?_
                        refine tw_put hx hb hts hown hG hP hS hM hF 13 (by decide) (hts _ q1633) (fun _ h9 => h9) rfl (ty := .int) (v := 1) rfl rfl rfl rfl dX6_read_163 (fun w H locs hM hF hP hS => ?_)
                        refine lv_iconst (v := 0) hx hb dX6_read_166 (by decide) ?_
                        exact k_iret hx hb hr hlocks hQ hP hS (by omega) (by omega) dX6_read_167 (⟨_, _, ⟨T9, hT, Or.inr (Or.inr ⟨c7, by rw [hR]; exact hne, rfl, by rw [hR]; dsimp only; rw [← hr9]; first | rw [if_pos c130] | rw [if_neg c130], _, _, _, rfl⟩)⟩, hM, hF⟩)
                      · skip
                        exact absurd c155 (by decide)
                    · skip
                      exact absurd c142 (by decide)
                  · skip
                    refine lv_iconst (v := 1) hx hb dX6_read_133 (by decide) ?_
                    refine lv_goto (tgt := 138) hx hb dX6_read_134 (by decide) ?_
                    refine lv_istore (lv' := [(4, .int 1), (3, .int r9), (2, .int (nI i)), (1, .int (bI T9.1)), (0, .ref h)]) hx hb dX6_read_138 hl (by decide) rfl (fun ls hl => ?_)
                    refine lv_iload hx hb dX6_read_140 (lv_at hl 0 rfl) ?_
                    refine lv_if_eq (tgt := 152) hx hb dX6_read_142 (by decide) (fun c142 => ?_) (fun c142 => ?_)
                    · skip
                      exact absurd c142 (by decide)
                    · skip
                      refine lv_aload_n hx hb dX6_read_145 rfl (lv_at hl 4 rfl) ?_
                      refine lv_iload_n hx hb dX6_read_146 rfl (lv_at hl 2 rfl) ?_
                      refine lv_iconst (v := 1) hx hb dX6_read_147 (by decide) ?_
                      refine k_isubN (x := i) (y := 1) hx hb (by omega) dX6_read_148 ?_
                      refine tw_put hx hb hts hown hG hP hS hM hF 12 (by decide) (hts _ q1632) (fun _ h9 => h9) rfl (ty := .int) (v := (nI (i - 1))) rfl rfl rfl rfl dX6_read_149 (fun w H locs hM hF hP hS => ?_)
                      refine lv_aload_n hx hb dX6_read_152 rfl (lv_at hl 4 rfl) ?_
                      refine lv_iload hx hb dX6_read_153 (lv_at hl 0 rfl) ?_
                      refine lv_if_eq (tgt := 162) hx hb dX6_read_155 (by decide) (fun c155 => ?_) (fun c155 => ?_)
                      · skip
                        exact absurd c155 (by decide)
                      · skip
                        refine lv_iconst (v := 2) hx hb dX6_read_158 (by decide) ?_
                        refine lv_goto (tgt := 163) hx hb dX6_read_159 (by decide) ?_
                        refine tw_put hx hb hts hown hG hP hS hM hF 13 (by decide) (hts _ q1633) (fun _ h9 => h9) rfl (ty := .int) (v := 2) rfl rfl rfl rfl dX6_read_163 (fun w H locs hM hF hP hS => ?_)
                        refine lv_iconst (v := 0) hx hb dX6_read_166 (by decide) ?_
                        exact k_iret hx hb hr hlocks hQ hP hS (by omega) (by omega) dX6_read_167 (⟨_, _, ⟨T9, hT, Or.inr (Or.inr ⟨c7, by rw [hR]; exact hne, rfl, by rw [hR]; dsimp only; rw [← hr9]; first | rw [if_pos c130] | rw [if_neg c130], _, _, _, rfl⟩)⟩, hM, hF⟩)
              · skip
                refine lv_aload_n hx hb dX6_read_86 rfl (lv_at hl 3 rfl) ?_
                refine lv_iconst (v := 5) hx hb dX6_read_87 (by decide) ?_
                refine lv_iload_n hx hb dX6_read_88 rfl (lv_at hl 1 rfl) ?_
                refine k_imulN (x := 5) (y := i) hx hb dX6_read_89 ?_
                refine tw_cW hx hb hml hown hts (CX6_carries l0 E w h ad (oC (va_up (va_up (va_up (va_up (va_up (va_up f 17 (nI T9.2.1)) 19 (nI T9.2.2.1)) 10 (-1)) 9 0) 13 0) 7 1) (c9, d9, 0)) (va_up (va_up (va_up (va_up (va_up (va_up a 18 T9.2.2.2) 3 (va_cpy (a 0) (a 3) 0 0 116)) 0 g9) 14 x9) 15 y9) 16 z9) i ch u hM (by omega) ((oC_at (by decide) (by decide) (by decide)).trans rfl) ((oC_at (by decide) (by decide) (by decide)).trans hc) (by omega) (by omega) hg25) (cwV 1 hts (lw_V q1904 q1906 qs65 q81 q1907) rfl rfl rfl dyX6_carries ⟨Nat.le_of_ble_eq_true rfl, Nat.le_of_ble_eq_true rfl⟩) hG hP hS hM hF (As := [.int (nI (5 * i))]) (rest := []) rfl hl.1 rfl (lv_room (Nat.le_of_ble_eq_true rfl)) dX6_read_90 ⟨by omega, by omega⟩ (fun r90 f90 a90 w H locs hp hM hF hP hS => ?_)
                obtain ⟨hp0, x8, y8, z8, hp1, hp2⟩ := hp
                obtain ⟨Q9, hQ9⟩ : ∃ z9 : q4, z9 = qCy g9 u T9.2.2.2 (5 * i) := ⟨_, rfl⟩
                have hp1 : f90 = oC (oC (va_up (va_up (va_up (va_up (va_up (va_up f 17 (nI T9.2.1)) 19 (nI T9.2.2.1)) 10 (-1)) 9 0) 13 0) 7 1) (c9, d9, 0)) (Q9.1, Q9.2.1, 0) := by rw [hQ9]; exact hp1
                rw [c83, oC_oC] at hp1
                obtain ⟨⟨hq0, _⟩, ⟨u8, ⟨hu1, hu2⟩, hu3⟩, hu4⟩ : qG g9 u Q9 := by rw [hQ9]; exact qCy_G hg25 (by omega) _ _
                have hp2 : a90 = va_up (va_up (va_up (va_up (va_up (va_up (va_up (va_up (va_up (va_up a 18 T9.2.2.2) 3 (va_cpy (a 0) (a 3) 0 0 116)) 0 g9) 14 x9) 15 y9) 16 z9) 0 Q9.2.2.2) 14 x8) 15 y8) 16 z8 := by rw [hQ9]; exact hp2
                have hM : tM E w h ad (oC (va_up (va_up (va_up (va_up (va_up (va_up f 17 (nI T9.2.1)) 19 (nI T9.2.2.1)) 10 (-1)) 9 0) 13 0) 7 1) (Q9.1, Q9.2.1, 0)) (va_up (va_up (va_up (va_up (va_up (va_up a 18 T9.2.2.2) 3 (va_cpy (a 0) (a 3) 0 0 116)) 0 Q9.2.2.2) 14 x8) 15 y8) 16 z8) := hM.ofF hp1 (hp2.trans (by funext q9; simp only [va_up]; (repeat' split) <;> first | rfl | omega | (subst_vars; rfl)))
                have hvv := tRo_step (Q := Q9) (by omega) hg25 (by omega) hQ9 (by rcases hv with ⟨_, e⟩ | ⟨e, _⟩; exact e; exact absurd c83 e)
                refine lv_istore_n (lv' := [(3, .int r90), (2, .int (nI i)), (1, .int (bI T9.1)), (0, .ref h)]) hx hb dX6_read_93 rfl hl (by decide) rfl (fun ls hl => ?_)
                refine lv_iinc (v := (nI (i + 1))) (lv' := [(2, .int (nI (i + 1))), (3, .int r90), (1, .int (bI T9.1)), (0, .ref h)]) hx hb dX6_read_94 hl (k := 1) rfl (nI_add i 1) (by decide) rfl (fun ls hl => ?_)
                refine lv_goto (tgt := 71) hx hb dX6_read_97 (by decide) ?_
                have hl := lv_sub (l' := [(3, .int r90), (2, .int (nI (i + 1))), (1, .int (bI T9.1)), (0, .ref h)]) hl [1, 0, 2, 3] rfl
                exact ih_71 (i + 1) u8 Q9.1 Q9.2.1 Q9.2.2.1 r90 Q9.2.2.2 x8 y8 z8 (by omega) (by omega) hu3 (fun j hj => (hu4 j hj).trans (hgi j hj)) hq0 (by rcases hvv with ⟨e1, e2⟩ | ⟨e1, e2⟩; exact Or.inl ⟨e1, e2⟩; exact Or.inr ⟨e1, by omega, hp0, e2⟩) (by omega) _ _ _ _ hM hF hP hS hl
        have hl : lv_has ls 5 [(3, .int 0), (2, .int (nI 0)), (1, .int (bI T9.1)), (0, .ref h)] := hl
        have hM : tM E w h ad (oC (va_up (va_up (va_up (va_up (va_up (va_up f 17 (nI T9.2.1)) 19 (nI T9.2.2.1)) 10 (-1)) 9 0) 13 0) 7 1) (0, 0, 0)) (va_up (va_up (va_up (va_up (va_up (va_up a 18 T9.2.2.2) 3 (va_cpy (a 0) (a 3) 0 0 116)) 0 (a 0)) 14 (a 14)) 15 (a 15)) 16 (a 16)) := hM.ofF ((oC_ok (f := (va_up (va_up (va_up (va_up (va_up (va_up f 17 (nI T9.2.1)) 19 (nI T9.2.2.1)) 10 (-1)) 9 0) 13 0) 7 1))).trans (up_same (va_up (va_up (va_up (va_up (va_up (va_up f 17 (nI T9.2.1)) 19 (nI T9.2.2.1)) 10 (-1)) 9 0) 13 0) 7 1) 13)).symm (by funext q9; simp only [va_up]; (repeat' split) <;> first | rfl | omega | (subst_vars; rfl))
        exact hloop_71 _ 0 mn 0 0 0 0 (a 0) (a 14) (a 15) (a 16) (by omega) (by omega) hm (fun _ _ => rfl) (Int32.le_refl 0) (Or.inl ⟨rfl, rfl⟩) (Nat.lt_succ_self _) _ _ _ _ hM hF hP hS hl
      · skip
        exact absurd c39 (by decide)
