/-! THE TWIN, 7: rounds -/
set_option maxRecDepth 100000
abbrev rmCX6_round : Room := { frames := 8, cells := 0, slots := 0, locals := 185 }
theorem dyX6_round : yX6_round.cls = RX6 ∧ yX6_round.cls ≠ "java/lang/invoke/MethodHandle" ∧ yX6_round.cls ≠ "java/lang/invoke/VarHandle" ∧ (parseMethodDescriptor yX6_round.desc).map (fun d => d.parameters.length) = some 1 := by decide +kernel
set_option maxHeartbeats 4000000 in
theorem CX6_round (l0 : Launch) (E : gE) (w : wd) (h : Nat) (ad : Nat → Nat) (f : Nat → Int32) (a : Nat → Nat → Int32) (x : Int32) (ch : Nat) (mn : Nat) (hM : tM E w h ad f a) (hc : (f 6) = nI ch) (hc8 : ch ≤ 8) (hmn : mn ≤ 6) (hm : (a 0) 25 = nI mn) : kC l0 yX6_round (ws_ yX6_round cX6_round 4 (some .int)) rmCX6_round 0 0 mI E w [.ref h, .int x] (fun r w' => ∃ f' a', (∃ x9 y9 z9, r = (qRound (a 0) mn x).2.2.1 ∧ f' = oF f ch (qRound (a 0) mn x) ∧ a' = va_up (va_up (va_up (oA f a ch (qRound (a 0) mn x)) 14 x9) 15 y9) 16 z9) ∧ tM E w' h ad f' a' ∧ fr tP w w') := by
  refine k_open (cc := cX6_round) (maxL := 4) (ret := (some .int)) (by decide) rfl (Nat.le_of_ble_eq_true rfl) ?_
  intro p e s m args below meth c ls Q hx hb hr hml hown hts hlocks hname hQ hG hP hl hS
  have hl : lv_has ls 4 [(0, .ref h), (1, .int x)] := hl
  obtain ⟨w0, hw0⟩ : ∃ z, z = w := ⟨_, rfl⟩
  have hF : fr tP w0 w := by rw [hw0]; exact fr.rf
  rw [← hw0] at hQ
  refine lv_aload_n hx hb dX6_round_0 rfl (lv_at hl 0 rfl) ?_
  refine lv_iload_n hx hb dX6_round_1 rfl (lv_at hl 1 rfl) ?_
  refine lv_iconst (v := 1) hx hb dX6_round_2 (by decide) ?_
  refine lv_bipush (v := 30) hx hb dX6_round_3 (by decide) ?_
  refine k_cP hx hb hml hown hts (val := (bI (tin x 1 30))) (CX6_in l0 E w x 1 30 ) (va_cwS 3 hts (lw_S q1692 q1693 q81 q1694) rfl rfl rfl dyX6_in ⟨Nat.le_of_ble_eq_true rfl, Nat.le_of_ble_eq_true rfl⟩) hG hP hS (As := [.int x, .int 1, .int 30]) (rest := [.ref h]) rfl hl.1 rfl (lv_room (Nat.le_of_ble_eq_true rfl)) dX6_round_5 ⟨by omega, by omega⟩ (fun H locs hP hS => ?_)
  refine k_ifeqB (x := tin x 1 30) (tgt := 15) hx hb dX6_round_8 (by decide) (fun c8 => ?_) (fun c8 => ?_)
  · skip
    refine lv_iconst (v := 1) hx hb dX6_round_15 (by decide) ?_
    refine tw_cW hx hb hml hown hts (CX6_fails l0 E w h ad f a 1 hM ) (cwV 1 hts (lw_V q1695 q1697 qs35 q81 q1698) rfl rfl rfl dyX6_fails ⟨Nat.le_of_ble_eq_true rfl, Nat.le_of_ble_eq_true rfl⟩) hG hP hS hM hF (As := [.int 1]) (rest := []) rfl hl.1 rfl (lv_room (Nat.le_of_ble_eq_true rfl)) dX6_round_16 ⟨by omega, by omega⟩ (fun r16 f16 a16 w H locs hp hM hF hP hS => ?_)
    obtain ⟨hp0, hp1, hp2⟩ := hp
    have hM := hM.ofF hp1 hp2
    have hM : tM E w h ad (va_up f 13 1) a := hM
    refine k_top (y := (bI (decide (0 < 1)))) hp0 ?_
    refine k_ifeqB (x := decide (0 < 1)) (tgt := 24) hx hb dX6_round_19 (by decide) (fun c19 => ?_) (fun c19 => ?_)
    · skip
      exact absurd c19 (by decide)
    · skip
      refine lv_iconst (v := 0) hx hb dX6_round_22 (by decide) ?_
      have hq : qRound (a 0) mn x = (1, 0, 0, (a 0)) := by simp [qRound, c8, c19]
      exact k_iret hx hb hr hlocks hQ hP hS (by omega) (by omega) dX6_round_23 (⟨_, _, ⟨(a 14), (a 15), (a 16), by rw [hq], by rw [hq, oF_no (by decide)], by rw [hq, oA_no (by decide)]; exact (up_self3 a).symm⟩, hM, hF⟩)
  · skip
    refine lv_iconst (v := 0) hx hb dX6_round_11 (by decide) ?_
    refine lv_goto (tgt := 16) hx hb dX6_round_12 (by decide) ?_
    refine tw_cW hx hb hml hown hts (CX6_fails l0 E w h ad f a 0 hM ) (cwV 1 hts (lw_V q1695 q1697 qs35 q81 q1698) rfl rfl rfl dyX6_fails ⟨Nat.le_of_ble_eq_true rfl, Nat.le_of_ble_eq_true rfl⟩) hG hP hS hM hF (As := [.int 0]) (rest := []) rfl hl.1 rfl (lv_room (Nat.le_of_ble_eq_true rfl)) dX6_round_16 ⟨by omega, by omega⟩ (fun r16 f16 a16 w H locs hp hM hF hP hS => ?_)
    obtain ⟨hp0, hp1, hp2⟩ := hp
    have hM := hM.ofF hp1 hp2
    have hM : tM E w h ad (va_up f 13 0) a := hM
    refine k_top (y := (bI (decide (0 < 0)))) hp0 ?_
    refine k_ifeqB (x := decide (0 < 0)) (tgt := 24) hx hb dX6_round_19 (by decide) (fun c19 => ?_) (fun c19 => ?_)
    · skip
      obtain ⟨k, hk, rfl⟩ := tin_M (m := 1) (n := 30) (by decide) (by decide) c8
      have ck : (nI k).toNatClampNeg = k := nI_clamp (by omega)
      refine lv_aload_n hx hb dX6_round_24 rfl (lv_at hl 0 rfl) ?_
      refine lv_aload_n hx hb dX6_round_25 rfl (lv_at hl 0 rfl) ?_
      refine tw_get hx hb hts hown hG hP hM 0 (by decide) (hts _ q1620) (fun _ h9 => h9) (v := .ref (ad 0)) rfl dX6_round_26 ?_
      refine tw_cW hx hb hml hown hts (CX6_keeps0 l0 E w h ad (va_up f 13 0) a ch hM hc (by omega)) (cwV 1 hts (lw_V q1699 q1701 qs36 q81 q1702) rfl rfl rfl dyX6_keeps ⟨Nat.le_of_ble_eq_true rfl, Nat.le_of_ble_eq_true rfl⟩) hG hP hS hM hF (As := [.ref (ad 0)]) (rest := []) rfl hl.1 rfl (lv_room (Nat.le_of_ble_eq_true rfl)) dX6_round_29 ⟨by omega, by omega⟩ (fun r29 f29 a29 w H locs hp hM hF hP hS => ?_)
      obtain ⟨hp1, hp2⟩ := hp
      have hM := hM.ofF hp1 hp2
      have hM : tM E w h ad (va_up (va_up f 13 0) 6 (tC6 (f 7) ch)) (va_up a 1 (tC1 (f 7) (a 1) (a 0) ch)) := hM
      refine lv_iconst (v := 0) hx hb dX6_round_32 (by decide) ?_
      refine lv_istore_n (lv' := [(2, .int 0), (0, .ref h), (1, .int (nI k))]) hx hb dX6_round_33 rfl hl (by decide) rfl (fun ls hl => ?_)
      refine lv_iconst (v := 0) hx hb dX6_round_34 (by decide) ?_
      refine lv_istore_n (lv' := [(3, .int 0), (2, .int 0), (0, .ref h), (1, .int (nI k))]) hx hb dX6_round_35 rfl hl (by decide) rfl (fun ls hl => ?_)
      have hloop_36 : ∀ (n9_36 : Nat) (q : Nat) (x9 : Nat → Int32) (y9 : Nat → Int32) (z9 : Nat → Int32), (q ≤ k) → (k - q) < n9_36 → ∀ (w : wd) (H : Heap) (locs : List Loc) (ls : Array Slot), tM E w h ad (va_up (va_up f 13 0) 6 (tC6 (f 7) ch)) (va_up (va_up (va_up (va_up (va_up a 1 (tC1 (f 7) (a 1) (a 0) ch)) 0 (tRn (a 0) mn q)) 14 x9) 15 y9) 16 z9) → fr tP w0 w → wP E w H → va_S (gA E) s.heap H locs → lv_has ls 4 [(3, .int (nI q)), (2, .int (tRc (a 0) mn q)), (0, .ref h), (1, .int (nI k))] → W p l0 e rmCX6_round s m args below meth c H locs 0 0 Q (F0 m 36 ls []) := by
        intro n9_36
        induction n9_36 with
        | zero => intro q x9 y9 z9 hq9 hn; exact absurd hn (Nat.not_lt_zero _)
        | succ n9_36 ih_36 =>
          intro q x9 y9 z9 hq9 hn_36 w H locs ls hM hF hP hS hl
          refine lv_iload_n hx hb dX6_round_36 rfl (lv_at hl 0 rfl) ?_
          refine lv_iload_n hx hb dX6_round_37 rfl (lv_at hl 3 rfl) ?_
          refine k_icmp_geN (x := q) (y := k) (tgt := 54) hx hb (by omega) (by omega) dX6_round_38 (by decide) (fun c38 => ?_) (fun c38 => ?_)
          · skip
            refine lv_iload_n hx hb dX6_round_54 rfl (lv_at hl 1 rfl) ?_
            have hq : qRound (a 0) mn (nI k) = (0, 0, (tRc (a 0) mn q), (tRn (a 0) mn q)) := by simp [qRound, ck, c8, show q = k from by omega]
            exact k_iret hx hb hr hlocks hQ hP hS (by omega) (by omega) dX6_round_55 (⟨_, _, ⟨x9, y9, z9, by rw [hq], by rw [hq, oF_ok], by rw [hq, oA_ok]⟩, hM, hF⟩)
          · skip
            refine lv_iload_n hx hb dX6_round_41 rfl (lv_at hl 1 rfl) ?_
            refine lv_aload_n hx hb dX6_round_42 rfl (lv_at hl 2 rfl) ?_
            refine tw_cW hx hb hml hown hts (CX6_passes l0 E w h ad (va_up (va_up f 13 0) 6 (tC6 (f 7) ch)) (va_up (va_up (va_up (va_up (va_up a 1 (tC1 (f 7) (a 1) (a 0) ch)) 0 (tRn (a 0) mn q)) 14 x9) 15 y9) 16 z9) mn hM (by omega) (show tRn (a 0) mn q 25 = nI mn from (tRn_25 q).trans hm)) (cwV 0 hts (lw_V q1836 q1838 qs54 q81 q1839) rfl rfl rfl dyX6_passes ⟨Nat.le_of_ble_eq_true rfl, Nat.le_of_ble_eq_true rfl⟩) hG hP hS hM hF (As := []) (rest := [.int (tRc (a 0) mn q)]) rfl hl.1 rfl (lv_room (Nat.le_of_ble_eq_true rfl)) dX6_round_43 ⟨by omega, by omega⟩ (fun r43 f43 a43 w H locs hp hM hF hP hS => ?_)
            obtain ⟨hp0, hp1, hp2⟩ := hp
            have hM := hM.ofF hp1 hp2
            have hM : tM E w h ad (va_up (va_up f 13 0) 6 (tC6 (f 7) ch)) (va_up (va_up (va_up (va_up (va_up (va_up (va_up (va_up (va_up a 1 (tC1 (f 7) (a 1) (a 0) ch)) 0 (tRn (a 0) mn q)) 14 x9) 15 y9) 16 z9) 0 (tRd (tRn (a 0) mn q) mn x9 y9 z9)) 14 (tCA (tR1 (tRn (a 0) mn q) mn) mn x9 mn)) 15 (tCB (tR1 (tRn (a 0) mn q) mn) mn y9 mn)) 16 (tCC (tR1 (tRn (a 0) mn q) mn) mn z9 mn)) := hM
            have hM : tM E w h ad (va_up (va_up f 13 0) 6 (tC6 (f 7) ch)) (va_up (va_up (va_up (va_up (va_up a 1 (tC1 (f 7) (a 1) (a 0) ch)) 0 (tRd (tRn (a 0) mn q) mn x9 y9 z9)) 14 (tCA (tR1 (tRn (a 0) mn q) mn) mn x9 mn)) 15 (tCB (tR1 (tRn (a 0) mn q) mn) mn y9 mn)) 16 (tCC (tR1 (tRn (a 0) mn q) mn) mn z9 mn)) := hM.of (by rw [up_cm _ 0 16 _ _ (by decide), up_cm _ 0 15 _ _ (by decide), up_cm _ 0 14 _ _ (by decide), bx_uu, up_cm _ 14 16 _ _ (by decide), up_cm _ 14 15 _ _ (by decide), bx_uu, up_cm _ 15 16 _ _ (by decide), bx_uu, bx_uu])
            refine k_top (y := tNc (tDb (tR1 (tRn (a 0) mn q) mn) mn) mn) hp0 ?_
            refine lv_iadd hx hb dX6_round_46 ?_
            refine lv_istore_n (lv' := [(2, .int ((tRc (a 0) mn q) + tNc (tDb (tR1 (tRn (a 0) mn q) mn) mn) mn)), (3, .int (nI q)), (0, .ref h), (1, .int (nI k))]) hx hb dX6_round_47 rfl hl (by decide) rfl (fun ls hl => ?_)
            refine lv_iinc (v := (nI (q + 1))) (lv' := [(3, .int (nI (q + 1))), (2, .int ((tRc (a 0) mn q) + tNc (tDb (tR1 (tRn (a 0) mn q) mn) mn) mn)), (0, .ref h), (1, .int (nI k))]) hx hb dX6_round_48 hl (k := 1) rfl (nI_add q 1) (by decide) rfl (fun ls hl => ?_)
            refine lv_goto (tgt := 36) hx hb dX6_round_51 (by decide) ?_
            have hl : lv_has ls 4 [(3, .int (nI (q + 1))), (2, .int (tRc (a 0) mn (q + 1))), (0, .ref h), (1, .int (nI k))] := hl
            have hM : tM E w h ad (va_up (va_up f 13 0) 6 (tC6 (f 7) ch)) (va_up (va_up (va_up (va_up (va_up a 1 (tC1 (f 7) (a 1) (a 0) ch)) 0 (tRn (a 0) mn (q + 1))) 14 (tCA (tR1 (tRn (a 0) mn q) mn) mn x9 mn)) 15 (tCB (tR1 (tRn (a 0) mn q) mn) mn y9 mn)) 16 (tCC (tR1 (tRn (a 0) mn q) mn) mn z9 mn)) := hM.of (by rw [tRd_x]; rfl)
            exact ih_36 (q + 1) (tCA (tR1 (tRn (a 0) mn q) mn) mn x9 mn) (tCB (tR1 (tRn (a 0) mn q) mn) mn y9 mn) (tCC (tR1 (tRn (a 0) mn q) mn) mn z9 mn) (by omega) (by omega) _ _ _ _ hM hF hP hS hl
      have hl : lv_has ls 4 [(3, .int (nI 0)), (2, .int (tRc (a 0) mn 0)), (0, .ref h), (1, .int (nI k))] := hl
      have hM : tM E w h ad (va_up (va_up f 13 0) 6 (tC6 (f 7) ch)) (va_up (va_up (va_up (va_up (va_up a 1 (tC1 (f 7) (a 1) (a 0) ch)) 0 (tRn (a 0) mn 0)) 14 (a 14)) 15 (a 15)) 16 (a 16)) := hM.of (by funext q9; simp only [va_up]; (repeat' split) <;> first | rfl | omega | (subst_vars; rfl))
      exact hloop_36 _ 0 (a 14) (a 15) (a 16) (by omega) (Nat.lt_succ_self _) _ _ _ _ hM hF hP hS hl
    · skip
      exact absurd c19 (by decide)

abbrev rmCX6_cutIn : Room := { frames := 8, cells := 0, slots := 0, locals := 185 }
theorem dyX6_cutIn : yX6_cutIn.cls = RX6 ∧ yX6_cutIn.cls ≠ "java/lang/invoke/MethodHandle" ∧ yX6_cutIn.cls ≠ "java/lang/invoke/VarHandle" ∧ (parseMethodDescriptor yX6_cutIn.desc).map (fun d => d.parameters.length) = some 2 := by decide +kernel
set_option maxHeartbeats 4000000 in
theorem CX6_cutIn (l0 : Launch) (E : gE) (w : wd) (h : Nat) (ad : Nat → Nat) (f : Nat → Int32) (a : Nat → Nat → Int32) (x : Int32) (y : Int32) (mn : Nat) (hM : tM E w h ad f a) (hmn : mn ≤ 6) (hm : (a 0) 25 = nI mn) : kC l0 yX6_cutIn (ws_ yX6_cutIn cX6_cutIn 6 (some .int)) rmCX6_cutIn 0 0 mI E w [.ref h, .int x, .int y] (fun r w' => ∃ f' a', (∃ t9 x9 y9 z9, r = (qCin (a 0) mn x y).2.2 ∧ f' = oC f (qCin (a 0) mn x y) ∧ a' = va_up (va_up (va_up (va_up a 4 t9) 14 x9) 15 y9) 16 z9) ∧ tM E w' h ad f' a' ∧ fr tP w w') := by
  refine k_open (cc := cX6_cutIn) (maxL := 6) (ret := (some .int)) (by decide) rfl (Nat.le_of_ble_eq_true rfl) ?_
  intro p e s m args below meth c ls Q hx hb hr hml hown hts hlocks hname hQ hG hP hl hS
  have hl : lv_has ls 6 [(0, .ref h), (1, .int x), (2, .int y)] := hl
  obtain ⟨w0, hw0⟩ : ∃ z, z = w := ⟨_, rfl⟩
  have hF : fr tP w0 w := by rw [hw0]; exact fr.rf
  rw [← hw0] at hQ
  refine lv_aload_n hx hb dX6_cutIn_0 rfl (lv_at hl 0 rfl) ?_
  refine lv_aload_n hx hb dX6_cutIn_1 rfl (lv_at hl 0 rfl) ?_
  refine lv_iload_n hx hb dX6_cutIn_2 rfl (lv_at hl 1 rfl) ?_
  refine tw_cR hx hb hml hown hts (val := (bI (tKt (a 0) x))) (CX6_isKite l0 E w h ad f a x hM ) (cwV 1 hts (lw_V q1726 q1728 qs39 q81 q1729) rfl rfl rfl dyX6_isKite ⟨Nat.le_of_ble_eq_true rfl, Nat.le_of_ble_eq_true rfl⟩) hG hP hS hM (As := [.int x]) (rest := [.ref h]) rfl hl.1 rfl (lv_room (Nat.le_of_ble_eq_true rfl)) dX6_cutIn_3 ⟨by omega, by omega⟩ (fun H locs hP hS => ?_)
  refine k_ifneB (x := tKt (a 0) x) (tgt := 13) hx hb dX6_cutIn_6 (by decide) (fun c6 => ?_) (fun c6 => ?_)
  · skip
    refine lv_iload_n hx hb dX6_cutIn_13 rfl (lv_at hl 2 rfl) ?_
    refine lv_iconst (v := 1) hx hb dX6_cutIn_14 (by decide) ?_
    refine lv_bipush (v := 30) hx hb dX6_cutIn_15 (by decide) ?_
    refine k_cP hx hb hml hown hts (val := (bI (tin y 1 30))) (CX6_in l0 E w y 1 30 ) (va_cwS 3 hts (lw_S q1692 q1693 q81 q1694) rfl rfl rfl dyX6_in ⟨Nat.le_of_ble_eq_true rfl, Nat.le_of_ble_eq_true rfl⟩) hG hP hS (As := [.int y, .int 1, .int 30]) (rest := [.ref h]) rfl hl.1 rfl (lv_room (Nat.le_of_ble_eq_true rfl)) dX6_cutIn_17 ⟨by omega, by omega⟩ (fun H locs hP hS => ?_)
    refine k_ifeqB (x := tin y 1 30) (tgt := 27) hx hb dX6_cutIn_20 (by decide) (fun c20 => ?_) (fun c20 => ?_)
    · skip
      refine lv_iconst (v := 2) hx hb dX6_cutIn_27 (by decide) ?_
      refine tw_cW hx hb hml hown hts (CX6_fails l0 E w h ad f a 2 hM ) (cwV 1 hts (lw_V q1695 q1697 qs35 q81 q1698) rfl rfl rfl dyX6_fails ⟨Nat.le_of_ble_eq_true rfl, Nat.le_of_ble_eq_true rfl⟩) hG hP hS hM hF (As := [.int 2]) (rest := []) rfl hl.1 rfl (lv_room (Nat.le_of_ble_eq_true rfl)) dX6_cutIn_28 ⟨by omega, by omega⟩ (fun r28 f28 a28 w H locs hp hM hF hP hS => ?_)
      obtain ⟨hp0, hp1, hp2⟩ := hp
      have hM := hM.ofF hp1 hp2
      have hM : tM E w h ad (va_up f 13 2) a := hM
      refine k_top (y := (bI (decide (0 < 2)))) hp0 ?_
      refine k_ifeqB (x := decide (0 < 2)) (tgt := 36) hx hb dX6_cutIn_31 (by decide) (fun c31 => ?_) (fun c31 => ?_)
      · skip
        exact absurd c31 (by decide)
      · skip
        refine lv_iconst (v := 0) hx hb dX6_cutIn_34 (by decide) ?_
        have hq : qCin (a 0) mn x y = (2, 0, 0) := by simp [qCin, c6, c20, c31]
        exact k_iret hx hb hr hlocks hQ hP hS (by omega) (by omega) dX6_cutIn_35 (⟨_, _, ⟨(a 4), (a 14), (a 15), (a 16), by rw [hq], by rw [hq, oC_no (by decide)], (by rw [up_same, up_self3])⟩, hM, hF⟩)
    · skip
      refine lv_iconst (v := 0) hx hb dX6_cutIn_23 (by decide) ?_
      refine lv_goto (tgt := 28) hx hb dX6_cutIn_24 (by decide) ?_
      refine tw_cW hx hb hml hown hts (CX6_fails l0 E w h ad f a 0 hM ) (cwV 1 hts (lw_V q1695 q1697 qs35 q81 q1698) rfl rfl rfl dyX6_fails ⟨Nat.le_of_ble_eq_true rfl, Nat.le_of_ble_eq_true rfl⟩) hG hP hS hM hF (As := [.int 0]) (rest := []) rfl hl.1 rfl (lv_room (Nat.le_of_ble_eq_true rfl)) dX6_cutIn_28 ⟨by omega, by omega⟩ (fun r28 f28 a28 w H locs hp hM hF hP hS => ?_)
      obtain ⟨hp0, hp1, hp2⟩ := hp
      have hM := hM.ofF hp1 hp2
      have hM : tM E w h ad (va_up f 13 0) a := hM
      refine k_top (y := (bI (decide (0 < 0)))) hp0 ?_
      refine k_ifeqB (x := decide (0 < 0)) (tgt := 36) hx hb dX6_cutIn_31 (by decide) (fun c31 => ?_) (fun c31 => ?_)
      · skip
        obtain ⟨k, hk, rfl⟩ := tKt_of hm hmn c6
        have ck : (nI k).toNatClampNeg = k := nI_clamp (by omega)
        obtain ⟨n, hn, rfl⟩ := tin_M (m := 1) (n := 30) (by decide) (by decide) c20
        have cn : (nI n).toNatClampNeg = n := nI_clamp (by omega)
        refine lv_aload_n hx hb dX6_cutIn_36 rfl (lv_at hl 0 rfl) ?_
        refine lv_iload_n hx hb dX6_cutIn_37 rfl (lv_at hl 1 rfl) ?_
        refine tw_cR hx hb hml hown hts (val := (bI (tUp (a 0) k))) (CX6_isUp l0 E w h ad (va_up f 13 0) a k hM (by omega)) (cwV 1 hts (lw_V q1742 q1744 qs42 q81 q1745) rfl rfl rfl dyX6_isUp ⟨Nat.le_of_ble_eq_true rfl, Nat.le_of_ble_eq_true rfl⟩) hG hP hS hM (As := [.int (nI k)]) (rest := []) rfl hl.1 rfl (lv_room (Nat.le_of_ble_eq_true rfl)) dX6_cutIn_38 ⟨by omega, by omega⟩ (fun H locs hP hS => ?_)
        refine k_ifneB (x := tUp (a 0) k) (tgt := 51) hx hb dX6_cutIn_41 (by decide) (fun c41 => ?_) (fun c41 => ?_)
        · skip
          refine lv_aload_n hx hb dX6_cutIn_51 rfl (lv_at hl 0 rfl) ?_
          refine tw_get hx hb hts hown hG hP hM 0 (by decide) (hts _ q1620) (fun _ h9 => h9) (v := .ref (ad 0)) rfl dX6_cutIn_52 ?_
          refine lv_iconst (v := 0) hx hb dX6_cutIn_55 (by decide) ?_
          refine lv_aload_n hx hb dX6_cutIn_56 rfl (lv_at hl 0 rfl) ?_
          refine tw_get hx hb hts hown hG hP hM 4 (by decide) (hts _ q1624) (fun _ h9 => h9) (v := .ref (ad 4)) rfl dX6_cutIn_57 ?_
          refine lv_iconst (v := 0) hx hb dX6_cutIn_60 (by decide) ?_
          refine tw_cWS hx hb hml hown hts (CX6_copies l0 E w h ad (va_up f 13 0) a 0 0 4 0 hM (by decide) (by decide) (by decide) (by decide) (by decide)) (va_cwS 4 hts (lw_S q1703 q1704 q81 q1705) rfl rfl rfl dyX6_copies ⟨Nat.le_of_ble_eq_true rfl, Nat.le_of_ble_eq_true rfl⟩) hG hP hS hF (As := [.ref (ad 0), .int 0, .ref (ad 4), .int 0]) (rest := []) rfl hl.1 rfl (lv_room (Nat.le_of_ble_eq_true rfl)) dX6_cutIn_61 ⟨by omega, by omega⟩ (fun r61 f61 a61 w H locs hp hM hF hP hS => ?_)
          obtain ⟨hp1, hp2⟩ := hp
          have hM := hM.ofF hp1 hp2
          have hM : tM E w h ad (va_up f 13 0) (va_up a 4 (va_cpy (a 0) (a 4) 0 0 116)) := hM
          refine lv_iconst (v := 0) hx hb dX6_cutIn_64 (by decide) ?_
          refine lv_istore_n (lv' := [(3, .int 0), (0, .ref h), (1, .int (nI k)), (2, .int (nI n))]) hx hb dX6_cutIn_65 rfl hl (by decide) rfl (fun ls hl => ?_)
          refine lv_iconst (v := 0) hx hb dX6_cutIn_66 (by decide) ?_
          refine lv_istore (lv' := [(4, .int 0), (3, .int 0), (0, .ref h), (1, .int (nI k)), (2, .int (nI n))]) hx hb dX6_cutIn_67 hl (by decide) rfl (fun ls hl => ?_)
          have hloop_69 : ∀ (n9_69 : Nat) (q : Nat) (i : Nat) (s9 : Int32) (x9 : Nat → Int32) (y9 : Nat → Int32) (z9 : Nat → Int32), (q + i = n) → (tKn (a 0) mn k n q i = tKn (a 0) mn k n n 0) → q < n9_69 → ∀ (w : wd) (H : Heap) (locs : List Loc) (ls : Array Slot), tM E w h ad (va_up f 13 0) (va_up (va_up (va_up (va_up (va_up a 4 (va_cpy (a 0) (a 4) 0 0 116)) 0 (tRn (a 0) mn i)) 14 x9) 15 y9) 16 z9) → fr tP w0 w → wP E w H → va_S (gA E) s.heap H locs → lv_has ls 6 [(4, .int s9), (3, .int (nI i)), (0, .ref h), (1, .int (nI k)), (2, .int (nI n))] → W p l0 e rmCX6_cutIn s m args below meth c H locs 0 0 Q (F0 m 69 ls []) := by
            intro n9_69
            induction n9_69 with
            | zero => intro q i s9 x9 y9 z9 hq9 hv hn; exact absurd hn (Nat.not_lt_zero _)
            | succ n9_69 ih_69 =>
              intro q i s9 x9 y9 z9 hq9 hv hn_69 w H locs ls hM hF hP hS hl
              refine lv_iload_n hx hb dX6_cutIn_69 rfl (lv_at hl 1 rfl) ?_
              refine lv_iload_n hx hb dX6_cutIn_70 rfl (lv_at hl 4 rfl) ?_
              refine k_icmp_geN (x := i) (y := n) (tgt := 97) hx hb (by omega) (by omega) dX6_cutIn_71 (by decide) (fun c71 => ?_) (fun c71 => ?_)
              · skip
                refine lv_aload_n hx hb dX6_cutIn_97 rfl (lv_at hl 2 rfl) ?_
                refine lv_iload_n hx hb dX6_cutIn_98 rfl (lv_at hl 3 rfl) ?_
                refine tw_cR hx hb hml hown hts (val := (bI (tUp (tRn (a 0) mn i) k))) (CX6_isUp l0 E w h ad (va_up f 13 0) (va_up (va_up (va_up (va_up (va_up a 4 (va_cpy (a 0) (a 4) 0 0 116)) 0 (tRn (a 0) mn i)) 14 x9) 15 y9) 16 z9) k hM (by omega)) (cwV 1 hts (lw_V q1742 q1744 qs42 q81 q1745) rfl rfl rfl dyX6_isUp ⟨Nat.le_of_ble_eq_true rfl, Nat.le_of_ble_eq_true rfl⟩) hG hP hS hM (As := [.int (nI k)]) (rest := []) rfl hl.1 rfl (lv_room (Nat.le_of_ble_eq_true rfl)) dX6_cutIn_99 ⟨by omega, by omega⟩ (fun H locs hP hS => ?_)
                refine k_ifneB (x := tUp (tRn (a 0) mn i) k) (tgt := 109) hx hb dX6_cutIn_102 (by decide) (fun c102 => ?_) (fun c102 => ?_)
                · skip
                  refine lv_iconst (v := 0) hx hb dX6_cutIn_109 (by decide) ?_
                  refine lv_istore (lv' := [(5, .int 0), (4, .int s9), (3, .int (nI i)), (0, .ref h), (1, .int (nI k)), (2, .int (nI n))]) hx hb dX6_cutIn_110 hl (by decide) rfl (fun ls hl => ?_)
                  refine lv_aload_n hx hb dX6_cutIn_112 rfl (lv_at hl 3 rfl) ?_
                  refine tw_get hx hb hts hown hG hP hM 4 (by decide) (hts _ q1624) (fun _ h9 => h9) (v := .ref (ad 4)) rfl dX6_cutIn_113 ?_
                  refine lv_iconst (v := 0) hx hb dX6_cutIn_116 (by decide) ?_
                  refine lv_aload_n hx hb dX6_cutIn_117 rfl (lv_at hl 3 rfl) ?_
                  refine tw_get hx hb hts hown hG hP hM 0 (by decide) (hts _ q1620) (fun _ h9 => h9) (v := .ref (ad 0)) rfl dX6_cutIn_118 ?_
                  refine lv_iconst (v := 0) hx hb dX6_cutIn_121 (by decide) ?_
                  refine tw_cWS hx hb hml hown hts (CX6_copies l0 E w h ad (va_up f 13 0) (va_up (va_up (va_up (va_up (va_up a 4 (va_cpy (a 0) (a 4) 0 0 116)) 0 (tRn (a 0) mn i)) 14 x9) 15 y9) 16 z9) 4 0 0 0 hM (by decide) (by decide) (by decide) (by decide) (by decide)) (va_cwS 4 hts (lw_S q1703 q1704 q81 q1705) rfl rfl rfl dyX6_copies ⟨Nat.le_of_ble_eq_true rfl, Nat.le_of_ble_eq_true rfl⟩) hG hP hS hF (As := [.ref (ad 4), .int 0, .ref (ad 0), .int 0]) (rest := []) rfl hl.1 rfl (lv_room (Nat.le_of_ble_eq_true rfl)) dX6_cutIn_122 ⟨by omega, by omega⟩ (fun r122 f122 a122 w H locs hp hM hF hP hS => ?_)
                  obtain ⟨hp1, hp2⟩ := hp
                  have hM := hM.ofF hp1 hp2
                  have hM : tM E w h ad (va_up f 13 0) (va_up (va_up (va_up (va_up (va_up (va_up a 4 (va_cpy (a 0) (a 4) 0 0 116)) 0 (tRn (a 0) mn i)) 14 x9) 15 y9) 16 z9) 0 (va_cpy (va_cpy (a 0) (a 4) 0 0 116) (tRn (a 0) mn i) 0 0 116)) := hM
                  have hM : tM E w h ad (va_up f 13 0) (va_up (va_up (va_up (va_up (va_up a 4 (va_cpy (a 0) (a 4) 0 0 116)) 0 (va_cpy (va_cpy (a 0) (a 4) 0 0 116) (tRn (a 0) mn i) 0 0 116)) 14 x9) 15 y9) 16 z9) := hM.of (by rw [up_cm _ 0 16 _ _ (by decide), up_cm _ 0 15 _ _ (by decide), up_cm _ 0 14 _ _ (by decide), bx_uu])
                  have hM : tM E w h ad (va_up f 13 0) (va_up (va_up (va_up (va_up (va_up a 4 (va_cpy (a 0) (a 4) 0 0 116)) 0 (a 0)) 14 x9) 15 y9) 16 z9) := hM.of (by rw [cpy_back (fun j hj => tRn_hi hmn hj i)])
                  refine lv_iload hx hb dX6_cutIn_125 (lv_at hl 0 rfl) ?_
                  refine lv_if_eq (tgt := 134) hx hb dX6_cutIn_127 (by decide) (fun c127 => ?_) (fun c127 => ?_)
                  · skip
                    refine lv_iconst (v := (-1)) hx hb dX6_cutIn_134 (by decide) ?_
                    have hq : qCin (a 0) mn (nI k) (nI n) = (0, 0, (-1)) := by have e : tKn (a 0) mn k n n 0 = i := (by first | (rw [← hv, tKn, if_neg (by rw [c79]; decide)]; done) | ((obtain rfl : q = 0 := (by omega)); rw [← hv]; rfl)); simp [qCin, rCin, ck, cn, c6, c20, c41, e, c102]
                    exact k_iret hx hb hr hlocks hQ hP hS (by omega) (by omega) dX6_cutIn_135 (⟨_, _, ⟨(va_cpy (a 0) (a 4) 0 0 116), x9, y9, z9, by rw [hq], by rw [hq, oC_ok], (by rw [show va_up (va_up a 4 (va_cpy (a 0) (a 4) 0 0 116)) 0 (a 0) = va_up a 4 (va_cpy (a 0) (a 4) 0 0 116) from up_same (va_up a 4 (va_cpy (a 0) (a 4) 0 0 116)) 0])⟩, hM, hF⟩)
                  · skip
                    exact absurd c127 (by decide)
                · skip
                  refine lv_iconst (v := 1) hx hb dX6_cutIn_105 (by decide) ?_
                  refine lv_goto (tgt := 110) hx hb dX6_cutIn_106 (by decide) ?_
                  refine lv_istore (lv' := [(5, .int 1), (4, .int s9), (3, .int (nI i)), (0, .ref h), (1, .int (nI k)), (2, .int (nI n))]) hx hb dX6_cutIn_110 hl (by decide) rfl (fun ls hl => ?_)
                  refine lv_aload_n hx hb dX6_cutIn_112 rfl (lv_at hl 3 rfl) ?_
                  refine tw_get hx hb hts hown hG hP hM 4 (by decide) (hts _ q1624) (fun _ h9 => h9) (v := .ref (ad 4)) rfl dX6_cutIn_113 ?_
                  refine lv_iconst (v := 0) hx hb dX6_cutIn_116 (by decide) ?_
                  refine lv_aload_n hx hb dX6_cutIn_117 rfl (lv_at hl 3 rfl) ?_
                  refine tw_get hx hb hts hown hG hP hM 0 (by decide) (hts _ q1620) (fun _ h9 => h9) (v := .ref (ad 0)) rfl dX6_cutIn_118 ?_
                  refine lv_iconst (v := 0) hx hb dX6_cutIn_121 (by decide) ?_
                  refine tw_cWS hx hb hml hown hts (CX6_copies l0 E w h ad (va_up f 13 0) (va_up (va_up (va_up (va_up (va_up a 4 (va_cpy (a 0) (a 4) 0 0 116)) 0 (tRn (a 0) mn i)) 14 x9) 15 y9) 16 z9) 4 0 0 0 hM (by decide) (by decide) (by decide) (by decide) (by decide)) (va_cwS 4 hts (lw_S q1703 q1704 q81 q1705) rfl rfl rfl dyX6_copies ⟨Nat.le_of_ble_eq_true rfl, Nat.le_of_ble_eq_true rfl⟩) hG hP hS hF (As := [.ref (ad 4), .int 0, .ref (ad 0), .int 0]) (rest := []) rfl hl.1 rfl (lv_room (Nat.le_of_ble_eq_true rfl)) dX6_cutIn_122 ⟨by omega, by omega⟩ (fun r122 f122 a122 w H locs hp hM hF hP hS => ?_)
                  obtain ⟨hp1, hp2⟩ := hp
                  have hM := hM.ofF hp1 hp2
                  have hM : tM E w h ad (va_up f 13 0) (va_up (va_up (va_up (va_up (va_up (va_up a 4 (va_cpy (a 0) (a 4) 0 0 116)) 0 (tRn (a 0) mn i)) 14 x9) 15 y9) 16 z9) 0 (va_cpy (va_cpy (a 0) (a 4) 0 0 116) (tRn (a 0) mn i) 0 0 116)) := hM
                  have hM : tM E w h ad (va_up f 13 0) (va_up (va_up (va_up (va_up (va_up a 4 (va_cpy (a 0) (a 4) 0 0 116)) 0 (va_cpy (va_cpy (a 0) (a 4) 0 0 116) (tRn (a 0) mn i) 0 0 116)) 14 x9) 15 y9) 16 z9) := hM.of (by rw [up_cm _ 0 16 _ _ (by decide), up_cm _ 0 15 _ _ (by decide), up_cm _ 0 14 _ _ (by decide), bx_uu])
                  have hM : tM E w h ad (va_up f 13 0) (va_up (va_up (va_up (va_up (va_up a 4 (va_cpy (a 0) (a 4) 0 0 116)) 0 (a 0)) 14 x9) 15 y9) 16 z9) := hM.of (by rw [cpy_back (fun j hj => tRn_hi hmn hj i)])
                  refine lv_iload hx hb dX6_cutIn_125 (lv_at hl 0 rfl) ?_
                  refine lv_if_eq (tgt := 134) hx hb dX6_cutIn_127 (by decide) (fun c127 => ?_) (fun c127 => ?_)
                  · skip
                    exact absurd c127 (by decide)
                  · skip
                    refine lv_iload_n hx hb dX6_cutIn_130 rfl (lv_at hl 2 rfl) ?_
                    refine lv_goto (tgt := 135) hx hb dX6_cutIn_131 (by decide) ?_
                    have hq : qCin (a 0) mn (nI k) (nI n) = (0, 0, (nI i)) := by have e : tKn (a 0) mn k n n 0 = i := (by first | (rw [← hv, tKn, if_neg (by rw [c79]; decide)]; done) | ((obtain rfl : q = 0 := (by omega)); rw [← hv]; rfl)); simp [qCin, rCin, ck, cn, c6, c20, c41, e, c102]
                    exact k_iret hx hb hr hlocks hQ hP hS (by omega) (by omega) dX6_cutIn_135 (⟨_, _, ⟨(va_cpy (a 0) (a 4) 0 0 116), x9, y9, z9, by rw [hq], by rw [hq, oC_ok], (by rw [show va_up (va_up a 4 (va_cpy (a 0) (a 4) 0 0 116)) 0 (a 0) = va_up a 4 (va_cpy (a 0) (a 4) 0 0 116) from up_same (va_up a 4 (va_cpy (a 0) (a 4) 0 0 116)) 0])⟩, hM, hF⟩)
              · skip
                obtain ⟨q, rfl⟩ : ∃ z, q = z + 1 := ⟨q - 1, by omega⟩
                refine lv_aload_n hx hb dX6_cutIn_74 rfl (lv_at hl 2 rfl) ?_
                refine lv_iload_n hx hb dX6_cutIn_75 rfl (lv_at hl 3 rfl) ?_
                refine tw_cR hx hb hml hown hts (val := (bI (tUp (tRn (a 0) mn i) k))) (CX6_isUp l0 E w h ad (va_up f 13 0) (va_up (va_up (va_up (va_up (va_up a 4 (va_cpy (a 0) (a 4) 0 0 116)) 0 (tRn (a 0) mn i)) 14 x9) 15 y9) 16 z9) k hM (by omega)) (cwV 1 hts (lw_V q1742 q1744 qs42 q81 q1745) rfl rfl rfl dyX6_isUp ⟨Nat.le_of_ble_eq_true rfl, Nat.le_of_ble_eq_true rfl⟩) hG hP hS hM (As := [.int (nI k)]) (rest := []) rfl hl.1 rfl (lv_room (Nat.le_of_ble_eq_true rfl)) dX6_cutIn_76 ⟨by omega, by omega⟩ (fun H locs hP hS => ?_)
                refine k_ifeqB (x := tUp (tRn (a 0) mn i) k) (tgt := 97) hx hb dX6_cutIn_79 (by decide) (fun c79 => ?_) (fun c79 => ?_)
                · skip
                  refine lv_aload_n hx hb dX6_cutIn_97 rfl (lv_at hl 2 rfl) ?_
                  refine lv_iload_n hx hb dX6_cutIn_98 rfl (lv_at hl 3 rfl) ?_
                  refine tw_cR hx hb hml hown hts (val := (bI (tUp (tRn (a 0) mn i) k))) (CX6_isUp l0 E w h ad (va_up f 13 0) (va_up (va_up (va_up (va_up (va_up a 4 (va_cpy (a 0) (a 4) 0 0 116)) 0 (tRn (a 0) mn i)) 14 x9) 15 y9) 16 z9) k hM (by omega)) (cwV 1 hts (lw_V q1742 q1744 qs42 q81 q1745) rfl rfl rfl dyX6_isUp ⟨Nat.le_of_ble_eq_true rfl, Nat.le_of_ble_eq_true rfl⟩) hG hP hS hM (As := [.int (nI k)]) (rest := []) rfl hl.1 rfl (lv_room (Nat.le_of_ble_eq_true rfl)) dX6_cutIn_99 ⟨by omega, by omega⟩ (fun H locs hP hS => ?_)
                  refine k_ifneB (x := tUp (tRn (a 0) mn i) k) (tgt := 109) hx hb dX6_cutIn_102 (by decide) (fun c102 => ?_) (fun c102 => ?_)
                  · skip
                    refine lv_iconst (v := 0) hx hb dX6_cutIn_109 (by decide) ?_
                    refine lv_istore (lv' := [(5, .int 0), (4, .int s9), (3, .int (nI i)), (0, .ref h), (1, .int (nI k)), (2, .int (nI n))]) hx hb dX6_cutIn_110 hl (by decide) rfl (fun ls hl => ?_)
                    refine lv_aload_n hx hb dX6_cutIn_112 rfl (lv_at hl 3 rfl) ?_
                    refine tw_get hx hb hts hown hG hP hM 4 (by decide) (hts _ q1624) (fun _ h9 => h9) (v := .ref (ad 4)) rfl dX6_cutIn_113 ?_
                    refine lv_iconst (v := 0) hx hb dX6_cutIn_116 (by decide) ?_
                    refine lv_aload_n hx hb dX6_cutIn_117 rfl (lv_at hl 3 rfl) ?_
                    refine tw_get hx hb hts hown hG hP hM 0 (by decide) (hts _ q1620) (fun _ h9 => h9) (v := .ref (ad 0)) rfl dX6_cutIn_118 ?_
                    refine lv_iconst (v := 0) hx hb dX6_cutIn_121 (by decide) ?_
                    refine tw_cWS hx hb hml hown hts (CX6_copies l0 E w h ad (va_up f 13 0) (va_up (va_up (va_up (va_up (va_up a 4 (va_cpy (a 0) (a 4) 0 0 116)) 0 (tRn (a 0) mn i)) 14 x9) 15 y9) 16 z9) 4 0 0 0 hM (by decide) (by decide) (by decide) (by decide) (by decide)) (va_cwS 4 hts (lw_S q1703 q1704 q81 q1705) rfl rfl rfl dyX6_copies ⟨Nat.le_of_ble_eq_true rfl, Nat.le_of_ble_eq_true rfl⟩) hG hP hS hF (As := [.ref (ad 4), .int 0, .ref (ad 0), .int 0]) (rest := []) rfl hl.1 rfl (lv_room (Nat.le_of_ble_eq_true rfl)) dX6_cutIn_122 ⟨by omega, by omega⟩ (fun r122 f122 a122 w H locs hp hM hF hP hS => ?_)
                    obtain ⟨hp1, hp2⟩ := hp
                    have hM := hM.ofF hp1 hp2
                    have hM : tM E w h ad (va_up f 13 0) (va_up (va_up (va_up (va_up (va_up (va_up a 4 (va_cpy (a 0) (a 4) 0 0 116)) 0 (tRn (a 0) mn i)) 14 x9) 15 y9) 16 z9) 0 (va_cpy (va_cpy (a 0) (a 4) 0 0 116) (tRn (a 0) mn i) 0 0 116)) := hM
                    have hM : tM E w h ad (va_up f 13 0) (va_up (va_up (va_up (va_up (va_up a 4 (va_cpy (a 0) (a 4) 0 0 116)) 0 (va_cpy (va_cpy (a 0) (a 4) 0 0 116) (tRn (a 0) mn i) 0 0 116)) 14 x9) 15 y9) 16 z9) := hM.of (by rw [up_cm _ 0 16 _ _ (by decide), up_cm _ 0 15 _ _ (by decide), up_cm _ 0 14 _ _ (by decide), bx_uu])
                    have hM : tM E w h ad (va_up f 13 0) (va_up (va_up (va_up (va_up (va_up a 4 (va_cpy (a 0) (a 4) 0 0 116)) 0 (a 0)) 14 x9) 15 y9) 16 z9) := hM.of (by rw [cpy_back (fun j hj => tRn_hi hmn hj i)])
                    refine lv_iload hx hb dX6_cutIn_125 (lv_at hl 0 rfl) ?_
                    refine lv_if_eq (tgt := 134) hx hb dX6_cutIn_127 (by decide) (fun c127 => ?_) (fun c127 => ?_)
                    · skip
                      refine lv_iconst (v := (-1)) hx hb dX6_cutIn_134 (by decide) ?_
                      have hq : qCin (a 0) mn (nI k) (nI n) = (0, 0, (-1)) := by have e : tKn (a 0) mn k n n 0 = i := (by first | (rw [← hv, tKn, if_neg (by rw [c79]; decide)]; done) | ((obtain rfl : q = 0 := (by omega)); rw [← hv]; rfl)); simp [qCin, rCin, ck, cn, c6, c20, c41, e, c102]
                      exact k_iret hx hb hr hlocks hQ hP hS (by omega) (by omega) dX6_cutIn_135 (⟨_, _, ⟨(va_cpy (a 0) (a 4) 0 0 116), x9, y9, z9, by rw [hq], by rw [hq, oC_ok], (by rw [show va_up (va_up a 4 (va_cpy (a 0) (a 4) 0 0 116)) 0 (a 0) = va_up a 4 (va_cpy (a 0) (a 4) 0 0 116) from up_same (va_up a 4 (va_cpy (a 0) (a 4) 0 0 116)) 0])⟩, hM, hF⟩)
                    · skip
                      exact absurd c127 (by decide)
                  · skip
                    refine lv_iconst (v := 1) hx hb dX6_cutIn_105 (by decide) ?_
                    refine lv_goto (tgt := 110) hx hb dX6_cutIn_106 (by decide) ?_
                    refine lv_istore (lv' := [(5, .int 1), (4, .int s9), (3, .int (nI i)), (0, .ref h), (1, .int (nI k)), (2, .int (nI n))]) hx hb dX6_cutIn_110 hl (by decide) rfl (fun ls hl => ?_)
                    refine lv_aload_n hx hb dX6_cutIn_112 rfl (lv_at hl 3 rfl) ?_
                    refine tw_get hx hb hts hown hG hP hM 4 (by decide) (hts _ q1624) (fun _ h9 => h9) (v := .ref (ad 4)) rfl dX6_cutIn_113 ?_
                    refine lv_iconst (v := 0) hx hb dX6_cutIn_116 (by decide) ?_
                    refine lv_aload_n hx hb dX6_cutIn_117 rfl (lv_at hl 3 rfl) ?_
                    refine tw_get hx hb hts hown hG hP hM 0 (by decide) (hts _ q1620) (fun _ h9 => h9) (v := .ref (ad 0)) rfl dX6_cutIn_118 ?_
                    refine lv_iconst (v := 0) hx hb dX6_cutIn_121 (by decide) ?_
                    refine tw_cWS hx hb hml hown hts (CX6_copies l0 E w h ad (va_up f 13 0) (va_up (va_up (va_up (va_up (va_up a 4 (va_cpy (a 0) (a 4) 0 0 116)) 0 (tRn (a 0) mn i)) 14 x9) 15 y9) 16 z9) 4 0 0 0 hM (by decide) (by decide) (by decide) (by decide) (by decide)) (va_cwS 4 hts (lw_S q1703 q1704 q81 q1705) rfl rfl rfl dyX6_copies ⟨Nat.le_of_ble_eq_true rfl, Nat.le_of_ble_eq_true rfl⟩) hG hP hS hF (As := [.ref (ad 4), .int 0, .ref (ad 0), .int 0]) (rest := []) rfl hl.1 rfl (lv_room (Nat.le_of_ble_eq_true rfl)) dX6_cutIn_122 ⟨by omega, by omega⟩ (fun r122 f122 a122 w H locs hp hM hF hP hS => ?_)
                    obtain ⟨hp1, hp2⟩ := hp
                    have hM := hM.ofF hp1 hp2
                    have hM : tM E w h ad (va_up f 13 0) (va_up (va_up (va_up (va_up (va_up (va_up a 4 (va_cpy (a 0) (a 4) 0 0 116)) 0 (tRn (a 0) mn i)) 14 x9) 15 y9) 16 z9) 0 (va_cpy (va_cpy (a 0) (a 4) 0 0 116) (tRn (a 0) mn i) 0 0 116)) := hM
                    have hM : tM E w h ad (va_up f 13 0) (va_up (va_up (va_up (va_up (va_up a 4 (va_cpy (a 0) (a 4) 0 0 116)) 0 (va_cpy (va_cpy (a 0) (a 4) 0 0 116) (tRn (a 0) mn i) 0 0 116)) 14 x9) 15 y9) 16 z9) := hM.of (by rw [up_cm _ 0 16 _ _ (by decide), up_cm _ 0 15 _ _ (by decide), up_cm _ 0 14 _ _ (by decide), bx_uu])
                    have hM : tM E w h ad (va_up f 13 0) (va_up (va_up (va_up (va_up (va_up a 4 (va_cpy (a 0) (a 4) 0 0 116)) 0 (a 0)) 14 x9) 15 y9) 16 z9) := hM.of (by rw [cpy_back (fun j hj => tRn_hi hmn hj i)])
                    refine lv_iload hx hb dX6_cutIn_125 (lv_at hl 0 rfl) ?_
                    refine lv_if_eq (tgt := 134) hx hb dX6_cutIn_127 (by decide) (fun c127 => ?_) (fun c127 => ?_)
                    · skip
                      exact absurd c127 (by decide)
                    · skip
                      refine lv_iload_n hx hb dX6_cutIn_130 rfl (lv_at hl 2 rfl) ?_
                      refine lv_goto (tgt := 135) hx hb dX6_cutIn_131 (by decide) ?_
                      have hq : qCin (a 0) mn (nI k) (nI n) = (0, 0, (nI i)) := by have e : tKn (a 0) mn k n n 0 = i := (by first | (rw [← hv, tKn, if_neg (by rw [c79]; decide)]; done) | ((obtain rfl : q = 0 := (by omega)); rw [← hv]; rfl)); simp [qCin, rCin, ck, cn, c6, c20, c41, e, c102]
                      exact k_iret hx hb hr hlocks hQ hP hS (by omega) (by omega) dX6_cutIn_135 (⟨_, _, ⟨(va_cpy (a 0) (a 4) 0 0 116), x9, y9, z9, by rw [hq], by rw [hq, oC_ok], (by rw [show va_up (va_up a 4 (va_cpy (a 0) (a 4) 0 0 116)) 0 (a 0) = va_up a 4 (va_cpy (a 0) (a 4) 0 0 116) from up_same (va_up a 4 (va_cpy (a 0) (a 4) 0 0 116)) 0])⟩, hM, hF⟩)
                · skip
                  refine lv_iload hx hb dX6_cutIn_82 (lv_at hl 0 rfl) ?_
                  refine lv_aload_n hx hb dX6_cutIn_84 rfl (lv_at hl 2 rfl) ?_
                  refine tw_cW hx hb hml hown hts (CX6_passes l0 E w h ad (va_up f 13 0) (va_up (va_up (va_up (va_up (va_up a 4 (va_cpy (a 0) (a 4) 0 0 116)) 0 (tRn (a 0) mn i)) 14 x9) 15 y9) 16 z9) mn hM (by omega) (show tRn (a 0) mn i 25 = nI mn from (tRn_25 i).trans hm)) (cwV 0 hts (lw_V q1836 q1838 qs54 q81 q1839) rfl rfl rfl dyX6_passes ⟨Nat.le_of_ble_eq_true rfl, Nat.le_of_ble_eq_true rfl⟩) hG hP hS hM hF (As := []) (rest := [.int s9]) rfl hl.1 rfl (lv_room (Nat.le_of_ble_eq_true rfl)) dX6_cutIn_85 ⟨by omega, by omega⟩ (fun r85 f85 a85 w H locs hp hM hF hP hS => ?_)
                  obtain ⟨hp0, hp1, hp2⟩ := hp
                  have hM := hM.ofF hp1 hp2
                  have hM : tM E w h ad (va_up f 13 0) (va_up (va_up (va_up (va_up (va_up (va_up (va_up (va_up (va_up a 4 (va_cpy (a 0) (a 4) 0 0 116)) 0 (tRn (a 0) mn i)) 14 x9) 15 y9) 16 z9) 0 (tRd (tRn (a 0) mn i) mn x9 y9 z9)) 14 (tCA (tR1 (tRn (a 0) mn i) mn) mn x9 mn)) 15 (tCB (tR1 (tRn (a 0) mn i) mn) mn y9 mn)) 16 (tCC (tR1 (tRn (a 0) mn i) mn) mn z9 mn)) := hM
                  have hM : tM E w h ad (va_up f 13 0) (va_up (va_up (va_up (va_up (va_up a 4 (va_cpy (a 0) (a 4) 0 0 116)) 0 (tRd (tRn (a 0) mn i) mn x9 y9 z9)) 14 (tCA (tR1 (tRn (a 0) mn i) mn) mn x9 mn)) 15 (tCB (tR1 (tRn (a 0) mn i) mn) mn y9 mn)) 16 (tCC (tR1 (tRn (a 0) mn i) mn) mn z9 mn)) := hM.of (by rw [up_cm _ 0 16 _ _ (by decide), up_cm _ 0 15 _ _ (by decide), up_cm _ 0 14 _ _ (by decide), bx_uu, up_cm _ 14 16 _ _ (by decide), up_cm _ 14 15 _ _ (by decide), bx_uu, up_cm _ 15 16 _ _ (by decide), bx_uu, bx_uu])
                  refine k_top (y := tNc (tDb (tR1 (tRn (a 0) mn i) mn) mn) mn) hp0 ?_
                  refine lv_iadd hx hb dX6_cutIn_88 ?_
                  refine lv_istore (lv' := [(4, .int (s9 + tNc (tDb (tR1 (tRn (a 0) mn i) mn) mn) mn)), (3, .int (nI i)), (0, .ref h), (1, .int (nI k)), (2, .int (nI n))]) hx hb dX6_cutIn_89 hl (by decide) rfl (fun ls hl => ?_)
                  refine lv_iinc (v := (nI (i + 1))) (lv' := [(3, .int (nI (i + 1))), (4, .int (s9 + tNc (tDb (tR1 (tRn (a 0) mn i) mn) mn) mn)), (0, .ref h), (1, .int (nI k)), (2, .int (nI n))]) hx hb dX6_cutIn_91 hl (k := 1) rfl (nI_add i 1) (by decide) rfl (fun ls hl => ?_)
                  refine lv_goto (tgt := 69) hx hb dX6_cutIn_94 (by decide) ?_
                  have hl := lv_sub (l' := [(4, .int (s9 + tNc (tDb (tR1 (tRn (a 0) mn i) mn) mn) mn)), (3, .int (nI (i + 1))), (0, .ref h), (1, .int (nI k)), (2, .int (nI n))]) hl [1, 0, 2, 3, 4] rfl
                  have hM : tM E w h ad (va_up f 13 0) (va_up (va_up (va_up (va_up (va_up a 4 (va_cpy (a 0) (a 4) 0 0 116)) 0 (tRn (a 0) mn (i + 1))) 14 (tCA (tR1 (tRn (a 0) mn i) mn) mn x9 mn)) 15 (tCB (tR1 (tRn (a 0) mn i) mn) mn y9 mn)) 16 (tCC (tR1 (tRn (a 0) mn i) mn) mn z9 mn)) := hM.of (by rw [tRd_x]; rfl)
                  exact ih_69 q (i + 1) (s9 + tNc (tDb (tR1 (tRn (a 0) mn i) mn) mn) mn) (tCA (tR1 (tRn (a 0) mn i) mn) mn x9 mn) (tCB (tR1 (tRn (a 0) mn i) mn) mn y9 mn) (tCC (tR1 (tRn (a 0) mn i) mn) mn z9 mn) (by omega) (by rw [← hv, tKn, if_pos c79]) (by omega) _ _ _ _ hM hF hP hS hl
          have hl : lv_has ls 6 [(4, .int 0), (3, .int (nI 0)), (0, .ref h), (1, .int (nI k)), (2, .int (nI n))] := hl
          have hM : tM E w h ad (va_up f 13 0) (va_up (va_up (va_up (va_up (va_up a 4 (va_cpy (a 0) (a 4) 0 0 116)) 0 (tRn (a 0) mn 0)) 14 (a 14)) 15 (a 15)) 16 (a 16)) := hM.of (by funext q9; simp only [va_up]; (repeat' split) <;> first | rfl | omega | (subst_vars; rfl))
          exact hloop_69 _ n 0 0 (a 14) (a 15) (a 16) (by omega) rfl (Nat.lt_succ_self _) _ _ _ _ hM hF hP hS hl
        · skip
          refine lv_aload_n hx hb dX6_cutIn_44 rfl (lv_at hl 0 rfl) ?_
          refine lv_iconst (v := 4) hx hb dX6_cutIn_45 (by decide) ?_
          refine lv_iconst (v := 3) hx hb dX6_cutIn_46 (by decide) ?_
          refine tw_cW hx hb hml hown hts (CX6_refuses l0 E w h ad (va_up f 13 0) a 4 3 hM ) (cwV 2 hts (lw_V q1714 q1716 qs37 q81 q1717) rfl rfl rfl dyX6_refuses ⟨Nat.le_of_ble_eq_true rfl, Nat.le_of_ble_eq_true rfl⟩) hG hP hS hM hF (As := [.int 4, .int 3]) (rest := []) rfl hl.1 rfl (lv_room (Nat.le_of_ble_eq_true rfl)) dX6_cutIn_47 ⟨by omega, by omega⟩ (fun r47 f47 a47 w H locs hp hM hF hP hS => ?_)
          obtain ⟨hp0, hp1, hp2⟩ := hp
          have hM := hM.ofF hp1 hp2
          have hM : tM E w h ad (va_up (va_up (va_up (va_up f 13 0) 11 4) 12 (-1)) 13 3) a := hM
          refine k_top (y := 0) hp0 ?_
          have hq : qCin (a 0) mn (nI k) (nI n) = (3, 4, 0) := by simp [qCin, ck, cn, c6, c20, c31, c41]
          exact k_iret hx hb hr hlocks hQ hP hS (by omega) (by omega) dX6_cutIn_50 (⟨_, _, ⟨(a 4), (a 14), (a 15), (a 16), by rw [hq], by rw [hq, oC_rf (by decide) (by decide)], (by rw [up_same, up_self3])⟩, hM, hF⟩)
      · skip
        exact absurd c31 (by decide)
  · skip
    refine lv_iconst (v := 1) hx hb dX6_cutIn_9 (by decide) ?_
    refine lv_goto (tgt := 28) hx hb dX6_cutIn_10 (by decide) ?_
    refine tw_cW hx hb hml hown hts (CX6_fails l0 E w h ad f a 1 hM ) (cwV 1 hts (lw_V q1695 q1697 qs35 q81 q1698) rfl rfl rfl dyX6_fails ⟨Nat.le_of_ble_eq_true rfl, Nat.le_of_ble_eq_true rfl⟩) hG hP hS hM hF (As := [.int 1]) (rest := []) rfl hl.1 rfl (lv_room (Nat.le_of_ble_eq_true rfl)) dX6_cutIn_28 ⟨by omega, by omega⟩ (fun r28 f28 a28 w H locs hp hM hF hP hS => ?_)
    obtain ⟨hp0, hp1, hp2⟩ := hp
    have hM := hM.ofF hp1 hp2
    have hM : tM E w h ad (va_up f 13 1) a := hM
    refine k_top (y := (bI (decide (0 < 1)))) hp0 ?_
    refine k_ifeqB (x := decide (0 < 1)) (tgt := 36) hx hb dX6_cutIn_31 (by decide) (fun c31 => ?_) (fun c31 => ?_)
    · skip
      exact absurd c31 (by decide)
    · skip
      refine lv_iconst (v := 0) hx hb dX6_cutIn_34 (by decide) ?_
      have hq : qCin (a 0) mn x y = (1, 0, 0) := by simp [qCin, c6, c31]
      exact k_iret hx hb hr hlocks hQ hP hS (by omega) (by omega) dX6_cutIn_35 (⟨_, _, ⟨(a 4), (a 14), (a 15), (a 16), by rw [hq], by rw [hq, oC_no (by decide)], (by rw [up_same, up_self3])⟩, hM, hF⟩)

abbrev rmCX6_bestSpeed : Room := { frames := 8, cells := 0, slots := 0, locals := 185 }
theorem dyX6_bestSpeed : yX6_bestSpeed.cls = RX6 ∧ yX6_bestSpeed.cls ≠ "java/lang/invoke/MethodHandle" ∧ yX6_bestSpeed.cls ≠ "java/lang/invoke/VarHandle" ∧ (parseMethodDescriptor yX6_bestSpeed.desc).map (fun d => d.parameters.length) = some 2 := by decide +kernel
set_option maxHeartbeats 4000000 in
theorem CX6_bestSpeed (l0 : Launch) (E : gE) (w : wd) (h : Nat) (ad : Nat → Nat) (f : Nat → Int32) (a : Nat → Nat → Int32) (x : Int32) (y : Int32) (mn : Nat) (hM : tM E w h ad f a) (hmn : mn ≤ 6) (hm : (a 0) 25 = nI mn) : kC l0 yX6_bestSpeed (ws_ yX6_bestSpeed cX6_bestSpeed 8 (some .int)) rmCX6_bestSpeed 0 0 mI E w [.ref h, .int x, .int y] (fun r w' => ∃ f' a', (∃ t9 x9 y9 z9, r = (qBsp (a 0) mn x y).2.2 ∧ f' = oC f (qBsp (a 0) mn x y) ∧ a' = va_up (va_up (va_up (va_up a 4 t9) 14 x9) 15 y9) 16 z9) ∧ tM E w' h ad f' a' ∧ fr tP w w') := by
  refine k_open (cc := cX6_bestSpeed) (maxL := 8) (ret := (some .int)) (by decide) rfl (Nat.le_of_ble_eq_true rfl) ?_
  intro p e s m args below meth c ls Q hx hb hr hml hown hts hlocks hname hQ hG hP hl hS
  have hl : lv_has ls 8 [(0, .ref h), (1, .int x), (2, .int y)] := hl
  obtain ⟨w0, hw0⟩ : ∃ z, z = w := ⟨_, rfl⟩
  have hF : fr tP w0 w := by rw [hw0]; exact fr.rf
  rw [← hw0] at hQ
  refine lv_aload_n hx hb dX6_bestSpeed_0 rfl (lv_at hl 0 rfl) ?_
  refine lv_aload_n hx hb dX6_bestSpeed_1 rfl (lv_at hl 0 rfl) ?_
  refine lv_iload_n hx hb dX6_bestSpeed_2 rfl (lv_at hl 1 rfl) ?_
  refine tw_cR hx hb hml hown hts (val := (bI (tKt (a 0) x))) (CX6_isKite l0 E w h ad f a x hM ) (cwV 1 hts (lw_V q1726 q1728 qs39 q81 q1729) rfl rfl rfl dyX6_isKite ⟨Nat.le_of_ble_eq_true rfl, Nat.le_of_ble_eq_true rfl⟩) hG hP hS hM (As := [.int x]) (rest := [.ref h]) rfl hl.1 rfl (lv_room (Nat.le_of_ble_eq_true rfl)) dX6_bestSpeed_3 ⟨by omega, by omega⟩ (fun H locs hP hS => ?_)
  refine k_ifneB (x := tKt (a 0) x) (tgt := 13) hx hb dX6_bestSpeed_6 (by decide) (fun c6 => ?_) (fun c6 => ?_)
  · skip
    refine lv_iload_n hx hb dX6_bestSpeed_13 rfl (lv_at hl 2 rfl) ?_
    refine lv_iconst (v := 1) hx hb dX6_bestSpeed_14 (by decide) ?_
    refine lv_bipush (v := 6) hx hb dX6_bestSpeed_15 (by decide) ?_
    refine k_cP hx hb hml hown hts (val := (bI (tin y 1 6))) (CX6_in l0 E w y 1 6 ) (va_cwS 3 hts (lw_S q1692 q1693 q81 q1694) rfl rfl rfl dyX6_in ⟨Nat.le_of_ble_eq_true rfl, Nat.le_of_ble_eq_true rfl⟩) hG hP hS (As := [.int y, .int 1, .int 6]) (rest := [.ref h]) rfl hl.1 rfl (lv_room (Nat.le_of_ble_eq_true rfl)) dX6_bestSpeed_17 ⟨by omega, by omega⟩ (fun H locs hP hS => ?_)
    refine k_ifeqB (x := tin y 1 6) (tgt := 27) hx hb dX6_bestSpeed_20 (by decide) (fun c20 => ?_) (fun c20 => ?_)
    · skip
      refine lv_iconst (v := 2) hx hb dX6_bestSpeed_27 (by decide) ?_
      refine tw_cW hx hb hml hown hts (CX6_fails l0 E w h ad f a 2 hM ) (cwV 1 hts (lw_V q1695 q1697 qs35 q81 q1698) rfl rfl rfl dyX6_fails ⟨Nat.le_of_ble_eq_true rfl, Nat.le_of_ble_eq_true rfl⟩) hG hP hS hM hF (As := [.int 2]) (rest := []) rfl hl.1 rfl (lv_room (Nat.le_of_ble_eq_true rfl)) dX6_bestSpeed_28 ⟨by omega, by omega⟩ (fun r28 f28 a28 w H locs hp hM hF hP hS => ?_)
      obtain ⟨hp0, hp1, hp2⟩ := hp
      have hM := hM.ofF hp1 hp2
      have hM : tM E w h ad (va_up f 13 2) a := hM
      refine k_top (y := (bI (decide (0 < 2)))) hp0 ?_
      refine k_ifeqB (x := decide (0 < 2)) (tgt := 36) hx hb dX6_bestSpeed_31 (by decide) (fun c31 => ?_) (fun c31 => ?_)
      · skip
        exact absurd c31 (by decide)
      · skip
        refine lv_iconst (v := 0) hx hb dX6_bestSpeed_34 (by decide) ?_
        have hq : qBsp (a 0) mn x y = (2, 0, 0) := by simp [qBsp, c6, c20, c31]
        exact k_iret hx hb hr hlocks hQ hP hS (by omega) (by omega) dX6_bestSpeed_35 (⟨_, _, ⟨(a 4), (a 14), (a 15), (a 16), by rw [hq], by rw [hq, oC_no (by decide)], (by rw [up_same, up_self3])⟩, hM, hF⟩)
    · skip
      refine lv_iconst (v := 0) hx hb dX6_bestSpeed_23 (by decide) ?_
      refine lv_goto (tgt := 28) hx hb dX6_bestSpeed_24 (by decide) ?_
      refine tw_cW hx hb hml hown hts (CX6_fails l0 E w h ad f a 0 hM ) (cwV 1 hts (lw_V q1695 q1697 qs35 q81 q1698) rfl rfl rfl dyX6_fails ⟨Nat.le_of_ble_eq_true rfl, Nat.le_of_ble_eq_true rfl⟩) hG hP hS hM hF (As := [.int 0]) (rest := []) rfl hl.1 rfl (lv_room (Nat.le_of_ble_eq_true rfl)) dX6_bestSpeed_28 ⟨by omega, by omega⟩ (fun r28 f28 a28 w H locs hp hM hF hP hS => ?_)
      obtain ⟨hp0, hp1, hp2⟩ := hp
      have hM := hM.ofF hp1 hp2
      have hM : tM E w h ad (va_up f 13 0) a := hM
      refine k_top (y := (bI (decide (0 < 0)))) hp0 ?_
      refine k_ifeqB (x := decide (0 < 0)) (tgt := 36) hx hb dX6_bestSpeed_31 (by decide) (fun c31 => ?_) (fun c31 => ?_)
      · skip
        obtain ⟨k, hk, rfl⟩ := tKt_of hm hmn c6
        have ck : (nI k).toNatClampNeg = k := nI_clamp (by omega)
        obtain ⟨n, hn, rfl⟩ := tin_M (m := 1) (n := 6) (by decide) (by decide) c20
        have cn : (nI n).toNatClampNeg = n := nI_clamp (by omega)
        refine lv_aload_n hx hb dX6_bestSpeed_36 rfl (lv_at hl 0 rfl) ?_
        refine lv_iload_n hx hb dX6_bestSpeed_37 rfl (lv_at hl 1 rfl) ?_
        refine tw_cR hx hb hml hown hts (val := (bI (tUp (a 0) k))) (CX6_isUp l0 E w h ad (va_up f 13 0) a k hM (by omega)) (cwV 1 hts (lw_V q1742 q1744 qs42 q81 q1745) rfl rfl rfl dyX6_isUp ⟨Nat.le_of_ble_eq_true rfl, Nat.le_of_ble_eq_true rfl⟩) hG hP hS hM (As := [.int (nI k)]) (rest := []) rfl hl.1 rfl (lv_room (Nat.le_of_ble_eq_true rfl)) dX6_bestSpeed_38 ⟨by omega, by omega⟩ (fun H locs hP hS => ?_)
        refine k_ifneB (x := tUp (a 0) k) (tgt := 51) hx hb dX6_bestSpeed_41 (by decide) (fun c41 => ?_) (fun c41 => ?_)
        · skip
          refine lv_aload_n hx hb dX6_bestSpeed_51 rfl (lv_at hl 0 rfl) ?_
          refine tw_get hx hb hts hown hG hP hM 0 (by decide) (hts _ q1620) (fun _ h9 => h9) (v := .ref (ad 0)) rfl dX6_bestSpeed_52 ?_
          refine lv_iconst (v := 0) hx hb dX6_bestSpeed_55 (by decide) ?_
          refine lv_aload_n hx hb dX6_bestSpeed_56 rfl (lv_at hl 0 rfl) ?_
          refine tw_get hx hb hts hown hG hP hM 4 (by decide) (hts _ q1624) (fun _ h9 => h9) (v := .ref (ad 4)) rfl dX6_bestSpeed_57 ?_
          refine lv_iconst (v := 0) hx hb dX6_bestSpeed_60 (by decide) ?_
          refine tw_cWS hx hb hml hown hts (CX6_copies l0 E w h ad (va_up f 13 0) a 0 0 4 0 hM (by decide) (by decide) (by decide) (by decide) (by decide)) (va_cwS 4 hts (lw_S q1703 q1704 q81 q1705) rfl rfl rfl dyX6_copies ⟨Nat.le_of_ble_eq_true rfl, Nat.le_of_ble_eq_true rfl⟩) hG hP hS hF (As := [.ref (ad 0), .int 0, .ref (ad 4), .int 0]) (rest := []) rfl hl.1 rfl (lv_room (Nat.le_of_ble_eq_true rfl)) dX6_bestSpeed_61 ⟨by omega, by omega⟩ (fun r61 f61 a61 w H locs hp hM hF hP hS => ?_)
          obtain ⟨hp1, hp2⟩ := hp
          have hM := hM.ofF hp1 hp2
          have hM : tM E w h ad (va_up f 13 0) (va_up a 4 (va_cpy (a 0) (a 4) 0 0 116)) := hM
          refine lv_iconst (v := 0) hx hb dX6_bestSpeed_64 (by decide) ?_
          refine lv_istore_n (lv' := [(3, .int 0), (0, .ref h), (1, .int (nI k)), (2, .int (nI n))]) hx hb dX6_bestSpeed_65 rfl hl (by decide) rfl (fun ls hl => ?_)
          refine lv_iconst (v := (-1)) hx hb dX6_bestSpeed_66 (by decide) ?_
          refine lv_istore (lv' := [(4, .int (-1)), (3, .int 0), (0, .ref h), (1, .int (nI k)), (2, .int (nI n))]) hx hb dX6_bestSpeed_67 hl (by decide) rfl (fun ls hl => ?_)
          refine lv_bipush (v := (-9)) hx hb dX6_bestSpeed_69 (by decide) ?_
          refine lv_istore (lv' := [(5, .int (-9)), (4, .int (-1)), (3, .int 0), (0, .ref h), (1, .int (nI k)), (2, .int (nI n))]) hx hb dX6_bestSpeed_71 hl (by decide) rfl (fun ls hl => ?_)
          have hloop_73 : ∀ (n9_73 : Nat) (i : Nat) (x9 : Nat → Int32) (y9 : Nat → Int32) (z9 : Nat → Int32), (i ≤ 19) → (20 - i) < n9_73 → ∀ (w : wd) (H : Heap) (locs : List Loc) (ls : Array Slot), tM E w h ad (va_up f 13 0) (va_up (va_up (va_up (va_up (va_up a 4 (va_cpy (a 0) (a 4) 0 0 116)) 0 (a 0)) 14 x9) 15 y9) 16 z9) → fr tP w0 w → wP E w H → va_S (gA E) s.heap H locs → lv_has ls 8 [(5, .int (nI i - 9)), (4, .int ((tBs (a 0) mn k n i).2)), (3, .int ((tBs (a 0) mn k n i).1)), (0, .ref h), (1, .int (nI k)), (2, .int (nI n))] → W p l0 e rmCX6_bestSpeed s m args below meth c H locs 0 0 Q (F0 m 73 ls []) := by
            intro n9_73
            induction n9_73 with
            | zero => intro i x9 y9 z9 hi9 hn; exact absurd hn (Nat.not_lt_zero _)
            | succ n9_73 ih_73 =>
              intro i x9 y9 z9 hi9 hn_73 w H locs ls hM hF hP hS hl
              refine lv_iload hx hb dX6_bestSpeed_73 (lv_at hl 0 rfl) ?_
              refine lv_bipush (v := 9) hx hb dX6_bestSpeed_75 (by decide) ?_
              refine lv_icmp_gt (tgt := 159) hx hb dX6_bestSpeed_77 (by decide) (fun c77 => ?_) (fun c77 => ?_)
              · skip
                have hi8 : i = 19 := by have := (sp_gt hi9).mp c77; omega
                refine lv_iload_n hx hb dX6_bestSpeed_159 rfl (lv_at hl 2 rfl) ?_
                have hq : qBsp (a 0) mn (nI k) (nI n) = (0, 0, (tBs (a 0) mn k n i).1) := by simp [qBsp, ck, cn, c6, c20, c41, hi8]
                exact k_iret hx hb hr hlocks hQ hP hS (by omega) (by omega) dX6_bestSpeed_160 (⟨_, _, ⟨(va_cpy (a 0) (a 4) 0 0 116), x9, y9, z9, by rw [hq], by rw [hq, oC_ok], (by rw [show va_up (va_up a 4 (va_cpy (a 0) (a 4) 0 0 116)) 0 (a 0) = va_up a 4 (va_cpy (a 0) (a 4) 0 0 116) from up_same (va_up a 4 (va_cpy (a 0) (a 4) 0 0 116)) 0])⟩, hM, hF⟩)
              · skip
                have hi8 : i < 19 := Nat.lt_of_not_le (fun z => c77 ((sp_gt hi9).mpr z))
                refine lv_aload_n hx hb dX6_bestSpeed_80 rfl (lv_at hl 3 rfl) ?_
                refine lv_iload_n hx hb dX6_bestSpeed_81 rfl (lv_at hl 4 rfl) ?_
                refine lv_bipush (v := 7) hx hb dX6_bestSpeed_82 (by decide) ?_
                refine lv_iload hx hb dX6_bestSpeed_84 (lv_at hl 0 rfl) ?_
                refine tw_cW hx hb hml hown hts (CX6_lays l0 E w h ad (va_up f 13 0) (va_up (va_up (va_up (va_up (va_up a 4 (va_cpy (a 0) (a 4) 0 0 116)) 0 (a 0)) 14 x9) 15 y9) 16 z9) k 7 (nI i - 9) hM (by omega) (by omega)) (cwV 3 hts (lw_V q1718 q1720 qs38 q81 q1721) rfl rfl rfl dyX6_lays ⟨Nat.le_of_ble_eq_true rfl, Nat.le_of_ble_eq_true rfl⟩) hG hP hS hM hF (As := [.int (nI k), .int 7, .int (nI i - 9)]) (rest := []) rfl hl.1 rfl (lv_room (Nat.le_of_ble_eq_true rfl)) dX6_bestSpeed_86 ⟨by omega, by omega⟩ (fun r86 f86 a86 w H locs hp hM hF hP hS => ?_)
                obtain ⟨hp1, hp2⟩ := hp
                have hM := hM.ofF hp1 hp2
                have hM : tM E w h ad (va_up f 13 0) (va_up (va_up (va_up (va_up (va_up (va_up a 4 (va_cpy (a 0) (a 4) 0 0 116)) 0 (a 0)) 14 x9) 15 y9) 16 z9) 0 (va_up (a 0) (kO k 7) (nI i - 9))) := hM
                have hM : tM E w h ad (va_up f 13 0) (va_up (va_up (va_up (va_up (va_up a 4 (va_cpy (a 0) (a 4) 0 0 116)) 0 (va_up (a 0) (kO k 7) (nI i - 9))) 14 x9) 15 y9) 16 z9) := hM.of (by rw [up_cm _ 0 16 _ _ (by decide), up_cm _ 0 15 _ _ (by decide), up_cm _ 0 14 _ _ (by decide), bx_uu])
                refine lv_iconst (v := 0) hx hb dX6_bestSpeed_89 (by decide) ?_
                refine lv_istore (lv' := [(6, .int 0), (5, .int (nI i - 9)), (4, .int ((tBs (a 0) mn k n i).2)), (3, .int ((tBs (a 0) mn k n i).1)), (0, .ref h), (1, .int (nI k)), (2, .int (nI n))]) hx hb dX6_bestSpeed_90 hl (by decide) rfl (fun ls hl => ?_)
                refine lv_iconst (v := 0) hx hb dX6_bestSpeed_92 (by decide) ?_
                refine lv_istore (lv' := [(7, .int 0), (6, .int 0), (5, .int (nI i - 9)), (4, .int ((tBs (a 0) mn k n i).2)), (3, .int ((tBs (a 0) mn k n i).1)), (0, .ref h), (1, .int (nI k)), (2, .int (nI n))]) hx hb dX6_bestSpeed_93 hl (by decide) rfl (fun ls hl => ?_)
                have hloop_95 : ∀ (n9_95 : Nat) (u : Nat) (s8 : Int32) (x8 : Nat → Int32) (y8 : Nat → Int32) (z8 : Nat → Int32), (u ≤ n) → (n - u) < n9_95 → ∀ (w : wd) (H : Heap) (locs : List Loc) (ls : Array Slot), tM E w h ad (va_up f 13 0) (va_up (va_up (va_up (va_up (va_up a 4 (va_cpy (a 0) (a 4) 0 0 116)) 0 (tRn (va_up (a 0) (kO k 7) (nI i - 9)) mn u)) 14 x8) 15 y8) 16 z8) → fr tP w0 w → wP E w H → va_S (gA E) s.heap H locs → lv_has ls 8 [(7, .int (nI u)), (6, .int s8), (5, .int (nI i - 9)), (4, .int ((tBs (a 0) mn k n i).2)), (3, .int ((tBs (a 0) mn k n i).1)), (0, .ref h), (1, .int (nI k)), (2, .int (nI n))] → W p l0 e rmCX6_bestSpeed s m args below meth c H locs 0 0 Q (F0 m 95 ls []) := by
                  intro n9_95
                  induction n9_95 with
                  | zero => intro u s8 x8 y8 z8 hu9 hn; exact absurd hn (Nat.not_lt_zero _)
                  | succ n9_95 ih_95 =>
                    intro u s8 x8 y8 z8 hu9 hn_95 w H locs ls hM hF hP hS hl
                    refine lv_iload hx hb dX6_bestSpeed_95 (lv_at hl 0 rfl) ?_
                    refine lv_iload_n hx hb dX6_bestSpeed_97 rfl (lv_at hl 7 rfl) ?_
                    refine k_icmp_geN (x := u) (y := n) (tgt := 116) hx hb (by omega) (by omega) dX6_bestSpeed_98 (by decide) (fun c98 => ?_) (fun c98 => ?_)
                    · skip
                      have hun : u = n := by omega
                      have hM : tM E w h ad (va_up f 13 0) (va_up (va_up (va_up (va_up (va_up a 4 (va_cpy (a 0) (a 4) 0 0 116)) 0 (tRn (va_up (a 0) (kO k 7) (nI i - 9)) mn n)) 14 x8) 15 y8) 16 z8) := hM.of (by rw [hun])
                      refine lv_aload_n hx hb dX6_bestSpeed_116 rfl (lv_at hl 5 rfl) ?_
                      refine lv_iload_n hx hb dX6_bestSpeed_117 rfl (lv_at hl 6 rfl) ?_
                      refine lv_bipush (v := 8) hx hb dX6_bestSpeed_118 (by decide) ?_
                      refine tw_cR hx hb hml hown hts (val := (tRn (va_up (a 0) (kO k 7) (nI i - 9)) mn n) (kO k 8)) (CX6_of l0 E w h ad (va_up f 13 0) (va_up (va_up (va_up (va_up (va_up a 4 (va_cpy (a 0) (a 4) 0 0 116)) 0 (tRn (va_up (a 0) (kO k 7) (nI i - 9)) mn n)) 14 x8) 15 y8) 16 z8) k 8 hM (by omega) (by omega)) (cwV 2 hts (lw_V q1730 q1732 qs40 q81 q1733) rfl rfl rfl dyX6_of ⟨Nat.le_of_ble_eq_true rfl, Nat.le_of_ble_eq_true rfl⟩) hG hP hS hM (As := [.int (nI k), .int 8]) (rest := []) rfl hl.1 rfl (lv_room (Nat.le_of_ble_eq_true rfl)) dX6_bestSpeed_120 ⟨by omega, by omega⟩ (fun H locs hP hS => ?_)
                      refine lv_iload hx hb dX6_bestSpeed_123 (lv_at hl 3 rfl) ?_
                      refine lv_icmp_le (tgt := 140) hx hb dX6_bestSpeed_125 (by decide) (fun c125 => ?_) (fun c125 => ?_)
                      · skip
                        refine lv_aload_n hx hb dX6_bestSpeed_140 rfl (lv_at hl 5 rfl) ?_
                        refine tw_get hx hb hts hown hG hP hM 4 (by decide) (hts _ q1624) (fun _ h9 => h9) (v := .ref (ad 4)) rfl dX6_bestSpeed_141 ?_
                        refine lv_iconst (v := 0) hx hb dX6_bestSpeed_144 (by decide) ?_
                        refine lv_aload_n hx hb dX6_bestSpeed_145 rfl (lv_at hl 5 rfl) ?_
                        refine tw_get hx hb hts hown hG hP hM 0 (by decide) (hts _ q1620) (fun _ h9 => h9) (v := .ref (ad 0)) rfl dX6_bestSpeed_146 ?_
                        refine lv_iconst (v := 0) hx hb dX6_bestSpeed_149 (by decide) ?_
                        refine tw_cWS hx hb hml hown hts (CX6_copies l0 E w h ad (va_up f 13 0) (va_up (va_up (va_up (va_up (va_up a 4 (va_cpy (a 0) (a 4) 0 0 116)) 0 (tRn (va_up (a 0) (kO k 7) (nI i - 9)) mn n)) 14 x8) 15 y8) 16 z8) 4 0 0 0 hM (by decide) (by decide) (by decide) (by decide) (by decide)) (va_cwS 4 hts (lw_S q1703 q1704 q81 q1705) rfl rfl rfl dyX6_copies ⟨Nat.le_of_ble_eq_true rfl, Nat.le_of_ble_eq_true rfl⟩) hG hP hS hF (As := [.ref (ad 4), .int 0, .ref (ad 0), .int 0]) (rest := []) rfl hl.1 rfl (lv_room (Nat.le_of_ble_eq_true rfl)) dX6_bestSpeed_150 ⟨by omega, by omega⟩ (fun r150 f150 a150 w H locs hp hM hF hP hS => ?_)
                        obtain ⟨hp1, hp2⟩ := hp
                        have hM := hM.ofF hp1 hp2
                        have hM : tM E w h ad (va_up f 13 0) (va_up (va_up (va_up (va_up (va_up (va_up a 4 (va_cpy (a 0) (a 4) 0 0 116)) 0 (tRn (va_up (a 0) (kO k 7) (nI i - 9)) mn n)) 14 x8) 15 y8) 16 z8) 0 (va_cpy (va_cpy (a 0) (a 4) 0 0 116) (tRn (va_up (a 0) (kO k 7) (nI i - 9)) mn n) 0 0 116)) := hM
                        have hM : tM E w h ad (va_up f 13 0) (va_up (va_up (va_up (va_up (va_up a 4 (va_cpy (a 0) (a 4) 0 0 116)) 0 (va_cpy (va_cpy (a 0) (a 4) 0 0 116) (tRn (va_up (a 0) (kO k 7) (nI i - 9)) mn n) 0 0 116)) 14 x8) 15 y8) 16 z8) := hM.of (by rw [up_cm _ 0 16 _ _ (by decide), up_cm _ 0 15 _ _ (by decide), up_cm _ 0 14 _ _ (by decide), bx_uu])
                        have hM : tM E w h ad (va_up f 13 0) (va_up (va_up (va_up (va_up (va_up a 4 (va_cpy (a 0) (a 4) 0 0 116)) 0 (a 0)) 14 x8) 15 y8) 16 z8) := hM.of (by rw [cpy_back (fun j hj => (tRn_hi hmn hj n).trans (up_n (kO_hi hj (by omega) (by decide))))])
                        refine lv_iinc (v := ((nI i - 9) + 1)) (lv' := [(5, .int ((nI i - 9) + 1)), (7, .int (nI u)), (6, .int s8), (4, .int ((tBs (a 0) mn k n i).2)), (3, .int ((tBs (a 0) mn k n i).1)), (0, .ref h), (1, .int (nI k)), (2, .int (nI n))]) hx hb dX6_bestSpeed_153 hl (k := 2) rfl rfl (by decide) rfl (fun ls hl => ?_)
                        refine lv_goto (tgt := 73) hx hb dX6_bestSpeed_156 (by decide) ?_
                        have hl := Eq.mp (congrArg (fun z9 => lv_has ls 8 [(5, .int z9), (7, .int (nI u)), (6, .int s8), (4, .int ((tBs (a 0) mn k n i).2)), (3, .int ((tBs (a 0) mn k n i).1)), (0, .ref h), (1, .int (nI k)), (2, .int (nI n))]) (show ((nI i - 9) + 1) = (nI (i + 1) - 9) from sp_1 i)) hl
                        have hl := Eq.mp (congrArg (fun z9 => lv_has ls 8 [(5, .int (nI (i + 1) - 9)), (7, .int (nI u)), (6, .int s8), (4, .int z9), (3, .int ((tBs (a 0) mn k n i).1)), (0, .ref h), (1, .int (nI k)), (2, .int (nI n))]) (show (tBs (a 0) mn k n i).2 = (tBs (a 0) mn k n (i + 1)).2 from by first | rw [tBs, if_pos c125] | rw [tBs, if_neg c125])) hl
                        have hl := Eq.mp (congrArg (fun z9 => lv_has ls 8 [(5, .int (nI (i + 1) - 9)), (7, .int (nI u)), (6, .int s8), (4, .int ((tBs (a 0) mn k n (i + 1)).2)), (3, .int z9), (0, .ref h), (1, .int (nI k)), (2, .int (nI n))]) (show (tBs (a 0) mn k n i).1 = (tBs (a 0) mn k n (i + 1)).1 from by first | rw [tBs, if_pos c125] | rw [tBs, if_neg c125])) hl
                        have hl := lv_sub (l' := [(5, .int (nI (i + 1) - 9)), (4, .int ((tBs (a 0) mn k n (i + 1)).2)), (3, .int ((tBs (a 0) mn k n (i + 1)).1)), (0, .ref h), (1, .int (nI k)), (2, .int (nI n))]) hl [0, 3, 4, 5, 6, 7] rfl
                        exact ih_73 (i + 1) x8 y8 z8 (by omega) (by omega) _ _ _ _ hM hF hP hS hl
                      · skip
                        refine lv_aload_n hx hb dX6_bestSpeed_128 rfl (lv_at hl 5 rfl) ?_
                        refine lv_iload_n hx hb dX6_bestSpeed_129 rfl (lv_at hl 6 rfl) ?_
                        refine lv_bipush (v := 8) hx hb dX6_bestSpeed_130 (by decide) ?_
                        refine tw_cR hx hb hml hown hts (val := (tRn (va_up (a 0) (kO k 7) (nI i - 9)) mn n) (kO k 8)) (CX6_of l0 E w h ad (va_up f 13 0) (va_up (va_up (va_up (va_up (va_up a 4 (va_cpy (a 0) (a 4) 0 0 116)) 0 (tRn (va_up (a 0) (kO k 7) (nI i - 9)) mn n)) 14 x8) 15 y8) 16 z8) k 8 hM (by omega) (by omega)) (cwV 2 hts (lw_V q1730 q1732 qs40 q81 q1733) rfl rfl rfl dyX6_of ⟨Nat.le_of_ble_eq_true rfl, Nat.le_of_ble_eq_true rfl⟩) hG hP hS hM (As := [.int (nI k), .int 8]) (rest := []) rfl hl.1 rfl (lv_room (Nat.le_of_ble_eq_true rfl)) dX6_bestSpeed_132 ⟨by omega, by omega⟩ (fun H locs hP hS => ?_)
                        refine lv_istore (lv' := [(4, .int ((tRn (va_up (a 0) (kO k 7) (nI i - 9)) mn n) (kO k 8))), (7, .int (nI u)), (6, .int s8), (5, .int (nI i - 9)), (3, .int ((tBs (a 0) mn k n i).1)), (0, .ref h), (1, .int (nI k)), (2, .int (nI n))]) hx hb dX6_bestSpeed_135 hl (by decide) rfl (fun ls hl => ?_)
                        refine lv_iload hx hb dX6_bestSpeed_137 (lv_at hl 3 rfl) ?_
                        refine lv_istore_n (lv' := [(3, .int (nI i - 9)), (4, .int ((tRn (va_up (a 0) (kO k 7) (nI i - 9)) mn n) (kO k 8))), (7, .int (nI u)), (6, .int s8), (5, .int (nI i - 9)), (0, .ref h), (1, .int (nI k)), (2, .int (nI n))]) hx hb dX6_bestSpeed_139 rfl hl (by decide) rfl (fun ls hl => ?_)
                        refine lv_aload_n hx hb dX6_bestSpeed_140 rfl (lv_at hl 5 rfl) ?_
                        refine tw_get hx hb hts hown hG hP hM 4 (by decide) (hts _ q1624) (fun _ h9 => h9) (v := .ref (ad 4)) rfl dX6_bestSpeed_141 ?_
                        refine lv_iconst (v := 0) hx hb dX6_bestSpeed_144 (by decide) ?_
                        refine lv_aload_n hx hb dX6_bestSpeed_145 rfl (lv_at hl 5 rfl) ?_
                        refine tw_get hx hb hts hown hG hP hM 0 (by decide) (hts _ q1620) (fun _ h9 => h9) (v := .ref (ad 0)) rfl dX6_bestSpeed_146 ?_
                        refine lv_iconst (v := 0) hx hb dX6_bestSpeed_149 (by decide) ?_
                        refine tw_cWS hx hb hml hown hts (CX6_copies l0 E w h ad (va_up f 13 0) (va_up (va_up (va_up (va_up (va_up a 4 (va_cpy (a 0) (a 4) 0 0 116)) 0 (tRn (va_up (a 0) (kO k 7) (nI i - 9)) mn n)) 14 x8) 15 y8) 16 z8) 4 0 0 0 hM (by decide) (by decide) (by decide) (by decide) (by decide)) (va_cwS 4 hts (lw_S q1703 q1704 q81 q1705) rfl rfl rfl dyX6_copies ⟨Nat.le_of_ble_eq_true rfl, Nat.le_of_ble_eq_true rfl⟩) hG hP hS hF (As := [.ref (ad 4), .int 0, .ref (ad 0), .int 0]) (rest := []) rfl hl.1 rfl (lv_room (Nat.le_of_ble_eq_true rfl)) dX6_bestSpeed_150 ⟨by omega, by omega⟩ (fun r150 f150 a150 w H locs hp hM hF hP hS => ?_)
                        obtain ⟨hp1, hp2⟩ := hp
                        have hM := hM.ofF hp1 hp2
                        have hM : tM E w h ad (va_up f 13 0) (va_up (va_up (va_up (va_up (va_up (va_up a 4 (va_cpy (a 0) (a 4) 0 0 116)) 0 (tRn (va_up (a 0) (kO k 7) (nI i - 9)) mn n)) 14 x8) 15 y8) 16 z8) 0 (va_cpy (va_cpy (a 0) (a 4) 0 0 116) (tRn (va_up (a 0) (kO k 7) (nI i - 9)) mn n) 0 0 116)) := hM
                        have hM : tM E w h ad (va_up f 13 0) (va_up (va_up (va_up (va_up (va_up a 4 (va_cpy (a 0) (a 4) 0 0 116)) 0 (va_cpy (va_cpy (a 0) (a 4) 0 0 116) (tRn (va_up (a 0) (kO k 7) (nI i - 9)) mn n) 0 0 116)) 14 x8) 15 y8) 16 z8) := hM.of (by rw [up_cm _ 0 16 _ _ (by decide), up_cm _ 0 15 _ _ (by decide), up_cm _ 0 14 _ _ (by decide), bx_uu])
                        have hM : tM E w h ad (va_up f 13 0) (va_up (va_up (va_up (va_up (va_up a 4 (va_cpy (a 0) (a 4) 0 0 116)) 0 (a 0)) 14 x8) 15 y8) 16 z8) := hM.of (by rw [cpy_back (fun j hj => (tRn_hi hmn hj n).trans (up_n (kO_hi hj (by omega) (by decide))))])
                        refine lv_iinc (v := ((nI i - 9) + 1)) (lv' := [(5, .int ((nI i - 9) + 1)), (3, .int (nI i - 9)), (4, .int ((tRn (va_up (a 0) (kO k 7) (nI i - 9)) mn n) (kO k 8))), (7, .int (nI u)), (6, .int s8), (0, .ref h), (1, .int (nI k)), (2, .int (nI n))]) hx hb dX6_bestSpeed_153 hl (k := 4) rfl rfl (by decide) rfl (fun ls hl => ?_)
                        refine lv_goto (tgt := 73) hx hb dX6_bestSpeed_156 (by decide) ?_
                        have hl := Eq.mp (congrArg (fun z9 => lv_has ls 8 [(5, .int z9), (3, .int (nI i - 9)), (4, .int ((tRn (va_up (a 0) (kO k 7) (nI i - 9)) mn n) (kO k 8))), (7, .int (nI u)), (6, .int s8), (0, .ref h), (1, .int (nI k)), (2, .int (nI n))]) (show ((nI i - 9) + 1) = (nI (i + 1) - 9) from sp_1 i)) hl
                        have hl := Eq.mp (congrArg (fun z9 => lv_has ls 8 [(5, .int (nI (i + 1) - 9)), (3, .int (nI i - 9)), (4, .int z9), (7, .int (nI u)), (6, .int s8), (0, .ref h), (1, .int (nI k)), (2, .int (nI n))]) (show (tRn (va_up (a 0) (kO k 7) (nI i - 9)) mn n) (kO k 8) = (tBs (a 0) mn k n (i + 1)).2 from by first | rw [tBs, if_pos c125] | rw [tBs, if_neg c125])) hl
                        have hl := Eq.mp (congrArg (fun z9 => lv_has ls 8 [(5, .int (nI (i + 1) - 9)), (3, .int z9), (4, .int ((tBs (a 0) mn k n (i + 1)).2)), (7, .int (nI u)), (6, .int s8), (0, .ref h), (1, .int (nI k)), (2, .int (nI n))]) (show (nI i - 9) = (tBs (a 0) mn k n (i + 1)).1 from by first | rw [tBs, if_pos c125] | rw [tBs, if_neg c125])) hl
                        have hl := lv_sub (l' := [(5, .int (nI (i + 1) - 9)), (4, .int ((tBs (a 0) mn k n (i + 1)).2)), (3, .int ((tBs (a 0) mn k n (i + 1)).1)), (0, .ref h), (1, .int (nI k)), (2, .int (nI n))]) hl [0, 2, 1, 5, 6, 7] rfl
                        exact ih_73 (i + 1) x8 y8 z8 (by omega) (by omega) _ _ _ _ hM hF hP hS hl
                    · skip
                      refine lv_iload hx hb dX6_bestSpeed_101 (lv_at hl 1 rfl) ?_
                      refine lv_aload_n hx hb dX6_bestSpeed_103 rfl (lv_at hl 5 rfl) ?_
                      refine tw_cW hx hb hml hown hts (CX6_passes l0 E w h ad (va_up f 13 0) (va_up (va_up (va_up (va_up (va_up a 4 (va_cpy (a 0) (a 4) 0 0 116)) 0 (tRn (va_up (a 0) (kO k 7) (nI i - 9)) mn u)) 14 x8) 15 y8) 16 z8) mn hM (by omega) (show tRn (va_up (a 0) (kO k 7) (nI i - 9)) mn u 25 = nI mn from (tRn_25 u).trans ((up_n (kO_lo (by decide))).trans hm))) (cwV 0 hts (lw_V q1836 q1838 qs54 q81 q1839) rfl rfl rfl dyX6_passes ⟨Nat.le_of_ble_eq_true rfl, Nat.le_of_ble_eq_true rfl⟩) hG hP hS hM hF (As := []) (rest := [.int s8]) rfl hl.1 rfl (lv_room (Nat.le_of_ble_eq_true rfl)) dX6_bestSpeed_104 ⟨by omega, by omega⟩ (fun r104 f104 a104 w H locs hp hM hF hP hS => ?_)
                      obtain ⟨hp0, hp1, hp2⟩ := hp
                      have hM := hM.ofF hp1 hp2
                      have hM : tM E w h ad (va_up f 13 0) (va_up (va_up (va_up (va_up (va_up (va_up (va_up (va_up (va_up a 4 (va_cpy (a 0) (a 4) 0 0 116)) 0 (tRn (va_up (a 0) (kO k 7) (nI i - 9)) mn u)) 14 x8) 15 y8) 16 z8) 0 (tRd (tRn (va_up (a 0) (kO k 7) (nI i - 9)) mn u) mn x8 y8 z8)) 14 (tCA (tR1 (tRn (va_up (a 0) (kO k 7) (nI i - 9)) mn u) mn) mn x8 mn)) 15 (tCB (tR1 (tRn (va_up (a 0) (kO k 7) (nI i - 9)) mn u) mn) mn y8 mn)) 16 (tCC (tR1 (tRn (va_up (a 0) (kO k 7) (nI i - 9)) mn u) mn) mn z8 mn)) := hM
                      have hM : tM E w h ad (va_up f 13 0) (va_up (va_up (va_up (va_up (va_up a 4 (va_cpy (a 0) (a 4) 0 0 116)) 0 (tRd (tRn (va_up (a 0) (kO k 7) (nI i - 9)) mn u) mn x8 y8 z8)) 14 (tCA (tR1 (tRn (va_up (a 0) (kO k 7) (nI i - 9)) mn u) mn) mn x8 mn)) 15 (tCB (tR1 (tRn (va_up (a 0) (kO k 7) (nI i - 9)) mn u) mn) mn y8 mn)) 16 (tCC (tR1 (tRn (va_up (a 0) (kO k 7) (nI i - 9)) mn u) mn) mn z8 mn)) := hM.of (by rw [up_cm _ 0 16 _ _ (by decide), up_cm _ 0 15 _ _ (by decide), up_cm _ 0 14 _ _ (by decide), bx_uu, up_cm _ 14 16 _ _ (by decide), up_cm _ 14 15 _ _ (by decide), bx_uu, up_cm _ 15 16 _ _ (by decide), bx_uu, bx_uu])
                      refine k_top (y := tNc (tDb (tR1 (tRn (va_up (a 0) (kO k 7) (nI i - 9)) mn u) mn) mn) mn) hp0 ?_
                      refine lv_iadd hx hb dX6_bestSpeed_107 ?_
                      refine lv_istore (lv' := [(6, .int (s8 + tNc (tDb (tR1 (tRn (va_up (a 0) (kO k 7) (nI i - 9)) mn u) mn) mn) mn)), (7, .int (nI u)), (5, .int (nI i - 9)), (4, .int ((tBs (a 0) mn k n i).2)), (3, .int ((tBs (a 0) mn k n i).1)), (0, .ref h), (1, .int (nI k)), (2, .int (nI n))]) hx hb dX6_bestSpeed_108 hl (by decide) rfl (fun ls hl => ?_)
                      refine lv_iinc (v := (nI (u + 1))) (lv' := [(7, .int (nI (u + 1))), (6, .int (s8 + tNc (tDb (tR1 (tRn (va_up (a 0) (kO k 7) (nI i - 9)) mn u) mn) mn) mn)), (5, .int (nI i - 9)), (4, .int ((tBs (a 0) mn k n i).2)), (3, .int ((tBs (a 0) mn k n i).1)), (0, .ref h), (1, .int (nI k)), (2, .int (nI n))]) hx hb dX6_bestSpeed_110 hl (k := 1) rfl (nI_add u 1) (by decide) rfl (fun ls hl => ?_)
                      refine lv_goto (tgt := 95) hx hb dX6_bestSpeed_113 (by decide) ?_
                      have hl : lv_has ls 8 [(7, .int (nI (u + 1))), (6, .int (s8 + tNc (tDb (tR1 (tRn (va_up (a 0) (kO k 7) (nI i - 9)) mn u) mn) mn) mn)), (5, .int (nI i - 9)), (4, .int ((tBs (a 0) mn k n i).2)), (3, .int ((tBs (a 0) mn k n i).1)), (0, .ref h), (1, .int (nI k)), (2, .int (nI n))] := hl
                      have hM : tM E w h ad (va_up f 13 0) (va_up (va_up (va_up (va_up (va_up a 4 (va_cpy (a 0) (a 4) 0 0 116)) 0 (tRn (va_up (a 0) (kO k 7) (nI i - 9)) mn (u + 1))) 14 (tCA (tR1 (tRn (va_up (a 0) (kO k 7) (nI i - 9)) mn u) mn) mn x8 mn)) 15 (tCB (tR1 (tRn (va_up (a 0) (kO k 7) (nI i - 9)) mn u) mn) mn y8 mn)) 16 (tCC (tR1 (tRn (va_up (a 0) (kO k 7) (nI i - 9)) mn u) mn) mn z8 mn)) := hM.of (by rw [tRd_x]; rfl)
                      exact ih_95 (u + 1) (s8 + tNc (tDb (tR1 (tRn (va_up (a 0) (kO k 7) (nI i - 9)) mn u) mn) mn) mn) (tCA (tR1 (tRn (va_up (a 0) (kO k 7) (nI i - 9)) mn u) mn) mn x8 mn) (tCB (tR1 (tRn (va_up (a 0) (kO k 7) (nI i - 9)) mn u) mn) mn y8 mn) (tCC (tR1 (tRn (va_up (a 0) (kO k 7) (nI i - 9)) mn u) mn) mn z8 mn) (by omega) (by omega) _ _ _ _ hM hF hP hS hl
                have hl : lv_has ls 8 [(7, .int (nI 0)), (6, .int 0), (5, .int (nI i - 9)), (4, .int ((tBs (a 0) mn k n i).2)), (3, .int ((tBs (a 0) mn k n i).1)), (0, .ref h), (1, .int (nI k)), (2, .int (nI n))] := hl
                have hM : tM E w h ad (va_up f 13 0) (va_up (va_up (va_up (va_up (va_up a 4 (va_cpy (a 0) (a 4) 0 0 116)) 0 (tRn (va_up (a 0) (kO k 7) (nI i - 9)) mn 0)) 14 x9) 15 y9) 16 z9) := hM
                exact hloop_95 _ 0 0 x9 y9 z9 (by omega) (Nat.lt_succ_self _) _ _ _ _ hM hF hP hS hl
          have hl := Eq.mp (congrArg (fun z9 => lv_has ls 8 [(5, .int z9), (4, .int (-1)), (3, .int 0), (0, .ref h), (1, .int (nI k)), (2, .int (nI n))]) (show (-9) = (nI 0 - 9) from sp_0)) hl
          have hl : lv_has ls 8 [(5, .int (nI 0 - 9)), (4, .int ((tBs (a 0) mn k n 0).2)), (3, .int ((tBs (a 0) mn k n 0).1)), (0, .ref h), (1, .int (nI k)), (2, .int (nI n))] := hl
          have hM : tM E w h ad (va_up f 13 0) (va_up (va_up (va_up (va_up (va_up a 4 (va_cpy (a 0) (a 4) 0 0 116)) 0 (a 0)) 14 (a 14)) 15 (a 15)) 16 (a 16)) := hM.of (by funext q9; simp only [va_up]; (repeat' split) <;> first | rfl | omega | (subst_vars; rfl))
          exact hloop_73 _ 0 (a 14) (a 15) (a 16) (by omega) (Nat.lt_succ_self _) _ _ _ _ hM hF hP hS hl
        · skip
          refine lv_aload_n hx hb dX6_bestSpeed_44 rfl (lv_at hl 0 rfl) ?_
          refine lv_iconst (v := 4) hx hb dX6_bestSpeed_45 (by decide) ?_
          refine lv_iconst (v := 3) hx hb dX6_bestSpeed_46 (by decide) ?_
          refine tw_cW hx hb hml hown hts (CX6_refuses l0 E w h ad (va_up f 13 0) a 4 3 hM ) (cwV 2 hts (lw_V q1714 q1716 qs37 q81 q1717) rfl rfl rfl dyX6_refuses ⟨Nat.le_of_ble_eq_true rfl, Nat.le_of_ble_eq_true rfl⟩) hG hP hS hM hF (As := [.int 4, .int 3]) (rest := []) rfl hl.1 rfl (lv_room (Nat.le_of_ble_eq_true rfl)) dX6_bestSpeed_47 ⟨by omega, by omega⟩ (fun r47 f47 a47 w H locs hp hM hF hP hS => ?_)
          obtain ⟨hp0, hp1, hp2⟩ := hp
          have hM := hM.ofF hp1 hp2
          have hM : tM E w h ad (va_up (va_up (va_up (va_up f 13 0) 11 4) 12 (-1)) 13 3) a := hM
          refine k_top (y := 0) hp0 ?_
          have hq : qBsp (a 0) mn (nI k) (nI n) = (3, 4, 0) := by simp [qBsp, ck, cn, c6, c20, c31, c41]
          exact k_iret hx hb hr hlocks hQ hP hS (by omega) (by omega) dX6_bestSpeed_50 (⟨_, _, ⟨(a 4), (a 14), (a 15), (a 16), by rw [hq], by rw [hq, oC_rf (by decide) (by decide)], (by rw [up_same, up_self3])⟩, hM, hF⟩)
      · skip
        exact absurd c31 (by decide)
  · skip
    refine lv_iconst (v := 1) hx hb dX6_bestSpeed_9 (by decide) ?_
    refine lv_goto (tgt := 28) hx hb dX6_bestSpeed_10 (by decide) ?_
    refine tw_cW hx hb hml hown hts (CX6_fails l0 E w h ad f a 1 hM ) (cwV 1 hts (lw_V q1695 q1697 qs35 q81 q1698) rfl rfl rfl dyX6_fails ⟨Nat.le_of_ble_eq_true rfl, Nat.le_of_ble_eq_true rfl⟩) hG hP hS hM hF (As := [.int 1]) (rest := []) rfl hl.1 rfl (lv_room (Nat.le_of_ble_eq_true rfl)) dX6_bestSpeed_28 ⟨by omega, by omega⟩ (fun r28 f28 a28 w H locs hp hM hF hP hS => ?_)
    obtain ⟨hp0, hp1, hp2⟩ := hp
    have hM := hM.ofF hp1 hp2
    have hM : tM E w h ad (va_up f 13 1) a := hM
    refine k_top (y := (bI (decide (0 < 1)))) hp0 ?_
    refine k_ifeqB (x := decide (0 < 1)) (tgt := 36) hx hb dX6_bestSpeed_31 (by decide) (fun c31 => ?_) (fun c31 => ?_)
    · skip
      exact absurd c31 (by decide)
    · skip
      refine lv_iconst (v := 0) hx hb dX6_bestSpeed_34 (by decide) ?_
      have hq : qBsp (a 0) mn x y = (1, 0, 0) := by simp [qBsp, c6, c31]
      exact k_iret hx hb hr hlocks hQ hP hS (by omega) (by omega) dX6_bestSpeed_35 (⟨_, _, ⟨(a 4), (a 14), (a 15), (a 16), by rw [hq], by rw [hq, oC_no (by decide)], (by rw [up_same, up_self3])⟩, hM, hF⟩)
