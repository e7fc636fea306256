/-! THE COMPONENT, 18: what is known of a cut -/
set_option maxRecDepth 100000
abbrev rmCX8_known : Room := { frames := 0, cells := 0, slots := 0, locals := 0 }
theorem dyX8_known : yX8_known.cls = RX8 ∧ yX8_known.cls ≠ "java/lang/invoke/MethodHandle" ∧ yX8_known.cls ≠ "java/lang/invoke/VarHandle" ∧ (parseMethodDescriptor yX8_known.desc).map (fun d => d.parameters.length) = some 1 := by decide +kernel
set_option maxHeartbeats 4000000 in
theorem CX8_known (l0 : Launch) (E : gE) (w : wd) (y : Nat) (ta9 : Nat × Nat) (r0 : Int32) (l1 : Int32) (b1 : Int32) (x : Int32) (h1 : w y = some (ta9, .inr (6, [.int r0, .int l1, .int b1]))) : kC l0 yX8_known (ws_ yX8_known cX8_known 4 (some .int)) rmCX8_known 0 0 mI E w [.ref y, .int x] (fun r w' => w' = w ∧ r = (kKn r0 l1 b1 x)) := by
  refine k_open (cc := cX8_known) (maxL := 4) (ret := (some .int)) (by decide) rfl (Nat.le_of_ble_eq_true rfl) ?_
  intro p e s m args below meth c ls Q hx hb hr hml hown hts hlocks hname hQ hG hP hl hS
  have hl : lv_has ls 4 [(0, .ref y), (1, .int x)] := hl
  refine lv_iload_n hx hb dX8_known_0 rfl (lv_at hl 1 rfl) ?_
  refine lv_iconst (v := 2) hx hb dX8_known_1 (by decide) ?_
  refine lv_icmp_ge (tgt := 21) hx hb dX8_known_2 (by decide) (fun c2 => ?_) (fun c2 => ?_)
  · skip
    refine lv_iload_n hx hb dX8_known_21 rfl (lv_at hl 1 rfl) ?_
    refine lv_iconst (v := 2) hx hb dX8_known_22 (by decide) ?_
    refine lv_isub hx hb dX8_known_23 ?_
    refine lv_istore_n (lv' := [(2, .int (x - 2)), (0, .ref y), (1, .int x)]) hx hb dX8_known_24 rfl hl (by decide) rfl (fun ls hl => ?_)
    refine lv_iconst (v := 0) hx hb dX8_known_25 (by decide) ?_
    refine lv_istore_n (lv' := [(3, .int 0), (2, .int (x - 2)), (0, .ref y), (1, .int x)]) hx hb dX8_known_26 rfl hl (by decide) rfl (fun ls hl => ?_)
    have hloop_27 : ∀ (n9_27 : Nat) (q : Nat) (k : Nat) (n9 : Int32), (q + k = 6) → (tCs b1 x q k n9 = tCs b1 x 6 0 2) → q < n9_27 → ∀ (H : Heap) (locs : List Loc) (ls : Array Slot), wP E w H → va_S (gA E) s.heap H locs → lv_has ls 4 [(3, .int (nI k)), (2, .int (x - n9)), (0, .ref y), (1, .int x)] → W p l0 e rmCX8_known s m args below meth c H locs 0 0 Q (F0 m 27 ls []) := by
      intro n9_27
      induction n9_27 with
      | zero => intro q k n9 hq9 hv hn; exact absurd hn (Nat.not_lt_zero _)
      | succ n9_27 ih_27 =>
        intro q k n9 hq9 hv hn_27 H locs ls  hP hS hl
        refine lv_iload_n hx hb dX8_known_27 rfl (lv_at hl 0 rfl) ?_
        refine lv_bipush (v := 6) hx hb dX8_known_28 (by decide) ?_
        refine k_icmp_geN (x := k) (y := 6) (tgt := 60) hx hb (by omega) (by omega) dX8_known_30 (by decide) (fun c30 => ?_) (fun c30 => ?_)
        · skip
          refine lv_iconst (v := (-1)) hx hb dX8_known_60 (by decide) ?_
          exact k_iret hx hb hr hlocks hQ hP hS (by omega) (by omega) dX8_known_61 (⟨rfl, by (obtain rfl : q = 0 := by omega); rw [kKn, if_neg (Int32.not_lt.mpr c2), ← hv]; rfl⟩)
        · skip
          obtain ⟨q, rfl⟩ : ∃ z, q = z + 1 := ⟨q - 1, by omega⟩
          refine lv_aload_n hx hb dX8_known_33 rfl (lv_at hl 2 rfl) ?_
          refine k_get hx hb hts in_X8 hown hG hP h1 rfl 2 (by decide) (hts _ q1020) (fun _ h9 => h9) (v := .int b1) rfl dX8_known_34 ?_
          refine lv_iload_n hx hb dX8_known_37 rfl (lv_at hl 0 rfl) ?_
          refine lv_ishr hx hb dX8_known_38 ?_
          refine lv_iconst (v := 1) hx hb dX8_known_39 (by decide) ?_
          refine lv_iand hx hb dX8_known_40 ?_
          refine lv_iconst (v := 1) hx hb dX8_known_41 (by decide) ?_
          refine lv_icmp_ne (tgt := 54) hx hb dX8_known_42 (by decide) (fun c42 => ?_) (fun c42 => ?_)
          · skip
            refine lv_iinc (v := (nI (k + 1))) (lv' := [(3, .int (nI (k + 1))), (2, .int (x - n9)), (0, .ref y), (1, .int x)]) hx hb dX8_known_54 hl (k := 0) rfl (nI_add k 1) (by decide) rfl (fun ls hl => ?_)
            refine lv_goto (tgt := 27) hx hb dX8_known_57 (by decide) ?_
            have hl : lv_has ls 4 [(3, .int (nI (k + 1))), (2, .int (x - n9)), (0, .ref y), (1, .int x)] := hl
            exact ih_27 q (k + 1) n9 (by omega) (by first | (rw [← hv, tCs, if_pos ((bit_01 _).resolve_right c42)]; done) | (rw [← hv, tCs, if_neg (by rw [c42]; decide), if_neg (fun z => c46 (by rw [z]; grind))]; done)) (by omega) _ _ _ hP hS hl
          · skip
            refine lv_iload_n hx hb dX8_known_45 rfl (lv_at hl 1 rfl) ?_
            refine lv_if_ne (tgt := 51) hx hb dX8_known_46 (by decide) (fun c46 => ?_) (fun c46 => ?_)
            · skip
              refine lv_iinc (v := ((x - n9) + (-1))) (lv' := [(2, .int ((x - n9) + (-1))), (3, .int (nI k)), (0, .ref y), (1, .int x)]) hx hb dX8_known_51 hl (k := 1) rfl rfl (by decide) rfl (fun ls hl => ?_)
              refine lv_iinc (v := (nI (k + 1))) (lv' := [(3, .int (nI (k + 1))), (2, .int ((x - n9) + (-1))), (0, .ref y), (1, .int x)]) hx hb dX8_known_54 hl (k := 1) rfl (nI_add k 1) (by decide) rfl (fun ls hl => ?_)
              refine lv_goto (tgt := 27) hx hb dX8_known_57 (by decide) ?_
              have hl := Eq.mp (congrArg (fun z9 => lv_has ls 4 [(3, .int (nI (k + 1))), (2, .int z9), (0, .ref y), (1, .int x)]) (show ((x - n9) + (-1)) = (x - (n9 + 1)) from by grind)) hl
              have hl : lv_has ls 4 [(3, .int (nI (k + 1))), (2, .int (x - (n9 + 1))), (0, .ref y), (1, .int x)] := hl
              exact ih_27 q (k + 1) (n9 + 1) (by omega) (by first | (rw [← hv, tCs, if_pos ((bit_01 _).resolve_right c42)]; done) | (rw [← hv, tCs, if_neg (by rw [c42]; decide), if_neg (fun z => c46 (by rw [z]; grind))]; done)) (by omega) _ _ _ hP hS hl
            · skip
              refine lv_iload_n hx hb dX8_known_49 rfl (lv_at hl 0 rfl) ?_
              exact k_iret hx hb hr hlocks hQ hP hS (by omega) (by omega) dX8_known_50 (⟨rfl, by rw [kKn, if_neg (Int32.not_lt.mpr c2), ← hv, tCs, if_neg (by rw [c42]; decide), if_pos (show n9 = x from by grind)]; rfl⟩)
    have hl : lv_has ls 4 [(3, .int (nI 0)), (2, .int (x - 2)), (0, .ref y), (1, .int x)] := hl
    exact hloop_27 _ 6 0 2 (by omega) rfl (Nat.lt_succ_self _) _ _ _ hP hS hl
  · skip
    refine lv_iload_n hx hb dX8_known_5 rfl (lv_at hl 1 rfl) ?_
    refine lv_if_ne (tgt := 16) hx hb dX8_known_6 (by decide) (fun c6 => ?_) (fun c6 => ?_)
    · skip
      refine lv_aload_n hx hb dX8_known_16 rfl (lv_at hl 0 rfl) ?_
      refine k_get hx hb hts in_X8 hown hG hP h1 rfl 1 (by decide) (hts _ q1019) (fun _ h9 => h9) (v := .int l1) rfl dX8_known_17 ?_
      exact k_iret hx hb hr hlocks hQ hP hS (by omega) (by omega) dX8_known_20 (⟨rfl, by first | (rw [kKn, if_pos (Int32.not_le.mp c2), if_pos c6]; done) | (rw [kKn, if_pos (Int32.not_le.mp c2), if_neg c6]; done)⟩)
    · skip
      refine lv_aload_n hx hb dX8_known_9 rfl (lv_at hl 0 rfl) ?_
      refine k_get hx hb hts in_X8 hown hG hP h1 rfl 0 (by decide) (hts _ q1018) (fun _ h9 => h9) (v := .int r0) rfl dX8_known_10 ?_
      refine lv_goto (tgt := 20) hx hb dX8_known_13 (by decide) ?_
      exact k_iret hx hb hr hlocks hQ hP hS (by omega) (by omega) dX8_known_20 (⟨rfl, by first | (rw [kKn, if_pos (Int32.not_le.mp c2), if_pos c6]; done) | (rw [kKn, if_pos (Int32.not_le.mp c2), if_neg c6]; done)⟩)
