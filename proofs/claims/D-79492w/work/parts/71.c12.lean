/-! THE COMPONENT, 17: a town begun -/
set_option maxRecDepth 100000
abbrev rmCX2_init : Room := { frames := 3, cells := 17, slots := 116, locals := 72 }
theorem dyX2_init : yX2_init.cls = RX2 ∧ yX2_init.cls ≠ "java/lang/invoke/MethodHandle" ∧ yX2_init.cls ≠ "java/lang/invoke/VarHandle" ∧ (parseMethodDescriptor yX2_init.desc).map (fun d => d.parameters.length) = some 0 := by decide +kernel
set_option maxHeartbeats 4000000 in
theorem CX2_init (l0 : Launch) (E : gE) (w : wd) (i : Nat) (y : Nat) (hi0 : i ≠ 0) (hi3 : i < 93) (hT : w y = some ((i, 0), .inr (2, [.null, .null, .null, .int 0, .int 0, .int 0, .int 0, .int 0, .int 0, .null, .null]))) : kC l0 yX2_init (ws_ yX2_init cX2_init 2 none) rmCX2_init 17 116 mV E w [.ref y] (fun r w' => ∃ A9 : Nat → Nat, (A9 0 = y) ∧ (townR E w' i A9 tI0 0 (fun _ => 0) (fun _ => 0) ∧ True) ∧ fr (pT i) w w') := by
  refine k_open (cc := cX2_init) (maxL := 2) (ret := none) (by decide) rfl (Nat.le_of_ble_eq_true rfl) ?_
  intro p e s m args below meth c ls Q hx hb hr hml hown hts hlocks hname hQ hG hP hl hS
  have hl : lv_has ls 2 [(0, .ref y)] := hl
  obtain ⟨w0, hw0⟩ : ∃ z, z = w := ⟨_, rfl⟩
  have hF : fr (pT i) w0 w := by rw [hw0]; exact fr.rf
  rw [← hw0] at hQ
  refine lv_aload_n hx hb dX2_init_0 rfl (lv_at hl 0 rfl) ?_
  refine W.objInit hx hb hown (hts _ q122) (hts _ q115) (hts _ q116) rfl (by rw [hml]; exact hl.1) rfl dX2_init_1 (Nat.le_of_ble_eq_true rfl) (Nat.le_of_ble_eq_true rfl) ?_
  refine W.eq (g2 := F0 m 4 ls []) rfl ?_
  refine lv_aload_n hx hb dX2_init_4 rfl (lv_at hl 0 rfl) ?_
  refine lv_bipush (v := 10) hx hb dX2_init_5 (by decide) ?_
  refine k_newiW hx hb (i, 1) (hts _ q139) hG hP hS (n := 10) (by omega) (show 0 + 1 ≤ 17 from by omega) (show 0 + 10 ≤ 116 from by omega) dX2_init_7 (fun q7 w1 H h9 hf9 hP hS => ?_)
  have hS1 : w1 q7 = some ((i, 1), .inl (eT E 0, 10, .inl (fun _ => 0))) := h9
  have hT : w1 y = some ((i, 0), .inr (2, [.null, .null, .null, .int 0, .int 0, .int 0, .int 0, .int 0, .int 0, .null, .null])) := hf9 _ _ _ hT (fun z9 => z9)
  have hF : fr (pT i) w0 w1 := hF.tr (hf9.up (fun _ h9 => h9.elim))
  refine k_putFW hx hb hts in_X2 tyX2 tyX2_ok nmX2 hown hG hP hS hT rfl 0 (by decide) (hts _ q180) (fun _ h9 => h9) rfl hname rfl (ty := (.array .int)) (v := .ref q7) rfl rfl rfl (Nat.le_of_ble_eq_true rfl) dX2_init_9 (fun w2 H locs h9 hf9 hP hS => ?_)
  have hT : w2 y = some ((i, 0), .inr (2, [.ref q7, .null, .null, .int 0, .int 0, .int 0, .int 0, .int 0, .int 0, .null, .null])) := h9
  have hS1 : w2 q7 = some ((i, 1), .inl (eT E 0, 10, .inl (fun _ => 0))) := hf9 _ _ _ hS1 (by intro z9; simp only [pO, pN, pK, pT, Prod.mk.injEq] at z9 <;> omega)
  have hF : fr (pT i) w0 w2 := hF.tr (hf9.up (fun t9 h9 => by simp only [pO, pN, pK, pT] at h9 ⊢; first | exact h9 | (subst h9; simp) | (rcases h9 with h9 | h9 <;> subst h9 <;> simp)))
  refine lv_aload_n hx hb dX2_init_12 rfl (lv_at hl 0 rfl) ?_
  refine lv_bipush (v := 10) hx hb dX2_init_13 (by decide) ?_
  refine k_newiW hx hb (i, 2) (hts _ q139) hG hP hS (n := 10) (by omega) (show (0 + 1) + 1 ≤ 17 from by omega) (show (0 + 10) + 10 ≤ 116 from by omega) dX2_init_15 (fun q15 w3 H h9 hf9 hP hS => ?_)
  have hS2 : w3 q15 = some ((i, 2), .inl (eT E 0, 10, .inl (fun _ => 0))) := h9
  have hT : w3 y = some ((i, 0), .inr (2, [.ref q7, .null, .null, .int 0, .int 0, .int 0, .int 0, .int 0, .int 0, .null, .null])) := hf9 _ _ _ hT (fun z9 => z9)
  have hS1 : w3 q7 = some ((i, 1), .inl (eT E 0, 10, .inl (fun _ => 0))) := hf9 _ _ _ hS1 (fun z9 => z9)
  have hF : fr (pT i) w0 w3 := hF.tr (hf9.up (fun _ h9 => h9.elim))
  refine k_putFW hx hb hts in_X2 tyX2 tyX2_ok nmX2 hown hG hP hS hT rfl 1 (by decide) (hts _ q182) (fun _ h9 => h9) rfl hname rfl (ty := (.array .int)) (v := .ref q15) rfl rfl rfl (Nat.le_of_ble_eq_true rfl) dX2_init_17 (fun w4 H locs h9 hf9 hP hS => ?_)
  have hT : w4 y = some ((i, 0), .inr (2, [.ref q7, .ref q15, .null, .int 0, .int 0, .int 0, .int 0, .int 0, .int 0, .null, .null])) := h9
  have hS1 : w4 q7 = some ((i, 1), .inl (eT E 0, 10, .inl (fun _ => 0))) := hf9 _ _ _ hS1 (by intro z9; simp only [pO, pN, pK, pT, Prod.mk.injEq] at z9 <;> omega)
  have hS2 : w4 q15 = some ((i, 2), .inl (eT E 0, 10, .inl (fun _ => 0))) := hf9 _ _ _ hS2 (by intro z9; simp only [pO, pN, pK, pT, Prod.mk.injEq] at z9 <;> omega)
  have hF : fr (pT i) w0 w4 := hF.tr (hf9.up (fun t9 h9 => by simp only [pO, pN, pK, pT] at h9 ⊢; first | exact h9 | (subst h9; simp) | (rcases h9 with h9 | h9 <;> subst h9 <;> simp)))
  refine lv_aload_n hx hb dX2_init_20 rfl (lv_at hl 0 rfl) ?_
  refine lv_bipush (v := 6) hx hb dX2_init_21 (by decide) ?_
  refine k_newqW hx hb (i, 3) 4 hown (hts _ q123) (hG.2.1.1 _ q124 rfl) rfl hG hP hS (n := 6) (by omega) (show ((0 + 1) + 1) + 1 ≤ 17 from by omega) (show ((0 + 10) + 10) + 6 ≤ 116 from by omega) dX2_init_23 (fun q23 w5 H h9 hf9 hP hS => ?_)
  have hS3 : w5 q23 = some ((i, 3), .inl (eT E 4, 6, .inr (.inr (.inr (.inr (fun _ => none)))))) := h9
  have hT : w5 y = some ((i, 0), .inr (2, [.ref q7, .ref q15, .null, .int 0, .int 0, .int 0, .int 0, .int 0, .int 0, .null, .null])) := hf9 _ _ _ hT (fun z9 => z9)
  have hS1 : w5 q7 = some ((i, 1), .inl (eT E 0, 10, .inl (fun _ => 0))) := hf9 _ _ _ hS1 (fun z9 => z9)
  have hS2 : w5 q15 = some ((i, 2), .inl (eT E 0, 10, .inl (fun _ => 0))) := hf9 _ _ _ hS2 (fun z9 => z9)
  have hF : fr (pT i) w0 w5 := hF.tr (hf9.up (fun _ h9 => h9.elim))
  refine k_putFW hx hb hts in_X2 tyX2 tyX2_ok nmX2 hown hG hP hS hT rfl 2 (by decide) (hts _ q184) (fun _ h9 => h9) rfl hname rfl (ty := (.array (.object "KiteRoofs$Kite"))) (v := .ref q23) rfl rfl rfl (Nat.le_of_ble_eq_true rfl) dX2_init_26 (fun w6 H locs h9 hf9 hP hS => ?_)
  have hT : w6 y = some ((i, 0), .inr (2, [.ref q7, .ref q15, .ref q23, .int 0, .int 0, .int 0, .int 0, .int 0, .int 0, .null, .null])) := h9
  have hS1 : w6 q7 = some ((i, 1), .inl (eT E 0, 10, .inl (fun _ => 0))) := hf9 _ _ _ hS1 (by intro z9; simp only [pO, pN, pK, pT, Prod.mk.injEq] at z9 <;> omega)
  have hS2 : w6 q15 = some ((i, 2), .inl (eT E 0, 10, .inl (fun _ => 0))) := hf9 _ _ _ hS2 (by intro z9; simp only [pO, pN, pK, pT, Prod.mk.injEq] at z9 <;> omega)
  have hS3 : w6 q23 = some ((i, 3), .inl (eT E 4, 6, .inr (.inr (.inr (.inr (fun _ => none)))))) := hf9 _ _ _ hS3 (by intro z9; simp only [pO, pN, pK, pT, Prod.mk.injEq] at z9 <;> omega)
  have hF : fr (pT i) w0 w6 := hF.tr (hf9.up (fun t9 h9 => by simp only [pO, pN, pK, pT] at h9 ⊢; first | exact h9 | (subst h9; simp) | (rcases h9 with h9 | h9 <;> subst h9 <;> simp)))
  refine lv_aload_n hx hb dX2_init_29 rfl (lv_at hl 0 rfl) ?_
  refine lv_bipush (v := 36) hx hb dX2_init_30 (by decide) ?_
  refine k_newiW hx hb (i, 4) (hts _ q139) hG hP hS (n := 36) (by omega) (show (((0 + 1) + 1) + 1) + 1 ≤ 17 from by omega) (show (((0 + 10) + 10) + 6) + 36 ≤ 116 from by omega) dX2_init_32 (fun q32 w7 H h9 hf9 hP hS => ?_)
  have hS4 : w7 q32 = some ((i, 4), .inl (eT E 0, 36, .inl (fun _ => 0))) := h9
  have hT : w7 y = some ((i, 0), .inr (2, [.ref q7, .ref q15, .ref q23, .int 0, .int 0, .int 0, .int 0, .int 0, .int 0, .null, .null])) := hf9 _ _ _ hT (fun z9 => z9)
  have hS1 : w7 q7 = some ((i, 1), .inl (eT E 0, 10, .inl (fun _ => 0))) := hf9 _ _ _ hS1 (fun z9 => z9)
  have hS2 : w7 q15 = some ((i, 2), .inl (eT E 0, 10, .inl (fun _ => 0))) := hf9 _ _ _ hS2 (fun z9 => z9)
  have hS3 : w7 q23 = some ((i, 3), .inl (eT E 4, 6, .inr (.inr (.inr (.inr (fun _ => none)))))) := hf9 _ _ _ hS3 (fun z9 => z9)
  have hF : fr (pT i) w0 w7 := hF.tr (hf9.up (fun _ h9 => h9.elim))
  refine k_putFW hx hb hts in_X2 tyX2 tyX2_ok nmX2 hown hG hP hS hT rfl 9 (by decide) (hts _ q198) (fun _ h9 => h9) rfl hname rfl (ty := (.array .int)) (v := .ref q32) rfl rfl rfl (Nat.le_of_ble_eq_true rfl) dX2_init_34 (fun w8 H locs h9 hf9 hP hS => ?_)
  have hT : w8 y = some ((i, 0), .inr (2, [.ref q7, .ref q15, .ref q23, .int 0, .int 0, .int 0, .int 0, .int 0, .int 0, .ref q32, .null])) := h9
  have hS1 : w8 q7 = some ((i, 1), .inl (eT E 0, 10, .inl (fun _ => 0))) := hf9 _ _ _ hS1 (by intro z9; simp only [pO, pN, pK, pT, Prod.mk.injEq] at z9 <;> omega)
  have hS2 : w8 q15 = some ((i, 2), .inl (eT E 0, 10, .inl (fun _ => 0))) := hf9 _ _ _ hS2 (by intro z9; simp only [pO, pN, pK, pT, Prod.mk.injEq] at z9 <;> omega)
  have hS3 : w8 q23 = some ((i, 3), .inl (eT E 4, 6, .inr (.inr (.inr (.inr (fun _ => none)))))) := hf9 _ _ _ hS3 (by intro z9; simp only [pO, pN, pK, pT, Prod.mk.injEq] at z9 <;> omega)
  have hS4 : w8 q32 = some ((i, 4), .inl (eT E 0, 36, .inl (fun _ => 0))) := hf9 _ _ _ hS4 (by intro z9; simp only [pO, pN, pK, pT, Prod.mk.injEq] at z9 <;> omega)
  have hF : fr (pT i) w0 w8 := hF.tr (hf9.up (fun t9 h9 => by simp only [pO, pN, pK, pT] at h9 ⊢; first | exact h9 | (subst h9; simp) | (rcases h9 with h9 | h9 <;> subst h9 <;> simp)))
  refine lv_aload_n hx hb dX2_init_37 rfl (lv_at hl 0 rfl) ?_
  refine lv_bipush (v := 6) hx hb dX2_init_38 (by decide) ?_
  refine k_newiW hx hb (i, 5) (hts _ q139) hG hP hS (n := 6) (by omega) (show ((((0 + 1) + 1) + 1) + 1) + 1 ≤ 17 from by omega) (show ((((0 + 10) + 10) + 6) + 36) + 6 ≤ 116 from by omega) dX2_init_40 (fun q40 w9 H h9 hf9 hP hS => ?_)
  have hS5 : w9 q40 = some ((i, 5), .inl (eT E 0, 6, .inl (fun _ => 0))) := h9
  have hT : w9 y = some ((i, 0), .inr (2, [.ref q7, .ref q15, .ref q23, .int 0, .int 0, .int 0, .int 0, .int 0, .int 0, .ref q32, .null])) := hf9 _ _ _ hT (fun z9 => z9)
  have hS1 : w9 q7 = some ((i, 1), .inl (eT E 0, 10, .inl (fun _ => 0))) := hf9 _ _ _ hS1 (fun z9 => z9)
  have hS2 : w9 q15 = some ((i, 2), .inl (eT E 0, 10, .inl (fun _ => 0))) := hf9 _ _ _ hS2 (fun z9 => z9)
  have hS3 : w9 q23 = some ((i, 3), .inl (eT E 4, 6, .inr (.inr (.inr (.inr (fun _ => none)))))) := hf9 _ _ _ hS3 (fun z9 => z9)
  have hS4 : w9 q32 = some ((i, 4), .inl (eT E 0, 36, .inl (fun _ => 0))) := hf9 _ _ _ hS4 (fun z9 => z9)
  have hF : fr (pT i) w0 w9 := hF.tr (hf9.up (fun _ h9 => h9.elim))
  refine k_putFW hx hb hts in_X2 tyX2 tyX2_ok nmX2 hown hG hP hS hT rfl 10 (by decide) (hts _ q199) (fun _ h9 => h9) rfl hname rfl (ty := (.array .int)) (v := .ref q40) rfl rfl rfl (Nat.le_of_ble_eq_true rfl) dX2_init_42 (fun w10 H locs h9 hf9 hP hS => ?_)
  have hT : w10 y = some ((i, 0), .inr (2, [.ref q7, .ref q15, .ref q23, .int 0, .int 0, .int 0, .int 0, .int 0, .int 0, .ref q32, .ref q40])) := h9
  have hS1 : w10 q7 = some ((i, 1), .inl (eT E 0, 10, .inl (fun _ => 0))) := hf9 _ _ _ hS1 (by intro z9; simp only [pO, pN, pK, pT, Prod.mk.injEq] at z9 <;> omega)
  have hS2 : w10 q15 = some ((i, 2), .inl (eT E 0, 10, .inl (fun _ => 0))) := hf9 _ _ _ hS2 (by intro z9; simp only [pO, pN, pK, pT, Prod.mk.injEq] at z9 <;> omega)
  have hS3 : w10 q23 = some ((i, 3), .inl (eT E 4, 6, .inr (.inr (.inr (.inr (fun _ => none)))))) := hf9 _ _ _ hS3 (by intro z9; simp only [pO, pN, pK, pT, Prod.mk.injEq] at z9 <;> omega)
  have hS4 : w10 q32 = some ((i, 4), .inl (eT E 0, 36, .inl (fun _ => 0))) := hf9 _ _ _ hS4 (by intro z9; simp only [pO, pN, pK, pT, Prod.mk.injEq] at z9 <;> omega)
  have hS5 : w10 q40 = some ((i, 5), .inl (eT E 0, 6, .inl (fun _ => 0))) := hf9 _ _ _ hS5 (by intro z9; simp only [pO, pN, pK, pT, Prod.mk.injEq] at z9 <;> omega)
  have hF : fr (pT i) w0 w10 := hF.tr (hf9.up (fun t9 h9 => by simp only [pO, pN, pK, pT] at h9 ⊢; first | exact h9 | (subst h9; simp) | (rcases h9 with h9 | h9 <;> subst h9 <;> simp)))
  refine lv_iconst (v := 0) hx hb dX2_init_45 (by decide) ?_
  refine lv_istore_n (lv' := [(1, .int 0), (0, .ref y)]) hx hb dX2_init_46 rfl hl (by decide) rfl (fun ls hl => ?_)
  have hloop_47 : ∀ (n9_47 : Nat) (z9 : Nat), (z9 ≤ 10) → (10 - z9) < n9_47 → ∀ (w : wd) (H : Heap) (locs : List Loc) (ls : Array Slot), (w y = some ((i, 0), .inr (2, [.ref q7, .ref q15, .ref q23, .int 0, .int 0, .int 0, .int 0, .int 0, .int 0, .ref q32, .ref q40]))) → (w q7 = some ((i, 1), .inl (eT E 0, 10, .inl (tS3 z9)))) → (w q15 = some ((i, 2), .inl (eT E 0, 10, .inl (fun _ => 0)))) → (w q23 = some ((i, 3), .inl (eT E 4, 6, .inr (.inr (.inr (.inr (fun _ => none))))))) → (w q32 = some ((i, 4), .inl (eT E 0, 36, .inl (fun _ => 0)))) → (w q40 = some ((i, 5), .inl (eT E 0, 6, .inl (fun _ => 0)))) → fr (pT i) w0 w → wP E w H → va_S (gA E) s.heap H locs → lv_has ls 2 [(1, .int (nI z9)), (0, .ref y)] → W p l0 e rmCX2_init s m args below meth c H locs (((((0 + 1) + 1) + 1) + 1) + 1) (((((0 + 10) + 10) + 6) + 36) + 6) Q (F0 m 47 ls []) := by
    intro n9_47
    induction n9_47 with
    | zero => intro z9 hz hn; exact absurd hn (Nat.not_lt_zero _)
    | succ n9_47 ih_47 =>
      intro z9 hz hn_47 w H locs ls hT hS1 hS2 hS3 hS4 hS5 hF hP hS hl
      refine lv_iload_n hx hb dX2_init_47 rfl (lv_at hl 0 rfl) ?_
      refine lv_bipush (v := 10) hx hb dX2_init_48 (by decide) ?_
      refine k_icmp_geN (x := z9) (y := 10) (tgt := 66) hx hb (by omega) (by omega) dX2_init_50 (by decide) (fun c50 => ?_) (fun c50 => ?_)
      · skip
        have hz9 : z9 = 10 := by omega
        have hKq : kqR E w i (fun _ => 0) 0 := fun k h => absurd h (Nat.not_lt_zero k)
        refine lv_iconst (v := 0) hx hb dX2_init_66 (by decide) ?_
        refine lv_istore_n (lv' := [(1, .int 0), (0, .ref y)]) hx hb dX2_init_67 rfl hl (by decide) rfl (fun ls hl => ?_)
        have hloop_68 : ∀ (n9_68 : Nat) (z : Nat) (qs : Nat → Nat) (f9 : Nat → Option Nat), (z ≤ 6) → (∀ k, k < z → f9 k = some (qs k)) → (6 - z) < n9_68 → ∀ (w : wd) (H : Heap) (locs : List Loc) (ls : Array Slot), (w y = some ((i, 0), .inr (2, [.ref q7, .ref q15, .ref q23, .int 0, .int 0, .int 0, .int 0, .int 0, .int 0, .ref q32, .ref q40]))) → (w q7 = some ((i, 1), .inl (eT E 0, 10, .inl (tS3 z9)))) → (w q15 = some ((i, 2), .inl (eT E 0, 10, .inl (fun _ => 0)))) → (w q23 = some ((i, 3), .inl (eT E 4, 6, .inr (.inr (.inr (.inr f9)))))) → (w q32 = some ((i, 4), .inl (eT E 0, 36, .inl (fun _ => 0)))) → (w q40 = some ((i, 5), .inl (eT E 0, 6, .inl (fun _ => 0)))) → (kqR E w i qs z) → fr (pT i) w0 w → wP E w H → va_S (gA E) s.heap H locs → lv_has ls 2 [(1, .int (nI z)), (0, .ref y)] → W p l0 e rmCX2_init s m args below meth c H locs (5 + 2 * z) (68 + 8 * z) Q (F0 m 68 ls []) := by
          intro n9_68
          induction n9_68 with
          | zero => intro z qs f9 hz6 hf6 hn; exact absurd hn (Nat.not_lt_zero _)
          | succ n9_68 ih_68 =>
            intro z qs f9 hz6 hf6 hn_68 w H locs ls hT hS1 hS2 hS3 hS4 hS5 hKq hF hP hS hl
            refine lv_iload_n hx hb dX2_init_68 rfl (lv_at hl 0 rfl) ?_
            refine lv_bipush (v := 6) hx hb dX2_init_69 (by decide) ?_
            refine k_icmp_geN (x := z) (y := 6) (tgt := 93) hx hb (by omega) (by omega) dX2_init_71 (by decide) (fun c71 => ?_) (fun c71 => ?_)
            · skip
              exact k_vret hx hb hr hlocks hQ hP hS (by omega) (by omega) dX2_init_93 (⟨(tnA y q7 q15 q23 q32 q40 qs), rfl, ⟨⟨hT, ⟨_, hS1, fun q hq => by rw [hz9]; exact tI0_1 hq⟩, ⟨_, hS2, fun q hq => tI0_2⟩, ⟨_, hS3, fun k hk => by rw [tnA_k]; exact hf6 k (by omega)⟩, hS4, hS5, ⟨rfl, Nat.zero_le _⟩, ksR.q ((show z = 6 from by omega) ▸ hKq)⟩, trivial⟩, hF⟩)
            · skip
              refine lv_aload_n hx hb dX2_init_74 rfl (lv_at hl 1 rfl) ?_
              refine k_get hx hb hts in_X2 hown hG hP hT rfl 2 (by decide) (hts _ q184) (fun _ h9 => h9) (v := .ref q23) rfl dX2_init_75 ?_
              refine lv_iload_n hx hb dX2_init_78 rfl (lv_at hl 0 rfl) ?_
              refine k_newW hx hb (i, 6 + z) hts in_X3 tyX3 tyX3_ok hown (hts _ q123) (hts _ q125) (hts _ q71) hG hP hS (ci := 3) rfl (fs := [.null, .int 0, .int 0, .int 0, .int 0, .int 0, .int 0, .null]) (by decide) (show (5 + 2 * z) + 1 ≤ 17 from by omega) (show (68 + 8 * z) + 8 ≤ 116 from by omega) dX2_init_79 (fun q79 w11 H h9 hf9 hP hS => ?_)
              have hk : w11 q79 = some ((i, 6 + z), .inr (3, [.null, .int 0, .int 0, .int 0, .int 0, .int 0, .int 0, .null])) := h9
              have hT : w11 y = some ((i, 0), .inr (2, [.ref q7, .ref q15, .ref q23, .int 0, .int 0, .int 0, .int 0, .int 0, .int 0, .ref q32, .ref q40])) := hf9 _ _ _ hT (fun z9 => z9)
              have hS1 : w11 q7 = some ((i, 1), .inl (eT E 0, 10, .inl (tS3 z9))) := hf9 _ _ _ hS1 (fun z9 => z9)
              have hS2 : w11 q15 = some ((i, 2), .inl (eT E 0, 10, .inl (fun _ => 0))) := hf9 _ _ _ hS2 (fun z9 => z9)
              have hS3 : w11 q23 = some ((i, 3), .inl (eT E 4, 6, .inr (.inr (.inr (.inr f9))))) := hf9 _ _ _ hS3 (fun z9 => z9)
              have hS4 : w11 q32 = some ((i, 4), .inl (eT E 0, 36, .inl (fun _ => 0))) := hf9 _ _ _ hS4 (fun z9 => z9)
              have hS5 : w11 q40 = some ((i, 5), .inl (eT E 0, 6, .inl (fun _ => 0))) := hf9 _ _ _ hS5 (fun z9 => z9)
              have hKq : kqR E w11 i qs z := hKq.frm hf9 (by intro z9; simp only [pO, pN, pK, Prod.mk.injEq] at z9 <;> omega) (fun k9 hk9 => ⟨fun z9 => by simp only [pO, pN, pK, Prod.mk.injEq] at z9 <;> omega, fun z9 => by simp only [pO, pN, pK, Prod.mk.injEq] at z9 <;> omega⟩)
              have hF : fr (pT i) w0 w11 := hF.tr (hf9.up (fun _ h9 => h9.elim))
              refine lv_dup hx hb dX2_init_82 rfl ?_
              refine k_cIN hx hb hml hown hts (CX3_init l0 E w11 i z q79 hi0 hk) ⟨va_cnB 0 hts (lw_meth q128) rfl rfl rfl (hG.2.1.1 _ q126 rfl) (hts _ q71) dyX3_init.2 ⟨Nat.le_of_ble_eq_true rfl, Nat.le_of_ble_eq_true rfl⟩, rfl, hts _ q127⟩ hG hP hS (As := []) (rest := [.ref q79, .int (nI z), .ref q23]) rfl hl.1 rfl (lv_room (Nat.le_of_ble_eq_true rfl)) dX2_init_83 ⟨show ((5 + 2 * z) + 1) + 1 ≤ 17 from by omega, show ((68 + 8 * z) + 8) + 0 ≤ 116 from by omega⟩ (fun r83 w12 H locs hp hP hS => ?_)
              obtain ⟨t9_1, hp0, ⟨hk', hn2', -⟩, hf9⟩ := hp
              have hT : w12 y = some ((i, 0), .inr (2, [.ref q7, .ref q15, .ref q23, .int 0, .int 0, .int 0, .int 0, .int 0, .int 0, .ref q32, .ref q40])) := hf9 _ _ _ hT (by intro z9; simp only [pO, pN, pK, pT, Prod.mk.injEq] at z9 <;> omega)
              have hS1 : w12 q7 = some ((i, 1), .inl (eT E 0, 10, .inl (tS3 z9))) := hf9 _ _ _ hS1 (by intro z9; simp only [pO, pN, pK, pT, Prod.mk.injEq] at z9 <;> omega)
              have hS2 : w12 q15 = some ((i, 2), .inl (eT E 0, 10, .inl (fun _ => 0))) := hf9 _ _ _ hS2 (by intro z9; simp only [pO, pN, pK, pT, Prod.mk.injEq] at z9 <;> omega)
              have hS3 : w12 q23 = some ((i, 3), .inl (eT E 4, 6, .inr (.inr (.inr (.inr f9))))) := hf9 _ _ _ hS3 (by intro z9; simp only [pO, pN, pK, pT, Prod.mk.injEq] at z9 <;> omega)
              have hS4 : w12 q32 = some ((i, 4), .inl (eT E 0, 36, .inl (fun _ => 0))) := hf9 _ _ _ hS4 (by intro z9; simp only [pO, pN, pK, pT, Prod.mk.injEq] at z9 <;> omega)
              have hS5 : w12 q40 = some ((i, 5), .inl (eT E 0, 6, .inl (fun _ => 0))) := hf9 _ _ _ hS5 (by intro z9; simp only [pO, pN, pK, pT, Prod.mk.injEq] at z9 <;> omega)
              have hKq : kqR E w12 i qs z := hKq.frm hf9 (by intro z9; simp only [pO, pN, pK, Prod.mk.injEq] at z9 <;> omega) (fun k9 hk9 => ⟨fun z9 => by simp only [pO, pN, pK, Prod.mk.injEq] at z9 <;> omega, fun z9 => by simp only [pO, pN, pK, Prod.mk.injEq] at z9 <;> omega⟩)
              have hF : fr (pT i) w0 w12 := hF.tr (hf9.up (fun t9 h9 => by simp only [pO, pN, pK, pT] at h9 ⊢; first | exact h9 | (subst h9; simp) | (rcases h9 with h9 | h9 <;> subst h9 <;> simp)))
              have hk : w12 q79 = some ((i, 6 + z), .inr (3, [.ref (eM E (v0K 1).toNatClampNeg), .int (v0K 2), .int (v0K 3), .int (v0K 12), .int (v0K 4), .int (v0K 7), .int (v0K 8), .ref t9_1])) := hk'
              have hn2 : stR w12 i z v0K t9_1 := hn2'
              show W p l0 e rmCX2_init s m args below meth c H locs (((5 + 2 * z) + 1) + 1) ((68 + 8 * z) + 8) Q (F0 m 86 ls [.ref q79, .int (nI z), .ref q23])
              refine k_aastW hx hb hG hP hS 4 (j := z) hS3 rfl (by omega) (show z < 6 from by omega) hk rfl (fun _ _ h1 h2 => by cases h1.symm.trans h2.1; exact va_assign h2) dX2_init_86 (fun w13 H locs h9 hf9 hP hS => ?_)
              have hS3 : w13 q23 = some ((i, 3), .inl (eT E 4, 6, .inr (.inr (.inr (.inr (va_up f9 z (some q79))))))) := h9
              have hT : w13 y = some ((i, 0), .inr (2, [.ref q7, .ref q15, .ref q23, .int 0, .int 0, .int 0, .int 0, .int 0, .int 0, .ref q32, .ref q40])) := hf9 _ _ _ hT (by intro z9; simp only [pO, pN, pK, pT, Prod.mk.injEq] at z9 <;> omega)
              have hS1 : w13 q7 = some ((i, 1), .inl (eT E 0, 10, .inl (tS3 z9))) := hf9 _ _ _ hS1 (by intro z9; simp only [pO, pN, pK, pT, Prod.mk.injEq] at z9 <;> omega)
              have hS2 : w13 q15 = some ((i, 2), .inl (eT E 0, 10, .inl (fun _ => 0))) := hf9 _ _ _ hS2 (by intro z9; simp only [pO, pN, pK, pT, Prod.mk.injEq] at z9 <;> omega)
              have hS4 : w13 q32 = some ((i, 4), .inl (eT E 0, 36, .inl (fun _ => 0))) := hf9 _ _ _ hS4 (by intro z9; simp only [pO, pN, pK, pT, Prod.mk.injEq] at z9 <;> omega)
              have hS5 : w13 q40 = some ((i, 5), .inl (eT E 0, 6, .inl (fun _ => 0))) := hf9 _ _ _ hS5 (by intro z9; simp only [pO, pN, pK, pT, Prod.mk.injEq] at z9 <;> omega)
              have hKq : kqR E w13 i qs z := hKq.frm hf9 (by intro z9; simp only [pO, pN, pK, Prod.mk.injEq] at z9 <;> omega) (fun k9 hk9 => ⟨fun z9 => by simp only [pO, pN, pK, Prod.mk.injEq] at z9 <;> omega, fun z9 => by simp only [pO, pN, pK, Prod.mk.injEq] at z9 <;> omega⟩)
              have hk : w13 q79 = some ((i, 6 + z), .inr (3, [.ref (eM E (v0K 1).toNatClampNeg), .int (v0K 2), .int (v0K 3), .int (v0K 12), .int (v0K 4), .int (v0K 7), .int (v0K 8), .ref t9_1])) := hf9 _ _ _ hk (by intro z9; simp only [pO, pN, pK, pT, Prod.mk.injEq] at z9 <;> omega)
              have hn2 : stR w13 i z v0K t9_1 := hn2.fr hf9 (by intro z9; simp only [pO, pN, pK, pT, Prod.mk.injEq] at z9 <;> omega) (by intro z9; simp only [pO, pN, pK, pT, Prod.mk.injEq] at z9 <;> omega)
              have hF : fr (pT i) w0 w13 := hF.tr (hf9.up (fun t9 h9 => by simp only [pO, pN, pK, pT] at h9 ⊢; first | exact h9 | (subst h9; simp) | (rcases h9 with h9 | h9 <;> subst h9 <;> simp)))
              refine lv_iinc (v := (nI (z + 1))) (lv' := [(1, .int (nI (z + 1))), (0, .ref y)]) hx hb dX2_init_87 hl (k := 0) rfl (nI_add z 1) (by decide) rfl (fun ls hl => ?_)
              refine lv_goto (tgt := 68) hx hb dX2_init_90 (by decide) ?_
              have hl : lv_has ls 2 [(1, .int (nI (z + 1))), (0, .ref y)] := hl
              have hKq : kqR E w13 i (va_up qs z q79) (z + 1) := hKq.add ⟨hk, hn2⟩
              refine W.widen (show (((5 + 2 * z) + 1) + 1) ≤ (5 + 2 * (z + 1)) from by omega) (show ((68 + 8 * z) + 8) ≤ (68 + 8 * (z + 1)) from by omega) ?_
              exact ih_68 (z + 1) (va_up qs z q79) (va_up f9 z (some q79)) (by omega) (fq_s hf6) (by omega) _ _ _ _ hT hS1 hS2 hS3 hS4 hS5 hKq hF hP hS hl
        have hl : lv_has ls 2 [(1, .int (nI 0)), (0, .ref y)] := hl
        refine W.widen (show (((((0 + 1) + 1) + 1) + 1) + 1) ≤ (5 + 2 * 0) from by omega) (show (((((0 + 10) + 10) + 6) + 36) + 6) ≤ (68 + 8 * 0) from by omega) ?_
        exact hloop_68 _ 0 (fun _ => 0) (fun _ => none) (by omega) (fun k h => absurd h (Nat.not_lt_zero k)) (Nat.lt_succ_self _) _ _ _ _ hT hS1 hS2 hS3 hS4 hS5 hKq hF hP hS hl
      · skip
        refine lv_aload_n hx hb dX2_init_53 rfl (lv_at hl 1 rfl) ?_
        refine k_get hx hb hts in_X2 hown hG hP hT rfl 0 (by decide) (hts _ q180) (fun _ h9 => h9) (v := .ref q7) rfl dX2_init_54 ?_
        refine lv_iload_n hx hb dX2_init_57 rfl (lv_at hl 0 rfl) ?_
        refine lv_iconst (v := 3) hx hb dX2_init_58 (by decide) ?_
        refine k_iastW hx hb hG hP hS (j := z9) hS1 (by omega) (show z9 < 10 from by omega) (x := 3) dX2_init_59 (fun w14 H locs h9 hf9 hP hS => ?_)
        have hS1 : w14 q7 = some ((i, 1), .inl (eT E 0, 10, .inl (va_up (tS3 z9) z9 3))) := h9
        have hT : w14 y = some ((i, 0), .inr (2, [.ref q7, .ref q15, .ref q23, .int 0, .int 0, .int 0, .int 0, .int 0, .int 0, .ref q32, .ref q40])) := hf9 _ _ _ hT (by intro z9; simp only [pO, pN, pK, pT, Prod.mk.injEq] at z9 <;> omega)
        have hS2 : w14 q15 = some ((i, 2), .inl (eT E 0, 10, .inl (fun _ => 0))) := hf9 _ _ _ hS2 (by intro z9; simp only [pO, pN, pK, pT, Prod.mk.injEq] at z9 <;> omega)
        have hS3 : w14 q23 = some ((i, 3), .inl (eT E 4, 6, .inr (.inr (.inr (.inr (fun _ => none)))))) := hf9 _ _ _ hS3 (by intro z9; simp only [pO, pN, pK, pT, Prod.mk.injEq] at z9 <;> omega)
        have hS4 : w14 q32 = some ((i, 4), .inl (eT E 0, 36, .inl (fun _ => 0))) := hf9 _ _ _ hS4 (by intro z9; simp only [pO, pN, pK, pT, Prod.mk.injEq] at z9 <;> omega)
        have hS5 : w14 q40 = some ((i, 5), .inl (eT E 0, 6, .inl (fun _ => 0))) := hf9 _ _ _ hS5 (by intro z9; simp only [pO, pN, pK, pT, Prod.mk.injEq] at z9 <;> omega)
        have hF : fr (pT i) w0 w14 := hF.tr (hf9.up (fun t9 h9 => by simp only [pO, pN, pK, pT] at h9 ⊢; first | exact h9 | (subst h9; simp) | (rcases h9 with h9 | h9 <;> subst h9 <;> simp)))
        refine lv_iinc (v := (nI (z9 + 1))) (lv' := [(1, .int (nI (z9 + 1))), (0, .ref y)]) hx hb dX2_init_60 hl (k := 0) rfl (nI_add z9 1) (by decide) rfl (fun ls hl => ?_)
        refine lv_goto (tgt := 47) hx hb dX2_init_63 (by decide) ?_
        have hl : lv_has ls 2 [(1, .int (nI (z9 + 1))), (0, .ref y)] := hl
        have hS1 : w14 q7 = some ((i, 1), .inl (eT E 0, 10, .inl (tS3 (z9 + 1)))) := (by rw [← tS3_s]; exact hS1)
        exact ih_47 (z9 + 1) (by omega) (by omega) _ _ _ _ hT hS1 hS2 hS3 hS4 hS5 hF hP hS hl
  have hl : lv_has ls 2 [(1, .int (nI 0)), (0, .ref y)] := hl
  have hS1 : w10 q7 = some ((i, 1), .inl (eT E 0, 10, .inl (tS3 0))) := (by rw [← tS3_0]; exact hS1)
  exact hloop_47 _ 0 (by omega) (Nat.lt_succ_self _) _ _ _ _ hT hS1 hS2 hS3 hS4 hS5 hF hP hS hl
