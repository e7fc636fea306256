/-! THE COMPONENT, 15: take -/
set_option maxRecDepth 100000
abbrev rmCX2_take : Room := { frames := 4, cells := 6, slots := 12, locals := 97 }
theorem dyX2_take : yX2_take.cls = RX2 ∧ yX2_take.cls ≠ "java/lang/invoke/MethodHandle" ∧ yX2_take.cls ≠ "java/lang/invoke/VarHandle" ∧ (parseMethodDescriptor yX2_take.desc).map (fun d => d.parameters.length) = some 1 := by decide +kernel
set_option maxHeartbeats 4000000 in
theorem CX2_take (l0 : Launch) (E : gE) (w : wd) (i : Nat) (A : Nat → Nat) (g : Nat → Int32) (mn : Nat) (wn : Nat → Int32) (ly : Nat → Int32) (j : Nat) (B : Nat → Nat) (u : Nat → Int32) (nn : Nat) (wv : Nat → Int32) (lv : Nat → Int32) (hi0 : i ≠ 0) (hj0 : j ≠ 0) (hij : i ≠ j) (hi3 : i < 93) (hj3 : j < 93) (hM : townR E w i A g mn wn ly) (hN : townR E w j B u nn wv lv) : kC l0 yX2_take (ws_ yX2_take cX2_take 3 none) rmCX2_take 6 12 mV E w [.ref (A 0), .ref (B 0)] (fun r w' => (True) ∧ (townR E w' i A u nn wn ly ∧ True) ∧ fr (pT i) w w') := by
  refine k_open (cc := cX2_take) (maxL := 3) (ret := none) (by decide) rfl (Nat.le_of_ble_eq_true rfl) ?_
  intro p e s m args below meth c ls Q hx hb hr hml hown hts hlocks hname hQ hG hP hl hS
  have hl : lv_has ls 3 [(0, .ref (A 0)), (1, .ref (B 0))] := hl
  obtain ⟨w0, hw0⟩ : ∃ z, z = w := ⟨_, rfl⟩
  have hF : fr (pT i) w0 w := by rw [hw0]; exact fr.rf
  rw [← hw0] at hQ
  obtain ⟨hT, ⟨fs9, hS1, hs1⟩, ⟨fd9, hS2, hs2⟩, ⟨fk9, hS3, hs3⟩, hS4, hS5, ⟨hm, hmn⟩, hK⟩ := id hM
  obtain ⟨hTs, ⟨fs9s, hS1s, hs1s⟩, ⟨fd9s, hS2s, hs2s⟩, ⟨fk9s, hS3s, hs3s⟩, -, -, ⟨hms, hmns⟩, -⟩ := id hN
  have hKt : ksR E w i A u 0 := hK.wk
  refine lv_aload_n hx hb dX2_take_0 rfl (lv_at hl 1 rfl) ?_
  refine k_get hx hb hts in_X2 hown hG hP hTs rfl 0 (by decide) (hts _ q180) (fun _ h9 => h9) (v := .ref (B 1)) rfl dX2_take_1 ?_
  refine lv_iconst (v := 0) hx hb dX2_take_4 (by decide) ?_
  refine lv_aload_n hx hb dX2_take_5 rfl (lv_at hl 0 rfl) ?_
  refine k_get hx hb hts in_X2 hown hG hP hT rfl 0 (by decide) (hts _ q180) (fun _ h9 => h9) (v := .ref (A 1)) rfl dX2_take_6 ?_
  refine lv_iconst (v := 0) hx hb dX2_take_9 (by decide) ?_
  refine lv_bipush (v := 10) hx hb dX2_take_10 (by decide) ?_
  refine k_copyiW (sp := 0) (dp := 0) (n := 10) hx hb (hml.trans hl.1.symm) hown (hts _ q333) (hts _ q335) (hts _ q334) (hts _ q88) hG hP hS hS1s hS1 (by omega) (by omega) (by omega) (by omega) (Nat.le_of_ble_eq_true rfl) (by decide) dX2_take_12 (fun w1 H locs h9 hf9 hP hS => ?_)
  have hS1 : w1 (A 1) = some ((i, 1), .inl (eT E 0, 10, .inl (va_cpy fs9s fs9 0 0 10))) := h9
  have hN : townR E w1 j B u nn wv lv := hN.frm hf9 (by intro z9; simp only [pO, pK, Prod.mk.injEq] at z9 <;> omega) (fun r9 z9 => by simp only [pO, pK, Prod.mk.injEq] at z9 <;> omega)
  have hKt : ksR E w1 i A u 0 := hKt.frm hf9 (by intro z9; simp only [pO, pK, Prod.mk.injEq] at z9 <;> omega) (fun r9 hr9 z9 => by simp only [pO, pK, Prod.mk.injEq] at z9 <;> omega)
  have hT : w1 (A 0) = some ((i, 0), .inr (2, [.ref (A 1), .ref (A 2), .ref (A 3), .int (nI mn), .int (g 20), .int (g 21), .int (g 23), .int (g 22), .int (g 24), .ref (A 4), .ref (A 5)])) := hf9 _ _ _ hT (by intro z9; simp only [pO, pN, pK, pT, Prod.mk.injEq] at z9 <;> omega)
  have hS2 : w1 (A 2) = some ((i, 2), .inl (eT E 0, 10, .inl fd9)) := hf9 _ _ _ hS2 (by intro z9; simp only [pO, pN, pK, pT, Prod.mk.injEq] at z9 <;> omega)
  have hS3 : w1 (A 3) = some ((i, 3), .inl (eT E 4, 6, .inr (.inr (.inr (.inr fk9))))) := hf9 _ _ _ hS3 (by intro z9; simp only [pO, pN, pK, pT, Prod.mk.injEq] at z9 <;> omega)
  have hS4 : w1 (A 4) = some ((i, 4), .inl (eT E 0, 36, .inl wn)) := hf9 _ _ _ hS4 (by intro z9; simp only [pO, pN, pK, pT, Prod.mk.injEq] at z9 <;> omega)
  have hS5 : w1 (A 5) = some ((i, 5), .inl (eT E 0, 6, .inl ly)) := hf9 _ _ _ hS5 (by intro z9; simp only [pO, pN, pK, pT, Prod.mk.injEq] at z9 <;> omega)
  have hTs : w1 (B 0) = some ((j, 0), .inr (2, [.ref (B 1), .ref (B 2), .ref (B 3), .int (nI nn), .int (u 20), .int (u 21), .int (u 23), .int (u 22), .int (u 24), .ref (B 4), .ref (B 5)])) := hf9 _ _ _ hTs (by intro z9; simp only [pO, pN, pK, pT, Prod.mk.injEq] at z9 <;> omega)
  have hS1s : w1 (B 1) = some ((j, 1), .inl (eT E 0, 10, .inl fs9s)) := hf9 _ _ _ hS1s (by intro z9; simp only [pO, pN, pK, pT, Prod.mk.injEq] at z9 <;> omega)
  have hS2s : w1 (B 2) = some ((j, 2), .inl (eT E 0, 10, .inl fd9s)) := hf9 _ _ _ hS2s (by intro z9; simp only [pO, pN, pK, pT, Prod.mk.injEq] at z9 <;> omega)
  have hS3s : w1 (B 3) = some ((j, 3), .inl (eT E 4, 6, .inr (.inr (.inr (.inr fk9s))))) := hf9 _ _ _ hS3s (by intro z9; simp only [pO, pN, pK, pT, Prod.mk.injEq] at z9 <;> omega)
  have hF : fr (pT i) w0 w1 := hF.tr (hf9.up (fun t9 h9 => by simp only [pO, pN, pK, pT] at h9 ⊢; first | exact h9 | (subst h9; simp) | (rcases h9 with h9 | h9 <;> subst h9 <;> simp)))
  show W p l0 e rmCX2_take s m args below meth c H locs 0 0 Q (F0 m 15 ls [])
  refine lv_aload_n hx hb dX2_take_15 rfl (lv_at hl 1 rfl) ?_
  refine k_get hx hb hts in_X2 hown hG hP hTs rfl 1 (by decide) (hts _ q182) (fun _ h9 => h9) (v := .ref (B 2)) rfl dX2_take_16 ?_
  refine lv_iconst (v := 0) hx hb dX2_take_19 (by decide) ?_
  refine lv_aload_n hx hb dX2_take_20 rfl (lv_at hl 0 rfl) ?_
  refine k_get hx hb hts in_X2 hown hG hP hT rfl 1 (by decide) (hts _ q182) (fun _ h9 => h9) (v := .ref (A 2)) rfl dX2_take_21 ?_
  refine lv_iconst (v := 0) hx hb dX2_take_24 (by decide) ?_
  refine lv_bipush (v := 10) hx hb dX2_take_25 (by decide) ?_
  refine k_copyiW (sp := 0) (dp := 0) (n := 10) hx hb (hml.trans hl.1.symm) hown (hts _ q333) (hts _ q335) (hts _ q334) (hts _ q88) hG hP hS hS2s hS2 (by omega) (by omega) (by omega) (by omega) (Nat.le_of_ble_eq_true rfl) (by decide) dX2_take_27 (fun w2 H locs h9 hf9 hP hS => ?_)
  have hS2 : w2 (A 2) = some ((i, 2), .inl (eT E 0, 10, .inl (va_cpy fd9s fd9 0 0 10))) := h9
  have hN : townR E w2 j B u nn wv lv := hN.frm hf9 (by intro z9; simp only [pO, pK, Prod.mk.injEq] at z9 <;> omega) (fun r9 z9 => by simp only [pO, pK, Prod.mk.injEq] at z9 <;> omega)
  have hKt : ksR E w2 i A u 0 := hKt.frm hf9 (by intro z9; simp only [pO, pK, Prod.mk.injEq] at z9 <;> omega) (fun r9 hr9 z9 => by simp only [pO, pK, Prod.mk.injEq] at z9 <;> omega)
  have hT : w2 (A 0) = some ((i, 0), .inr (2, [.ref (A 1), .ref (A 2), .ref (A 3), .int (nI mn), .int (g 20), .int (g 21), .int (g 23), .int (g 22), .int (g 24), .ref (A 4), .ref (A 5)])) := hf9 _ _ _ hT (by intro z9; simp only [pO, pN, pK, pT, Prod.mk.injEq] at z9 <;> omega)
  have hS1 : w2 (A 1) = some ((i, 1), .inl (eT E 0, 10, .inl (va_cpy fs9s fs9 0 0 10))) := hf9 _ _ _ hS1 (by intro z9; simp only [pO, pN, pK, pT, Prod.mk.injEq] at z9 <;> omega)
  have hS3 : w2 (A 3) = some ((i, 3), .inl (eT E 4, 6, .inr (.inr (.inr (.inr fk9))))) := hf9 _ _ _ hS3 (by intro z9; simp only [pO, pN, pK, pT, Prod.mk.injEq] at z9 <;> omega)
  have hS4 : w2 (A 4) = some ((i, 4), .inl (eT E 0, 36, .inl wn)) := hf9 _ _ _ hS4 (by intro z9; simp only [pO, pN, pK, pT, Prod.mk.injEq] at z9 <;> omega)
  have hS5 : w2 (A 5) = some ((i, 5), .inl (eT E 0, 6, .inl ly)) := hf9 _ _ _ hS5 (by intro z9; simp only [pO, pN, pK, pT, Prod.mk.injEq] at z9 <;> omega)
  have hTs : w2 (B 0) = some ((j, 0), .inr (2, [.ref (B 1), .ref (B 2), .ref (B 3), .int (nI nn), .int (u 20), .int (u 21), .int (u 23), .int (u 22), .int (u 24), .ref (B 4), .ref (B 5)])) := hf9 _ _ _ hTs (by intro z9; simp only [pO, pN, pK, pT, Prod.mk.injEq] at z9 <;> omega)
  have hS1s : w2 (B 1) = some ((j, 1), .inl (eT E 0, 10, .inl fs9s)) := hf9 _ _ _ hS1s (by intro z9; simp only [pO, pN, pK, pT, Prod.mk.injEq] at z9 <;> omega)
  have hS2s : w2 (B 2) = some ((j, 2), .inl (eT E 0, 10, .inl fd9s)) := hf9 _ _ _ hS2s (by intro z9; simp only [pO, pN, pK, pT, Prod.mk.injEq] at z9 <;> omega)
  have hS3s : w2 (B 3) = some ((j, 3), .inl (eT E 4, 6, .inr (.inr (.inr (.inr fk9s))))) := hf9 _ _ _ hS3s (by intro z9; simp only [pO, pN, pK, pT, Prod.mk.injEq] at z9 <;> omega)
  have hF : fr (pT i) w0 w2 := hF.tr (hf9.up (fun t9 h9 => by simp only [pO, pN, pK, pT] at h9 ⊢; first | exact h9 | (subst h9; simp) | (rcases h9 with h9 | h9 <;> subst h9 <;> simp)))
  show W p l0 e rmCX2_take s m args below meth c H locs 0 0 Q (F0 m 30 ls [])
  refine lv_iconst (v := 0) hx hb dX2_take_30 (by decide) ?_
  refine lv_istore_n (lv' := [(2, .int 0), (0, .ref (A 0)), (1, .ref (B 0))]) hx hb dX2_take_31 rfl hl (by decide) rfl (fun ls hl => ?_)
  have hloop_32 : ∀ (n9_32 : Nat) (z : Nat), (z ≤ nn) → (nn - z) < n9_32 → ∀ (w : wd) (H : Heap) (locs : List Loc) (ls : Array Slot), (townR E w j B u nn wv lv) → (ksR E w i A u z) → (w (A 0) = some ((i, 0), .inr (2, [.ref (A 1), .ref (A 2), .ref (A 3), .int (nI mn), .int (g 20), .int (g 21), .int (g 23), .int (g 22), .int (g 24), .ref (A 4), .ref (A 5)]))) → (w (A 1) = some ((i, 1), .inl (eT E 0, 10, .inl (va_cpy fs9s fs9 0 0 10)))) → (w (A 2) = some ((i, 2), .inl (eT E 0, 10, .inl (va_cpy fd9s fd9 0 0 10)))) → (w (A 3) = some ((i, 3), .inl (eT E 4, 6, .inr (.inr (.inr (.inr fk9)))))) → (w (A 4) = some ((i, 4), .inl (eT E 0, 36, .inl wn))) → (w (A 5) = some ((i, 5), .inl (eT E 0, 6, .inl ly))) → (w (B 0) = some ((j, 0), .inr (2, [.ref (B 1), .ref (B 2), .ref (B 3), .int (nI nn), .int (u 20), .int (u 21), .int (u 23), .int (u 22), .int (u 24), .ref (B 4), .ref (B 5)]))) → (w (B 1) = some ((j, 1), .inl (eT E 0, 10, .inl fs9s))) → (w (B 2) = some ((j, 2), .inl (eT E 0, 10, .inl fd9s))) → (w (B 3) = some ((j, 3), .inl (eT E 4, 6, .inr (.inr (.inr (.inr fk9s)))))) → fr (pT i) w0 w → wP E w H → va_S (gA E) s.heap H locs → lv_has ls 3 [(2, .int (nI z)), (0, .ref (A 0)), (1, .ref (B 0))] → W p l0 e rmCX2_take s m args below meth c H locs z (2 * z) Q (F0 m 32 ls []) := by
    intro n9_32
    induction n9_32 with
    | zero => intro z hz hn; exact absurd hn (Nat.not_lt_zero _)
    | succ n9_32 ih_32 =>
      intro z hz hn_32 w H locs ls hN hKt hT hS1 hS2 hS3 hS4 hS5 hTs hS1s hS2s hS3s hF hP hS hl
      refine lv_iload_n hx hb dX2_take_32 rfl (lv_at hl 0 rfl) ?_
      refine lv_aload_n hx hb dX2_take_33 rfl (lv_at hl 2 rfl) ?_
      refine k_get hx hb hts in_X2 hown hG hP hTs rfl 3 (by decide) (hts _ q186) (fun _ h9 => h9) (v := .int (nI nn)) rfl dX2_take_34 ?_
      refine k_icmp_geN (x := z) (y := nn) (tgt := 61) hx hb (by omega) (by omega) dX2_take_37 (by decide) (fun c37 => ?_) (fun c37 => ?_)
      · skip
        refine lv_aload_n hx hb dX2_take_61 rfl (lv_at hl 1 rfl) ?_
        refine lv_aload_n hx hb dX2_take_62 rfl (lv_at hl 2 rfl) ?_
        refine k_get hx hb hts in_X2 hown hG hP hTs rfl 3 (by decide) (hts _ q186) (fun _ h9 => h9) (v := .int (nI nn)) rfl dX2_take_63 ?_
        refine k_putW hx hb hts in_X2 tyX2 tyX2_ok nmX2 hown hG hP hS hT rfl 3 (by decide) (hts _ q186) (fun _ h9 => h9) rfl (ty := .int) (v := .int (nI nn)) rfl rfl rfl (Nat.le_of_ble_eq_true rfl) dX2_take_66 (fun w3 H locs h9 hf9 hP hS => ?_)
        have hT : w3 (A 0) = some ((i, 0), .inr (2, [.ref (A 1), .ref (A 2), .ref (A 3), .int (nI nn), .int (g 20), .int (g 21), .int (g 23), .int (g 22), .int (g 24), .ref (A 4), .ref (A 5)])) := h9
        have hN : townR E w3 j B u nn wv lv := hN.frm hf9 (by intro z9; simp only [pO, pK, Prod.mk.injEq] at z9 <;> omega) (fun r9 z9 => by simp only [pO, pK, Prod.mk.injEq] at z9 <;> omega)
        have hKt : ksR E w3 i A u z := hKt.frm hf9 (by intro z9; simp only [pO, pK, Prod.mk.injEq] at z9 <;> omega) (fun r9 hr9 z9 => by simp only [pO, pK, Prod.mk.injEq] at z9 <;> omega)
        have hS1 : w3 (A 1) = some ((i, 1), .inl (eT E 0, 10, .inl (va_cpy fs9s fs9 0 0 10))) := hf9 _ _ _ hS1 (by intro z9; simp only [pO, pN, pK, pT, Prod.mk.injEq] at z9 <;> omega)
        have hS2 : w3 (A 2) = some ((i, 2), .inl (eT E 0, 10, .inl (va_cpy fd9s fd9 0 0 10))) := hf9 _ _ _ hS2 (by intro z9; simp only [pO, pN, pK, pT, Prod.mk.injEq] at z9 <;> omega)
        have hS3 : w3 (A 3) = some ((i, 3), .inl (eT E 4, 6, .inr (.inr (.inr (.inr fk9))))) := hf9 _ _ _ hS3 (by intro z9; simp only [pO, pN, pK, pT, Prod.mk.injEq] at z9 <;> omega)
        have hS4 : w3 (A 4) = some ((i, 4), .inl (eT E 0, 36, .inl wn)) := hf9 _ _ _ hS4 (by intro z9; simp only [pO, pN, pK, pT, Prod.mk.injEq] at z9 <;> omega)
        have hS5 : w3 (A 5) = some ((i, 5), .inl (eT E 0, 6, .inl ly)) := hf9 _ _ _ hS5 (by intro z9; simp only [pO, pN, pK, pT, Prod.mk.injEq] at z9 <;> omega)
        have hTs : w3 (B 0) = some ((j, 0), .inr (2, [.ref (B 1), .ref (B 2), .ref (B 3), .int (nI nn), .int (u 20), .int (u 21), .int (u 23), .int (u 22), .int (u 24), .ref (B 4), .ref (B 5)])) := hf9 _ _ _ hTs (by intro z9; simp only [pO, pN, pK, pT, Prod.mk.injEq] at z9 <;> omega)
        have hS1s : w3 (B 1) = some ((j, 1), .inl (eT E 0, 10, .inl fs9s)) := hf9 _ _ _ hS1s (by intro z9; simp only [pO, pN, pK, pT, Prod.mk.injEq] at z9 <;> omega)
        have hS2s : w3 (B 2) = some ((j, 2), .inl (eT E 0, 10, .inl fd9s)) := hf9 _ _ _ hS2s (by intro z9; simp only [pO, pN, pK, pT, Prod.mk.injEq] at z9 <;> omega)
        have hS3s : w3 (B 3) = some ((j, 3), .inl (eT E 4, 6, .inr (.inr (.inr (.inr fk9s))))) := hf9 _ _ _ hS3s (by intro z9; simp only [pO, pN, pK, pT, Prod.mk.injEq] at z9 <;> omega)
        have hF : fr (pT i) w0 w3 := hF.tr (hf9.up (fun t9 h9 => by simp only [pO, pN, pK, pT] at h9 ⊢; first | exact h9 | (subst h9; simp) | (rcases h9 with h9 | h9 <;> subst h9 <;> simp)))
        refine lv_aload_n hx hb dX2_take_69 rfl (lv_at hl 1 rfl) ?_
        refine lv_aload_n hx hb dX2_take_70 rfl (lv_at hl 2 rfl) ?_
        refine k_get hx hb hts in_X2 hown hG hP hTs rfl 4 (by decide) (hts _ q188) (fun _ h9 => h9) (v := .int (u 20)) rfl dX2_take_71 ?_
        refine k_putW hx hb hts in_X2 tyX2 tyX2_ok nmX2 hown hG hP hS hT rfl 4 (by decide) (hts _ q188) (fun _ h9 => h9) rfl (ty := .int) (v := .int (u 20)) rfl rfl rfl (Nat.le_of_ble_eq_true rfl) dX2_take_74 (fun w4 H locs h9 hf9 hP hS => ?_)
        have hT : w4 (A 0) = some ((i, 0), .inr (2, [.ref (A 1), .ref (A 2), .ref (A 3), .int (nI nn), .int (u 20), .int (g 21), .int (g 23), .int (g 22), .int (g 24), .ref (A 4), .ref (A 5)])) := h9
        have hN : townR E w4 j B u nn wv lv := hN.frm hf9 (by intro z9; simp only [pO, pK, Prod.mk.injEq] at z9 <;> omega) (fun r9 z9 => by simp only [pO, pK, Prod.mk.injEq] at z9 <;> omega)
        have hKt : ksR E w4 i A u z := hKt.frm hf9 (by intro z9; simp only [pO, pK, Prod.mk.injEq] at z9 <;> omega) (fun r9 hr9 z9 => by simp only [pO, pK, Prod.mk.injEq] at z9 <;> omega)
        have hS1 : w4 (A 1) = some ((i, 1), .inl (eT E 0, 10, .inl (va_cpy fs9s fs9 0 0 10))) := hf9 _ _ _ hS1 (by intro z9; simp only [pO, pN, pK, pT, Prod.mk.injEq] at z9 <;> omega)
        have hS2 : w4 (A 2) = some ((i, 2), .inl (eT E 0, 10, .inl (va_cpy fd9s fd9 0 0 10))) := hf9 _ _ _ hS2 (by intro z9; simp only [pO, pN, pK, pT, Prod.mk.injEq] at z9 <;> omega)
        have hS3 : w4 (A 3) = some ((i, 3), .inl (eT E 4, 6, .inr (.inr (.inr (.inr fk9))))) := hf9 _ _ _ hS3 (by intro z9; simp only [pO, pN, pK, pT, Prod.mk.injEq] at z9 <;> omega)
        have hS4 : w4 (A 4) = some ((i, 4), .inl (eT E 0, 36, .inl wn)) := hf9 _ _ _ hS4 (by intro z9; simp only [pO, pN, pK, pT, Prod.mk.injEq] at z9 <;> omega)
        have hS5 : w4 (A 5) = some ((i, 5), .inl (eT E 0, 6, .inl ly)) := hf9 _ _ _ hS5 (by intro z9; simp only [pO, pN, pK, pT, Prod.mk.injEq] at z9 <;> omega)
        have hTs : w4 (B 0) = some ((j, 0), .inr (2, [.ref (B 1), .ref (B 2), .ref (B 3), .int (nI nn), .int (u 20), .int (u 21), .int (u 23), .int (u 22), .int (u 24), .ref (B 4), .ref (B 5)])) := hf9 _ _ _ hTs (by intro z9; simp only [pO, pN, pK, pT, Prod.mk.injEq] at z9 <;> omega)
        have hS1s : w4 (B 1) = some ((j, 1), .inl (eT E 0, 10, .inl fs9s)) := hf9 _ _ _ hS1s (by intro z9; simp only [pO, pN, pK, pT, Prod.mk.injEq] at z9 <;> omega)
        have hS2s : w4 (B 2) = some ((j, 2), .inl (eT E 0, 10, .inl fd9s)) := hf9 _ _ _ hS2s (by intro z9; simp only [pO, pN, pK, pT, Prod.mk.injEq] at z9 <;> omega)
        have hS3s : w4 (B 3) = some ((j, 3), .inl (eT E 4, 6, .inr (.inr (.inr (.inr fk9s))))) := hf9 _ _ _ hS3s (by intro z9; simp only [pO, pN, pK, pT, Prod.mk.injEq] at z9 <;> omega)
        have hF : fr (pT i) w0 w4 := hF.tr (hf9.up (fun t9 h9 => by simp only [pO, pN, pK, pT] at h9 ⊢; first | exact h9 | (subst h9; simp) | (rcases h9 with h9 | h9 <;> subst h9 <;> simp)))
        refine lv_aload_n hx hb dX2_take_77 rfl (lv_at hl 1 rfl) ?_
        refine lv_aload_n hx hb dX2_take_78 rfl (lv_at hl 2 rfl) ?_
        refine k_get hx hb hts in_X2 hown hG hP hTs rfl 5 (by decide) (hts _ q190) (fun _ h9 => h9) (v := .int (u 21)) rfl dX2_take_79 ?_
        refine k_putW hx hb hts in_X2 tyX2 tyX2_ok nmX2 hown hG hP hS hT rfl 5 (by decide) (hts _ q190) (fun _ h9 => h9) rfl (ty := .int) (v := .int (u 21)) rfl rfl rfl (Nat.le_of_ble_eq_true rfl) dX2_take_82 (fun w5 H locs h9 hf9 hP hS => ?_)
        have hT : w5 (A 0) = some ((i, 0), .inr (2, [.ref (A 1), .ref (A 2), .ref (A 3), .int (nI nn), .int (u 20), .int (u 21), .int (g 23), .int (g 22), .int (g 24), .ref (A 4), .ref (A 5)])) := h9
        have hN : townR E w5 j B u nn wv lv := hN.frm hf9 (by intro z9; simp only [pO, pK, Prod.mk.injEq] at z9 <;> omega) (fun r9 z9 => by simp only [pO, pK, Prod.mk.injEq] at z9 <;> omega)
        have hKt : ksR E w5 i A u z := hKt.frm hf9 (by intro z9; simp only [pO, pK, Prod.mk.injEq] at z9 <;> omega) (fun r9 hr9 z9 => by simp only [pO, pK, Prod.mk.injEq] at z9 <;> omega)
        have hS1 : w5 (A 1) = some ((i, 1), .inl (eT E 0, 10, .inl (va_cpy fs9s fs9 0 0 10))) := hf9 _ _ _ hS1 (by intro z9; simp only [pO, pN, pK, pT, Prod.mk.injEq] at z9 <;> omega)
        have hS2 : w5 (A 2) = some ((i, 2), .inl (eT E 0, 10, .inl (va_cpy fd9s fd9 0 0 10))) := hf9 _ _ _ hS2 (by intro z9; simp only [pO, pN, pK, pT, Prod.mk.injEq] at z9 <;> omega)
        have hS3 : w5 (A 3) = some ((i, 3), .inl (eT E 4, 6, .inr (.inr (.inr (.inr fk9))))) := hf9 _ _ _ hS3 (by intro z9; simp only [pO, pN, pK, pT, Prod.mk.injEq] at z9 <;> omega)
        have hS4 : w5 (A 4) = some ((i, 4), .inl (eT E 0, 36, .inl wn)) := hf9 _ _ _ hS4 (by intro z9; simp only [pO, pN, pK, pT, Prod.mk.injEq] at z9 <;> omega)
        have hS5 : w5 (A 5) = some ((i, 5), .inl (eT E 0, 6, .inl ly)) := hf9 _ _ _ hS5 (by intro z9; simp only [pO, pN, pK, pT, Prod.mk.injEq] at z9 <;> omega)
        have hTs : w5 (B 0) = some ((j, 0), .inr (2, [.ref (B 1), .ref (B 2), .ref (B 3), .int (nI nn), .int (u 20), .int (u 21), .int (u 23), .int (u 22), .int (u 24), .ref (B 4), .ref (B 5)])) := hf9 _ _ _ hTs (by intro z9; simp only [pO, pN, pK, pT, Prod.mk.injEq] at z9 <;> omega)
        have hS1s : w5 (B 1) = some ((j, 1), .inl (eT E 0, 10, .inl fs9s)) := hf9 _ _ _ hS1s (by intro z9; simp only [pO, pN, pK, pT, Prod.mk.injEq] at z9 <;> omega)
        have hS2s : w5 (B 2) = some ((j, 2), .inl (eT E 0, 10, .inl fd9s)) := hf9 _ _ _ hS2s (by intro z9; simp only [pO, pN, pK, pT, Prod.mk.injEq] at z9 <;> omega)
        have hS3s : w5 (B 3) = some ((j, 3), .inl (eT E 4, 6, .inr (.inr (.inr (.inr fk9s))))) := hf9 _ _ _ hS3s (by intro z9; simp only [pO, pN, pK, pT, Prod.mk.injEq] at z9 <;> omega)
        have hF : fr (pT i) w0 w5 := hF.tr (hf9.up (fun t9 h9 => by simp only [pO, pN, pK, pT] at h9 ⊢; first | exact h9 | (subst h9; simp) | (rcases h9 with h9 | h9 <;> subst h9 <;> simp)))
        refine lv_aload_n hx hb dX2_take_85 rfl (lv_at hl 1 rfl) ?_
        refine lv_aload_n hx hb dX2_take_86 rfl (lv_at hl 2 rfl) ?_
        refine k_get hx hb hts in_X2 hown hG hP hTs rfl 6 (by decide) (hts _ q192) (fun _ h9 => h9) (v := .int (u 23)) rfl dX2_take_87 ?_
        refine k_putW hx hb hts in_X2 tyX2 tyX2_ok nmX2 hown hG hP hS hT rfl 6 (by decide) (hts _ q192) (fun _ h9 => h9) rfl (ty := .int) (v := .int (u 23)) rfl rfl rfl (Nat.le_of_ble_eq_true rfl) dX2_take_90 (fun w6 H locs h9 hf9 hP hS => ?_)
        have hT : w6 (A 0) = some ((i, 0), .inr (2, [.ref (A 1), .ref (A 2), .ref (A 3), .int (nI nn), .int (u 20), .int (u 21), .int (u 23), .int (g 22), .int (g 24), .ref (A 4), .ref (A 5)])) := h9
        have hN : townR E w6 j B u nn wv lv := hN.frm hf9 (by intro z9; simp only [pO, pK, Prod.mk.injEq] at z9 <;> omega) (fun r9 z9 => by simp only [pO, pK, Prod.mk.injEq] at z9 <;> omega)
        have hKt : ksR E w6 i A u z := hKt.frm hf9 (by intro z9; simp only [pO, pK, Prod.mk.injEq] at z9 <;> omega) (fun r9 hr9 z9 => by simp only [pO, pK, Prod.mk.injEq] at z9 <;> omega)
        have hS1 : w6 (A 1) = some ((i, 1), .inl (eT E 0, 10, .inl (va_cpy fs9s fs9 0 0 10))) := hf9 _ _ _ hS1 (by intro z9; simp only [pO, pN, pK, pT, Prod.mk.injEq] at z9 <;> omega)
        have hS2 : w6 (A 2) = some ((i, 2), .inl (eT E 0, 10, .inl (va_cpy fd9s fd9 0 0 10))) := hf9 _ _ _ hS2 (by intro z9; simp only [pO, pN, pK, pT, Prod.mk.injEq] at z9 <;> omega)
        have hS3 : w6 (A 3) = some ((i, 3), .inl (eT E 4, 6, .inr (.inr (.inr (.inr fk9))))) := hf9 _ _ _ hS3 (by intro z9; simp only [pO, pN, pK, pT, Prod.mk.injEq] at z9 <;> omega)
        have hS4 : w6 (A 4) = some ((i, 4), .inl (eT E 0, 36, .inl wn)) := hf9 _ _ _ hS4 (by intro z9; simp only [pO, pN, pK, pT, Prod.mk.injEq] at z9 <;> omega)
        have hS5 : w6 (A 5) = some ((i, 5), .inl (eT E 0, 6, .inl ly)) := hf9 _ _ _ hS5 (by intro z9; simp only [pO, pN, pK, pT, Prod.mk.injEq] at z9 <;> omega)
        have hTs : w6 (B 0) = some ((j, 0), .inr (2, [.ref (B 1), .ref (B 2), .ref (B 3), .int (nI nn), .int (u 20), .int (u 21), .int (u 23), .int (u 22), .int (u 24), .ref (B 4), .ref (B 5)])) := hf9 _ _ _ hTs (by intro z9; simp only [pO, pN, pK, pT, Prod.mk.injEq] at z9 <;> omega)
        have hS1s : w6 (B 1) = some ((j, 1), .inl (eT E 0, 10, .inl fs9s)) := hf9 _ _ _ hS1s (by intro z9; simp only [pO, pN, pK, pT, Prod.mk.injEq] at z9 <;> omega)
        have hS2s : w6 (B 2) = some ((j, 2), .inl (eT E 0, 10, .inl fd9s)) := hf9 _ _ _ hS2s (by intro z9; simp only [pO, pN, pK, pT, Prod.mk.injEq] at z9 <;> omega)
        have hS3s : w6 (B 3) = some ((j, 3), .inl (eT E 4, 6, .inr (.inr (.inr (.inr fk9s))))) := hf9 _ _ _ hS3s (by intro z9; simp only [pO, pN, pK, pT, Prod.mk.injEq] at z9 <;> omega)
        have hF : fr (pT i) w0 w6 := hF.tr (hf9.up (fun t9 h9 => by simp only [pO, pN, pK, pT] at h9 ⊢; first | exact h9 | (subst h9; simp) | (rcases h9 with h9 | h9 <;> subst h9 <;> simp)))
        refine lv_aload_n hx hb dX2_take_93 rfl (lv_at hl 1 rfl) ?_
        refine lv_aload_n hx hb dX2_take_94 rfl (lv_at hl 2 rfl) ?_
        refine k_get hx hb hts in_X2 hown hG hP hTs rfl 7 (by decide) (hts _ q194) (fun _ h9 => h9) (v := .int (u 22)) rfl dX2_take_95 ?_
        refine k_putW hx hb hts in_X2 tyX2 tyX2_ok nmX2 hown hG hP hS hT rfl 7 (by decide) (hts _ q194) (fun _ h9 => h9) rfl (ty := .int) (v := .int (u 22)) rfl rfl rfl (Nat.le_of_ble_eq_true rfl) dX2_take_98 (fun w7 H locs h9 hf9 hP hS => ?_)
        have hT : w7 (A 0) = some ((i, 0), .inr (2, [.ref (A 1), .ref (A 2), .ref (A 3), .int (nI nn), .int (u 20), .int (u 21), .int (u 23), .int (u 22), .int (g 24), .ref (A 4), .ref (A 5)])) := h9
        have hN : townR E w7 j B u nn wv lv := hN.frm hf9 (by intro z9; simp only [pO, pK, Prod.mk.injEq] at z9 <;> omega) (fun r9 z9 => by simp only [pO, pK, Prod.mk.injEq] at z9 <;> omega)
        have hKt : ksR E w7 i A u z := hKt.frm hf9 (by intro z9; simp only [pO, pK, Prod.mk.injEq] at z9 <;> omega) (fun r9 hr9 z9 => by simp only [pO, pK, Prod.mk.injEq] at z9 <;> omega)
        have hS1 : w7 (A 1) = some ((i, 1), .inl (eT E 0, 10, .inl (va_cpy fs9s fs9 0 0 10))) := hf9 _ _ _ hS1 (by intro z9; simp only [pO, pN, pK, pT, Prod.mk.injEq] at z9 <;> omega)
        have hS2 : w7 (A 2) = some ((i, 2), .inl (eT E 0, 10, .inl (va_cpy fd9s fd9 0 0 10))) := hf9 _ _ _ hS2 (by intro z9; simp only [pO, pN, pK, pT, Prod.mk.injEq] at z9 <;> omega)
        have hS3 : w7 (A 3) = some ((i, 3), .inl (eT E 4, 6, .inr (.inr (.inr (.inr fk9))))) := hf9 _ _ _ hS3 (by intro z9; simp only [pO, pN, pK, pT, Prod.mk.injEq] at z9 <;> omega)
        have hS4 : w7 (A 4) = some ((i, 4), .inl (eT E 0, 36, .inl wn)) := hf9 _ _ _ hS4 (by intro z9; simp only [pO, pN, pK, pT, Prod.mk.injEq] at z9 <;> omega)
        have hS5 : w7 (A 5) = some ((i, 5), .inl (eT E 0, 6, .inl ly)) := hf9 _ _ _ hS5 (by intro z9; simp only [pO, pN, pK, pT, Prod.mk.injEq] at z9 <;> omega)
        have hTs : w7 (B 0) = some ((j, 0), .inr (2, [.ref (B 1), .ref (B 2), .ref (B 3), .int (nI nn), .int (u 20), .int (u 21), .int (u 23), .int (u 22), .int (u 24), .ref (B 4), .ref (B 5)])) := hf9 _ _ _ hTs (by intro z9; simp only [pO, pN, pK, pT, Prod.mk.injEq] at z9 <;> omega)
        have hS1s : w7 (B 1) = some ((j, 1), .inl (eT E 0, 10, .inl fs9s)) := hf9 _ _ _ hS1s (by intro z9; simp only [pO, pN, pK, pT, Prod.mk.injEq] at z9 <;> omega)
        have hS2s : w7 (B 2) = some ((j, 2), .inl (eT E 0, 10, .inl fd9s)) := hf9 _ _ _ hS2s (by intro z9; simp only [pO, pN, pK, pT, Prod.mk.injEq] at z9 <;> omega)
        have hS3s : w7 (B 3) = some ((j, 3), .inl (eT E 4, 6, .inr (.inr (.inr (.inr fk9s))))) := hf9 _ _ _ hS3s (by intro z9; simp only [pO, pN, pK, pT, Prod.mk.injEq] at z9 <;> omega)
        have hF : fr (pT i) w0 w7 := hF.tr (hf9.up (fun t9 h9 => by simp only [pO, pN, pK, pT] at h9 ⊢; first | exact h9 | (subst h9; simp) | (rcases h9 with h9 | h9 <;> subst h9 <;> simp)))
        refine lv_aload_n hx hb dX2_take_101 rfl (lv_at hl 1 rfl) ?_
        refine lv_aload_n hx hb dX2_take_102 rfl (lv_at hl 2 rfl) ?_
        refine k_get hx hb hts in_X2 hown hG hP hTs rfl 8 (by decide) (hts _ q196) (fun _ h9 => h9) (v := .int (u 24)) rfl dX2_take_103 ?_
        refine k_putW hx hb hts in_X2 tyX2 tyX2_ok nmX2 hown hG hP hS hT rfl 8 (by decide) (hts _ q196) (fun _ h9 => h9) rfl (ty := .int) (v := .int (u 24)) rfl rfl rfl (Nat.le_of_ble_eq_true rfl) dX2_take_106 (fun w8 H locs h9 hf9 hP hS => ?_)
        have hT : w8 (A 0) = some ((i, 0), .inr (2, [.ref (A 1), .ref (A 2), .ref (A 3), .int (nI nn), .int (u 20), .int (u 21), .int (u 23), .int (u 22), .int (u 24), .ref (A 4), .ref (A 5)])) := h9
        have hN : townR E w8 j B u nn wv lv := hN.frm hf9 (by intro z9; simp only [pO, pK, Prod.mk.injEq] at z9 <;> omega) (fun r9 z9 => by simp only [pO, pK, Prod.mk.injEq] at z9 <;> omega)
        have hKt : ksR E w8 i A u z := hKt.frm hf9 (by intro z9; simp only [pO, pK, Prod.mk.injEq] at z9 <;> omega) (fun r9 hr9 z9 => by simp only [pO, pK, Prod.mk.injEq] at z9 <;> omega)
        have hS1 : w8 (A 1) = some ((i, 1), .inl (eT E 0, 10, .inl (va_cpy fs9s fs9 0 0 10))) := hf9 _ _ _ hS1 (by intro z9; simp only [pO, pN, pK, pT, Prod.mk.injEq] at z9 <;> omega)
        have hS2 : w8 (A 2) = some ((i, 2), .inl (eT E 0, 10, .inl (va_cpy fd9s fd9 0 0 10))) := hf9 _ _ _ hS2 (by intro z9; simp only [pO, pN, pK, pT, Prod.mk.injEq] at z9 <;> omega)
        have hS3 : w8 (A 3) = some ((i, 3), .inl (eT E 4, 6, .inr (.inr (.inr (.inr fk9))))) := hf9 _ _ _ hS3 (by intro z9; simp only [pO, pN, pK, pT, Prod.mk.injEq] at z9 <;> omega)
        have hS4 : w8 (A 4) = some ((i, 4), .inl (eT E 0, 36, .inl wn)) := hf9 _ _ _ hS4 (by intro z9; simp only [pO, pN, pK, pT, Prod.mk.injEq] at z9 <;> omega)
        have hS5 : w8 (A 5) = some ((i, 5), .inl (eT E 0, 6, .inl ly)) := hf9 _ _ _ hS5 (by intro z9; simp only [pO, pN, pK, pT, Prod.mk.injEq] at z9 <;> omega)
        have hTs : w8 (B 0) = some ((j, 0), .inr (2, [.ref (B 1), .ref (B 2), .ref (B 3), .int (nI nn), .int (u 20), .int (u 21), .int (u 23), .int (u 22), .int (u 24), .ref (B 4), .ref (B 5)])) := hf9 _ _ _ hTs (by intro z9; simp only [pO, pN, pK, pT, Prod.mk.injEq] at z9 <;> omega)
        have hS1s : w8 (B 1) = some ((j, 1), .inl (eT E 0, 10, .inl fs9s)) := hf9 _ _ _ hS1s (by intro z9; simp only [pO, pN, pK, pT, Prod.mk.injEq] at z9 <;> omega)
        have hS2s : w8 (B 2) = some ((j, 2), .inl (eT E 0, 10, .inl fd9s)) := hf9 _ _ _ hS2s (by intro z9; simp only [pO, pN, pK, pT, Prod.mk.injEq] at z9 <;> omega)
        have hS3s : w8 (B 3) = some ((j, 3), .inl (eT E 4, 6, .inr (.inr (.inr (.inr fk9s))))) := hf9 _ _ _ hS3s (by intro z9; simp only [pO, pN, pK, pT, Prod.mk.injEq] at z9 <;> omega)
        have hF : fr (pT i) w0 w8 := hF.tr (hf9.up (fun t9 h9 => by simp only [pO, pN, pK, pT] at h9 ⊢; first | exact h9 | (subst h9; simp) | (rcases h9 with h9 | h9 <;> subst h9 <;> simp)))
        exact k_vret hx hb hr hlocks hQ hP hS (by omega) (by omega) dX2_take_109 (⟨trivial, ⟨⟨hT, ⟨_, hS1, fun q hq => cpy_10 (u := u) hq _ (hs1s q hq)⟩, ⟨_, hS2, fun q hq => cpy_10 (u := u) hq _ (hs2s q hq)⟩, ⟨_, hS3, hs3⟩, hS4, hS5, ⟨hms, hmns⟩, (show z = nn from by omega) ▸ hKt⟩, trivial⟩, hF⟩)
      · skip
        obtain ⟨v8, t8, -, hk8, hs8⟩ := hKt z (by omega); obtain ⟨t7, hk7, hs7⟩ := hN.kite (k := z) (by omega)
        refine lv_aload_n hx hb dX2_take_40 rfl (lv_at hl 1 rfl) ?_
        refine k_get hx hb hts in_X2 hown hG hP hT rfl 2 (by decide) (hts _ q184) (fun _ h9 => h9) (v := .ref (A 3)) rfl dX2_take_41 ?_
        refine lv_iload_n hx hb dX2_take_44 rfl (lv_at hl 0 rfl) ?_
        refine k_aald hx hb hG hP (j := z) 4 hS3 rfl (by omega) (show z < 6 from by omega) dX2_take_45 ?_
        rw [hs3 z (by omega)]
        refine lv_aload_n hx hb dX2_take_46 rfl (lv_at hl 2 rfl) ?_
        refine k_get hx hb hts in_X2 hown hG hP hTs rfl 2 (by decide) (hts _ q184) (fun _ h9 => h9) (v := .ref (B 3)) rfl dX2_take_47 ?_
        refine lv_iload_n hx hb dX2_take_50 rfl (lv_at hl 0 rfl) ?_
        refine k_aald hx hb hG hP (j := z) 4 hS3s rfl (by omega) (show z < 6 from by omega) dX2_take_51 ?_
        rw [hs3s z (by omega)]
        refine k_cV hx hb hml hown hts (CX3_take l0 E w i z (A (6 + z)) v8 t8 j z (B (6 + z)) (kv u z) t7 hij hi0 hk8 hs8 hk7 hs7) (cwV 1 hts (lw_V q336 q337 q338 q71 q339) rfl rfl rfl dyX3_take ⟨Nat.le_of_ble_eq_true rfl, Nat.le_of_ble_eq_true rfl⟩) hG hP hS hk8 rfl (As := [.ref (B (6 + z))]) (rest := []) rfl hl.1 rfl (lv_room (Nat.le_of_ble_eq_true rfl)) dX2_take_52 ⟨show z + 1 ≤ 6 from by omega, show (2 * z) + 2 ≤ 12 from by omega⟩ (fun r52 w9 H locs hp hP hS => ?_)
        obtain ⟨t9_1, hp0, ⟨hk8', hs8', -⟩, hf9⟩ := hp
        have hN : townR E w9 j B u nn wv lv := hN.frm hf9 (by intro z9; simp only [pO, pK, Prod.mk.injEq] at z9 <;> omega) (fun r9 z9 => by simp only [pO, pK, Prod.mk.injEq] at z9 <;> omega)
        have hT : w9 (A 0) = some ((i, 0), .inr (2, [.ref (A 1), .ref (A 2), .ref (A 3), .int (nI mn), .int (g 20), .int (g 21), .int (g 23), .int (g 22), .int (g 24), .ref (A 4), .ref (A 5)])) := hf9 _ _ _ hT (by intro z9; simp only [pO, pN, pK, pT, Prod.mk.injEq] at z9 <;> omega)
        have hS1 : w9 (A 1) = some ((i, 1), .inl (eT E 0, 10, .inl (va_cpy fs9s fs9 0 0 10))) := hf9 _ _ _ hS1 (by intro z9; simp only [pO, pN, pK, pT, Prod.mk.injEq] at z9 <;> omega)
        have hS2 : w9 (A 2) = some ((i, 2), .inl (eT E 0, 10, .inl (va_cpy fd9s fd9 0 0 10))) := hf9 _ _ _ hS2 (by intro z9; simp only [pO, pN, pK, pT, Prod.mk.injEq] at z9 <;> omega)
        have hS3 : w9 (A 3) = some ((i, 3), .inl (eT E 4, 6, .inr (.inr (.inr (.inr fk9))))) := hf9 _ _ _ hS3 (by intro z9; simp only [pO, pN, pK, pT, Prod.mk.injEq] at z9 <;> omega)
        have hS4 : w9 (A 4) = some ((i, 4), .inl (eT E 0, 36, .inl wn)) := hf9 _ _ _ hS4 (by intro z9; simp only [pO, pN, pK, pT, Prod.mk.injEq] at z9 <;> omega)
        have hS5 : w9 (A 5) = some ((i, 5), .inl (eT E 0, 6, .inl ly)) := hf9 _ _ _ hS5 (by intro z9; simp only [pO, pN, pK, pT, Prod.mk.injEq] at z9 <;> omega)
        have hTs : w9 (B 0) = some ((j, 0), .inr (2, [.ref (B 1), .ref (B 2), .ref (B 3), .int (nI nn), .int (u 20), .int (u 21), .int (u 23), .int (u 22), .int (u 24), .ref (B 4), .ref (B 5)])) := hf9 _ _ _ hTs (by intro z9; simp only [pO, pN, pK, pT, Prod.mk.injEq] at z9 <;> omega)
        have hS1s : w9 (B 1) = some ((j, 1), .inl (eT E 0, 10, .inl fs9s)) := hf9 _ _ _ hS1s (by intro z9; simp only [pO, pN, pK, pT, Prod.mk.injEq] at z9 <;> omega)
        have hS2s : w9 (B 2) = some ((j, 2), .inl (eT E 0, 10, .inl fd9s)) := hf9 _ _ _ hS2s (by intro z9; simp only [pO, pN, pK, pT, Prod.mk.injEq] at z9 <;> omega)
        have hS3s : w9 (B 3) = some ((j, 3), .inl (eT E 4, 6, .inr (.inr (.inr (.inr fk9s))))) := hf9 _ _ _ hS3s (by intro z9; simp only [pO, pN, pK, pT, Prod.mk.injEq] at z9 <;> omega)
        have hk7 : w9 (B (6 + z)) = some ((j, 6 + z), .inr (3, [.ref (eM E (u (kO z 1)).toNatClampNeg), .int (u (kO z 2)), .int (u (kO z 3)), .int (u (kO z 12)), .int (u (kO z 4)), .int (u (kO z 7)), .int (u (kO z 8)), .ref t7])) := hf9 _ _ _ hk7 (by intro z9; simp only [pO, pN, pK, pT, Prod.mk.injEq] at z9 <;> omega)
        have hs7 : stR w9 j z (kv u z) t7 := hs7.fr hf9 (by intro z9; simp only [pO, pN, pK, pT, Prod.mk.injEq] at z9 <;> omega) (by intro z9; simp only [pO, pN, pK, pT, Prod.mk.injEq] at z9 <;> omega)
        have hF : fr (pT i) w0 w9 := hF.tr (hf9.up (fun t9 h9 => by simp only [pO, pN, pK, pT] at h9 ⊢; first | exact h9 | (subst h9; simp) | (rcases h9 with h9 | h9 <;> subst h9 <;> simp)))
        have hk8 : w9 (A (6 + z)) = some ((i, 6 + z), .inr (3, [.ref (eM E ((kv u z) 1).toNatClampNeg), .int ((kv u z) 2), .int ((kv u z) 3), .int ((kv u z) 12), .int ((kv u z) 4), .int ((kv u z) 7), .int ((kv u z) 8), .ref t9_1])) := hk8'
        have hs8 : stR w9 i z (kv u z) t9_1 := hs8'
        show W p l0 e rmCX2_take s m args below meth c H locs (z + 1) ((2 * z) + 2) Q (F0 m 55 ls [])
        have hKt := hKt.tk hi0 (by omega) hf9 ⟨hk8, hs8⟩
        refine lv_iinc (v := (nI (z + 1))) (lv' := [(2, .int (nI (z + 1))), (0, .ref (A 0)), (1, .ref (B 0))]) hx hb dX2_take_55 hl (k := 0) rfl (nI_add z 1) (by decide) rfl (fun ls hl => ?_)
        refine lv_goto (tgt := 32) hx hb dX2_take_58 (by decide) ?_
        have hl : lv_has ls 3 [(2, .int (nI (z + 1))), (0, .ref (A 0)), (1, .ref (B 0))] := hl
        refine W.widen (show (z + 1) ≤ (z + 1) from by omega) (show ((2 * z) + 2) ≤ (2 * (z + 1)) from by omega) ?_
        exact ih_32 (z + 1) (by omega) (by omega) _ _ _ _ hN hKt hT hS1 hS2 hS3 hS4 hS5 hTs hS1s hS2s hS3s hF hP hS hl
  have hl : lv_has ls 3 [(2, .int (nI 0)), (0, .ref (A 0)), (1, .ref (B 0))] := hl
  refine W.widen (show 0 ≤ 0 from by omega) (show 0 ≤ (2 * 0) from by omega) ?_
  exact hloop_32 _ 0 (by omega) (Nat.lt_succ_self _) _ _ _ _ hN hKt hT hS1 hS2 hS3 hS4 hS5 hTs hS1s hS2s hS3s hF hP hS hl
