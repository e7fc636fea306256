/-! THE TWIN, 13: begun -/
set_option maxRecDepth 100000
abbrev rmCX6_init : Room := { frames := 1, cells := 10, slots := 1625, locals := 32 }
theorem dyX6_init : yX6_init.cls = RX6 ∧ yX6_init.cls ≠ "java/lang/invoke/MethodHandle" ∧ yX6_init.cls ≠ "java/lang/invoke/VarHandle" ∧ (parseMethodDescriptor yX6_init.desc).map (fun d => d.parameters.length) = some 0 := by decide +kernel
set_option maxHeartbeats 4000000 in
theorem CX6_init (l0 : Launch) (E : gE) (w : wd) (y : Nat) (hT : w y = some ((99, 0), .inr (0, [.null, .null, .null, .null, .null, .int 0, .int 0, .int 0, .null, .int 0, .int 0, .int 0, .int 0, .int 0, .null, .null, .null, .int 0, .null, .int 0]))) : kC l0 yX6_init (ws_ yX6_init cX6_init 2 none) rmCX6_init 10 1625 mV E w [.ref y] (fun r w' => ∃ ad9 : Nat → Nat, (True) ∧ (tM E w' y ad9 tF0 tA0 ∧ True) ∧ fr tP w w') := by
  refine k_open (cc := cX6_init) (maxL := 2) (ret := none) (by decide) rfl (Nat.le_of_ble_eq_true rfl) ?_
  intro p e s m args below meth c ls Q hx hb hr hml hown hts hlocks hname hQ hG hP hl hS
  have hl : lv_has ls 2 [(0, .ref y)] := hl
  obtain ⟨w0, hw0⟩ : ∃ z, z = w := ⟨_, rfl⟩
  have hF : fr tP w0 w := by rw [hw0]; exact fr.rf
  rw [← hw0] at hQ
  refine lv_aload_n hx hb dX6_init_0 rfl (lv_at hl 0 rfl) ?_
  refine W.objInit hx hb hown (hts _ q1619) (hts _ q115) (hts _ q116) rfl (by rw [hml]; exact hl.1) rfl dX6_init_1 (Nat.le_of_ble_eq_true rfl) (Nat.le_of_ble_eq_true rfl) ?_
  refine W.eq (g2 := F0 m 4 ls []) rfl ?_
  refine lv_aload_n hx hb dX6_init_4 rfl (lv_at hl 0 rfl) ?_
  refine lv_bipush (v := 116) hx hb dX6_init_5 (by decide) ?_
  refine k_newiW hx hb (99, 1) (hts _ q139) hG hP hS (n := 116) (by omega) (show 0 + 1 ≤ 10 from by omega) (show 0 + 116 ≤ 1625 from by omega) dX6_init_7 (fun q7 w1 H h9 hf9 hP hS => ?_)
  have hA0 : w1 q7 = some ((99, 1), .inl (eT E 0, 116, .inl (fun _ => 0))) := h9
  have hT : w1 y = some ((99, 0), .inr (0, [.null, .null, .null, .null, .null, .int 0, .int 0, .int 0, .null, .int 0, .int 0, .int 0, .int 0, .int 0, .null, .null, .null, .int 0, .null, .int 0])) := hf9 _ _ _ hT (fun z9 => z9)
  have hF : fr tP w0 w1 := hF.tr (hf9.up (fun _ h9 => h9.elim))
  refine k_putFW hx hb hts in_X6 tyX6 tyX6_ok nmX6 hown hG hP hS hT rfl 0 (by decide) (hts _ q1620) (fun _ h9 => h9) rfl hname rfl (ty := (.array .int)) (v := .ref q7) rfl rfl rfl (Nat.le_of_ble_eq_true rfl) dX6_init_9 (fun w2 H locs h9 hf9 hP hS => ?_)
  have hT : w2 y = some ((99, 0), .inr (0, [.ref q7, .null, .null, .null, .null, .int 0, .int 0, .int 0, .null, .int 0, .int 0, .int 0, .int 0, .int 0, .null, .null, .null, .int 0, .null, .int 0])) := h9
  have hA0 : w2 q7 = some ((99, 1), .inl (eT E 0, 116, .inl (fun _ => 0))) := hf9 _ _ _ hA0 (by intro z9; simp only [pO, pN, pK, pT, Prod.mk.injEq] at z9 <;> omega)
  have hF : fr tP w0 w2 := hF.tr (hf9.up (fun t9 h9 => by have h9 : t9 = _ := h9; rw [h9]; rfl))
  refine lv_aload_n hx hb dX6_init_12 rfl (lv_at hl 0 rfl) ?_
  refine lv_sipush (v := 928) hx hb dX6_init_13 (by decide) ?_
  refine k_newiW hx hb (99, 2) (hts _ q139) hG hP hS (n := 928) (by omega) (show (0 + 1) + 1 ≤ 10 from by omega) (show (0 + 116) + 928 ≤ 1625 from by omega) dX6_init_16 (fun q16 w3 H h9 hf9 hP hS => ?_)
  have hA1 : w3 q16 = some ((99, 2), .inl (eT E 0, 928, .inl (fun _ => 0))) := h9
  have hT : w3 y = some ((99, 0), .inr (0, [.ref q7, .null, .null, .null, .null, .int 0, .int 0, .int 0, .null, .int 0, .int 0, .int 0, .int 0, .int 0, .null, .null, .null, .int 0, .null, .int 0])) := hf9 _ _ _ hT (fun z9 => z9)
  have hA0 : w3 q7 = some ((99, 1), .inl (eT E 0, 116, .inl (fun _ => 0))) := hf9 _ _ _ hA0 (fun z9 => z9)
  have hF : fr tP w0 w3 := hF.tr (hf9.up (fun _ h9 => h9.elim))
  refine k_putFW hx hb hts in_X6 tyX6 tyX6_ok nmX6 hown hG hP hS hT rfl 1 (by decide) (hts _ q1621) (fun _ h9 => h9) rfl hname rfl (ty := (.array .int)) (v := .ref q16) rfl rfl rfl (Nat.le_of_ble_eq_true rfl) dX6_init_18 (fun w4 H locs h9 hf9 hP hS => ?_)
  have hT : w4 y = some ((99, 0), .inr (0, [.ref q7, .ref q16, .null, .null, .null, .int 0, .int 0, .int 0, .null, .int 0, .int 0, .int 0, .int 0, .int 0, .null, .null, .null, .int 0, .null, .int 0])) := h9
  have hA0 : w4 q7 = some ((99, 1), .inl (eT E 0, 116, .inl (fun _ => 0))) := hf9 _ _ _ hA0 (by intro z9; simp only [pO, pN, pK, pT, Prod.mk.injEq] at z9 <;> omega)
  have hA1 : w4 q16 = some ((99, 2), .inl (eT E 0, 928, .inl (fun _ => 0))) := hf9 _ _ _ hA1 (by intro z9; simp only [pO, pN, pK, pT, Prod.mk.injEq] at z9 <;> omega)
  have hF : fr tP w0 w4 := hF.tr (hf9.up (fun t9 h9 => by have h9 : t9 = _ := h9; rw [h9]; rfl))
  refine lv_aload_n hx hb dX6_init_21 rfl (lv_at hl 0 rfl) ?_
  refine lv_bipush (v := 116) hx hb dX6_init_22 (by decide) ?_
  refine k_newiW hx hb (99, 3) (hts _ q139) hG hP hS (n := 116) (by omega) (show ((0 + 1) + 1) + 1 ≤ 10 from by omega) (show ((0 + 116) + 928) + 116 ≤ 1625 from by omega) dX6_init_24 (fun q24 w5 H h9 hf9 hP hS => ?_)
  have hA2 : w5 q24 = some ((99, 3), .inl (eT E 0, 116, .inl (fun _ => 0))) := h9
  have hT : w5 y = some ((99, 0), .inr (0, [.ref q7, .ref q16, .null, .null, .null, .int 0, .int 0, .int 0, .null, .int 0, .int 0, .int 0, .int 0, .int 0, .null, .null, .null, .int 0, .null, .int 0])) := hf9 _ _ _ hT (fun z9 => z9)
  have hA0 : w5 q7 = some ((99, 1), .inl (eT E 0, 116, .inl (fun _ => 0))) := hf9 _ _ _ hA0 (fun z9 => z9)
  have hA1 : w5 q16 = some ((99, 2), .inl (eT E 0, 928, .inl (fun _ => 0))) := hf9 _ _ _ hA1 (fun z9 => z9)
  have hF : fr tP w0 w5 := hF.tr (hf9.up (fun _ h9 => h9.elim))
  refine k_putFW hx hb hts in_X6 tyX6 tyX6_ok nmX6 hown hG hP hS hT rfl 2 (by decide) (hts _ q1622) (fun _ h9 => h9) rfl hname rfl (ty := (.array .int)) (v := .ref q24) rfl rfl rfl (Nat.le_of_ble_eq_true rfl) dX6_init_26 (fun w6 H locs h9 hf9 hP hS => ?_)
  have hT : w6 y = some ((99, 0), .inr (0, [.ref q7, .ref q16, .ref q24, .null, .null, .int 0, .int 0, .int 0, .null, .int 0, .int 0, .int 0, .int 0, .int 0, .null, .null, .null, .int 0, .null, .int 0])) := h9
  have hA0 : w6 q7 = some ((99, 1), .inl (eT E 0, 116, .inl (fun _ => 0))) := hf9 _ _ _ hA0 (by intro z9; simp only [pO, pN, pK, pT, Prod.mk.injEq] at z9 <;> omega)
  have hA1 : w6 q16 = some ((99, 2), .inl (eT E 0, 928, .inl (fun _ => 0))) := hf9 _ _ _ hA1 (by intro z9; simp only [pO, pN, pK, pT, Prod.mk.injEq] at z9 <;> omega)
  have hA2 : w6 q24 = some ((99, 3), .inl (eT E 0, 116, .inl (fun _ => 0))) := hf9 _ _ _ hA2 (by intro z9; simp only [pO, pN, pK, pT, Prod.mk.injEq] at z9 <;> omega)
  have hF : fr tP w0 w6 := hF.tr (hf9.up (fun t9 h9 => by have h9 : t9 = _ := h9; rw [h9]; rfl))
  refine lv_aload_n hx hb dX6_init_29 rfl (lv_at hl 0 rfl) ?_
  refine lv_bipush (v := 116) hx hb dX6_init_30 (by decide) ?_
  refine k_newiW hx hb (99, 4) (hts _ q139) hG hP hS (n := 116) (by omega) (show (((0 + 1) + 1) + 1) + 1 ≤ 10 from by omega) (show (((0 + 116) + 928) + 116) + 116 ≤ 1625 from by omega) dX6_init_32 (fun q32 w7 H h9 hf9 hP hS => ?_)
  have hA3 : w7 q32 = some ((99, 4), .inl (eT E 0, 116, .inl (fun _ => 0))) := h9
  have hT : w7 y = some ((99, 0), .inr (0, [.ref q7, .ref q16, .ref q24, .null, .null, .int 0, .int 0, .int 0, .null, .int 0, .int 0, .int 0, .int 0, .int 0, .null, .null, .null, .int 0, .null, .int 0])) := hf9 _ _ _ hT (fun z9 => z9)
  have hA0 : w7 q7 = some ((99, 1), .inl (eT E 0, 116, .inl (fun _ => 0))) := hf9 _ _ _ hA0 (fun z9 => z9)
  have hA1 : w7 q16 = some ((99, 2), .inl (eT E 0, 928, .inl (fun _ => 0))) := hf9 _ _ _ hA1 (fun z9 => z9)
  have hA2 : w7 q24 = some ((99, 3), .inl (eT E 0, 116, .inl (fun _ => 0))) := hf9 _ _ _ hA2 (fun z9 => z9)
  have hF : fr tP w0 w7 := hF.tr (hf9.up (fun _ h9 => h9.elim))
  refine k_putFW hx hb hts in_X6 tyX6 tyX6_ok nmX6 hown hG hP hS hT rfl 3 (by decide) (hts _ q1623) (fun _ h9 => h9) rfl hname rfl (ty := (.array .int)) (v := .ref q32) rfl rfl rfl (Nat.le_of_ble_eq_true rfl) dX6_init_34 (fun w8 H locs h9 hf9 hP hS => ?_)
  have hT : w8 y = some ((99, 0), .inr (0, [.ref q7, .ref q16, .ref q24, .ref q32, .null, .int 0, .int 0, .int 0, .null, .int 0, .int 0, .int 0, .int 0, .int 0, .null, .null, .null, .int 0, .null, .int 0])) := h9
  have hA0 : w8 q7 = some ((99, 1), .inl (eT E 0, 116, .inl (fun _ => 0))) := hf9 _ _ _ hA0 (by intro z9; simp only [pO, pN, pK, pT, Prod.mk.injEq] at z9 <;> omega)
  have hA1 : w8 q16 = some ((99, 2), .inl (eT E 0, 928, .inl (fun _ => 0))) := hf9 _ _ _ hA1 (by intro z9; simp only [pO, pN, pK, pT, Prod.mk.injEq] at z9 <;> omega)
  have hA2 : w8 q24 = some ((99, 3), .inl (eT E 0, 116, .inl (fun _ => 0))) := hf9 _ _ _ hA2 (by intro z9; simp only [pO, pN, pK, pT, Prod.mk.injEq] at z9 <;> omega)
  have hA3 : w8 q32 = some ((99, 4), .inl (eT E 0, 116, .inl (fun _ => 0))) := hf9 _ _ _ hA3 (by intro z9; simp only [pO, pN, pK, pT, Prod.mk.injEq] at z9 <;> omega)
  have hF : fr tP w0 w8 := hF.tr (hf9.up (fun t9 h9 => by have h9 : t9 = _ := h9; rw [h9]; rfl))
  refine lv_aload_n hx hb dX6_init_37 rfl (lv_at hl 0 rfl) ?_
  refine lv_bipush (v := 116) hx hb dX6_init_38 (by decide) ?_
  refine k_newiW hx hb (99, 5) (hts _ q139) hG hP hS (n := 116) (by omega) (show ((((0 + 1) + 1) + 1) + 1) + 1 ≤ 10 from by omega) (show ((((0 + 116) + 928) + 116) + 116) + 116 ≤ 1625 from by omega) dX6_init_40 (fun q40 w9 H h9 hf9 hP hS => ?_)
  have hA4 : w9 q40 = some ((99, 5), .inl (eT E 0, 116, .inl (fun _ => 0))) := h9
  have hT : w9 y = some ((99, 0), .inr (0, [.ref q7, .ref q16, .ref q24, .ref q32, .null, .int 0, .int 0, .int 0, .null, .int 0, .int 0, .int 0, .int 0, .int 0, .null, .null, .null, .int 0, .null, .int 0])) := hf9 _ _ _ hT (fun z9 => z9)
  have hA0 : w9 q7 = some ((99, 1), .inl (eT E 0, 116, .inl (fun _ => 0))) := hf9 _ _ _ hA0 (fun z9 => z9)
  have hA1 : w9 q16 = some ((99, 2), .inl (eT E 0, 928, .inl (fun _ => 0))) := hf9 _ _ _ hA1 (fun z9 => z9)
  have hA2 : w9 q24 = some ((99, 3), .inl (eT E 0, 116, .inl (fun _ => 0))) := hf9 _ _ _ hA2 (fun z9 => z9)
  have hA3 : w9 q32 = some ((99, 4), .inl (eT E 0, 116, .inl (fun _ => 0))) := hf9 _ _ _ hA3 (fun z9 => z9)
  have hF : fr tP w0 w9 := hF.tr (hf9.up (fun _ h9 => h9.elim))
  refine k_putFW hx hb hts in_X6 tyX6 tyX6_ok nmX6 hown hG hP hS hT rfl 4 (by decide) (hts _ q1624) (fun _ h9 => h9) rfl hname rfl (ty := (.array .int)) (v := .ref q40) rfl rfl rfl (Nat.le_of_ble_eq_true rfl) dX6_init_42 (fun w10 H locs h9 hf9 hP hS => ?_)
  have hT : w10 y = some ((99, 0), .inr (0, [.ref q7, .ref q16, .ref q24, .ref q32, .ref q40, .int 0, .int 0, .int 0, .null, .int 0, .int 0, .int 0, .int 0, .int 0, .null, .null, .null, .int 0, .null, .int 0])) := h9
  have hA0 : w10 q7 = some ((99, 1), .inl (eT E 0, 116, .inl (fun _ => 0))) := hf9 _ _ _ hA0 (by intro z9; simp only [pO, pN, pK, pT, Prod.mk.injEq] at z9 <;> omega)
  have hA1 : w10 q16 = some ((99, 2), .inl (eT E 0, 928, .inl (fun _ => 0))) := hf9 _ _ _ hA1 (by intro z9; simp only [pO, pN, pK, pT, Prod.mk.injEq] at z9 <;> omega)
  have hA2 : w10 q24 = some ((99, 3), .inl (eT E 0, 116, .inl (fun _ => 0))) := hf9 _ _ _ hA2 (by intro z9; simp only [pO, pN, pK, pT, Prod.mk.injEq] at z9 <;> omega)
  have hA3 : w10 q32 = some ((99, 4), .inl (eT E 0, 116, .inl (fun _ => 0))) := hf9 _ _ _ hA3 (by intro z9; simp only [pO, pN, pK, pT, Prod.mk.injEq] at z9 <;> omega)
  have hA4 : w10 q40 = some ((99, 5), .inl (eT E 0, 116, .inl (fun _ => 0))) := hf9 _ _ _ hA4 (by intro z9; simp only [pO, pN, pK, pT, Prod.mk.injEq] at z9 <;> omega)
  have hF : fr tP w0 w10 := hF.tr (hf9.up (fun t9 h9 => by have h9 : t9 = _ := h9; rw [h9]; rfl))
  refine lv_aload_n hx hb dX6_init_45 rfl (lv_at hl 0 rfl) ?_
  refine lv_bipush (v := 60) hx hb dX6_init_46 (by decide) ?_
  refine k_newiW hx hb (99, 9) (hts _ q139) hG hP hS (n := 60) (by omega) (show (((((0 + 1) + 1) + 1) + 1) + 1) + 1 ≤ 10 from by omega) (show (((((0 + 116) + 928) + 116) + 116) + 116) + 60 ≤ 1625 from by omega) dX6_init_48 (fun q48 w11 H h9 hf9 hP hS => ?_)
  have hA8 : w11 q48 = some ((99, 9), .inl (eT E 0, 60, .inl (fun _ => 0))) := h9
  have hT : w11 y = some ((99, 0), .inr (0, [.ref q7, .ref q16, .ref q24, .ref q32, .ref q40, .int 0, .int 0, .int 0, .null, .int 0, .int 0, .int 0, .int 0, .int 0, .null, .null, .null, .int 0, .null, .int 0])) := hf9 _ _ _ hT (fun z9 => z9)
  have hA0 : w11 q7 = some ((99, 1), .inl (eT E 0, 116, .inl (fun _ => 0))) := hf9 _ _ _ hA0 (fun z9 => z9)
  have hA1 : w11 q16 = some ((99, 2), .inl (eT E 0, 928, .inl (fun _ => 0))) := hf9 _ _ _ hA1 (fun z9 => z9)
  have hA2 : w11 q24 = some ((99, 3), .inl (eT E 0, 116, .inl (fun _ => 0))) := hf9 _ _ _ hA2 (fun z9 => z9)
  have hA3 : w11 q32 = some ((99, 4), .inl (eT E 0, 116, .inl (fun _ => 0))) := hf9 _ _ _ hA3 (fun z9 => z9)
  have hA4 : w11 q40 = some ((99, 5), .inl (eT E 0, 116, .inl (fun _ => 0))) := hf9 _ _ _ hA4 (fun z9 => z9)
  have hF : fr tP w0 w11 := hF.tr (hf9.up (fun _ h9 => h9.elim))
  refine k_putFW hx hb hts in_X6 tyX6 tyX6_ok nmX6 hown hG hP hS hT rfl 8 (by decide) (hts _ q1628) (fun _ h9 => h9) rfl hname rfl (ty := (.array .int)) (v := .ref q48) rfl rfl rfl (Nat.le_of_ble_eq_true rfl) dX6_init_50 (fun w12 H locs h9 hf9 hP hS => ?_)
  have hT : w12 y = some ((99, 0), .inr (0, [.ref q7, .ref q16, .ref q24, .ref q32, .ref q40, .int 0, .int 0, .int 0, .ref q48, .int 0, .int 0, .int 0, .int 0, .int 0, .null, .null, .null, .int 0, .null, .int 0])) := h9
  have hA0 : w12 q7 = some ((99, 1), .inl (eT E 0, 116, .inl (fun _ => 0))) := hf9 _ _ _ hA0 (by intro z9; simp only [pO, pN, pK, pT, Prod.mk.injEq] at z9 <;> omega)
  have hA1 : w12 q16 = some ((99, 2), .inl (eT E 0, 928, .inl (fun _ => 0))) := hf9 _ _ _ hA1 (by intro z9; simp only [pO, pN, pK, pT, Prod.mk.injEq] at z9 <;> omega)
  have hA2 : w12 q24 = some ((99, 3), .inl (eT E 0, 116, .inl (fun _ => 0))) := hf9 _ _ _ hA2 (by intro z9; simp only [pO, pN, pK, pT, Prod.mk.injEq] at z9 <;> omega)
  have hA3 : w12 q32 = some ((99, 4), .inl (eT E 0, 116, .inl (fun _ => 0))) := hf9 _ _ _ hA3 (by intro z9; simp only [pO, pN, pK, pT, Prod.mk.injEq] at z9 <;> omega)
  have hA4 : w12 q40 = some ((99, 5), .inl (eT E 0, 116, .inl (fun _ => 0))) := hf9 _ _ _ hA4 (by intro z9; simp only [pO, pN, pK, pT, Prod.mk.injEq] at z9 <;> omega)
  have hA8 : w12 q48 = some ((99, 9), .inl (eT E 0, 60, .inl (fun _ => 0))) := hf9 _ _ _ hA8 (by intro z9; simp only [pO, pN, pK, pT, Prod.mk.injEq] at z9 <;> omega)
  have hF : fr tP w0 w12 := hF.tr (hf9.up (fun t9 h9 => by have h9 : t9 = _ := h9; rw [h9]; rfl))
  refine lv_aload_n hx hb dX6_init_53 rfl (lv_at hl 0 rfl) ?_
  refine lv_iconst (v := (-1)) hx hb dX6_init_54 (by decide) ?_
  refine k_putW hx hb hts in_X6 tyX6 tyX6_ok nmX6 hown hG hP hS hT rfl 10 (by decide) (hts _ q1630) (fun _ h9 => h9) rfl (ty := .int) (v := .int (-1)) rfl rfl rfl (Nat.le_of_ble_eq_true rfl) dX6_init_55 (fun w13 H locs h9 hf9 hP hS => ?_)
  have hT : w13 y = some ((99, 0), .inr (0, [.ref q7, .ref q16, .ref q24, .ref q32, .ref q40, .int 0, .int 0, .int 0, .ref q48, .int 0, .int (-1), .int 0, .int 0, .int 0, .null, .null, .null, .int 0, .null, .int 0])) := h9
  have hA0 : w13 q7 = some ((99, 1), .inl (eT E 0, 116, .inl (fun _ => 0))) := hf9 _ _ _ hA0 (by intro z9; simp only [pO, pN, pK, pT, Prod.mk.injEq] at z9 <;> omega)
  have hA1 : w13 q16 = some ((99, 2), .inl (eT E 0, 928, .inl (fun _ => 0))) := hf9 _ _ _ hA1 (by intro z9; simp only [pO, pN, pK, pT, Prod.mk.injEq] at z9 <;> omega)
  have hA2 : w13 q24 = some ((99, 3), .inl (eT E 0, 116, .inl (fun _ => 0))) := hf9 _ _ _ hA2 (by intro z9; simp only [pO, pN, pK, pT, Prod.mk.injEq] at z9 <;> omega)
  have hA3 : w13 q32 = some ((99, 4), .inl (eT E 0, 116, .inl (fun _ => 0))) := hf9 _ _ _ hA3 (by intro z9; simp only [pO, pN, pK, pT, Prod.mk.injEq] at z9 <;> omega)
  have hA4 : w13 q40 = some ((99, 5), .inl (eT E 0, 116, .inl (fun _ => 0))) := hf9 _ _ _ hA4 (by intro z9; simp only [pO, pN, pK, pT, Prod.mk.injEq] at z9 <;> omega)
  have hA8 : w13 q48 = some ((99, 9), .inl (eT E 0, 60, .inl (fun _ => 0))) := hf9 _ _ _ hA8 (by intro z9; simp only [pO, pN, pK, pT, Prod.mk.injEq] at z9 <;> omega)
  have hF : fr tP w0 w13 := hF.tr (hf9.up (fun t9 h9 => by have h9 : t9 = _ := h9; rw [h9]; rfl))
  refine lv_aload_n hx hb dX6_init_58 rfl (lv_at hl 0 rfl) ?_
  refine lv_iconst (v := (-1)) hx hb dX6_init_59 (by decide) ?_
  refine k_putW hx hb hts in_X6 tyX6 tyX6_ok nmX6 hown hG hP hS hT rfl 12 (by decide) (hts _ q1632) (fun _ h9 => h9) rfl (ty := .int) (v := .int (-1)) rfl rfl rfl (Nat.le_of_ble_eq_true rfl) dX6_init_60 (fun w14 H locs h9 hf9 hP hS => ?_)
  have hT : w14 y = some ((99, 0), .inr (0, [.ref q7, .ref q16, .ref q24, .ref q32, .ref q40, .int 0, .int 0, .int 0, .ref q48, .int 0, .int (-1), .int 0, .int (-1), .int 0, .null, .null, .null, .int 0, .null, .int 0])) := h9
  have hA0 : w14 q7 = some ((99, 1), .inl (eT E 0, 116, .inl (fun _ => 0))) := hf9 _ _ _ hA0 (by intro z9; simp only [pO, pN, pK, pT, Prod.mk.injEq] at z9 <;> omega)
  have hA1 : w14 q16 = some ((99, 2), .inl (eT E 0, 928, .inl (fun _ => 0))) := hf9 _ _ _ hA1 (by intro z9; simp only [pO, pN, pK, pT, Prod.mk.injEq] at z9 <;> omega)
  have hA2 : w14 q24 = some ((99, 3), .inl (eT E 0, 116, .inl (fun _ => 0))) := hf9 _ _ _ hA2 (by intro z9; simp only [pO, pN, pK, pT, Prod.mk.injEq] at z9 <;> omega)
  have hA3 : w14 q32 = some ((99, 4), .inl (eT E 0, 116, .inl (fun _ => 0))) := hf9 _ _ _ hA3 (by intro z9; simp only [pO, pN, pK, pT, Prod.mk.injEq] at z9 <;> omega)
  have hA4 : w14 q40 = some ((99, 5), .inl (eT E 0, 116, .inl (fun _ => 0))) := hf9 _ _ _ hA4 (by intro z9; simp only [pO, pN, pK, pT, Prod.mk.injEq] at z9 <;> omega)
  have hA8 : w14 q48 = some ((99, 9), .inl (eT E 0, 60, .inl (fun _ => 0))) := hf9 _ _ _ hA8 (by intro z9; simp only [pO, pN, pK, pT, Prod.mk.injEq] at z9 <;> omega)
  have hF : fr tP w0 w14 := hF.tr (hf9.up (fun t9 h9 => by have h9 : t9 = _ := h9; rw [h9]; rfl))
  refine lv_aload_n hx hb dX6_init_63 rfl (lv_at hl 0 rfl) ?_
  refine lv_bipush (v := 6) hx hb dX6_init_64 (by decide) ?_
  refine k_newiW hx hb (99, 15) (hts _ q139) hG hP hS (n := 6) (by omega) (show ((((((0 + 1) + 1) + 1) + 1) + 1) + 1) + 1 ≤ 10 from by omega) (show ((((((0 + 116) + 928) + 116) + 116) + 116) + 60) + 6 ≤ 1625 from by omega) dX6_init_66 (fun q66 w15 H h9 hf9 hP hS => ?_)
  have hA14 : w15 q66 = some ((99, 15), .inl (eT E 0, 6, .inl (fun _ => 0))) := h9
  have hT : w15 y = some ((99, 0), .inr (0, [.ref q7, .ref q16, .ref q24, .ref q32, .ref q40, .int 0, .int 0, .int 0, .ref q48, .int 0, .int (-1), .int 0, .int (-1), .int 0, .null, .null, .null, .int 0, .null, .int 0])) := hf9 _ _ _ hT (fun z9 => z9)
  have hA0 : w15 q7 = some ((99, 1), .inl (eT E 0, 116, .inl (fun _ => 0))) := hf9 _ _ _ hA0 (fun z9 => z9)
  have hA1 : w15 q16 = some ((99, 2), .inl (eT E 0, 928, .inl (fun _ => 0))) := hf9 _ _ _ hA1 (fun z9 => z9)
  have hA2 : w15 q24 = some ((99, 3), .inl (eT E 0, 116, .inl (fun _ => 0))) := hf9 _ _ _ hA2 (fun z9 => z9)
  have hA3 : w15 q32 = some ((99, 4), .inl (eT E 0, 116, .inl (fun _ => 0))) := hf9 _ _ _ hA3 (fun z9 => z9)
  have hA4 : w15 q40 = some ((99, 5), .inl (eT E 0, 116, .inl (fun _ => 0))) := hf9 _ _ _ hA4 (fun z9 => z9)
  have hA8 : w15 q48 = some ((99, 9), .inl (eT E 0, 60, .inl (fun _ => 0))) := hf9 _ _ _ hA8 (fun z9 => z9)
  have hF : fr tP w0 w15 := hF.tr (hf9.up (fun _ h9 => h9.elim))
  refine k_putFW hx hb hts in_X6 tyX6 tyX6_ok nmX6 hown hG hP hS hT rfl 14 (by decide) (hts _ q1634) (fun _ h9 => h9) rfl hname rfl (ty := (.array .int)) (v := .ref q66) rfl rfl rfl (Nat.le_of_ble_eq_true rfl) dX6_init_68 (fun w16 H locs h9 hf9 hP hS => ?_)
  have hT : w16 y = some ((99, 0), .inr (0, [.ref q7, .ref q16, .ref q24, .ref q32, .ref q40, .int 0, .int 0, .int 0, .ref q48, .int 0, .int (-1), .int 0, .int (-1), .int 0, .ref q66, .null, .null, .int 0, .null, .int 0])) := h9
  have hA0 : w16 q7 = some ((99, 1), .inl (eT E 0, 116, .inl (fun _ => 0))) := hf9 _ _ _ hA0 (by intro z9; simp only [pO, pN, pK, pT, Prod.mk.injEq] at z9 <;> omega)
  have hA1 : w16 q16 = some ((99, 2), .inl (eT E 0, 928, .inl (fun _ => 0))) := hf9 _ _ _ hA1 (by intro z9; simp only [pO, pN, pK, pT, Prod.mk.injEq] at z9 <;> omega)
  have hA2 : w16 q24 = some ((99, 3), .inl (eT E 0, 116, .inl (fun _ => 0))) := hf9 _ _ _ hA2 (by intro z9; simp only [pO, pN, pK, pT, Prod.mk.injEq] at z9 <;> omega)
  have hA3 : w16 q32 = some ((99, 4), .inl (eT E 0, 116, .inl (fun _ => 0))) := hf9 _ _ _ hA3 (by intro z9; simp only [pO, pN, pK, pT, Prod.mk.injEq] at z9 <;> omega)
  have hA4 : w16 q40 = some ((99, 5), .inl (eT E 0, 116, .inl (fun _ => 0))) := hf9 _ _ _ hA4 (by intro z9; simp only [pO, pN, pK, pT, Prod.mk.injEq] at z9 <;> omega)
  have hA8 : w16 q48 = some ((99, 9), .inl (eT E 0, 60, .inl (fun _ => 0))) := hf9 _ _ _ hA8 (by intro z9; simp only [pO, pN, pK, pT, Prod.mk.injEq] at z9 <;> omega)
  have hA14 : w16 q66 = some ((99, 15), .inl (eT E 0, 6, .inl (fun _ => 0))) := hf9 _ _ _ hA14 (by intro z9; simp only [pO, pN, pK, pT, Prod.mk.injEq] at z9 <;> omega)
  have hF : fr tP w0 w16 := hF.tr (hf9.up (fun t9 h9 => by have h9 : t9 = _ := h9; rw [h9]; rfl))
  refine lv_aload_n hx hb dX6_init_71 rfl (lv_at hl 0 rfl) ?_
  refine lv_bipush (v := 6) hx hb dX6_init_72 (by decide) ?_
  refine k_newiW hx hb (99, 16) (hts _ q139) hG hP hS (n := 6) (by omega) (show (((((((0 + 1) + 1) + 1) + 1) + 1) + 1) + 1) + 1 ≤ 10 from by omega) (show (((((((0 + 116) + 928) + 116) + 116) + 116) + 60) + 6) + 6 ≤ 1625 from by omega) dX6_init_74 (fun q74 w17 H h9 hf9 hP hS => ?_)
  have hA15 : w17 q74 = some ((99, 16), .inl (eT E 0, 6, .inl (fun _ => 0))) := h9
  have hT : w17 y = some ((99, 0), .inr (0, [.ref q7, .ref q16, .ref q24, .ref q32, .ref q40, .int 0, .int 0, .int 0, .ref q48, .int 0, .int (-1), .int 0, .int (-1), .int 0, .ref q66, .null, .null, .int 0, .null, .int 0])) := hf9 _ _ _ hT (fun z9 => z9)
  have hA0 : w17 q7 = some ((99, 1), .inl (eT E 0, 116, .inl (fun _ => 0))) := hf9 _ _ _ hA0 (fun z9 => z9)
  have hA1 : w17 q16 = some ((99, 2), .inl (eT E 0, 928, .inl (fun _ => 0))) := hf9 _ _ _ hA1 (fun z9 => z9)
  have hA2 : w17 q24 = some ((99, 3), .inl (eT E 0, 116, .inl (fun _ => 0))) := hf9 _ _ _ hA2 (fun z9 => z9)
  have hA3 : w17 q32 = some ((99, 4), .inl (eT E 0, 116, .inl (fun _ => 0))) := hf9 _ _ _ hA3 (fun z9 => z9)
  have hA4 : w17 q40 = some ((99, 5), .inl (eT E 0, 116, .inl (fun _ => 0))) := hf9 _ _ _ hA4 (fun z9 => z9)
  have hA8 : w17 q48 = some ((99, 9), .inl (eT E 0, 60, .inl (fun _ => 0))) := hf9 _ _ _ hA8 (fun z9 => z9)
  have hA14 : w17 q66 = some ((99, 15), .inl (eT E 0, 6, .inl (fun _ => 0))) := hf9 _ _ _ hA14 (fun z9 => z9)
  have hF : fr tP w0 w17 := hF.tr (hf9.up (fun _ h9 => h9.elim))
  refine k_putFW hx hb hts in_X6 tyX6 tyX6_ok nmX6 hown hG hP hS hT rfl 15 (by decide) (hts _ q1635) (fun _ h9 => h9) rfl hname rfl (ty := (.array .int)) (v := .ref q74) rfl rfl rfl (Nat.le_of_ble_eq_true rfl) dX6_init_76 (fun w18 H locs h9 hf9 hP hS => ?_)
  have hT : w18 y = some ((99, 0), .inr (0, [.ref q7, .ref q16, .ref q24, .ref q32, .ref q40, .int 0, .int 0, .int 0, .ref q48, .int 0, .int (-1), .int 0, .int (-1), .int 0, .ref q66, .ref q74, .null, .int 0, .null, .int 0])) := h9
  have hA0 : w18 q7 = some ((99, 1), .inl (eT E 0, 116, .inl (fun _ => 0))) := hf9 _ _ _ hA0 (by intro z9; simp only [pO, pN, pK, pT, Prod.mk.injEq] at z9 <;> omega)
  have hA1 : w18 q16 = some ((99, 2), .inl (eT E 0, 928, .inl (fun _ => 0))) := hf9 _ _ _ hA1 (by intro z9; simp only [pO, pN, pK, pT, Prod.mk.injEq] at z9 <;> omega)
  have hA2 : w18 q24 = some ((99, 3), .inl (eT E 0, 116, .inl (fun _ => 0))) := hf9 _ _ _ hA2 (by intro z9; simp only [pO, pN, pK, pT, Prod.mk.injEq] at z9 <;> omega)
  have hA3 : w18 q32 = some ((99, 4), .inl (eT E 0, 116, .inl (fun _ => 0))) := hf9 _ _ _ hA3 (by intro z9; simp only [pO, pN, pK, pT, Prod.mk.injEq] at z9 <;> omega)
  have hA4 : w18 q40 = some ((99, 5), .inl (eT E 0, 116, .inl (fun _ => 0))) := hf9 _ _ _ hA4 (by intro z9; simp only [pO, pN, pK, pT, Prod.mk.injEq] at z9 <;> omega)
  have hA8 : w18 q48 = some ((99, 9), .inl (eT E 0, 60, .inl (fun _ => 0))) := hf9 _ _ _ hA8 (by intro z9; simp only [pO, pN, pK, pT, Prod.mk.injEq] at z9 <;> omega)
  have hA14 : w18 q66 = some ((99, 15), .inl (eT E 0, 6, .inl (fun _ => 0))) := hf9 _ _ _ hA14 (by intro z9; simp only [pO, pN, pK, pT, Prod.mk.injEq] at z9 <;> omega)
  have hA15 : w18 q74 = some ((99, 16), .inl (eT E 0, 6, .inl (fun _ => 0))) := hf9 _ _ _ hA15 (by intro z9; simp only [pO, pN, pK, pT, Prod.mk.injEq] at z9 <;> omega)
  have hF : fr tP w0 w18 := hF.tr (hf9.up (fun t9 h9 => by have h9 : t9 = _ := h9; rw [h9]; rfl))
  refine lv_aload_n hx hb dX6_init_79 rfl (lv_at hl 0 rfl) ?_
  refine lv_bipush (v := 6) hx hb dX6_init_80 (by decide) ?_
  refine k_newiW hx hb (99, 17) (hts _ q139) hG hP hS (n := 6) (by omega) (show ((((((((0 + 1) + 1) + 1) + 1) + 1) + 1) + 1) + 1) + 1 ≤ 10 from by omega) (show ((((((((0 + 116) + 928) + 116) + 116) + 116) + 60) + 6) + 6) + 6 ≤ 1625 from by omega) dX6_init_82 (fun q82 w19 H h9 hf9 hP hS => ?_)
  have hA16 : w19 q82 = some ((99, 17), .inl (eT E 0, 6, .inl (fun _ => 0))) := h9
  have hT : w19 y = some ((99, 0), .inr (0, [.ref q7, .ref q16, .ref q24, .ref q32, .ref q40, .int 0, .int 0, .int 0, .ref q48, .int 0, .int (-1), .int 0, .int (-1), .int 0, .ref q66, .ref q74, .null, .int 0, .null, .int 0])) := hf9 _ _ _ hT (fun z9 => z9)
  have hA0 : w19 q7 = some ((99, 1), .inl (eT E 0, 116, .inl (fun _ => 0))) := hf9 _ _ _ hA0 (fun z9 => z9)
  have hA1 : w19 q16 = some ((99, 2), .inl (eT E 0, 928, .inl (fun _ => 0))) := hf9 _ _ _ hA1 (fun z9 => z9)
  have hA2 : w19 q24 = some ((99, 3), .inl (eT E 0, 116, .inl (fun _ => 0))) := hf9 _ _ _ hA2 (fun z9 => z9)
  have hA3 : w19 q32 = some ((99, 4), .inl (eT E 0, 116, .inl (fun _ => 0))) := hf9 _ _ _ hA3 (fun z9 => z9)
  have hA4 : w19 q40 = some ((99, 5), .inl (eT E 0, 116, .inl (fun _ => 0))) := hf9 _ _ _ hA4 (fun z9 => z9)
  have hA8 : w19 q48 = some ((99, 9), .inl (eT E 0, 60, .inl (fun _ => 0))) := hf9 _ _ _ hA8 (fun z9 => z9)
  have hA14 : w19 q66 = some ((99, 15), .inl (eT E 0, 6, .inl (fun _ => 0))) := hf9 _ _ _ hA14 (fun z9 => z9)
  have hA15 : w19 q74 = some ((99, 16), .inl (eT E 0, 6, .inl (fun _ => 0))) := hf9 _ _ _ hA15 (fun z9 => z9)
  have hF : fr tP w0 w19 := hF.tr (hf9.up (fun _ h9 => h9.elim))
  refine k_putFW hx hb hts in_X6 tyX6 tyX6_ok nmX6 hown hG hP hS hT rfl 16 (by decide) (hts _ q1636) (fun _ h9 => h9) rfl hname rfl (ty := (.array .int)) (v := .ref q82) rfl rfl rfl (Nat.le_of_ble_eq_true rfl) dX6_init_84 (fun w20 H locs h9 hf9 hP hS => ?_)
  have hT : w20 y = some ((99, 0), .inr (0, [.ref q7, .ref q16, .ref q24, .ref q32, .ref q40, .int 0, .int 0, .int 0, .ref q48, .int 0, .int (-1), .int 0, .int (-1), .int 0, .ref q66, .ref q74, .ref q82, .int 0, .null, .int 0])) := h9
  have hA0 : w20 q7 = some ((99, 1), .inl (eT E 0, 116, .inl (fun _ => 0))) := hf9 _ _ _ hA0 (by intro z9; simp only [pO, pN, pK, pT, Prod.mk.injEq] at z9 <;> omega)
  have hA1 : w20 q16 = some ((99, 2), .inl (eT E 0, 928, .inl (fun _ => 0))) := hf9 _ _ _ hA1 (by intro z9; simp only [pO, pN, pK, pT, Prod.mk.injEq] at z9 <;> omega)
  have hA2 : w20 q24 = some ((99, 3), .inl (eT E 0, 116, .inl (fun _ => 0))) := hf9 _ _ _ hA2 (by intro z9; simp only [pO, pN, pK, pT, Prod.mk.injEq] at z9 <;> omega)
  have hA3 : w20 q32 = some ((99, 4), .inl (eT E 0, 116, .inl (fun _ => 0))) := hf9 _ _ _ hA3 (by intro z9; simp only [pO, pN, pK, pT, Prod.mk.injEq] at z9 <;> omega)
  have hA4 : w20 q40 = some ((99, 5), .inl (eT E 0, 116, .inl (fun _ => 0))) := hf9 _ _ _ hA4 (by intro z9; simp only [pO, pN, pK, pT, Prod.mk.injEq] at z9 <;> omega)
  have hA8 : w20 q48 = some ((99, 9), .inl (eT E 0, 60, .inl (fun _ => 0))) := hf9 _ _ _ hA8 (by intro z9; simp only [pO, pN, pK, pT, Prod.mk.injEq] at z9 <;> omega)
  have hA14 : w20 q66 = some ((99, 15), .inl (eT E 0, 6, .inl (fun _ => 0))) := hf9 _ _ _ hA14 (by intro z9; simp only [pO, pN, pK, pT, Prod.mk.injEq] at z9 <;> omega)
  have hA15 : w20 q74 = some ((99, 16), .inl (eT E 0, 6, .inl (fun _ => 0))) := hf9 _ _ _ hA15 (by intro z9; simp only [pO, pN, pK, pT, Prod.mk.injEq] at z9 <;> omega)
  have hA16 : w20 q82 = some ((99, 17), .inl (eT E 0, 6, .inl (fun _ => 0))) := hf9 _ _ _ hA16 (by intro z9; simp only [pO, pN, pK, pT, Prod.mk.injEq] at z9 <;> omega)
  have hF : fr tP w0 w20 := hF.tr (hf9.up (fun t9 h9 => by have h9 : t9 = _ := h9; rw [h9]; rfl))
  refine lv_aload_n hx hb dX6_init_87 rfl (lv_at hl 0 rfl) ?_
  refine lv_sipush (v := 155) hx hb dX6_init_88 (by decide) ?_
  refine k_newiW hx hb (99, 19) (hts _ q139) hG hP hS (n := 155) (by omega) (show (((((((((0 + 1) + 1) + 1) + 1) + 1) + 1) + 1) + 1) + 1) + 1 ≤ 10 from by omega) (show (((((((((0 + 116) + 928) + 116) + 116) + 116) + 60) + 6) + 6) + 6) + 155 ≤ 1625 from by omega) dX6_init_91 (fun q91 w21 H h9 hf9 hP hS => ?_)
  have hA18 : w21 q91 = some ((99, 19), .inl (eT E 0, 155, .inl (fun _ => 0))) := h9
  have hT : w21 y = some ((99, 0), .inr (0, [.ref q7, .ref q16, .ref q24, .ref q32, .ref q40, .int 0, .int 0, .int 0, .ref q48, .int 0, .int (-1), .int 0, .int (-1), .int 0, .ref q66, .ref q74, .ref q82, .int 0, .null, .int 0])) := hf9 _ _ _ hT (fun z9 => z9)
  have hA0 : w21 q7 = some ((99, 1), .inl (eT E 0, 116, .inl (fun _ => 0))) := hf9 _ _ _ hA0 (fun z9 => z9)
  have hA1 : w21 q16 = some ((99, 2), .inl (eT E 0, 928, .inl (fun _ => 0))) := hf9 _ _ _ hA1 (fun z9 => z9)
  have hA2 : w21 q24 = some ((99, 3), .inl (eT E 0, 116, .inl (fun _ => 0))) := hf9 _ _ _ hA2 (fun z9 => z9)
  have hA3 : w21 q32 = some ((99, 4), .inl (eT E 0, 116, .inl (fun _ => 0))) := hf9 _ _ _ hA3 (fun z9 => z9)
  have hA4 : w21 q40 = some ((99, 5), .inl (eT E 0, 116, .inl (fun _ => 0))) := hf9 _ _ _ hA4 (fun z9 => z9)
  have hA8 : w21 q48 = some ((99, 9), .inl (eT E 0, 60, .inl (fun _ => 0))) := hf9 _ _ _ hA8 (fun z9 => z9)
  have hA14 : w21 q66 = some ((99, 15), .inl (eT E 0, 6, .inl (fun _ => 0))) := hf9 _ _ _ hA14 (fun z9 => z9)
  have hA15 : w21 q74 = some ((99, 16), .inl (eT E 0, 6, .inl (fun _ => 0))) := hf9 _ _ _ hA15 (fun z9 => z9)
  have hA16 : w21 q82 = some ((99, 17), .inl (eT E 0, 6, .inl (fun _ => 0))) := hf9 _ _ _ hA16 (fun z9 => z9)
  have hF : fr tP w0 w21 := hF.tr (hf9.up (fun _ h9 => h9.elim))
  refine k_putFW hx hb hts in_X6 tyX6 tyX6_ok nmX6 hown hG hP hS hT rfl 18 (by decide) (hts _ q1638) (fun _ h9 => h9) rfl hname rfl (ty := (.array .int)) (v := .ref q91) rfl rfl rfl (Nat.le_of_ble_eq_true rfl) dX6_init_93 (fun w22 H locs h9 hf9 hP hS => ?_)
  have hT : w22 y = some ((99, 0), .inr (0, [.ref q7, .ref q16, .ref q24, .ref q32, .ref q40, .int 0, .int 0, .int 0, .ref q48, .int 0, .int (-1), .int 0, .int (-1), .int 0, .ref q66, .ref q74, .ref q82, .int 0, .ref q91, .int 0])) := h9
  have hA0 : w22 q7 = some ((99, 1), .inl (eT E 0, 116, .inl (fun _ => 0))) := hf9 _ _ _ hA0 (by intro z9; simp only [pO, pN, pK, pT, Prod.mk.injEq] at z9 <;> omega)
  have hA1 : w22 q16 = some ((99, 2), .inl (eT E 0, 928, .inl (fun _ => 0))) := hf9 _ _ _ hA1 (by intro z9; simp only [pO, pN, pK, pT, Prod.mk.injEq] at z9 <;> omega)
  have hA2 : w22 q24 = some ((99, 3), .inl (eT E 0, 116, .inl (fun _ => 0))) := hf9 _ _ _ hA2 (by intro z9; simp only [pO, pN, pK, pT, Prod.mk.injEq] at z9 <;> omega)
  have hA3 : w22 q32 = some ((99, 4), .inl (eT E 0, 116, .inl (fun _ => 0))) := hf9 _ _ _ hA3 (by intro z9; simp only [pO, pN, pK, pT, Prod.mk.injEq] at z9 <;> omega)
  have hA4 : w22 q40 = some ((99, 5), .inl (eT E 0, 116, .inl (fun _ => 0))) := hf9 _ _ _ hA4 (by intro z9; simp only [pO, pN, pK, pT, Prod.mk.injEq] at z9 <;> omega)
  have hA8 : w22 q48 = some ((99, 9), .inl (eT E 0, 60, .inl (fun _ => 0))) := hf9 _ _ _ hA8 (by intro z9; simp only [pO, pN, pK, pT, Prod.mk.injEq] at z9 <;> omega)
  have hA14 : w22 q66 = some ((99, 15), .inl (eT E 0, 6, .inl (fun _ => 0))) := hf9 _ _ _ hA14 (by intro z9; simp only [pO, pN, pK, pT, Prod.mk.injEq] at z9 <;> omega)
  have hA15 : w22 q74 = some ((99, 16), .inl (eT E 0, 6, .inl (fun _ => 0))) := hf9 _ _ _ hA15 (by intro z9; simp only [pO, pN, pK, pT, Prod.mk.injEq] at z9 <;> omega)
  have hA16 : w22 q82 = some ((99, 17), .inl (eT E 0, 6, .inl (fun _ => 0))) := hf9 _ _ _ hA16 (by intro z9; simp only [pO, pN, pK, pT, Prod.mk.injEq] at z9 <;> omega)
  have hA18 : w22 q91 = some ((99, 19), .inl (eT E 0, 155, .inl (fun _ => 0))) := hf9 _ _ _ hA18 (by intro z9; simp only [pO, pN, pK, pT, Prod.mk.injEq] at z9 <;> omega)
  have hF : fr tP w0 w22 := hF.tr (hf9.up (fun t9 h9 => by have h9 : t9 = _ := h9; rw [h9]; rfl))
  refine lv_iconst (v := 0) hx hb dX6_init_96 (by decide) ?_
  refine lv_istore_n (lv' := [(1, .int 0), (0, .ref y)]) hx hb dX6_init_97 rfl hl (by decide) rfl (fun ls hl => ?_)
  have hloop_98 : ∀ (n9_98 : Nat) (z : Nat), (z ≤ 10) → (10 - z) < n9_98 → ∀ (w : wd) (H : Heap) (locs : List Loc) (ls : Array Slot), (w y = some ((99, 0), .inr (0, [.ref q7, .ref q16, .ref q24, .ref q32, .ref q40, .int 0, .int 0, .int 0, .ref q48, .int 0, .int (-1), .int 0, .int (-1), .int 0, .ref q66, .ref q74, .ref q82, .int 0, .ref q91, .int 0]))) → (w q7 = some ((99, 1), .inl (eT E 0, 116, .inl (tG3 z)))) → (w q16 = some ((99, 2), .inl (eT E 0, 928, .inl (fun _ => 0)))) → (w q24 = some ((99, 3), .inl (eT E 0, 116, .inl (fun _ => 0)))) → (w q32 = some ((99, 4), .inl (eT E 0, 116, .inl (fun _ => 0)))) → (w q40 = some ((99, 5), .inl (eT E 0, 116, .inl (fun _ => 0)))) → (w q48 = some ((99, 9), .inl (eT E 0, 60, .inl (fun _ => 0)))) → (w q66 = some ((99, 15), .inl (eT E 0, 6, .inl (fun _ => 0)))) → (w q74 = some ((99, 16), .inl (eT E 0, 6, .inl (fun _ => 0)))) → (w q82 = some ((99, 17), .inl (eT E 0, 6, .inl (fun _ => 0)))) → (w q91 = some ((99, 19), .inl (eT E 0, 155, .inl (fun _ => 0)))) → fr tP w0 w → wP E w H → va_S (gA E) s.heap H locs → lv_has ls 2 [(1, .int (nI z)), (0, .ref y)] → W p l0 e rmCX6_init s m args below meth c H locs ((((((((((0 + 1) + 1) + 1) + 1) + 1) + 1) + 1) + 1) + 1) + 1) ((((((((((0 + 116) + 928) + 116) + 116) + 116) + 60) + 6) + 6) + 6) + 155) Q (F0 m 98 ls []) := by
    intro n9_98
    induction n9_98 with
    | zero => intro z hz hn; exact absurd hn (Nat.not_lt_zero _)
    | succ n9_98 ih_98 =>
      intro z hz hn_98 w H locs ls hT hA0 hA1 hA2 hA3 hA4 hA8 hA14 hA15 hA16 hA18 hF hP hS hl
      refine lv_iload_n hx hb dX6_init_98 rfl (lv_at hl 0 rfl) ?_
      refine lv_bipush (v := 10) hx hb dX6_init_99 (by decide) ?_
      refine k_icmp_geN (x := z) (y := 10) (tgt := 119) hx hb (by omega) (by omega) dX6_init_101 (by decide) (fun c101 => ?_) (fun c101 => ?_)
      · skip
        exact k_vret hx hb hr hlocks hQ hP hS (by omega) (by omega) dX6_init_119 (⟨(twA q7 q16 q24 q32 q40 q48 q66 q74 q82 q91), trivial, ⟨tM_0 hT ((show z = 10 from by omega) ▸ hA0) hA1 hA2 hA3 hA4 hA8 hA14 hA15 hA16 hA18, trivial⟩, hF⟩)
      · skip
        refine lv_aload_n hx hb dX6_init_104 rfl (lv_at hl 1 rfl) ?_
        refine k_get hx hb hts in_X6 hown hG hP hT rfl 0 (by decide) (hts _ q1620) (fun _ h9 => h9) (v := .ref q7) rfl dX6_init_105 ?_
        refine lv_iconst (v := 2) hx hb dX6_init_108 (by decide) ?_
        refine lv_iload_n hx hb dX6_init_109 rfl (lv_at hl 0 rfl) ?_
        refine k_imulN (x := 2) (y := z) hx hb dX6_init_110 ?_
        refine lv_iconst (v := 3) hx hb dX6_init_111 (by decide) ?_
        refine k_iastW hx hb hG hP hS (j := 2 * z) hA0 (by omega) (show 2 * z < 116 from by omega) (x := 3) dX6_init_112 (fun w23 H locs h9 hf9 hP hS => ?_)
        have hA0 : w23 q7 = some ((99, 1), .inl (eT E 0, 116, .inl (va_up (tG3 z) (2 * z) 3))) := h9
        have hT : w23 y = some ((99, 0), .inr (0, [.ref q7, .ref q16, .ref q24, .ref q32, .ref q40, .int 0, .int 0, .int 0, .ref q48, .int 0, .int (-1), .int 0, .int (-1), .int 0, .ref q66, .ref q74, .ref q82, .int 0, .ref q91, .int 0])) := hf9 _ _ _ hT (by intro z9; simp only [pO, pN, pK, pT, Prod.mk.injEq] at z9 <;> omega)
        have hA1 : w23 q16 = some ((99, 2), .inl (eT E 0, 928, .inl (fun _ => 0))) := hf9 _ _ _ hA1 (by intro z9; simp only [pO, pN, pK, pT, Prod.mk.injEq] at z9 <;> omega)
        have hA2 : w23 q24 = some ((99, 3), .inl (eT E 0, 116, .inl (fun _ => 0))) := hf9 _ _ _ hA2 (by intro z9; simp only [pO, pN, pK, pT, Prod.mk.injEq] at z9 <;> omega)
        have hA3 : w23 q32 = some ((99, 4), .inl (eT E 0, 116, .inl (fun _ => 0))) := hf9 _ _ _ hA3 (by intro z9; simp only [pO, pN, pK, pT, Prod.mk.injEq] at z9 <;> omega)
        have hA4 : w23 q40 = some ((99, 5), .inl (eT E 0, 116, .inl (fun _ => 0))) := hf9 _ _ _ hA4 (by intro z9; simp only [pO, pN, pK, pT, Prod.mk.injEq] at z9 <;> omega)
        have hA8 : w23 q48 = some ((99, 9), .inl (eT E 0, 60, .inl (fun _ => 0))) := hf9 _ _ _ hA8 (by intro z9; simp only [pO, pN, pK, pT, Prod.mk.injEq] at z9 <;> omega)
        have hA14 : w23 q66 = some ((99, 15), .inl (eT E 0, 6, .inl (fun _ => 0))) := hf9 _ _ _ hA14 (by intro z9; simp only [pO, pN, pK, pT, Prod.mk.injEq] at z9 <;> omega)
        have hA15 : w23 q74 = some ((99, 16), .inl (eT E 0, 6, .inl (fun _ => 0))) := hf9 _ _ _ hA15 (by intro z9; simp only [pO, pN, pK, pT, Prod.mk.injEq] at z9 <;> omega)
        have hA16 : w23 q82 = some ((99, 17), .inl (eT E 0, 6, .inl (fun _ => 0))) := hf9 _ _ _ hA16 (by intro z9; simp only [pO, pN, pK, pT, Prod.mk.injEq] at z9 <;> omega)
        have hA18 : w23 q91 = some ((99, 19), .inl (eT E 0, 155, .inl (fun _ => 0))) := hf9 _ _ _ hA18 (by intro z9; simp only [pO, pN, pK, pT, Prod.mk.injEq] at z9 <;> omega)
        have hF : fr tP w0 w23 := hF.tr (hf9.up (fun t9 h9 => by have h9 : t9 = _ := h9; rw [h9]; rfl))
        refine lv_iinc (v := (nI (z + 1))) (lv' := [(1, .int (nI (z + 1))), (0, .ref y)]) hx hb dX6_init_113 hl (k := 0) rfl (nI_add z 1) (by decide) rfl (fun ls hl => ?_)
        refine lv_goto (tgt := 98) hx hb dX6_init_116 (by decide) ?_
        have hl : lv_has ls 2 [(1, .int (nI (z + 1))), (0, .ref y)] := hl
        have hA0 : w23 q7 = some ((99, 1), .inl (eT E 0, 116, .inl (tG3 (z + 1)))) := (by rw [← tG3_s]; exact hA0)
        exact ih_98 (z + 1) (by omega) (by omega) _ _ _ _ hT hA0 hA1 hA2 hA3 hA4 hA8 hA14 hA15 hA16 hA18 hF hP hS hl
  have hl : lv_has ls 2 [(1, .int (nI 0)), (0, .ref y)] := hl
  have hA0 : w22 q7 = some ((99, 1), .inl (eT E 0, 116, .inl (tG3 0))) := (by rw [← tG3_0]; exact hA0)
  exact hloop_98 _ 0 (by omega) (Nat.lt_succ_self _) _ _ _ _ hT hA0 hA1 hA2 hA3 hA4 hA8 hA14 hA15 hA16 hA18 hF hP hS hl
