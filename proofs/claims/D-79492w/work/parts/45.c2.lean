/-! THE COMPONENT, 2: kites -/
set_option maxRecDepth 100000
abbrev rmCX3_out : Room := { frames := 0, cells := 0, slots := 0, locals := 0 }
theorem dyX3_out : yX3_out.cls = RX3 ∧ yX3_out.cls ≠ "java/lang/invoke/MethodHandle" ∧ yX3_out.cls ≠ "java/lang/invoke/VarHandle" ∧ (parseMethodDescriptor yX3_out.desc).map (fun d => d.parameters.length) = some 0 := by decide +kernel
set_option maxHeartbeats 4000000 in
theorem CX3_out (l0 : Launch) (E : gE) (w : wd) (i : Nat) (k : Nat) (y : Nat) (v : Nat → Int32) (t : Nat) (hk : w y = some ((i, 6 + k), .inr (3, [.ref (eM E (v 1).toNatClampNeg), .int (v 2), .int (v 3), .int (v 12), .int (v 4), .int (v 7), .int (v 8), .ref t]))) (hst : stR w i k v t) : kC l0 yX3_out (ws_ yX3_out cX3_out 3 (some .int)) rmCX3_out 0 0 mI E w [.ref y] (fun r w' => w' = w ∧ r = (kOt v)) := by
  refine k_open (cc := cX3_out) (maxL := 3) (ret := (some .int)) (by decide) rfl (Nat.le_of_ble_eq_true rfl) ?_
  intro p e s m args below meth c ls Q hx hb hr hml hown hts hlocks hname hQ hG hP hl hS
  have hl : lv_has ls 3 [(0, .ref y)] := hl
  rcases hst with ⟨e0, h1⟩ | ⟨e0, h1⟩ | ⟨e0, h1⟩
  · skip
    refine lv_aload_n hx hb dX3_out_0 rfl (lv_at hl 0 rfl) ?_
    refine k_get hx hb hts in_X3 hown hG hP hk rfl 7 (by decide) (hts _ q160) (fun _ h9 => h9) (v := .ref t) rfl dX3_out_1 ?_
    refine lv_astore_n (lv' := [(2, .ref t), (0, .ref y)]) hx hb dX3_out_4 rfl hl (by decide) rfl (fun ls hl => ?_)
    refine lv_aload_n hx hb dX3_out_5 rfl (lv_at hl 0 rfl) ?_
    refine k_instNo hx hb hown (hts _ q324) hG hP h1 rfl (List.mem_of_getElem? (i := 0) rfl) dX3_out_6 ?_
    refine lv_if_eq (tgt := 24) hx hb dX3_out_9 (by decide) (fun c9 => ?_) (fun c9 => ?_)
    · skip
      refine lv_iconst (v := 0) hx hb dX3_out_24 (by decide) ?_
      exact k_iret hx hb hr hlocks hQ hP hS (by omega) (by omega) dX3_out_25 (⟨rfl, by first | exact (if_pos e0).symm | exact (if_neg (by rw [e0]; decide)).symm⟩)
    · skip
      exact absurd c9 (by decide)
  · skip
    refine lv_aload_n hx hb dX3_out_0 rfl (lv_at hl 0 rfl) ?_
    refine k_get hx hb hts in_X3 hown hG hP hk rfl 7 (by decide) (hts _ q160) (fun _ h9 => h9) (v := .ref t) rfl dX3_out_1 ?_
    refine lv_astore_n (lv' := [(2, .ref t), (0, .ref y)]) hx hb dX3_out_4 rfl hl (by decide) rfl (fun ls hl => ?_)
    refine lv_aload_n hx hb dX3_out_5 rfl (lv_at hl 0 rfl) ?_
    refine k_instS hx hb hown (hts _ q324) hG hP h1 rfl dX3_out_6 ?_
    refine lv_if_eq (tgt := 24) hx hb dX3_out_9 (by decide) (fun c9 => ?_) (fun c9 => ?_)
    · skip
      exact absurd c9 (by decide)
    · skip
      refine lv_aload_n hx hb dX3_out_12 rfl (lv_at hl 0 rfl) ?_
      refine k_castS hx hb hown (hts _ q324) hG hP h1 rfl dX3_out_13 ?_
      refine lv_astore_n (lv' := [(1, .ref t), (2, .ref t), (0, .ref y)]) hx hb dX3_out_16 rfl hl (by decide) rfl (fun ls hl => ?_)
      refine lv_aload_n hx hb dX3_out_17 rfl (lv_at hl 0 rfl) ?_
      refine k_getN hx hb hts in_X7 hown hG hP h1 rfl 0 (by decide) (hG.2.1.1 _ q354 rfl) (fun _ h9 => h9) (v := .int (v 5)) rfl dX3_out_18 ?_
      refine lv_goto (tgt := 25) hx hb dX3_out_21 (by decide) ?_
      exact k_iret hx hb hr hlocks hQ hP hS (by omega) (by omega) dX3_out_25 (⟨rfl, by first | exact (if_pos e0).symm | exact (if_neg (by rw [e0]; decide)).symm⟩)
  · skip
    refine lv_aload_n hx hb dX3_out_0 rfl (lv_at hl 0 rfl) ?_
    refine k_get hx hb hts in_X3 hown hG hP hk rfl 7 (by decide) (hts _ q160) (fun _ h9 => h9) (v := .ref t) rfl dX3_out_1 ?_
    refine lv_astore_n (lv' := [(2, .ref t), (0, .ref y)]) hx hb dX3_out_4 rfl hl (by decide) rfl (fun ls hl => ?_)
    refine lv_aload_n hx hb dX3_out_5 rfl (lv_at hl 0 rfl) ?_
    refine k_instNo hx hb hown (hts _ q324) hG hP h1 rfl (List.mem_of_getElem? (i := 5) rfl) dX3_out_6 ?_
    refine lv_if_eq (tgt := 24) hx hb dX3_out_9 (by decide) (fun c9 => ?_) (fun c9 => ?_)
    · skip
      refine lv_iconst (v := 0) hx hb dX3_out_24 (by decide) ?_
      exact k_iret hx hb hr hlocks hQ hP hS (by omega) (by omega) dX3_out_25 (⟨rfl, by first | exact (if_pos e0).symm | exact (if_neg (by rw [e0]; decide)).symm⟩)
    · skip
      exact absurd c9 (by decide)

abbrev rmCX3_wear : Room := { frames := 0, cells := 0, slots := 0, locals := 0 }
theorem dyX3_wear : yX3_wear.cls = RX3 ∧ yX3_wear.cls ≠ "java/lang/invoke/MethodHandle" ∧ yX3_wear.cls ≠ "java/lang/invoke/VarHandle" ∧ (parseMethodDescriptor yX3_wear.desc).map (fun d => d.parameters.length) = some 0 := by decide +kernel
set_option maxHeartbeats 4000000 in
theorem CX3_wear (l0 : Launch) (E : gE) (w : wd) (i : Nat) (k : Nat) (y : Nat) (v : Nat → Int32) (t : Nat) (hk : w y = some ((i, 6 + k), .inr (3, [.ref (eM E (v 1).toNatClampNeg), .int (v 2), .int (v 3), .int (v 12), .int (v 4), .int (v 7), .int (v 8), .ref t]))) (hst : stR w i k v t) : kC l0 yX3_wear (ws_ yX3_wear cX3_wear 3 (some .int)) rmCX3_wear 0 0 mI E w [.ref y] (fun r w' => w' = w ∧ r = (kWr v)) := by
  refine k_open (cc := cX3_wear) (maxL := 3) (ret := (some .int)) (by decide) rfl (Nat.le_of_ble_eq_true rfl) ?_
  intro p e s m args below meth c ls Q hx hb hr hml hown hts hlocks hname hQ hG hP hl hS
  have hl : lv_has ls 3 [(0, .ref y)] := hl
  rcases hst with ⟨e0, h1⟩ | ⟨e0, h1⟩ | ⟨e0, h1⟩
  · skip
    refine lv_aload_n hx hb dX3_wear_0 rfl (lv_at hl 0 rfl) ?_
    refine k_get hx hb hts in_X3 hown hG hP hk rfl 7 (by decide) (hts _ q160) (fun _ h9 => h9) (v := .ref t) rfl dX3_wear_1 ?_
    refine lv_astore_n (lv' := [(2, .ref t), (0, .ref y)]) hx hb dX3_wear_4 rfl hl (by decide) rfl (fun ls hl => ?_)
    refine lv_aload_n hx hb dX3_wear_5 rfl (lv_at hl 0 rfl) ?_
    refine k_instNo hx hb hown (hts _ q324) hG hP h1 rfl (List.mem_of_getElem? (i := 0) rfl) dX3_wear_6 ?_
    refine lv_if_eq (tgt := 24) hx hb dX3_wear_9 (by decide) (fun c9 => ?_) (fun c9 => ?_)
    · skip
      refine lv_iconst (v := 0) hx hb dX3_wear_24 (by decide) ?_
      exact k_iret hx hb hr hlocks hQ hP hS (by omega) (by omega) dX3_wear_25 (⟨rfl, by first | exact (if_pos e0).symm | exact (if_neg (by rw [e0]; decide)).symm⟩)
    · skip
      exact absurd c9 (by decide)
  · skip
    refine lv_aload_n hx hb dX3_wear_0 rfl (lv_at hl 0 rfl) ?_
    refine k_get hx hb hts in_X3 hown hG hP hk rfl 7 (by decide) (hts _ q160) (fun _ h9 => h9) (v := .ref t) rfl dX3_wear_1 ?_
    refine lv_astore_n (lv' := [(2, .ref t), (0, .ref y)]) hx hb dX3_wear_4 rfl hl (by decide) rfl (fun ls hl => ?_)
    refine lv_aload_n hx hb dX3_wear_5 rfl (lv_at hl 0 rfl) ?_
    refine k_instS hx hb hown (hts _ q324) hG hP h1 rfl dX3_wear_6 ?_
    refine lv_if_eq (tgt := 24) hx hb dX3_wear_9 (by decide) (fun c9 => ?_) (fun c9 => ?_)
    · skip
      exact absurd c9 (by decide)
    · skip
      refine lv_aload_n hx hb dX3_wear_12 rfl (lv_at hl 0 rfl) ?_
      refine k_castS hx hb hown (hts _ q324) hG hP h1 rfl dX3_wear_13 ?_
      refine lv_astore_n (lv' := [(1, .ref t), (2, .ref t), (0, .ref y)]) hx hb dX3_wear_16 rfl hl (by decide) rfl (fun ls hl => ?_)
      refine lv_aload_n hx hb dX3_wear_17 rfl (lv_at hl 0 rfl) ?_
      refine k_getN hx hb hts in_X7 hown hG hP h1 rfl 1 (by decide) (hG.2.1.1 _ q356 rfl) (fun _ h9 => h9) (v := .int (v 6)) rfl dX3_wear_18 ?_
      refine lv_goto (tgt := 25) hx hb dX3_wear_21 (by decide) ?_
      exact k_iret hx hb hr hlocks hQ hP hS (by omega) (by omega) dX3_wear_25 (⟨rfl, by first | exact (if_pos e0).symm | exact (if_neg (by rw [e0]; decide)).symm⟩)
  · skip
    refine lv_aload_n hx hb dX3_wear_0 rfl (lv_at hl 0 rfl) ?_
    refine k_get hx hb hts in_X3 hown hG hP hk rfl 7 (by decide) (hts _ q160) (fun _ h9 => h9) (v := .ref t) rfl dX3_wear_1 ?_
    refine lv_astore_n (lv' := [(2, .ref t), (0, .ref y)]) hx hb dX3_wear_4 rfl hl (by decide) rfl (fun ls hl => ?_)
    refine lv_aload_n hx hb dX3_wear_5 rfl (lv_at hl 0 rfl) ?_
    refine k_instNo hx hb hown (hts _ q324) hG hP h1 rfl (List.mem_of_getElem? (i := 5) rfl) dX3_wear_6 ?_
    refine lv_if_eq (tgt := 24) hx hb dX3_wear_9 (by decide) (fun c9 => ?_) (fun c9 => ?_)
    · skip
      refine lv_iconst (v := 0) hx hb dX3_wear_24 (by decide) ?_
      exact k_iret hx hb hr hlocks hQ hP hS (by omega) (by omega) dX3_wear_25 (⟨rfl, by first | exact (if_pos e0).symm | exact (if_neg (by rw [e0]; decide)).symm⟩)
    · skip
      exact absurd c9 (by decide)

abbrev rmCX3_isUp : Room := { frames := 0, cells := 0, slots := 0, locals := 0 }
theorem dyX3_isUp : yX3_isUp.cls = RX3 ∧ yX3_isUp.cls ≠ "java/lang/invoke/MethodHandle" ∧ yX3_isUp.cls ≠ "java/lang/invoke/VarHandle" ∧ (parseMethodDescriptor yX3_isUp.desc).map (fun d => d.parameters.length) = some 0 := by decide +kernel
set_option maxHeartbeats 4000000 in
theorem CX3_isUp (l0 : Launch) (E : gE) (w : wd) (i : Nat) (k : Nat) (y : Nat) (v : Nat → Int32) (t : Nat) (hk : w y = some ((i, 6 + k), .inr (3, [.ref (eM E (v 1).toNatClampNeg), .int (v 2), .int (v 3), .int (v 12), .int (v 4), .int (v 7), .int (v 8), .ref t]))) (hst : stR w i k v t) : kC l0 yX3_isUp (ws_ yX3_isUp cX3_isUp 1 (some .boolean)) rmCX3_isUp 0 0 mI E w [.ref y] (fun r w' => w' = w ∧ r = (bI (decide ((v 0) = 1)))) := by
  refine k_open (cc := cX3_isUp) (maxL := 1) (ret := (some .boolean)) (by decide) rfl (Nat.le_of_ble_eq_true rfl) ?_
  intro p e s m args below meth c ls Q hx hb hr hml hown hts hlocks hname hQ hG hP hl hS
  have hl : lv_has ls 1 [(0, .ref y)] := hl
  rcases hst with ⟨e0, h1⟩ | ⟨e0, h1⟩ | ⟨e0, h1⟩
  · skip
    refine lv_aload_n hx hb dX3_isUp_0 rfl (lv_at hl 0 rfl) ?_
    refine k_get hx hb hts in_X3 hown hG hP hk rfl 7 (by decide) (hts _ q160) (fun _ h9 => h9) (v := .ref t) rfl dX3_isUp_1 ?_
    refine k_instNo hx hb hown (hts _ q324) hG hP h1 rfl (List.mem_of_getElem? (i := 0) rfl) dX3_isUp_4 ?_
    exact k_zret hx hb hr hlocks hQ hP hS (by omega) (by omega) dX3_isUp_7 rfl (⟨rfl, by rw [e0]; rfl⟩)
  · skip
    refine lv_aload_n hx hb dX3_isUp_0 rfl (lv_at hl 0 rfl) ?_
    refine k_get hx hb hts in_X3 hown hG hP hk rfl 7 (by decide) (hts _ q160) (fun _ h9 => h9) (v := .ref t) rfl dX3_isUp_1 ?_
    refine k_instS hx hb hown (hts _ q324) hG hP h1 rfl dX3_isUp_4 ?_
    exact k_zret hx hb hr hlocks hQ hP hS (by omega) (by omega) dX3_isUp_7 rfl (⟨rfl, by rw [e0]; rfl⟩)
  · skip
    refine lv_aload_n hx hb dX3_isUp_0 rfl (lv_at hl 0 rfl) ?_
    refine k_get hx hb hts in_X3 hown hG hP hk rfl 7 (by decide) (hts _ q160) (fun _ h9 => h9) (v := .ref t) rfl dX3_isUp_1 ?_
    refine k_instNo hx hb hown (hts _ q324) hG hP h1 rfl (List.mem_of_getElem? (i := 5) rfl) dX3_isUp_4 ?_
    exact k_zret hx hb hr hlocks hQ hP hS (by omega) (by omega) dX3_isUp_7 rfl (⟨rfl, by rw [e0]; rfl⟩)

abbrev rmCX3_isOnRoof : Room := { frames := 0, cells := 0, slots := 0, locals := 0 }
theorem dyX3_isOnRoof : yX3_isOnRoof.cls = RX3 ∧ yX3_isOnRoof.cls ≠ "java/lang/invoke/MethodHandle" ∧ yX3_isOnRoof.cls ≠ "java/lang/invoke/VarHandle" ∧ (parseMethodDescriptor yX3_isOnRoof.desc).map (fun d => d.parameters.length) = some 0 := by decide +kernel
set_option maxHeartbeats 4000000 in
theorem CX3_isOnRoof (l0 : Launch) (E : gE) (w : wd) (i : Nat) (k : Nat) (y : Nat) (v : Nat → Int32) (t : Nat) (hk : w y = some ((i, 6 + k), .inr (3, [.ref (eM E (v 1).toNatClampNeg), .int (v 2), .int (v 3), .int (v 12), .int (v 4), .int (v 7), .int (v 8), .ref t]))) (hst : stR w i k v t) : kC l0 yX3_isOnRoof (ws_ yX3_isOnRoof cX3_isOnRoof 1 (some .boolean)) rmCX3_isOnRoof 0 0 mI E w [.ref y] (fun r w' => w' = w ∧ r = (bI (decide ((v 0) = 0)))) := by
  refine k_open (cc := cX3_isOnRoof) (maxL := 1) (ret := (some .boolean)) (by decide) rfl (Nat.le_of_ble_eq_true rfl) ?_
  intro p e s m args below meth c ls Q hx hb hr hml hown hts hlocks hname hQ hG hP hl hS
  have hl : lv_has ls 1 [(0, .ref y)] := hl
  rcases hst with ⟨e0, h1⟩ | ⟨e0, h1⟩ | ⟨e0, h1⟩
  · skip
    refine lv_aload_n hx hb dX3_isOnRoof_0 rfl (lv_at hl 0 rfl) ?_
    refine k_get hx hb hts in_X3 hown hG hP hk rfl 7 (by decide) (hts _ q160) (fun _ h9 => h9) (v := .ref t) rfl dX3_isOnRoof_1 ?_
    refine k_instS hx hb hown (hts _ q132) hG hP h1 rfl dX3_isOnRoof_4 ?_
    exact k_zret hx hb hr hlocks hQ hP hS (by omega) (by omega) dX3_isOnRoof_7 rfl (⟨rfl, by rw [e0]; rfl⟩)
  · skip
    refine lv_aload_n hx hb dX3_isOnRoof_0 rfl (lv_at hl 0 rfl) ?_
    refine k_get hx hb hts in_X3 hown hG hP hk rfl 7 (by decide) (hts _ q160) (fun _ h9 => h9) (v := .ref t) rfl dX3_isOnRoof_1 ?_
    refine k_instNo hx hb hown (hts _ q132) hG hP h1 rfl (List.mem_of_getElem? (i := 2) rfl) dX3_isOnRoof_4 ?_
    exact k_zret hx hb hr hlocks hQ hP hS (by omega) (by omega) dX3_isOnRoof_7 rfl (⟨rfl, by rw [e0]; rfl⟩)
  · skip
    refine lv_aload_n hx hb dX3_isOnRoof_0 rfl (lv_at hl 0 rfl) ?_
    refine k_get hx hb hts in_X3 hown hG hP hk rfl 7 (by decide) (hts _ q160) (fun _ h9 => h9) (v := .ref t) rfl dX3_isOnRoof_1 ?_
    refine k_instNo hx hb hown (hts _ q132) hG hP h1 rfl (List.mem_of_getElem? (i := 4) rfl) dX3_isOnRoof_4 ?_
    exact k_zret hx hb hr hlocks hQ hP hS (by omega) (by omega) dX3_isOnRoof_7 rfl (⟨rfl, by rw [e0]; rfl⟩)

abbrev rmCX3_reels : Room := { frames := 2, cells := 0, slots := 0, locals := 55 }
theorem dyX3_reels : yX3_reels.cls = RX3 ∧ yX3_reels.cls ≠ "java/lang/invoke/MethodHandle" ∧ yX3_reels.cls ≠ "java/lang/invoke/VarHandle" ∧ (parseMethodDescriptor yX3_reels.desc).map (fun d => d.parameters.length) = some 1 := by decide +kernel
set_option maxHeartbeats 4000000 in
theorem CX3_reels (l0 : Launch) (E : gE) (w : wd) (i : Nat) (k : Nat) (y : Nat) (v : Nat → Int32) (t : Nat) (x : Int32) (hk : w y = some ((i, 6 + k), .inr (3, [.ref (eM E (v 1).toNatClampNeg), .int (v 2), .int (v 3), .int (v 12), .int (v 4), .int (v 7), .int (v 8), .ref t]))) (hst : stR w i k v t) : kC l0 yX3_reels (ws_ yX3_reels cX3_reels 4 (some .int)) rmCX3_reels 0 0 mI E w [.ref y, .int x] (fun r w' => (r = (kRr v x)) ∧ (w' y = some ((i, 6 + k), .inr (3, [.ref (eM E (v 1).toNatClampNeg), .int (v 2), .int (v 3), .int (v 12), .int (v 4), .int (v 7), .int (v 8), .ref t])) ∧ stR w' i k (kRv v x) t ∧ True) ∧ fr (pK i k) w w') := by
  refine k_open (cc := cX3_reels) (maxL := 4) (ret := (some .int)) (by decide) rfl (Nat.le_of_ble_eq_true rfl) ?_
  intro p e s m args below meth c ls Q hx hb hr hml hown hts hlocks hname hQ hG hP hl hS
  have hl : lv_has ls 4 [(0, .ref y), (1, .int x)] := hl
  obtain ⟨w0, hw0⟩ : ∃ z, z = w := ⟨_, rfl⟩
  have hF : fr (pK i k) w0 w := by rw [hw0]; exact fr.rf
  rw [← hw0] at hQ
  rcases hst with ⟨e0, h1⟩ | ⟨e0, h1⟩ | ⟨e0, h1⟩
  · skip
    refine lv_aload_n hx hb dX3_reels_0 rfl (lv_at hl 0 rfl) ?_
    refine k_get hx hb hts in_X3 hown hG hP hk rfl 7 (by decide) (hts _ q160) (fun _ h9 => h9) (v := .ref t) rfl dX3_reels_1 ?_
    refine lv_astore_n (lv' := [(3, .ref t), (0, .ref y), (1, .int x)]) hx hb dX3_reels_4 rfl hl (by decide) rfl (fun ls hl => ?_)
    refine lv_aload_n hx hb dX3_reels_5 rfl (lv_at hl 0 rfl) ?_
    refine k_instNo hx hb hown (hts _ q324) hG hP h1 rfl (List.mem_of_getElem? (i := 0) rfl) dX3_reels_6 ?_
    refine lv_if_eq (tgt := 29) hx hb dX3_reels_9 (by decide) (fun c9 => ?_) (fun c9 => ?_)
    · skip
      refine lv_iconst (v := 0) hx hb dX3_reels_29 (by decide) ?_
      exact k_iret hx hb hr hlocks hQ hP hS (by omega) (by omega) dX3_reels_30 (⟨by first | exact (if_pos e0).symm | exact (if_neg (by rw [e0]; decide)).symm, ⟨hk, by rw [kRv, if_neg (by rw [e0]; decide)]; exact Or.inl ⟨e0, h1⟩, trivial⟩, hF⟩)
    · skip
      exact absurd c9 (by decide)
  · skip
    refine lv_aload_n hx hb dX3_reels_0 rfl (lv_at hl 0 rfl) ?_
    refine k_get hx hb hts in_X3 hown hG hP hk rfl 7 (by decide) (hts _ q160) (fun _ h9 => h9) (v := .ref t) rfl dX3_reels_1 ?_
    refine lv_astore_n (lv' := [(3, .ref t), (0, .ref y), (1, .int x)]) hx hb dX3_reels_4 rfl hl (by decide) rfl (fun ls hl => ?_)
    refine lv_aload_n hx hb dX3_reels_5 rfl (lv_at hl 0 rfl) ?_
    refine k_instS hx hb hown (hts _ q324) hG hP h1 rfl dX3_reels_6 ?_
    refine lv_if_eq (tgt := 29) hx hb dX3_reels_9 (by decide) (fun c9 => ?_) (fun c9 => ?_)
    · skip
      exact absurd c9 (by decide)
    · skip
      refine lv_aload_n hx hb dX3_reels_12 rfl (lv_at hl 0 rfl) ?_
      refine k_castS hx hb hown (hts _ q324) hG hP h1 rfl dX3_reels_13 ?_
      refine lv_astore_n (lv' := [(2, .ref t), (3, .ref t), (0, .ref y), (1, .int x)]) hx hb dX3_reels_16 rfl hl (by decide) rfl (fun ls hl => ?_)
      refine lv_aload_n hx hb dX3_reels_17 rfl (lv_at hl 0 rfl) ?_
      refine lv_iload_n hx hb dX3_reels_18 rfl (lv_at hl 3 rfl) ?_
      refine lv_aload_n hx hb dX3_reels_19 rfl (lv_at hl 2 rfl) ?_
      refine k_get hx hb hts in_X3 hown hG hP hk rfl 2 (by decide) (hts _ q146) (fun _ h9 => h9) (v := .int (v 3)) rfl dX3_reels_20 ?_
      refine k_cV hx hb hml hown hts (CX7_reels l0 E w t x (v 3) (i, 12 + k) (v 5) (v 6) h1) (cwV 2 hts (lw_V q724 q725 q726 q89 q727) rfl rfl rfl dyX7_reels ⟨Nat.le_of_ble_eq_true rfl, Nat.le_of_ble_eq_true rfl⟩) hG hP hS h1 rfl (As := [.int x, .int (v 3)]) (rest := []) rfl hl.1 rfl (lv_room (Nat.le_of_ble_eq_true rfl)) dX3_reels_23 ⟨show 0 + 0 ≤ 0 from by omega, show 0 + 0 ≤ 0 from by omega⟩ (fun r23 w1 H locs hp hP hS => ?_)
      obtain ⟨hp0, ⟨h1', -⟩, hf9⟩ := hp
      have hk : w1 y = some ((i, 6 + k), .inr (3, [.ref (eM E (v 1).toNatClampNeg), .int (v 2), .int (v 3), .int (v 12), .int (v 4), .int (v 7), .int (v 8), .ref t])) := hf9 _ _ _ hk (by intro z9; simp only [pO, pN, pK, pT, Prod.mk.injEq] at z9 <;> omega)
      have hF : fr (pK i k) w0 w1 := hF.tr (hf9.up (fun t9 h9 => by simp only [pO, pN, pK, pT] at h9 ⊢; first | exact h9 | (subst h9; simp) | (rcases h9 with h9 | h9 <;> subst h9 <;> simp)))
      have h1 : w1 t = some ((i, 12 + k), .inr (5, [.int (uRl (v 5) (v 3) x), .int (v 6)])) := h1'
      rw [hp0]
      show W p l0 e rmCX3_reels s m args below meth c H locs 0 0 Q (F0 m 26 ls [.int (uRl (v 5) (v 3) x - (v 5))])
      refine lv_goto (tgt := 30) hx hb dX3_reels_26 (by decide) ?_
      exact k_iret hx hb hr hlocks hQ hP hS (by omega) (by omega) dX3_reels_30 (⟨by first | exact (if_pos e0).symm | exact (if_neg (by rw [e0]; decide)).symm, ⟨hk, Or.inr (Or.inl ⟨by rw [kRv, if_pos e0]; exact e0, by rw [kRv, if_pos e0]; exact h1⟩), trivial⟩, hF⟩)
  · skip
    refine lv_aload_n hx hb dX3_reels_0 rfl (lv_at hl 0 rfl) ?_
    refine k_get hx hb hts in_X3 hown hG hP hk rfl 7 (by decide) (hts _ q160) (fun _ h9 => h9) (v := .ref t) rfl dX3_reels_1 ?_
    refine lv_astore_n (lv' := [(3, .ref t), (0, .ref y), (1, .int x)]) hx hb dX3_reels_4 rfl hl (by decide) rfl (fun ls hl => ?_)
    refine lv_aload_n hx hb dX3_reels_5 rfl (lv_at hl 0 rfl) ?_
    refine k_instNo hx hb hown (hts _ q324) hG hP h1 rfl (List.mem_of_getElem? (i := 5) rfl) dX3_reels_6 ?_
    refine lv_if_eq (tgt := 29) hx hb dX3_reels_9 (by decide) (fun c9 => ?_) (fun c9 => ?_)
    · skip
      refine lv_iconst (v := 0) hx hb dX3_reels_29 (by decide) ?_
      exact k_iret hx hb hr hlocks hQ hP hS (by omega) (by omega) dX3_reels_30 (⟨by first | exact (if_pos e0).symm | exact (if_neg (by rw [e0]; decide)).symm, ⟨hk, by rw [kRv, if_neg (by rw [e0]; decide)]; exact Or.inr (Or.inr ⟨e0, h1⟩), trivial⟩, hF⟩)
    · skip
      exact absurd c9 (by decide)

abbrev rmCX3_wears : Room := { frames := 1, cells := 0, slots := 0, locals := 21 }
theorem dyX3_wears : yX3_wears.cls = RX3 ∧ yX3_wears.cls ≠ "java/lang/invoke/MethodHandle" ∧ yX3_wears.cls ≠ "java/lang/invoke/VarHandle" ∧ (parseMethodDescriptor yX3_wears.desc).map (fun d => d.parameters.length) = some 1 := by decide +kernel
set_option maxHeartbeats 4000000 in
theorem CX3_wears (l0 : Launch) (E : gE) (w : wd) (i : Nat) (k : Nat) (y : Nat) (v : Nat → Int32) (t : Nat) (x : Int32) (hk : w y = some ((i, 6 + k), .inr (3, [.ref (eM E (v 1).toNatClampNeg), .int (v 2), .int (v 3), .int (v 12), .int (v 4), .int (v 7), .int (v 8), .ref t]))) (hst : stR w i k v t) : kC l0 yX3_wears (ws_ yX3_wears cX3_wears 4 none) rmCX3_wears 0 0 mV E w [.ref y, .int x] (fun r w' => (True) ∧ (w' y = some ((i, 6 + k), .inr (3, [.ref (eM E (v 1).toNatClampNeg), .int (v 2), .int (v 3), .int (v 12), .int (v 4), .int (v 7), .int (v 8), .ref t])) ∧ stR w' i k (kWv v x) t ∧ True) ∧ fr (pK i k) w w') := by
  refine k_open (cc := cX3_wears) (maxL := 4) (ret := none) (by decide) rfl (Nat.le_of_ble_eq_true rfl) ?_
  intro p e s m args below meth c ls Q hx hb hr hml hown hts hlocks hname hQ hG hP hl hS
  have hl : lv_has ls 4 [(0, .ref y), (1, .int x)] := hl
  obtain ⟨w0, hw0⟩ : ∃ z, z = w := ⟨_, rfl⟩
  have hF : fr (pK i k) w0 w := by rw [hw0]; exact fr.rf
  rw [← hw0] at hQ
  rcases hst with ⟨e0, h1⟩ | ⟨e0, h1⟩ | ⟨e0, h1⟩
  · skip
    refine lv_aload_n hx hb dX3_wears_0 rfl (lv_at hl 0 rfl) ?_
    refine k_get hx hb hts in_X3 hown hG hP hk rfl 7 (by decide) (hts _ q160) (fun _ h9 => h9) (v := .ref t) rfl dX3_wears_1 ?_
    refine lv_astore_n (lv' := [(3, .ref t), (0, .ref y), (1, .int x)]) hx hb dX3_wears_4 rfl hl (by decide) rfl (fun ls hl => ?_)
    refine lv_aload_n hx hb dX3_wears_5 rfl (lv_at hl 0 rfl) ?_
    refine k_instNo hx hb hown (hts _ q324) hG hP h1 rfl (List.mem_of_getElem? (i := 0) rfl) dX3_wears_6 ?_
    refine lv_if_eq (tgt := 22) hx hb dX3_wears_9 (by decide) (fun c9 => ?_) (fun c9 => ?_)
    · skip
      exact k_vret hx hb hr hlocks hQ hP hS (by omega) (by omega) dX3_wears_22 (⟨trivial, ⟨hk, by rw [kWv, if_neg (by rw [e0]; decide)]; exact Or.inl ⟨e0, h1⟩, trivial⟩, hF⟩)
    · skip
      exact absurd c9 (by decide)
  · skip
    refine lv_aload_n hx hb dX3_wears_0 rfl (lv_at hl 0 rfl) ?_
    refine k_get hx hb hts in_X3 hown hG hP hk rfl 7 (by decide) (hts _ q160) (fun _ h9 => h9) (v := .ref t) rfl dX3_wears_1 ?_
    refine lv_astore_n (lv' := [(3, .ref t), (0, .ref y), (1, .int x)]) hx hb dX3_wears_4 rfl hl (by decide) rfl (fun ls hl => ?_)
    refine lv_aload_n hx hb dX3_wears_5 rfl (lv_at hl 0 rfl) ?_
    refine k_instS hx hb hown (hts _ q324) hG hP h1 rfl dX3_wears_6 ?_
    refine lv_if_eq (tgt := 22) hx hb dX3_wears_9 (by decide) (fun c9 => ?_) (fun c9 => ?_)
    · skip
      exact absurd c9 (by decide)
    · skip
      refine lv_aload_n hx hb dX3_wears_12 rfl (lv_at hl 0 rfl) ?_
      refine k_castS hx hb hown (hts _ q324) hG hP h1 rfl dX3_wears_13 ?_
      refine lv_astore_n (lv' := [(2, .ref t), (3, .ref t), (0, .ref y), (1, .int x)]) hx hb dX3_wears_16 rfl hl (by decide) rfl (fun ls hl => ?_)
      refine lv_aload_n hx hb dX3_wears_17 rfl (lv_at hl 0 rfl) ?_
      refine lv_iload_n hx hb dX3_wears_18 rfl (lv_at hl 3 rfl) ?_
      refine k_cV hx hb hml hown hts (CX7_wears l0 E w t x (i, 12 + k) (v 5) (v 6) h1) (cwV 1 hts (lw_V q980 q981 q982 q89 q983) rfl rfl rfl dyX7_wears ⟨Nat.le_of_ble_eq_true rfl, Nat.le_of_ble_eq_true rfl⟩) hG hP hS h1 rfl (As := [.int x]) (rest := []) rfl hl.1 rfl (lv_room (Nat.le_of_ble_eq_true rfl)) dX3_wears_19 ⟨show 0 + 0 ≤ 0 from by omega, show 0 + 0 ≤ 0 from by omega⟩ (fun r19 w1 H locs hp hP hS => ?_)
      obtain ⟨hp0, ⟨h1', -⟩, hf9⟩ := hp
      have hk : w1 y = some ((i, 6 + k), .inr (3, [.ref (eM E (v 1).toNatClampNeg), .int (v 2), .int (v 3), .int (v 12), .int (v 4), .int (v 7), .int (v 8), .ref t])) := hf9 _ _ _ hk (by intro z9; simp only [pO, pN, pK, pT, Prod.mk.injEq] at z9 <;> omega)
      have hF : fr (pK i k) w0 w1 := hF.tr (hf9.up (fun t9 h9 => by simp only [pO, pN, pK, pT] at h9 ⊢; first | exact h9 | (subst h9; simp) | (rcases h9 with h9 | h9 <;> subst h9 <;> simp)))
      have h1 : w1 t = some ((i, 12 + k), .inr (5, [.int (v 5), .int ((v 6) + x)])) := h1'
      show W p l0 e rmCX3_wears s m args below meth c H locs 0 0 Q (F0 m 22 ls [])
      exact k_vret hx hb hr hlocks hQ hP hS (by omega) (by omega) dX3_wears_22 (⟨trivial, ⟨hk, Or.inr (Or.inl ⟨by rw [kWv, if_pos e0]; exact e0, by rw [kWv, if_pos e0]; exact h1⟩), trivial⟩, hF⟩)
  · skip
    refine lv_aload_n hx hb dX3_wears_0 rfl (lv_at hl 0 rfl) ?_
    refine k_get hx hb hts in_X3 hown hG hP hk rfl 7 (by decide) (hts _ q160) (fun _ h9 => h9) (v := .ref t) rfl dX3_wears_1 ?_
    refine lv_astore_n (lv' := [(3, .ref t), (0, .ref y), (1, .int x)]) hx hb dX3_wears_4 rfl hl (by decide) rfl (fun ls hl => ?_)
    refine lv_aload_n hx hb dX3_wears_5 rfl (lv_at hl 0 rfl) ?_
    refine k_instNo hx hb hown (hts _ q324) hG hP h1 rfl (List.mem_of_getElem? (i := 5) rfl) dX3_wears_6 ?_
    refine lv_if_eq (tgt := 22) hx hb dX3_wears_9 (by decide) (fun c9 => ?_) (fun c9 => ?_)
    · skip
      exact k_vret hx hb hr hlocks hQ hP hS (by omega) (by omega) dX3_wears_22 (⟨trivial, ⟨hk, by rw [kWv, if_neg (by rw [e0]; decide)]; exact Or.inr (Or.inr ⟨e0, h1⟩), trivial⟩, hF⟩)
    · skip
      exact absurd c9 (by decide)

abbrev rmCX3_begins : Room := { frames := 2, cells := 1, slots := 0, locals := 52 }
theorem dyX3_begins : yX3_begins.cls = RX3 ∧ yX3_begins.cls ≠ "java/lang/invoke/MethodHandle" ∧ yX3_begins.cls ≠ "java/lang/invoke/VarHandle" ∧ (parseMethodDescriptor yX3_begins.desc).map (fun d => d.parameters.length) = some 4 := by decide +kernel
set_option maxHeartbeats 4000000 in
theorem CX3_begins (l0 : Launch) (E : gE) (w : wd) (i : Nat) (k : Nat) (y : Nat) (z : Nat) (x2 : Int32) (x3 : Int32) (x4 : Int32) (t : Nat) (m9 : Nat) (a2 : Int32) (a3 : Int32) (a5 : Int32) (a4 : Int32) (a7 : Int32) (a8 : Int32) (hz : z < 3) (hk : w y = some ((i, 6 + k), .inr (3, [.ref m9, .int a2, .int a3, .int a5, .int a4, .int a7, .int a8, .ref t]))) : kC l0 yX3_begins (ws_ yX3_begins cX3_begins 5 none) rmCX3_begins 1 0 mV E w [.ref y, .ref (eM E z), .int x2, .int x3, .int x4] (fun r w' => ∃ t9 : Nat, (True) ∧ (w' y = some ((i, 6 + k), .inr (3, [.ref (eM E ((kBg z x2 x3 x4) 1).toNatClampNeg), .int ((kBg z x2 x3 x4) 2), .int ((kBg z x2 x3 x4) 3), .int ((kBg z x2 x3 x4) 12), .int ((kBg z x2 x3 x4) 4), .int ((kBg z x2 x3 x4) 7), .int ((kBg z x2 x3 x4) 8), .ref t9])) ∧ stR w' i k (kBg z x2 x3 x4) t9 ∧ True) ∧ fr (pK i k) w w') := by
  refine k_open (cc := cX3_begins) (maxL := 5) (ret := none) (by decide) rfl (Nat.le_of_ble_eq_true rfl) ?_
  intro p e s m args below meth c ls Q hx hb hr hml hown hts hlocks hname hQ hG hP hl hS
  have hl : lv_has ls 5 [(0, .ref y), (1, .ref (eM E z)), (2, .int x2), (3, .int x3), (4, .int x4)] := hl
  obtain ⟨w0, hw0⟩ : ∃ z, z = w := ⟨_, rfl⟩
  have hF : fr (pK i k) w0 w := by rw [hw0]; exact fr.rf
  rw [← hw0] at hQ
  refine lv_aload_n hx hb dX3_begins_0 rfl (lv_at hl 0 rfl) ?_
  refine lv_aload_n hx hb dX3_begins_1 rfl (lv_at hl 1 rfl) ?_
  refine k_putW hx hb hts in_X3 tyX3 tyX3_ok nmX3 hown hG hP hS hk rfl 0 (by decide) (hts _ q140) (fun _ h9 => h9) rfl (ty := (.object "KiteRoofs$Make")) (v := .ref (eM E z)) rfl rfl rfl (Nat.le_of_ble_eq_true rfl) dX3_begins_2 (fun w1 H locs h9 hf9 hP hS => ?_)
  have hk : w1 y = some ((i, 6 + k), .inr (3, [.ref (eM E z), .int a2, .int a3, .int a5, .int a4, .int a7, .int a8, .ref t])) := h9
  have hF : fr (pK i k) w0 w1 := hF.tr (hf9.up (fun t9 h9 => by simp only [pO, pN, pK, pT] at h9 ⊢; first | exact h9 | (subst h9; simp) | (rcases h9 with h9 | h9 <;> subst h9 <;> simp)))
  refine lv_aload_n hx hb dX3_begins_5 rfl (lv_at hl 0 rfl) ?_
  refine lv_iload_n hx hb dX3_begins_6 rfl (lv_at hl 2 rfl) ?_
  refine k_putW hx hb hts in_X3 tyX3 tyX3_ok nmX3 hown hG hP hS hk rfl 1 (by decide) (hts _ q143) (fun _ h9 => h9) rfl (ty := .int) (v := .int x2) rfl rfl rfl (Nat.le_of_ble_eq_true rfl) dX3_begins_7 (fun w2 H locs h9 hf9 hP hS => ?_)
  have hk : w2 y = some ((i, 6 + k), .inr (3, [.ref (eM E z), .int x2, .int a3, .int a5, .int a4, .int a7, .int a8, .ref t])) := h9
  have hF : fr (pK i k) w0 w2 := hF.tr (hf9.up (fun t9 h9 => by simp only [pO, pN, pK, pT] at h9 ⊢; first | exact h9 | (subst h9; simp) | (rcases h9 with h9 | h9 <;> subst h9 <;> simp)))
  refine lv_aload_n hx hb dX3_begins_10 rfl (lv_at hl 0 rfl) ?_
  refine lv_iload_n hx hb dX3_begins_11 rfl (lv_at hl 3 rfl) ?_
  refine k_putW hx hb hts in_X3 tyX3 tyX3_ok nmX3 hown hG hP hS hk rfl 2 (by decide) (hts _ q146) (fun _ h9 => h9) rfl (ty := .int) (v := .int x3) rfl rfl rfl (Nat.le_of_ble_eq_true rfl) dX3_begins_12 (fun w3 H locs h9 hf9 hP hS => ?_)
  have hk : w3 y = some ((i, 6 + k), .inr (3, [.ref (eM E z), .int x2, .int x3, .int a5, .int a4, .int a7, .int a8, .ref t])) := h9
  have hF : fr (pK i k) w0 w3 := hF.tr (hf9.up (fun t9 h9 => by simp only [pO, pN, pK, pT] at h9 ⊢; first | exact h9 | (subst h9; simp) | (rcases h9 with h9 | h9 <;> subst h9 <;> simp)))
  refine lv_aload_n hx hb dX3_begins_15 rfl (lv_at hl 0 rfl) ?_
  refine lv_iload_n hx hb dX3_begins_16 rfl (lv_at hl 3 rfl) ?_
  refine k_putW hx hb hts in_X3 tyX3 tyX3_ok nmX3 hown hG hP hS hk rfl 3 (by decide) (hts _ q149) (fun _ h9 => h9) rfl (ty := .int) (v := .int x3) rfl rfl rfl (Nat.le_of_ble_eq_true rfl) dX3_begins_17 (fun w4 H locs h9 hf9 hP hS => ?_)
  have hk : w4 y = some ((i, 6 + k), .inr (3, [.ref (eM E z), .int x2, .int x3, .int x3, .int a4, .int a7, .int a8, .ref t])) := h9
  have hF : fr (pK i k) w0 w4 := hF.tr (hf9.up (fun t9 h9 => by simp only [pO, pN, pK, pT] at h9 ⊢; first | exact h9 | (subst h9; simp) | (rcases h9 with h9 | h9 <;> subst h9 <;> simp)))
  refine lv_aload_n hx hb dX3_begins_20 rfl (lv_at hl 0 rfl) ?_
  refine lv_iload hx hb dX3_begins_21 (lv_at hl 4 rfl) ?_
  refine k_putW hx hb hts in_X3 tyX3 tyX3_ok nmX3 hown hG hP hS hk rfl 4 (by decide) (hts _ q151) (fun _ h9 => h9) rfl (ty := .int) (v := .int x4) rfl rfl rfl (Nat.le_of_ble_eq_true rfl) dX3_begins_23 (fun w5 H locs h9 hf9 hP hS => ?_)
  have hk : w5 y = some ((i, 6 + k), .inr (3, [.ref (eM E z), .int x2, .int x3, .int x3, .int x4, .int a7, .int a8, .ref t])) := h9
  have hF : fr (pK i k) w0 w5 := hF.tr (hf9.up (fun t9 h9 => by simp only [pO, pN, pK, pT] at h9 ⊢; first | exact h9 | (subst h9; simp) | (rcases h9 with h9 | h9 <;> subst h9 <;> simp)))
  refine lv_aload_n hx hb dX3_begins_26 rfl (lv_at hl 0 rfl) ?_
  refine lv_iconst (v := 0) hx hb dX3_begins_27 (by decide) ?_
  refine k_putW hx hb hts in_X3 tyX3 tyX3_ok nmX3 hown hG hP hS hk rfl 5 (by decide) (hts _ q154) (fun _ h9 => h9) rfl (ty := .int) (v := .int 0) rfl rfl rfl (Nat.le_of_ble_eq_true rfl) dX3_begins_28 (fun w6 H locs h9 hf9 hP hS => ?_)
  have hk : w6 y = some ((i, 6 + k), .inr (3, [.ref (eM E z), .int x2, .int x3, .int x3, .int x4, .int 0, .int a8, .ref t])) := h9
  have hF : fr (pK i k) w0 w6 := hF.tr (hf9.up (fun t9 h9 => by simp only [pO, pN, pK, pT] at h9 ⊢; first | exact h9 | (subst h9; simp) | (rcases h9 with h9 | h9 <;> subst h9 <;> simp)))
  refine lv_aload_n hx hb dX3_begins_31 rfl (lv_at hl 0 rfl) ?_
  refine lv_iconst (v := 0) hx hb dX3_begins_32 (by decide) ?_
  refine k_putW hx hb hts in_X3 tyX3 tyX3_ok nmX3 hown hG hP hS hk rfl 6 (by decide) (hts _ q157) (fun _ h9 => h9) rfl (ty := .int) (v := .int 0) rfl rfl rfl (Nat.le_of_ble_eq_true rfl) dX3_begins_33 (fun w7 H locs h9 hf9 hP hS => ?_)
  have hk : w7 y = some ((i, 6 + k), .inr (3, [.ref (eM E z), .int x2, .int x3, .int x3, .int x4, .int 0, .int 0, .ref t])) := h9
  have hF : fr (pK i k) w0 w7 := hF.tr (hf9.up (fun t9 h9 => by simp only [pO, pN, pK, pT] at h9 ⊢; first | exact h9 | (subst h9; simp) | (rcases h9 with h9 | h9 <;> subst h9 <;> simp)))
  refine lv_aload_n hx hb dX3_begins_36 rfl (lv_at hl 0 rfl) ?_
  refine k_newW hx hb (0, 0) hts in_X5 tyX5 tyX5_ok hown (hts _ q132) (hts _ q133) (hts _ q74) hG hP hS (ci := 4) rfl (fs := []) (by decide) (show 0 + 1 ≤ 1 from by omega) (show 0 + 0 ≤ 0 from by omega) dX3_begins_37 (fun q37 w8 H h9 hf9 hP hS => ?_)
  have h37 : w8 q37 = some ((0, 0), .inr (4, [])) := h9
  have hk : w8 y = some ((i, 6 + k), .inr (3, [.ref (eM E z), .int x2, .int x3, .int x3, .int x4, .int 0, .int 0, .ref t])) := hf9 _ _ _ hk (fun z9 => z9)
  have hF : fr (pK i k) w0 w8 := hF.tr (hf9.up (fun _ h9 => h9.elim))
  refine lv_dup hx hb dX3_begins_40 rfl ?_
  refine k_cIN hx hb hml hown hts (CX5_init l0 E w8 q37 (0, 0) h37) ⟨va_cnB 0 hts (lw_meth q136) rfl rfl rfl (hG.2.1.1 _ q134 rfl) (hts _ q74) dyX5_init.2 ⟨Nat.le_of_ble_eq_true rfl, Nat.le_of_ble_eq_true rfl⟩, rfl, hts _ q135⟩ hG hP hS (As := []) (rest := [.ref q37, .ref y]) rfl hl.1 rfl (lv_room (Nat.le_of_ble_eq_true rfl)) dX3_begins_41 ⟨show (0 + 1) + 0 ≤ 1 from by omega, show (0 + 0) + 0 ≤ 0 from by omega⟩ (fun r9 w9 H locs hp hP hS => ?_)
  obtain ⟨hp1, hp0⟩ := hp
  rw [hp1] at hP
  show W p l0 e rmCX3_begins s m args below meth c H locs (0 + 1) (0 + 0) Q (F0 m 44 ls [.ref q37, .ref y])
  refine k_putW hx hb hts in_X3 tyX3 tyX3_ok nmX3 hown hG hP hS hk rfl 7 (by decide) (hts _ q160) (fun _ h9 => h9) rfl (ty := (.object "KiteRoofs$State")) (v := .ref q37) rfl rfl rfl (Nat.le_of_ble_eq_true rfl) dX3_begins_44 (fun w9 H locs h9 hf9 hP hS => ?_)
  have hk : w9 y = some ((i, 6 + k), .inr (3, [.ref (eM E z), .int x2, .int x3, .int x3, .int x4, .int 0, .int 0, .ref q37])) := h9
  have h37 : w9 q37 = some ((0, 0), .inr (4, [])) := hf9 _ _ _ h37 (by intro z9; simp only [pO, pN, pK, pT, Prod.mk.injEq] at z9 <;> omega)
  have hF : fr (pK i k) w0 w9 := hF.tr (hf9.up (fun t9 h9 => by simp only [pO, pN, pK, pT] at h9 ⊢; first | exact h9 | (subst h9; simp) | (rcases h9 with h9 | h9 <;> subst h9 <;> simp)))
  exact k_vret hx hb hr hlocks hQ hP hS (by omega) (by omega) dX3_begins_47 (⟨q37, trivial, ⟨by rw [show (kBg z x2 x3 x4 1).toNatClampNeg = z from nI_clamp (by omega)]; exact hk, Or.inl ⟨rfl, h37⟩, trivial⟩, hF⟩)

abbrev rmCX3_takeState : Room := { frames := 2, cells := 1, slots := 2, locals := 52 }
theorem dyX3_takeState : yX3_takeState.cls = RX3 ∧ yX3_takeState.cls ≠ "java/lang/invoke/MethodHandle" ∧ yX3_takeState.cls ≠ "java/lang/invoke/VarHandle" ∧ (parseMethodDescriptor yX3_takeState.desc).map (fun d => d.parameters.length) = some 1 := by decide +kernel
set_option maxHeartbeats 4000000 in
theorem CX3_takeState (l0 : Launch) (E : gE) (w : wd) (i : Nat) (k : Nat) (y : Nat) (v : Nat → Int32) (t : Nat) (j : Nat) (k2 : Nat) (u : Nat → Int32) (t2 : Nat) (m9 : Nat) (a2 : Int32) (a3 : Int32) (a5 : Int32) (a4 : Int32) (a7 : Int32) (a8 : Int32) (hij : i ≠ j) (hi0 : i ≠ 0) (hk : w y = some ((i, 6 + k), .inr (3, [.ref m9, .int a2, .int a3, .int a5, .int a4, .int a7, .int a8, .ref t]))) (hst : stR w i k v t) (hst2 : stR w j k2 u t2) : kC l0 yX3_takeState (ws_ yX3_takeState cX3_takeState 5 none) rmCX3_takeState 1 2 mV E w [.ref y, .ref t2] (fun r w' => ∃ t9 : Nat, (True) ∧ (w' y = some ((i, 6 + k), .inr (3, [.ref m9, .int a2, .int a3, .int a5, .int a4, .int a7, .int a8, .ref t9])) ∧ stR w' i k u t9 ∧ True) ∧ fr (pK i k) w w') := by
  refine k_open (cc := cX3_takeState) (maxL := 5) (ret := none) (by decide) rfl (Nat.le_of_ble_eq_true rfl) ?_
  intro p e s m args below meth c ls Q hx hb hr hml hown hts hlocks hname hQ hG hP hl hS
  have hl : lv_has ls 5 [(0, .ref y), (1, .ref t2)] := hl
  obtain ⟨w0, hw0⟩ : ∃ z, z = w := ⟨_, rfl⟩
  have hF : fr (pK i k) w0 w := by rw [hw0]; exact fr.rf
  rw [← hw0] at hQ
  rcases hst with ⟨e0, h1⟩ | ⟨e0, h1⟩ | ⟨e0, h1⟩ <;> rcases hst2 with ⟨e2, h2⟩ | ⟨e2, h2⟩ | ⟨e2, h2⟩
  · skip
    refine lv_aload_n hx hb dX3_takeState_0 rfl (lv_at hl 1 rfl) ?_
    refine k_instNo hx hb hown (hts _ q324) hG hP h2 rfl (List.mem_of_getElem? (i := 0) rfl) dX3_takeState_1 ?_
    refine lv_if_eq (tgt := 15) hx hb dX3_takeState_4 (by decide) (fun c4 => ?_) (fun c4 => ?_)
    · skip
      refine lv_aload_n hx hb dX3_takeState_15 rfl (lv_at hl 0 rfl) ?_
      refine lv_aload_n hx hb dX3_takeState_16 rfl (lv_at hl 1 rfl) ?_
      refine k_putW hx hb hts in_X3 tyX3 tyX3_ok nmX3 hown hG hP hS hk rfl 7 (by decide) (hts _ q160) (fun _ h9 => h9) rfl (ty := (.object "KiteRoofs$State")) (v := .ref t2) rfl rfl rfl (Nat.le_of_ble_eq_true rfl) dX3_takeState_17 (fun w1 H locs h9 hf9 hP hS => ?_)
      have hk : w1 y = some ((i, 6 + k), .inr (3, [.ref m9, .int a2, .int a3, .int a5, .int a4, .int a7, .int a8, .ref t2])) := h9
      have h1 : w1 t = some ((0, 0), .inr (4, [])) := hf9 _ _ _ h1 (by intro z9; simp only [pO, pN, pK, pT, Prod.mk.injEq] at z9 <;> omega)
      have h2 : w1 t2 = some ((0, 0), .inr (4, [])) := hf9 _ _ _ h2 (by intro z9; simp only [pO, pN, pK, pT, Prod.mk.injEq] at z9 <;> omega)
      have hF : fr (pK i k) w0 w1 := hF.tr (hf9.up (fun t9 h9 => by simp only [pO, pN, pK, pT] at h9 ⊢; first | exact h9 | (subst h9; simp) | (rcases h9 with h9 | h9 <;> subst h9 <;> simp)))
      refine lv_goto (tgt := 67) hx hb dX3_takeState_20 (by decide) ?_
      exact k_vret hx hb hr hlocks hQ hP hS (by omega) (by omega) dX3_takeState_67 (⟨t2, trivial, ⟨hk, Or.inl ⟨e2, h2⟩, trivial⟩, hF⟩)
    · skip
      exact absurd c4 (by decide)
  · skip
    refine lv_aload_n hx hb dX3_takeState_0 rfl (lv_at hl 1 rfl) ?_
    refine k_instS hx hb hown (hts _ q324) hG hP h2 rfl dX3_takeState_1 ?_
    refine lv_if_eq (tgt := 15) hx hb dX3_takeState_4 (by decide) (fun c4 => ?_) (fun c4 => ?_)
    · skip
      exact absurd c4 (by decide)
    · skip
      refine lv_aload_n hx hb dX3_takeState_7 rfl (lv_at hl 1 rfl) ?_
      refine k_castS hx hb hown (hts _ q324) hG hP h2 rfl dX3_takeState_8 ?_
      refine lv_astore_n (lv' := [(2, .ref t2), (0, .ref y), (1, .ref t2)]) hx hb dX3_takeState_11 rfl hl (by decide) rfl (fun ls hl => ?_)
      refine lv_goto (tgt := 23) hx hb dX3_takeState_12 (by decide) ?_
      refine lv_aload_n hx hb dX3_takeState_23 rfl (lv_at hl 1 rfl) ?_
      refine k_get hx hb hts in_X3 hown hG hP hk rfl 7 (by decide) (hts _ q160) (fun _ h9 => h9) (v := .ref t) rfl dX3_takeState_24 ?_
      refine lv_astore (lv' := [(4, .ref t), (2, .ref t2), (0, .ref y), (1, .ref t2)]) hx hb dX3_takeState_27 hl (by decide) rfl (fun ls hl => ?_)
      refine lv_aload hx hb dX3_takeState_29 (lv_at hl 0 rfl) ?_
      refine k_instNo hx hb hown (hts _ q324) hG hP h1 rfl (List.mem_of_getElem? (i := 0) rfl) dX3_takeState_31 ?_
      refine lv_if_eq (tgt := 52) hx hb dX3_takeState_34 (by decide) (fun c34 => ?_) (fun c34 => ?_)
      · skip
        refine lv_aload_n hx hb dX3_takeState_52 rfl (lv_at hl 2 rfl) ?_
        refine k_newW hx hb (i, 12 + k) hts in_X7 tyX7 tyX7_ok hown (hts _ q324) (hts _ q348) (hts _ q89) hG hP hS (ci := 5) rfl (fs := [.int 0, .int 0]) (by decide) (show 0 + 1 ≤ 1 from by omega) (show 0 + 2 ≤ 2 from by omega) dX3_takeState_53 (fun q53 w2 H h9 hf9 hP hS => ?_)
        have h53 : w2 q53 = some ((i, 12 + k), .inr (5, [.int 0, .int 0])) := h9
        have hk : w2 y = some ((i, 6 + k), .inr (3, [.ref m9, .int a2, .int a3, .int a5, .int a4, .int a7, .int a8, .ref t])) := hf9 _ _ _ hk (fun z9 => z9)
        have h1 : w2 t = some ((0, 0), .inr (4, [])) := hf9 _ _ _ h1 (fun z9 => z9)
        have h2 : w2 t2 = some ((j, 12 + k2), .inr (5, [.int (u 5), .int (u 6)])) := hf9 _ _ _ h2 (fun z9 => z9)
        have hF : fr (pK i k) w0 w2 := hF.tr (hf9.up (fun _ h9 => h9.elim))
        refine lv_dup hx hb dX3_takeState_56 rfl ?_
        refine k_cIN hx hb hml hown hts (CX7_init l0 E w2 q53 (i, 12 + k) 0 0 h53) ⟨va_cnB 0 hts (lw_meth q351) rfl rfl rfl (hG.2.1.1 _ q349 rfl) (hts _ q89) dyX7_init.2 ⟨Nat.le_of_ble_eq_true rfl, Nat.le_of_ble_eq_true rfl⟩, rfl, hts _ q350⟩ hG hP hS (As := []) (rest := [.ref q53, .ref y]) rfl hl.1 rfl (lv_room (Nat.le_of_ble_eq_true rfl)) dX3_takeState_57 ⟨show (0 + 1) + 0 ≤ 1 from by omega, show (0 + 2) + 0 ≤ 2 from by omega⟩ (fun r9 w9 H locs hp hP hS => ?_)
        obtain ⟨hp1, hp0⟩ := hp
        rw [hp1] at hP
        show W p l0 e rmCX3_takeState s m args below meth c H locs (0 + 1) (0 + 2) Q (F0 m 60 ls [.ref q53, .ref y])
        refine lv_aload_n hx hb dX3_takeState_60 rfl (lv_at hl 1 rfl) ?_
        refine k_cV hx hb hml hown hts (CX7_like l0 E w2 q53 t2 (j, 12 + k2) (u 5) (u 6) (i, 12 + k) 0 0 (fun z9 => by rw [Prod.mk.injEq] at z9; omega) h53 h2) (cwV 1 hts (lw_V q344 q345 q346 q89 q347) rfl rfl rfl dyX7_like ⟨Nat.le_of_ble_eq_true rfl, Nat.le_of_ble_eq_true rfl⟩) hG hP hS h53 rfl (As := [.ref t2]) (rest := [.ref y]) rfl hl.1 rfl (lv_room (Nat.le_of_ble_eq_true rfl)) dX3_takeState_61 ⟨show (0 + 1) + 0 ≤ 1 from by omega, show (0 + 2) + 0 ≤ 2 from by omega⟩ (fun r61 w3 H locs hp hP hS => ?_)
        obtain ⟨hp0, ⟨h53', -⟩, hf9⟩ := hp
        have hk : w3 y = some ((i, 6 + k), .inr (3, [.ref m9, .int a2, .int a3, .int a5, .int a4, .int a7, .int a8, .ref t])) := hf9 _ _ _ hk (by intro z9; simp only [pO, pN, pK, pT, Prod.mk.injEq] at z9 <;> omega)
        have h1 : w3 t = some ((0, 0), .inr (4, [])) := hf9 _ _ _ h1 (by intro z9; simp only [pO, pN, pK, pT, Prod.mk.injEq] at z9 <;> omega)
        have h2 : w3 t2 = some ((j, 12 + k2), .inr (5, [.int (u 5), .int (u 6)])) := hf9 _ _ _ h2 (by intro z9; simp only [pO, pN, pK, pT, Prod.mk.injEq] at z9 <;> omega)
        have hF : fr (pK i k) w0 w3 := hF.tr (hf9.up (fun t9 h9 => by simp only [pO, pN, pK, pT] at h9 ⊢; first | exact h9 | (subst h9; simp) | (rcases h9 with h9 | h9 <;> subst h9 <;> simp)))
        have h53 : w3 q53 = some ((i, 12 + k), .inr (5, [.int (u 5), .int (u 6)])) := h53'
        rw [hp0]
        show W p l0 e rmCX3_takeState s m args below meth c H locs (0 + 1) (0 + 2) Q (F0 m 64 ls [.ref q53, .ref y])
        refine k_putW hx hb hts in_X3 tyX3 tyX3_ok nmX3 hown hG hP hS hk rfl 7 (by decide) (hts _ q160) (fun _ h9 => h9) rfl (ty := (.object "KiteRoofs$State")) (v := .ref q53) rfl rfl rfl (Nat.le_of_ble_eq_true rfl) dX3_takeState_64 (fun w4 H locs h9 hf9 hP hS => ?_)
        have hk : w4 y = some ((i, 6 + k), .inr (3, [.ref m9, .int a2, .int a3, .int a5, .int a4, .int a7, .int a8, .ref q53])) := h9
        have h1 : w4 t = some ((0, 0), .inr (4, [])) := hf9 _ _ _ h1 (by intro z9; simp only [pO, pN, pK, pT, Prod.mk.injEq] at z9 <;> omega)
        have h2 : w4 t2 = some ((j, 12 + k2), .inr (5, [.int (u 5), .int (u 6)])) := hf9 _ _ _ h2 (by intro z9; simp only [pO, pN, pK, pT, Prod.mk.injEq] at z9 <;> omega)
        have h53 : w4 q53 = some ((i, 12 + k), .inr (5, [.int (u 5), .int (u 6)])) := hf9 _ _ _ h53 (by intro z9; simp only [pO, pN, pK, pT, Prod.mk.injEq] at z9 <;> omega)
        have hF : fr (pK i k) w0 w4 := hF.tr (hf9.up (fun t9 h9 => by simp only [pO, pN, pK, pT] at h9 ⊢; first | exact h9 | (subst h9; simp) | (rcases h9 with h9 | h9 <;> subst h9 <;> simp)))
        exact k_vret hx hb hr hlocks hQ hP hS (by omega) (by omega) dX3_takeState_67 (⟨q53, trivial, ⟨hk, Or.inr (Or.inl ⟨e2, h53⟩), trivial⟩, hF⟩)
      · skip
        exact absurd c34 (by decide)
  · skip
    refine lv_aload_n hx hb dX3_takeState_0 rfl (lv_at hl 1 rfl) ?_
    refine k_instNo hx hb hown (hts _ q324) hG hP h2 rfl (List.mem_of_getElem? (i := 5) rfl) dX3_takeState_1 ?_
    refine lv_if_eq (tgt := 15) hx hb dX3_takeState_4 (by decide) (fun c4 => ?_) (fun c4 => ?_)
    · skip
      refine lv_aload_n hx hb dX3_takeState_15 rfl (lv_at hl 0 rfl) ?_
      refine lv_aload_n hx hb dX3_takeState_16 rfl (lv_at hl 1 rfl) ?_
      refine k_putW hx hb hts in_X3 tyX3 tyX3_ok nmX3 hown hG hP hS hk rfl 7 (by decide) (hts _ q160) (fun _ h9 => h9) rfl (ty := (.object "KiteRoofs$State")) (v := .ref t2) rfl rfl rfl (Nat.le_of_ble_eq_true rfl) dX3_takeState_17 (fun w5 H locs h9 hf9 hP hS => ?_)
      have hk : w5 y = some ((i, 6 + k), .inr (3, [.ref m9, .int a2, .int a3, .int a5, .int a4, .int a7, .int a8, .ref t2])) := h9
      have h1 : w5 t = some ((0, 0), .inr (4, [])) := hf9 _ _ _ h1 (by intro z9; simp only [pO, pN, pK, pT, Prod.mk.injEq] at z9 <;> omega)
      have h2 : w5 t2 = some ((0, 0), .inr (6, [.int (u 9), .int (u 10), .int (u 11)])) := hf9 _ _ _ h2 (by intro z9; simp only [pO, pN, pK, pT, Prod.mk.injEq] at z9 <;> omega)
      have hF : fr (pK i k) w0 w5 := hF.tr (hf9.up (fun t9 h9 => by simp only [pO, pN, pK, pT] at h9 ⊢; first | exact h9 | (subst h9; simp) | (rcases h9 with h9 | h9 <;> subst h9 <;> simp)))
      refine lv_goto (tgt := 67) hx hb dX3_takeState_20 (by decide) ?_
      exact k_vret hx hb hr hlocks hQ hP hS (by omega) (by omega) dX3_takeState_67 (⟨t2, trivial, ⟨hk, Or.inr (Or.inr ⟨e2, h2⟩), trivial⟩, hF⟩)
    · skip
      exact absurd c4 (by decide)
  · skip
    refine lv_aload_n hx hb dX3_takeState_0 rfl (lv_at hl 1 rfl) ?_
    refine k_instNo hx hb hown (hts _ q324) hG hP h2 rfl (List.mem_of_getElem? (i := 0) rfl) dX3_takeState_1 ?_
    refine lv_if_eq (tgt := 15) hx hb dX3_takeState_4 (by decide) (fun c4 => ?_) (fun c4 => ?_)
    · skip
      refine lv_aload_n hx hb dX3_takeState_15 rfl (lv_at hl 0 rfl) ?_
      refine lv_aload_n hx hb dX3_takeState_16 rfl (lv_at hl 1 rfl) ?_
      refine k_putW hx hb hts in_X3 tyX3 tyX3_ok nmX3 hown hG hP hS hk rfl 7 (by decide) (hts _ q160) (fun _ h9 => h9) rfl (ty := (.object "KiteRoofs$State")) (v := .ref t2) rfl rfl rfl (Nat.le_of_ble_eq_true rfl) dX3_takeState_17 (fun w6 H locs h9 hf9 hP hS => ?_)
      have hk : w6 y = some ((i, 6 + k), .inr (3, [.ref m9, .int a2, .int a3, .int a5, .int a4, .int a7, .int a8, .ref t2])) := h9
      have h1 : w6 t = some ((i, 12 + k), .inr (5, [.int (v 5), .int (v 6)])) := hf9 _ _ _ h1 (by intro z9; simp only [pO, pN, pK, pT, Prod.mk.injEq] at z9 <;> omega)
      have h2 : w6 t2 = some ((0, 0), .inr (4, [])) := hf9 _ _ _ h2 (by intro z9; simp only [pO, pN, pK, pT, Prod.mk.injEq] at z9 <;> omega)
      have hF : fr (pK i k) w0 w6 := hF.tr (hf9.up (fun t9 h9 => by simp only [pO, pN, pK, pT] at h9 ⊢; first | exact h9 | (subst h9; simp) | (rcases h9 with h9 | h9 <;> subst h9 <;> simp)))
      refine lv_goto (tgt := 67) hx hb dX3_takeState_20 (by decide) ?_
      exact k_vret hx hb hr hlocks hQ hP hS (by omega) (by omega) dX3_takeState_67 (⟨t2, trivial, ⟨hk, Or.inl ⟨e2, h2⟩, trivial⟩, hF⟩)
    · skip
      exact absurd c4 (by decide)
  · skip
    refine lv_aload_n hx hb dX3_takeState_0 rfl (lv_at hl 1 rfl) ?_
    refine k_instS hx hb hown (hts _ q324) hG hP h2 rfl dX3_takeState_1 ?_
    refine lv_if_eq (tgt := 15) hx hb dX3_takeState_4 (by decide) (fun c4 => ?_) (fun c4 => ?_)
    · skip
      exact absurd c4 (by decide)
    · skip
      refine lv_aload_n hx hb dX3_takeState_7 rfl (lv_at hl 1 rfl) ?_
      refine k_castS hx hb hown (hts _ q324) hG hP h2 rfl dX3_takeState_8 ?_
      refine lv_astore_n (lv' := [(2, .ref t2), (0, .ref y), (1, .ref t2)]) hx hb dX3_takeState_11 rfl hl (by decide) rfl (fun ls hl => ?_)
      refine lv_goto (tgt := 23) hx hb dX3_takeState_12 (by decide) ?_
      refine lv_aload_n hx hb dX3_takeState_23 rfl (lv_at hl 1 rfl) ?_
      refine k_get hx hb hts in_X3 hown hG hP hk rfl 7 (by decide) (hts _ q160) (fun _ h9 => h9) (v := .ref t) rfl dX3_takeState_24 ?_
      refine lv_astore (lv' := [(4, .ref t), (2, .ref t2), (0, .ref y), (1, .ref t2)]) hx hb dX3_takeState_27 hl (by decide) rfl (fun ls hl => ?_)
      refine lv_aload hx hb dX3_takeState_29 (lv_at hl 0 rfl) ?_
      refine k_instS hx hb hown (hts _ q324) hG hP h1 rfl dX3_takeState_31 ?_
      refine lv_if_eq (tgt := 52) hx hb dX3_takeState_34 (by decide) (fun c34 => ?_) (fun c34 => ?_)
      · skip
        exact absurd c34 (by decide)
      · skip
        refine lv_aload hx hb dX3_takeState_37 (lv_at hl 0 rfl) ?_
        refine k_castS hx hb hown (hts _ q324) hG hP h1 rfl dX3_takeState_39 ?_
        refine lv_astore_n (lv' := [(3, .ref t), (4, .ref t), (2, .ref t2), (0, .ref y), (1, .ref t2)]) hx hb dX3_takeState_42 rfl hl (by decide) rfl (fun ls hl => ?_)
        refine lv_aload_n hx hb dX3_takeState_43 rfl (lv_at hl 0 rfl) ?_
        refine lv_aload_n hx hb dX3_takeState_44 rfl (lv_at hl 2 rfl) ?_
        refine k_cV hx hb hml hown hts (CX7_like l0 E w t t2 (j, 12 + k2) (u 5) (u 6) (i, 12 + k) (v 5) (v 6) (fun z9 => by rw [Prod.mk.injEq] at z9; omega) h1 h2) (cwV 1 hts (lw_V q344 q345 q346 q89 q347) rfl rfl rfl dyX7_like ⟨Nat.le_of_ble_eq_true rfl, Nat.le_of_ble_eq_true rfl⟩) hG hP hS h1 rfl (As := [.ref t2]) (rest := []) rfl hl.1 rfl (lv_room (Nat.le_of_ble_eq_true rfl)) dX3_takeState_45 ⟨show 0 + 0 ≤ 1 from by omega, show 0 + 0 ≤ 2 from by omega⟩ (fun r45 w7 H locs hp hP hS => ?_)
        obtain ⟨hp0, ⟨h1', -⟩, hf9⟩ := hp
        have hk : w7 y = some ((i, 6 + k), .inr (3, [.ref m9, .int a2, .int a3, .int a5, .int a4, .int a7, .int a8, .ref t])) := hf9 _ _ _ hk (by intro z9; simp only [pO, pN, pK, pT, Prod.mk.injEq] at z9 <;> omega)
        have h2 : w7 t2 = some ((j, 12 + k2), .inr (5, [.int (u 5), .int (u 6)])) := hf9 _ _ _ h2 (by intro z9; simp only [pO, pN, pK, pT, Prod.mk.injEq] at z9 <;> omega)
        have hF : fr (pK i k) w0 w7 := hF.tr (hf9.up (fun t9 h9 => by simp only [pO, pN, pK, pT] at h9 ⊢; first | exact h9 | (subst h9; simp) | (rcases h9 with h9 | h9 <;> subst h9 <;> simp)))
        have h1 : w7 t = some ((i, 12 + k), .inr (5, [.int (u 5), .int (u 6)])) := h1'
        rw [hp0]
        show W p l0 e rmCX3_takeState s m args below meth c H locs 0 0 Q (F0 m 48 ls [.ref t])
        refine lv_pop hx hb dX3_takeState_48 rfl ?_
        refine lv_goto (tgt := 67) hx hb dX3_takeState_49 (by decide) ?_
        exact k_vret hx hb hr hlocks hQ hP hS (by omega) (by omega) dX3_takeState_67 (⟨t, trivial, ⟨hk, Or.inr (Or.inl ⟨e2, h1⟩), trivial⟩, hF⟩)
  · skip
    refine lv_aload_n hx hb dX3_takeState_0 rfl (lv_at hl 1 rfl) ?_
    refine k_instNo hx hb hown (hts _ q324) hG hP h2 rfl (List.mem_of_getElem? (i := 5) rfl) dX3_takeState_1 ?_
    refine lv_if_eq (tgt := 15) hx hb dX3_takeState_4 (by decide) (fun c4 => ?_) (fun c4 => ?_)
    · skip
      refine lv_aload_n hx hb dX3_takeState_15 rfl (lv_at hl 0 rfl) ?_
      refine lv_aload_n hx hb dX3_takeState_16 rfl (lv_at hl 1 rfl) ?_
      refine k_putW hx hb hts in_X3 tyX3 tyX3_ok nmX3 hown hG hP hS hk rfl 7 (by decide) (hts _ q160) (fun _ h9 => h9) rfl (ty := (.object "KiteRoofs$State")) (v := .ref t2) rfl rfl rfl (Nat.le_of_ble_eq_true rfl) dX3_takeState_17 (fun w8 H locs h9 hf9 hP hS => ?_)
      have hk : w8 y = some ((i, 6 + k), .inr (3, [.ref m9, .int a2, .int a3, .int a5, .int a4, .int a7, .int a8, .ref t2])) := h9
      have h1 : w8 t = some ((i, 12 + k), .inr (5, [.int (v 5), .int (v 6)])) := hf9 _ _ _ h1 (by intro z9; simp only [pO, pN, pK, pT, Prod.mk.injEq] at z9 <;> omega)
      have h2 : w8 t2 = some ((0, 0), .inr (6, [.int (u 9), .int (u 10), .int (u 11)])) := hf9 _ _ _ h2 (by intro z9; simp only [pO, pN, pK, pT, Prod.mk.injEq] at z9 <;> omega)
      have hF : fr (pK i k) w0 w8 := hF.tr (hf9.up (fun t9 h9 => by simp only [pO, pN, pK, pT] at h9 ⊢; first | exact h9 | (subst h9; simp) | (rcases h9 with h9 | h9 <;> subst h9 <;> simp)))
      refine lv_goto (tgt := 67) hx hb dX3_takeState_20 (by decide) ?_
      exact k_vret hx hb hr hlocks hQ hP hS (by omega) (by omega) dX3_takeState_67 (⟨t2, trivial, ⟨hk, Or.inr (Or.inr ⟨e2, h2⟩), trivial⟩, hF⟩)
    · skip
      exact absurd c4 (by decide)
  · skip
    refine lv_aload_n hx hb dX3_takeState_0 rfl (lv_at hl 1 rfl) ?_
    refine k_instNo hx hb hown (hts _ q324) hG hP h2 rfl (List.mem_of_getElem? (i := 0) rfl) dX3_takeState_1 ?_
    refine lv_if_eq (tgt := 15) hx hb dX3_takeState_4 (by decide) (fun c4 => ?_) (fun c4 => ?_)
    · skip
      refine lv_aload_n hx hb dX3_takeState_15 rfl (lv_at hl 0 rfl) ?_
      refine lv_aload_n hx hb dX3_takeState_16 rfl (lv_at hl 1 rfl) ?_
      refine k_putW hx hb hts in_X3 tyX3 tyX3_ok nmX3 hown hG hP hS hk rfl 7 (by decide) (hts _ q160) (fun _ h9 => h9) rfl (ty := (.object "KiteRoofs$State")) (v := .ref t2) rfl rfl rfl (Nat.le_of_ble_eq_true rfl) dX3_takeState_17 (fun w9 H locs h9 hf9 hP hS => ?_)
      have hk : w9 y = some ((i, 6 + k), .inr (3, [.ref m9, .int a2, .int a3, .int a5, .int a4, .int a7, .int a8, .ref t2])) := h9
      have h1 : w9 t = some ((0, 0), .inr (6, [.int (v 9), .int (v 10), .int (v 11)])) := hf9 _ _ _ h1 (by intro z9; simp only [pO, pN, pK, pT, Prod.mk.injEq] at z9 <;> omega)
      have h2 : w9 t2 = some ((0, 0), .inr (4, [])) := hf9 _ _ _ h2 (by intro z9; simp only [pO, pN, pK, pT, Prod.mk.injEq] at z9 <;> omega)
      have hF : fr (pK i k) w0 w9 := hF.tr (hf9.up (fun t9 h9 => by simp only [pO, pN, pK, pT] at h9 ⊢; first | exact h9 | (subst h9; simp) | (rcases h9 with h9 | h9 <;> subst h9 <;> simp)))
      refine lv_goto (tgt := 67) hx hb dX3_takeState_20 (by decide) ?_
      exact k_vret hx hb hr hlocks hQ hP hS (by omega) (by omega) dX3_takeState_67 (⟨t2, trivial, ⟨hk, Or.inl ⟨e2, h2⟩, trivial⟩, hF⟩)
    · skip
      exact absurd c4 (by decide)
  · skip
    refine lv_aload_n hx hb dX3_takeState_0 rfl (lv_at hl 1 rfl) ?_
    refine k_instS hx hb hown (hts _ q324) hG hP h2 rfl dX3_takeState_1 ?_
    refine lv_if_eq (tgt := 15) hx hb dX3_takeState_4 (by decide) (fun c4 => ?_) (fun c4 => ?_)
    · skip
      exact absurd c4 (by decide)
    · skip
      refine lv_aload_n hx hb dX3_takeState_7 rfl (lv_at hl 1 rfl) ?_
      refine k_castS hx hb hown (hts _ q324) hG hP h2 rfl dX3_takeState_8 ?_
      refine lv_astore_n (lv' := [(2, .ref t2), (0, .ref y), (1, .ref t2)]) hx hb dX3_takeState_11 rfl hl (by decide) rfl (fun ls hl => ?_)
      refine lv_goto (tgt := 23) hx hb dX3_takeState_12 (by decide) ?_
      refine lv_aload_n hx hb dX3_takeState_23 rfl (lv_at hl 1 rfl) ?_
      refine k_get hx hb hts in_X3 hown hG hP hk rfl 7 (by decide) (hts _ q160) (fun _ h9 => h9) (v := .ref t) rfl dX3_takeState_24 ?_
      refine lv_astore (lv' := [(4, .ref t), (2, .ref t2), (0, .ref y), (1, .ref t2)]) hx hb dX3_takeState_27 hl (by decide) rfl (fun ls hl => ?_)
      refine lv_aload hx hb dX3_takeState_29 (lv_at hl 0 rfl) ?_
      refine k_instNo hx hb hown (hts _ q324) hG hP h1 rfl (List.mem_of_getElem? (i := 5) rfl) dX3_takeState_31 ?_
      refine lv_if_eq (tgt := 52) hx hb dX3_takeState_34 (by decide) (fun c34 => ?_) (fun c34 => ?_)
      · skip
        refine lv_aload_n hx hb dX3_takeState_52 rfl (lv_at hl 2 rfl) ?_
        refine k_newW hx hb (i, 12 + k) hts in_X7 tyX7 tyX7_ok hown (hts _ q324) (hts _ q348) (hts _ q89) hG hP hS (ci := 5) rfl (fs := [.int 0, .int 0]) (by decide) (show 0 + 1 ≤ 1 from by omega) (show 0 + 2 ≤ 2 from by omega) dX3_takeState_53 (fun q53 w10 H h9 hf9 hP hS => ?_)
        have h53 : w10 q53 = some ((i, 12 + k), .inr (5, [.int 0, .int 0])) := h9
        have hk : w10 y = some ((i, 6 + k), .inr (3, [.ref m9, .int a2, .int a3, .int a5, .int a4, .int a7, .int a8, .ref t])) := hf9 _ _ _ hk (fun z9 => z9)
        have h1 : w10 t = some ((0, 0), .inr (6, [.int (v 9), .int (v 10), .int (v 11)])) := hf9 _ _ _ h1 (fun z9 => z9)
        have h2 : w10 t2 = some ((j, 12 + k2), .inr (5, [.int (u 5), .int (u 6)])) := hf9 _ _ _ h2 (fun z9 => z9)
        have hF : fr (pK i k) w0 w10 := hF.tr (hf9.up (fun _ h9 => h9.elim))
        refine lv_dup hx hb dX3_takeState_56 rfl ?_
        refine k_cIN hx hb hml hown hts (CX7_init l0 E w10 q53 (i, 12 + k) 0 0 h53) ⟨va_cnB 0 hts (lw_meth q351) rfl rfl rfl (hG.2.1.1 _ q349 rfl) (hts _ q89) dyX7_init.2 ⟨Nat.le_of_ble_eq_true rfl, Nat.le_of_ble_eq_true rfl⟩, rfl, hts _ q350⟩ hG hP hS (As := []) (rest := [.ref q53, .ref y]) rfl hl.1 rfl (lv_room (Nat.le_of_ble_eq_true rfl)) dX3_takeState_57 ⟨show (0 + 1) + 0 ≤ 1 from by omega, show (0 + 2) + 0 ≤ 2 from by omega⟩ (fun r9 w9 H locs hp hP hS => ?_)
        obtain ⟨hp1, hp0⟩ := hp
        rw [hp1] at hP
        show W p l0 e rmCX3_takeState s m args below meth c H locs (0 + 1) (0 + 2) Q (F0 m 60 ls [.ref q53, .ref y])
        refine lv_aload_n hx hb dX3_takeState_60 rfl (lv_at hl 1 rfl) ?_
        refine k_cV hx hb hml hown hts (CX7_like l0 E w10 q53 t2 (j, 12 + k2) (u 5) (u 6) (i, 12 + k) 0 0 (fun z9 => by rw [Prod.mk.injEq] at z9; omega) h53 h2) (cwV 1 hts (lw_V q344 q345 q346 q89 q347) rfl rfl rfl dyX7_like ⟨Nat.le_of_ble_eq_true rfl, Nat.le_of_ble_eq_true rfl⟩) hG hP hS h53 rfl (As := [.ref t2]) (rest := [.ref y]) rfl hl.1 rfl (lv_room (Nat.le_of_ble_eq_true rfl)) dX3_takeState_61 ⟨show (0 + 1) + 0 ≤ 1 from by omega, show (0 + 2) + 0 ≤ 2 from by omega⟩ (fun r61 w11 H locs hp hP hS => ?_)
        obtain ⟨hp0, ⟨h53', -⟩, hf9⟩ := hp
        have hk : w11 y = some ((i, 6 + k), .inr (3, [.ref m9, .int a2, .int a3, .int a5, .int a4, .int a7, .int a8, .ref t])) := hf9 _ _ _ hk (by intro z9; simp only [pO, pN, pK, pT, Prod.mk.injEq] at z9 <;> omega)
        have h1 : w11 t = some ((0, 0), .inr (6, [.int (v 9), .int (v 10), .int (v 11)])) := hf9 _ _ _ h1 (by intro z9; simp only [pO, pN, pK, pT, Prod.mk.injEq] at z9 <;> omega)
        have h2 : w11 t2 = some ((j, 12 + k2), .inr (5, [.int (u 5), .int (u 6)])) := hf9 _ _ _ h2 (by intro z9; simp only [pO, pN, pK, pT, Prod.mk.injEq] at z9 <;> omega)
        have hF : fr (pK i k) w0 w11 := hF.tr (hf9.up (fun t9 h9 => by simp only [pO, pN, pK, pT] at h9 ⊢; first | exact h9 | (subst h9; simp) | (rcases h9 with h9 | h9 <;> subst h9 <;> simp)))
        have h53 : w11 q53 = some ((i, 12 + k), .inr (5, [.int (u 5), .int (u 6)])) := h53'
        rw [hp0]
        show W p l0 e rmCX3_takeState s m args below meth c H locs (0 + 1) (0 + 2) Q (F0 m 64 ls [.ref q53, .ref y])
        refine k_putW hx hb hts in_X3 tyX3 tyX3_ok nmX3 hown hG hP hS hk rfl 7 (by decide) (hts _ q160) (fun _ h9 => h9) rfl (ty := (.object "KiteRoofs$State")) (v := .ref q53) rfl rfl rfl (Nat.le_of_ble_eq_true rfl) dX3_takeState_64 (fun w12 H locs h9 hf9 hP hS => ?_)
        have hk : w12 y = some ((i, 6 + k), .inr (3, [.ref m9, .int a2, .int a3, .int a5, .int a4, .int a7, .int a8, .ref q53])) := h9
        have h1 : w12 t = some ((0, 0), .inr (6, [.int (v 9), .int (v 10), .int (v 11)])) := hf9 _ _ _ h1 (by intro z9; simp only [pO, pN, pK, pT, Prod.mk.injEq] at z9 <;> omega)
        have h2 : w12 t2 = some ((j, 12 + k2), .inr (5, [.int (u 5), .int (u 6)])) := hf9 _ _ _ h2 (by intro z9; simp only [pO, pN, pK, pT, Prod.mk.injEq] at z9 <;> omega)
        have h53 : w12 q53 = some ((i, 12 + k), .inr (5, [.int (u 5), .int (u 6)])) := hf9 _ _ _ h53 (by intro z9; simp only [pO, pN, pK, pT, Prod.mk.injEq] at z9 <;> omega)
        have hF : fr (pK i k) w0 w12 := hF.tr (hf9.up (fun t9 h9 => by simp only [pO, pN, pK, pT] at h9 ⊢; first | exact h9 | (subst h9; simp) | (rcases h9 with h9 | h9 <;> subst h9 <;> simp)))
        exact k_vret hx hb hr hlocks hQ hP hS (by omega) (by omega) dX3_takeState_67 (⟨q53, trivial, ⟨hk, Or.inr (Or.inl ⟨e2, h53⟩), trivial⟩, hF⟩)
      · skip
        exact absurd c34 (by decide)
  · skip
    refine lv_aload_n hx hb dX3_takeState_0 rfl (lv_at hl 1 rfl) ?_
    refine k_instNo hx hb hown (hts _ q324) hG hP h2 rfl (List.mem_of_getElem? (i := 5) rfl) dX3_takeState_1 ?_
    refine lv_if_eq (tgt := 15) hx hb dX3_takeState_4 (by decide) (fun c4 => ?_) (fun c4 => ?_)
    · skip
      refine lv_aload_n hx hb dX3_takeState_15 rfl (lv_at hl 0 rfl) ?_
      refine lv_aload_n hx hb dX3_takeState_16 rfl (lv_at hl 1 rfl) ?_
      refine k_putW hx hb hts in_X3 tyX3 tyX3_ok nmX3 hown hG hP hS hk rfl 7 (by decide) (hts _ q160) (fun _ h9 => h9) rfl (ty := (.object "KiteRoofs$State")) (v := .ref t2) rfl rfl rfl (Nat.le_of_ble_eq_true rfl) dX3_takeState_17 (fun w13 H locs h9 hf9 hP hS => ?_)
      have hk : w13 y = some ((i, 6 + k), .inr (3, [.ref m9, .int a2, .int a3, .int a5, .int a4, .int a7, .int a8, .ref t2])) := h9
      have h1 : w13 t = some ((0, 0), .inr (6, [.int (v 9), .int (v 10), .int (v 11)])) := hf9 _ _ _ h1 (by intro z9; simp only [pO, pN, pK, pT, Prod.mk.injEq] at z9 <;> omega)
      have h2 : w13 t2 = some ((0, 0), .inr (6, [.int (u 9), .int (u 10), .int (u 11)])) := hf9 _ _ _ h2 (by intro z9; simp only [pO, pN, pK, pT, Prod.mk.injEq] at z9 <;> omega)
      have hF : fr (pK i k) w0 w13 := hF.tr (hf9.up (fun t9 h9 => by simp only [pO, pN, pK, pT] at h9 ⊢; first | exact h9 | (subst h9; simp) | (rcases h9 with h9 | h9 <;> subst h9 <;> simp)))
      refine lv_goto (tgt := 67) hx hb dX3_takeState_20 (by decide) ?_
      exact k_vret hx hb hr hlocks hQ hP hS (by omega) (by omega) dX3_takeState_67 (⟨t2, trivial, ⟨hk, Or.inr (Or.inr ⟨e2, h2⟩), trivial⟩, hF⟩)
    · skip
      exact absurd c4 (by decide)

abbrev rmCX3_take : Room := { frames := 3, cells := 1, slots := 2, locals := 76 }
theorem dyX3_take : yX3_take.cls = RX3 ∧ yX3_take.cls ≠ "java/lang/invoke/MethodHandle" ∧ yX3_take.cls ≠ "java/lang/invoke/VarHandle" ∧ (parseMethodDescriptor yX3_take.desc).map (fun d => d.parameters.length) = some 1 := by decide +kernel
set_option maxHeartbeats 4000000 in
theorem CX3_take (l0 : Launch) (E : gE) (w : wd) (i : Nat) (k : Nat) (y : Nat) (v : Nat → Int32) (t : Nat) (j : Nat) (k2 : Nat) (z : Nat) (u : Nat → Int32) (t2 : Nat) (hij : i ≠ j) (hi0 : i ≠ 0) (hk : w y = some ((i, 6 + k), .inr (3, [.ref (eM E (v 1).toNatClampNeg), .int (v 2), .int (v 3), .int (v 12), .int (v 4), .int (v 7), .int (v 8), .ref t]))) (hst : stR w i k v t) (hk2 : w z = some ((j, 6 + k2), .inr (3, [.ref (eM E (u 1).toNatClampNeg), .int (u 2), .int (u 3), .int (u 12), .int (u 4), .int (u 7), .int (u 8), .ref t2]))) (hst2 : stR w j k2 u t2) : kC l0 yX3_take (ws_ yX3_take cX3_take 2 none) rmCX3_take 1 2 mV E w [.ref y, .ref z] (fun r w' => ∃ t9 : Nat, (True) ∧ (w' y = some ((i, 6 + k), .inr (3, [.ref (eM E (u 1).toNatClampNeg), .int (u 2), .int (u 3), .int (u 12), .int (u 4), .int (u 7), .int (u 8), .ref t9])) ∧ stR w' i k u t9 ∧ True) ∧ fr (pK i k) w w') := by
  refine k_open (cc := cX3_take) (maxL := 2) (ret := none) (by decide) rfl (Nat.le_of_ble_eq_true rfl) ?_
  intro p e s m args below meth c ls Q hx hb hr hml hown hts hlocks hname hQ hG hP hl hS
  have hl : lv_has ls 2 [(0, .ref y), (1, .ref z)] := hl
  obtain ⟨w0, hw0⟩ : ∃ z, z = w := ⟨_, rfl⟩
  have hF : fr (pK i k) w0 w := by rw [hw0]; exact fr.rf
  rw [← hw0] at hQ
  refine lv_aload_n hx hb dX3_take_0 rfl (lv_at hl 0 rfl) ?_
  refine lv_aload_n hx hb dX3_take_1 rfl (lv_at hl 1 rfl) ?_
  refine k_get hx hb hts in_X3 hown hG hP hk2 rfl 0 (by decide) (hts _ q140) (fun _ h9 => h9) (v := .ref (eM E (u 1).toNatClampNeg)) rfl dX3_take_2 ?_
  refine k_putW hx hb hts in_X3 tyX3 tyX3_ok nmX3 hown hG hP hS hk rfl 0 (by decide) (hts _ q140) (fun _ h9 => h9) rfl (ty := (.object "KiteRoofs$Make")) (v := .ref (eM E (u 1).toNatClampNeg)) rfl rfl rfl (Nat.le_of_ble_eq_true rfl) dX3_take_5 (fun w1 H locs h9 hf9 hP hS => ?_)
  have hk : w1 y = some ((i, 6 + k), .inr (3, [.ref (eM E (u 1).toNatClampNeg), .int (v 2), .int (v 3), .int (v 12), .int (v 4), .int (v 7), .int (v 8), .ref t])) := h9
  have hst : stR w1 i k v t := hst.fr hf9 (by intro z9; simp only [pO, pN, pK, pT, Prod.mk.injEq] at z9 <;> omega) (by intro z9; simp only [pO, pN, pK, pT, Prod.mk.injEq] at z9 <;> omega)
  have hk2 : w1 z = some ((j, 6 + k2), .inr (3, [.ref (eM E (u 1).toNatClampNeg), .int (u 2), .int (u 3), .int (u 12), .int (u 4), .int (u 7), .int (u 8), .ref t2])) := hf9 _ _ _ hk2 (by intro z9; simp only [pO, pN, pK, pT, Prod.mk.injEq] at z9 <;> omega)
  have hst2 : stR w1 j k2 u t2 := hst2.fr hf9 (by intro z9; simp only [pO, pN, pK, pT, Prod.mk.injEq] at z9 <;> omega) (by intro z9; simp only [pO, pN, pK, pT, Prod.mk.injEq] at z9 <;> omega)
  have hF : fr (pK i k) w0 w1 := hF.tr (hf9.up (fun t9 h9 => by simp only [pO, pN, pK, pT] at h9 ⊢; first | exact h9 | (subst h9; simp) | (rcases h9 with h9 | h9 <;> subst h9 <;> simp)))
  refine lv_aload_n hx hb dX3_take_8 rfl (lv_at hl 0 rfl) ?_
  refine lv_aload_n hx hb dX3_take_9 rfl (lv_at hl 1 rfl) ?_
  refine k_get hx hb hts in_X3 hown hG hP hk2 rfl 1 (by decide) (hts _ q143) (fun _ h9 => h9) (v := .int (u 2)) rfl dX3_take_10 ?_
  refine k_putW hx hb hts in_X3 tyX3 tyX3_ok nmX3 hown hG hP hS hk rfl 1 (by decide) (hts _ q143) (fun _ h9 => h9) rfl (ty := .int) (v := .int (u 2)) rfl rfl rfl (Nat.le_of_ble_eq_true rfl) dX3_take_13 (fun w2 H locs h9 hf9 hP hS => ?_)
  have hk : w2 y = some ((i, 6 + k), .inr (3, [.ref (eM E (u 1).toNatClampNeg), .int (u 2), .int (v 3), .int (v 12), .int (v 4), .int (v 7), .int (v 8), .ref t])) := h9
  have hst : stR w2 i k v t := hst.fr hf9 (by intro z9; simp only [pO, pN, pK, pT, Prod.mk.injEq] at z9 <;> omega) (by intro z9; simp only [pO, pN, pK, pT, Prod.mk.injEq] at z9 <;> omega)
  have hk2 : w2 z = some ((j, 6 + k2), .inr (3, [.ref (eM E (u 1).toNatClampNeg), .int (u 2), .int (u 3), .int (u 12), .int (u 4), .int (u 7), .int (u 8), .ref t2])) := hf9 _ _ _ hk2 (by intro z9; simp only [pO, pN, pK, pT, Prod.mk.injEq] at z9 <;> omega)
  have hst2 : stR w2 j k2 u t2 := hst2.fr hf9 (by intro z9; simp only [pO, pN, pK, pT, Prod.mk.injEq] at z9 <;> omega) (by intro z9; simp only [pO, pN, pK, pT, Prod.mk.injEq] at z9 <;> omega)
  have hF : fr (pK i k) w0 w2 := hF.tr (hf9.up (fun t9 h9 => by simp only [pO, pN, pK, pT] at h9 ⊢; first | exact h9 | (subst h9; simp) | (rcases h9 with h9 | h9 <;> subst h9 <;> simp)))
  refine lv_aload_n hx hb dX3_take_16 rfl (lv_at hl 0 rfl) ?_
  refine lv_aload_n hx hb dX3_take_17 rfl (lv_at hl 1 rfl) ?_
  refine k_get hx hb hts in_X3 hown hG hP hk2 rfl 2 (by decide) (hts _ q146) (fun _ h9 => h9) (v := .int (u 3)) rfl dX3_take_18 ?_
  refine k_putW hx hb hts in_X3 tyX3 tyX3_ok nmX3 hown hG hP hS hk rfl 2 (by decide) (hts _ q146) (fun _ h9 => h9) rfl (ty := .int) (v := .int (u 3)) rfl rfl rfl (Nat.le_of_ble_eq_true rfl) dX3_take_21 (fun w3 H locs h9 hf9 hP hS => ?_)
  have hk : w3 y = some ((i, 6 + k), .inr (3, [.ref (eM E (u 1).toNatClampNeg), .int (u 2), .int (u 3), .int (v 12), .int (v 4), .int (v 7), .int (v 8), .ref t])) := h9
  have hst : stR w3 i k v t := hst.fr hf9 (by intro z9; simp only [pO, pN, pK, pT, Prod.mk.injEq] at z9 <;> omega) (by intro z9; simp only [pO, pN, pK, pT, Prod.mk.injEq] at z9 <;> omega)
  have hk2 : w3 z = some ((j, 6 + k2), .inr (3, [.ref (eM E (u 1).toNatClampNeg), .int (u 2), .int (u 3), .int (u 12), .int (u 4), .int (u 7), .int (u 8), .ref t2])) := hf9 _ _ _ hk2 (by intro z9; simp only [pO, pN, pK, pT, Prod.mk.injEq] at z9 <;> omega)
  have hst2 : stR w3 j k2 u t2 := hst2.fr hf9 (by intro z9; simp only [pO, pN, pK, pT, Prod.mk.injEq] at z9 <;> omega) (by intro z9; simp only [pO, pN, pK, pT, Prod.mk.injEq] at z9 <;> omega)
  have hF : fr (pK i k) w0 w3 := hF.tr (hf9.up (fun t9 h9 => by simp only [pO, pN, pK, pT] at h9 ⊢; first | exact h9 | (subst h9; simp) | (rcases h9 with h9 | h9 <;> subst h9 <;> simp)))
  refine lv_aload_n hx hb dX3_take_24 rfl (lv_at hl 0 rfl) ?_
  refine lv_aload_n hx hb dX3_take_25 rfl (lv_at hl 1 rfl) ?_
  refine k_get hx hb hts in_X3 hown hG hP hk2 rfl 3 (by decide) (hts _ q149) (fun _ h9 => h9) (v := .int (u 12)) rfl dX3_take_26 ?_
  refine k_putW hx hb hts in_X3 tyX3 tyX3_ok nmX3 hown hG hP hS hk rfl 3 (by decide) (hts _ q149) (fun _ h9 => h9) rfl (ty := .int) (v := .int (u 12)) rfl rfl rfl (Nat.le_of_ble_eq_true rfl) dX3_take_29 (fun w4 H locs h9 hf9 hP hS => ?_)
  have hk : w4 y = some ((i, 6 + k), .inr (3, [.ref (eM E (u 1).toNatClampNeg), .int (u 2), .int (u 3), .int (u 12), .int (v 4), .int (v 7), .int (v 8), .ref t])) := h9
  have hst : stR w4 i k v t := hst.fr hf9 (by intro z9; simp only [pO, pN, pK, pT, Prod.mk.injEq] at z9 <;> omega) (by intro z9; simp only [pO, pN, pK, pT, Prod.mk.injEq] at z9 <;> omega)
  have hk2 : w4 z = some ((j, 6 + k2), .inr (3, [.ref (eM E (u 1).toNatClampNeg), .int (u 2), .int (u 3), .int (u 12), .int (u 4), .int (u 7), .int (u 8), .ref t2])) := hf9 _ _ _ hk2 (by intro z9; simp only [pO, pN, pK, pT, Prod.mk.injEq] at z9 <;> omega)
  have hst2 : stR w4 j k2 u t2 := hst2.fr hf9 (by intro z9; simp only [pO, pN, pK, pT, Prod.mk.injEq] at z9 <;> omega) (by intro z9; simp only [pO, pN, pK, pT, Prod.mk.injEq] at z9 <;> omega)
  have hF : fr (pK i k) w0 w4 := hF.tr (hf9.up (fun t9 h9 => by simp only [pO, pN, pK, pT] at h9 ⊢; first | exact h9 | (subst h9; simp) | (rcases h9 with h9 | h9 <;> subst h9 <;> simp)))
  refine lv_aload_n hx hb dX3_take_32 rfl (lv_at hl 0 rfl) ?_
  refine lv_aload_n hx hb dX3_take_33 rfl (lv_at hl 1 rfl) ?_
  refine k_get hx hb hts in_X3 hown hG hP hk2 rfl 4 (by decide) (hts _ q151) (fun _ h9 => h9) (v := .int (u 4)) rfl dX3_take_34 ?_
  refine k_putW hx hb hts in_X3 tyX3 tyX3_ok nmX3 hown hG hP hS hk rfl 4 (by decide) (hts _ q151) (fun _ h9 => h9) rfl (ty := .int) (v := .int (u 4)) rfl rfl rfl (Nat.le_of_ble_eq_true rfl) dX3_take_37 (fun w5 H locs h9 hf9 hP hS => ?_)
  have hk : w5 y = some ((i, 6 + k), .inr (3, [.ref (eM E (u 1).toNatClampNeg), .int (u 2), .int (u 3), .int (u 12), .int (u 4), .int (v 7), .int (v 8), .ref t])) := h9
  have hst : stR w5 i k v t := hst.fr hf9 (by intro z9; simp only [pO, pN, pK, pT, Prod.mk.injEq] at z9 <;> omega) (by intro z9; simp only [pO, pN, pK, pT, Prod.mk.injEq] at z9 <;> omega)
  have hk2 : w5 z = some ((j, 6 + k2), .inr (3, [.ref (eM E (u 1).toNatClampNeg), .int (u 2), .int (u 3), .int (u 12), .int (u 4), .int (u 7), .int (u 8), .ref t2])) := hf9 _ _ _ hk2 (by intro z9; simp only [pO, pN, pK, pT, Prod.mk.injEq] at z9 <;> omega)
  have hst2 : stR w5 j k2 u t2 := hst2.fr hf9 (by intro z9; simp only [pO, pN, pK, pT, Prod.mk.injEq] at z9 <;> omega) (by intro z9; simp only [pO, pN, pK, pT, Prod.mk.injEq] at z9 <;> omega)
  have hF : fr (pK i k) w0 w5 := hF.tr (hf9.up (fun t9 h9 => by simp only [pO, pN, pK, pT] at h9 ⊢; first | exact h9 | (subst h9; simp) | (rcases h9 with h9 | h9 <;> subst h9 <;> simp)))
  refine lv_aload_n hx hb dX3_take_40 rfl (lv_at hl 0 rfl) ?_
  refine lv_aload_n hx hb dX3_take_41 rfl (lv_at hl 1 rfl) ?_
  refine k_get hx hb hts in_X3 hown hG hP hk2 rfl 5 (by decide) (hts _ q154) (fun _ h9 => h9) (v := .int (u 7)) rfl dX3_take_42 ?_
  refine k_putW hx hb hts in_X3 tyX3 tyX3_ok nmX3 hown hG hP hS hk rfl 5 (by decide) (hts _ q154) (fun _ h9 => h9) rfl (ty := .int) (v := .int (u 7)) rfl rfl rfl (Nat.le_of_ble_eq_true rfl) dX3_take_45 (fun w6 H locs h9 hf9 hP hS => ?_)
  have hk : w6 y = some ((i, 6 + k), .inr (3, [.ref (eM E (u 1).toNatClampNeg), .int (u 2), .int (u 3), .int (u 12), .int (u 4), .int (u 7), .int (v 8), .ref t])) := h9
  have hst : stR w6 i k v t := hst.fr hf9 (by intro z9; simp only [pO, pN, pK, pT, Prod.mk.injEq] at z9 <;> omega) (by intro z9; simp only [pO, pN, pK, pT, Prod.mk.injEq] at z9 <;> omega)
  have hk2 : w6 z = some ((j, 6 + k2), .inr (3, [.ref (eM E (u 1).toNatClampNeg), .int (u 2), .int (u 3), .int (u 12), .int (u 4), .int (u 7), .int (u 8), .ref t2])) := hf9 _ _ _ hk2 (by intro z9; simp only [pO, pN, pK, pT, Prod.mk.injEq] at z9 <;> omega)
  have hst2 : stR w6 j k2 u t2 := hst2.fr hf9 (by intro z9; simp only [pO, pN, pK, pT, Prod.mk.injEq] at z9 <;> omega) (by intro z9; simp only [pO, pN, pK, pT, Prod.mk.injEq] at z9 <;> omega)
  have hF : fr (pK i k) w0 w6 := hF.tr (hf9.up (fun t9 h9 => by simp only [pO, pN, pK, pT] at h9 ⊢; first | exact h9 | (subst h9; simp) | (rcases h9 with h9 | h9 <;> subst h9 <;> simp)))
  refine lv_aload_n hx hb dX3_take_48 rfl (lv_at hl 0 rfl) ?_
  refine lv_aload_n hx hb dX3_take_49 rfl (lv_at hl 1 rfl) ?_
  refine k_get hx hb hts in_X3 hown hG hP hk2 rfl 6 (by decide) (hts _ q157) (fun _ h9 => h9) (v := .int (u 8)) rfl dX3_take_50 ?_
  refine k_putW hx hb hts in_X3 tyX3 tyX3_ok nmX3 hown hG hP hS hk rfl 6 (by decide) (hts _ q157) (fun _ h9 => h9) rfl (ty := .int) (v := .int (u 8)) rfl rfl rfl (Nat.le_of_ble_eq_true rfl) dX3_take_53 (fun w7 H locs h9 hf9 hP hS => ?_)
  have hk : w7 y = some ((i, 6 + k), .inr (3, [.ref (eM E (u 1).toNatClampNeg), .int (u 2), .int (u 3), .int (u 12), .int (u 4), .int (u 7), .int (u 8), .ref t])) := h9
  have hst : stR w7 i k v t := hst.fr hf9 (by intro z9; simp only [pO, pN, pK, pT, Prod.mk.injEq] at z9 <;> omega) (by intro z9; simp only [pO, pN, pK, pT, Prod.mk.injEq] at z9 <;> omega)
  have hk2 : w7 z = some ((j, 6 + k2), .inr (3, [.ref (eM E (u 1).toNatClampNeg), .int (u 2), .int (u 3), .int (u 12), .int (u 4), .int (u 7), .int (u 8), .ref t2])) := hf9 _ _ _ hk2 (by intro z9; simp only [pO, pN, pK, pT, Prod.mk.injEq] at z9 <;> omega)
  have hst2 : stR w7 j k2 u t2 := hst2.fr hf9 (by intro z9; simp only [pO, pN, pK, pT, Prod.mk.injEq] at z9 <;> omega) (by intro z9; simp only [pO, pN, pK, pT, Prod.mk.injEq] at z9 <;> omega)
  have hF : fr (pK i k) w0 w7 := hF.tr (hf9.up (fun t9 h9 => by simp only [pO, pN, pK, pT] at h9 ⊢; first | exact h9 | (subst h9; simp) | (rcases h9 with h9 | h9 <;> subst h9 <;> simp)))
  refine lv_aload_n hx hb dX3_take_56 rfl (lv_at hl 0 rfl) ?_
  refine lv_aload_n hx hb dX3_take_57 rfl (lv_at hl 1 rfl) ?_
  refine k_get hx hb hts in_X3 hown hG hP hk2 rfl 7 (by decide) (hts _ q160) (fun _ h9 => h9) (v := .ref t2) rfl dX3_take_58 ?_
  refine k_cV hx hb hml hown hts (CX3_takeState l0 E w7 i k y v t j k2 u t2 (eM E (u 1).toNatClampNeg) (u 2) (u 3) (u 12) (u 4) (u 7) (u 8) hij hi0 hk hst hst2) (cwV 1 hts (lw_V q340 q342 qs0 q71 q343) rfl rfl rfl dyX3_takeState ⟨Nat.le_of_ble_eq_true rfl, Nat.le_of_ble_eq_true rfl⟩) hG hP hS hk rfl (As := [.ref t2]) (rest := []) rfl hl.1 rfl (lv_room (Nat.le_of_ble_eq_true rfl)) dX3_take_61 ⟨show 0 + 1 ≤ 1 from by omega, show 0 + 2 ≤ 2 from by omega⟩ (fun r61 w8 H locs hp hP hS => ?_)
  obtain ⟨t9_1, hp0, ⟨hk', hst', -⟩, hf9⟩ := hp
  have hk2 : w8 z = some ((j, 6 + k2), .inr (3, [.ref (eM E (u 1).toNatClampNeg), .int (u 2), .int (u 3), .int (u 12), .int (u 4), .int (u 7), .int (u 8), .ref t2])) := hf9 _ _ _ hk2 (by intro z9; simp only [pO, pN, pK, pT, Prod.mk.injEq] at z9 <;> omega)
  have hst2 : stR w8 j k2 u t2 := hst2.fr hf9 (by intro z9; simp only [pO, pN, pK, pT, Prod.mk.injEq] at z9 <;> omega) (by intro z9; simp only [pO, pN, pK, pT, Prod.mk.injEq] at z9 <;> omega)
  have hF : fr (pK i k) w0 w8 := hF.tr (hf9.up (fun _ h9 => h9))
  have hk : w8 y = some ((i, 6 + k), .inr (3, [.ref (eM E (u 1).toNatClampNeg), .int (u 2), .int (u 3), .int (u 12), .int (u 4), .int (u 7), .int (u 8), .ref t9_1])) := hk'
  have hst : stR w8 i k u t9_1 := hst'
  show W p l0 e rmCX3_take s m args below meth c H locs (0 + 1) (0 + 2) Q (F0 m 64 ls [])
  exact k_vret hx hb hr hlocks hQ hP hS (by omega) (by omega) dX3_take_64 (⟨_, trivial, ⟨hk, hst, trivial⟩, hF⟩)
