/-! THE JDK, 3: the deque -/
set_option maxRecDepth 100000
abbrev rmCJ1_init : Room := { frames := 1, cells := 0, slots := 0, locals := 32 }
theorem dyJ1_init : yJ1_init.cls = RJ1 ∧ yJ1_init.cls ≠ "java/lang/invoke/MethodHandle" ∧ yJ1_init.cls ≠ "java/lang/invoke/VarHandle" ∧ (parseMethodDescriptor yJ1_init.desc).map (fun d => d.parameters.length) = some 0 := by decide +kernel
set_option maxHeartbeats 4000000 in
theorem CJ1_init (l0 : Launch) (E : gE) (w : wd) (y : Nat) : kC l0 yJ1_init (ws_ yJ1_init cJ1_init 1 none) rmCJ1_init 0 0 mV E w [.ref y] (fun _ w' => w' = w ∧ True) := by
  refine k_open (cc := cJ1_init) (maxL := 1) (ret := none) (by decide) rfl (Nat.le_of_ble_eq_true rfl) ?_
  intro p e s m args below meth c ls Q hx hb hr hml hown hts hlocks hname hQ hG hP hl hS
  have hl : lv_has ls 1 [(0, .ref y)] := hl
  refine lv_aload_n hx hb dJ1_init_0 rfl (lv_at hl 0 rfl) ?_
  refine W.objInit hx hb hown (hts _ q231) (hts _ q115) (hts _ q116) rfl (by rw [hml]; exact hl.1) rfl dJ1_init_1 (Nat.le_of_ble_eq_true rfl) (Nat.le_of_ble_eq_true rfl) ?_
  refine W.eq (g2 := F0 m 4 ls []) rfl ?_
  exact k_vret hx hb hr hlocks hQ hP hS (by omega) (by omega) dJ1_init_4 (⟨rfl, trivial⟩)

abbrev rmCJ2_size : Room := { frames := 1, cells := 0, slots := 0, locals := 22 }
theorem dyJ2_size : yJ2_size.cls = RJ2 ∧ yJ2_size.cls ≠ "java/lang/invoke/MethodHandle" ∧ yJ2_size.cls ≠ "java/lang/invoke/VarHandle" ∧ (parseMethodDescriptor yJ2_size.desc).map (fun d => d.parameters.length) = some 0 := by decide +kernel
set_option maxHeartbeats 4000000 in
theorem CJ2_size (l0 : Launch) (E : gE) (w : wd) (d : Nat) (q : Nat) (hd : Nat) (tl : Nat) (f : Nat → Option Nat) (hh : hd < 17) (ht : tl < 17) (hD : w d = some ((95, 0), .inr (14, [.ref q, .int (nI hd), .int (nI tl)]))) (hA : w q = some ((95, 1), .inl (eT E 6, 17, .inr (.inr (.inr (.inr f)))))) : kC l0 yJ2_size (ws_ yJ2_size cJ2_size 1 (some .int)) rmCJ2_size 0 0 mI E w [.ref d] (fun r w' => w' = w ∧ r = (nI ((tl + 17 - hd) % 17))) := by
  refine k_open (cc := cJ2_size) (maxL := 1) (ret := (some .int)) (by decide) rfl (Nat.le_of_ble_eq_true rfl) ?_
  intro p e s m args below meth c ls Q hx hb hr hml hown hts hlocks hname hQ hG hP hl hS
  have hl : lv_has ls 1 [(0, .ref d)] := hl
  refine lv_aload_n hx hb dJ2_size_0 rfl (lv_at hl 0 rfl) ?_
  refine k_get hx hb hts in_J2 hown hG hP hD rfl 2 (by decide) (hts _ q236) (fun _ h9 => h9) (v := .int (nI tl)) rfl dJ2_size_1 ?_
  refine lv_aload_n hx hb dJ2_size_4 rfl (lv_at hl 0 rfl) ?_
  refine k_get hx hb hts in_J2 hown hG hP hD rfl 1 (by decide) (hts _ q235) (fun _ h9 => h9) (v := .int (nI hd)) rfl dJ2_size_5 ?_
  refine lv_aload_n hx hb dJ2_size_8 rfl (lv_at hl 0 rfl) ?_
  refine k_get hx hb hts in_J2 hown hG hP hD rfl 0 (by decide) (hts _ q234) (fun _ h9 => h9) (v := .ref q) rfl dJ2_size_9 ?_
  refine k_alenq hx hb hG hP 6 hA rfl dJ2_size_12 ?_
  refine k_cS hx hb hml hown hts (CJ2_sub l0 E w tl 17 hd (by omega) (by omega) (by omega)) (va_cwS 3 hts (lw_S q509 q510 q76 q511) rfl rfl rfl dyJ2_sub ⟨Nat.le_of_ble_eq_true rfl, Nat.le_of_ble_eq_true rfl⟩) hG hP hS (As := [.int (nI tl), .int (nI hd), .int 17]) (rest := []) rfl hl.1 rfl (lv_room (Nat.le_of_ble_eq_true rfl)) dJ2_size_13 ⟨show 0 + 0 ≤ 0 from by omega, show 0 + 0 ≤ 0 from by omega⟩ (fun r9 w9 H locs hp hP hS => ?_)
  obtain ⟨hp1, hp0⟩ := hp
  rw [hp1] at hP
  rw [hp0]
  show W p l0 e rmCJ2_size s m args below meth c H locs 0 0 Q (F0 m 16 ls [.int (nI ((tl + 17 - hd) % 17))])
  exact k_iret hx hb hr hlocks hQ hP hS (by omega) (by omega) dJ2_size_16 (⟨rfl, rfl⟩)

abbrev rmCJ2_isEmpty : Room := { frames := 0, cells := 0, slots := 0, locals := 0 }
theorem dyJ2_isEmpty : yJ2_isEmpty.cls = RJ2 ∧ yJ2_isEmpty.cls ≠ "java/lang/invoke/MethodHandle" ∧ yJ2_isEmpty.cls ≠ "java/lang/invoke/VarHandle" ∧ (parseMethodDescriptor yJ2_isEmpty.desc).map (fun d => d.parameters.length) = some 0 := by decide +kernel
set_option maxHeartbeats 4000000 in
theorem CJ2_isEmpty (l0 : Launch) (E : gE) (w : wd) (d : Nat) (q : Nat) (hd : Nat) (tl : Nat) (hh : hd < 17) (ht : tl < 17) (hD : w d = some ((95, 0), .inr (14, [.ref q, .int (nI hd), .int (nI tl)]))) : kC l0 yJ2_isEmpty (ws_ yJ2_isEmpty cJ2_isEmpty 1 (some .boolean)) rmCJ2_isEmpty 0 0 mI E w [.ref d] (fun r w' => w' = w ∧ r = (bI (decide (hd = tl)))) := by
  refine k_open (cc := cJ2_isEmpty) (maxL := 1) (ret := (some .boolean)) (by decide) rfl (Nat.le_of_ble_eq_true rfl) ?_
  intro p e s m args below meth c ls Q hx hb hr hml hown hts hlocks hname hQ hG hP hl hS
  have hl : lv_has ls 1 [(0, .ref d)] := hl
  refine lv_aload_n hx hb dJ2_isEmpty_0 rfl (lv_at hl 0 rfl) ?_
  refine k_get hx hb hts in_J2 hown hG hP hD rfl 1 (by decide) (hts _ q235) (fun _ h9 => h9) (v := .int (nI hd)) rfl dJ2_isEmpty_1 ?_
  refine lv_aload_n hx hb dJ2_isEmpty_4 rfl (lv_at hl 0 rfl) ?_
  refine k_get hx hb hts in_J2 hown hG hP hD rfl 2 (by decide) (hts _ q236) (fun _ h9 => h9) (v := .int (nI tl)) rfl dJ2_isEmpty_5 ?_
  refine k_icmp_neN (x := hd) (y := tl) (tgt := 15) hx hb (by omega) (by omega) dJ2_isEmpty_8 (by decide) (fun c8 => ?_) (fun c8 => ?_)
  · skip
    refine lv_iconst (v := 0) hx hb dJ2_isEmpty_15 (by decide) ?_
    exact k_zret hx hb hr hlocks hQ hP hS (by omega) (by omega) dJ2_isEmpty_16 rfl (⟨rfl, by simp [c8, bI]⟩)
  · skip
    refine lv_iconst (v := 1) hx hb dJ2_isEmpty_11 (by decide) ?_
    refine lv_goto (tgt := 16) hx hb dJ2_isEmpty_12 (by decide) ?_
    exact k_zret hx hb hr hlocks hQ hP hS (by omega) (by omega) dJ2_isEmpty_16 rfl (⟨rfl, by simp [c8, bI]⟩)

abbrev rmCJ2_elementAt : Room := { frames := 0, cells := 0, slots := 0, locals := 0 }
theorem dyJ2_elementAt : yJ2_elementAt.cls ≠ "java/lang/invoke/MethodHandle" ∧ yJ2_elementAt.cls ≠ "java/lang/invoke/VarHandle" ∧ (parseMethodDescriptor yJ2_elementAt.desc).map (fun d => d.parameters.length) = some 2 := by decide +kernel
set_option maxHeartbeats 4000000 in
theorem CJ2_elementAt (l0 : Launch) (E : gE) (w : wd) (q : Nat) (j : Nat) (x : Nat) (f : Nat → Option Nat) (hj : j < 17) (hfx : f j = some x) (hA : w q = some ((95, 1), .inl (eT E 6, 17, .inr (.inr (.inr (.inr f)))))) : kC l0 yJ2_elementAt (ws_ yJ2_elementAt cJ2_elementAt 2 (some (.object "java/lang/Object"))) rmCJ2_elementAt 0 0 mR E w [.ref q, .int (nI j)] (fun r w' => w' = w ∧ r = x) := by
  refine k_open (cc := cJ2_elementAt) (maxL := 2) (ret := (some (.object "java/lang/Object"))) (by decide) rfl (Nat.le_of_ble_eq_true rfl) ?_
  intro p e s m args below meth c ls Q hx hb hr hml hown hts hlocks hname hQ hG hP hl hS
  have hl : lv_has ls 2 [(0, .ref q), (1, .int (nI j))] := hl
  refine lv_aload_n hx hb dJ2_elementAt_0 rfl (lv_at hl 0 rfl) ?_
  refine lv_iload_n hx hb dJ2_elementAt_1 rfl (lv_at hl 1 rfl) ?_
  refine k_aald hx hb hG hP (j := j) 6 hA rfl (by omega) (show j < 17 from by omega) dJ2_elementAt_2 ?_
  rw [hfx]
  exact k_aret hx hb hr (Or.inl ⟨_, rfl⟩) hlocks hQ hP hS (by omega) (by omega) dJ2_elementAt_3 (⟨rfl, rfl⟩)

abbrev rmCJ2_pollFirst : Room := { frames := 1, cells := 0, slots := 0, locals := 21 }
theorem dyJ2_pollFirst : yJ2_pollFirst.cls = RJ2 ∧ yJ2_pollFirst.cls ≠ "java/lang/invoke/MethodHandle" ∧ yJ2_pollFirst.cls ≠ "java/lang/invoke/VarHandle" ∧ (parseMethodDescriptor yJ2_pollFirst.desc).map (fun d => d.parameters.length) = some 0 := by decide +kernel
set_option maxHeartbeats 4000000 in
theorem CJ2_pollFirst (l0 : Launch) (E : gE) (w : wd) (d : Nat) (q : Nat) (hd : Nat) (tl : Nat) (f : Nat → Option Nat) (x : Nat) (hh : hd < 17) (ht : tl < 17) (hfx : f hd = some x) (hD : w d = some ((95, 0), .inr (14, [.ref q, .int (nI hd), .int (nI tl)]))) (hA : w q = some ((95, 1), .inl (eT E 6, 17, .inr (.inr (.inr (.inr f)))))) : kC l0 yJ2_pollFirst (ws_ yJ2_pollFirst cJ2_pollFirst 4 (some (.object "java/lang/Object"))) rmCJ2_pollFirst 0 0 mR E w [.ref d] (fun r w' => (r = x) ∧ (w' d = some ((95, 0), .inr (14, [.ref q, .int (nI (if hd + 1 < 17 then hd + 1 else 0)), .int (nI tl)])) ∧ w' q = some ((95, 1), .inl (eT E 6, 17, .inr (.inr (.inr (.inr (va_up f hd none)))))) ∧ True) ∧ fr pD w w') := by
  refine k_open (cc := cJ2_pollFirst) (maxL := 4) (ret := (some (.object "java/lang/Object"))) (by decide) rfl (Nat.le_of_ble_eq_true rfl) ?_
  intro p e s m args below meth c ls Q hx hb hr hml hown hts hlocks hname hQ hG hP hl hS
  have hl : lv_has ls 4 [(0, .ref d)] := hl
  obtain ⟨w0, hw0⟩ : ∃ z, z = w := ⟨_, rfl⟩
  have hF : fr pD w0 w := by rw [hw0]; exact fr.rf
  rw [← hw0] at hQ
  refine lv_aload_n hx hb dJ2_pollFirst_0 rfl (lv_at hl 0 rfl) ?_
  refine k_get hx hb hts in_J2 hown hG hP hD rfl 0 (by decide) (hts _ q234) (fun _ h9 => h9) (v := .ref q) rfl dJ2_pollFirst_1 ?_
  refine lv_dup hx hb dJ2_pollFirst_4 rfl ?_
  refine lv_astore_n (lv' := [(1, .ref q), (0, .ref d)]) hx hb dJ2_pollFirst_5 rfl hl (by decide) rfl (fun ls hl => ?_)
  refine lv_aload_n hx hb dJ2_pollFirst_6 rfl (lv_at hl 1 rfl) ?_
  refine k_get hx hb hts in_J2 hown hG hP hD rfl 1 (by decide) (hts _ q235) (fun _ h9 => h9) (v := .int (nI hd)) rfl dJ2_pollFirst_7 ?_
  refine lv_dup hx hb dJ2_pollFirst_10 rfl ?_
  refine lv_istore_n (lv' := [(2, .int (nI hd)), (1, .ref q), (0, .ref d)]) hx hb dJ2_pollFirst_11 rfl hl (by decide) rfl (fun ls hl => ?_)
  refine k_cS hx hb hml hown hts (CJ2_elementAt l0 E w q hd x f (by omega) hfx hA) (va_cwS 2 hts (lw_S q516 q517 q76 q518) rfl rfl rfl dyJ2_elementAt ⟨Nat.le_of_ble_eq_true rfl, Nat.le_of_ble_eq_true rfl⟩) hG hP hS (As := [.ref q, .int (nI hd)]) (rest := []) rfl hl.1 rfl (lv_room (Nat.le_of_ble_eq_true rfl)) dJ2_pollFirst_12 ⟨show 0 + 0 ≤ 0 from by omega, show 0 + 0 ≤ 0 from by omega⟩ (fun r9 w9 H locs hp hP hS => ?_)
  obtain ⟨hp1, hp0⟩ := hp
  rw [hp1] at hP
  rw [hp0]
  show W p l0 e rmCJ2_pollFirst s m args below meth c H locs 0 0 Q (F0 m 15 ls [.ref x])
  refine lv_astore_n (lv' := [(3, .ref x), (2, .int (nI hd)), (1, .ref q), (0, .ref d)]) hx hb dJ2_pollFirst_15 rfl hl (by decide) rfl (fun ls hl => ?_)
  refine lv_aload_n hx hb dJ2_pollFirst_16 rfl (lv_at hl 0 rfl) ?_
  refine k_ifnullR hx hb dJ2_pollFirst_17 ?_
  refine lv_aload_n hx hb dJ2_pollFirst_20 rfl (lv_at hl 2 rfl) ?_
  refine lv_iload_n hx hb dJ2_pollFirst_21 rfl (lv_at hl 1 rfl) ?_
  refine lv_null hx hb dJ2_pollFirst_22 ?_
  refine k_aastNW hx hb hG hP hS 6 (j := hd) hA rfl (by omega) (show hd < 17 from by omega) dJ2_pollFirst_23 (fun w1 H locs h9 hf9 hP hS => ?_)
  have hA : w1 q = some ((95, 1), .inl (eT E 6, 17, .inr (.inr (.inr (.inr (va_up f hd none)))))) := h9
  have hD : w1 d = some ((95, 0), .inr (14, [.ref q, .int (nI hd), .int (nI tl)])) := hf9 _ _ _ hD (by intro z9; first | (simp only [pO, pN, pK, pT, pD, Prod.mk.injEq] at z9; done) | (simp only [pO, pN, pK, pT, pD, Prod.mk.injEq] at z9; omega) | exact hty (by rw [show _ = _ from z9]; rfl))
  have hF : fr pD w0 w1 := hF.tr (hf9.up (fun t9 h9 => by simp only [pO, pD] at h9 ⊢; first | exact h9 | (subst h9; rfl)))
  refine lv_aload_n hx hb dJ2_pollFirst_24 rfl (lv_at hl 3 rfl) ?_
  refine lv_iload_n hx hb dJ2_pollFirst_25 rfl (lv_at hl 1 rfl) ?_
  refine lv_aload_n hx hb dJ2_pollFirst_26 rfl (lv_at hl 2 rfl) ?_
  refine k_alenq hx hb hG hP 6 hA rfl dJ2_pollFirst_27 ?_
  refine k_cS hx hb hml hown hts (CJ2_inc l0 E w1 hd 17 (by omega) (by omega)) (va_cwS 2 hts (lw_S q519 q520 q76 q521) rfl rfl rfl dyJ2_inc ⟨Nat.le_of_ble_eq_true rfl, Nat.le_of_ble_eq_true rfl⟩) hG hP hS (As := [.int (nI hd), .int 17]) (rest := [.ref d]) rfl hl.1 rfl (lv_room (Nat.le_of_ble_eq_true rfl)) dJ2_pollFirst_28 ⟨show 0 + 0 ≤ 0 from by omega, show 0 + 0 ≤ 0 from by omega⟩ (fun r9 w9 H locs hp hP hS => ?_)
  obtain ⟨hp1, hp0⟩ := hp
  rw [hp1] at hP
  rw [hp0]
  show W p l0 e rmCJ2_pollFirst s m args below meth c H locs 0 0 Q (F0 m 31 ls [.int (nI (if hd + 1 < 17 then hd + 1 else 0)), .ref d])
  refine k_putW hx hb hts in_J2 tyJ2 tyJ2_ok nmJ2 hown hG hP hS hD rfl 1 (by decide) (hts _ q235) (fun _ h9 => h9) rfl (ty := .int) (v := .int (nI (if hd + 1 < 17 then hd + 1 else 0))) rfl rfl rfl (Nat.le_of_ble_eq_true rfl) dJ2_pollFirst_31 (fun w2 H locs h9 hf9 hP hS => ?_)
  have hD : w2 d = some ((95, 0), .inr (14, [.ref q, .int (nI (if hd + 1 < 17 then hd + 1 else 0)), .int (nI tl)])) := h9
  have hA : w2 q = some ((95, 1), .inl (eT E 6, 17, .inr (.inr (.inr (.inr (va_up f hd none)))))) := hf9 _ _ _ hA (by intro z9; first | (simp only [pO, pN, pK, pT, pD, Prod.mk.injEq] at z9; done) | (simp only [pO, pN, pK, pT, pD, Prod.mk.injEq] at z9; omega) | exact hty (by rw [show _ = _ from z9]; rfl))
  have hF : fr pD w0 w2 := hF.tr (hf9.up (fun t9 h9 => by simp only [pO, pD] at h9 ⊢; first | exact h9 | (subst h9; rfl)))
  refine lv_aload_n hx hb dJ2_pollFirst_34 rfl (lv_at hl 0 rfl) ?_
  exact k_aret hx hb hr (Or.inl ⟨_, rfl⟩) hlocks hQ hP hS (by omega) (by omega) dJ2_pollFirst_35 (⟨rfl, ⟨hD, hA, trivial⟩, hF⟩)

abbrev rmCJ2_pollLast : Room := { frames := 1, cells := 0, slots := 0, locals := 21 }
theorem dyJ2_pollLast : yJ2_pollLast.cls = RJ2 ∧ yJ2_pollLast.cls ≠ "java/lang/invoke/MethodHandle" ∧ yJ2_pollLast.cls ≠ "java/lang/invoke/VarHandle" ∧ (parseMethodDescriptor yJ2_pollLast.desc).map (fun d => d.parameters.length) = some 0 := by decide +kernel
set_option maxHeartbeats 4000000 in
theorem CJ2_pollLast (l0 : Launch) (E : gE) (w : wd) (d : Nat) (q : Nat) (hd : Nat) (tl : Nat) (f : Nat → Option Nat) (x : Nat) (hh : hd < 17) (ht : tl < 17) (hfx : f (if 0 < tl then tl - 1 else 16) = some x) (hD : w d = some ((95, 0), .inr (14, [.ref q, .int (nI hd), .int (nI tl)]))) (hA : w q = some ((95, 1), .inl (eT E 6, 17, .inr (.inr (.inr (.inr f)))))) : kC l0 yJ2_pollLast (ws_ yJ2_pollLast cJ2_pollLast 4 (some (.object "java/lang/Object"))) rmCJ2_pollLast 0 0 mR E w [.ref d] (fun r w' => (r = x) ∧ (w' d = some ((95, 0), .inr (14, [.ref q, .int (nI hd), .int (nI (if 0 < tl then tl - 1 else 16))])) ∧ w' q = some ((95, 1), .inl (eT E 6, 17, .inr (.inr (.inr (.inr (va_up f (if 0 < tl then tl - 1 else 16) none)))))) ∧ True) ∧ fr pD w w') := by
  refine k_open (cc := cJ2_pollLast) (maxL := 4) (ret := (some (.object "java/lang/Object"))) (by decide) rfl (Nat.le_of_ble_eq_true rfl) ?_
  intro p e s m args below meth c ls Q hx hb hr hml hown hts hlocks hname hQ hG hP hl hS
  have hl : lv_has ls 4 [(0, .ref d)] := hl
  obtain ⟨w0, hw0⟩ : ∃ z, z = w := ⟨_, rfl⟩
  have hF : fr pD w0 w := by rw [hw0]; exact fr.rf
  rw [← hw0] at hQ
  have hdl : (if 0 < tl then tl - 1 else 16) < 17 := by split <;> omega
  refine lv_aload_n hx hb dJ2_pollLast_0 rfl (lv_at hl 0 rfl) ?_
  refine k_get hx hb hts in_J2 hown hG hP hD rfl 0 (by decide) (hts _ q234) (fun _ h9 => h9) (v := .ref q) rfl dJ2_pollLast_1 ?_
  refine lv_dup hx hb dJ2_pollLast_4 rfl ?_
  refine lv_astore_n (lv' := [(1, .ref q), (0, .ref d)]) hx hb dJ2_pollLast_5 rfl hl (by decide) rfl (fun ls hl => ?_)
  refine lv_aload_n hx hb dJ2_pollLast_6 rfl (lv_at hl 1 rfl) ?_
  refine k_get hx hb hts in_J2 hown hG hP hD rfl 2 (by decide) (hts _ q236) (fun _ h9 => h9) (v := .int (nI tl)) rfl dJ2_pollLast_7 ?_
  refine lv_aload_n hx hb dJ2_pollLast_10 rfl (lv_at hl 0 rfl) ?_
  refine k_alenq hx hb hG hP 6 hA rfl dJ2_pollLast_11 ?_
  refine k_cS hx hb hml hown hts (CJ2_dec l0 E w tl 17 (by omega) (by omega)) (va_cwS 2 hts (lw_S q1597 q1598 q76 q1599) rfl rfl rfl dyJ2_dec ⟨Nat.le_of_ble_eq_true rfl, Nat.le_of_ble_eq_true rfl⟩) hG hP hS (As := [.int (nI tl), .int 17]) (rest := [.ref q]) rfl hl.1 rfl (lv_room (Nat.le_of_ble_eq_true rfl)) dJ2_pollLast_12 ⟨show 0 + 0 ≤ 0 from by omega, show 0 + 0 ≤ 0 from by omega⟩ (fun r9 w9 H locs hp hP hS => ?_)
  obtain ⟨hp1, hp0⟩ := hp
  rw [hp1] at hP
  rw [hp0]
  show W p l0 e rmCJ2_pollLast s m args below meth c H locs 0 0 Q (F0 m 15 ls [.int (nI (if 0 < tl then tl - 1 else 17 - 1)), .ref q])
  refine lv_dup hx hb dJ2_pollLast_15 rfl ?_
  refine lv_istore_n (lv' := [(2, .int (nI (if 0 < tl then tl - 1 else 17 - 1))), (1, .ref q), (0, .ref d)]) hx hb dJ2_pollLast_16 rfl hl (by decide) rfl (fun ls hl => ?_)
  refine k_cS hx hb hml hown hts (CJ2_elementAt l0 E w q (if 0 < tl then tl - 1 else 17 - 1) x f (by omega) hfx hA) (va_cwS 2 hts (lw_S q516 q517 q76 q518) rfl rfl rfl dyJ2_elementAt ⟨Nat.le_of_ble_eq_true rfl, Nat.le_of_ble_eq_true rfl⟩) hG hP hS (As := [.ref q, .int (nI (if 0 < tl then tl - 1 else 17 - 1))]) (rest := []) rfl hl.1 rfl (lv_room (Nat.le_of_ble_eq_true rfl)) dJ2_pollLast_17 ⟨show 0 + 0 ≤ 0 from by omega, show 0 + 0 ≤ 0 from by omega⟩ (fun r9 w9 H locs hp hP hS => ?_)
  obtain ⟨hp1, hp0⟩ := hp
  rw [hp1] at hP
  rw [hp0]
  show W p l0 e rmCJ2_pollLast s m args below meth c H locs 0 0 Q (F0 m 20 ls [.ref x])
  refine lv_astore_n (lv' := [(3, .ref x), (2, .int (nI (if 0 < tl then tl - 1 else 17 - 1))), (1, .ref q), (0, .ref d)]) hx hb dJ2_pollLast_20 rfl hl (by decide) rfl (fun ls hl => ?_)
  refine lv_aload_n hx hb dJ2_pollLast_21 rfl (lv_at hl 0 rfl) ?_
  refine k_ifnullR hx hb dJ2_pollLast_22 ?_
  refine lv_aload_n hx hb dJ2_pollLast_25 rfl (lv_at hl 2 rfl) ?_
  refine lv_aload_n hx hb dJ2_pollLast_26 rfl (lv_at hl 3 rfl) ?_
  refine lv_iload_n hx hb dJ2_pollLast_27 rfl (lv_at hl 1 rfl) ?_
  refine lv_dup_x1 hx hb dJ2_pollLast_28 rfl rfl ?_
  refine k_putW hx hb hts in_J2 tyJ2 tyJ2_ok nmJ2 hown hG hP hS hD rfl 2 (by decide) (hts _ q236) (fun _ h9 => h9) rfl (ty := .int) (v := .int (nI (if 0 < tl then tl - 1 else 17 - 1))) rfl rfl rfl (Nat.le_of_ble_eq_true rfl) dJ2_pollLast_29 (fun w1 H locs h9 hf9 hP hS => ?_)
  have hD : w1 d = some ((95, 0), .inr (14, [.ref q, .int (nI hd), .int (nI (if 0 < tl then tl - 1 else 17 - 1))])) := h9
  have hA : w1 q = some ((95, 1), .inl (eT E 6, 17, .inr (.inr (.inr (.inr f))))) := hf9 _ _ _ hA (by intro z9; first | (simp only [pO, pN, pK, pT, pD, Prod.mk.injEq] at z9; done) | (simp only [pO, pN, pK, pT, pD, Prod.mk.injEq] at z9; omega) | exact hty (by rw [show _ = _ from z9]; rfl))
  have hF : fr pD w0 w1 := hF.tr (hf9.up (fun t9 h9 => by simp only [pO, pD] at h9 ⊢; first | exact h9 | (subst h9; rfl)))
  refine lv_null hx hb dJ2_pollLast_32 ?_
  refine k_aastNW hx hb hG hP hS 6 (j := (if 0 < tl then tl - 1 else 17 - 1)) hA rfl (by omega) (show (if 0 < tl then tl - 1 else 17 - 1) < 17 from by omega) dJ2_pollLast_33 (fun w2 H locs h9 hf9 hP hS => ?_)
  have hA : w2 q = some ((95, 1), .inl (eT E 6, 17, .inr (.inr (.inr (.inr (va_up f (if 0 < tl then tl - 1 else 17 - 1) none)))))) := h9
  have hD : w2 d = some ((95, 0), .inr (14, [.ref q, .int (nI hd), .int (nI (if 0 < tl then tl - 1 else 17 - 1))])) := hf9 _ _ _ hD (by intro z9; first | (simp only [pO, pN, pK, pT, pD, Prod.mk.injEq] at z9; done) | (simp only [pO, pN, pK, pT, pD, Prod.mk.injEq] at z9; omega) | exact hty (by rw [show _ = _ from z9]; rfl))
  have hF : fr pD w0 w2 := hF.tr (hf9.up (fun t9 h9 => by simp only [pO, pD] at h9 ⊢; first | exact h9 | (subst h9; rfl)))
  refine lv_aload_n hx hb dJ2_pollLast_34 rfl (lv_at hl 0 rfl) ?_
  exact k_aret hx hb hr (Or.inl ⟨_, rfl⟩) hlocks hQ hP hS (by omega) (by omega) dJ2_pollLast_35 (⟨rfl, ⟨hD, hA, trivial⟩, hF⟩)

abbrev rmCJ2_addLast : Room := { frames := 1, cells := 0, slots := 0, locals := 21 }
theorem dyJ2_addLast : yJ2_addLast.cls = RJ2 ∧ yJ2_addLast.cls ≠ "java/lang/invoke/MethodHandle" ∧ yJ2_addLast.cls ≠ "java/lang/invoke/VarHandle" ∧ (parseMethodDescriptor yJ2_addLast.desc).map (fun d => d.parameters.length) = some 1 := by decide +kernel
set_option maxHeartbeats 4000000 in
theorem CJ2_addLast (l0 : Launch) (E : gE) (w : wd) (d : Nat) (q : Nat) (hd : Nat) (tl : Nat) (f : Nat → Option Nat) (y : Nat) (ty9 : Nat × Nat) (vs : List Value) (hh : hd < 17) (ht : tl < 17) (hne : (if tl + 1 < 17 then tl + 1 else 0) ≠ hd) (hty : ¬ pD ty9) (hD : w d = some ((95, 0), .inr (14, [.ref q, .int (nI hd), .int (nI tl)]))) (hA : w q = some ((95, 1), .inl (eT E 6, 17, .inr (.inr (.inr (.inr f)))))) (hy : w y = some (ty9, .inr (2, vs))) : kC l0 yJ2_addLast (ws_ yJ2_addLast cJ2_addLast 3 none) rmCJ2_addLast 0 0 mV E w [.ref d, .ref y] (fun r w' => (True) ∧ (w' d = some ((95, 0), .inr (14, [.ref q, .int (nI hd), .int (nI (if tl + 1 < 17 then tl + 1 else 0))])) ∧ w' q = some ((95, 1), .inl (eT E 6, 17, .inr (.inr (.inr (.inr (va_up f tl (some y))))))) ∧ True) ∧ fr pD w w') := by
  refine k_open (cc := cJ2_addLast) (maxL := 3) (ret := none) (by decide) rfl (Nat.le_of_ble_eq_true rfl) ?_
  intro p e s m args below meth c ls Q hx hb hr hml hown hts hlocks hname hQ hG hP hl hS
  have hl : lv_has ls 3 [(0, .ref d), (1, .ref y)] := hl
  obtain ⟨w0, hw0⟩ : ∃ z, z = w := ⟨_, rfl⟩
  have hF : fr pD w0 w := by rw [hw0]; exact fr.rf
  rw [← hw0] at hQ
  have hin : (if tl + 1 < 17 then tl + 1 else 0) < 17 := by split <;> omega
  refine lv_aload_n hx hb dJ2_addLast_0 rfl (lv_at hl 1 rfl) ?_
  refine k_ifnonnullR (tgt := 12) hx hb dJ2_addLast_1 (by decide) ?_
  refine lv_aload_n hx hb dJ2_addLast_12 rfl (lv_at hl 0 rfl) ?_
  refine k_get hx hb hts in_J2 hown hG hP hD rfl 0 (by decide) (hts _ q234) (fun _ h9 => h9) (v := .ref q) rfl dJ2_addLast_13 ?_
  refine lv_astore_n (lv' := [(2, .ref q), (0, .ref d), (1, .ref y)]) hx hb dJ2_addLast_16 rfl hl (by decide) rfl (fun ls hl => ?_)
  refine lv_aload_n hx hb dJ2_addLast_17 rfl (lv_at hl 0 rfl) ?_
  refine lv_aload_n hx hb dJ2_addLast_18 rfl (lv_at hl 1 rfl) ?_
  refine k_get hx hb hts in_J2 hown hG hP hD rfl 2 (by decide) (hts _ q236) (fun _ h9 => h9) (v := .int (nI tl)) rfl dJ2_addLast_19 ?_
  refine lv_aload_n hx hb dJ2_addLast_22 rfl (lv_at hl 2 rfl) ?_
  refine k_aastW hx hb hG hP hS 6 (j := tl) hA rfl (by omega) (show tl < 17 from by omega) hy rfl (k_asg (hG.2.1.1 _ q1976 rfl)) dJ2_addLast_23 (fun w1 H locs h9 hf9 hP hS => ?_)
  have hA : w1 q = some ((95, 1), .inl (eT E 6, 17, .inr (.inr (.inr (.inr (va_up f tl (some y))))))) := h9
  have hD : w1 d = some ((95, 0), .inr (14, [.ref q, .int (nI hd), .int (nI tl)])) := hf9 _ _ _ hD (by intro z9; first | (simp only [pO, pN, pK, pT, pD, Prod.mk.injEq] at z9; done) | (simp only [pO, pN, pK, pT, pD, Prod.mk.injEq] at z9; omega) | exact hty (by rw [show _ = _ from z9]; rfl))
  have hy : w1 y = some (ty9, .inr (2, vs)) := hf9 _ _ _ hy (by intro z9; first | (simp only [pO, pN, pK, pT, pD, Prod.mk.injEq] at z9; done) | (simp only [pO, pN, pK, pT, pD, Prod.mk.injEq] at z9; omega) | exact hty (by rw [show _ = _ from z9]; rfl))
  have hF : fr pD w0 w1 := hF.tr (hf9.up (fun t9 h9 => by simp only [pO, pD] at h9 ⊢; first | exact h9 | (subst h9; rfl)))
  refine lv_aload_n hx hb dJ2_addLast_24 rfl (lv_at hl 1 rfl) ?_
  refine k_get hx hb hts in_J2 hown hG hP hD rfl 1 (by decide) (hts _ q235) (fun _ h9 => h9) (v := .int (nI hd)) rfl dJ2_addLast_25 ?_
  refine lv_aload_n hx hb dJ2_addLast_28 rfl (lv_at hl 1 rfl) ?_
  refine lv_aload_n hx hb dJ2_addLast_29 rfl (lv_at hl 1 rfl) ?_
  refine k_get hx hb hts in_J2 hown hG hP hD rfl 2 (by decide) (hts _ q236) (fun _ h9 => h9) (v := .int (nI tl)) rfl dJ2_addLast_30 ?_
  refine lv_aload_n hx hb dJ2_addLast_33 rfl (lv_at hl 0 rfl) ?_
  refine k_alenq hx hb hG hP 6 hA rfl dJ2_addLast_34 ?_
  refine k_cS hx hb hml hown hts (CJ2_inc l0 E w1 tl 17 (by omega) (by omega)) (va_cwS 2 hts (lw_S q519 q520 q76 q521) rfl rfl rfl dyJ2_inc ⟨Nat.le_of_ble_eq_true rfl, Nat.le_of_ble_eq_true rfl⟩) hG hP hS (As := [.int (nI tl), .int 17]) (rest := [.ref d, .int (nI hd)]) rfl hl.1 rfl (lv_room (Nat.le_of_ble_eq_true rfl)) dJ2_addLast_35 ⟨show 0 + 0 ≤ 0 from by omega, show 0 + 0 ≤ 0 from by omega⟩ (fun r9 w9 H locs hp hP hS => ?_)
  obtain ⟨hp1, hp0⟩ := hp
  rw [hp1] at hP
  rw [hp0]
  show W p l0 e rmCJ2_addLast s m args below meth c H locs 0 0 Q (F0 m 38 ls [.int (nI (if tl + 1 < 17 then tl + 1 else 0)), .ref d, .int (nI hd)])
  refine lv_dup_x1 hx hb dJ2_addLast_38 rfl rfl ?_
  refine k_putW hx hb hts in_J2 tyJ2 tyJ2_ok nmJ2 hown hG hP hS hD rfl 2 (by decide) (hts _ q236) (fun _ h9 => h9) rfl (ty := .int) (v := .int (nI (if tl + 1 < 17 then tl + 1 else 0))) rfl rfl rfl (Nat.le_of_ble_eq_true rfl) dJ2_addLast_39 (fun w2 H locs h9 hf9 hP hS => ?_)
  have hD : w2 d = some ((95, 0), .inr (14, [.ref q, .int (nI hd), .int (nI (if tl + 1 < 17 then tl + 1 else 0))])) := h9
  have hA : w2 q = some ((95, 1), .inl (eT E 6, 17, .inr (.inr (.inr (.inr (va_up f tl (some y))))))) := hf9 _ _ _ hA (by intro z9; first | (simp only [pO, pN, pK, pT, pD, Prod.mk.injEq] at z9; done) | (simp only [pO, pN, pK, pT, pD, Prod.mk.injEq] at z9; omega) | exact hty (by rw [show _ = _ from z9]; rfl))
  have hy : w2 y = some (ty9, .inr (2, vs)) := hf9 _ _ _ hy (by intro z9; first | (simp only [pO, pN, pK, pT, pD, Prod.mk.injEq] at z9; done) | (simp only [pO, pN, pK, pT, pD, Prod.mk.injEq] at z9; omega) | exact hty (by rw [show _ = _ from z9]; rfl))
  have hF : fr pD w0 w2 := hF.tr (hf9.up (fun t9 h9 => by simp only [pO, pD] at h9 ⊢; first | exact h9 | (subst h9; rfl)))
  refine k_icmp_neN (x := hd) (y := (if tl + 1 < 17 then tl + 1 else 0)) (tgt := 50) hx hb (by omega) (by omega) dJ2_addLast_42 (by decide) (fun c42 => ?_) (fun c42 => ?_)
  · skip
    exact k_vret hx hb hr hlocks hQ hP hS (by omega) (by omega) dJ2_addLast_50 (⟨trivial, ⟨hD, hA, trivial⟩, hF⟩)
  · skip
    exact absurd c42 hne.symm

abbrev rmCJ2_circularClear : Room := { frames := 0, cells := 0, slots := 0, locals := 0 }
theorem dyJ2_circularClear : yJ2_circularClear.cls ≠ "java/lang/invoke/MethodHandle" ∧ yJ2_circularClear.cls ≠ "java/lang/invoke/VarHandle" ∧ (parseMethodDescriptor yJ2_circularClear.desc).map (fun d => d.parameters.length) = some 3 := by decide +kernel
set_option maxHeartbeats 4000000 in
theorem CJ2_circularClear (l0 : Launch) (E : gE) (w : wd) (q : Nat) (hd : Nat) (tl : Nat) (f : Nat → Option Nat) (hh : hd < 17) (ht : tl < 17) (hA : w q = some ((95, 1), .inl (eT E 6, 17, .inr (.inr (.inr (.inr f)))))) : kC l0 yJ2_circularClear (ws_ yJ2_circularClear cJ2_circularClear 4 none) rmCJ2_circularClear 0 0 mV E w [.ref q, .int (nI hd), .int (nI tl)] (fun r w' => ∃ f9 : Nat → Option Nat, (True) ∧ (w' q = some ((95, 1), .inl (eT E 6, 17, .inr (.inr (.inr (.inr f9))))) ∧ True) ∧ fr (pO (95, 1)) w w') := by
  refine k_open (cc := cJ2_circularClear) (maxL := 4) (ret := none) (by decide) rfl (Nat.le_of_ble_eq_true rfl) ?_
  intro p e s m args below meth c ls Q hx hb hr hml hown hts hlocks hname hQ hG hP hl hS
  have hl : lv_has ls 4 [(0, .ref q), (1, .int (nI hd)), (2, .int (nI tl))] := hl
  obtain ⟨w0, hw0⟩ : ∃ z, z = w := ⟨_, rfl⟩
  have hF : fr (pO (95, 1)) w0 w := by rw [hw0]; exact fr.rf
  rw [← hw0] at hQ
  refine lv_iload_n hx hb dJ2_circularClear_0 rfl (lv_at hl 1 rfl) ?_
  refine lv_iload_n hx hb dJ2_circularClear_1 rfl (lv_at hl 2 rfl) ?_
  refine k_icmp_gtN (x := hd) (y := tl) (tgt := 9) hx hb (by omega) (by omega) dJ2_circularClear_2 (by decide) (fun c2 => ?_) (fun c2 => ?_)
  · skip
    refine lv_aload_n hx hb dJ2_circularClear_9 rfl (lv_at hl 0 rfl) ?_
    refine k_alenq hx hb hG hP 6 hA rfl dJ2_circularClear_10 ?_
    refine lv_istore_n (lv' := [(3, .int 17), (0, .ref q), (1, .int (nI hd)), (2, .int (nI tl))]) hx hb dJ2_circularClear_11 rfl hl (by decide) rfl (fun ls hl => ?_)
    have hloop_12 : ∀ (n9_12 : Nat) (i9 : Nat) (to9 : Nat) (f : Nat → Option Nat), (i9 ≤ 17) → (to9 ≤ 17) → ((if to9 = tl then 0 else 18) + (17 - i9)) < n9_12 → ∀ (w : wd) (H : Heap) (locs : List Loc) (ls : Array Slot), (w q = some ((95, 1), .inl (eT E 6, 17, .inr (.inr (.inr (.inr f)))))) → fr (pO (95, 1)) w0 w → wP E w H → va_S (gA E) s.heap H locs → lv_has ls 4 [(3, .int (nI to9)), (0, .ref q), (1, .int (nI i9)), (2, .int (nI tl))] → W p l0 e rmCJ2_circularClear s m args below meth c H locs 0 0 Q (F0 m 12 ls []) := by
      intro n9_12
      induction n9_12 with
      | zero => intro i9 to9 f hi9 hto hn; exact absurd hn (Nat.not_lt_zero _)
      | succ n9_12 ih_12 =>
        intro i9 to9 f hi9 hto hn_12 w H locs ls hA hF hP hS hl
        refine lv_iload_n hx hb dJ2_circularClear_12 rfl (lv_at hl 2 rfl) ?_
        refine lv_iload_n hx hb dJ2_circularClear_13 rfl (lv_at hl 0 rfl) ?_
        refine k_icmp_geN (x := i9) (y := to9) (tgt := 27) hx hb (by omega) (by omega) dJ2_circularClear_14 (by decide) (fun c14 => ?_) (fun c14 => ?_)
        · skip
          refine lv_iload_n hx hb dJ2_circularClear_27 rfl (lv_at hl 0 rfl) ?_
          refine lv_iload_n hx hb dJ2_circularClear_28 rfl (lv_at hl 3 rfl) ?_
          refine k_icmp_neN (x := to9) (y := tl) (tgt := 35) hx hb (by omega) (by omega) dJ2_circularClear_29 (by decide) (fun c29 => ?_) (fun c29 => ?_)
          · skip
            refine lv_iconst (v := 0) hx hb dJ2_circularClear_35 (by decide) ?_
            refine lv_istore_n (lv' := [(1, .int 0), (3, .int (nI to9)), (0, .ref q), (2, .int (nI tl))]) hx hb dJ2_circularClear_36 rfl hl (by decide) rfl (fun ls hl => ?_)
            refine lv_iload_n hx hb dJ2_circularClear_37 rfl (lv_at hl 3 rfl) ?_
            refine lv_istore_n (lv' := [(3, .int (nI tl)), (1, .int 0), (0, .ref q), (2, .int (nI tl))]) hx hb dJ2_circularClear_38 rfl hl (by decide) rfl (fun ls hl => ?_)
            refine lv_goto (tgt := 12) hx hb dJ2_circularClear_39 (by decide) ?_
            have hl := lv_sub (l' := [(3, .int (nI tl)), (0, .ref q), (1, .int (nI 0)), (2, .int (nI tl))]) hl [0, 2, 1, 3] rfl
            exact ih_12 0 tl f (by omega) (by omega) (by split at hn_12 <;> (try split) <;> omega) _ _ _ _ hA hF hP hS hl
          · skip
            refine lv_goto (tgt := 42) hx hb dJ2_circularClear_32 (by decide) ?_
            exact k_vret hx hb hr hlocks hQ hP hS (by omega) (by omega) dJ2_circularClear_42 (⟨_, trivial, ⟨hA, trivial⟩, hF⟩)
        · skip
          refine lv_aload_n hx hb dJ2_circularClear_17 rfl (lv_at hl 1 rfl) ?_
          refine lv_iload_n hx hb dJ2_circularClear_18 rfl (lv_at hl 2 rfl) ?_
          refine lv_null hx hb dJ2_circularClear_19 ?_
          refine k_aastNW hx hb hG hP hS 6 (j := i9) hA rfl (by omega) (show i9 < 17 from by omega) dJ2_circularClear_20 (fun w1 H locs h9 hf9 hP hS => ?_)
          have hA : w1 q = some ((95, 1), .inl (eT E 6, 17, .inr (.inr (.inr (.inr (va_up f i9 none)))))) := h9
          have hF : fr (pO (95, 1)) w0 w1 := hF.tr (hf9.up (fun _ h9 => h9))
          refine lv_iinc (v := (nI (i9 + 1))) (lv' := [(1, .int (nI (i9 + 1))), (3, .int (nI to9)), (0, .ref q), (2, .int (nI tl))]) hx hb dJ2_circularClear_21 hl (k := 2) rfl (nI_add i9 1) (by decide) rfl (fun ls hl => ?_)
          refine lv_goto (tgt := 12) hx hb dJ2_circularClear_24 (by decide) ?_
          have hl := lv_sub (l' := [(3, .int (nI to9)), (0, .ref q), (1, .int (nI (i9 + 1))), (2, .int (nI tl))]) hl [1, 2, 0, 3] rfl
          exact ih_12 (i9 + 1) to9 (va_up f i9 none) (by omega) (by omega) (by split at hn_12 <;> (try split) <;> omega) _ _ _ _ hA hF hP hS hl
    have hl : lv_has ls 4 [(3, .int (nI 17)), (0, .ref q), (1, .int (nI hd)), (2, .int (nI tl))] := hl
    exact hloop_12 _ hd 17 f (by omega) (by omega) (Nat.lt_succ_self _) _ _ _ _ hA hF hP hS hl
  · skip
    refine lv_iload_n hx hb dJ2_circularClear_5 rfl (lv_at hl 2 rfl) ?_
    refine lv_goto (tgt := 11) hx hb dJ2_circularClear_6 (by decide) ?_
    refine lv_istore_n (lv' := [(3, .int (nI tl)), (0, .ref q), (1, .int (nI hd)), (2, .int (nI tl))]) hx hb dJ2_circularClear_11 rfl hl (by decide) rfl (fun ls hl => ?_)
    have hloop_12 : ∀ (n9_12 : Nat) (i9 : Nat) (to9 : Nat) (f : Nat → Option Nat), (i9 ≤ 17) → (to9 ≤ 17) → ((if to9 = tl then 0 else 18) + (17 - i9)) < n9_12 → ∀ (w : wd) (H : Heap) (locs : List Loc) (ls : Array Slot), (w q = some ((95, 1), .inl (eT E 6, 17, .inr (.inr (.inr (.inr f)))))) → fr (pO (95, 1)) w0 w → wP E w H → va_S (gA E) s.heap H locs → lv_has ls 4 [(3, .int (nI to9)), (0, .ref q), (1, .int (nI i9)), (2, .int (nI tl))] → W p l0 e rmCJ2_circularClear s m args below meth c H locs 0 0 Q (F0 m 12 ls []) := by
      intro n9_12
      induction n9_12 with
      | zero => intro i9 to9 f hi9 hto hn; exact absurd hn (Nat.not_lt_zero _)
      | succ n9_12 ih_12 =>
        intro i9 to9 f hi9 hto hn_12 w H locs ls hA hF hP hS hl
        refine lv_iload_n hx hb dJ2_circularClear_12 rfl (lv_at hl 2 rfl) ?_
        refine lv_iload_n hx hb dJ2_circularClear_13 rfl (lv_at hl 0 rfl) ?_
        refine k_icmp_geN (x := i9) (y := to9) (tgt := 27) hx hb (by omega) (by omega) dJ2_circularClear_14 (by decide) (fun c14 => ?_) (fun c14 => ?_)
        · skip
          refine lv_iload_n hx hb dJ2_circularClear_27 rfl (lv_at hl 0 rfl) ?_
          refine lv_iload_n hx hb dJ2_circularClear_28 rfl (lv_at hl 3 rfl) ?_
          refine k_icmp_neN (x := to9) (y := tl) (tgt := 35) hx hb (by omega) (by omega) dJ2_circularClear_29 (by decide) (fun c29 => ?_) (fun c29 => ?_)
          · skip
            refine lv_iconst (v := 0) hx hb dJ2_circularClear_35 (by decide) ?_
            refine lv_istore_n (lv' := [(1, .int 0), (3, .int (nI to9)), (0, .ref q), (2, .int (nI tl))]) hx hb dJ2_circularClear_36 rfl hl (by decide) rfl (fun ls hl => ?_)
            refine lv_iload_n hx hb dJ2_circularClear_37 rfl (lv_at hl 3 rfl) ?_
            refine lv_istore_n (lv' := [(3, .int (nI tl)), (1, .int 0), (0, .ref q), (2, .int (nI tl))]) hx hb dJ2_circularClear_38 rfl hl (by decide) rfl (fun ls hl => ?_)
            refine lv_goto (tgt := 12) hx hb dJ2_circularClear_39 (by decide) ?_
            have hl := lv_sub (l' := [(3, .int (nI tl)), (0, .ref q), (1, .int (nI 0)), (2, .int (nI tl))]) hl [0, 2, 1, 3] rfl
            exact ih_12 0 tl f (by omega) (by omega) (by split at hn_12 <;> (try split) <;> omega) _ _ _ _ hA hF hP hS hl
          · skip
            refine lv_goto (tgt := 42) hx hb dJ2_circularClear_32 (by decide) ?_
            exact k_vret hx hb hr hlocks hQ hP hS (by omega) (by omega) dJ2_circularClear_42 (⟨_, trivial, ⟨hA, trivial⟩, hF⟩)
        · skip
          refine lv_aload_n hx hb dJ2_circularClear_17 rfl (lv_at hl 1 rfl) ?_
          refine lv_iload_n hx hb dJ2_circularClear_18 rfl (lv_at hl 2 rfl) ?_
          refine lv_null hx hb dJ2_circularClear_19 ?_
          refine k_aastNW hx hb hG hP hS 6 (j := i9) hA rfl (by omega) (show i9 < 17 from by omega) dJ2_circularClear_20 (fun w2 H locs h9 hf9 hP hS => ?_)
          have hA : w2 q = some ((95, 1), .inl (eT E 6, 17, .inr (.inr (.inr (.inr (va_up f i9 none)))))) := h9
          have hF : fr (pO (95, 1)) w0 w2 := hF.tr (hf9.up (fun _ h9 => h9))
          refine lv_iinc (v := (nI (i9 + 1))) (lv' := [(1, .int (nI (i9 + 1))), (3, .int (nI to9)), (0, .ref q), (2, .int (nI tl))]) hx hb dJ2_circularClear_21 hl (k := 2) rfl (nI_add i9 1) (by decide) rfl (fun ls hl => ?_)
          refine lv_goto (tgt := 12) hx hb dJ2_circularClear_24 (by decide) ?_
          have hl := lv_sub (l' := [(3, .int (nI to9)), (0, .ref q), (1, .int (nI (i9 + 1))), (2, .int (nI tl))]) hl [1, 2, 0, 3] rfl
          exact ih_12 (i9 + 1) to9 (va_up f i9 none) (by omega) (by omega) (by split at hn_12 <;> (try split) <;> omega) _ _ _ _ hA hF hP hS hl
    have hl : lv_has ls 4 [(3, .int (nI tl)), (0, .ref q), (1, .int (nI hd)), (2, .int (nI tl))] := hl
    exact hloop_12 _ hd tl f (by omega) (by omega) (Nat.lt_succ_self _) _ _ _ _ hA hF hP hS hl

abbrev rmCJ2_clear : Room := { frames := 1, cells := 0, slots := 0, locals := 23 }
theorem dyJ2_clear : yJ2_clear.cls = RJ2 ∧ yJ2_clear.cls ≠ "java/lang/invoke/MethodHandle" ∧ yJ2_clear.cls ≠ "java/lang/invoke/VarHandle" ∧ (parseMethodDescriptor yJ2_clear.desc).map (fun d => d.parameters.length) = some 0 := by decide +kernel
set_option maxHeartbeats 4000000 in
theorem CJ2_clear (l0 : Launch) (E : gE) (w : wd) (d : Nat) (q : Nat) (hd : Nat) (tl : Nat) (f : Nat → Option Nat) (hh : hd < 17) (ht : tl < 17) (hD : w d = some ((95, 0), .inr (14, [.ref q, .int (nI hd), .int (nI tl)]))) (hA : w q = some ((95, 1), .inl (eT E 6, 17, .inr (.inr (.inr (.inr f)))))) : kC l0 yJ2_clear (ws_ yJ2_clear cJ2_clear 1 none) rmCJ2_clear 0 0 mV E w [.ref d] (fun r w' => ∃ f9 : Nat → Option Nat, (True) ∧ (w' d = some ((95, 0), .inr (14, [.ref q, .int 0, .int 0])) ∧ w' q = some ((95, 1), .inl (eT E 6, 17, .inr (.inr (.inr (.inr f9))))) ∧ True) ∧ fr pD w w') := by
  refine k_open (cc := cJ2_clear) (maxL := 1) (ret := none) (by decide) rfl (Nat.le_of_ble_eq_true rfl) ?_
  intro p e s m args below meth c ls Q hx hb hr hml hown hts hlocks hname hQ hG hP hl hS
  have hl : lv_has ls 1 [(0, .ref d)] := hl
  obtain ⟨w0, hw0⟩ : ∃ z, z = w := ⟨_, rfl⟩
  have hF : fr pD w0 w := by rw [hw0]; exact fr.rf
  rw [← hw0] at hQ
  refine lv_aload_n hx hb dJ2_clear_0 rfl (lv_at hl 0 rfl) ?_
  refine k_get hx hb hts in_J2 hown hG hP hD rfl 0 (by decide) (hts _ q234) (fun _ h9 => h9) (v := .ref q) rfl dJ2_clear_1 ?_
  refine lv_aload_n hx hb dJ2_clear_4 rfl (lv_at hl 0 rfl) ?_
  refine k_get hx hb hts in_J2 hown hG hP hD rfl 1 (by decide) (hts _ q235) (fun _ h9 => h9) (v := .int (nI hd)) rfl dJ2_clear_5 ?_
  refine lv_aload_n hx hb dJ2_clear_8 rfl (lv_at hl 0 rfl) ?_
  refine k_get hx hb hts in_J2 hown hG hP hD rfl 2 (by decide) (hts _ q236) (fun _ h9 => h9) (v := .int (nI tl)) rfl dJ2_clear_9 ?_
  refine k_cS hx hb hml hown hts (CJ2_circularClear l0 E w q hd tl f (by omega) (by omega) hA) (va_cwS 3 hts (lw_S q1611 q1612 q76 q1613) rfl rfl rfl dyJ2_circularClear ⟨Nat.le_of_ble_eq_true rfl, Nat.le_of_ble_eq_true rfl⟩) hG hP hS (As := [.ref q, .int (nI hd), .int (nI tl)]) (rest := []) rfl hl.1 rfl (lv_room (Nat.le_of_ble_eq_true rfl)) dJ2_clear_12 ⟨show 0 + 0 ≤ 0 from by omega, show 0 + 0 ≤ 0 from by omega⟩ (fun r12 w1 H locs hp hP hS => ?_)
  obtain ⟨f9_1, hp0, ⟨hA', -⟩, hf9⟩ := hp
  have hD : w1 d = some ((95, 0), .inr (14, [.ref q, .int (nI hd), .int (nI tl)])) := hf9 _ _ _ hD (by intro z9; first | (simp only [pO, pN, pK, pT, pD, Prod.mk.injEq] at z9; done) | (simp only [pO, pN, pK, pT, pD, Prod.mk.injEq] at z9; omega) | exact hty (by rw [show _ = _ from z9]; rfl))
  have hF : fr pD w0 w1 := hF.tr (hf9.up (fun t9 h9 => by simp only [pO, pD] at h9 ⊢; first | exact h9 | (subst h9; rfl)))
  have hA : w1 q = some ((95, 1), .inl (eT E 6, 17, .inr (.inr (.inr (.inr f9_1))))) := hA'
  show W p l0 e rmCJ2_clear s m args below meth c H locs 0 0 Q (F0 m 15 ls [])
  refine lv_aload_n hx hb dJ2_clear_15 rfl (lv_at hl 0 rfl) ?_
  refine lv_aload_n hx hb dJ2_clear_16 rfl (lv_at hl 0 rfl) ?_
  refine lv_iconst (v := 0) hx hb dJ2_clear_17 (by decide) ?_
  refine lv_dup_x1 hx hb dJ2_clear_18 rfl rfl ?_
  refine k_putW hx hb hts in_J2 tyJ2 tyJ2_ok nmJ2 hown hG hP hS hD rfl 2 (by decide) (hts _ q236) (fun _ h9 => h9) rfl (ty := .int) (v := .int 0) rfl rfl rfl (Nat.le_of_ble_eq_true rfl) dJ2_clear_19 (fun w2 H locs h9 hf9 hP hS => ?_)
  have hD : w2 d = some ((95, 0), .inr (14, [.ref q, .int (nI hd), .int 0])) := h9
  have hA : w2 q = some ((95, 1), .inl (eT E 6, 17, .inr (.inr (.inr (.inr f9_1))))) := hf9 _ _ _ hA (by intro z9; first | (simp only [pO, pN, pK, pT, pD, Prod.mk.injEq] at z9; done) | (simp only [pO, pN, pK, pT, pD, Prod.mk.injEq] at z9; omega) | exact hty (by rw [show _ = _ from z9]; rfl))
  have hF : fr pD w0 w2 := hF.tr (hf9.up (fun t9 h9 => by simp only [pO, pD] at h9 ⊢; first | exact h9 | (subst h9; rfl)))
  refine k_putW hx hb hts in_J2 tyJ2 tyJ2_ok nmJ2 hown hG hP hS hD rfl 1 (by decide) (hts _ q235) (fun _ h9 => h9) rfl (ty := .int) (v := .int 0) rfl rfl rfl (Nat.le_of_ble_eq_true rfl) dJ2_clear_22 (fun w3 H locs h9 hf9 hP hS => ?_)
  have hD : w3 d = some ((95, 0), .inr (14, [.ref q, .int 0, .int 0])) := h9
  have hA : w3 q = some ((95, 1), .inl (eT E 6, 17, .inr (.inr (.inr (.inr f9_1))))) := hf9 _ _ _ hA (by intro z9; first | (simp only [pO, pN, pK, pT, pD, Prod.mk.injEq] at z9; done) | (simp only [pO, pN, pK, pT, pD, Prod.mk.injEq] at z9; omega) | exact hty (by rw [show _ = _ from z9]; rfl))
  have hF : fr pD w0 w3 := hF.tr (hf9.up (fun t9 h9 => by simp only [pO, pD] at h9 ⊢; first | exact h9 | (subst h9; rfl)))
  exact k_vret hx hb hr hlocks hQ hP hS (by omega) (by omega) dJ2_clear_25 (⟨_, trivial, ⟨hD, hA, trivial⟩, hF⟩)

abbrev rmCJ2_init : Room := { frames := 2, cells := 1, slots := 17, locals := 52 }
theorem dyJ2_init : yJ2_init.cls = RJ2 ∧ yJ2_init.cls ≠ "java/lang/invoke/MethodHandle" ∧ yJ2_init.cls ≠ "java/lang/invoke/VarHandle" ∧ (parseMethodDescriptor yJ2_init.desc).map (fun d => d.parameters.length) = some 0 := by decide +kernel
set_option maxHeartbeats 4000000 in
theorem CJ2_init (l0 : Launch) (E : gE) (w : wd) (d : Nat) (hD : w d = some ((95, 0), .inr (14, [.null, .int 0, .int 0]))) : kC l0 yJ2_init (ws_ yJ2_init cJ2_init 1 none) rmCJ2_init 1 17 mV E w [.ref d] (fun r w' => ∃ q9 : Nat, (True) ∧ (w' d = some ((95, 0), .inr (14, [.ref q9, .int 0, .int 0])) ∧ w' q9 = some ((95, 1), .inl (eT E 6, 17, .inr (.inr (.inr (.inr (fun _ => none)))))) ∧ True) ∧ fr pD w w') := by
  refine k_open (cc := cJ2_init) (maxL := 1) (ret := none) (by decide) rfl (Nat.le_of_ble_eq_true rfl) ?_
  intro p e s m args below meth c ls Q hx hb hr hml hown hts hlocks hname hQ hG hP hl hS
  have hl : lv_has ls 1 [(0, .ref d)] := hl
  obtain ⟨w0, hw0⟩ : ∃ z, z = w := ⟨_, rfl⟩
  have hF : fr pD w0 w := by rw [hw0]; exact fr.rf
  rw [← hw0] at hQ
  refine lv_aload_n hx hb dJ2_init_0 rfl (lv_at hl 0 rfl) ?_
  refine k_cI hx hb hml hown hts (CJ1_init l0 E w d) (cwI 0 hts (lw_meth q230) rfl rfl rfl (hts _ q75) (hts _ q228) (hts _ q229) rfl dyJ1_init.2 ⟨Nat.le_of_ble_eq_true rfl, Nat.le_of_ble_eq_true rfl⟩) hG hP hS (As := []) (rest := []) rfl hl.1 rfl (lv_room (Nat.le_of_ble_eq_true rfl)) dJ2_init_1 ⟨show 0 + 0 ≤ 1 from by omega, show 0 + 0 ≤ 17 from by omega⟩ (fun r9 w9 H locs hp hP hS => ?_)
  obtain ⟨hp1, hp0⟩ := hp
  rw [hp1] at hP
  show W p l0 e rmCJ2_init s m args below meth c H locs 0 0 Q (F0 m 4 ls [])
  refine lv_aload_n hx hb dJ2_init_4 rfl (lv_at hl 0 rfl) ?_
  refine lv_bipush (v := 17) hx hb dJ2_init_5 (by decide) ?_
  refine k_newqW hx hb (95, 1) 6 hown (hts _ q232) (hG.2.1.1 _ q233 rfl) rfl hG hP hS (n := 17) (by omega) (show 0 + 1 ≤ 1 from by omega) (show 0 + 17 ≤ 17 from by omega) dJ2_init_7 (fun q7 w1 H h9 hf9 hP hS => ?_)
  have hA : w1 q7 = some ((95, 1), .inl (eT E 6, 17, .inr (.inr (.inr (.inr (fun _ => none)))))) := h9
  have hD : w1 d = some ((95, 0), .inr (14, [.null, .int 0, .int 0])) := hf9 _ _ _ hD (fun z9 => z9)
  have hF : fr pD w0 w1 := hF.tr (hf9.up (fun _ h9 => h9.elim))
  refine k_putW hx hb hts in_J2 tyJ2 tyJ2_ok nmJ2 hown hG hP hS hD rfl 0 (by decide) (hts _ q234) (fun _ h9 => h9) rfl (ty := (.array (.object "java/lang/Object"))) (v := .ref q7) rfl rfl rfl (Nat.le_of_ble_eq_true rfl) dJ2_init_10 (fun w2 H locs h9 hf9 hP hS => ?_)
  have hD : w2 d = some ((95, 0), .inr (14, [.ref q7, .int 0, .int 0])) := h9
  have hA : w2 q7 = some ((95, 1), .inl (eT E 6, 17, .inr (.inr (.inr (.inr (fun _ => none)))))) := hf9 _ _ _ hA (by intro z9; first | (simp only [pO, pN, pK, pT, pD, Prod.mk.injEq] at z9; done) | (simp only [pO, pN, pK, pT, pD, Prod.mk.injEq] at z9; omega) | exact hty (by rw [show _ = _ from z9]; rfl))
  have hF : fr pD w0 w2 := hF.tr (hf9.up (fun t9 h9 => by simp only [pO, pD] at h9 ⊢; first | exact h9 | (subst h9; rfl)))
  exact k_vret hx hb hr hlocks hQ hP hS (by omega) (by omega) dJ2_init_13 (⟨_, trivial, ⟨hD, hA, trivial⟩, hF⟩)
