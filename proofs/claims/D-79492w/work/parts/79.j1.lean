/-! THE JDK, 1: a circle of places -/
set_option maxRecDepth 100000
abbrev rmCJ2_inc : Room := { frames := 0, cells := 0, slots := 0, locals := 0 }
theorem dyJ2_inc : yJ2_inc.cls ≠ "java/lang/invoke/MethodHandle" ∧ yJ2_inc.cls ≠ "java/lang/invoke/VarHandle" ∧ (parseMethodDescriptor yJ2_inc.desc).map (fun d => d.parameters.length) = some 2 := by decide +kernel
set_option maxHeartbeats 4000000 in
theorem CJ2_inc (l0 : Launch) (E : gE) (w : wd) (i : Nat) (n : Nat) (hi9 : i < n) (hn9 : n < 65536) : kC l0 yJ2_inc (ws_ yJ2_inc cJ2_inc 2 (some .int)) rmCJ2_inc 0 0 mI E w [.int (nI i), .int (nI n)] (fun r w' => w' = w ∧ r = (nI (if i + 1 < n then i + 1 else 0))) := by
  refine k_open (cc := cJ2_inc) (maxL := 2) (ret := (some .int)) (by decide) rfl (Nat.le_of_ble_eq_true rfl) ?_
  intro p e s m args below meth c ls Q hx hb hr hml hown hts hlocks hname hQ hG hP hl hS
  have hl : lv_has ls 2 [(0, .int (nI i)), (1, .int (nI n))] := hl
  refine lv_iinc (v := (nI (i + 1))) (lv' := [(0, .int (nI (i + 1))), (1, .int (nI n))]) hx hb dJ2_inc_0 hl (k := 0) rfl (nI_add i 1) (by decide) rfl (fun ls hl => ?_)
  refine lv_iload_n hx hb dJ2_inc_3 rfl (lv_at hl 0 rfl) ?_
  refine lv_iload_n hx hb dJ2_inc_4 rfl (lv_at hl 1 rfl) ?_
  refine k_icmp_ltN (x := i + 1) (y := n) (tgt := 10) hx hb (by omega) (by omega) dJ2_inc_5 (by decide) (fun c5 => ?_) (fun c5 => ?_)
  · skip
    refine lv_iload_n hx hb dJ2_inc_10 rfl (lv_at hl 0 rfl) ?_
    exact k_iret hx hb hr hlocks hQ hP hS (by omega) (by omega) dJ2_inc_11 (⟨rfl, by first | (rw [if_pos c5]; done) | (rw [if_neg (by omega)]; rfl)⟩)
  · skip
    refine lv_iconst (v := 0) hx hb dJ2_inc_8 (by decide) ?_
    refine lv_istore_n (lv' := [(0, .int 0), (1, .int (nI n))]) hx hb dJ2_inc_9 rfl hl (by decide) rfl (fun ls hl => ?_)
    refine lv_iload_n hx hb dJ2_inc_10 rfl (lv_at hl 0 rfl) ?_
    exact k_iret hx hb hr hlocks hQ hP hS (by omega) (by omega) dJ2_inc_11 (⟨rfl, by first | (rw [if_pos c5]; done) | (rw [if_neg (by omega)]; rfl)⟩)

abbrev rmCJ2_dec : Room := { frames := 0, cells := 0, slots := 0, locals := 0 }
theorem dyJ2_dec : yJ2_dec.cls ≠ "java/lang/invoke/MethodHandle" ∧ yJ2_dec.cls ≠ "java/lang/invoke/VarHandle" ∧ (parseMethodDescriptor yJ2_dec.desc).map (fun d => d.parameters.length) = some 2 := by decide +kernel
set_option maxHeartbeats 4000000 in
theorem CJ2_dec (l0 : Launch) (E : gE) (w : wd) (i : Nat) (n : Nat) (hi9 : i < n) (hn9 : n < 65536) : kC l0 yJ2_dec (ws_ yJ2_dec cJ2_dec 2 (some .int)) rmCJ2_dec 0 0 mI E w [.int (nI i), .int (nI n)] (fun r w' => w' = w ∧ r = (nI (if 0 < i then i - 1 else n - 1))) := by
  refine k_open (cc := cJ2_dec) (maxL := 2) (ret := (some .int)) (by decide) rfl (Nat.le_of_ble_eq_true rfl) ?_
  intro p e s m args below meth c ls Q hx hb hr hml hown hts hlocks hname hQ hG hP hl hS
  have hl : lv_has ls 2 [(0, .int (nI i)), (1, .int (nI n))] := hl
  refine lv_iinc (v := ((nI i) + (-1))) (lv' := [(0, .int ((nI i) + (-1))), (1, .int (nI n))]) hx hb dJ2_dec_0 hl (k := 0) rfl rfl (by decide) rfl (fun ls hl => ?_)
  refine lv_iload_n hx hb dJ2_dec_3 rfl (lv_at hl 0 rfl) ?_
  refine lv_if_ge (tgt := 11) hx hb dJ2_dec_4 (by decide) (fun c4 => ?_) (fun c4 => ?_)
  · skip
    refine lv_iload_n hx hb dJ2_dec_11 rfl (lv_at hl 0 rfl) ?_
    exact k_iret hx hb hr hlocks hQ hP hS (by omega) (by omega) dJ2_dec_12 (⟨rfl, dq_dec1 (by omega) c4⟩)
  · skip
    refine lv_iload_n hx hb dJ2_dec_7 rfl (lv_at hl 1 rfl) ?_
    refine lv_iconst (v := 1) hx hb dJ2_dec_8 (by decide) ?_
    refine lv_isub hx hb dJ2_dec_9 ?_
    refine lv_istore_n (lv' := [(0, .int ((nI n) - 1)), (1, .int (nI n))]) hx hb dJ2_dec_10 rfl hl (by decide) rfl (fun ls hl => ?_)
    refine lv_iload_n hx hb dJ2_dec_11 rfl (lv_at hl 0 rfl) ?_
    exact k_iret hx hb hr hlocks hQ hP hS (by omega) (by omega) dJ2_dec_12 (⟨rfl, dq_dec2 (by omega) c4 (by omega)⟩)

abbrev rmCJ2_sub : Room := { frames := 0, cells := 0, slots := 0, locals := 0 }
theorem dyJ2_sub : yJ2_sub.cls ≠ "java/lang/invoke/MethodHandle" ∧ yJ2_sub.cls ≠ "java/lang/invoke/VarHandle" ∧ (parseMethodDescriptor yJ2_sub.desc).map (fun d => d.parameters.length) = some 3 := by decide +kernel
set_option maxHeartbeats 4000000 in
theorem CJ2_sub (l0 : Launch) (E : gE) (w : wd) (i : Nat) (n : Nat) (j : Nat) (hi9 : i < n) (hn9 : n < 65536) (hj9 : j < n) : kC l0 yJ2_sub (ws_ yJ2_sub cJ2_sub 3 (some .int)) rmCJ2_sub 0 0 mI E w [.int (nI i), .int (nI j), .int (nI n)] (fun r w' => w' = w ∧ r = (nI ((i + n - j) % n))) := by
  refine k_open (cc := cJ2_sub) (maxL := 3) (ret := (some .int)) (by decide) rfl (Nat.le_of_ble_eq_true rfl) ?_
  intro p e s m args below meth c ls Q hx hb hr hml hown hts hlocks hname hQ hG hP hl hS
  have hl : lv_has ls 3 [(0, .int (nI i)), (1, .int (nI j)), (2, .int (nI n))] := hl
  refine lv_iload_n hx hb dJ2_sub_0 rfl (lv_at hl 0 rfl) ?_
  refine lv_iload_n hx hb dJ2_sub_1 rfl (lv_at hl 1 rfl) ?_
  refine lv_isub hx hb dJ2_sub_2 ?_
  refine lv_dup hx hb dJ2_sub_3 rfl ?_
  refine lv_istore_n (lv' := [(0, .int ((nI i) - (nI j))), (1, .int (nI j)), (2, .int (nI n))]) hx hb dJ2_sub_4 rfl hl (by decide) rfl (fun ls hl => ?_)
  refine lv_if_ge (tgt := 12) hx hb dJ2_sub_5 (by decide) (fun c5 => ?_) (fun c5 => ?_)
  · skip
    refine lv_iload_n hx hb dJ2_sub_12 rfl (lv_at hl 0 rfl) ?_
    exact k_iret hx hb hr hlocks hQ hP hS (by omega) (by omega) dJ2_sub_13 (⟨rfl, dq_sub1 hi9 hj9 hn9 c5⟩)
  · skip
    refine lv_iload_n hx hb dJ2_sub_8 rfl (lv_at hl 0 rfl) ?_
    refine lv_iload_n hx hb dJ2_sub_9 rfl (lv_at hl 2 rfl) ?_
    refine lv_iadd hx hb dJ2_sub_10 ?_
    refine lv_istore_n (lv' := [(0, .int (((nI i) - (nI j)) + (nI n))), (1, .int (nI j)), (2, .int (nI n))]) hx hb dJ2_sub_11 rfl hl (by decide) rfl (fun ls hl => ?_)
    refine lv_iload_n hx hb dJ2_sub_12 rfl (lv_at hl 0 rfl) ?_
    exact k_iret hx hb hr hlocks hQ hP hS (by omega) (by omega) dJ2_sub_13 (⟨rfl, dq_sub2 hi9 hj9 hn9 c5⟩)
