/-! THE TWIN, 4: a round -/
set_option maxRecDepth 100000
abbrev rmCX6_passes : Room := { frames := 7, cells := 0, slots := 0, locals := 161 }
theorem dyX6_passes : yX6_passes.cls = RX6 ∧ yX6_passes.cls ≠ "java/lang/invoke/MethodHandle" ∧ yX6_passes.cls ≠ "java/lang/invoke/VarHandle" ∧ (parseMethodDescriptor yX6_passes.desc).map (fun d => d.parameters.length) = some 0 := by decide +kernel
set_option maxHeartbeats 4000000 in
theorem CX6_passes (l0 : Launch) (E : gE) (w : wd) (h : Nat) (ad : Nat → Nat) (f : Nat → Int32) (a : Nat → Nat → Int32) (mn : Nat) (hM : tM E w h ad f a) (hmn : mn ≤ 6) (hm : (a 0) 25 = nI mn) : kC l0 yX6_passes (ws_ yX6_passes cX6_passes 5 (some .int)) rmCX6_passes 0 0 mI E w [.ref h] (fun r w' => ∃ f' a', (r = tNc (tDb (tR1 (a 0) mn) mn) mn ∧ f' = f ∧ a' = (va_up (va_up (va_up (va_up a 0 (tRd (a 0) mn (a 14) (a 15) (a 16))) 14 (tCA (tR1 (a 0) mn) mn (a 14) mn)) 15 (tCB (tR1 (a 0) mn) mn (a 15) mn)) 16 (tCC (tR1 (a 0) mn) mn (a 16) mn))) ∧ tM E w' h ad f' a' ∧ fr tP w w') := by
  refine k_open (cc := cX6_passes) (maxL := 5) (ret := (some .int)) (by decide) rfl (Nat.le_of_ble_eq_true rfl) ?_
  intro p e s m args below meth c ls Q hx hb hr hml hown hts hlocks hname hQ hG hP hl hS
  have hl : lv_has ls 5 [(0, .ref h)] := hl
  obtain ⟨w0, hw0⟩ : ∃ z, z = w := ⟨_, rfl⟩
  have hF : fr tP w0 w := by rw [hw0]; exact fr.rf
  rw [← hw0] at hQ
  refine lv_aload_n hx hb dX6_passes_0 rfl (lv_at hl 0 rfl) ?_
  refine tw_get hx hb hts hown hG hP hM 0 (by decide) (hts _ q1620) (fun _ h9 => h9) (v := .ref (ad 0)) rfl dX6_passes_1 ?_
  refine lv_bipush (v := 20) hx hb dX6_passes_4 (by decide) ?_
  refine lv_dup2_11 hx hb dX6_passes_6 rfl rfl ?_
  refine tw_ald hx hb hG hP hM 0 (by decide) (j := 20) (show 20 < 116 from by omega) dX6_passes_7 ?_
  refine lv_iconst (v := 1) hx hb dX6_passes_8 (by decide) ?_
  refine lv_iadd hx hb dX6_passes_9 ?_
  refine tw_ast hx hb hG hP hS hM hF 0 (by decide) (j := 20) (show 20 < 116 from by omega) (x := (((a 0) 20) + 1)) dX6_passes_10 (fun w H locs hM hF hP hS => ?_)
  have hM : tM E w h ad f (va_up a 0 (va_up (a 0) 20 (((a 0) 20) + 1))) := hM
  refine lv_iconst (v := 0) hx hb dX6_passes_11 (by decide) ?_
  refine lv_istore_n (lv' := [(1, .int 0), (0, .ref h)]) hx hb dX6_passes_12 rfl hl (by decide) rfl (fun ls hl => ?_)
  have hloop_13 : ∀ (n9_13 : Nat) (i : Nat), (i ≤ mn) → (mn - i) < n9_13 → ∀ (w : wd) (H : Heap) (locs : List Loc) (ls : Array Slot), tM E w h ad f (va_up a 0 (tP1 (tG0 (a 0)) i)) → fr tP w0 w → wP E w H → va_S (gA E) s.heap H locs → lv_has ls 5 [(1, .int (nI i)), (0, .ref h)] → W p l0 e rmCX6_passes s m args below meth c H locs 0 0 Q (F0 m 13 ls []) := by
    intro n9_13
    induction n9_13 with
    | zero => intro i hi hn; exact absurd hn (Nat.not_lt_zero _)
    | succ n9_13 ih_13 =>
      intro i hi hn_13 w H locs ls hM hF hP hS hl
      refine lv_iload_n hx hb dX6_passes_13 rfl (lv_at hl 0 rfl) ?_
      refine lv_aload_n hx hb dX6_passes_14 rfl (lv_at hl 1 rfl) ?_
      refine tw_get hx hb hts hown hG hP hM 0 (by decide) (hts _ q1620) (fun _ h9 => h9) (v := .ref (ad 0)) rfl dX6_passes_15 ?_
      refine lv_bipush (v := 25) hx hb dX6_passes_18 (by decide) ?_
      refine tw_ald hx hb hG hP hM 0 (by decide) (j := 25) (show 25 < 116 from by omega) dX6_passes_20 ?_
      refine k_top (y := ((tP1 (tG0 (a 0)) i) 25)) rfl ?_
      refine k_top (y := (nI mn)) ((by rw [tP1_lo (by omega) (by omega) (by omega), tG0_lo (by omega)]; exact hm)) ?_
      refine k_icmp_geN (x := i) (y := mn) (tgt := 90) hx hb (by omega) (by omega) dX6_passes_21 (by decide) (fun c21 => ?_) (fun c21 => ?_)
      · skip
        refine lv_iconst (v := 0) hx hb dX6_passes_90 (by decide) ?_
        refine lv_istore_n (lv' := [(1, .int 0), (0, .ref h)]) hx hb dX6_passes_91 rfl hl (by decide) rfl (fun ls hl => ?_)
        refine lv_iconst (v := 0) hx hb dX6_passes_92 (by decide) ?_
        refine lv_istore_n (lv' := [(2, .int 0), (1, .int 0), (0, .ref h)]) hx hb dX6_passes_93 rfl hl (by decide) rfl (fun ls hl => ?_)
        have hloop_94 : ∀ (n9_94 : Nat) (j : Nat), (j ≤ mn) → (mn - j) < n9_94 → ∀ (w : wd) (H : Heap) (locs : List Loc) (ls : Array Slot), tM E w h ad f (va_up (va_up (va_up (va_up a 0 (tP2 (tR1 (a 0) mn) mn j)) 14 (tCA (tR1 (a 0) mn) mn (a 14) j)) 15 (tCB (tR1 (a 0) mn) mn (a 15) j)) 16 (tCC (tR1 (a 0) mn) mn (a 16) j)) → fr tP w0 w → wP E w H → va_S (gA E) s.heap H locs → lv_has ls 5 [(2, .int (nI j)), (1, .int (dv (tDb (tR1 (a 0) mn) mn) j)), (0, .ref h)] → W p l0 e rmCX6_passes s m args below meth c H locs 0 0 Q (F0 m 94 ls []) := by
          intro n9_94
          induction n9_94 with
          | zero => intro j hj hn; exact absurd hn (Nat.not_lt_zero _)
          | succ n9_94 ih_94 =>
            intro j hj hn_94 w H locs ls hM hF hP hS hl
            refine lv_iload_n hx hb dX6_passes_94 rfl (lv_at hl 0 rfl) ?_
            refine lv_aload_n hx hb dX6_passes_95 rfl (lv_at hl 2 rfl) ?_
            refine tw_get hx hb hts hown hG hP hM 0 (by decide) (hts _ q1620) (fun _ h9 => h9) (v := .ref (ad 0)) rfl dX6_passes_96 ?_
            refine lv_bipush (v := 25) hx hb dX6_passes_99 (by decide) ?_
            refine tw_ald hx hb hG hP hM 0 (by decide) (j := 25) (show 25 < 116 from by omega) dX6_passes_101 ?_
            refine k_top (y := ((tP2 (tR1 (a 0) mn) mn j) 25)) rfl ?_
            refine k_top (y := (nI mn)) ((by rw [tP2_lo (fun k => kO_lo (by omega)), tR1, tP1_lo (by omega) (by omega) (by omega), tG0_lo (by omega)]; exact hm)) ?_
            refine k_icmp_geN (x := j) (y := mn) (tgt := 177) hx hb (by omega) (by omega) dX6_passes_102 (by decide) (fun c102 => ?_) (fun c102 => ?_)
            · skip
              refine lv_iconst (v := 0) hx hb dX6_passes_177 (by decide) ?_
              refine lv_istore_n (lv' := [(2, .int 0), (1, .int (dv (tDb (tR1 (a 0) mn) mn) j)), (0, .ref h)]) hx hb dX6_passes_178 rfl hl (by decide) rfl (fun ls hl => ?_)
              refine lv_iconst (v := 0) hx hb dX6_passes_179 (by decide) ?_
              refine lv_istore_n (lv' := [(3, .int 0), (2, .int 0), (1, .int (dv (tDb (tR1 (a 0) mn) mn) j)), (0, .ref h)]) hx hb dX6_passes_180 rfl hl (by decide) rfl (fun ls hl => ?_)
              have hloop_181 : ∀ (n9_181 : Nat) (q : Nat), (q ≤ mn) → (mn - q) < n9_181 → ∀ (w : wd) (H : Heap) (locs : List Loc) (ls : Array Slot), tM E w h ad f (va_up (va_up (va_up (va_up a 0 (tP3 (tR2 (a 0) mn) (tDb (tR1 (a 0) mn) mn) (tCA (tR1 (a 0) mn) mn (a 14) mn) (tCC (tR1 (a 0) mn) mn (a 16) mn) q)) 14 (tCA (tR1 (a 0) mn) mn (a 14) mn)) 15 (tCB (tR1 (a 0) mn) mn (a 15) mn)) 16 (tCC (tR1 (a 0) mn) mn (a 16) mn)) → fr tP w0 w → wP E w H → va_S (gA E) s.heap H locs → lv_has ls 5 [(3, .int (nI q)), (2, .int (tNc (tDb (tR1 (a 0) mn) mn) q)), (1, .int (dv (tDb (tR1 (a 0) mn) mn) mn)), (0, .ref h)] → W p l0 e rmCX6_passes s m args below meth c H locs 0 0 Q (F0 m 181 ls []) := by
                intro n9_181
                induction n9_181 with
                | zero => intro q hq hn; exact absurd hn (Nat.not_lt_zero _)
                | succ n9_181 ih_181 =>
                  intro q hq hn_181 w H locs ls hM hF hP hS hl
                  refine lv_iload_n hx hb dX6_passes_181 rfl (lv_at hl 0 rfl) ?_
                  refine lv_aload_n hx hb dX6_passes_182 rfl (lv_at hl 3 rfl) ?_
                  refine tw_get hx hb hts hown hG hP hM 0 (by decide) (hts _ q1620) (fun _ h9 => h9) (v := .ref (ad 0)) rfl dX6_passes_183 ?_
                  refine lv_bipush (v := 25) hx hb dX6_passes_186 (by decide) ?_
                  refine tw_ald hx hb hG hP hM 0 (by decide) (j := 25) (show 25 < 116 from by omega) dX6_passes_188 ?_
                  refine k_top (y := ((tP3 (tR2 (a 0) mn) (tDb (tR1 (a 0) mn) mn) (tCA (tR1 (a 0) mn) mn (a 14) mn) (tCC (tR1 (a 0) mn) mn (a 16) mn) q) 25)) rfl ?_
                  refine k_top (y := (nI mn)) ((by rw [tP3_lo (by omega) (by omega) (by omega) (by omega), tR2, tP2_lo (fun k => kO_lo (by omega)), tR1, tP1_lo (by omega) (by omega) (by omega), tG0_lo (by omega)]; exact hm)) ?_
                  refine k_icmp_geN (x := q) (y := mn) (tgt := 217) hx hb (by omega) (by omega) dX6_passes_189 (by decide) (fun c189 => ?_) (fun c189 => ?_)
                  · skip
                    refine lv_iconst (v := 0) hx hb dX6_passes_217 (by decide) ?_
                    refine lv_istore_n (lv' := [(3, .int 0), (2, .int (tNc (tDb (tR1 (a 0) mn) mn) q)), (1, .int (dv (tDb (tR1 (a 0) mn) mn) mn)), (0, .ref h)]) hx hb dX6_passes_218 rfl hl (by decide) rfl (fun ls hl => ?_)
                    have hloop_219 : ∀ (n9_219 : Nat) (u : Nat), (u ≤ mn) → (mn - u) < n9_219 → ∀ (w : wd) (H : Heap) (locs : List Loc) (ls : Array Slot), tM E w h ad f (va_up (va_up (va_up (va_up a 0 (tP4 (tP3 (tR2 (a 0) mn) (tDb (tR1 (a 0) mn) mn) (tCA (tR1 (a 0) mn) mn (a 14) mn) (tCC (tR1 (a 0) mn) mn (a 16) mn) mn) (tDb (tR1 (a 0) mn) mn) (tCB (tR1 (a 0) mn) mn (a 15) mn) mn u)) 14 (tCA (tR1 (a 0) mn) mn (a 14) mn)) 15 (tCB (tR1 (a 0) mn) mn (a 15) mn)) 16 (tCC (tR1 (a 0) mn) mn (a 16) mn)) → fr tP w0 w → wP E w H → va_S (gA E) s.heap H locs → lv_has ls 5 [(3, .int (nI u)), (2, .int (tNc (tDb (tR1 (a 0) mn) mn) mn)), (1, .int (dv (tDb (tR1 (a 0) mn) mn) mn)), (0, .ref h)] → W p l0 e rmCX6_passes s m args below meth c H locs 0 0 Q (F0 m 219 ls []) := by
                      intro n9_219
                      induction n9_219 with
                      | zero => intro u hu hn; exact absurd hn (Nat.not_lt_zero _)
                      | succ n9_219 ih_219 =>
                        intro u hu hn_219 w H locs ls hM hF hP hS hl
                        refine lv_iload_n hx hb dX6_passes_219 rfl (lv_at hl 0 rfl) ?_
                        refine lv_aload_n hx hb dX6_passes_220 rfl (lv_at hl 3 rfl) ?_
                        refine tw_get hx hb hts hown hG hP hM 0 (by decide) (hts _ q1620) (fun _ h9 => h9) (v := .ref (ad 0)) rfl dX6_passes_221 ?_
                        refine lv_bipush (v := 25) hx hb dX6_passes_224 (by decide) ?_
                        refine tw_ald hx hb hG hP hM 0 (by decide) (j := 25) (show 25 < 116 from by omega) dX6_passes_226 ?_
                        refine k_top (y := ((tP4 (tP3 (tR2 (a 0) mn) (tDb (tR1 (a 0) mn) mn) (tCA (tR1 (a 0) mn) mn (a 14) mn) (tCC (tR1 (a 0) mn) mn (a 16) mn) mn) (tDb (tR1 (a 0) mn) mn) (tCB (tR1 (a 0) mn) mn (a 15) mn) mn u) 25)) rfl ?_
                        refine k_top (y := (nI mn)) ((by rw [tP4_lo (fun k => kO_lo (by omega)), tP3_lo (by omega) (by omega) (by omega) (by omega), tR2, tP2_lo (fun k => kO_lo (by omega)), tR1, tP1_lo (by omega) (by omega) (by omega), tG0_lo (by omega)]; exact hm)) ?_
                        refine k_icmp_geN (x := u) (y := mn) (tgt := 315) hx hb (by omega) (by omega) dX6_passes_227 (by decide) (fun c227 => ?_) (fun c227 => ?_)
                        · skip
                          refine lv_iload_n hx hb dX6_passes_315 rfl (lv_at hl 1 rfl) ?_
                          exact k_iret hx hb hr hlocks hQ hP hS (by omega) (by omega) dX6_passes_316 (⟨_, _, ⟨by rfl, rfl, by obtain rfl : u = mn := (by omega); rfl⟩, hM, hF⟩)
                        · skip
                          refine lv_aload_n hx hb dX6_passes_230 rfl (lv_at hl 3 rfl) ?_
                          refine lv_iload_n hx hb dX6_passes_231 rfl (lv_at hl 0 rfl) ?_
                          refine lv_bipush (v := 8) hx hb dX6_passes_232 (by decide) ?_
                          refine lv_aload_n hx hb dX6_passes_234 rfl (lv_at hl 3 rfl) ?_
                          refine lv_iload_n hx hb dX6_passes_235 rfl (lv_at hl 0 rfl) ?_
                          refine lv_bipush (v := 8) hx hb dX6_passes_236 (by decide) ?_
                          refine tw_cR hx hb hml hown hts (val := (tP4 (tP3 (tR2 (a 0) mn) (tDb (tR1 (a 0) mn) mn) (tCA (tR1 (a 0) mn) mn (a 14) mn) (tCC (tR1 (a 0) mn) mn (a 16) mn) mn) (tDb (tR1 (a 0) mn) mn) (tCB (tR1 (a 0) mn) mn (a 15) mn) mn u) (kO u 8)) (CX6_of l0 E w h ad f (va_up (va_up (va_up (va_up a 0 (tP4 (tP3 (tR2 (a 0) mn) (tDb (tR1 (a 0) mn) mn) (tCA (tR1 (a 0) mn) mn (a 14) mn) (tCC (tR1 (a 0) mn) mn (a 16) mn) mn) (tDb (tR1 (a 0) mn) mn) (tCB (tR1 (a 0) mn) mn (a 15) mn) mn u)) 14 (tCA (tR1 (a 0) mn) mn (a 14) mn)) 15 (tCB (tR1 (a 0) mn) mn (a 15) mn)) 16 (tCC (tR1 (a 0) mn) mn (a 16) mn)) u 8 hM (by omega) (by omega)) (cwV 2 hts (lw_V q1730 q1732 qs40 q81 q1733) rfl rfl rfl dyX6_of ⟨Nat.le_of_ble_eq_true rfl, Nat.le_of_ble_eq_true rfl⟩) hG hP hS hM (As := [.int (nI u), .int 8]) (rest := [.int 8, .int (nI u), .ref h]) rfl hl.1 rfl (lv_room (Nat.le_of_ble_eq_true rfl)) dX6_passes_238 ⟨by omega, by omega⟩ (fun H locs hP hS => ?_)
                          refine lv_aload_n hx hb dX6_passes_241 rfl (lv_at hl 3 rfl) ?_
                          refine lv_iload_n hx hb dX6_passes_242 rfl (lv_at hl 0 rfl) ?_
                          refine tw_cR hx hb hml hown hts (val := (nI (tHt (tP4 (tP3 (tR2 (a 0) mn) (tDb (tR1 (a 0) mn) mn) (tCA (tR1 (a 0) mn) mn (a 14) mn) (tCC (tR1 (a 0) mn) mn (a 16) mn) mn) (tDb (tR1 (a 0) mn) mn) (tCB (tR1 (a 0) mn) mn (a 15) mn) mn u) u))) (CX6_height l0 E w h ad f (va_up (va_up (va_up (va_up a 0 (tP4 (tP3 (tR2 (a 0) mn) (tDb (tR1 (a 0) mn) mn) (tCA (tR1 (a 0) mn) mn (a 14) mn) (tCC (tR1 (a 0) mn) mn (a 16) mn) mn) (tDb (tR1 (a 0) mn) mn) (tCB (tR1 (a 0) mn) mn (a 15) mn) mn u)) 14 (tCA (tR1 (a 0) mn) mn (a 14) mn)) 15 (tCB (tR1 (a 0) mn) mn (a 15) mn)) 16 (tCC (tR1 (a 0) mn) mn (a 16) mn)) u hM (by omega)) (cwV 1 hts (lw_V q1766 q1768 qs44 q81 q1769) rfl rfl rfl dyX6_height ⟨Nat.le_of_ble_eq_true rfl, Nat.le_of_ble_eq_true rfl⟩) hG hP hS hM (As := [.int (nI u)]) (rest := [.int ((tP4 (tP3 (tR2 (a 0) mn) (tDb (tR1 (a 0) mn) mn) (tCA (tR1 (a 0) mn) mn (a 14) mn) (tCC (tR1 (a 0) mn) mn (a 16) mn) mn) (tDb (tR1 (a 0) mn) mn) (tCB (tR1 (a 0) mn) mn (a 15) mn) mn u) (kO u 8)), .int 8, .int (nI u), .ref h]) rfl hl.1 rfl (lv_room (Nat.le_of_ble_eq_true rfl)) dX6_passes_243 ⟨by omega, by omega⟩ (fun H locs hP hS => ?_)
                          refine lv_iadd hx hb dX6_passes_246 ?_
                          refine tw_cW hx hb hml hown hts (CX6_lays l0 E w h ad f (va_up (va_up (va_up (va_up a 0 (tP4 (tP3 (tR2 (a 0) mn) (tDb (tR1 (a 0) mn) mn) (tCA (tR1 (a 0) mn) mn (a 14) mn) (tCC (tR1 (a 0) mn) mn (a 16) mn) mn) (tDb (tR1 (a 0) mn) mn) (tCB (tR1 (a 0) mn) mn (a 15) mn) mn u)) 14 (tCA (tR1 (a 0) mn) mn (a 14) mn)) 15 (tCB (tR1 (a 0) mn) mn (a 15) mn)) 16 (tCC (tR1 (a 0) mn) mn (a 16) mn)) u 8 ((tP4 (tP3 (tR2 (a 0) mn) (tDb (tR1 (a 0) mn) mn) (tCA (tR1 (a 0) mn) mn (a 14) mn) (tCC (tR1 (a 0) mn) mn (a 16) mn) mn) (tDb (tR1 (a 0) mn) mn) (tCB (tR1 (a 0) mn) mn (a 15) mn) mn u) (kO u 8) + (nI (tHt (tP4 (tP3 (tR2 (a 0) mn) (tDb (tR1 (a 0) mn) mn) (tCA (tR1 (a 0) mn) mn (a 14) mn) (tCC (tR1 (a 0) mn) mn (a 16) mn) mn) (tDb (tR1 (a 0) mn) mn) (tCB (tR1 (a 0) mn) mn (a 15) mn) mn u) u))) hM (by omega) (by omega)) (cwV 3 hts (lw_V q1718 q1720 qs38 q81 q1721) rfl rfl rfl dyX6_lays ⟨Nat.le_of_ble_eq_true rfl, Nat.le_of_ble_eq_true rfl⟩) hG hP hS hM hF (As := [.int (nI u), .int 8, .int ((tP4 (tP3 (tR2 (a 0) mn) (tDb (tR1 (a 0) mn) mn) (tCA (tR1 (a 0) mn) mn (a 14) mn) (tCC (tR1 (a 0) mn) mn (a 16) mn) mn) (tDb (tR1 (a 0) mn) mn) (tCB (tR1 (a 0) mn) mn (a 15) mn) mn u) (kO u 8) + (nI (tHt (tP4 (tP3 (tR2 (a 0) mn) (tDb (tR1 (a 0) mn) mn) (tCA (tR1 (a 0) mn) mn (a 14) mn) (tCC (tR1 (a 0) mn) mn (a 16) mn) mn) (tDb (tR1 (a 0) mn) mn) (tCB (tR1 (a 0) mn) mn (a 15) mn) mn u) u)))]) (rest := []) rfl hl.1 rfl (lv_room (Nat.le_of_ble_eq_true rfl)) dX6_passes_247 ⟨by omega, by omega⟩ (fun r247 f247 a247 w H locs hp hM hF hP hS => ?_)
                          obtain ⟨hp1, hp2⟩ := hp
                          have hM := hM.ofF hp1 hp2
                          have hM : tM E w h ad f (va_up (va_up (va_up (va_up (va_up a 0 (tP4 (tP3 (tR2 (a 0) mn) (tDb (tR1 (a 0) mn) mn) (tCA (tR1 (a 0) mn) mn (a 14) mn) (tCC (tR1 (a 0) mn) mn (a 16) mn) mn) (tDb (tR1 (a 0) mn) mn) (tCB (tR1 (a 0) mn) mn (a 15) mn) mn u)) 14 (tCA (tR1 (a 0) mn) mn (a 14) mn)) 15 (tCB (tR1 (a 0) mn) mn (a 15) mn)) 16 (tCC (tR1 (a 0) mn) mn (a 16) mn)) 0 (va_up (tP4 (tP3 (tR2 (a 0) mn) (tDb (tR1 (a 0) mn) mn) (tCA (tR1 (a 0) mn) mn (a 14) mn) (tCC (tR1 (a 0) mn) mn (a 16) mn) mn) (tDb (tR1 (a 0) mn) mn) (tCB (tR1 (a 0) mn) mn (a 15) mn) mn u) (kO u 8) ((tP4 (tP3 (tR2 (a 0) mn) (tDb (tR1 (a 0) mn) mn) (tCA (tR1 (a 0) mn) mn (a 14) mn) (tCC (tR1 (a 0) mn) mn (a 16) mn) mn) (tDb (tR1 (a 0) mn) mn) (tCB (tR1 (a 0) mn) mn (a 15) mn) mn u) (kO u 8) + (nI (tHt (tP4 (tP3 (tR2 (a 0) mn) (tDb (tR1 (a 0) mn) mn) (tCA (tR1 (a 0) mn) mn (a 14) mn) (tCC (tR1 (a 0) mn) mn (a 16) mn) mn) (tDb (tR1 (a 0) mn) mn) (tCB (tR1 (a 0) mn) mn (a 15) mn) mn u) u))))) := hM
                          have hM : tM E w h ad f (va_up (va_up (va_up (va_up a 0 (va_up (tP4 (tP3 (tR2 (a 0) mn) (tDb (tR1 (a 0) mn) mn) (tCA (tR1 (a 0) mn) mn (a 14) mn) (tCC (tR1 (a 0) mn) mn (a 16) mn) mn) (tDb (tR1 (a 0) mn) mn) (tCB (tR1 (a 0) mn) mn (a 15) mn) mn u) (kO u 8) ((tP4 (tP3 (tR2 (a 0) mn) (tDb (tR1 (a 0) mn) mn) (tCA (tR1 (a 0) mn) mn (a 14) mn) (tCC (tR1 (a 0) mn) mn (a 16) mn) mn) (tDb (tR1 (a 0) mn) mn) (tCB (tR1 (a 0) mn) mn (a 15) mn) mn u) (kO u 8) + (nI (tHt (tP4 (tP3 (tR2 (a 0) mn) (tDb (tR1 (a 0) mn) mn) (tCA (tR1 (a 0) mn) mn (a 14) mn) (tCC (tR1 (a 0) mn) mn (a 16) mn) mn) (tDb (tR1 (a 0) mn) mn) (tCB (tR1 (a 0) mn) mn (a 15) mn) mn u) u))))) 14 (tCA (tR1 (a 0) mn) mn (a 14) mn)) 15 (tCB (tR1 (a 0) mn) mn (a 15) mn)) 16 (tCC (tR1 (a 0) mn) mn (a 16) mn)) := hM.of (by rw [up_cm _ 0 16 _ _ (by decide), up_cm _ 0 15 _ _ (by decide), up_cm _ 0 14 _ _ (by decide), bx_uu])
                          refine lv_iconst (v := 0) hx hb dX6_passes_250 (by decide) ?_
                          refine lv_istore (lv' := [(4, .int 0), (3, .int (nI u)), (2, .int (tNc (tDb (tR1 (a 0) mn) mn) mn)), (1, .int (dv (tDb (tR1 (a 0) mn) mn) mn)), (0, .ref h)]) hx hb dX6_passes_251 hl (by decide) rfl (fun ls hl => ?_)
                          have hloop_253 : ∀ (n9_253 : Nat) (v : Nat), (v ≤ mn) → (mn - v) < n9_253 → ∀ (w : wd) (H : Heap) (locs : List Loc) (ls : Array Slot), tM E w h ad f (va_up (va_up (va_up (va_up a 0 (tQ4 (va_up (tP4 (tP3 (tR2 (a 0) mn) (tDb (tR1 (a 0) mn) mn) (tCA (tR1 (a 0) mn) mn (a 14) mn) (tCC (tR1 (a 0) mn) mn (a 16) mn) mn) (tDb (tR1 (a 0) mn) mn) (tCB (tR1 (a 0) mn) mn (a 15) mn) mn u) (kO u 8) ((tP4 (tP3 (tR2 (a 0) mn) (tDb (tR1 (a 0) mn) mn) (tCA (tR1 (a 0) mn) mn (a 14) mn) (tCC (tR1 (a 0) mn) mn (a 16) mn) mn) (tDb (tR1 (a 0) mn) mn) (tCB (tR1 (a 0) mn) mn (a 15) mn) mn u) (kO u 8) + nI (tHt (tP4 (tP3 (tR2 (a 0) mn) (tDb (tR1 (a 0) mn) mn) (tCA (tR1 (a 0) mn) mn (a 14) mn) (tCC (tR1 (a 0) mn) mn (a 16) mn) mn) (tDb (tR1 (a 0) mn) mn) (tCB (tR1 (a 0) mn) mn (a 15) mn) mn u) u))) u (tDb (tR1 (a 0) mn) mn) (tCB (tR1 (a 0) mn) mn (a 15) mn) v)) 14 (tCA (tR1 (a 0) mn) mn (a 14) mn)) 15 (tCB (tR1 (a 0) mn) mn (a 15) mn)) 16 (tCC (tR1 (a 0) mn) mn (a 16) mn)) → fr tP w0 w → wP E w H → va_S (gA E) s.heap H locs → lv_has ls 5 [(4, .int (nI v)), (3, .int (nI u)), (2, .int (tNc (tDb (tR1 (a 0) mn) mn) mn)), (1, .int (dv (tDb (tR1 (a 0) mn) mn) mn)), (0, .ref h)] → W p l0 e rmCX6_passes s m args below meth c H locs 0 0 Q (F0 m 253 ls []) := by
                            intro n9_253
                            induction n9_253 with
                            | zero => intro v hv hn; exact absurd hn (Nat.not_lt_zero _)
                            | succ n9_253 ih_253 =>
                              intro v hv hn_253 w H locs ls hM hF hP hS hl
                              refine lv_iload hx hb dX6_passes_253 (lv_at hl 0 rfl) ?_
                              refine lv_aload_n hx hb dX6_passes_255 rfl (lv_at hl 4 rfl) ?_
                              refine tw_get hx hb hts hown hG hP hM 0 (by decide) (hts _ q1620) (fun _ h9 => h9) (v := .ref (ad 0)) rfl dX6_passes_256 ?_
                              refine lv_bipush (v := 25) hx hb dX6_passes_259 (by decide) ?_
                              refine tw_ald hx hb hG hP hM 0 (by decide) (j := 25) (show 25 < 116 from by omega) dX6_passes_261 ?_
                              refine k_top (y := ((tQ4 (va_up (tP4 (tP3 (tR2 (a 0) mn) (tDb (tR1 (a 0) mn) mn) (tCA (tR1 (a 0) mn) mn (a 14) mn) (tCC (tR1 (a 0) mn) mn (a 16) mn) mn) (tDb (tR1 (a 0) mn) mn) (tCB (tR1 (a 0) mn) mn (a 15) mn) mn u) (kO u 8) ((tP4 (tP3 (tR2 (a 0) mn) (tDb (tR1 (a 0) mn) mn) (tCA (tR1 (a 0) mn) mn (a 14) mn) (tCC (tR1 (a 0) mn) mn (a 16) mn) mn) (tDb (tR1 (a 0) mn) mn) (tCB (tR1 (a 0) mn) mn (a 15) mn) mn u) (kO u 8) + nI (tHt (tP4 (tP3 (tR2 (a 0) mn) (tDb (tR1 (a 0) mn) mn) (tCA (tR1 (a 0) mn) mn (a 14) mn) (tCC (tR1 (a 0) mn) mn (a 16) mn) mn) (tDb (tR1 (a 0) mn) mn) (tCB (tR1 (a 0) mn) mn (a 15) mn) mn u) u))) u (tDb (tR1 (a 0) mn) mn) (tCB (tR1 (a 0) mn) mn (a 15) mn) v) 25)) rfl ?_
                              refine k_top (y := (nI mn)) ((by rw [tQ4_lo (kO_lo (by omega)), up_n (kO_lo (by omega)), tP4_lo (fun k => kO_lo (by omega)), tP3_lo (by omega) (by omega) (by omega) (by omega), tR2, tP2_lo (fun k => kO_lo (by omega)), tR1, tP1_lo (by omega) (by omega) (by omega), tG0_lo (by omega)]; exact hm)) ?_
                              refine k_icmp_geN (x := v) (y := mn) (tgt := 309) hx hb (by omega) (by omega) dX6_passes_262 (by decide) (fun c262 => ?_) (fun c262 => ?_)
                              · skip
                                refine lv_iinc (v := (nI (u + 1))) (lv' := [(3, .int (nI (u + 1))), (4, .int (nI v)), (2, .int (tNc (tDb (tR1 (a 0) mn) mn) mn)), (1, .int (dv (tDb (tR1 (a 0) mn) mn) mn)), (0, .ref h)]) hx hb dX6_passes_309 hl (k := 1) rfl (nI_add u 1) (by decide) rfl (fun ls hl => ?_)
                                refine lv_goto (tgt := 219) hx hb dX6_passes_312 (by decide) ?_
                                have hl := lv_sub (l' := [(3, .int (nI (u + 1))), (2, .int (tNc (tDb (tR1 (a 0) mn) mn) mn)), (1, .int (dv (tDb (tR1 (a 0) mn) mn) mn)), (0, .ref h)]) hl [0, 2, 3, 4] rfl
                                have hM : tM E w h ad f (va_up (va_up (va_up (va_up a 0 (tP4 (tP3 (tR2 (a 0) mn) (tDb (tR1 (a 0) mn) mn) (tCA (tR1 (a 0) mn) mn (a 14) mn) (tCC (tR1 (a 0) mn) mn (a 16) mn) mn) (tDb (tR1 (a 0) mn) mn) (tCB (tR1 (a 0) mn) mn (a 15) mn) mn (u + 1))) 14 (tCA (tR1 (a 0) mn) mn (a 14) mn)) 15 (tCB (tR1 (a 0) mn) mn (a 15) mn)) 16 (tCC (tR1 (a 0) mn) mn (a 16) mn)) := hM.of (by rw [show v = mn from by omega]; rfl)
                                exact ih_219 (u + 1) (by omega) (by omega) _ _ _ _ hM hF hP hS hl
                              · skip
                                refine lv_iload_n hx hb dX6_passes_265 rfl (lv_at hl 3 rfl) ?_
                                refine lv_iload hx hb dX6_passes_266 (lv_at hl 0 rfl) ?_
                                refine lv_ishr hx hb dX6_passes_268 ?_
                                refine lv_iconst (v := 1) hx hb dX6_passes_269 (by decide) ?_
                                refine lv_iand hx hb dX6_passes_270 ?_
                                refine k_top (y := (bI ((tDb (tR1 (a 0) mn) mn) v))) (dv_bit (by omega) (by omega)) ?_
                                refine lv_iconst (v := 1) hx hb dX6_passes_271 (by decide) ?_
                                refine lv_icmp_ne (tgt := 303) hx hb dX6_passes_272 (by decide) (fun c272 => ?_) (fun c272 => ?_)
                                · skip
                                  rw [bI_1] at c272
                                  refine lv_iinc (v := (nI (v + 1))) (lv' := [(4, .int (nI (v + 1))), (3, .int (nI u)), (2, .int (tNc (tDb (tR1 (a 0) mn) mn) mn)), (1, .int (dv (tDb (tR1 (a 0) mn) mn) mn)), (0, .ref h)]) hx hb dX6_passes_303 hl (k := 0) rfl (nI_add v 1) (by decide) rfl (fun ls hl => ?_)
                                  refine lv_goto (tgt := 253) hx hb dX6_passes_306 (by decide) ?_
                                  have hl : lv_has ls 5 [(4, .int (nI (v + 1))), (3, .int (nI u)), (2, .int (tNc (tDb (tR1 (a 0) mn) mn) mn)), (1, .int (dv (tDb (tR1 (a 0) mn) mn) mn)), (0, .ref h)] := hl
                                  have hM : tM E w h ad f (va_up (va_up (va_up (va_up a 0 (tQ4 (va_up (tP4 (tP3 (tR2 (a 0) mn) (tDb (tR1 (a 0) mn) mn) (tCA (tR1 (a 0) mn) mn (a 14) mn) (tCC (tR1 (a 0) mn) mn (a 16) mn) mn) (tDb (tR1 (a 0) mn) mn) (tCB (tR1 (a 0) mn) mn (a 15) mn) mn u) (kO u 8) ((tP4 (tP3 (tR2 (a 0) mn) (tDb (tR1 (a 0) mn) mn) (tCA (tR1 (a 0) mn) mn (a 14) mn) (tCC (tR1 (a 0) mn) mn (a 16) mn) mn) (tDb (tR1 (a 0) mn) mn) (tCB (tR1 (a 0) mn) mn (a 15) mn) mn u) (kO u 8) + nI (tHt (tP4 (tP3 (tR2 (a 0) mn) (tDb (tR1 (a 0) mn) mn) (tCA (tR1 (a 0) mn) mn (a 14) mn) (tCC (tR1 (a 0) mn) mn (a 16) mn) mn) (tDb (tR1 (a 0) mn) mn) (tCB (tR1 (a 0) mn) mn (a 15) mn) mn u) u))) u (tDb (tR1 (a 0) mn) mn) (tCB (tR1 (a 0) mn) mn (a 15) mn) (v + 1))) 14 (tCA (tR1 (a 0) mn) mn (a 14) mn)) 15 (tCB (tR1 (a 0) mn) mn (a 15) mn)) 16 (tCC (tR1 (a 0) mn) mn (a 16) mn)) := hM.of (by first | rw [tQ4_t c272 c283] | rw [tQ4_f c272] | rw [tQ4_g c283])
                                  exact ih_253 (v + 1) (by omega) (by omega) _ _ _ _ hM hF hP hS hl
                                · skip
                                  rw [bI_1] at c272
                                  refine lv_aload_n hx hb dX6_passes_275 rfl (lv_at hl 4 rfl) ?_
                                  refine tw_get hx hb hts hown hG hP hM 15 (by decide) (hts _ q1635) (fun _ h9 => h9) (v := .ref (ad 15)) rfl dX6_passes_276 ?_
                                  refine lv_iload hx hb dX6_passes_279 (lv_at hl 0 rfl) ?_
                                  refine tw_ald hx hb hG hP hM 15 (by decide) (j := v) (show v < 6 from by omega) dX6_passes_281 ?_
                                  refine k_top (y := ((tCB (tR1 (a 0) mn) mn (a 15) mn) v)) rfl ?_
                                  refine lv_iload_n hx hb dX6_passes_282 rfl (lv_at hl 1 rfl) ?_
                                  refine lv_icmp_ne (tgt := 303) hx hb dX6_passes_283 (by decide) (fun c283 => ?_) (fun c283 => ?_)
                                  · skip
                                    refine lv_iinc (v := (nI (v + 1))) (lv' := [(4, .int (nI (v + 1))), (3, .int (nI u)), (2, .int (tNc (tDb (tR1 (a 0) mn) mn) mn)), (1, .int (dv (tDb (tR1 (a 0) mn) mn) mn)), (0, .ref h)]) hx hb dX6_passes_303 hl (k := 0) rfl (nI_add v 1) (by decide) rfl (fun ls hl => ?_)
                                    refine lv_goto (tgt := 253) hx hb dX6_passes_306 (by decide) ?_
                                    have hl : lv_has ls 5 [(4, .int (nI (v + 1))), (3, .int (nI u)), (2, .int (tNc (tDb (tR1 (a 0) mn) mn) mn)), (1, .int (dv (tDb (tR1 (a 0) mn) mn) mn)), (0, .ref h)] := hl
                                    have hM : tM E w h ad f (va_up (va_up (va_up (va_up a 0 (tQ4 (va_up (tP4 (tP3 (tR2 (a 0) mn) (tDb (tR1 (a 0) mn) mn) (tCA (tR1 (a 0) mn) mn (a 14) mn) (tCC (tR1 (a 0) mn) mn (a 16) mn) mn) (tDb (tR1 (a 0) mn) mn) (tCB (tR1 (a 0) mn) mn (a 15) mn) mn u) (kO u 8) ((tP4 (tP3 (tR2 (a 0) mn) (tDb (tR1 (a 0) mn) mn) (tCA (tR1 (a 0) mn) mn (a 14) mn) (tCC (tR1 (a 0) mn) mn (a 16) mn) mn) (tDb (tR1 (a 0) mn) mn) (tCB (tR1 (a 0) mn) mn (a 15) mn) mn u) (kO u 8) + nI (tHt (tP4 (tP3 (tR2 (a 0) mn) (tDb (tR1 (a 0) mn) mn) (tCA (tR1 (a 0) mn) mn (a 14) mn) (tCC (tR1 (a 0) mn) mn (a 16) mn) mn) (tDb (tR1 (a 0) mn) mn) (tCB (tR1 (a 0) mn) mn (a 15) mn) mn u) u))) u (tDb (tR1 (a 0) mn) mn) (tCB (tR1 (a 0) mn) mn (a 15) mn) (v + 1))) 14 (tCA (tR1 (a 0) mn) mn (a 14) mn)) 15 (tCB (tR1 (a 0) mn) mn (a 15) mn)) 16 (tCC (tR1 (a 0) mn) mn (a 16) mn)) := hM.of (by first | rw [tQ4_t c272 c283] | rw [tQ4_f c272] | rw [tQ4_g c283])
                                    exact ih_253 (v + 1) (by omega) (by omega) _ _ _ _ hM hF hP hS hl
                                  · skip
                                    refine lv_aload_n hx hb dX6_passes_286 rfl (lv_at hl 4 rfl) ?_
                                    refine lv_iload_n hx hb dX6_passes_287 rfl (lv_at hl 1 rfl) ?_
                                    refine lv_bipush (v := 8) hx hb dX6_passes_288 (by decide) ?_
                                    refine lv_aload_n hx hb dX6_passes_290 rfl (lv_at hl 4 rfl) ?_
                                    refine lv_iload_n hx hb dX6_passes_291 rfl (lv_at hl 1 rfl) ?_
                                    refine lv_bipush (v := 8) hx hb dX6_passes_292 (by decide) ?_
                                    refine tw_cR hx hb hml hown hts (val := (tQ4 (va_up (tP4 (tP3 (tR2 (a 0) mn) (tDb (tR1 (a 0) mn) mn) (tCA (tR1 (a 0) mn) mn (a 14) mn) (tCC (tR1 (a 0) mn) mn (a 16) mn) mn) (tDb (tR1 (a 0) mn) mn) (tCB (tR1 (a 0) mn) mn (a 15) mn) mn u) (kO u 8) ((tP4 (tP3 (tR2 (a 0) mn) (tDb (tR1 (a 0) mn) mn) (tCA (tR1 (a 0) mn) mn (a 14) mn) (tCC (tR1 (a 0) mn) mn (a 16) mn) mn) (tDb (tR1 (a 0) mn) mn) (tCB (tR1 (a 0) mn) mn (a 15) mn) mn u) (kO u 8) + nI (tHt (tP4 (tP3 (tR2 (a 0) mn) (tDb (tR1 (a 0) mn) mn) (tCA (tR1 (a 0) mn) mn (a 14) mn) (tCC (tR1 (a 0) mn) mn (a 16) mn) mn) (tDb (tR1 (a 0) mn) mn) (tCB (tR1 (a 0) mn) mn (a 15) mn) mn u) u))) u (tDb (tR1 (a 0) mn) mn) (tCB (tR1 (a 0) mn) mn (a 15) mn) v) (kO u 8)) (CX6_of l0 E w h ad f (va_up (va_up (va_up (va_up a 0 (tQ4 (va_up (tP4 (tP3 (tR2 (a 0) mn) (tDb (tR1 (a 0) mn) mn) (tCA (tR1 (a 0) mn) mn (a 14) mn) (tCC (tR1 (a 0) mn) mn (a 16) mn) mn) (tDb (tR1 (a 0) mn) mn) (tCB (tR1 (a 0) mn) mn (a 15) mn) mn u) (kO u 8) ((tP4 (tP3 (tR2 (a 0) mn) (tDb (tR1 (a 0) mn) mn) (tCA (tR1 (a 0) mn) mn (a 14) mn) (tCC (tR1 (a 0) mn) mn (a 16) mn) mn) (tDb (tR1 (a 0) mn) mn) (tCB (tR1 (a 0) mn) mn (a 15) mn) mn u) (kO u 8) + nI (tHt (tP4 (tP3 (tR2 (a 0) mn) (tDb (tR1 (a 0) mn) mn) (tCA (tR1 (a 0) mn) mn (a 14) mn) (tCC (tR1 (a 0) mn) mn (a 16) mn) mn) (tDb (tR1 (a 0) mn) mn) (tCB (tR1 (a 0) mn) mn (a 15) mn) mn u) u))) u (tDb (tR1 (a 0) mn) mn) (tCB (tR1 (a 0) mn) mn (a 15) mn) v)) 14 (tCA (tR1 (a 0) mn) mn (a 14) mn)) 15 (tCB (tR1 (a 0) mn) mn (a 15) mn)) 16 (tCC (tR1 (a 0) mn) mn (a 16) mn)) u 8 hM (by omega) (by omega)) (cwV 2 hts (lw_V q1730 q1732 qs40 q81 q1733) rfl rfl rfl dyX6_of ⟨Nat.le_of_ble_eq_true rfl, Nat.le_of_ble_eq_true rfl⟩) hG hP hS hM (As := [.int (nI u), .int 8]) (rest := [.int 8, .int (nI u), .ref h]) rfl hl.1 rfl (lv_room (Nat.le_of_ble_eq_true rfl)) dX6_passes_294 ⟨by omega, by omega⟩ (fun H locs hP hS => ?_)
                                    refine lv_bipush (v := 10) hx hb dX6_passes_297 (by decide) ?_
                                    refine lv_iadd hx hb dX6_passes_299 ?_
                                    refine tw_cW hx hb hml hown hts (CX6_lays l0 E w h ad f (va_up (va_up (va_up (va_up a 0 (tQ4 (va_up (tP4 (tP3 (tR2 (a 0) mn) (tDb (tR1 (a 0) mn) mn) (tCA (tR1 (a 0) mn) mn (a 14) mn) (tCC (tR1 (a 0) mn) mn (a 16) mn) mn) (tDb (tR1 (a 0) mn) mn) (tCB (tR1 (a 0) mn) mn (a 15) mn) mn u) (kO u 8) ((tP4 (tP3 (tR2 (a 0) mn) (tDb (tR1 (a 0) mn) mn) (tCA (tR1 (a 0) mn) mn (a 14) mn) (tCC (tR1 (a 0) mn) mn (a 16) mn) mn) (tDb (tR1 (a 0) mn) mn) (tCB (tR1 (a 0) mn) mn (a 15) mn) mn u) (kO u 8) + nI (tHt (tP4 (tP3 (tR2 (a 0) mn) (tDb (tR1 (a 0) mn) mn) (tCA (tR1 (a 0) mn) mn (a 14) mn) (tCC (tR1 (a 0) mn) mn (a 16) mn) mn) (tDb (tR1 (a 0) mn) mn) (tCB (tR1 (a 0) mn) mn (a 15) mn) mn u) u))) u (tDb (tR1 (a 0) mn) mn) (tCB (tR1 (a 0) mn) mn (a 15) mn) v)) 14 (tCA (tR1 (a 0) mn) mn (a 14) mn)) 15 (tCB (tR1 (a 0) mn) mn (a 15) mn)) 16 (tCC (tR1 (a 0) mn) mn (a 16) mn)) u 8 ((tQ4 (va_up (tP4 (tP3 (tR2 (a 0) mn) (tDb (tR1 (a 0) mn) mn) (tCA (tR1 (a 0) mn) mn (a 14) mn) (tCC (tR1 (a 0) mn) mn (a 16) mn) mn) (tDb (tR1 (a 0) mn) mn) (tCB (tR1 (a 0) mn) mn (a 15) mn) mn u) (kO u 8) ((tP4 (tP3 (tR2 (a 0) mn) (tDb (tR1 (a 0) mn) mn) (tCA (tR1 (a 0) mn) mn (a 14) mn) (tCC (tR1 (a 0) mn) mn (a 16) mn) mn) (tDb (tR1 (a 0) mn) mn) (tCB (tR1 (a 0) mn) mn (a 15) mn) mn u) (kO u 8) + nI (tHt (tP4 (tP3 (tR2 (a 0) mn) (tDb (tR1 (a 0) mn) mn) (tCA (tR1 (a 0) mn) mn (a 14) mn) (tCC (tR1 (a 0) mn) mn (a 16) mn) mn) (tDb (tR1 (a 0) mn) mn) (tCB (tR1 (a 0) mn) mn (a 15) mn) mn u) u))) u (tDb (tR1 (a 0) mn) mn) (tCB (tR1 (a 0) mn) mn (a 15) mn) v) (kO u 8) + 10) hM (by omega) (by omega)) (cwV 3 hts (lw_V q1718 q1720 qs38 q81 q1721) rfl rfl rfl dyX6_lays ⟨Nat.le_of_ble_eq_true rfl, Nat.le_of_ble_eq_true rfl⟩) hG hP hS hM hF (As := [.int (nI u), .int 8, .int ((tQ4 (va_up (tP4 (tP3 (tR2 (a 0) mn) (tDb (tR1 (a 0) mn) mn) (tCA (tR1 (a 0) mn) mn (a 14) mn) (tCC (tR1 (a 0) mn) mn (a 16) mn) mn) (tDb (tR1 (a 0) mn) mn) (tCB (tR1 (a 0) mn) mn (a 15) mn) mn u) (kO u 8) ((tP4 (tP3 (tR2 (a 0) mn) (tDb (tR1 (a 0) mn) mn) (tCA (tR1 (a 0) mn) mn (a 14) mn) (tCC (tR1 (a 0) mn) mn (a 16) mn) mn) (tDb (tR1 (a 0) mn) mn) (tCB (tR1 (a 0) mn) mn (a 15) mn) mn u) (kO u 8) + nI (tHt (tP4 (tP3 (tR2 (a 0) mn) (tDb (tR1 (a 0) mn) mn) (tCA (tR1 (a 0) mn) mn (a 14) mn) (tCC (tR1 (a 0) mn) mn (a 16) mn) mn) (tDb (tR1 (a 0) mn) mn) (tCB (tR1 (a 0) mn) mn (a 15) mn) mn u) u))) u (tDb (tR1 (a 0) mn) mn) (tCB (tR1 (a 0) mn) mn (a 15) mn) v) (kO u 8) + 10)]) (rest := []) rfl hl.1 rfl (lv_room (Nat.le_of_ble_eq_true rfl)) dX6_passes_300 ⟨by omega, by omega⟩ (fun r300 f300 a300 w H locs hp hM hF hP hS => ?_)
                                    obtain ⟨hp1, hp2⟩ := hp
                                    have hM := hM.ofF hp1 hp2
                                    have hM : tM E w h ad f (va_up (va_up (va_up (va_up (va_up a 0 (tQ4 (va_up (tP4 (tP3 (tR2 (a 0) mn) (tDb (tR1 (a 0) mn) mn) (tCA (tR1 (a 0) mn) mn (a 14) mn) (tCC (tR1 (a 0) mn) mn (a 16) mn) mn) (tDb (tR1 (a 0) mn) mn) (tCB (tR1 (a 0) mn) mn (a 15) mn) mn u) (kO u 8) ((tP4 (tP3 (tR2 (a 0) mn) (tDb (tR1 (a 0) mn) mn) (tCA (tR1 (a 0) mn) mn (a 14) mn) (tCC (tR1 (a 0) mn) mn (a 16) mn) mn) (tDb (tR1 (a 0) mn) mn) (tCB (tR1 (a 0) mn) mn (a 15) mn) mn u) (kO u 8) + nI (tHt (tP4 (tP3 (tR2 (a 0) mn) (tDb (tR1 (a 0) mn) mn) (tCA (tR1 (a 0) mn) mn (a 14) mn) (tCC (tR1 (a 0) mn) mn (a 16) mn) mn) (tDb (tR1 (a 0) mn) mn) (tCB (tR1 (a 0) mn) mn (a 15) mn) mn u) u))) u (tDb (tR1 (a 0) mn) mn) (tCB (tR1 (a 0) mn) mn (a 15) mn) v)) 14 (tCA (tR1 (a 0) mn) mn (a 14) mn)) 15 (tCB (tR1 (a 0) mn) mn (a 15) mn)) 16 (tCC (tR1 (a 0) mn) mn (a 16) mn)) 0 (va_up (tQ4 (va_up (tP4 (tP3 (tR2 (a 0) mn) (tDb (tR1 (a 0) mn) mn) (tCA (tR1 (a 0) mn) mn (a 14) mn) (tCC (tR1 (a 0) mn) mn (a 16) mn) mn) (tDb (tR1 (a 0) mn) mn) (tCB (tR1 (a 0) mn) mn (a 15) mn) mn u) (kO u 8) ((tP4 (tP3 (tR2 (a 0) mn) (tDb (tR1 (a 0) mn) mn) (tCA (tR1 (a 0) mn) mn (a 14) mn) (tCC (tR1 (a 0) mn) mn (a 16) mn) mn) (tDb (tR1 (a 0) mn) mn) (tCB (tR1 (a 0) mn) mn (a 15) mn) mn u) (kO u 8) + nI (tHt (tP4 (tP3 (tR2 (a 0) mn) (tDb (tR1 (a 0) mn) mn) (tCA (tR1 (a 0) mn) mn (a 14) mn) (tCC (tR1 (a 0) mn) mn (a 16) mn) mn) (tDb (tR1 (a 0) mn) mn) (tCB (tR1 (a 0) mn) mn (a 15) mn) mn u) u))) u (tDb (tR1 (a 0) mn) mn) (tCB (tR1 (a 0) mn) mn (a 15) mn) v) (kO u 8) ((tQ4 (va_up (tP4 (tP3 (tR2 (a 0) mn) (tDb (tR1 (a 0) mn) mn) (tCA (tR1 (a 0) mn) mn (a 14) mn) (tCC (tR1 (a 0) mn) mn (a 16) mn) mn) (tDb (tR1 (a 0) mn) mn) (tCB (tR1 (a 0) mn) mn (a 15) mn) mn u) (kO u 8) ((tP4 (tP3 (tR2 (a 0) mn) (tDb (tR1 (a 0) mn) mn) (tCA (tR1 (a 0) mn) mn (a 14) mn) (tCC (tR1 (a 0) mn) mn (a 16) mn) mn) (tDb (tR1 (a 0) mn) mn) (tCB (tR1 (a 0) mn) mn (a 15) mn) mn u) (kO u 8) + nI (tHt (tP4 (tP3 (tR2 (a 0) mn) (tDb (tR1 (a 0) mn) mn) (tCA (tR1 (a 0) mn) mn (a 14) mn) (tCC (tR1 (a 0) mn) mn (a 16) mn) mn) (tDb (tR1 (a 0) mn) mn) (tCB (tR1 (a 0) mn) mn (a 15) mn) mn u) u))) u (tDb (tR1 (a 0) mn) mn) (tCB (tR1 (a 0) mn) mn (a 15) mn) v) (kO u 8) + 10))) := hM
                                    have hM : tM E w h ad f (va_up (va_up (va_up (va_up a 0 (va_up (tQ4 (va_up (tP4 (tP3 (tR2 (a 0) mn) (tDb (tR1 (a 0) mn) mn) (tCA (tR1 (a 0) mn) mn (a 14) mn) (tCC (tR1 (a 0) mn) mn (a 16) mn) mn) (tDb (tR1 (a 0) mn) mn) (tCB (tR1 (a 0) mn) mn (a 15) mn) mn u) (kO u 8) ((tP4 (tP3 (tR2 (a 0) mn) (tDb (tR1 (a 0) mn) mn) (tCA (tR1 (a 0) mn) mn (a 14) mn) (tCC (tR1 (a 0) mn) mn (a 16) mn) mn) (tDb (tR1 (a 0) mn) mn) (tCB (tR1 (a 0) mn) mn (a 15) mn) mn u) (kO u 8) + nI (tHt (tP4 (tP3 (tR2 (a 0) mn) (tDb (tR1 (a 0) mn) mn) (tCA (tR1 (a 0) mn) mn (a 14) mn) (tCC (tR1 (a 0) mn) mn (a 16) mn) mn) (tDb (tR1 (a 0) mn) mn) (tCB (tR1 (a 0) mn) mn (a 15) mn) mn u) u))) u (tDb (tR1 (a 0) mn) mn) (tCB (tR1 (a 0) mn) mn (a 15) mn) v) (kO u 8) ((tQ4 (va_up (tP4 (tP3 (tR2 (a 0) mn) (tDb (tR1 (a 0) mn) mn) (tCA (tR1 (a 0) mn) mn (a 14) mn) (tCC (tR1 (a 0) mn) mn (a 16) mn) mn) (tDb (tR1 (a 0) mn) mn) (tCB (tR1 (a 0) mn) mn (a 15) mn) mn u) (kO u 8) ((tP4 (tP3 (tR2 (a 0) mn) (tDb (tR1 (a 0) mn) mn) (tCA (tR1 (a 0) mn) mn (a 14) mn) (tCC (tR1 (a 0) mn) mn (a 16) mn) mn) (tDb (tR1 (a 0) mn) mn) (tCB (tR1 (a 0) mn) mn (a 15) mn) mn u) (kO u 8) + nI (tHt (tP4 (tP3 (tR2 (a 0) mn) (tDb (tR1 (a 0) mn) mn) (tCA (tR1 (a 0) mn) mn (a 14) mn) (tCC (tR1 (a 0) mn) mn (a 16) mn) mn) (tDb (tR1 (a 0) mn) mn) (tCB (tR1 (a 0) mn) mn (a 15) mn) mn u) u))) u (tDb (tR1 (a 0) mn) mn) (tCB (tR1 (a 0) mn) mn (a 15) mn) v) (kO u 8) + 10))) 14 (tCA (tR1 (a 0) mn) mn (a 14) mn)) 15 (tCB (tR1 (a 0) mn) mn (a 15) mn)) 16 (tCC (tR1 (a 0) mn) mn (a 16) mn)) := hM.of (by rw [up_cm _ 0 16 _ _ (by decide), up_cm _ 0 15 _ _ (by decide), up_cm _ 0 14 _ _ (by decide), bx_uu])
                                    refine lv_iinc (v := (nI (v + 1))) (lv' := [(4, .int (nI (v + 1))), (3, .int (nI u)), (2, .int (tNc (tDb (tR1 (a 0) mn) mn) mn)), (1, .int (dv (tDb (tR1 (a 0) mn) mn) mn)), (0, .ref h)]) hx hb dX6_passes_303 hl (k := 0) rfl (nI_add v 1) (by decide) rfl (fun ls hl => ?_)
                                    refine lv_goto (tgt := 253) hx hb dX6_passes_306 (by decide) ?_
                                    have hl : lv_has ls 5 [(4, .int (nI (v + 1))), (3, .int (nI u)), (2, .int (tNc (tDb (tR1 (a 0) mn) mn) mn)), (1, .int (dv (tDb (tR1 (a 0) mn) mn) mn)), (0, .ref h)] := hl
                                    have hM : tM E w h ad f (va_up (va_up (va_up (va_up a 0 (tQ4 (va_up (tP4 (tP3 (tR2 (a 0) mn) (tDb (tR1 (a 0) mn) mn) (tCA (tR1 (a 0) mn) mn (a 14) mn) (tCC (tR1 (a 0) mn) mn (a 16) mn) mn) (tDb (tR1 (a 0) mn) mn) (tCB (tR1 (a 0) mn) mn (a 15) mn) mn u) (kO u 8) ((tP4 (tP3 (tR2 (a 0) mn) (tDb (tR1 (a 0) mn) mn) (tCA (tR1 (a 0) mn) mn (a 14) mn) (tCC (tR1 (a 0) mn) mn (a 16) mn) mn) (tDb (tR1 (a 0) mn) mn) (tCB (tR1 (a 0) mn) mn (a 15) mn) mn u) (kO u 8) + nI (tHt (tP4 (tP3 (tR2 (a 0) mn) (tDb (tR1 (a 0) mn) mn) (tCA (tR1 (a 0) mn) mn (a 14) mn) (tCC (tR1 (a 0) mn) mn (a 16) mn) mn) (tDb (tR1 (a 0) mn) mn) (tCB (tR1 (a 0) mn) mn (a 15) mn) mn u) u))) u (tDb (tR1 (a 0) mn) mn) (tCB (tR1 (a 0) mn) mn (a 15) mn) (v + 1))) 14 (tCA (tR1 (a 0) mn) mn (a 14) mn)) 15 (tCB (tR1 (a 0) mn) mn (a 15) mn)) 16 (tCC (tR1 (a 0) mn) mn (a 16) mn)) := hM.of (by first | rw [tQ4_t c272 c283] | rw [tQ4_f c272] | rw [tQ4_g c283])
                                    exact ih_253 (v + 1) (by omega) (by omega) _ _ _ _ hM hF hP hS hl
                          have hl : lv_has ls 5 [(4, .int (nI 0)), (3, .int (nI u)), (2, .int (tNc (tDb (tR1 (a 0) mn) mn) mn)), (1, .int (dv (tDb (tR1 (a 0) mn) mn) mn)), (0, .ref h)] := hl
                          have hM : tM E w h ad f (va_up (va_up (va_up (va_up a 0 (tQ4 (va_up (tP4 (tP3 (tR2 (a 0) mn) (tDb (tR1 (a 0) mn) mn) (tCA (tR1 (a 0) mn) mn (a 14) mn) (tCC (tR1 (a 0) mn) mn (a 16) mn) mn) (tDb (tR1 (a 0) mn) mn) (tCB (tR1 (a 0) mn) mn (a 15) mn) mn u) (kO u 8) ((tP4 (tP3 (tR2 (a 0) mn) (tDb (tR1 (a 0) mn) mn) (tCA (tR1 (a 0) mn) mn (a 14) mn) (tCC (tR1 (a 0) mn) mn (a 16) mn) mn) (tDb (tR1 (a 0) mn) mn) (tCB (tR1 (a 0) mn) mn (a 15) mn) mn u) (kO u 8) + nI (tHt (tP4 (tP3 (tR2 (a 0) mn) (tDb (tR1 (a 0) mn) mn) (tCA (tR1 (a 0) mn) mn (a 14) mn) (tCC (tR1 (a 0) mn) mn (a 16) mn) mn) (tDb (tR1 (a 0) mn) mn) (tCB (tR1 (a 0) mn) mn (a 15) mn) mn u) u))) u (tDb (tR1 (a 0) mn) mn) (tCB (tR1 (a 0) mn) mn (a 15) mn) 0)) 14 (tCA (tR1 (a 0) mn) mn (a 14) mn)) 15 (tCB (tR1 (a 0) mn) mn (a 15) mn)) 16 (tCC (tR1 (a 0) mn) mn (a 16) mn)) := hM
                          exact hloop_253 _ 0 (by omega) (Nat.lt_succ_self _) _ _ _ _ hM hF hP hS hl
                    have hl := Eq.mp (congrArg (fun z9 => lv_has ls 5 [(3, .int (nI 0)), (2, .int z9), (1, .int (dv (tDb (tR1 (a 0) mn) mn) mn)), (0, .ref h)]) (show (tNc (tDb (tR1 (a 0) mn) mn) q) = (tNc (tDb (tR1 (a 0) mn) mn) mn) from by rw [show q = mn from by omega])) hl
                    have hl : lv_has ls 5 [(3, .int (nI 0)), (2, .int (tNc (tDb (tR1 (a 0) mn) mn) mn)), (1, .int (dv (tDb (tR1 (a 0) mn) mn) mn)), (0, .ref h)] := hl
                    have hM : tM E w h ad f (va_up (va_up (va_up (va_up a 0 (tP4 (tP3 (tR2 (a 0) mn) (tDb (tR1 (a 0) mn) mn) (tCA (tR1 (a 0) mn) mn (a 14) mn) (tCC (tR1 (a 0) mn) mn (a 16) mn) mn) (tDb (tR1 (a 0) mn) mn) (tCB (tR1 (a 0) mn) mn (a 15) mn) mn 0)) 14 (tCA (tR1 (a 0) mn) mn (a 14) mn)) 15 (tCB (tR1 (a 0) mn) mn (a 15) mn)) 16 (tCC (tR1 (a 0) mn) mn (a 16) mn)) := hM.of (by obtain rfl : q = mn := (by omega); rfl)
                    exact hloop_219 _ 0 (by omega) (Nat.lt_succ_self _) _ _ _ _ hM hF hP hS hl
                  · skip
                    refine lv_iload_n hx hb dX6_passes_192 rfl (lv_at hl 2 rfl) ?_
                    refine lv_iload_n hx hb dX6_passes_193 rfl (lv_at hl 0 rfl) ?_
                    refine lv_ishr hx hb dX6_passes_194 ?_
                    refine lv_iconst (v := 1) hx hb dX6_passes_195 (by decide) ?_
                    refine lv_iand hx hb dX6_passes_196 ?_
                    refine k_top (y := (bI ((tDb (tR1 (a 0) mn) mn) q))) (dv_bit (by omega) (by omega)) ?_
                    refine k_ifneB (x := (tDb (tR1 (a 0) mn) mn) q) (tgt := 203) hx hb dX6_passes_197 (by decide) (fun c197 => ?_) (fun c197 => ?_)
                    · skip
                      have hz := tDb_N (c := (a 14)) c197 (by omega)
                      refine lv_aload_n hx hb dX6_passes_203 rfl (lv_at hl 3 rfl) ?_
                      refine lv_iload_n hx hb dX6_passes_204 rfl (lv_at hl 0 rfl) ?_
                      refine tw_cW hx hb hml hown hts (CX6_cuts l0 E w h ad f (va_up (va_up (va_up (va_up a 0 (tP3 (tR2 (a 0) mn) (tDb (tR1 (a 0) mn) mn) (tCA (tR1 (a 0) mn) mn (a 14) mn) (tCC (tR1 (a 0) mn) mn (a 16) mn) q)) 14 (tCA (tR1 (a 0) mn) mn (a 14) mn)) 15 (tCB (tR1 (a 0) mn) mn (a 15) mn)) 16 (tCC (tR1 (a 0) mn) mn (a 16) mn)) q (((tCA (tR1 (a 0) mn) mn (a 14) mn) q).toNatClampNeg) hM (by omega) hz.2 hz.1) (cwV 1 hts (lw_V q1848 q1850 qs57 q81 q1851) rfl rfl rfl dyX6_cuts ⟨Nat.le_of_ble_eq_true rfl, Nat.le_of_ble_eq_true rfl⟩) hG hP hS hM hF (As := [.int (nI q)]) (rest := []) rfl hl.1 rfl (lv_room (Nat.le_of_ble_eq_true rfl)) dX6_passes_205 ⟨by omega, by omega⟩ (fun r205 f205 a205 w H locs hp hM hF hP hS => ?_)
                      obtain ⟨hp1, hp2⟩ := hp
                      have hM := hM.ofF hp1 hp2
                      have hM : tM E w h ad f (va_up (va_up (va_up (va_up (va_up a 0 (tP3 (tR2 (a 0) mn) (tDb (tR1 (a 0) mn) mn) (tCA (tR1 (a 0) mn) mn (a 14) mn) (tCC (tR1 (a 0) mn) mn (a 16) mn) q)) 14 (tCA (tR1 (a 0) mn) mn (a 14) mn)) 15 (tCB (tR1 (a 0) mn) mn (a 15) mn)) 16 (tCC (tR1 (a 0) mn) mn (a 16) mn)) 0 (tCu (tP3 (tR2 (a 0) mn) (tDb (tR1 (a 0) mn) mn) (tCA (tR1 (a 0) mn) mn (a 14) mn) (tCC (tR1 (a 0) mn) mn (a 16) mn) q) q (tBl (tP3 (tR2 (a 0) mn) (tDb (tR1 (a 0) mn) mn) (tCA (tR1 (a 0) mn) mn (a 14) mn) (tCC (tR1 (a 0) mn) mn (a 16) mn) q) q (((tCA (tR1 (a 0) mn) mn (a 14) mn) q).toNatClampNeg)) ((tP3 (tR2 (a 0) mn) (tDb (tR1 (a 0) mn) mn) (tCA (tR1 (a 0) mn) mn (a 14) mn) (tCC (tR1 (a 0) mn) mn (a 16) mn) q) (kO q 5) - tBl (tP3 (tR2 (a 0) mn) (tDb (tR1 (a 0) mn) mn) (tCA (tR1 (a 0) mn) mn (a 14) mn) (tCC (tR1 (a 0) mn) mn (a 16) mn) q) q (((tCA (tR1 (a 0) mn) mn (a 14) mn) q).toNatClampNeg)) (nI (((tCA (tR1 (a 0) mn) mn (a 14) mn) q).toNatClampNeg)) ((tCC (tR1 (a 0) mn) mn (a 16) mn) q))) := hM
                      have hM : tM E w h ad f (va_up (va_up (va_up (va_up a 0 (tCu (tP3 (tR2 (a 0) mn) (tDb (tR1 (a 0) mn) mn) (tCA (tR1 (a 0) mn) mn (a 14) mn) (tCC (tR1 (a 0) mn) mn (a 16) mn) q) q (tBl (tP3 (tR2 (a 0) mn) (tDb (tR1 (a 0) mn) mn) (tCA (tR1 (a 0) mn) mn (a 14) mn) (tCC (tR1 (a 0) mn) mn (a 16) mn) q) q (((tCA (tR1 (a 0) mn) mn (a 14) mn) q).toNatClampNeg)) ((tP3 (tR2 (a 0) mn) (tDb (tR1 (a 0) mn) mn) (tCA (tR1 (a 0) mn) mn (a 14) mn) (tCC (tR1 (a 0) mn) mn (a 16) mn) q) (kO q 5) - tBl (tP3 (tR2 (a 0) mn) (tDb (tR1 (a 0) mn) mn) (tCA (tR1 (a 0) mn) mn (a 14) mn) (tCC (tR1 (a 0) mn) mn (a 16) mn) q) q (((tCA (tR1 (a 0) mn) mn (a 14) mn) q).toNatClampNeg)) (nI (((tCA (tR1 (a 0) mn) mn (a 14) mn) q).toNatClampNeg)) ((tCC (tR1 (a 0) mn) mn (a 16) mn) q))) 14 (tCA (tR1 (a 0) mn) mn (a 14) mn)) 15 (tCB (tR1 (a 0) mn) mn (a 15) mn)) 16 (tCC (tR1 (a 0) mn) mn (a 16) mn)) := hM.of (by rw [up_cm _ 0 16 _ _ (by decide), up_cm _ 0 15 _ _ (by decide), up_cm _ 0 14 _ _ (by decide), bx_uu])
                      refine lv_iinc (v := ((tNc (tDb (tR1 (a 0) mn) mn) q) + 1)) (lv' := [(2, .int ((tNc (tDb (tR1 (a 0) mn) mn) q) + 1)), (3, .int (nI q)), (1, .int (dv (tDb (tR1 (a 0) mn) mn) mn)), (0, .ref h)]) hx hb dX6_passes_208 hl (k := 1) rfl rfl (by decide) rfl (fun ls hl => ?_)
                      refine lv_iinc (v := (nI (q + 1))) (lv' := [(3, .int (nI (q + 1))), (2, .int ((tNc (tDb (tR1 (a 0) mn) mn) q) + 1)), (1, .int (dv (tDb (tR1 (a 0) mn) mn) mn)), (0, .ref h)]) hx hb dX6_passes_211 hl (k := 1) rfl (nI_add q 1) (by decide) rfl (fun ls hl => ?_)
                      refine lv_goto (tgt := 181) hx hb dX6_passes_214 (by decide) ?_
                      have hl := Eq.mp (congrArg (fun z9 => lv_has ls 5 [(3, .int (nI (q + 1))), (2, .int z9), (1, .int (dv (tDb (tR1 (a 0) mn) mn) mn)), (0, .ref h)]) (show ((tNc (tDb (tR1 (a 0) mn) mn) q) + 1) = (tNc (tDb (tR1 (a 0) mn) mn) (q + 1)) from by first | rw [tNc_t c197] | rw [tNc_f c197])) hl
                      have hl : lv_has ls 5 [(3, .int (nI (q + 1))), (2, .int (tNc (tDb (tR1 (a 0) mn) mn) (q + 1))), (1, .int (dv (tDb (tR1 (a 0) mn) mn) mn)), (0, .ref h)] := hl
                      have hM : tM E w h ad f (va_up (va_up (va_up (va_up a 0 (tP3 (tR2 (a 0) mn) (tDb (tR1 (a 0) mn) mn) (tCA (tR1 (a 0) mn) mn (a 14) mn) (tCC (tR1 (a 0) mn) mn (a 16) mn) (q + 1))) 14 (tCA (tR1 (a 0) mn) mn (a 14) mn)) 15 (tCB (tR1 (a 0) mn) mn (a 15) mn)) 16 (tCC (tR1 (a 0) mn) mn (a 16) mn)) := hM.of (by first | rw [tP3_t c197] | rw [tP3_f c197])
                      exact ih_181 (q + 1) (by omega) (by omega) _ _ _ _ hM hF hP hS hl
                    · skip
                      refine lv_goto (tgt := 211) hx hb dX6_passes_200 (by decide) ?_
                      refine lv_iinc (v := (nI (q + 1))) (lv' := [(3, .int (nI (q + 1))), (2, .int (tNc (tDb (tR1 (a 0) mn) mn) q)), (1, .int (dv (tDb (tR1 (a 0) mn) mn) mn)), (0, .ref h)]) hx hb dX6_passes_211 hl (k := 0) rfl (nI_add q 1) (by decide) rfl (fun ls hl => ?_)
                      refine lv_goto (tgt := 181) hx hb dX6_passes_214 (by decide) ?_
                      have hl := Eq.mp (congrArg (fun z9 => lv_has ls 5 [(3, .int (nI (q + 1))), (2, .int z9), (1, .int (dv (tDb (tR1 (a 0) mn) mn) mn)), (0, .ref h)]) (show (tNc (tDb (tR1 (a 0) mn) mn) q) = (tNc (tDb (tR1 (a 0) mn) mn) (q + 1)) from by first | rw [tNc_t c197] | rw [tNc_f c197])) hl
                      have hl : lv_has ls 5 [(3, .int (nI (q + 1))), (2, .int (tNc (tDb (tR1 (a 0) mn) mn) (q + 1))), (1, .int (dv (tDb (tR1 (a 0) mn) mn) mn)), (0, .ref h)] := hl
                      have hM : tM E w h ad f (va_up (va_up (va_up (va_up a 0 (tP3 (tR2 (a 0) mn) (tDb (tR1 (a 0) mn) mn) (tCA (tR1 (a 0) mn) mn (a 14) mn) (tCC (tR1 (a 0) mn) mn (a 16) mn) (q + 1))) 14 (tCA (tR1 (a 0) mn) mn (a 14) mn)) 15 (tCB (tR1 (a 0) mn) mn (a 15) mn)) 16 (tCC (tR1 (a 0) mn) mn (a 16) mn)) := hM.of (by first | rw [tP3_t c197] | rw [tP3_f c197])
                      exact ih_181 (q + 1) (by omega) (by omega) _ _ _ _ hM hF hP hS hl
              have hl := Eq.mp (congrArg (fun z9 => lv_has ls 5 [(3, .int (nI 0)), (2, .int (tNc (tDb (tR1 (a 0) mn) mn) 0)), (1, .int z9), (0, .ref h)]) (show (dv (tDb (tR1 (a 0) mn) mn) j) = (dv (tDb (tR1 (a 0) mn) mn) mn) from by rw [show j = mn from by omega])) hl
              have hl : lv_has ls 5 [(3, .int (nI 0)), (2, .int (tNc (tDb (tR1 (a 0) mn) mn) 0)), (1, .int (dv (tDb (tR1 (a 0) mn) mn) mn)), (0, .ref h)] := hl
              have hM : tM E w h ad f (va_up (va_up (va_up (va_up a 0 (tP3 (tR2 (a 0) mn) (tDb (tR1 (a 0) mn) mn) (tCA (tR1 (a 0) mn) mn (a 14) mn) (tCC (tR1 (a 0) mn) mn (a 16) mn) 0)) 14 (tCA (tR1 (a 0) mn) mn (a 14) mn)) 15 (tCB (tR1 (a 0) mn) mn (a 15) mn)) 16 (tCC (tR1 (a 0) mn) mn (a 16) mn)) := hM.of (by obtain rfl : j = mn := (by omega); rfl)
              exact hloop_181 _ 0 (by omega) (Nat.lt_succ_self _) _ _ _ _ hM hF hP hS hl
            · skip
              refine lv_aload_n hx hb dX6_passes_105 rfl (lv_at hl 2 rfl) ?_
              refine lv_iload_n hx hb dX6_passes_106 rfl (lv_at hl 0 rfl) ?_
              refine tw_cR hx hb hml hown hts (val := (bI (tUp (tP2 (tR1 (a 0) mn) mn j) j))) (CX6_isUp l0 E w h ad f (va_up (va_up (va_up (va_up a 0 (tP2 (tR1 (a 0) mn) mn j)) 14 (tCA (tR1 (a 0) mn) mn (a 14) j)) 15 (tCB (tR1 (a 0) mn) mn (a 15) j)) 16 (tCC (tR1 (a 0) mn) mn (a 16) j)) j hM (by omega)) (cwV 1 hts (lw_V q1742 q1744 qs42 q81 q1745) rfl rfl rfl dyX6_isUp ⟨Nat.le_of_ble_eq_true rfl, Nat.le_of_ble_eq_true rfl⟩) hG hP hS hM (As := [.int (nI j)]) (rest := []) rfl hl.1 rfl (lv_room (Nat.le_of_ble_eq_true rfl)) dX6_passes_107 ⟨by omega, by omega⟩ (fun H locs hP hS => ?_)
              refine k_ifneB (x := tUp (tP2 (tR1 (a 0) mn) mn j) j) (tgt := 116) hx hb dX6_passes_110 (by decide) (fun c110 => ?_) (fun c110 => ?_)
              · skip
                refine lv_aload_n hx hb dX6_passes_116 rfl (lv_at hl 2 rfl) ?_
                refine lv_iload_n hx hb dX6_passes_117 rfl (lv_at hl 0 rfl) ?_
                refine lv_bipush (v := 6) hx hb dX6_passes_118 (by decide) ?_
                refine lv_aload_n hx hb dX6_passes_120 rfl (lv_at hl 2 rfl) ?_
                refine lv_iload_n hx hb dX6_passes_121 rfl (lv_at hl 0 rfl) ?_
                refine lv_bipush (v := 6) hx hb dX6_passes_122 (by decide) ?_
                refine tw_cR hx hb hml hown hts (val := (tP2 (tR1 (a 0) mn) mn j) (kO j 6)) (CX6_of l0 E w h ad f (va_up (va_up (va_up (va_up a 0 (tP2 (tR1 (a 0) mn) mn j)) 14 (tCA (tR1 (a 0) mn) mn (a 14) j)) 15 (tCB (tR1 (a 0) mn) mn (a 15) j)) 16 (tCC (tR1 (a 0) mn) mn (a 16) j)) j 6 hM (by omega) (by omega)) (cwV 2 hts (lw_V q1730 q1732 qs40 q81 q1733) rfl rfl rfl dyX6_of ⟨Nat.le_of_ble_eq_true rfl, Nat.le_of_ble_eq_true rfl⟩) hG hP hS hM (As := [.int (nI j), .int 6]) (rest := [.int 6, .int (nI j), .ref h]) rfl hl.1 rfl (lv_room (Nat.le_of_ble_eq_true rfl)) dX6_passes_124 ⟨by omega, by omega⟩ (fun H locs hP hS => ?_)
                refine lv_aload_n hx hb dX6_passes_127 rfl (lv_at hl 2 rfl) ?_
                refine lv_iload_n hx hb dX6_passes_128 rfl (lv_at hl 0 rfl) ?_
                refine tw_cR hx hb hml hown hts (val := tWn (tP2 (tR1 (a 0) mn) mn j) j mn) (CX6_wearsNow l0 E w h ad f (va_up (va_up (va_up (va_up a 0 (tP2 (tR1 (a 0) mn) mn j)) 14 (tCA (tR1 (a 0) mn) mn (a 14) j)) 15 (tCB (tR1 (a 0) mn) mn (a 15) j)) 16 (tCC (tR1 (a 0) mn) mn (a 16) j)) j mn hM (by omega) (by omega) (show tP2 (tR1 (a 0) mn) mn j 25 = nI mn from (by rw [tP2_lo (fun k => kO_lo (by omega)), tR1, tP1_lo (by omega) (by omega) (by omega), tG0_lo (by omega)]; exact hm))) (cwV 1 hts (lw_V q1824 q1826 qs52 q81 q1827) rfl rfl rfl dyX6_wearsNow ⟨Nat.le_of_ble_eq_true rfl, Nat.le_of_ble_eq_true rfl⟩) hG hP hS hM (As := [.int (nI j)]) (rest := [.int ((tP2 (tR1 (a 0) mn) mn j) (kO j 6)), .int 6, .int (nI j), .ref h]) rfl hl.1 rfl (lv_room (Nat.le_of_ble_eq_true rfl)) dX6_passes_129 ⟨by omega, by omega⟩ (fun H locs hP hS => ?_)
                refine lv_iadd hx hb dX6_passes_132 ?_
                refine tw_cW hx hb hml hown hts (CX6_lays l0 E w h ad f (va_up (va_up (va_up (va_up a 0 (tP2 (tR1 (a 0) mn) mn j)) 14 (tCA (tR1 (a 0) mn) mn (a 14) j)) 15 (tCB (tR1 (a 0) mn) mn (a 15) j)) 16 (tCC (tR1 (a 0) mn) mn (a 16) j)) j 6 ((tP2 (tR1 (a 0) mn) mn j) (kO j 6) + tWn (tP2 (tR1 (a 0) mn) mn j) j mn) hM (by omega) (by omega)) (cwV 3 hts (lw_V q1718 q1720 qs38 q81 q1721) rfl rfl rfl dyX6_lays ⟨Nat.le_of_ble_eq_true rfl, Nat.le_of_ble_eq_true rfl⟩) hG hP hS hM hF (As := [.int (nI j), .int 6, .int ((tP2 (tR1 (a 0) mn) mn j) (kO j 6) + tWn (tP2 (tR1 (a 0) mn) mn j) j mn)]) (rest := []) rfl hl.1 rfl (lv_room (Nat.le_of_ble_eq_true rfl)) dX6_passes_133 ⟨by omega, by omega⟩ (fun r133 f133 a133 w H locs hp hM hF hP hS => ?_)
                obtain ⟨hp1, hp2⟩ := hp
                have hM := hM.ofF hp1 hp2
                have hM : tM E w h ad f (va_up (va_up (va_up (va_up (va_up a 0 (tP2 (tR1 (a 0) mn) mn j)) 14 (tCA (tR1 (a 0) mn) mn (a 14) j)) 15 (tCB (tR1 (a 0) mn) mn (a 15) j)) 16 (tCC (tR1 (a 0) mn) mn (a 16) j)) 0 (va_up (tP2 (tR1 (a 0) mn) mn j) (kO j 6) ((tP2 (tR1 (a 0) mn) mn j) (kO j 6) + tWn (tP2 (tR1 (a 0) mn) mn j) j mn))) := hM
                have hM : tM E w h ad f (va_up (va_up (va_up (va_up a 0 (va_up (tP2 (tR1 (a 0) mn) mn j) (kO j 6) ((tP2 (tR1 (a 0) mn) mn j) (kO j 6) + tWn (tP2 (tR1 (a 0) mn) mn j) j mn))) 14 (tCA (tR1 (a 0) mn) mn (a 14) j)) 15 (tCB (tR1 (a 0) mn) mn (a 15) j)) 16 (tCC (tR1 (a 0) mn) mn (a 16) j)) := hM.of (by rw [up_cm _ 0 16 _ _ (by decide), up_cm _ 0 15 _ _ (by decide), up_cm _ 0 14 _ _ (by decide), bx_uu])
                have hM : tM E w h ad f (va_up (va_up (va_up (va_up a 0 (tP2 (tR1 (a 0) mn) mn (j + 1))) 14 (tCA (tR1 (a 0) mn) mn (a 14) j)) 15 (tCB (tR1 (a 0) mn) mn (a 15) j)) 16 (tCC (tR1 (a 0) mn) mn (a 16) j)) := hM.of (by simp only [tP2, if_pos c110])
                refine lv_aload_n hx hb dX6_passes_136 rfl (lv_at hl 2 rfl) ?_
                refine lv_iload_n hx hb dX6_passes_137 rfl (lv_at hl 0 rfl) ?_
                refine tw_cW hx hb hml hown hts (CX6_finds l0 E w h ad f (va_up (va_up (va_up (va_up a 0 (tP2 (tR1 (a 0) mn) mn (j + 1))) 14 (tCA (tR1 (a 0) mn) mn (a 14) j)) 15 (tCB (tR1 (a 0) mn) mn (a 15) j)) 16 (tCC (tR1 (a 0) mn) mn (a 16) j)) j mn hM (by omega) (by omega) (show tP2 (tR1 (a 0) mn) mn (j + 1) 25 = nI mn from (by rw [tP2_lo (fun k => kO_lo (by omega)), tR1, tP1_lo (by omega) (by omega) (by omega), tG0_lo (by omega)]; exact hm))) (cwV 1 hts (lw_V q1840 q1842 qs55 q81 q1843) rfl rfl rfl dyX6_finds ⟨Nat.le_of_ble_eq_true rfl, Nat.le_of_ble_eq_true rfl⟩) hG hP hS hM hF (As := [.int (nI j)]) (rest := []) rfl hl.1 rfl (lv_room (Nat.le_of_ble_eq_true rfl)) dX6_passes_138 ⟨by omega, by omega⟩ (fun r138 f138 a138 w H locs hp hM hF hP hS => ?_)
                obtain ⟨hp1, hp2⟩ := hp
                have hM := hM.ofF hp1 hp2
                have hM : tM E w h ad f (va_up (va_up (va_up (va_up (va_up (va_up (va_up a 0 (tP2 (tR1 (a 0) mn) mn (j + 1))) 14 (tCA (tR1 (a 0) mn) mn (a 14) j)) 15 (tCB (tR1 (a 0) mn) mn (a 15) j)) 16 (tCC (tR1 (a 0) mn) mn (a 16) j)) 14 (va_up (tCA (tR1 (a 0) mn) mn (a 14) j) j (tFd (tP2 (tR1 (a 0) mn) mn (j + 1)) j mn).1)) 15 (va_up (tCB (tR1 (a 0) mn) mn (a 15) j) j (tFd (tP2 (tR1 (a 0) mn) mn (j + 1)) j mn).2.1)) 16 (va_up (tCC (tR1 (a 0) mn) mn (a 16) j) j (tFd (tP2 (tR1 (a 0) mn) mn (j + 1)) j mn).2.2.1)) := hM
                have hM : tM E w h ad f (va_up (va_up (va_up (va_up a 0 (tP2 (tR1 (a 0) mn) mn (j + 1))) 14 (va_up (tCA (tR1 (a 0) mn) mn (a 14) j) j (tFd (tP2 (tR1 (a 0) mn) mn (j + 1)) j mn).1)) 15 (va_up (tCB (tR1 (a 0) mn) mn (a 15) j) j (tFd (tP2 (tR1 (a 0) mn) mn (j + 1)) j mn).2.1)) 16 (va_up (tCC (tR1 (a 0) mn) mn (a 16) j) j (tFd (tP2 (tR1 (a 0) mn) mn (j + 1)) j mn).2.2.1)) := hM.of (by rw [up_cm _ 14 16 _ _ (by decide), up_cm _ 14 15 _ _ (by decide), bx_uu, up_cm _ 15 16 _ _ (by decide), bx_uu, bx_uu])
                refine lv_aload_n hx hb dX6_passes_141 rfl (lv_at hl 2 rfl) ?_
                refine lv_iload_n hx hb dX6_passes_142 rfl (lv_at hl 0 rfl) ?_
                refine lv_bipush (v := 6) hx hb dX6_passes_143 (by decide) ?_
                refine tw_cR hx hb hml hown hts (val := (tP2 (tR1 (a 0) mn) mn (j + 1)) (kO j 6)) (CX6_of l0 E w h ad f (va_up (va_up (va_up (va_up a 0 (tP2 (tR1 (a 0) mn) mn (j + 1))) 14 (va_up (tCA (tR1 (a 0) mn) mn (a 14) j) j (tFd (tP2 (tR1 (a 0) mn) mn (j + 1)) j mn).1)) 15 (va_up (tCB (tR1 (a 0) mn) mn (a 15) j) j (tFd (tP2 (tR1 (a 0) mn) mn (j + 1)) j mn).2.1)) 16 (va_up (tCC (tR1 (a 0) mn) mn (a 16) j) j (tFd (tP2 (tR1 (a 0) mn) mn (j + 1)) j mn).2.2.1)) j 6 hM (by omega) (by omega)) (cwV 2 hts (lw_V q1730 q1732 qs40 q81 q1733) rfl rfl rfl dyX6_of ⟨Nat.le_of_ble_eq_true rfl, Nat.le_of_ble_eq_true rfl⟩) hG hP hS hM (As := [.int (nI j), .int 6]) (rest := []) rfl hl.1 rfl (lv_room (Nat.le_of_ble_eq_true rfl)) dX6_passes_145 ⟨by omega, by omega⟩ (fun H locs hP hS => ?_)
                refine lv_aload_n hx hb dX6_passes_148 rfl (lv_at hl 2 rfl) ?_
                refine lv_iload_n hx hb dX6_passes_149 rfl (lv_at hl 0 rfl) ?_
                refine tw_cR hx hb hml hown hts (val := tHd (tP2 (tR1 (a 0) mn) mn (j + 1)) j) (CX6_hardness l0 E w h ad f (va_up (va_up (va_up (va_up a 0 (tP2 (tR1 (a 0) mn) mn (j + 1))) 14 (va_up (tCA (tR1 (a 0) mn) mn (a 14) j) j (tFd (tP2 (tR1 (a 0) mn) mn (j + 1)) j mn).1)) 15 (va_up (tCB (tR1 (a 0) mn) mn (a 15) j) j (tFd (tP2 (tR1 (a 0) mn) mn (j + 1)) j mn).2.1)) 16 (va_up (tCC (tR1 (a 0) mn) mn (a 16) j) j (tFd (tP2 (tR1 (a 0) mn) mn (j + 1)) j mn).2.2.1)) j hM (by omega)) (cwV 1 hts (lw_V q1844 q1846 qs56 q81 q1847) rfl rfl rfl dyX6_hardness ⟨Nat.le_of_ble_eq_true rfl, Nat.le_of_ble_eq_true rfl⟩) hG hP hS hM (As := [.int (nI j)]) (rest := [.int ((tP2 (tR1 (a 0) mn) mn (j + 1)) (kO j 6))]) rfl hl.1 rfl (lv_room (Nat.le_of_ble_eq_true rfl)) dX6_passes_150 ⟨by omega, by omega⟩ (fun H locs hP hS => ?_)
                refine lv_icmp_lt (tgt := 171) hx hb dX6_passes_153 (by decide) (fun c153 => ?_) (fun c153 => ?_)
                · skip
                  refine lv_iinc (v := (nI (j + 1))) (lv' := [(2, .int (nI (j + 1))), (1, .int (dv (tDb (tR1 (a 0) mn) mn) j)), (0, .ref h)]) hx hb dX6_passes_171 hl (k := 0) rfl (nI_add j 1) (by decide) rfl (fun ls hl => ?_)
                  refine lv_goto (tgt := 94) hx hb dX6_passes_174 (by decide) ?_
                  have hl := Eq.mp (congrArg (fun z9 => lv_has ls 5 [(2, .int (nI (j + 1))), (1, .int z9), (0, .ref h)]) (show (dv (tDb (tR1 (a 0) mn) mn) j) = (dv (tDb (tR1 (a 0) mn) mn) (j + 1)) from by rw [dv_f (by unfold tDb; rw [c110, decide_eq_true c153]; rfl)])) hl
                  have hl : lv_has ls 5 [(2, .int (nI (j + 1))), (1, .int (dv (tDb (tR1 (a 0) mn) mn) (j + 1))), (0, .ref h)] := hl
                  have hM : tM E w h ad f (va_up (va_up (va_up (va_up a 0 (tP2 (tR1 (a 0) mn) mn (j + 1))) 14 (tCA (tR1 (a 0) mn) mn (a 14) (j + 1))) 15 (tCB (tR1 (a 0) mn) mn (a 15) (j + 1))) 16 (tCC (tR1 (a 0) mn) mn (a 16) (j + 1))) := hM.of (by first | rw [tP2_f c110, tCA_f c110, tCB_f c110, tCC_f c110] | rw [tCA_t c110, tCB_t c110, tCC_t c110])
                  exact ih_94 (j + 1) (by omega) (by omega) _ _ _ _ hM hF hP hS hl
                · skip
                  refine lv_aload_n hx hb dX6_passes_156 rfl (lv_at hl 2 rfl) ?_
                  refine tw_get hx hb hts hown hG hP hM 14 (by decide) (hts _ q1634) (fun _ h9 => h9) (v := .ref (ad 14)) rfl dX6_passes_157 ?_
                  refine lv_iload_n hx hb dX6_passes_160 rfl (lv_at hl 0 rfl) ?_
                  refine tw_ald hx hb hG hP hM 14 (by decide) (j := j) (show j < 6 from by omega) dX6_passes_161 ?_
                  refine k_top (y := (tFd (tP2 (tR1 (a 0) mn) mn (j + 1)) j mn).1) (by simp [va_up]) ?_
                  refine lv_if_lt (tgt := 171) hx hb dX6_passes_162 (by decide) (fun c162 => ?_) (fun c162 => ?_)
                  · skip
                    refine lv_iinc (v := (nI (j + 1))) (lv' := [(2, .int (nI (j + 1))), (1, .int (dv (tDb (tR1 (a 0) mn) mn) j)), (0, .ref h)]) hx hb dX6_passes_171 hl (k := 0) rfl (nI_add j 1) (by decide) rfl (fun ls hl => ?_)
                    refine lv_goto (tgt := 94) hx hb dX6_passes_174 (by decide) ?_
                    have hl := Eq.mp (congrArg (fun z9 => lv_has ls 5 [(2, .int (nI (j + 1))), (1, .int z9), (0, .ref h)]) (show (dv (tDb (tR1 (a 0) mn) mn) j) = (dv (tDb (tR1 (a 0) mn) mn) (j + 1)) from by rw [dv_f (by unfold tDb; rw [c110, decide_eq_true c162, decide_eq_false c153]; rfl)])) hl
                    have hl : lv_has ls 5 [(2, .int (nI (j + 1))), (1, .int (dv (tDb (tR1 (a 0) mn) mn) (j + 1))), (0, .ref h)] := hl
                    have hM : tM E w h ad f (va_up (va_up (va_up (va_up a 0 (tP2 (tR1 (a 0) mn) mn (j + 1))) 14 (tCA (tR1 (a 0) mn) mn (a 14) (j + 1))) 15 (tCB (tR1 (a 0) mn) mn (a 15) (j + 1))) 16 (tCC (tR1 (a 0) mn) mn (a 16) (j + 1))) := hM.of (by first | rw [tP2_f c110, tCA_f c110, tCB_f c110, tCC_f c110] | rw [tCA_t c110, tCB_t c110, tCC_t c110])
                    exact ih_94 (j + 1) (by omega) (by omega) _ _ _ _ hM hF hP hS hl
                  · skip
                    refine lv_iload_n hx hb dX6_passes_165 rfl (lv_at hl 1 rfl) ?_
                    refine lv_iconst (v := 1) hx hb dX6_passes_166 (by decide) ?_
                    refine lv_iload_n hx hb dX6_passes_167 rfl (lv_at hl 0 rfl) ?_
                    refine lv_ishl hx hb dX6_passes_168 ?_
                    refine lv_ior hx hb dX6_passes_169 ?_
                    refine lv_istore_n (lv' := [(1, .int ((dv (tDb (tR1 (a 0) mn) mn) j) ||| ((1 : Int32) <<< ((nI j) &&& 31)))), (2, .int (nI j)), (0, .ref h)]) hx hb dX6_passes_170 rfl hl (by decide) rfl (fun ls hl => ?_)
                    refine lv_iinc (v := (nI (j + 1))) (lv' := [(2, .int (nI (j + 1))), (1, .int ((dv (tDb (tR1 (a 0) mn) mn) j) ||| ((1 : Int32) <<< ((nI j) &&& 31)))), (0, .ref h)]) hx hb dX6_passes_171 hl (k := 1) rfl (nI_add j 1) (by decide) rfl (fun ls hl => ?_)
                    refine lv_goto (tgt := 94) hx hb dX6_passes_174 (by decide) ?_
                    have hl := Eq.mp (congrArg (fun z9 => lv_has ls 5 [(2, .int (nI (j + 1))), (1, .int z9), (0, .ref h)]) (show ((dv (tDb (tR1 (a 0) mn) mn) j) ||| ((1 : Int32) <<< ((nI j) &&& 31))) = (dv (tDb (tR1 (a 0) mn) mn) (j + 1)) from by rw [dv_t (by unfold tDb; rw [c110, decide_eq_false c162, decide_eq_false c153]; rfl)])) hl
                    have hl : lv_has ls 5 [(2, .int (nI (j + 1))), (1, .int (dv (tDb (tR1 (a 0) mn) mn) (j + 1))), (0, .ref h)] := hl
                    have hM : tM E w h ad f (va_up (va_up (va_up (va_up a 0 (tP2 (tR1 (a 0) mn) mn (j + 1))) 14 (tCA (tR1 (a 0) mn) mn (a 14) (j + 1))) 15 (tCB (tR1 (a 0) mn) mn (a 15) (j + 1))) 16 (tCC (tR1 (a 0) mn) mn (a 16) (j + 1))) := hM.of (by first | rw [tP2_f c110, tCA_f c110, tCB_f c110, tCC_f c110] | rw [tCA_t c110, tCB_t c110, tCC_t c110])
                    exact ih_94 (j + 1) (by omega) (by omega) _ _ _ _ hM hF hP hS hl
              · skip
                refine lv_goto (tgt := 171) hx hb dX6_passes_113 (by decide) ?_
                refine lv_iinc (v := (nI (j + 1))) (lv' := [(2, .int (nI (j + 1))), (1, .int (dv (tDb (tR1 (a 0) mn) mn) j)), (0, .ref h)]) hx hb dX6_passes_171 hl (k := 0) rfl (nI_add j 1) (by decide) rfl (fun ls hl => ?_)
                refine lv_goto (tgt := 94) hx hb dX6_passes_174 (by decide) ?_
                have hl := Eq.mp (congrArg (fun z9 => lv_has ls 5 [(2, .int (nI (j + 1))), (1, .int z9), (0, .ref h)]) (show (dv (tDb (tR1 (a 0) mn) mn) j) = (dv (tDb (tR1 (a 0) mn) mn) (j + 1)) from by rw [dv_f (by unfold tDb; rw [c110]; rfl)])) hl
                have hl : lv_has ls 5 [(2, .int (nI (j + 1))), (1, .int (dv (tDb (tR1 (a 0) mn) mn) (j + 1))), (0, .ref h)] := hl
                have hM : tM E w h ad f (va_up (va_up (va_up (va_up a 0 (tP2 (tR1 (a 0) mn) mn (j + 1))) 14 (tCA (tR1 (a 0) mn) mn (a 14) (j + 1))) 15 (tCB (tR1 (a 0) mn) mn (a 15) (j + 1))) 16 (tCC (tR1 (a 0) mn) mn (a 16) (j + 1))) := hM.of (by first | rw [tP2_f c110, tCA_f c110, tCB_f c110, tCC_f c110] | rw [tCA_t c110, tCB_t c110, tCC_t c110])
                exact ih_94 (j + 1) (by omega) (by omega) _ _ _ _ hM hF hP hS hl
        have hl : lv_has ls 5 [(2, .int (nI 0)), (1, .int (dv (tDb (tR1 (a 0) mn) mn) 0)), (0, .ref h)] := hl
        have hM : tM E w h ad f (va_up (va_up (va_up (va_up a 0 (tP2 (tR1 (a 0) mn) mn 0)) 14 (tCA (tR1 (a 0) mn) mn (a 14) 0)) 15 (tCB (tR1 (a 0) mn) mn (a 15) 0)) 16 (tCC (tR1 (a 0) mn) mn (a 16) 0)) := hM.of (by obtain rfl : i = mn := (by omega); funext q9; simp only [va_up]; (repeat' split) <;> first | rfl | omega | (subst_vars; rfl))
        exact hloop_94 _ 0 (by omega) (Nat.lt_succ_self _) _ _ _ _ hM hF hP hS hl
      · skip
        refine lv_aload_n hx hb dX6_passes_24 rfl (lv_at hl 1 rfl) ?_
        refine lv_iload_n hx hb dX6_passes_25 rfl (lv_at hl 0 rfl) ?_
        refine tw_cR hx hb hml hown hts (val := (bI (tUp (tP1 (tG0 (a 0)) i) i))) (CX6_isUp l0 E w h ad f (va_up a 0 (tP1 (tG0 (a 0)) i)) i hM (by omega)) (cwV 1 hts (lw_V q1742 q1744 qs42 q81 q1745) rfl rfl rfl dyX6_isUp ⟨Nat.le_of_ble_eq_true rfl, Nat.le_of_ble_eq_true rfl⟩) hG hP hS hM (As := [.int (nI i)]) (rest := []) rfl hl.1 rfl (lv_room (Nat.le_of_ble_eq_true rfl)) dX6_passes_26 ⟨by omega, by omega⟩ (fun H locs hP hS => ?_)
        refine k_ifneB (x := tUp (tP1 (tG0 (a 0)) i) i) (tgt := 35) hx hb dX6_passes_29 (by decide) (fun c29 => ?_) (fun c29 => ?_)
        · skip
          refine lv_aload_n hx hb dX6_passes_35 rfl (lv_at hl 1 rfl) ?_
          refine lv_iload_n hx hb dX6_passes_36 rfl (lv_at hl 0 rfl) ?_
          refine lv_bipush (v := 7) hx hb dX6_passes_37 (by decide) ?_
          refine tw_cR hx hb hml hown hts (val := (tP1 (tG0 (a 0)) i) (kO i 7)) (CX6_of l0 E w h ad f (va_up a 0 (tP1 (tG0 (a 0)) i)) i 7 hM (by omega) (by omega)) (cwV 2 hts (lw_V q1730 q1732 qs40 q81 q1733) rfl rfl rfl dyX6_of ⟨Nat.le_of_ble_eq_true rfl, Nat.le_of_ble_eq_true rfl⟩) hG hP hS hM (As := [.int (nI i), .int 7]) (rest := []) rfl hl.1 rfl (lv_room (Nat.le_of_ble_eq_true rfl)) dX6_passes_39 ⟨by omega, by omega⟩ (fun H locs hP hS => ?_)
          refine lv_istore_n (lv' := [(2, .int ((tP1 (tG0 (a 0)) i) (kO i 7))), (1, .int (nI i)), (0, .ref h)]) hx hb dX6_passes_42 rfl hl (by decide) rfl (fun ls hl => ?_)
          refine lv_aload_n hx hb dX6_passes_43 rfl (lv_at hl 2 rfl) ?_
          refine lv_iload_n hx hb dX6_passes_44 rfl (lv_at hl 1 rfl) ?_
          refine lv_iload_n hx hb dX6_passes_45 rfl (lv_at hl 0 rfl) ?_
          refine lv_if_le (tgt := 69) hx hb dX6_passes_46 (by decide) (fun c46 => ?_) (fun c46 => ?_)
          · skip
            refine lv_iload_n hx hb dX6_passes_69 rfl (lv_at hl 0 rfl) ?_
            refine lv_ineg hx hb dX6_passes_70 ?_
            refine lv_aload_n hx hb dX6_passes_71 rfl (lv_at hl 2 rfl) ?_
            refine lv_iload_n hx hb dX6_passes_72 rfl (lv_at hl 1 rfl) ?_
            refine lv_iconst (v := 5) hx hb dX6_passes_73 (by decide) ?_
            refine tw_cR hx hb hml hown hts (val := (tP1 (tG0 (a 0)) i) (kO i 5)) (CX6_of l0 E w h ad f (va_up a 0 (tP1 (tG0 (a 0)) i)) i 5 hM (by omega) (by omega)) (cwV 2 hts (lw_V q1730 q1732 qs40 q81 q1733) rfl rfl rfl dyX6_of ⟨Nat.le_of_ble_eq_true rfl, Nat.le_of_ble_eq_true rfl⟩) hG hP hS hM (As := [.int (nI i), .int 5]) (rest := [.int (-(tP1 (tG0 (a 0)) i) (kO i 7)), .int (nI i), .ref h]) rfl hl.1 rfl (lv_room (Nat.le_of_ble_eq_true rfl)) dX6_passes_74 ⟨by omega, by omega⟩ (fun H locs hP hS => ?_)
            refine k_cP hx hb hml hown hts (val := tLs (-(tP1 (tG0 (a 0)) i) (kO i 7)) ((tP1 (tG0 (a 0)) i) (kO i 5))) (CX6_less l0 E w (-(tP1 (tG0 (a 0)) i) (kO i 7)) ((tP1 (tG0 (a 0)) i) (kO i 5)) ) (va_cwS 2 hts (lw_S q1817 q1818 q81 q1819) rfl rfl rfl dyX6_less ⟨Nat.le_of_ble_eq_true rfl, Nat.le_of_ble_eq_true rfl⟩) hG hP hS (As := [.int (-(tP1 (tG0 (a 0)) i) (kO i 7)), .int ((tP1 (tG0 (a 0)) i) (kO i 5))]) (rest := [.int (nI i), .ref h]) rfl hl.1 rfl (lv_room (Nat.le_of_ble_eq_true rfl)) dX6_passes_77 ⟨by omega, by omega⟩ (fun H locs hP hS => ?_)
            refine lv_ineg hx hb dX6_passes_80 ?_
            refine tw_cW hx hb hml hown hts (CX6_lets l0 E w h ad f (va_up a 0 (tP1 (tG0 (a 0)) i)) i (-tLs (-(tP1 (tG0 (a 0)) i) (kO i 7)) ((tP1 (tG0 (a 0)) i) (kO i 5))) hM (by omega)) (cwV 2 hts (lw_V q1746 q1748 qs43 q81 q1749) rfl rfl rfl dyX6_lets ⟨Nat.le_of_ble_eq_true rfl, Nat.le_of_ble_eq_true rfl⟩) hG hP hS hM hF (As := [.int (nI i), .int (-tLs (-(tP1 (tG0 (a 0)) i) (kO i 7)) ((tP1 (tG0 (a 0)) i) (kO i 5)))]) (rest := []) rfl hl.1 rfl (lv_room (Nat.le_of_ble_eq_true rfl)) dX6_passes_81 ⟨by omega, by omega⟩ (fun r81 f81 a81 w H locs hp hM hF hP hS => ?_)
            obtain ⟨hp1, hp2⟩ := hp
            have hM := hM.ofF hp1 hp2
            have hM : tM E w h ad f (va_up a 0 (tLt (tP1 (tG0 (a 0)) i) i (-tLs (-(tP1 (tG0 (a 0)) i) (kO i 7)) ((tP1 (tG0 (a 0)) i) (kO i 5))))) := hM.uu
            refine lv_iinc (v := (nI (i + 1))) (lv' := [(1, .int (nI (i + 1))), (2, .int ((tP1 (tG0 (a 0)) i) (kO i 7))), (0, .ref h)]) hx hb dX6_passes_84 hl (k := 1) rfl (nI_add i 1) (by decide) rfl (fun ls hl => ?_)
            refine lv_goto (tgt := 13) hx hb dX6_passes_87 (by decide) ?_
            have hl := lv_sub (l' := [(1, .int (nI (i + 1))), (0, .ref h)]) hl [0, 2] rfl
            have hM : tM E w h ad f (va_up a 0 (tP1 (tG0 (a 0)) (i + 1))) := hM.of (by first | rw [tP1_f c29] | rw [tP1_t c29, tBy_n c46] | rw [tP1_t c29, tBy_p c46])
            exact ih_13 (i + 1) (by omega) (by omega) _ _ _ _ hM hF hP hS hl
          · skip
            refine lv_iload_n hx hb dX6_passes_49 rfl (lv_at hl 0 rfl) ?_
            refine lv_aload_n hx hb dX6_passes_50 rfl (lv_at hl 2 rfl) ?_
            refine lv_iload_n hx hb dX6_passes_51 rfl (lv_at hl 1 rfl) ?_
            refine lv_iconst (v := 3) hx hb dX6_passes_52 (by decide) ?_
            refine tw_cR hx hb hml hown hts (val := (tP1 (tG0 (a 0)) i) (kO i 3)) (CX6_of l0 E w h ad f (va_up a 0 (tP1 (tG0 (a 0)) i)) i 3 hM (by omega) (by omega)) (cwV 2 hts (lw_V q1730 q1732 qs40 q81 q1733) rfl rfl rfl dyX6_of ⟨Nat.le_of_ble_eq_true rfl, Nat.le_of_ble_eq_true rfl⟩) hG hP hS hM (As := [.int (nI i), .int 3]) (rest := [.int ((tP1 (tG0 (a 0)) i) (kO i 7)), .int (nI i), .ref h]) rfl hl.1 rfl (lv_room (Nat.le_of_ble_eq_true rfl)) dX6_passes_53 ⟨by omega, by omega⟩ (fun H locs hP hS => ?_)
            refine lv_aload_n hx hb dX6_passes_56 rfl (lv_at hl 2 rfl) ?_
            refine lv_iload_n hx hb dX6_passes_57 rfl (lv_at hl 1 rfl) ?_
            refine lv_iconst (v := 5) hx hb dX6_passes_58 (by decide) ?_
            refine tw_cR hx hb hml hown hts (val := (tP1 (tG0 (a 0)) i) (kO i 5)) (CX6_of l0 E w h ad f (va_up a 0 (tP1 (tG0 (a 0)) i)) i 5 hM (by omega) (by omega)) (cwV 2 hts (lw_V q1730 q1732 qs40 q81 q1733) rfl rfl rfl dyX6_of ⟨Nat.le_of_ble_eq_true rfl, Nat.le_of_ble_eq_true rfl⟩) hG hP hS hM (As := [.int (nI i), .int 5]) (rest := [.int ((tP1 (tG0 (a 0)) i) (kO i 3)), .int ((tP1 (tG0 (a 0)) i) (kO i 7)), .int (nI i), .ref h]) rfl hl.1 rfl (lv_room (Nat.le_of_ble_eq_true rfl)) dX6_passes_59 ⟨by omega, by omega⟩ (fun H locs hP hS => ?_)
            refine lv_isub hx hb dX6_passes_62 ?_
            refine k_cP hx hb hml hown hts (val := tLs ((tP1 (tG0 (a 0)) i) (kO i 7)) ((tP1 (tG0 (a 0)) i) (kO i 3) - (tP1 (tG0 (a 0)) i) (kO i 5))) (CX6_less l0 E w ((tP1 (tG0 (a 0)) i) (kO i 7)) ((tP1 (tG0 (a 0)) i) (kO i 3) - (tP1 (tG0 (a 0)) i) (kO i 5)) ) (va_cwS 2 hts (lw_S q1817 q1818 q81 q1819) rfl rfl rfl dyX6_less ⟨Nat.le_of_ble_eq_true rfl, Nat.le_of_ble_eq_true rfl⟩) hG hP hS (As := [.int ((tP1 (tG0 (a 0)) i) (kO i 7)), .int ((tP1 (tG0 (a 0)) i) (kO i 3) - (tP1 (tG0 (a 0)) i) (kO i 5))]) (rest := [.int (nI i), .ref h]) rfl hl.1 rfl (lv_room (Nat.le_of_ble_eq_true rfl)) dX6_passes_63 ⟨by omega, by omega⟩ (fun H locs hP hS => ?_)
            refine lv_goto (tgt := 81) hx hb dX6_passes_66 (by decide) ?_
            refine tw_cW hx hb hml hown hts (CX6_lets l0 E w h ad f (va_up a 0 (tP1 (tG0 (a 0)) i)) i (tLs ((tP1 (tG0 (a 0)) i) (kO i 7)) ((tP1 (tG0 (a 0)) i) (kO i 3) - (tP1 (tG0 (a 0)) i) (kO i 5))) hM (by omega)) (cwV 2 hts (lw_V q1746 q1748 qs43 q81 q1749) rfl rfl rfl dyX6_lets ⟨Nat.le_of_ble_eq_true rfl, Nat.le_of_ble_eq_true rfl⟩) hG hP hS hM hF (As := [.int (nI i), .int (tLs ((tP1 (tG0 (a 0)) i) (kO i 7)) ((tP1 (tG0 (a 0)) i) (kO i 3) - (tP1 (tG0 (a 0)) i) (kO i 5)))]) (rest := []) rfl hl.1 rfl (lv_room (Nat.le_of_ble_eq_true rfl)) dX6_passes_81 ⟨by omega, by omega⟩ (fun r81 f81 a81 w H locs hp hM hF hP hS => ?_)
            obtain ⟨hp1, hp2⟩ := hp
            have hM := hM.ofF hp1 hp2
            have hM : tM E w h ad f (va_up a 0 (tLt (tP1 (tG0 (a 0)) i) i (tLs ((tP1 (tG0 (a 0)) i) (kO i 7)) ((tP1 (tG0 (a 0)) i) (kO i 3) - (tP1 (tG0 (a 0)) i) (kO i 5))))) := hM.uu
            refine lv_iinc (v := (nI (i + 1))) (lv' := [(1, .int (nI (i + 1))), (2, .int ((tP1 (tG0 (a 0)) i) (kO i 7))), (0, .ref h)]) hx hb dX6_passes_84 hl (k := 1) rfl (nI_add i 1) (by decide) rfl (fun ls hl => ?_)
            refine lv_goto (tgt := 13) hx hb dX6_passes_87 (by decide) ?_
            have hl := lv_sub (l' := [(1, .int (nI (i + 1))), (0, .ref h)]) hl [0, 2] rfl
            have hM : tM E w h ad f (va_up a 0 (tP1 (tG0 (a 0)) (i + 1))) := hM.of (by first | rw [tP1_f c29] | rw [tP1_t c29, tBy_n c46] | rw [tP1_t c29, tBy_p c46])
            exact ih_13 (i + 1) (by omega) (by omega) _ _ _ _ hM hF hP hS hl
        · skip
          refine lv_goto (tgt := 84) hx hb dX6_passes_32 (by decide) ?_
          refine lv_iinc (v := (nI (i + 1))) (lv' := [(1, .int (nI (i + 1))), (0, .ref h)]) hx hb dX6_passes_84 hl (k := 0) rfl (nI_add i 1) (by decide) rfl (fun ls hl => ?_)
          refine lv_goto (tgt := 13) hx hb dX6_passes_87 (by decide) ?_
          have hl : lv_has ls 5 [(1, .int (nI (i + 1))), (0, .ref h)] := hl
          have hM : tM E w h ad f (va_up a 0 (tP1 (tG0 (a 0)) (i + 1))) := hM.of (by first | rw [tP1_f c29] | rw [tP1_t c29, tBy_n c46] | rw [tP1_t c29, tBy_p c46])
          exact ih_13 (i + 1) (by omega) (by omega) _ _ _ _ hM hF hP hS hl
  have hl : lv_has ls 5 [(1, .int (nI 0)), (0, .ref h)] := hl
  have hM : tM E w h ad f (va_up a 0 (tP1 (tG0 (a 0)) 0)) := hM
  exact hloop_13 _ 0 (by omega) (Nat.lt_succ_self _) _ _ _ _ hM hF hP hS hl
