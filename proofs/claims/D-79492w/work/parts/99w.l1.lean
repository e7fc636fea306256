/-! LAW, 9: its arms -/
set_option maxRecDepth 100000
set_option maxHeartbeats 4000000 in
theorem law_wind {p : Program} {e : Env} {s : State} {m : MethodId} {args : Array Value} {below : List Frame} {meth : Method} {c : Code} {E : gE} {b L : Nat} {xs : Nat → Int32} {Q : State → Prop} (l0 : Launch) (hl0 : l0.stackTraces = false) (hx : p.tables.exec = Jvm.exec) (hb : c.code = cL_law) (hml : c.maxLocals = 9) (hown : s.vm.findClass "KiteRoofsLaw" = some m.cls) (hts : ∀ w ∈ lw_all, w.before args s = true) (hG : gK E s) (hX0 : va_X b L xs s s.heap) (hbl : b < s.heap.size) (hbA : ¬ gA E b)
    {w : wd} {H : Heap} {locs : List Loc} {ls : Array Slot} {x y o od N mn cn nb i9 c0 s0 : Nat} {f : Nat → Int32} {a : Nat → Nat → Int32} {ad : Nat → Nat} {v : Int64} {v2 : UInt64} (hL : L ≤ 120) (hi : i9 + 5 ≤ L) (hN9 : N + 71 * 31 * 32 < 2 ^ 31) (hc0 : c0 + 7000 ≤ 1200144) (hs0 : s0 + 23000 ≤ 5497402)
    (hC : coS E w x N f a mn cn nb) (hT : tM E w y ad f a) (hO : lA E w o v) (hD : dA E w od v2) (hP : wP E w H) (hS : va_S (gA E) s.heap H locs) (hl : lv_has ls 9 [(0, .ref b), (1, .ref x), (2, .ref y), (3, .ref o), (4, .ref od), (5, .int (nI i9))])
    (kk : ∀ (w1 : wd) (H1 : Heap) (locs1 : List Loc) (ls1 : Array Slot) (f1 : Nat → Int32) (a1 : Nat → Nat → Int32) (mn1 cn1 nb1 : Nat) (v1 : Int64) (v21 : UInt64), coS E w1 x (N + 64000) f1 a1 mn1 cn1 nb1 → tM E w1 y ad f1 a1 → lA E w1 o v1 → dA E w1 od v21 → wP E w1 H1 → va_S (gA E) s.heap H1 locs1 → lv_has ls1 9 [(0, .ref b), (1, .ref x), (2, .ref y), (3, .ref o), (4, .ref od), (5, .int (nI i9))] → W p l0 e room_1 s m args below meth c H1 locs1 (c0 + 7000) (s0 + 23000) Q (F0 m 1904 ls1 [])) :
    W p l0 e room_1 s m args below meth c H locs c0 s0 Q (F0 m 180 ls []) := by
  obtain ⟨⟨n9, n6, n7, n11⟩, ⟨n60, c8⟩, ⟨m25, m6⟩, gI0⟩ := hC.nums
  refine lv_aload_n hx hb dL_law_180 rfl (lv_at hl 1 rfl) ?_
  refine lv_aload_n hx hb dL_law_181 rfl (lv_at hl 0 rfl) ?_
  refine lv_iload hx hb dL_law_182 (lv_at hl 5 rfl) ?_
  refine lv_iconst (v := 1) hx hb dL_law_184 (by decide) ?_
  refine k_iaddN (x := i9) (y := 1) hx hb dL_law_185 ?_
  refine va_sld hx hb hX0 hbl hbA hS (vp_in_nI (n := i9 + 1) (N := L) (by omega) (by omega)) dL_law_186 ?_
  rw [nI_clamp (show i9 + 1 < 2 ^ 31 from by omega)]
  refine lv_aload_n hx hb dL_law_187 rfl (lv_at hl 0 rfl) ?_
  refine lv_iload hx hb dL_law_188 (lv_at hl 5 rfl) ?_
  refine lv_iconst (v := 2) hx hb dL_law_190 (by decide) ?_
  refine k_iaddN (x := i9) (y := 2) hx hb dL_law_191 ?_
  refine va_sld hx hb hX0 hbl hbA hS (vp_in_nI (n := i9 + 2) (N := L) (by omega) (by omega)) dL_law_192 ?_
  rw [nI_clamp (show i9 + 2 < 2 ^ 31 from by omega)]
  refine lv_aload_n hx hb dL_law_193 rfl (lv_at hl 0 rfl) ?_
  refine lv_iload hx hb dL_law_194 (lv_at hl 5 rfl) ?_
  refine lv_iconst (v := 3) hx hb dL_law_196 (by decide) ?_
  refine k_iaddN (x := i9) (y := 3) hx hb dL_law_197 ?_
  refine va_sld hx hb hX0 hbl hbA hS (vp_in_nI (n := i9 + 3) (N := L) (by omega) (by omega)) dL_law_198 ?_
  rw [nI_clamp (show i9 + 3 < 2 ^ 31 from by omega)]
  refine lv_aload_n hx hb dL_law_199 rfl (lv_at hl 3 rfl) ?_
  refine kx_cSH hx hb hml hown hts (CX0_wind l0 hl0 E w x o f a mn cn nb N v (xs (i9 + 1)) (xs (i9 + 2)) (xs (i9 + 3)) hC hO) (vx_cwSW 5 hts (lw_SW q362 q363 q68 q364) rfl rfl rfl dyX0_wind ⟨Nat.le_of_ble_eq_true rfl, Nat.le_of_ble_eq_true rfl⟩) hG hP hS (As := [.ref x, .int (xs (i9 + 1)), .int (xs (i9 + 2)), .int (xs (i9 + 3)), .ref o]) (rest := []) rfl hl.1 rfl (lv_room (Nat.le_of_ble_eq_true rfl)) dL_law_200 ⟨show c0 + 40 ≤ 1200144 from by omega, show s0 + 220 ≤ 5497402 from by omega⟩ (fun r200 w1 H locs hp hP hS => ?_)
  obtain ⟨v9_1, m9_2, c9_3, hp0, ⟨hO', hC', -⟩, hf9⟩ := hp
  have hT : tM E w1 y ad f a := hT.fr hf9 (fun t9 h9 => by simp only [pW, pWd, pO, pN, pXs] at h9; first | omega | (subst h9; decide))
  have hD : dA E w1 od v2 := hD.fr hf9 (by intro z9; simp [pO, pN, pW, pWd, tP, pXs] at z9)
  have hO : lA E w1 o v9_1 := hO'
  have hC : coS E w1 x (N + 2201) (oF f cn (qWind (a 0) (xs (i9 + 1)) (xs (i9 + 2)) (xs (i9 + 3)))) (oA f a cn (qWind (a 0) (xs (i9 + 1)) (xs (i9 + 2)) (xs (i9 + 3)))) m9_2 c9_3 nb := hC'
  show W p l0 e room_1 s m args below meth c H locs (c0 + 40) (s0 + 220) Q (F0 m 203 ls [.int r200])
  obtain ⟨hk0, hk1⟩ := hp0
  refine lv_istore (lv' := [(6, .int r200), (0, .ref b), (1, .ref x), (2, .ref y), (3, .ref o), (4, .ref od), (5, .int (nI i9))]) hx hb dL_law_203 hl (by decide) rfl (fun ls hl => ?_)
  refine lv_aload_n hx hb dL_law_205 rfl (lv_at hl 3 rfl) ?_
  refine lv_aload_n hx hb dL_law_206 rfl (lv_at hl 1 rfl) ?_
  refine lv_iload hx hb dL_law_207 (lv_at hl 6 rfl) ?_
  refine lv_iconst (v := 1) hx hb dL_law_209 (by decide) ?_
  refine k_iaddN (x := i9) (y := 1) hx hb dL_law_210 ?_
  refine va_sld hx hb hX0 hbl hbA hS (vp_in_nI (n := i9 + 1) (N := L) (by omega) (by omega)) dL_law_211 ?_
  rw [nI_clamp (show i9 + 1 < 2 ^ 31 from by omega)]
  refine lv_aload_n hx hb dL_law_212 rfl (lv_at hl 1 rfl) ?_
  refine lv_iload hx hb dL_law_213 (lv_at hl 6 rfl) ?_
  refine lv_iconst (v := 2) hx hb dL_law_215 (by decide) ?_
  refine k_iaddN (x := i9) (y := 2) hx hb dL_law_216 ?_
  refine va_sld hx hb hX0 hbl hbA hS (vp_in_nI (n := i9 + 2) (N := L) (by omega) (by omega)) dL_law_217 ?_
  rw [nI_clamp (show i9 + 2 < 2 ^ 31 from by omega)]
  refine lv_aload_n hx hb dL_law_218 rfl (lv_at hl 1 rfl) ?_
  refine lv_iload hx hb dL_law_219 (lv_at hl 6 rfl) ?_
  refine lv_iconst (v := 3) hx hb dL_law_221 (by decide) ?_
  refine k_iaddN (x := i9) (y := 3) hx hb dL_law_222 ?_
  refine va_sld hx hb hX0 hbl hbA hS (vp_in_nI (n := i9 + 3) (N := L) (by omega) (by omega)) dL_law_223 ?_
  rw [nI_clamp (show i9 + 3 < 2 ^ 31 from by omega)]
  refine k_cV hx hb hml hown hts (CX6_wind l0 E w1 y ad f a (xs (i9 + 1)) (xs (i9 + 2)) (xs (i9 + 3)) cn hT n6 c8) (cwV 3 hts (lw_V q1685 q1686 q1687 q81 q1688) rfl rfl rfl dyX6_wind ⟨Nat.le_of_ble_eq_true rfl, Nat.le_of_ble_eq_true rfl⟩) hG hP hS hT.1 rfl (As := [.int (xs (i9 + 1)), .int (xs (i9 + 2)), .int (xs (i9 + 3))]) (rest := []) rfl hl.1 rfl (lv_room (Nat.le_of_ble_eq_true rfl)) dL_law_224 ⟨show (c0 + 40) + 0 ≤ 1200144 from by omega, show (s0 + 220) + 0 ≤ 5497402 from by omega⟩ (fun r224 w2 H locs hp hP hS => ?_)
  obtain ⟨f1, a1, hz, hT', hf9⟩ := hp
  have hC : coS E w2 x (N + 2201) (oF f cn (qWind (a 0) (xs (i9 + 1)) (xs (i9 + 2)) (xs (i9 + 3)))) (oA f a cn (qWind (a 0) (xs (i9 + 1)) (xs (i9 + 2)) (xs (i9 + 3)))) m9_2 c9_3 nb := hC.fr hf9 (fun t9 h9 => by simp only [tP, pO, pXs] at h9; omega)
  have hO : lA E w2 o v9_1 := hO.fr hf9 (by intro z9; simp [pO, pN, pW, pWd, tP, pXs] at z9)
  have hD : dA E w2 od v2 := hD.fr hf9 (by intro z9; simp [pO, pN, pW, pWd, tP, pXs] at z9)
  have hT : tM E w2 y ad f1 a1 := hT'
  obtain ⟨hr7, hf7, ha7⟩ := hz
  have hth : f1 13 = _ := (congrFun hf7 13).trans (oF_13 (f := f) (ch := cn) (Q := (qWind (a 0) (xs (i9 + 1)) (xs (i9 + 2)) (xs (i9 + 3)))))
  have hco := hC.mono (show _ ≤ N + 64000 from by omega)
  rw [← hf7, ← ha7] at hco
  have hans := hr7
  show W p l0 e room_1 s m args below meth c H locs (c0 + 40) (s0 + 220) Q (F0 m 227 ls [.int r224])
  refine lv_istore (lv' := [(7, .int r224), (6, .int r200), (0, .ref b), (1, .ref x), (2, .ref y), (3, .ref o), (4, .ref od), (5, .int (nI i9))]) hx hb dL_law_227 hl (by decide) rfl (fun ls hl => ?_)
  refine lv_aload_n hx hb dL_law_229 rfl (lv_at hl 4 rfl) ?_
  refine k_cV hx hb hml hown hts (CX6_thrown l0 E w2 y ad f1 a1 hT) (cwV 0 hts (lw_V q1681 q1682 q1683 q81 q1684) rfl rfl rfl dyX6_thrown ⟨Nat.le_of_ble_eq_true rfl, Nat.le_of_ble_eq_true rfl⟩) hG hP hS hT.1 rfl (As := []) (rest := []) rfl hl.1 rfl (lv_room (Nat.le_of_ble_eq_true rfl)) dL_law_230 ⟨show (c0 + 40) + 0 ≤ 1200144 from by omega, show (s0 + 220) + 0 ≤ 5497402 from by omega⟩ (fun r230 w3 H locs hp hP hS => ?_)
  obtain ⟨hp1, hp0⟩ := hp
  rw [hp1] at hP
  rw [hp0, hth, ← hk0]
  show W p l0 e room_1 s m args below meth c H locs (c0 + 40) (s0 + 220) Q (F0 m 233 ls [.int r200])
  refine lv_iload hx hb dL_law_233 (lv_at hl 1 rfl) ?_
  refine lv_icmp_eq (tgt := 240) hx hb dL_law_235 (by decide) (fun c235 => ?_) (fun c235 => ?_)
  · skip
    refine lv_iload hx hb dL_law_240 (lv_at hl 1 rfl) ?_
    refine lv_if_ne (tgt := 257) hx hb dL_law_242 (by decide) (fun c242 => ?_) (fun c242 => ?_)
    · skip
      refine lv_goto (tgt := 1904) hx hb dL_law_257 (by decide) ?_
      refine W.widen (show (c0 + 40) ≤ c0 + 7000 from by omega) (show (s0 + 220) ≤ s0 + 23000 from by omega) ?_
      exact kk _ H locs ls _ _ _ _ _ _ _ hco hT hO hD hP hS (lv_drop hl (by simp))
    · skip
      have hv9 := hk1 (hk0.symm.trans c242)
      have hans9 := hans
      rw [hv9, ← hans9] at hO
      have hO : lA E w2 o (r224).toInt64 := hO
      refine lv_aload_n hx hb dL_law_245 rfl (lv_at hl 5 rfl) ?_
      refine lv_iconst (v := 0) hx hb dL_law_246 (by decide) ?_
      refine k_lald hx hb hG hP hO dL_law_247 ?_
      refine lv_iload hx hb dL_law_248 (lv_at hl 0 rfl) ?_
      refine lv_i2l hx hb dL_law_250 rfl ?_
      refine lv_lcmpE hx hb dL_law_251 ?_
      refine lv_if_eq (tgt := 257) hx hb dL_law_252 (by decide) (fun c252 => ?_) (fun c252 => ?_)
      · skip
        refine lv_goto (tgt := 1904) hx hb dL_law_257 (by decide) ?_
        refine W.widen (show (c0 + 40) ≤ c0 + 7000 from by omega) (show (s0 + 220) ≤ s0 + 23000 from by omega) ?_
        exact kk _ H locs ls _ _ _ _ _ _ _ hco hT hO hD hP hS (lv_drop hl (by simp))
      · skip
        exact absurd c252 (by decide)
  · skip
    exact absurd rfl c235

set_option maxHeartbeats 4000000 in
theorem law_kite {p : Program} {e : Env} {s : State} {m : MethodId} {args : Array Value} {below : List Frame} {meth : Method} {c : Code} {E : gE} {b L : Nat} {xs : Nat → Int32} {Q : State → Prop} (l0 : Launch) (hl0 : l0.stackTraces = false) (hx : p.tables.exec = Jvm.exec) (hb : c.code = cL_law) (hml : c.maxLocals = 9) (hown : s.vm.findClass "KiteRoofsLaw" = some m.cls) (hts : ∀ w ∈ lw_all, w.before args s = true) (hG : gK E s) (hX0 : va_X b L xs s s.heap) (hbl : b < s.heap.size) (hbA : ¬ gA E b)
    {w : wd} {H : Heap} {locs : List Loc} {ls : Array Slot} {x y o od N mn cn nb i9 c0 s0 : Nat} {f : Nat → Int32} {a : Nat → Nat → Int32} {ad : Nat → Nat} {v : Int64} {v2 : UInt64} (hL : L ≤ 120) (hi : i9 + 5 ≤ L) (hN9 : N + 71 * 31 * 32 < 2 ^ 31) (hc0 : c0 + 7000 ≤ 1200144) (hs0 : s0 + 23000 ≤ 5497402)
    (hC : coS E w x N f a mn cn nb) (hT : tM E w y ad f a) (hO : lA E w o v) (hD : dA E w od v2) (hP : wP E w H) (hS : va_S (gA E) s.heap H locs) (hl : lv_has ls 9 [(0, .ref b), (1, .ref x), (2, .ref y), (3, .ref o), (4, .ref od), (5, .int (nI i9))])
    (kk : ∀ (w1 : wd) (H1 : Heap) (locs1 : List Loc) (ls1 : Array Slot) (f1 : Nat → Int32) (a1 : Nat → Nat → Int32) (mn1 cn1 nb1 : Nat) (v1 : Int64) (v21 : UInt64), coS E w1 x (N + 64000) f1 a1 mn1 cn1 nb1 → tM E w1 y ad f1 a1 → lA E w1 o v1 → dA E w1 od v21 → wP E w1 H1 → va_S (gA E) s.heap H1 locs1 → lv_has ls1 9 [(0, .ref b), (1, .ref x), (2, .ref y), (3, .ref o), (4, .ref od), (5, .int (nI i9))] → W p l0 e room_1 s m args below meth c H1 locs1 (c0 + 7000) (s0 + 23000) Q (F0 m 1904 ls1 [])) :
    W p l0 e room_1 s m args below meth c H locs c0 s0 Q (F0 m 344 ls []) := by
  obtain ⟨⟨n9, n6, n7, n11⟩, ⟨n60, c8⟩, ⟨m25, m6⟩, gI0⟩ := hC.nums
  refine lv_aload_n hx hb dL_law_344 rfl (lv_at hl 1 rfl) ?_
  refine lv_aload_n hx hb dL_law_345 rfl (lv_at hl 0 rfl) ?_
  refine lv_iload hx hb dL_law_346 (lv_at hl 5 rfl) ?_
  refine lv_iconst (v := 1) hx hb dL_law_348 (by decide) ?_
  refine k_iaddN (x := i9) (y := 1) hx hb dL_law_349 ?_
  refine va_sld hx hb hX0 hbl hbA hS (vp_in_nI (n := i9 + 1) (N := L) (by omega) (by omega)) dL_law_350 ?_
  rw [nI_clamp (show i9 + 1 < 2 ^ 31 from by omega)]
  refine lv_aload_n hx hb dL_law_351 rfl (lv_at hl 0 rfl) ?_
  refine lv_iload hx hb dL_law_352 (lv_at hl 5 rfl) ?_
  refine lv_iconst (v := 2) hx hb dL_law_354 (by decide) ?_
  refine k_iaddN (x := i9) (y := 2) hx hb dL_law_355 ?_
  refine va_sld hx hb hX0 hbl hbA hS (vp_in_nI (n := i9 + 2) (N := L) (by omega) (by omega)) dL_law_356 ?_
  rw [nI_clamp (show i9 + 2 < 2 ^ 31 from by omega)]
  refine lv_aload_n hx hb dL_law_357 rfl (lv_at hl 0 rfl) ?_
  refine lv_iload hx hb dL_law_358 (lv_at hl 5 rfl) ?_
  refine lv_iconst (v := 3) hx hb dL_law_360 (by decide) ?_
  refine k_iaddN (x := i9) (y := 3) hx hb dL_law_361 ?_
  refine va_sld hx hb hX0 hbl hbA hS (vp_in_nI (n := i9 + 3) (N := L) (by omega) (by omega)) dL_law_362 ?_
  rw [nI_clamp (show i9 + 3 < 2 ^ 31 from by omega)]
  refine lv_aload_n hx hb dL_law_363 rfl (lv_at hl 0 rfl) ?_
  refine lv_iload hx hb dL_law_364 (lv_at hl 5 rfl) ?_
  refine lv_iconst (v := 4) hx hb dL_law_366 (by decide) ?_
  refine k_iaddN (x := i9) (y := 4) hx hb dL_law_367 ?_
  refine va_sld hx hb hX0 hbl hbA hS (vp_in_nI (n := i9 + 4) (N := L) (by omega) (by omega)) dL_law_368 ?_
  rw [nI_clamp (show i9 + 4 < 2 ^ 31 from by omega)]
  refine lv_aload_n hx hb dL_law_369 rfl (lv_at hl 3 rfl) ?_
  refine kx_cSH hx hb hml hown hts (CX0_kite l0 hl0 E w x o f a mn cn nb N v (xs (i9 + 1)) (xs (i9 + 2)) (xs (i9 + 3)) (xs (i9 + 4)) hC hO) (vx_cwSW 6 hts (lw_SW q603 q604 q68 q605) rfl rfl rfl dyX0_kite ⟨Nat.le_of_ble_eq_true rfl, Nat.le_of_ble_eq_true rfl⟩) hG hP hS (As := [.ref x, .int (xs (i9 + 1)), .int (xs (i9 + 2)), .int (xs (i9 + 3)), .int (xs (i9 + 4)), .ref o]) (rest := []) rfl hl.1 rfl (lv_room (Nat.le_of_ble_eq_true rfl)) dL_law_370 ⟨show c0 + 40 ≤ 1200144 from by omega, show s0 + 220 ≤ 5497402 from by omega⟩ (fun r370 w1 H locs hp hP hS => ?_)
  obtain ⟨v9_1, m9_2, c9_3, hp0, ⟨hO', hC', -⟩, hf9⟩ := hp
  have hT : tM E w1 y ad f a := hT.fr hf9 (fun t9 h9 => by simp only [pW, pWd, pO, pN, pXs] at h9; first | omega | (subst h9; decide))
  have hD : dA E w1 od v2 := hD.fr hf9 (by intro z9; simp [pO, pN, pW, pWd, tP, pXs] at z9)
  have hO : lA E w1 o v9_1 := hO'
  have hC : coS E w1 x (N + 2201) (oF f cn (qKite (a 0) mn (xs (i9 + 1)) (xs (i9 + 2)) (xs (i9 + 3)) (xs (i9 + 4)))) (oA f a cn (qKite (a 0) mn (xs (i9 + 1)) (xs (i9 + 2)) (xs (i9 + 3)) (xs (i9 + 4)))) m9_2 c9_3 nb := hC'
  show W p l0 e room_1 s m args below meth c H locs (c0 + 40) (s0 + 220) Q (F0 m 373 ls [.int r370])
  obtain ⟨hk0, hk1⟩ := hp0
  refine lv_istore (lv' := [(6, .int r370), (0, .ref b), (1, .ref x), (2, .ref y), (3, .ref o), (4, .ref od), (5, .int (nI i9))]) hx hb dL_law_373 hl (by decide) rfl (fun ls hl => ?_)
  refine lv_aload_n hx hb dL_law_375 rfl (lv_at hl 3 rfl) ?_
  refine lv_aload_n hx hb dL_law_376 rfl (lv_at hl 1 rfl) ?_
  refine lv_iload hx hb dL_law_377 (lv_at hl 6 rfl) ?_
  refine lv_iconst (v := 1) hx hb dL_law_379 (by decide) ?_
  refine k_iaddN (x := i9) (y := 1) hx hb dL_law_380 ?_
  refine va_sld hx hb hX0 hbl hbA hS (vp_in_nI (n := i9 + 1) (N := L) (by omega) (by omega)) dL_law_381 ?_
  rw [nI_clamp (show i9 + 1 < 2 ^ 31 from by omega)]
  refine lv_aload_n hx hb dL_law_382 rfl (lv_at hl 1 rfl) ?_
  refine lv_iload hx hb dL_law_383 (lv_at hl 6 rfl) ?_
  refine lv_iconst (v := 2) hx hb dL_law_385 (by decide) ?_
  refine k_iaddN (x := i9) (y := 2) hx hb dL_law_386 ?_
  refine va_sld hx hb hX0 hbl hbA hS (vp_in_nI (n := i9 + 2) (N := L) (by omega) (by omega)) dL_law_387 ?_
  rw [nI_clamp (show i9 + 2 < 2 ^ 31 from by omega)]
  refine lv_aload_n hx hb dL_law_388 rfl (lv_at hl 1 rfl) ?_
  refine lv_iload hx hb dL_law_389 (lv_at hl 6 rfl) ?_
  refine lv_iconst (v := 3) hx hb dL_law_391 (by decide) ?_
  refine k_iaddN (x := i9) (y := 3) hx hb dL_law_392 ?_
  refine va_sld hx hb hX0 hbl hbA hS (vp_in_nI (n := i9 + 3) (N := L) (by omega) (by omega)) dL_law_393 ?_
  rw [nI_clamp (show i9 + 3 < 2 ^ 31 from by omega)]
  refine lv_aload_n hx hb dL_law_394 rfl (lv_at hl 1 rfl) ?_
  refine lv_iload hx hb dL_law_395 (lv_at hl 6 rfl) ?_
  refine lv_iconst (v := 4) hx hb dL_law_397 (by decide) ?_
  refine k_iaddN (x := i9) (y := 4) hx hb dL_law_398 ?_
  refine va_sld hx hb hX0 hbl hbA hS (vp_in_nI (n := i9 + 4) (N := L) (by omega) (by omega)) dL_law_399 ?_
  rw [nI_clamp (show i9 + 4 < 2 ^ 31 from by omega)]
  refine k_cV hx hb hml hown hts (CX6_kite l0 E w1 y ad f a (xs (i9 + 1)) (xs (i9 + 2)) (xs (i9 + 3)) (xs (i9 + 4)) cn mn hT n6 c8 m6 m25) (cwV 4 hts (lw_V q1710 q1711 q1712 q81 q1713) rfl rfl rfl dyX6_kite ⟨Nat.le_of_ble_eq_true rfl, Nat.le_of_ble_eq_true rfl⟩) hG hP hS hT.1 rfl (As := [.int (xs (i9 + 1)), .int (xs (i9 + 2)), .int (xs (i9 + 3)), .int (xs (i9 + 4))]) (rest := []) rfl hl.1 rfl (lv_room (Nat.le_of_ble_eq_true rfl)) dL_law_400 ⟨show (c0 + 40) + 0 ≤ 1200144 from by omega, show (s0 + 220) + 0 ≤ 5497402 from by omega⟩ (fun r400 w2 H locs hp hP hS => ?_)
  obtain ⟨f1, a1, hz, hT', hf9⟩ := hp
  have hC : coS E w2 x (N + 2201) (oF f cn (qKite (a 0) mn (xs (i9 + 1)) (xs (i9 + 2)) (xs (i9 + 3)) (xs (i9 + 4)))) (oA f a cn (qKite (a 0) mn (xs (i9 + 1)) (xs (i9 + 2)) (xs (i9 + 3)) (xs (i9 + 4)))) m9_2 c9_3 nb := hC.fr hf9 (fun t9 h9 => by simp only [tP, pO, pXs] at h9; omega)
  have hO : lA E w2 o v9_1 := hO.fr hf9 (by intro z9; simp [pO, pN, pW, pWd, tP, pXs] at z9)
  have hD : dA E w2 od v2 := hD.fr hf9 (by intro z9; simp [pO, pN, pW, pWd, tP, pXs] at z9)
  have hT : tM E w2 y ad f1 a1 := hT'
  obtain ⟨hr7, hf7, ha7⟩ := hz
  have hth : f1 13 = _ := (congrFun hf7 13).trans (oF_13 (f := f) (ch := cn) (Q := (qKite (a 0) mn (xs (i9 + 1)) (xs (i9 + 2)) (xs (i9 + 3)) (xs (i9 + 4)))))
  have hco := hC.mono (show _ ≤ N + 64000 from by omega)
  rw [← hf7, ← ha7] at hco
  have hans := hr7
  show W p l0 e room_1 s m args below meth c H locs (c0 + 40) (s0 + 220) Q (F0 m 403 ls [.int r400])
  refine lv_istore (lv' := [(7, .int r400), (6, .int r370), (0, .ref b), (1, .ref x), (2, .ref y), (3, .ref o), (4, .ref od), (5, .int (nI i9))]) hx hb dL_law_403 hl (by decide) rfl (fun ls hl => ?_)
  refine lv_aload_n hx hb dL_law_405 rfl (lv_at hl 4 rfl) ?_
  refine k_cV hx hb hml hown hts (CX6_thrown l0 E w2 y ad f1 a1 hT) (cwV 0 hts (lw_V q1681 q1682 q1683 q81 q1684) rfl rfl rfl dyX6_thrown ⟨Nat.le_of_ble_eq_true rfl, Nat.le_of_ble_eq_true rfl⟩) hG hP hS hT.1 rfl (As := []) (rest := []) rfl hl.1 rfl (lv_room (Nat.le_of_ble_eq_true rfl)) dL_law_406 ⟨show (c0 + 40) + 0 ≤ 1200144 from by omega, show (s0 + 220) + 0 ≤ 5497402 from by omega⟩ (fun r406 w3 H locs hp hP hS => ?_)
  obtain ⟨hp1, hp0⟩ := hp
  rw [hp1] at hP
  rw [hp0, hth, ← hk0]
  show W p l0 e room_1 s m args below meth c H locs (c0 + 40) (s0 + 220) Q (F0 m 409 ls [.int r370])
  refine lv_iload hx hb dL_law_409 (lv_at hl 1 rfl) ?_
  refine lv_icmp_eq (tgt := 416) hx hb dL_law_411 (by decide) (fun c411 => ?_) (fun c411 => ?_)
  · skip
    refine lv_iload hx hb dL_law_416 (lv_at hl 1 rfl) ?_
    refine lv_if_ne (tgt := 433) hx hb dL_law_418 (by decide) (fun c418 => ?_) (fun c418 => ?_)
    · skip
      refine lv_goto (tgt := 1904) hx hb dL_law_433 (by decide) ?_
      refine W.widen (show (c0 + 40) ≤ c0 + 7000 from by omega) (show (s0 + 220) ≤ s0 + 23000 from by omega) ?_
      exact kk _ H locs ls _ _ _ _ _ _ _ hco hT hO hD hP hS (lv_drop hl (by simp))
    · skip
      have hv9 := hk1 (hk0.symm.trans c418)
      have hans9 := hans
      rw [hv9, ← hans9] at hO
      have hO : lA E w2 o (r400).toInt64 := hO
      refine lv_aload_n hx hb dL_law_421 rfl (lv_at hl 5 rfl) ?_
      refine lv_iconst (v := 0) hx hb dL_law_422 (by decide) ?_
      refine k_lald hx hb hG hP hO dL_law_423 ?_
      refine lv_iload hx hb dL_law_424 (lv_at hl 0 rfl) ?_
      refine lv_i2l hx hb dL_law_426 rfl ?_
      refine lv_lcmpE hx hb dL_law_427 ?_
      refine lv_if_eq (tgt := 433) hx hb dL_law_428 (by decide) (fun c428 => ?_) (fun c428 => ?_)
      · skip
        refine lv_goto (tgt := 1904) hx hb dL_law_433 (by decide) ?_
        refine W.widen (show (c0 + 40) ≤ c0 + 7000 from by omega) (show (s0 + 220) ≤ s0 + 23000 from by omega) ?_
        exact kk _ H locs ls _ _ _ _ _ _ _ hco hT hO hD hP hS (lv_drop hl (by simp))
      · skip
        exact absurd c428 (by decide)
  · skip
    exact absurd rfl c411

set_option maxHeartbeats 4000000 in
theorem law_launch {p : Program} {e : Env} {s : State} {m : MethodId} {args : Array Value} {below : List Frame} {meth : Method} {c : Code} {E : gE} {b L : Nat} {xs : Nat → Int32} {Q : State → Prop} (l0 : Launch) (hl0 : l0.stackTraces = false) (hx : p.tables.exec = Jvm.exec) (hb : c.code = cL_law) (hml : c.maxLocals = 9) (hown : s.vm.findClass "KiteRoofsLaw" = some m.cls) (hts : ∀ w ∈ lw_all, w.before args s = true) (hG : gK E s) (hX0 : va_X b L xs s s.heap) (hbl : b < s.heap.size) (hbA : ¬ gA E b)
    {w : wd} {H : Heap} {locs : List Loc} {ls : Array Slot} {x y o od N mn cn nb i9 c0 s0 : Nat} {f : Nat → Int32} {a : Nat → Nat → Int32} {ad : Nat → Nat} {v : Int64} {v2 : UInt64} (hL : L ≤ 120) (hi : i9 + 5 ≤ L) (hN9 : N + 71 * 31 * 32 < 2 ^ 31) (hc0 : c0 + 7000 ≤ 1200144) (hs0 : s0 + 23000 ≤ 5497402)
    (hC : coS E w x N f a mn cn nb) (hT : tM E w y ad f a) (hO : lA E w o v) (hD : dA E w od v2) (hP : wP E w H) (hS : va_S (gA E) s.heap H locs) (hl : lv_has ls 9 [(0, .ref b), (1, .ref x), (2, .ref y), (3, .ref o), (4, .ref od), (5, .int (nI i9))])
    (kk : ∀ (w1 : wd) (H1 : Heap) (locs1 : List Loc) (ls1 : Array Slot) (f1 : Nat → Int32) (a1 : Nat → Nat → Int32) (mn1 cn1 nb1 : Nat) (v1 : Int64) (v21 : UInt64), coS E w1 x (N + 64000) f1 a1 mn1 cn1 nb1 → tM E w1 y ad f1 a1 → lA E w1 o v1 → dA E w1 od v21 → wP E w1 H1 → va_S (gA E) s.heap H1 locs1 → lv_has ls1 9 [(0, .ref b), (1, .ref x), (2, .ref y), (3, .ref o), (4, .ref od), (5, .int (nI i9))] → W p l0 e room_1 s m args below meth c H1 locs1 (c0 + 7000) (s0 + 23000) Q (F0 m 1904 ls1 [])) :
    W p l0 e room_1 s m args below meth c H locs c0 s0 Q (F0 m 436 ls []) := by
  obtain ⟨⟨n9, n6, n7, n11⟩, ⟨n60, c8⟩, ⟨m25, m6⟩, gI0⟩ := hC.nums
  refine lv_aload_n hx hb dL_law_436 rfl (lv_at hl 1 rfl) ?_
  refine lv_aload_n hx hb dL_law_437 rfl (lv_at hl 0 rfl) ?_
  refine lv_iload hx hb dL_law_438 (lv_at hl 5 rfl) ?_
  refine lv_iconst (v := 1) hx hb dL_law_440 (by decide) ?_
  refine k_iaddN (x := i9) (y := 1) hx hb dL_law_441 ?_
  refine va_sld hx hb hX0 hbl hbA hS (vp_in_nI (n := i9 + 1) (N := L) (by omega) (by omega)) dL_law_442 ?_
  rw [nI_clamp (show i9 + 1 < 2 ^ 31 from by omega)]
  refine lv_aload_n hx hb dL_law_443 rfl (lv_at hl 3 rfl) ?_
  refine kx_cSH hx hb hml hown hts (CX0_launch l0 hl0 E w x o f a mn cn nb N v (xs (i9 + 1)) hC hO) (vx_cwSW 3 hts (lw_SW q649 q650 q68 q651) rfl rfl rfl dyX0_launch ⟨Nat.le_of_ble_eq_true rfl, Nat.le_of_ble_eq_true rfl⟩) hG hP hS (As := [.ref x, .int (xs (i9 + 1)), .ref o]) (rest := []) rfl hl.1 rfl (lv_room (Nat.le_of_ble_eq_true rfl)) dL_law_444 ⟨show c0 + 40 ≤ 1200144 from by omega, show s0 + 220 ≤ 5497402 from by omega⟩ (fun r444 w1 H locs hp hP hS => ?_)
  obtain ⟨v9_1, m9_2, c9_3, hp0, ⟨hO', hC', -⟩, hf9⟩ := hp
  have hT : tM E w1 y ad f a := hT.fr hf9 (fun t9 h9 => by simp only [pW, pWd, pO, pN, pXs] at h9; first | omega | (subst h9; decide))
  have hD : dA E w1 od v2 := hD.fr hf9 (by intro z9; simp [pO, pN, pW, pWd, tP, pXs] at z9)
  have hO : lA E w1 o v9_1 := hO'
  have hC : coS E w1 x (N + 2201) (oF f cn (qLnch (a 0) mn (xs (i9 + 1)))) (oA f a cn (qLnch (a 0) mn (xs (i9 + 1)))) m9_2 c9_3 nb := hC'
  show W p l0 e room_1 s m args below meth c H locs (c0 + 40) (s0 + 220) Q (F0 m 447 ls [.int r444])
  obtain ⟨hk0, hk1⟩ := hp0
  refine lv_istore (lv' := [(6, .int r444), (0, .ref b), (1, .ref x), (2, .ref y), (3, .ref o), (4, .ref od), (5, .int (nI i9))]) hx hb dL_law_447 hl (by decide) rfl (fun ls hl => ?_)
  refine lv_aload_n hx hb dL_law_449 rfl (lv_at hl 3 rfl) ?_
  refine lv_aload_n hx hb dL_law_450 rfl (lv_at hl 1 rfl) ?_
  refine lv_iload hx hb dL_law_451 (lv_at hl 6 rfl) ?_
  refine lv_iconst (v := 1) hx hb dL_law_453 (by decide) ?_
  refine k_iaddN (x := i9) (y := 1) hx hb dL_law_454 ?_
  refine va_sld hx hb hX0 hbl hbA hS (vp_in_nI (n := i9 + 1) (N := L) (by omega) (by omega)) dL_law_455 ?_
  rw [nI_clamp (show i9 + 1 < 2 ^ 31 from by omega)]
  refine k_cV hx hb hml hown hts (CX6_launch l0 E w1 y ad f a (xs (i9 + 1)) cn mn hT n6 c8 m6 m25) (cwV 1 hts (lw_V q1722 q1723 q1724 q81 q1725) rfl rfl rfl dyX6_launch ⟨Nat.le_of_ble_eq_true rfl, Nat.le_of_ble_eq_true rfl⟩) hG hP hS hT.1 rfl (As := [.int (xs (i9 + 1))]) (rest := []) rfl hl.1 rfl (lv_room (Nat.le_of_ble_eq_true rfl)) dL_law_456 ⟨show (c0 + 40) + 0 ≤ 1200144 from by omega, show (s0 + 220) + 0 ≤ 5497402 from by omega⟩ (fun r456 w2 H locs hp hP hS => ?_)
  obtain ⟨f1, a1, hz, hT', hf9⟩ := hp
  have hC : coS E w2 x (N + 2201) (oF f cn (qLnch (a 0) mn (xs (i9 + 1)))) (oA f a cn (qLnch (a 0) mn (xs (i9 + 1)))) m9_2 c9_3 nb := hC.fr hf9 (fun t9 h9 => by simp only [tP, pO, pXs] at h9; omega)
  have hO : lA E w2 o v9_1 := hO.fr hf9 (by intro z9; simp [pO, pN, pW, pWd, tP, pXs] at z9)
  have hD : dA E w2 od v2 := hD.fr hf9 (by intro z9; simp [pO, pN, pW, pWd, tP, pXs] at z9)
  have hT : tM E w2 y ad f1 a1 := hT'
  obtain ⟨hr7, hf7, ha7⟩ := hz
  have hth : f1 13 = _ := (congrFun hf7 13).trans (oF_13 (f := f) (ch := cn) (Q := (qLnch (a 0) mn (xs (i9 + 1)))))
  have hco := hC.mono (show _ ≤ N + 64000 from by omega)
  rw [← hf7, ← ha7] at hco
  have hans := hr7
  show W p l0 e room_1 s m args below meth c H locs (c0 + 40) (s0 + 220) Q (F0 m 459 ls [.int r456])
  refine lv_istore (lv' := [(7, .int r456), (6, .int r444), (0, .ref b), (1, .ref x), (2, .ref y), (3, .ref o), (4, .ref od), (5, .int (nI i9))]) hx hb dL_law_459 hl (by decide) rfl (fun ls hl => ?_)
  refine lv_aload_n hx hb dL_law_461 rfl (lv_at hl 4 rfl) ?_
  refine k_cV hx hb hml hown hts (CX6_thrown l0 E w2 y ad f1 a1 hT) (cwV 0 hts (lw_V q1681 q1682 q1683 q81 q1684) rfl rfl rfl dyX6_thrown ⟨Nat.le_of_ble_eq_true rfl, Nat.le_of_ble_eq_true rfl⟩) hG hP hS hT.1 rfl (As := []) (rest := []) rfl hl.1 rfl (lv_room (Nat.le_of_ble_eq_true rfl)) dL_law_462 ⟨show (c0 + 40) + 0 ≤ 1200144 from by omega, show (s0 + 220) + 0 ≤ 5497402 from by omega⟩ (fun r462 w3 H locs hp hP hS => ?_)
  obtain ⟨hp1, hp0⟩ := hp
  rw [hp1] at hP
  rw [hp0, hth, ← hk0]
  show W p l0 e room_1 s m args below meth c H locs (c0 + 40) (s0 + 220) Q (F0 m 465 ls [.int r444])
  refine lv_iload hx hb dL_law_465 (lv_at hl 1 rfl) ?_
  refine lv_icmp_eq (tgt := 472) hx hb dL_law_467 (by decide) (fun c467 => ?_) (fun c467 => ?_)
  · skip
    refine lv_iload hx hb dL_law_472 (lv_at hl 1 rfl) ?_
    refine lv_if_ne (tgt := 489) hx hb dL_law_474 (by decide) (fun c474 => ?_) (fun c474 => ?_)
    · skip
      refine lv_goto (tgt := 1904) hx hb dL_law_489 (by decide) ?_
      refine W.widen (show (c0 + 40) ≤ c0 + 7000 from by omega) (show (s0 + 220) ≤ s0 + 23000 from by omega) ?_
      exact kk _ H locs ls _ _ _ _ _ _ _ hco hT hO hD hP hS (lv_drop hl (by simp))
    · skip
      have hv9 := hk1 (hk0.symm.trans c474)
      have hans9 := hans
      rw [hv9, ← hans9] at hO
      have hO : lA E w2 o (r456).toInt64 := hO
      refine lv_aload_n hx hb dL_law_477 rfl (lv_at hl 5 rfl) ?_
      refine lv_iconst (v := 0) hx hb dL_law_478 (by decide) ?_
      refine k_lald hx hb hG hP hO dL_law_479 ?_
      refine lv_iload hx hb dL_law_480 (lv_at hl 0 rfl) ?_
      refine lv_i2l hx hb dL_law_482 rfl ?_
      refine lv_lcmpE hx hb dL_law_483 ?_
      refine lv_if_eq (tgt := 489) hx hb dL_law_484 (by decide) (fun c484 => ?_) (fun c484 => ?_)
      · skip
        refine lv_goto (tgt := 1904) hx hb dL_law_489 (by decide) ?_
        refine W.widen (show (c0 + 40) ≤ c0 + 7000 from by omega) (show (s0 + 220) ≤ s0 + 23000 from by omega) ?_
        exact kk _ H locs ls _ _ _ _ _ _ _ hco hT hO hD hP hS (lv_drop hl (by simp))
      · skip
        exact absurd c484 (by decide)
  · skip
    exact absurd rfl c467

set_option maxHeartbeats 4000000 in
theorem law_reel {p : Program} {e : Env} {s : State} {m : MethodId} {args : Array Value} {below : List Frame} {meth : Method} {c : Code} {E : gE} {b L : Nat} {xs : Nat → Int32} {Q : State → Prop} (l0 : Launch) (hl0 : l0.stackTraces = false) (hx : p.tables.exec = Jvm.exec) (hb : c.code = cL_law) (hml : c.maxLocals = 9) (hown : s.vm.findClass "KiteRoofsLaw" = some m.cls) (hts : ∀ w ∈ lw_all, w.before args s = true) (hG : gK E s) (hX0 : va_X b L xs s s.heap) (hbl : b < s.heap.size) (hbA : ¬ gA E b)
    {w : wd} {H : Heap} {locs : List Loc} {ls : Array Slot} {x y o od N mn cn nb i9 c0 s0 : Nat} {f : Nat → Int32} {a : Nat → Nat → Int32} {ad : Nat → Nat} {v : Int64} {v2 : UInt64} (hL : L ≤ 120) (hi : i9 + 5 ≤ L) (hN9 : N + 71 * 31 * 32 < 2 ^ 31) (hc0 : c0 + 7000 ≤ 1200144) (hs0 : s0 + 23000 ≤ 5497402)
    (hC : coS E w x N f a mn cn nb) (hT : tM E w y ad f a) (hO : lA E w o v) (hD : dA E w od v2) (hP : wP E w H) (hS : va_S (gA E) s.heap H locs) (hl : lv_has ls 9 [(0, .ref b), (1, .ref x), (2, .ref y), (3, .ref o), (4, .ref od), (5, .int (nI i9))])
    (kk : ∀ (w1 : wd) (H1 : Heap) (locs1 : List Loc) (ls1 : Array Slot) (f1 : Nat → Int32) (a1 : Nat → Nat → Int32) (mn1 cn1 nb1 : Nat) (v1 : Int64) (v21 : UInt64), coS E w1 x (N + 64000) f1 a1 mn1 cn1 nb1 → tM E w1 y ad f1 a1 → lA E w1 o v1 → dA E w1 od v21 → wP E w1 H1 → va_S (gA E) s.heap H1 locs1 → lv_has ls1 9 [(0, .ref b), (1, .ref x), (2, .ref y), (3, .ref o), (4, .ref od), (5, .int (nI i9))] → W p l0 e room_1 s m args below meth c H1 locs1 (c0 + 7000) (s0 + 23000) Q (F0 m 1904 ls1 [])) :
    W p l0 e room_1 s m args below meth c H locs c0 s0 Q (F0 m 492 ls []) := by
  obtain ⟨⟨n9, n6, n7, n11⟩, ⟨n60, c8⟩, ⟨m25, m6⟩, gI0⟩ := hC.nums
  refine lv_aload_n hx hb dL_law_492 rfl (lv_at hl 1 rfl) ?_
  refine lv_aload_n hx hb dL_law_493 rfl (lv_at hl 0 rfl) ?_
  refine lv_iload hx hb dL_law_494 (lv_at hl 5 rfl) ?_
  refine lv_iconst (v := 1) hx hb dL_law_496 (by decide) ?_
  refine k_iaddN (x := i9) (y := 1) hx hb dL_law_497 ?_
  refine va_sld hx hb hX0 hbl hbA hS (vp_in_nI (n := i9 + 1) (N := L) (by omega) (by omega)) dL_law_498 ?_
  rw [nI_clamp (show i9 + 1 < 2 ^ 31 from by omega)]
  refine lv_aload_n hx hb dL_law_499 rfl (lv_at hl 0 rfl) ?_
  refine lv_iload hx hb dL_law_500 (lv_at hl 5 rfl) ?_
  refine lv_iconst (v := 2) hx hb dL_law_502 (by decide) ?_
  refine k_iaddN (x := i9) (y := 2) hx hb dL_law_503 ?_
  refine va_sld hx hb hX0 hbl hbA hS (vp_in_nI (n := i9 + 2) (N := L) (by omega) (by omega)) dL_law_504 ?_
  rw [nI_clamp (show i9 + 2 < 2 ^ 31 from by omega)]
  refine lv_aload_n hx hb dL_law_505 rfl (lv_at hl 3 rfl) ?_
  refine kx_cSH hx hb hml hown hts (CX0_reel l0 hl0 E w x o f a mn cn nb N v (xs (i9 + 1)) (xs (i9 + 2)) hC hO) (vx_cwSW 4 hts (lw_SW q701 q702 q68 q703) rfl rfl rfl dyX0_reel ⟨Nat.le_of_ble_eq_true rfl, Nat.le_of_ble_eq_true rfl⟩) hG hP hS (As := [.ref x, .int (xs (i9 + 1)), .int (xs (i9 + 2)), .ref o]) (rest := []) rfl hl.1 rfl (lv_room (Nat.le_of_ble_eq_true rfl)) dL_law_506 ⟨show c0 + 40 ≤ 1200144 from by omega, show s0 + 220 ≤ 5497402 from by omega⟩ (fun r506 w1 H locs hp hP hS => ?_)
  obtain ⟨v9_1, m9_2, c9_3, hp0, ⟨hO', hC', -⟩, hf9⟩ := hp
  have hT : tM E w1 y ad f a := hT.fr hf9 (fun t9 h9 => by simp only [pW, pWd, pO, pN, pXs] at h9; first | omega | (subst h9; decide))
  have hD : dA E w1 od v2 := hD.fr hf9 (by intro z9; simp [pO, pN, pW, pWd, tP, pXs] at z9)
  have hO : lA E w1 o v9_1 := hO'
  have hC : coS E w1 x (N + 2201) (oF f cn (qReel (a 0) (xs (i9 + 1)) (xs (i9 + 2)))) (oA f a cn (qReel (a 0) (xs (i9 + 1)) (xs (i9 + 2)))) m9_2 c9_3 nb := hC'
  show W p l0 e room_1 s m args below meth c H locs (c0 + 40) (s0 + 220) Q (F0 m 509 ls [.int r506])
  obtain ⟨hk0, hk1⟩ := hp0
  refine lv_istore (lv' := [(6, .int r506), (0, .ref b), (1, .ref x), (2, .ref y), (3, .ref o), (4, .ref od), (5, .int (nI i9))]) hx hb dL_law_509 hl (by decide) rfl (fun ls hl => ?_)
  refine lv_aload_n hx hb dL_law_511 rfl (lv_at hl 3 rfl) ?_
  refine lv_aload_n hx hb dL_law_512 rfl (lv_at hl 1 rfl) ?_
  refine lv_iload hx hb dL_law_513 (lv_at hl 6 rfl) ?_
  refine lv_iconst (v := 1) hx hb dL_law_515 (by decide) ?_
  refine k_iaddN (x := i9) (y := 1) hx hb dL_law_516 ?_
  refine va_sld hx hb hX0 hbl hbA hS (vp_in_nI (n := i9 + 1) (N := L) (by omega) (by omega)) dL_law_517 ?_
  rw [nI_clamp (show i9 + 1 < 2 ^ 31 from by omega)]
  refine lv_aload_n hx hb dL_law_518 rfl (lv_at hl 1 rfl) ?_
  refine lv_iload hx hb dL_law_519 (lv_at hl 6 rfl) ?_
  refine lv_iconst (v := 2) hx hb dL_law_521 (by decide) ?_
  refine k_iaddN (x := i9) (y := 2) hx hb dL_law_522 ?_
  refine va_sld hx hb hX0 hbl hbA hS (vp_in_nI (n := i9 + 2) (N := L) (by omega) (by omega)) dL_law_523 ?_
  rw [nI_clamp (show i9 + 2 < 2 ^ 31 from by omega)]
  refine k_cV hx hb hml hown hts (CX6_reel l0 E w1 y ad f a (xs (i9 + 1)) (xs (i9 + 2)) cn mn hT n6 c8 m6 m25) (cwV 2 hts (lw_V q1738 q1739 q1740 q81 q1741) rfl rfl rfl dyX6_reel ⟨Nat.le_of_ble_eq_true rfl, Nat.le_of_ble_eq_true rfl⟩) hG hP hS hT.1 rfl (As := [.int (xs (i9 + 1)), .int (xs (i9 + 2))]) (rest := []) rfl hl.1 rfl (lv_room (Nat.le_of_ble_eq_true rfl)) dL_law_524 ⟨show (c0 + 40) + 0 ≤ 1200144 from by omega, show (s0 + 220) + 0 ≤ 5497402 from by omega⟩ (fun r524 w2 H locs hp hP hS => ?_)
  obtain ⟨f1, a1, hz, hT', hf9⟩ := hp
  have hC : coS E w2 x (N + 2201) (oF f cn (qReel (a 0) (xs (i9 + 1)) (xs (i9 + 2)))) (oA f a cn (qReel (a 0) (xs (i9 + 1)) (xs (i9 + 2)))) m9_2 c9_3 nb := hC.fr hf9 (fun t9 h9 => by simp only [tP, pO, pXs] at h9; omega)
  have hO : lA E w2 o v9_1 := hO.fr hf9 (by intro z9; simp [pO, pN, pW, pWd, tP, pXs] at z9)
  have hD : dA E w2 od v2 := hD.fr hf9 (by intro z9; simp [pO, pN, pW, pWd, tP, pXs] at z9)
  have hT : tM E w2 y ad f1 a1 := hT'
  obtain ⟨hr7, hf7, ha7⟩ := hz
  have hth : f1 13 = _ := (congrFun hf7 13).trans (oF_13 (f := f) (ch := cn) (Q := (qReel (a 0) (xs (i9 + 1)) (xs (i9 + 2)))))
  have hco := hC.mono (show _ ≤ N + 64000 from by omega)
  rw [← hf7, ← ha7] at hco
  have hans := hr7
  show W p l0 e room_1 s m args below meth c H locs (c0 + 40) (s0 + 220) Q (F0 m 527 ls [.int r524])
  refine lv_istore (lv' := [(7, .int r524), (6, .int r506), (0, .ref b), (1, .ref x), (2, .ref y), (3, .ref o), (4, .ref od), (5, .int (nI i9))]) hx hb dL_law_527 hl (by decide) rfl (fun ls hl => ?_)
  refine lv_aload_n hx hb dL_law_529 rfl (lv_at hl 4 rfl) ?_
  refine k_cV hx hb hml hown hts (CX6_thrown l0 E w2 y ad f1 a1 hT) (cwV 0 hts (lw_V q1681 q1682 q1683 q81 q1684) rfl rfl rfl dyX6_thrown ⟨Nat.le_of_ble_eq_true rfl, Nat.le_of_ble_eq_true rfl⟩) hG hP hS hT.1 rfl (As := []) (rest := []) rfl hl.1 rfl (lv_room (Nat.le_of_ble_eq_true rfl)) dL_law_530 ⟨show (c0 + 40) + 0 ≤ 1200144 from by omega, show (s0 + 220) + 0 ≤ 5497402 from by omega⟩ (fun r530 w3 H locs hp hP hS => ?_)
  obtain ⟨hp1, hp0⟩ := hp
  rw [hp1] at hP
  rw [hp0, hth, ← hk0]
  show W p l0 e room_1 s m args below meth c H locs (c0 + 40) (s0 + 220) Q (F0 m 533 ls [.int r506])
  refine lv_iload hx hb dL_law_533 (lv_at hl 1 rfl) ?_
  refine lv_icmp_eq (tgt := 540) hx hb dL_law_535 (by decide) (fun c535 => ?_) (fun c535 => ?_)
  · skip
    refine lv_iload hx hb dL_law_540 (lv_at hl 1 rfl) ?_
    refine lv_if_ne (tgt := 557) hx hb dL_law_542 (by decide) (fun c542 => ?_) (fun c542 => ?_)
    · skip
      refine lv_goto (tgt := 1904) hx hb dL_law_557 (by decide) ?_
      refine W.widen (show (c0 + 40) ≤ c0 + 7000 from by omega) (show (s0 + 220) ≤ s0 + 23000 from by omega) ?_
      exact kk _ H locs ls _ _ _ _ _ _ _ hco hT hO hD hP hS (lv_drop hl (by simp))
    · skip
      have hv9 := hk1 (hk0.symm.trans c542)
      have hans9 := hans
      rw [hv9, ← hans9] at hO
      have hO : lA E w2 o (r524).toInt64 := hO
      refine lv_aload_n hx hb dL_law_545 rfl (lv_at hl 5 rfl) ?_
      refine lv_iconst (v := 0) hx hb dL_law_546 (by decide) ?_
      refine k_lald hx hb hG hP hO dL_law_547 ?_
      refine lv_iload hx hb dL_law_548 (lv_at hl 0 rfl) ?_
      refine lv_i2l hx hb dL_law_550 rfl ?_
      refine lv_lcmpE hx hb dL_law_551 ?_
      refine lv_if_eq (tgt := 557) hx hb dL_law_552 (by decide) (fun c552 => ?_) (fun c552 => ?_)
      · skip
        refine lv_goto (tgt := 1904) hx hb dL_law_557 (by decide) ?_
        refine W.widen (show (c0 + 40) ≤ c0 + 7000 from by omega) (show (s0 + 220) ≤ s0 + 23000 from by omega) ?_
        exact kk _ H locs ls _ _ _ _ _ _ _ hco hT hO hD hP hS (lv_drop hl (by simp))
      · skip
        exact absurd c552 (by decide)
  · skip
    exact absurd rfl c535

set_option maxHeartbeats 4000000 in
theorem law_setSpeed {p : Program} {e : Env} {s : State} {m : MethodId} {args : Array Value} {below : List Frame} {meth : Method} {c : Code} {E : gE} {b L : Nat} {xs : Nat → Int32} {Q : State → Prop} (l0 : Launch) (hl0 : l0.stackTraces = false) (hx : p.tables.exec = Jvm.exec) (hb : c.code = cL_law) (hml : c.maxLocals = 9) (hown : s.vm.findClass "KiteRoofsLaw" = some m.cls) (hts : ∀ w ∈ lw_all, w.before args s = true) (hG : gK E s) (hX0 : va_X b L xs s s.heap) (hbl : b < s.heap.size) (hbA : ¬ gA E b)
    {w : wd} {H : Heap} {locs : List Loc} {ls : Array Slot} {x y o od N mn cn nb i9 c0 s0 : Nat} {f : Nat → Int32} {a : Nat → Nat → Int32} {ad : Nat → Nat} {v : Int64} {v2 : UInt64} (hL : L ≤ 120) (hi : i9 + 5 ≤ L) (hN9 : N + 71 * 31 * 32 < 2 ^ 31) (hc0 : c0 + 7000 ≤ 1200144) (hs0 : s0 + 23000 ≤ 5497402)
    (hC : coS E w x N f a mn cn nb) (hT : tM E w y ad f a) (hO : lA E w o v) (hD : dA E w od v2) (hP : wP E w H) (hS : va_S (gA E) s.heap H locs) (hl : lv_has ls 9 [(0, .ref b), (1, .ref x), (2, .ref y), (3, .ref o), (4, .ref od), (5, .int (nI i9))])
    (kk : ∀ (w1 : wd) (H1 : Heap) (locs1 : List Loc) (ls1 : Array Slot) (f1 : Nat → Int32) (a1 : Nat → Nat → Int32) (mn1 cn1 nb1 : Nat) (v1 : Int64) (v21 : UInt64), coS E w1 x (N + 64000) f1 a1 mn1 cn1 nb1 → tM E w1 y ad f1 a1 → lA E w1 o v1 → dA E w1 od v21 → wP E w1 H1 → va_S (gA E) s.heap H1 locs1 → lv_has ls1 9 [(0, .ref b), (1, .ref x), (2, .ref y), (3, .ref o), (4, .ref od), (5, .int (nI i9))] → W p l0 e room_1 s m args below meth c H1 locs1 (c0 + 7000) (s0 + 23000) Q (F0 m 1904 ls1 [])) :
    W p l0 e room_1 s m args below meth c H locs c0 s0 Q (F0 m 560 ls []) := by
  obtain ⟨⟨n9, n6, n7, n11⟩, ⟨n60, c8⟩, ⟨m25, m6⟩, gI0⟩ := hC.nums
  refine lv_aload_n hx hb dL_law_560 rfl (lv_at hl 1 rfl) ?_
  refine lv_aload_n hx hb dL_law_561 rfl (lv_at hl 0 rfl) ?_
  refine lv_iload hx hb dL_law_562 (lv_at hl 5 rfl) ?_
  refine lv_iconst (v := 1) hx hb dL_law_564 (by decide) ?_
  refine k_iaddN (x := i9) (y := 1) hx hb dL_law_565 ?_
  refine va_sld hx hb hX0 hbl hbA hS (vp_in_nI (n := i9 + 1) (N := L) (by omega) (by omega)) dL_law_566 ?_
  rw [nI_clamp (show i9 + 1 < 2 ^ 31 from by omega)]
  refine lv_aload_n hx hb dL_law_567 rfl (lv_at hl 0 rfl) ?_
  refine lv_iload hx hb dL_law_568 (lv_at hl 5 rfl) ?_
  refine lv_iconst (v := 2) hx hb dL_law_570 (by decide) ?_
  refine k_iaddN (x := i9) (y := 2) hx hb dL_law_571 ?_
  refine va_sld hx hb hX0 hbl hbA hS (vp_in_nI (n := i9 + 2) (N := L) (by omega) (by omega)) dL_law_572 ?_
  rw [nI_clamp (show i9 + 2 < 2 ^ 31 from by omega)]
  refine lv_aload_n hx hb dL_law_573 rfl (lv_at hl 3 rfl) ?_
  refine kx_cSH hx hb hml hown hts (CX0_setSpeed l0 hl0 E w x o f a mn cn nb N v (xs (i9 + 1)) (xs (i9 + 2)) hC hO) (vx_cwSW 4 hts (lw_SW q736 q737 q68 q738) rfl rfl rfl dyX0_setSpeed ⟨Nat.le_of_ble_eq_true rfl, Nat.le_of_ble_eq_true rfl⟩) hG hP hS (As := [.ref x, .int (xs (i9 + 1)), .int (xs (i9 + 2)), .ref o]) (rest := []) rfl hl.1 rfl (lv_room (Nat.le_of_ble_eq_true rfl)) dL_law_574 ⟨show c0 + 40 ≤ 1200144 from by omega, show s0 + 220 ≤ 5497402 from by omega⟩ (fun r574 w1 H locs hp hP hS => ?_)
  obtain ⟨v9_1, m9_2, c9_3, hp0, ⟨hO', hC', -⟩, hf9⟩ := hp
  have hT : tM E w1 y ad f a := hT.fr hf9 (fun t9 h9 => by simp only [pW, pWd, pO, pN, pXs] at h9; first | omega | (subst h9; decide))
  have hD : dA E w1 od v2 := hD.fr hf9 (by intro z9; simp [pO, pN, pW, pWd, tP, pXs] at z9)
  have hO : lA E w1 o v9_1 := hO'
  have hC : coS E w1 x (N + 2201) (oF f cn (qSpeed (a 0) (xs (i9 + 1)) (xs (i9 + 2)))) (oA f a cn (qSpeed (a 0) (xs (i9 + 1)) (xs (i9 + 2)))) m9_2 c9_3 nb := hC'
  show W p l0 e room_1 s m args below meth c H locs (c0 + 40) (s0 + 220) Q (F0 m 577 ls [.int r574])
  obtain ⟨hk0, hk1⟩ := hp0
  refine lv_istore (lv' := [(6, .int r574), (0, .ref b), (1, .ref x), (2, .ref y), (3, .ref o), (4, .ref od), (5, .int (nI i9))]) hx hb dL_law_577 hl (by decide) rfl (fun ls hl => ?_)
  refine lv_aload_n hx hb dL_law_579 rfl (lv_at hl 3 rfl) ?_
  refine lv_aload_n hx hb dL_law_580 rfl (lv_at hl 1 rfl) ?_
  refine lv_iload hx hb dL_law_581 (lv_at hl 6 rfl) ?_
  refine lv_iconst (v := 1) hx hb dL_law_583 (by decide) ?_
  refine k_iaddN (x := i9) (y := 1) hx hb dL_law_584 ?_
  refine va_sld hx hb hX0 hbl hbA hS (vp_in_nI (n := i9 + 1) (N := L) (by omega) (by omega)) dL_law_585 ?_
  rw [nI_clamp (show i9 + 1 < 2 ^ 31 from by omega)]
  refine lv_aload_n hx hb dL_law_586 rfl (lv_at hl 1 rfl) ?_
  refine lv_iload hx hb dL_law_587 (lv_at hl 6 rfl) ?_
  refine lv_iconst (v := 2) hx hb dL_law_589 (by decide) ?_
  refine k_iaddN (x := i9) (y := 2) hx hb dL_law_590 ?_
  refine va_sld hx hb hX0 hbl hbA hS (vp_in_nI (n := i9 + 2) (N := L) (by omega) (by omega)) dL_law_591 ?_
  rw [nI_clamp (show i9 + 2 < 2 ^ 31 from by omega)]
  refine k_cV hx hb hml hown hts (CX6_setSpeed l0 E w1 y ad f a (xs (i9 + 1)) (xs (i9 + 2)) cn mn hT n6 c8 m6 m25) (cwV 2 hts (lw_V q1750 q1751 q1752 q81 q1753) rfl rfl rfl dyX6_setSpeed ⟨Nat.le_of_ble_eq_true rfl, Nat.le_of_ble_eq_true rfl⟩) hG hP hS hT.1 rfl (As := [.int (xs (i9 + 1)), .int (xs (i9 + 2))]) (rest := []) rfl hl.1 rfl (lv_room (Nat.le_of_ble_eq_true rfl)) dL_law_592 ⟨show (c0 + 40) + 0 ≤ 1200144 from by omega, show (s0 + 220) + 0 ≤ 5497402 from by omega⟩ (fun r592 w2 H locs hp hP hS => ?_)
  obtain ⟨f1, a1, hz, hT', hf9⟩ := hp
  have hC : coS E w2 x (N + 2201) (oF f cn (qSpeed (a 0) (xs (i9 + 1)) (xs (i9 + 2)))) (oA f a cn (qSpeed (a 0) (xs (i9 + 1)) (xs (i9 + 2)))) m9_2 c9_3 nb := hC.fr hf9 (fun t9 h9 => by simp only [tP, pO, pXs] at h9; omega)
  have hO : lA E w2 o v9_1 := hO.fr hf9 (by intro z9; simp [pO, pN, pW, pWd, tP, pXs] at z9)
  have hD : dA E w2 od v2 := hD.fr hf9 (by intro z9; simp [pO, pN, pW, pWd, tP, pXs] at z9)
  have hT : tM E w2 y ad f1 a1 := hT'
  obtain ⟨hr7, hf7, ha7⟩ := hz
  have hth : f1 13 = _ := (congrFun hf7 13).trans (oF_13 (f := f) (ch := cn) (Q := (qSpeed (a 0) (xs (i9 + 1)) (xs (i9 + 2)))))
  have hco := hC.mono (show _ ≤ N + 64000 from by omega)
  rw [← hf7, ← ha7] at hco
  have hans := hr7
  show W p l0 e room_1 s m args below meth c H locs (c0 + 40) (s0 + 220) Q (F0 m 595 ls [.int r592])
  refine lv_istore (lv' := [(7, .int r592), (6, .int r574), (0, .ref b), (1, .ref x), (2, .ref y), (3, .ref o), (4, .ref od), (5, .int (nI i9))]) hx hb dL_law_595 hl (by decide) rfl (fun ls hl => ?_)
  refine lv_aload_n hx hb dL_law_597 rfl (lv_at hl 4 rfl) ?_
  refine k_cV hx hb hml hown hts (CX6_thrown l0 E w2 y ad f1 a1 hT) (cwV 0 hts (lw_V q1681 q1682 q1683 q81 q1684) rfl rfl rfl dyX6_thrown ⟨Nat.le_of_ble_eq_true rfl, Nat.le_of_ble_eq_true rfl⟩) hG hP hS hT.1 rfl (As := []) (rest := []) rfl hl.1 rfl (lv_room (Nat.le_of_ble_eq_true rfl)) dL_law_598 ⟨show (c0 + 40) + 0 ≤ 1200144 from by omega, show (s0 + 220) + 0 ≤ 5497402 from by omega⟩ (fun r598 w3 H locs hp hP hS => ?_)
  obtain ⟨hp1, hp0⟩ := hp
  rw [hp1] at hP
  rw [hp0, hth, ← hk0]
  show W p l0 e room_1 s m args below meth c H locs (c0 + 40) (s0 + 220) Q (F0 m 601 ls [.int r574])
  refine lv_iload hx hb dL_law_601 (lv_at hl 1 rfl) ?_
  refine lv_icmp_eq (tgt := 608) hx hb dL_law_603 (by decide) (fun c603 => ?_) (fun c603 => ?_)
  · skip
    refine lv_iload hx hb dL_law_608 (lv_at hl 1 rfl) ?_
    refine lv_if_ne (tgt := 625) hx hb dL_law_610 (by decide) (fun c610 => ?_) (fun c610 => ?_)
    · skip
      refine lv_goto (tgt := 1904) hx hb dL_law_625 (by decide) ?_
      refine W.widen (show (c0 + 40) ≤ c0 + 7000 from by omega) (show (s0 + 220) ≤ s0 + 23000 from by omega) ?_
      exact kk _ H locs ls _ _ _ _ _ _ _ hco hT hO hD hP hS (lv_drop hl (by simp))
    · skip
      have hv9 := hk1 (hk0.symm.trans c610)
      have hans9 := hans
      rw [hv9, ← hans9] at hO
      have hO : lA E w2 o (r592).toInt64 := hO
      refine lv_aload_n hx hb dL_law_613 rfl (lv_at hl 5 rfl) ?_
      refine lv_iconst (v := 0) hx hb dL_law_614 (by decide) ?_
      refine k_lald hx hb hG hP hO dL_law_615 ?_
      refine lv_iload hx hb dL_law_616 (lv_at hl 0 rfl) ?_
      refine lv_i2l hx hb dL_law_618 rfl ?_
      refine lv_lcmpE hx hb dL_law_619 ?_
      refine lv_if_eq (tgt := 625) hx hb dL_law_620 (by decide) (fun c620 => ?_) (fun c620 => ?_)
      · skip
        refine lv_goto (tgt := 1904) hx hb dL_law_625 (by decide) ?_
        refine W.widen (show (c0 + 40) ≤ c0 + 7000 from by omega) (show (s0 + 220) ≤ s0 + 23000 from by omega) ?_
        exact kk _ H locs ls _ _ _ _ _ _ _ hco hT hO hD hP hS (lv_drop hl (by simp))
      · skip
        exact absurd c620 (by decide)
  · skip
    exact absurd rfl c603

set_option maxHeartbeats 4000000 in
theorem law_land {p : Program} {e : Env} {s : State} {m : MethodId} {args : Array Value} {below : List Frame} {meth : Method} {c : Code} {E : gE} {b L : Nat} {xs : Nat → Int32} {Q : State → Prop} (l0 : Launch) (hl0 : l0.stackTraces = false) (hx : p.tables.exec = Jvm.exec) (hb : c.code = cL_law) (hml : c.maxLocals = 9) (hown : s.vm.findClass "KiteRoofsLaw" = some m.cls) (hts : ∀ w ∈ lw_all, w.before args s = true) (hG : gK E s) (hX0 : va_X b L xs s s.heap) (hbl : b < s.heap.size) (hbA : ¬ gA E b)
    {w : wd} {H : Heap} {locs : List Loc} {ls : Array Slot} {x y o od N mn cn nb i9 c0 s0 : Nat} {f : Nat → Int32} {a : Nat → Nat → Int32} {ad : Nat → Nat} {v : Int64} {v2 : UInt64} (hL : L ≤ 120) (hi : i9 + 5 ≤ L) (hN9 : N + 71 * 31 * 32 < 2 ^ 31) (hc0 : c0 + 7000 ≤ 1200144) (hs0 : s0 + 23000 ≤ 5497402)
    (hC : coS E w x N f a mn cn nb) (hT : tM E w y ad f a) (hO : lA E w o v) (hD : dA E w od v2) (hP : wP E w H) (hS : va_S (gA E) s.heap H locs) (hl : lv_has ls 9 [(0, .ref b), (1, .ref x), (2, .ref y), (3, .ref o), (4, .ref od), (5, .int (nI i9))])
    (kk : ∀ (w1 : wd) (H1 : Heap) (locs1 : List Loc) (ls1 : Array Slot) (f1 : Nat → Int32) (a1 : Nat → Nat → Int32) (mn1 cn1 nb1 : Nat) (v1 : Int64) (v21 : UInt64), coS E w1 x (N + 64000) f1 a1 mn1 cn1 nb1 → tM E w1 y ad f1 a1 → lA E w1 o v1 → dA E w1 od v21 → wP E w1 H1 → va_S (gA E) s.heap H1 locs1 → lv_has ls1 9 [(0, .ref b), (1, .ref x), (2, .ref y), (3, .ref o), (4, .ref od), (5, .int (nI i9))] → W p l0 e room_1 s m args below meth c H1 locs1 (c0 + 7000) (s0 + 23000) Q (F0 m 1904 ls1 [])) :
    W p l0 e room_1 s m args below meth c H locs c0 s0 Q (F0 m 628 ls []) := by
  obtain ⟨⟨n9, n6, n7, n11⟩, ⟨n60, c8⟩, ⟨m25, m6⟩, gI0⟩ := hC.nums
  refine lv_aload_n hx hb dL_law_628 rfl (lv_at hl 1 rfl) ?_
  refine lv_aload_n hx hb dL_law_629 rfl (lv_at hl 0 rfl) ?_
  refine lv_iload hx hb dL_law_630 (lv_at hl 5 rfl) ?_
  refine lv_iconst (v := 1) hx hb dL_law_632 (by decide) ?_
  refine k_iaddN (x := i9) (y := 1) hx hb dL_law_633 ?_
  refine va_sld hx hb hX0 hbl hbA hS (vp_in_nI (n := i9 + 1) (N := L) (by omega) (by omega)) dL_law_634 ?_
  rw [nI_clamp (show i9 + 1 < 2 ^ 31 from by omega)]
  refine lv_aload_n hx hb dL_law_635 rfl (lv_at hl 3 rfl) ?_
  refine kx_cSH hx hb hml hown hts (CX0_land l0 hl0 E w x o f a mn cn nb N v (xs (i9 + 1)) hC hO) (vx_cwSW 3 hts (lw_SW q747 q748 q68 q749) rfl rfl rfl dyX0_land ⟨Nat.le_of_ble_eq_true rfl, Nat.le_of_ble_eq_true rfl⟩) hG hP hS (As := [.ref x, .int (xs (i9 + 1)), .ref o]) (rest := []) rfl hl.1 rfl (lv_room (Nat.le_of_ble_eq_true rfl)) dL_law_636 ⟨show c0 + 40 ≤ 1200144 from by omega, show s0 + 220 ≤ 5497402 from by omega⟩ (fun r636 w1 H locs hp hP hS => ?_)
  obtain ⟨v9_1, m9_2, c9_3, hp0, ⟨hO', hC', -⟩, hf9⟩ := hp
  have hT : tM E w1 y ad f a := hT.fr hf9 (fun t9 h9 => by simp only [pW, pWd, pO, pN, pXs] at h9; first | omega | (subst h9; decide))
  have hD : dA E w1 od v2 := hD.fr hf9 (by intro z9; simp [pO, pN, pW, pWd, tP, pXs] at z9)
  have hO : lA E w1 o v9_1 := hO'
  have hC : coS E w1 x (N + 2201) (oF f cn (qLand (a 0) (xs (i9 + 1)))) (oA f a cn (qLand (a 0) (xs (i9 + 1)))) m9_2 c9_3 nb := hC'
  show W p l0 e room_1 s m args below meth c H locs (c0 + 40) (s0 + 220) Q (F0 m 639 ls [.int r636])
  obtain ⟨hk0, hk1⟩ := hp0
  refine lv_istore (lv' := [(6, .int r636), (0, .ref b), (1, .ref x), (2, .ref y), (3, .ref o), (4, .ref od), (5, .int (nI i9))]) hx hb dL_law_639 hl (by decide) rfl (fun ls hl => ?_)
  refine lv_aload_n hx hb dL_law_641 rfl (lv_at hl 3 rfl) ?_
  refine lv_aload_n hx hb dL_law_642 rfl (lv_at hl 1 rfl) ?_
  refine lv_iload hx hb dL_law_643 (lv_at hl 6 rfl) ?_
  refine lv_iconst (v := 1) hx hb dL_law_645 (by decide) ?_
  refine k_iaddN (x := i9) (y := 1) hx hb dL_law_646 ?_
  refine va_sld hx hb hX0 hbl hbA hS (vp_in_nI (n := i9 + 1) (N := L) (by omega) (by omega)) dL_law_647 ?_
  rw [nI_clamp (show i9 + 1 < 2 ^ 31 from by omega)]
  refine k_cV hx hb hml hown hts (CX6_land l0 E w1 y ad f a (xs (i9 + 1)) cn mn hT n6 c8 m6 m25) (cwV 1 hts (lw_V q1754 q1755 q1756 q81 q1757) rfl rfl rfl dyX6_land ⟨Nat.le_of_ble_eq_true rfl, Nat.le_of_ble_eq_true rfl⟩) hG hP hS hT.1 rfl (As := [.int (xs (i9 + 1))]) (rest := []) rfl hl.1 rfl (lv_room (Nat.le_of_ble_eq_true rfl)) dL_law_648 ⟨show (c0 + 40) + 0 ≤ 1200144 from by omega, show (s0 + 220) + 0 ≤ 5497402 from by omega⟩ (fun r648 w2 H locs hp hP hS => ?_)
  obtain ⟨f1, a1, hz, hT', hf9⟩ := hp
  have hC : coS E w2 x (N + 2201) (oF f cn (qLand (a 0) (xs (i9 + 1)))) (oA f a cn (qLand (a 0) (xs (i9 + 1)))) m9_2 c9_3 nb := hC.fr hf9 (fun t9 h9 => by simp only [tP, pO, pXs] at h9; omega)
  have hO : lA E w2 o v9_1 := hO.fr hf9 (by intro z9; simp [pO, pN, pW, pWd, tP, pXs] at z9)
  have hD : dA E w2 od v2 := hD.fr hf9 (by intro z9; simp [pO, pN, pW, pWd, tP, pXs] at z9)
  have hT : tM E w2 y ad f1 a1 := hT'
  obtain ⟨hr7, hf7, ha7⟩ := hz
  have hth : f1 13 = _ := (congrFun hf7 13).trans (oF_13 (f := f) (ch := cn) (Q := (qLand (a 0) (xs (i9 + 1)))))
  have hco := hC.mono (show _ ≤ N + 64000 from by omega)
  rw [← hf7, ← ha7] at hco
  have hans := hr7
  show W p l0 e room_1 s m args below meth c H locs (c0 + 40) (s0 + 220) Q (F0 m 651 ls [.int r648])
  refine lv_istore (lv' := [(7, .int r648), (6, .int r636), (0, .ref b), (1, .ref x), (2, .ref y), (3, .ref o), (4, .ref od), (5, .int (nI i9))]) hx hb dL_law_651 hl (by decide) rfl (fun ls hl => ?_)
  refine lv_aload_n hx hb dL_law_653 rfl (lv_at hl 4 rfl) ?_
  refine k_cV hx hb hml hown hts (CX6_thrown l0 E w2 y ad f1 a1 hT) (cwV 0 hts (lw_V q1681 q1682 q1683 q81 q1684) rfl rfl rfl dyX6_thrown ⟨Nat.le_of_ble_eq_true rfl, Nat.le_of_ble_eq_true rfl⟩) hG hP hS hT.1 rfl (As := []) (rest := []) rfl hl.1 rfl (lv_room (Nat.le_of_ble_eq_true rfl)) dL_law_654 ⟨show (c0 + 40) + 0 ≤ 1200144 from by omega, show (s0 + 220) + 0 ≤ 5497402 from by omega⟩ (fun r654 w3 H locs hp hP hS => ?_)
  obtain ⟨hp1, hp0⟩ := hp
  rw [hp1] at hP
  rw [hp0, hth, ← hk0]
  show W p l0 e room_1 s m args below meth c H locs (c0 + 40) (s0 + 220) Q (F0 m 657 ls [.int r636])
  refine lv_iload hx hb dL_law_657 (lv_at hl 1 rfl) ?_
  refine lv_icmp_eq (tgt := 664) hx hb dL_law_659 (by decide) (fun c659 => ?_) (fun c659 => ?_)
  · skip
    refine lv_iload hx hb dL_law_664 (lv_at hl 1 rfl) ?_
    refine lv_if_ne (tgt := 681) hx hb dL_law_666 (by decide) (fun c666 => ?_) (fun c666 => ?_)
    · skip
      refine lv_goto (tgt := 1904) hx hb dL_law_681 (by decide) ?_
      refine W.widen (show (c0 + 40) ≤ c0 + 7000 from by omega) (show (s0 + 220) ≤ s0 + 23000 from by omega) ?_
      exact kk _ H locs ls _ _ _ _ _ _ _ hco hT hO hD hP hS (lv_drop hl (by simp))
    · skip
      have hv9 := hk1 (hk0.symm.trans c666)
      have hans9 := hans
      rw [hv9, ← hans9] at hO
      have hO : lA E w2 o (r648).toInt64 := hO
      refine lv_aload_n hx hb dL_law_669 rfl (lv_at hl 5 rfl) ?_
      refine lv_iconst (v := 0) hx hb dL_law_670 (by decide) ?_
      refine k_lald hx hb hG hP hO dL_law_671 ?_
      refine lv_iload hx hb dL_law_672 (lv_at hl 0 rfl) ?_
      refine lv_i2l hx hb dL_law_674 rfl ?_
      refine lv_lcmpE hx hb dL_law_675 ?_
      refine lv_if_eq (tgt := 681) hx hb dL_law_676 (by decide) (fun c676 => ?_) (fun c676 => ?_)
      · skip
        refine lv_goto (tgt := 1904) hx hb dL_law_681 (by decide) ?_
        refine W.widen (show (c0 + 40) ≤ c0 + 7000 from by omega) (show (s0 + 220) ≤ s0 + 23000 from by omega) ?_
        exact kk _ H locs ls _ _ _ _ _ _ _ hco hT hO hD hP hS (lv_drop hl (by simp))
      · skip
        exact absurd c676 (by decide)
  · skip
    exact absurd rfl c659

set_option maxHeartbeats 4000000 in
theorem law_tie {p : Program} {e : Env} {s : State} {m : MethodId} {args : Array Value} {below : List Frame} {meth : Method} {c : Code} {E : gE} {b L : Nat} {xs : Nat → Int32} {Q : State → Prop} (l0 : Launch) (hl0 : l0.stackTraces = false) (hx : p.tables.exec = Jvm.exec) (hb : c.code = cL_law) (hml : c.maxLocals = 9) (hown : s.vm.findClass "KiteRoofsLaw" = some m.cls) (hts : ∀ w ∈ lw_all, w.before args s = true) (hG : gK E s) (hX0 : va_X b L xs s s.heap) (hbl : b < s.heap.size) (hbA : ¬ gA E b)
    {w : wd} {H : Heap} {locs : List Loc} {ls : Array Slot} {x y o od N mn cn nb i9 c0 s0 : Nat} {f : Nat → Int32} {a : Nat → Nat → Int32} {ad : Nat → Nat} {v : Int64} {v2 : UInt64} (hL : L ≤ 120) (hi : i9 + 5 ≤ L) (hN9 : N + 71 * 31 * 32 < 2 ^ 31) (hc0 : c0 + 7000 ≤ 1200144) (hs0 : s0 + 23000 ≤ 5497402)
    (hC : coS E w x N f a mn cn nb) (hT : tM E w y ad f a) (hO : lA E w o v) (hD : dA E w od v2) (hP : wP E w H) (hS : va_S (gA E) s.heap H locs) (hl : lv_has ls 9 [(0, .ref b), (1, .ref x), (2, .ref y), (3, .ref o), (4, .ref od), (5, .int (nI i9))])
    (kk : ∀ (w1 : wd) (H1 : Heap) (locs1 : List Loc) (ls1 : Array Slot) (f1 : Nat → Int32) (a1 : Nat → Nat → Int32) (mn1 cn1 nb1 : Nat) (v1 : Int64) (v21 : UInt64), coS E w1 x (N + 64000) f1 a1 mn1 cn1 nb1 → tM E w1 y ad f1 a1 → lA E w1 o v1 → dA E w1 od v21 → wP E w1 H1 → va_S (gA E) s.heap H1 locs1 → lv_has ls1 9 [(0, .ref b), (1, .ref x), (2, .ref y), (3, .ref o), (4, .ref od), (5, .int (nI i9))] → W p l0 e room_1 s m args below meth c H1 locs1 (c0 + 7000) (s0 + 23000) Q (F0 m 1904 ls1 [])) :
    W p l0 e room_1 s m args below meth c H locs c0 s0 Q (F0 m 684 ls []) := by
  obtain ⟨⟨n9, n6, n7, n11⟩, ⟨n60, c8⟩, ⟨m25, m6⟩, gI0⟩ := hC.nums
  refine lv_aload_n hx hb dL_law_684 rfl (lv_at hl 1 rfl) ?_
  refine lv_aload_n hx hb dL_law_685 rfl (lv_at hl 0 rfl) ?_
  refine lv_iload hx hb dL_law_686 (lv_at hl 5 rfl) ?_
  refine lv_iconst (v := 1) hx hb dL_law_688 (by decide) ?_
  refine k_iaddN (x := i9) (y := 1) hx hb dL_law_689 ?_
  refine va_sld hx hb hX0 hbl hbA hS (vp_in_nI (n := i9 + 1) (N := L) (by omega) (by omega)) dL_law_690 ?_
  rw [nI_clamp (show i9 + 1 < 2 ^ 31 from by omega)]
  refine lv_aload_n hx hb dL_law_691 rfl (lv_at hl 3 rfl) ?_
  refine kx_cSH hx hb hml hown hts (CX0_tie l0 hl0 E w x o f a mn cn nb N v (xs (i9 + 1)) hC hO) (vx_cwSW 3 hts (lw_SW q761 q762 q68 q763) rfl rfl rfl dyX0_tie ⟨Nat.le_of_ble_eq_true rfl, Nat.le_of_ble_eq_true rfl⟩) hG hP hS (As := [.ref x, .int (xs (i9 + 1)), .ref o]) (rest := []) rfl hl.1 rfl (lv_room (Nat.le_of_ble_eq_true rfl)) dL_law_692 ⟨show c0 + 40 ≤ 1200144 from by omega, show s0 + 220 ≤ 5497402 from by omega⟩ (fun r692 w1 H locs hp hP hS => ?_)
  obtain ⟨v9_1, m9_2, c9_3, hp0, ⟨hO', hC', -⟩, hf9⟩ := hp
  have hT : tM E w1 y ad f a := hT.fr hf9 (fun t9 h9 => by simp only [pW, pWd, pO, pN, pXs] at h9; first | omega | (subst h9; decide))
  have hD : dA E w1 od v2 := hD.fr hf9 (by intro z9; simp [pO, pN, pW, pWd, tP, pXs] at z9)
  have hO : lA E w1 o v9_1 := hO'
  have hC : coS E w1 x (N + 2201) (oF f cn (qTie (a 0) (xs (i9 + 1)))) (oA f a cn (qTie (a 0) (xs (i9 + 1)))) m9_2 c9_3 nb := hC'
  show W p l0 e room_1 s m args below meth c H locs (c0 + 40) (s0 + 220) Q (F0 m 695 ls [.int r692])
  obtain ⟨hk0, hk1⟩ := hp0
  refine lv_istore (lv' := [(6, .int r692), (0, .ref b), (1, .ref x), (2, .ref y), (3, .ref o), (4, .ref od), (5, .int (nI i9))]) hx hb dL_law_695 hl (by decide) rfl (fun ls hl => ?_)
  refine lv_aload_n hx hb dL_law_697 rfl (lv_at hl 3 rfl) ?_
  refine lv_aload_n hx hb dL_law_698 rfl (lv_at hl 1 rfl) ?_
  refine lv_iload hx hb dL_law_699 (lv_at hl 6 rfl) ?_
  refine lv_iconst (v := 1) hx hb dL_law_701 (by decide) ?_
  refine k_iaddN (x := i9) (y := 1) hx hb dL_law_702 ?_
  refine va_sld hx hb hX0 hbl hbA hS (vp_in_nI (n := i9 + 1) (N := L) (by omega) (by omega)) dL_law_703 ?_
  rw [nI_clamp (show i9 + 1 < 2 ^ 31 from by omega)]
  refine k_cV hx hb hml hown hts (CX6_tie l0 E w1 y ad f a (xs (i9 + 1)) cn mn hT n6 c8 m6 m25) (cwV 1 hts (lw_V q1758 q1759 q1760 q81 q1761) rfl rfl rfl dyX6_tie ⟨Nat.le_of_ble_eq_true rfl, Nat.le_of_ble_eq_true rfl⟩) hG hP hS hT.1 rfl (As := [.int (xs (i9 + 1))]) (rest := []) rfl hl.1 rfl (lv_room (Nat.le_of_ble_eq_true rfl)) dL_law_704 ⟨show (c0 + 40) + 0 ≤ 1200144 from by omega, show (s0 + 220) + 0 ≤ 5497402 from by omega⟩ (fun r704 w2 H locs hp hP hS => ?_)
  obtain ⟨f1, a1, hz, hT', hf9⟩ := hp
  have hC : coS E w2 x (N + 2201) (oF f cn (qTie (a 0) (xs (i9 + 1)))) (oA f a cn (qTie (a 0) (xs (i9 + 1)))) m9_2 c9_3 nb := hC.fr hf9 (fun t9 h9 => by simp only [tP, pO, pXs] at h9; omega)
  have hO : lA E w2 o v9_1 := hO.fr hf9 (by intro z9; simp [pO, pN, pW, pWd, tP, pXs] at z9)
  have hD : dA E w2 od v2 := hD.fr hf9 (by intro z9; simp [pO, pN, pW, pWd, tP, pXs] at z9)
  have hT : tM E w2 y ad f1 a1 := hT'
  obtain ⟨hr7, hf7, ha7⟩ := hz
  have hth : f1 13 = _ := (congrFun hf7 13).trans (oF_13 (f := f) (ch := cn) (Q := (qTie (a 0) (xs (i9 + 1)))))
  have hco := hC.mono (show _ ≤ N + 64000 from by omega)
  rw [← hf7, ← ha7] at hco
  have hans := hr7
  show W p l0 e room_1 s m args below meth c H locs (c0 + 40) (s0 + 220) Q (F0 m 707 ls [.int r704])
  refine lv_istore (lv' := [(7, .int r704), (6, .int r692), (0, .ref b), (1, .ref x), (2, .ref y), (3, .ref o), (4, .ref od), (5, .int (nI i9))]) hx hb dL_law_707 hl (by decide) rfl (fun ls hl => ?_)
  refine lv_aload_n hx hb dL_law_709 rfl (lv_at hl 4 rfl) ?_
  refine k_cV hx hb hml hown hts (CX6_thrown l0 E w2 y ad f1 a1 hT) (cwV 0 hts (lw_V q1681 q1682 q1683 q81 q1684) rfl rfl rfl dyX6_thrown ⟨Nat.le_of_ble_eq_true rfl, Nat.le_of_ble_eq_true rfl⟩) hG hP hS hT.1 rfl (As := []) (rest := []) rfl hl.1 rfl (lv_room (Nat.le_of_ble_eq_true rfl)) dL_law_710 ⟨show (c0 + 40) + 0 ≤ 1200144 from by omega, show (s0 + 220) + 0 ≤ 5497402 from by omega⟩ (fun r710 w3 H locs hp hP hS => ?_)
  obtain ⟨hp1, hp0⟩ := hp
  rw [hp1] at hP
  rw [hp0, hth, ← hk0]
  show W p l0 e room_1 s m args below meth c H locs (c0 + 40) (s0 + 220) Q (F0 m 713 ls [.int r692])
  refine lv_iload hx hb dL_law_713 (lv_at hl 1 rfl) ?_
  refine lv_icmp_eq (tgt := 720) hx hb dL_law_715 (by decide) (fun c715 => ?_) (fun c715 => ?_)
  · skip
    refine lv_iload hx hb dL_law_720 (lv_at hl 1 rfl) ?_
    refine lv_if_ne (tgt := 737) hx hb dL_law_722 (by decide) (fun c722 => ?_) (fun c722 => ?_)
    · skip
      refine lv_goto (tgt := 1904) hx hb dL_law_737 (by decide) ?_
      refine W.widen (show (c0 + 40) ≤ c0 + 7000 from by omega) (show (s0 + 220) ≤ s0 + 23000 from by omega) ?_
      exact kk _ H locs ls _ _ _ _ _ _ _ hco hT hO hD hP hS (lv_drop hl (by simp))
    · skip
      have hv9 := hk1 (hk0.symm.trans c722)
      have hans9 := hans
      rw [hv9, ← hans9] at hO
      have hO : lA E w2 o (r704).toInt64 := hO
      refine lv_aload_n hx hb dL_law_725 rfl (lv_at hl 5 rfl) ?_
      refine lv_iconst (v := 0) hx hb dL_law_726 (by decide) ?_
      refine k_lald hx hb hG hP hO dL_law_727 ?_
      refine lv_iload hx hb dL_law_728 (lv_at hl 0 rfl) ?_
      refine lv_i2l hx hb dL_law_730 rfl ?_
      refine lv_lcmpE hx hb dL_law_731 ?_
      refine lv_if_eq (tgt := 737) hx hb dL_law_732 (by decide) (fun c732 => ?_) (fun c732 => ?_)
      · skip
        refine lv_goto (tgt := 1904) hx hb dL_law_737 (by decide) ?_
        refine W.widen (show (c0 + 40) ≤ c0 + 7000 from by omega) (show (s0 + 220) ≤ s0 + 23000 from by omega) ?_
        exact kk _ H locs ls _ _ _ _ _ _ _ hco hT hO hD hP hS (lv_drop hl (by simp))
      · skip
        exact absurd c732 (by decide)
  · skip
    exact absurd rfl c715

set_option maxHeartbeats 4000000 in
theorem law_windOf {p : Program} {e : Env} {s : State} {m : MethodId} {args : Array Value} {below : List Frame} {meth : Method} {c : Code} {E : gE} {b L : Nat} {xs : Nat → Int32} {Q : State → Prop} (l0 : Launch) (hl0 : l0.stackTraces = false) (hx : p.tables.exec = Jvm.exec) (hb : c.code = cL_law) (hml : c.maxLocals = 9) (hown : s.vm.findClass "KiteRoofsLaw" = some m.cls) (hts : ∀ w ∈ lw_all, w.before args s = true) (hG : gK E s) (hX0 : va_X b L xs s s.heap) (hbl : b < s.heap.size) (hbA : ¬ gA E b)
    {w : wd} {H : Heap} {locs : List Loc} {ls : Array Slot} {x y o od N mn cn nb i9 c0 s0 : Nat} {f : Nat → Int32} {a : Nat → Nat → Int32} {ad : Nat → Nat} {v : Int64} {v2 : UInt64} (hL : L ≤ 120) (hi : i9 + 5 ≤ L) (hN9 : N + 71 * 31 * 32 < 2 ^ 31) (hc0 : c0 + 7000 ≤ 1200144) (hs0 : s0 + 23000 ≤ 5497402)
    (hC : coS E w x N f a mn cn nb) (hT : tM E w y ad f a) (hO : lA E w o v) (hD : dA E w od v2) (hP : wP E w H) (hS : va_S (gA E) s.heap H locs) (hl : lv_has ls 9 [(0, .ref b), (1, .ref x), (2, .ref y), (3, .ref o), (4, .ref od), (5, .int (nI i9))])
    (kk : ∀ (w1 : wd) (H1 : Heap) (locs1 : List Loc) (ls1 : Array Slot) (f1 : Nat → Int32) (a1 : Nat → Nat → Int32) (mn1 cn1 nb1 : Nat) (v1 : Int64) (v21 : UInt64), coS E w1 x (N + 64000) f1 a1 mn1 cn1 nb1 → tM E w1 y ad f1 a1 → lA E w1 o v1 → dA E w1 od v21 → wP E w1 H1 → va_S (gA E) s.heap H1 locs1 → lv_has ls1 9 [(0, .ref b), (1, .ref x), (2, .ref y), (3, .ref o), (4, .ref od), (5, .int (nI i9))] → W p l0 e room_1 s m args below meth c H1 locs1 (c0 + 7000) (s0 + 23000) Q (F0 m 1904 ls1 [])) :
    W p l0 e room_1 s m args below meth c H locs c0 s0 Q (F0 m 260 ls []) := by
  obtain ⟨⟨n9, n6, n7, n11⟩, ⟨n60, c8⟩, ⟨m25, m6⟩, gI0⟩ := hC.nums
  refine lv_aload_n hx hb dL_law_260 rfl (lv_at hl 1 rfl) ?_
  refine lv_aload_n hx hb dL_law_261 rfl (lv_at hl 0 rfl) ?_
  refine lv_iload hx hb dL_law_262 (lv_at hl 5 rfl) ?_
  refine lv_iconst (v := 1) hx hb dL_law_264 (by decide) ?_
  refine k_iaddN (x := i9) (y := 1) hx hb dL_law_265 ?_
  refine va_sld hx hb hX0 hbl hbA hS (vp_in_nI (n := i9 + 1) (N := L) (by omega) (by omega)) dL_law_266 ?_
  rw [nI_clamp (show i9 + 1 < 2 ^ 31 from by omega)]
  refine lv_aload_n hx hb dL_law_267 rfl (lv_at hl 0 rfl) ?_
  refine lv_iload hx hb dL_law_268 (lv_at hl 5 rfl) ?_
  refine lv_iconst (v := 2) hx hb dL_law_270 (by decide) ?_
  refine k_iaddN (x := i9) (y := 2) hx hb dL_law_271 ?_
  refine va_sld hx hb hX0 hbl hbA hS (vp_in_nI (n := i9 + 2) (N := L) (by omega) (by omega)) dL_law_272 ?_
  rw [nI_clamp (show i9 + 2 < 2 ^ 31 from by omega)]
  refine lv_if_eq (tgt := 280) hx hb dL_law_273 (by decide) (fun c273 => ?_) (fun c273 => ?_)
  · skip
    refine lv_iconst (v := 0) hx hb dL_law_280 (by decide) ?_
    refine lv_aload_n hx hb dL_law_281 rfl (lv_at hl 3 rfl) ?_
    refine kx_cSH hx hb hml hown hts (CX0_windOf l0 hl0 E w x o f a mn cn nb N v (xs (i9 + 1)) false hC hO) (vx_cwSW 4 hts (lw_SW q596 q597 q68 q598) rfl rfl rfl dyX0_windOf ⟨Nat.le_of_ble_eq_true rfl, Nat.le_of_ble_eq_true rfl⟩) hG hP hS (As := [.ref x, .int (xs (i9 + 1)), .int 0, .ref o]) (rest := []) rfl hl.1 rfl (lv_room (Nat.le_of_ble_eq_true rfl)) dL_law_282 ⟨show c0 + 40 ≤ 1200144 from by omega, show s0 + 220 ≤ 5497402 from by omega⟩ (fun r282 w1 H locs hp hP hS => ?_)
    obtain ⟨v9_1, hp0, ⟨hO', hC', -⟩, hf9⟩ := hp
    have hT : tM E w1 y ad f a := hT.fr hf9 (fun t9 h9 => by simp only [pW, pWd, pO, pN, pXs] at h9; first | omega | (subst h9; decide))
    have hD : dA E w1 od v2 := hD.fr hf9 (by intro z9; simp [pO, pN, pW, pWd, tP, pXs] at z9)
    have hO : lA E w1 o v9_1 := hO'
    have hC : coS E w1 x N f a mn cn nb := hC'
    show W p l0 e room_1 s m args below meth c H locs (c0 + 40) (s0 + 220) Q (F0 m 285 ls [.int r282])
    obtain ⟨hk0, hk1⟩ := hp0
    refine lv_istore (lv' := [(6, .int r282), (0, .ref b), (1, .ref x), (2, .ref y), (3, .ref o), (4, .ref od), (5, .int (nI i9))]) hx hb dL_law_285 hl (by decide) rfl (fun ls hl => ?_)
    refine lv_aload_n hx hb dL_law_287 rfl (lv_at hl 3 rfl) ?_
    refine lv_aload_n hx hb dL_law_288 rfl (lv_at hl 1 rfl) ?_
    refine lv_iload hx hb dL_law_289 (lv_at hl 6 rfl) ?_
    refine lv_iconst (v := 1) hx hb dL_law_291 (by decide) ?_
    refine k_iaddN (x := i9) (y := 1) hx hb dL_law_292 ?_
    refine va_sld hx hb hX0 hbl hbA hS (vp_in_nI (n := i9 + 1) (N := L) (by omega) (by omega)) dL_law_293 ?_
    rw [nI_clamp (show i9 + 1 < 2 ^ 31 from by omega)]
    refine lv_aload_n hx hb dL_law_294 rfl (lv_at hl 1 rfl) ?_
    refine lv_iload hx hb dL_law_295 (lv_at hl 6 rfl) ?_
    refine lv_iconst (v := 2) hx hb dL_law_297 (by decide) ?_
    refine k_iaddN (x := i9) (y := 2) hx hb dL_law_298 ?_
    refine va_sld hx hb hX0 hbl hbA hS (vp_in_nI (n := i9 + 2) (N := L) (by omega) (by omega)) dL_law_299 ?_
    rw [nI_clamp (show i9 + 2 < 2 ^ 31 from by omega)]
    refine lv_if_eq (tgt := 307) hx hb dL_law_300 (by decide) (fun c300 => ?_) (fun c300 => ?_)
    · skip
      refine lv_iconst (v := 0) hx hb dL_law_307 (by decide) ?_
      refine k_cV hx hb hml hown hts (CX6_windOf l0 E w1 y ad f a (xs (i9 + 1)) false hT) (cwV 2 hts (lw_V q1706 q1707 q1708 q81 q1709) rfl rfl rfl dyX6_windOf ⟨Nat.le_of_ble_eq_true rfl, Nat.le_of_ble_eq_true rfl⟩) hG hP hS hT.1 rfl (As := [.int (xs (i9 + 1)), .int 0]) (rest := []) rfl hl.1 rfl (lv_room (Nat.le_of_ble_eq_true rfl)) dL_law_308 ⟨show (c0 + 40) + 0 ≤ 1200144 from by omega, show (s0 + 220) + 0 ≤ 5497402 from by omega⟩ (fun r308 w2 H locs hp hP hS => ?_)
      obtain ⟨f1, a1, hz, hT', hf9⟩ := hp
      have hC : coS E w2 x N f a mn cn nb := hC.fr hf9 (fun t9 h9 => by simp only [tP, pO, pXs] at h9; omega)
      have hO : lA E w2 o v9_1 := hO.fr hf9 (by intro z9; simp [pO, pN, pW, pWd, tP, pXs] at z9)
      have hD : dA E w2 od v2 := hD.fr hf9 (by intro z9; simp [pO, pN, pW, pWd, tP, pXs] at z9)
      have hT : tM E w2 y ad f1 a1 := hT'
      obtain ⟨hr7, hf7, ha7⟩ := hz
      have hth : f1 13 = _ := (congrFun hf7 13).trans (up_s _ _ _)
      have hco := (hC.mono (show _ ≤ N + 64000 from by omega)).co (f1 := f1) (a1 := a1) (by rw [ha7]) (by rw [ha7]) (by rw [ha7]) (by rw [ha7]) (fun j hj => by rw [hf7]; exact up_n (by omega))
      have hans := hr7
      show W p l0 e room_1 s m args below meth c H locs (c0 + 40) (s0 + 220) Q (F0 m 311 ls [.int r308])
      refine lv_istore (lv' := [(7, .int r308), (6, .int r282), (0, .ref b), (1, .ref x), (2, .ref y), (3, .ref o), (4, .ref od), (5, .int (nI i9))]) hx hb dL_law_311 hl (by decide) rfl (fun ls hl => ?_)
      refine lv_aload_n hx hb dL_law_313 rfl (lv_at hl 4 rfl) ?_
      refine k_cV hx hb hml hown hts (CX6_thrown l0 E w2 y ad f1 a1 hT) (cwV 0 hts (lw_V q1681 q1682 q1683 q81 q1684) rfl rfl rfl dyX6_thrown ⟨Nat.le_of_ble_eq_true rfl, Nat.le_of_ble_eq_true rfl⟩) hG hP hS hT.1 rfl (As := []) (rest := []) rfl hl.1 rfl (lv_room (Nat.le_of_ble_eq_true rfl)) dL_law_314 ⟨show (c0 + 40) + 0 ≤ 1200144 from by omega, show (s0 + 220) + 0 ≤ 5497402 from by omega⟩ (fun r314 w3 H locs hp hP hS => ?_)
      obtain ⟨hp1, hp0⟩ := hp
      rw [hp1] at hP
      rw [hp0, hth, ← hk0]
      show W p l0 e room_1 s m args below meth c H locs (c0 + 40) (s0 + 220) Q (F0 m 317 ls [.int r282])
      refine lv_iload hx hb dL_law_317 (lv_at hl 1 rfl) ?_
      refine lv_icmp_eq (tgt := 324) hx hb dL_law_319 (by decide) (fun c319 => ?_) (fun c319 => ?_)
      · skip
        refine lv_iload hx hb dL_law_324 (lv_at hl 1 rfl) ?_
        refine lv_if_ne (tgt := 341) hx hb dL_law_326 (by decide) (fun c326 => ?_) (fun c326 => ?_)
        · skip
          refine lv_goto (tgt := 1904) hx hb dL_law_341 (by decide) ?_
          refine W.widen (show (c0 + 40) ≤ c0 + 7000 from by omega) (show (s0 + 220) ≤ s0 + 23000 from by omega) ?_
          exact kk _ H locs ls _ _ _ _ _ _ _ hco hT hO hD hP hS (lv_drop hl (by simp))
        · skip
          have hv9 := hk1 (hk0.symm.trans c326)
          have hans9 := hans
          rw [hv9, ← hans9] at hO
          have hO : lA E w2 o (r308).toInt64 := hO
          refine lv_aload_n hx hb dL_law_329 rfl (lv_at hl 5 rfl) ?_
          refine lv_iconst (v := 0) hx hb dL_law_330 (by decide) ?_
          refine k_lald hx hb hG hP hO dL_law_331 ?_
          refine lv_iload hx hb dL_law_332 (lv_at hl 0 rfl) ?_
          refine lv_i2l hx hb dL_law_334 rfl ?_
          refine lv_lcmpE hx hb dL_law_335 ?_
          refine lv_if_eq (tgt := 341) hx hb dL_law_336 (by decide) (fun c336 => ?_) (fun c336 => ?_)
          · skip
            refine lv_goto (tgt := 1904) hx hb dL_law_341 (by decide) ?_
            refine W.widen (show (c0 + 40) ≤ c0 + 7000 from by omega) (show (s0 + 220) ≤ s0 + 23000 from by omega) ?_
            exact kk _ H locs ls _ _ _ _ _ _ _ hco hT hO hD hP hS (lv_drop hl (by simp))
          · skip
            exact absurd c336 (by decide)
      · skip
        exact absurd rfl c319
    · skip
      exact absurd c273 c300
  · skip
    refine lv_iconst (v := 1) hx hb dL_law_276 (by decide) ?_
    refine lv_goto (tgt := 281) hx hb dL_law_277 (by decide) ?_
    refine lv_aload_n hx hb dL_law_281 rfl (lv_at hl 3 rfl) ?_
    refine kx_cSH hx hb hml hown hts (CX0_windOf l0 hl0 E w x o f a mn cn nb N v (xs (i9 + 1)) true hC hO) (vx_cwSW 4 hts (lw_SW q596 q597 q68 q598) rfl rfl rfl dyX0_windOf ⟨Nat.le_of_ble_eq_true rfl, Nat.le_of_ble_eq_true rfl⟩) hG hP hS (As := [.ref x, .int (xs (i9 + 1)), .int 1, .ref o]) (rest := []) rfl hl.1 rfl (lv_room (Nat.le_of_ble_eq_true rfl)) dL_law_282 ⟨show c0 + 40 ≤ 1200144 from by omega, show s0 + 220 ≤ 5497402 from by omega⟩ (fun r282 w4 H locs hp hP hS => ?_)
    obtain ⟨v9_2, hp0, ⟨hO', hC', -⟩, hf9⟩ := hp
    have hT : tM E w4 y ad f a := hT.fr hf9 (fun t9 h9 => by simp only [pW, pWd, pO, pN, pXs] at h9; first | omega | (subst h9; decide))
    have hD : dA E w4 od v2 := hD.fr hf9 (by intro z9; simp [pO, pN, pW, pWd, tP, pXs] at z9)
    have hO : lA E w4 o v9_2 := hO'
    have hC : coS E w4 x N f a mn cn nb := hC'
    show W p l0 e room_1 s m args below meth c H locs (c0 + 40) (s0 + 220) Q (F0 m 285 ls [.int r282])
    obtain ⟨hk0, hk1⟩ := hp0
    refine lv_istore (lv' := [(6, .int r282), (0, .ref b), (1, .ref x), (2, .ref y), (3, .ref o), (4, .ref od), (5, .int (nI i9))]) hx hb dL_law_285 hl (by decide) rfl (fun ls hl => ?_)
    refine lv_aload_n hx hb dL_law_287 rfl (lv_at hl 3 rfl) ?_
    refine lv_aload_n hx hb dL_law_288 rfl (lv_at hl 1 rfl) ?_
    refine lv_iload hx hb dL_law_289 (lv_at hl 6 rfl) ?_
    refine lv_iconst (v := 1) hx hb dL_law_291 (by decide) ?_
    refine k_iaddN (x := i9) (y := 1) hx hb dL_law_292 ?_
    refine va_sld hx hb hX0 hbl hbA hS (vp_in_nI (n := i9 + 1) (N := L) (by omega) (by omega)) dL_law_293 ?_
    rw [nI_clamp (show i9 + 1 < 2 ^ 31 from by omega)]
    refine lv_aload_n hx hb dL_law_294 rfl (lv_at hl 1 rfl) ?_
    refine lv_iload hx hb dL_law_295 (lv_at hl 6 rfl) ?_
    refine lv_iconst (v := 2) hx hb dL_law_297 (by decide) ?_
    refine k_iaddN (x := i9) (y := 2) hx hb dL_law_298 ?_
    refine va_sld hx hb hX0 hbl hbA hS (vp_in_nI (n := i9 + 2) (N := L) (by omega) (by omega)) dL_law_299 ?_
    rw [nI_clamp (show i9 + 2 < 2 ^ 31 from by omega)]
    refine lv_if_eq (tgt := 307) hx hb dL_law_300 (by decide) (fun c300 => ?_) (fun c300 => ?_)
    · skip
      exact absurd c300 c273
    · skip
      refine lv_iconst (v := 1) hx hb dL_law_303 (by decide) ?_
      refine lv_goto (tgt := 308) hx hb dL_law_304 (by decide) ?_
      refine k_cV hx hb hml hown hts (CX6_windOf l0 E w4 y ad f a (xs (i9 + 1)) true hT) (cwV 2 hts (lw_V q1706 q1707 q1708 q81 q1709) rfl rfl rfl dyX6_windOf ⟨Nat.le_of_ble_eq_true rfl, Nat.le_of_ble_eq_true rfl⟩) hG hP hS hT.1 rfl (As := [.int (xs (i9 + 1)), .int 1]) (rest := []) rfl hl.1 rfl (lv_room (Nat.le_of_ble_eq_true rfl)) dL_law_308 ⟨show (c0 + 40) + 0 ≤ 1200144 from by omega, show (s0 + 220) + 0 ≤ 5497402 from by omega⟩ (fun r308 w5 H locs hp hP hS => ?_)
      obtain ⟨f1, a1, hz, hT', hf9⟩ := hp
      have hC : coS E w5 x N f a mn cn nb := hC.fr hf9 (fun t9 h9 => by simp only [tP, pO, pXs] at h9; omega)
      have hO : lA E w5 o v9_2 := hO.fr hf9 (by intro z9; simp [pO, pN, pW, pWd, tP, pXs] at z9)
      have hD : dA E w5 od v2 := hD.fr hf9 (by intro z9; simp [pO, pN, pW, pWd, tP, pXs] at z9)
      have hT : tM E w5 y ad f1 a1 := hT'
      obtain ⟨hr7, hf7, ha7⟩ := hz
      have hth : f1 13 = _ := (congrFun hf7 13).trans (up_s _ _ _)
      have hco := (hC.mono (show _ ≤ N + 64000 from by omega)).co (f1 := f1) (a1 := a1) (by rw [ha7]) (by rw [ha7]) (by rw [ha7]) (by rw [ha7]) (fun j hj => by rw [hf7]; exact up_n (by omega))
      have hans := hr7
      show W p l0 e room_1 s m args below meth c H locs (c0 + 40) (s0 + 220) Q (F0 m 311 ls [.int r308])
      refine lv_istore (lv' := [(7, .int r308), (6, .int r282), (0, .ref b), (1, .ref x), (2, .ref y), (3, .ref o), (4, .ref od), (5, .int (nI i9))]) hx hb dL_law_311 hl (by decide) rfl (fun ls hl => ?_)
      refine lv_aload_n hx hb dL_law_313 rfl (lv_at hl 4 rfl) ?_
      refine k_cV hx hb hml hown hts (CX6_thrown l0 E w5 y ad f1 a1 hT) (cwV 0 hts (lw_V q1681 q1682 q1683 q81 q1684) rfl rfl rfl dyX6_thrown ⟨Nat.le_of_ble_eq_true rfl, Nat.le_of_ble_eq_true rfl⟩) hG hP hS hT.1 rfl (As := []) (rest := []) rfl hl.1 rfl (lv_room (Nat.le_of_ble_eq_true rfl)) dL_law_314 ⟨show (c0 + 40) + 0 ≤ 1200144 from by omega, show (s0 + 220) + 0 ≤ 5497402 from by omega⟩ (fun r314 w6 H locs hp hP hS => ?_)
      obtain ⟨hp1, hp0⟩ := hp
      rw [hp1] at hP
      rw [hp0, hth, ← hk0]
      show W p l0 e room_1 s m args below meth c H locs (c0 + 40) (s0 + 220) Q (F0 m 317 ls [.int r282])
      refine lv_iload hx hb dL_law_317 (lv_at hl 1 rfl) ?_
      refine lv_icmp_eq (tgt := 324) hx hb dL_law_319 (by decide) (fun c319 => ?_) (fun c319 => ?_)
      · skip
        refine lv_iload hx hb dL_law_324 (lv_at hl 1 rfl) ?_
        refine lv_if_ne (tgt := 341) hx hb dL_law_326 (by decide) (fun c326 => ?_) (fun c326 => ?_)
        · skip
          refine lv_goto (tgt := 1904) hx hb dL_law_341 (by decide) ?_
          refine W.widen (show (c0 + 40) ≤ c0 + 7000 from by omega) (show (s0 + 220) ≤ s0 + 23000 from by omega) ?_
          exact kk _ H locs ls _ _ _ _ _ _ _ hco hT hO hD hP hS (lv_drop hl (by simp))
        · skip
          have hv9 := hk1 (hk0.symm.trans c326)
          have hans9 := hans
          rw [hv9, ← hans9] at hO
          have hO : lA E w5 o (r308).toInt64 := hO
          refine lv_aload_n hx hb dL_law_329 rfl (lv_at hl 5 rfl) ?_
          refine lv_iconst (v := 0) hx hb dL_law_330 (by decide) ?_
          refine k_lald hx hb hG hP hO dL_law_331 ?_
          refine lv_iload hx hb dL_law_332 (lv_at hl 0 rfl) ?_
          refine lv_i2l hx hb dL_law_334 rfl ?_
          refine lv_lcmpE hx hb dL_law_335 ?_
          refine lv_if_eq (tgt := 341) hx hb dL_law_336 (by decide) (fun c336 => ?_) (fun c336 => ?_)
          · skip
            refine lv_goto (tgt := 1904) hx hb dL_law_341 (by decide) ?_
            refine W.widen (show (c0 + 40) ≤ c0 + 7000 from by omega) (show (s0 + 220) ≤ s0 + 23000 from by omega) ?_
            exact kk _ H locs ls _ _ _ _ _ _ _ hco hT hO hD hP hS (lv_drop hl (by simp))
          · skip
            exact absurd c336 (by decide)
      · skip
        exact absurd rfl c319

set_option maxHeartbeats 4000000 in
theorem law_kiteOf {p : Program} {e : Env} {s : State} {m : MethodId} {args : Array Value} {below : List Frame} {meth : Method} {c : Code} {E : gE} {b L : Nat} {xs : Nat → Int32} {Q : State → Prop} (l0 : Launch) (hl0 : l0.stackTraces = false) (hx : p.tables.exec = Jvm.exec) (hb : c.code = cL_law) (hml : c.maxLocals = 9) (hown : s.vm.findClass "KiteRoofsLaw" = some m.cls) (hts : ∀ w ∈ lw_all, w.before args s = true) (hG : gK E s) (hX0 : va_X b L xs s s.heap) (hbl : b < s.heap.size) (hbA : ¬ gA E b)
    {w : wd} {H : Heap} {locs : List Loc} {ls : Array Slot} {x y o od N mn cn nb i9 c0 s0 : Nat} {f : Nat → Int32} {a : Nat → Nat → Int32} {ad : Nat → Nat} {v : Int64} {v2 : UInt64} (hL : L ≤ 120) (hi : i9 + 5 ≤ L) (hN9 : N + 71 * 31 * 32 < 2 ^ 31) (hc0 : c0 + 7000 ≤ 1200144) (hs0 : s0 + 23000 ≤ 5497402)
    (hC : coS E w x N f a mn cn nb) (hT : tM E w y ad f a) (hO : lA E w o v) (hD : dA E w od v2) (hP : wP E w H) (hS : va_S (gA E) s.heap H locs) (hl : lv_has ls 9 [(0, .ref b), (1, .ref x), (2, .ref y), (3, .ref o), (4, .ref od), (5, .int (nI i9))])
    (kk : ∀ (w1 : wd) (H1 : Heap) (locs1 : List Loc) (ls1 : Array Slot) (f1 : Nat → Int32) (a1 : Nat → Nat → Int32) (mn1 cn1 nb1 : Nat) (v1 : Int64) (v21 : UInt64), coS E w1 x (N + 64000) f1 a1 mn1 cn1 nb1 → tM E w1 y ad f1 a1 → lA E w1 o v1 → dA E w1 od v21 → wP E w1 H1 → va_S (gA E) s.heap H1 locs1 → lv_has ls1 9 [(0, .ref b), (1, .ref x), (2, .ref y), (3, .ref o), (4, .ref od), (5, .int (nI i9))] → W p l0 e room_1 s m args below meth c H1 locs1 (c0 + 7000) (s0 + 23000) Q (F0 m 1904 ls1 [])) :
    W p l0 e room_1 s m args below meth c H locs c0 s0 Q (F0 m 740 ls []) := by
  obtain ⟨⟨n9, n6, n7, n11⟩, ⟨n60, c8⟩, ⟨m25, m6⟩, gI0⟩ := hC.nums
  refine lv_aload_n hx hb dL_law_740 rfl (lv_at hl 1 rfl) ?_
  refine lv_aload_n hx hb dL_law_741 rfl (lv_at hl 0 rfl) ?_
  refine lv_iload hx hb dL_law_742 (lv_at hl 5 rfl) ?_
  refine lv_iconst (v := 1) hx hb dL_law_744 (by decide) ?_
  refine k_iaddN (x := i9) (y := 1) hx hb dL_law_745 ?_
  refine va_sld hx hb hX0 hbl hbA hS (vp_in_nI (n := i9 + 1) (N := L) (by omega) (by omega)) dL_law_746 ?_
  rw [nI_clamp (show i9 + 1 < 2 ^ 31 from by omega)]
  refine lv_aload_n hx hb dL_law_747 rfl (lv_at hl 0 rfl) ?_
  refine lv_iload hx hb dL_law_748 (lv_at hl 5 rfl) ?_
  refine lv_iconst (v := 2) hx hb dL_law_750 (by decide) ?_
  refine k_iaddN (x := i9) (y := 2) hx hb dL_law_751 ?_
  refine va_sld hx hb hX0 hbl hbA hS (vp_in_nI (n := i9 + 2) (N := L) (by omega) (by omega)) dL_law_752 ?_
  rw [nI_clamp (show i9 + 2 < 2 ^ 31 from by omega)]
  refine lv_aload_n hx hb dL_law_753 rfl (lv_at hl 3 rfl) ?_
  refine kx_cSH hx hb hml hown hts (CX0_kiteOf l0 hl0 E w x o f a mn cn nb N v (xs (i9 + 1)) (xs (i9 + 2)) hC hO) (vx_cwSW 4 hts (lw_SW q777 q778 q68 q779) rfl rfl rfl dyX0_kiteOf ⟨Nat.le_of_ble_eq_true rfl, Nat.le_of_ble_eq_true rfl⟩) hG hP hS (As := [.ref x, .int (xs (i9 + 1)), .int (xs (i9 + 2)), .ref o]) (rest := []) rfl hl.1 rfl (lv_room (Nat.le_of_ble_eq_true rfl)) dL_law_754 ⟨show c0 + 40 ≤ 1200144 from by omega, show s0 + 220 ≤ 5497402 from by omega⟩ (fun r754 w1 H locs hp hP hS => ?_)
  obtain ⟨v9_1, hp0, ⟨hO', hC', -⟩, hf9⟩ := hp
  have hT : tM E w1 y ad f a := hT.fr hf9 (fun t9 h9 => by simp only [pW, pWd, pO, pN, pXs] at h9; first | omega | (subst h9; decide))
  have hD : dA E w1 od v2 := hD.fr hf9 (by intro z9; simp [pO, pN, pW, pWd, tP, pXs] at z9)
  have hO : lA E w1 o v9_1 := hO'
  have hC : coS E w1 x N f a mn cn nb := hC'
  show W p l0 e room_1 s m args below meth c H locs (c0 + 40) (s0 + 220) Q (F0 m 757 ls [.int r754])
  obtain ⟨hk0, hk1⟩ := hp0
  refine lv_istore (lv' := [(6, .int r754), (0, .ref b), (1, .ref x), (2, .ref y), (3, .ref o), (4, .ref od), (5, .int (nI i9))]) hx hb dL_law_757 hl (by decide) rfl (fun ls hl => ?_)
  refine lv_aload_n hx hb dL_law_759 rfl (lv_at hl 3 rfl) ?_
  refine lv_aload_n hx hb dL_law_760 rfl (lv_at hl 1 rfl) ?_
  refine lv_iload hx hb dL_law_761 (lv_at hl 6 rfl) ?_
  refine lv_iconst (v := 1) hx hb dL_law_763 (by decide) ?_
  refine k_iaddN (x := i9) (y := 1) hx hb dL_law_764 ?_
  refine va_sld hx hb hX0 hbl hbA hS (vp_in_nI (n := i9 + 1) (N := L) (by omega) (by omega)) dL_law_765 ?_
  rw [nI_clamp (show i9 + 1 < 2 ^ 31 from by omega)]
  refine lv_aload_n hx hb dL_law_766 rfl (lv_at hl 1 rfl) ?_
  refine lv_iload hx hb dL_law_767 (lv_at hl 6 rfl) ?_
  refine lv_iconst (v := 2) hx hb dL_law_769 (by decide) ?_
  refine k_iaddN (x := i9) (y := 2) hx hb dL_law_770 ?_
  refine va_sld hx hb hX0 hbl hbA hS (vp_in_nI (n := i9 + 2) (N := L) (by omega) (by omega)) dL_law_771 ?_
  rw [nI_clamp (show i9 + 2 < 2 ^ 31 from by omega)]
  refine k_cV hx hb hml hown hts (CX6_kiteOf l0 E w1 y ad f a (xs (i9 + 1)) (xs (i9 + 2)) mn hT m6 m25) (cwV 2 hts (lw_V q1762 q1763 q1764 q81 q1765) rfl rfl rfl dyX6_kiteOf ⟨Nat.le_of_ble_eq_true rfl, Nat.le_of_ble_eq_true rfl⟩) hG hP hS hT.1 rfl (As := [.int (xs (i9 + 1)), .int (xs (i9 + 2))]) (rest := []) rfl hl.1 rfl (lv_room (Nat.le_of_ble_eq_true rfl)) dL_law_772 ⟨show (c0 + 40) + 0 ≤ 1200144 from by omega, show (s0 + 220) + 0 ≤ 5497402 from by omega⟩ (fun r772 w2 H locs hp hP hS => ?_)
  obtain ⟨f1, a1, hz, hT', hf9⟩ := hp
  have hC : coS E w2 x N f a mn cn nb := hC.fr hf9 (fun t9 h9 => by simp only [tP, pO, pXs] at h9; omega)
  have hO : lA E w2 o v9_1 := hO.fr hf9 (by intro z9; simp [pO, pN, pW, pWd, tP, pXs] at z9)
  have hD : dA E w2 od v2 := hD.fr hf9 (by intro z9; simp [pO, pN, pW, pWd, tP, pXs] at z9)
  have hT : tM E w2 y ad f1 a1 := hT'
  obtain ⟨hr7, hf7, ha7⟩ := hz
  have hth : f1 13 = _ := (congrFun hf7 13).trans (up_s _ _ _)
  have hco := (hC.mono (show _ ≤ N + 64000 from by omega)).co (f1 := f1) (a1 := a1) (by rw [ha7]) (by rw [ha7]) (by rw [ha7]) (by rw [ha7]) (fun j hj => by rw [hf7]; exact up_n (by omega))
  have hans := hr7
  show W p l0 e room_1 s m args below meth c H locs (c0 + 40) (s0 + 220) Q (F0 m 775 ls [.int r772])
  refine lv_istore (lv' := [(7, .int r772), (6, .int r754), (0, .ref b), (1, .ref x), (2, .ref y), (3, .ref o), (4, .ref od), (5, .int (nI i9))]) hx hb dL_law_775 hl (by decide) rfl (fun ls hl => ?_)
  refine lv_aload_n hx hb dL_law_777 rfl (lv_at hl 4 rfl) ?_
  refine k_cV hx hb hml hown hts (CX6_thrown l0 E w2 y ad f1 a1 hT) (cwV 0 hts (lw_V q1681 q1682 q1683 q81 q1684) rfl rfl rfl dyX6_thrown ⟨Nat.le_of_ble_eq_true rfl, Nat.le_of_ble_eq_true rfl⟩) hG hP hS hT.1 rfl (As := []) (rest := []) rfl hl.1 rfl (lv_room (Nat.le_of_ble_eq_true rfl)) dL_law_778 ⟨show (c0 + 40) + 0 ≤ 1200144 from by omega, show (s0 + 220) + 0 ≤ 5497402 from by omega⟩ (fun r778 w3 H locs hp hP hS => ?_)
  obtain ⟨hp1, hp0⟩ := hp
  rw [hp1] at hP
  rw [hp0, hth, ← hk0]
  show W p l0 e room_1 s m args below meth c H locs (c0 + 40) (s0 + 220) Q (F0 m 781 ls [.int r754])
  refine lv_iload hx hb dL_law_781 (lv_at hl 1 rfl) ?_
  refine lv_icmp_eq (tgt := 788) hx hb dL_law_783 (by decide) (fun c783 => ?_) (fun c783 => ?_)
  · skip
    refine lv_iload hx hb dL_law_788 (lv_at hl 1 rfl) ?_
    refine lv_if_ne (tgt := 805) hx hb dL_law_790 (by decide) (fun c790 => ?_) (fun c790 => ?_)
    · skip
      refine lv_goto (tgt := 1904) hx hb dL_law_805 (by decide) ?_
      refine W.widen (show (c0 + 40) ≤ c0 + 7000 from by omega) (show (s0 + 220) ≤ s0 + 23000 from by omega) ?_
      exact kk _ H locs ls _ _ _ _ _ _ _ hco hT hO hD hP hS (lv_drop hl (by simp))
    · skip
      have hv9 := hk1 (hk0.symm.trans c790)
      have hans9 := hans
      rw [hv9, ← hans9] at hO
      have hO : lA E w2 o (r772).toInt64 := hO
      refine lv_aload_n hx hb dL_law_793 rfl (lv_at hl 5 rfl) ?_
      refine lv_iconst (v := 0) hx hb dL_law_794 (by decide) ?_
      refine k_lald hx hb hG hP hO dL_law_795 ?_
      refine lv_iload hx hb dL_law_796 (lv_at hl 0 rfl) ?_
      refine lv_i2l hx hb dL_law_798 rfl ?_
      refine lv_lcmpE hx hb dL_law_799 ?_
      refine lv_if_eq (tgt := 805) hx hb dL_law_800 (by decide) (fun c800 => ?_) (fun c800 => ?_)
      · skip
        refine lv_goto (tgt := 1904) hx hb dL_law_805 (by decide) ?_
        refine W.widen (show (c0 + 40) ≤ c0 + 7000 from by omega) (show (s0 + 220) ≤ s0 + 23000 from by omega) ?_
        exact kk _ H locs ls _ _ _ _ _ _ _ hco hT hO hD hP hS (lv_drop hl (by simp))
      · skip
        exact absurd c800 (by decide)
  · skip
    exact absurd rfl c783

set_option maxHeartbeats 4000000 in
theorem law_state {p : Program} {e : Env} {s : State} {m : MethodId} {args : Array Value} {below : List Frame} {meth : Method} {c : Code} {E : gE} {b L : Nat} {xs : Nat → Int32} {Q : State → Prop} (l0 : Launch) (hl0 : l0.stackTraces = false) (hx : p.tables.exec = Jvm.exec) (hb : c.code = cL_law) (hml : c.maxLocals = 9) (hown : s.vm.findClass "KiteRoofsLaw" = some m.cls) (hts : ∀ w ∈ lw_all, w.before args s = true) (hG : gK E s) (hX0 : va_X b L xs s s.heap) (hbl : b < s.heap.size) (hbA : ¬ gA E b)
    {w : wd} {H : Heap} {locs : List Loc} {ls : Array Slot} {x y o od N mn cn nb i9 c0 s0 : Nat} {f : Nat → Int32} {a : Nat → Nat → Int32} {ad : Nat → Nat} {v : Int64} {v2 : UInt64} (hL : L ≤ 120) (hi : i9 + 5 ≤ L) (hN9 : N + 71 * 31 * 32 < 2 ^ 31) (hc0 : c0 + 7000 ≤ 1200144) (hs0 : s0 + 23000 ≤ 5497402)
    (hC : coS E w x N f a mn cn nb) (hT : tM E w y ad f a) (hO : lA E w o v) (hD : dA E w od v2) (hP : wP E w H) (hS : va_S (gA E) s.heap H locs) (hl : lv_has ls 9 [(0, .ref b), (1, .ref x), (2, .ref y), (3, .ref o), (4, .ref od), (5, .int (nI i9))])
    (kk : ∀ (w1 : wd) (H1 : Heap) (locs1 : List Loc) (ls1 : Array Slot) (f1 : Nat → Int32) (a1 : Nat → Nat → Int32) (mn1 cn1 nb1 : Nat) (v1 : Int64) (v21 : UInt64), coS E w1 x (N + 64000) f1 a1 mn1 cn1 nb1 → tM E w1 y ad f1 a1 → lA E w1 o v1 → dA E w1 od v21 → wP E w1 H1 → va_S (gA E) s.heap H1 locs1 → lv_has ls1 9 [(0, .ref b), (1, .ref x), (2, .ref y), (3, .ref o), (4, .ref od), (5, .int (nI i9))] → W p l0 e room_1 s m args below meth c H1 locs1 (c0 + 7000) (s0 + 23000) Q (F0 m 1904 ls1 [])) :
    W p l0 e room_1 s m args below meth c H locs c0 s0 Q (F0 m 808 ls []) := by
  obtain ⟨⟨n9, n6, n7, n11⟩, ⟨n60, c8⟩, ⟨m25, m6⟩, gI0⟩ := hC.nums
  refine lv_aload_n hx hb dL_law_808 rfl (lv_at hl 1 rfl) ?_
  refine lv_aload_n hx hb dL_law_809 rfl (lv_at hl 0 rfl) ?_
  refine lv_iload hx hb dL_law_810 (lv_at hl 5 rfl) ?_
  refine lv_iconst (v := 1) hx hb dL_law_812 (by decide) ?_
  refine k_iaddN (x := i9) (y := 1) hx hb dL_law_813 ?_
  refine va_sld hx hb hX0 hbl hbA hS (vp_in_nI (n := i9 + 1) (N := L) (by omega) (by omega)) dL_law_814 ?_
  rw [nI_clamp (show i9 + 1 < 2 ^ 31 from by omega)]
  refine lv_aload_n hx hb dL_law_815 rfl (lv_at hl 3 rfl) ?_
  refine kx_cSH hx hb hml hown hts (CX0_state l0 hl0 E w x o f a mn cn nb N v (xs (i9 + 1)) hC hO) (vx_cwSW 3 hts (lw_SW q856 q857 q68 q858) rfl rfl rfl dyX0_state ⟨Nat.le_of_ble_eq_true rfl, Nat.le_of_ble_eq_true rfl⟩) hG hP hS (As := [.ref x, .int (xs (i9 + 1)), .ref o]) (rest := []) rfl hl.1 rfl (lv_room (Nat.le_of_ble_eq_true rfl)) dL_law_816 ⟨show c0 + 40 ≤ 1200144 from by omega, show s0 + 220 ≤ 5497402 from by omega⟩ (fun r816 w1 H locs hp hP hS => ?_)
  obtain ⟨v9_1, hp0, ⟨hO', hC', -⟩, hf9⟩ := hp
  have hT : tM E w1 y ad f a := hT.fr hf9 (fun t9 h9 => by simp only [pW, pWd, pO, pN, pXs] at h9; first | omega | (subst h9; decide))
  have hD : dA E w1 od v2 := hD.fr hf9 (by intro z9; simp [pO, pN, pW, pWd, tP, pXs] at z9)
  have hO : lA E w1 o v9_1 := hO'
  have hC : coS E w1 x N f a mn cn nb := hC'
  show W p l0 e room_1 s m args below meth c H locs (c0 + 40) (s0 + 220) Q (F0 m 819 ls [.int r816])
  obtain ⟨hk0, hk1⟩ := hp0
  refine lv_istore (lv' := [(6, .int r816), (0, .ref b), (1, .ref x), (2, .ref y), (3, .ref o), (4, .ref od), (5, .int (nI i9))]) hx hb dL_law_819 hl (by decide) rfl (fun ls hl => ?_)
  refine lv_aload_n hx hb dL_law_821 rfl (lv_at hl 3 rfl) ?_
  refine lv_aload_n hx hb dL_law_822 rfl (lv_at hl 1 rfl) ?_
  refine lv_iload hx hb dL_law_823 (lv_at hl 6 rfl) ?_
  refine lv_iconst (v := 1) hx hb dL_law_825 (by decide) ?_
  refine k_iaddN (x := i9) (y := 1) hx hb dL_law_826 ?_
  refine va_sld hx hb hX0 hbl hbA hS (vp_in_nI (n := i9 + 1) (N := L) (by omega) (by omega)) dL_law_827 ?_
  rw [nI_clamp (show i9 + 1 < 2 ^ 31 from by omega)]
  refine k_cV hx hb hml hown hts (CX6_state l0 E w1 y ad f a (xs (i9 + 1)) mn hT m6 m25) (cwV 1 hts (lw_V q1797 q1798 q1799 q81 q1800) rfl rfl rfl dyX6_state ⟨Nat.le_of_ble_eq_true rfl, Nat.le_of_ble_eq_true rfl⟩) hG hP hS hT.1 rfl (As := [.int (xs (i9 + 1))]) (rest := []) rfl hl.1 rfl (lv_room (Nat.le_of_ble_eq_true rfl)) dL_law_828 ⟨show (c0 + 40) + 0 ≤ 1200144 from by omega, show (s0 + 220) + 0 ≤ 5497402 from by omega⟩ (fun r828 w2 H locs hp hP hS => ?_)
  obtain ⟨f1, a1, hz, hT', hf9⟩ := hp
  have hC : coS E w2 x N f a mn cn nb := hC.fr hf9 (fun t9 h9 => by simp only [tP, pO, pXs] at h9; omega)
  have hO : lA E w2 o v9_1 := hO.fr hf9 (by intro z9; simp [pO, pN, pW, pWd, tP, pXs] at z9)
  have hD : dA E w2 od v2 := hD.fr hf9 (by intro z9; simp [pO, pN, pW, pWd, tP, pXs] at z9)
  have hT : tM E w2 y ad f1 a1 := hT'
  obtain ⟨hr7, hf7, ha7⟩ := hz
  have hth : f1 13 = _ := (congrFun hf7 13).trans (up_s _ _ _)
  have hco := (hC.mono (show _ ≤ N + 64000 from by omega)).co (f1 := f1) (a1 := a1) (by rw [ha7]) (by rw [ha7]) (by rw [ha7]) (by rw [ha7]) (fun j hj => by rw [hf7]; exact up_n (by omega))
  have hans := hr7
  show W p l0 e room_1 s m args below meth c H locs (c0 + 40) (s0 + 220) Q (F0 m 831 ls [.int r828])
  refine lv_istore (lv' := [(7, .int r828), (6, .int r816), (0, .ref b), (1, .ref x), (2, .ref y), (3, .ref o), (4, .ref od), (5, .int (nI i9))]) hx hb dL_law_831 hl (by decide) rfl (fun ls hl => ?_)
  refine lv_aload_n hx hb dL_law_833 rfl (lv_at hl 4 rfl) ?_
  refine k_cV hx hb hml hown hts (CX6_thrown l0 E w2 y ad f1 a1 hT) (cwV 0 hts (lw_V q1681 q1682 q1683 q81 q1684) rfl rfl rfl dyX6_thrown ⟨Nat.le_of_ble_eq_true rfl, Nat.le_of_ble_eq_true rfl⟩) hG hP hS hT.1 rfl (As := []) (rest := []) rfl hl.1 rfl (lv_room (Nat.le_of_ble_eq_true rfl)) dL_law_834 ⟨show (c0 + 40) + 0 ≤ 1200144 from by omega, show (s0 + 220) + 0 ≤ 5497402 from by omega⟩ (fun r834 w3 H locs hp hP hS => ?_)
  obtain ⟨hp1, hp0⟩ := hp
  rw [hp1] at hP
  rw [hp0, hth, ← hk0]
  show W p l0 e room_1 s m args below meth c H locs (c0 + 40) (s0 + 220) Q (F0 m 837 ls [.int r816])
  refine lv_iload hx hb dL_law_837 (lv_at hl 1 rfl) ?_
  refine lv_icmp_eq (tgt := 844) hx hb dL_law_839 (by decide) (fun c839 => ?_) (fun c839 => ?_)
  · skip
    refine lv_iload hx hb dL_law_844 (lv_at hl 1 rfl) ?_
    refine lv_if_ne (tgt := 861) hx hb dL_law_846 (by decide) (fun c846 => ?_) (fun c846 => ?_)
    · skip
      refine lv_goto (tgt := 1904) hx hb dL_law_861 (by decide) ?_
      refine W.widen (show (c0 + 40) ≤ c0 + 7000 from by omega) (show (s0 + 220) ≤ s0 + 23000 from by omega) ?_
      exact kk _ H locs ls _ _ _ _ _ _ _ hco hT hO hD hP hS (lv_drop hl (by simp))
    · skip
      have hv9 := hk1 (hk0.symm.trans c846)
      have hans9 := hans
      rw [hv9, ← hans9] at hO
      have hO : lA E w2 o (r828).toInt64 := hO
      refine lv_aload_n hx hb dL_law_849 rfl (lv_at hl 5 rfl) ?_
      refine lv_iconst (v := 0) hx hb dL_law_850 (by decide) ?_
      refine k_lald hx hb hG hP hO dL_law_851 ?_
      refine lv_iload hx hb dL_law_852 (lv_at hl 0 rfl) ?_
      refine lv_i2l hx hb dL_law_854 rfl ?_
      refine lv_lcmpE hx hb dL_law_855 ?_
      refine lv_if_eq (tgt := 861) hx hb dL_law_856 (by decide) (fun c856 => ?_) (fun c856 => ?_)
      · skip
        refine lv_goto (tgt := 1904) hx hb dL_law_861 (by decide) ?_
        refine W.widen (show (c0 + 40) ≤ c0 + 7000 from by omega) (show (s0 + 220) ≤ s0 + 23000 from by omega) ?_
        exact kk _ H locs ls _ _ _ _ _ _ _ hco hT hO hD hP hS (lv_drop hl (by simp))
      · skip
        exact absurd c856 (by decide)
  · skip
    exact absurd rfl c839

set_option maxHeartbeats 4000000 in
theorem law_heightAgain {p : Program} {e : Env} {s : State} {m : MethodId} {args : Array Value} {below : List Frame} {meth : Method} {c : Code} {E : gE} {b L : Nat} {xs : Nat → Int32} {Q : State → Prop} (l0 : Launch) (hl0 : l0.stackTraces = false) (hx : p.tables.exec = Jvm.exec) (hb : c.code = cL_law) (hml : c.maxLocals = 9) (hown : s.vm.findClass "KiteRoofsLaw" = some m.cls) (hts : ∀ w ∈ lw_all, w.before args s = true) (hG : gK E s) (hX0 : va_X b L xs s s.heap) (hbl : b < s.heap.size) (hbA : ¬ gA E b)
    {w : wd} {H : Heap} {locs : List Loc} {ls : Array Slot} {x y o od N mn cn nb i9 c0 s0 : Nat} {f : Nat → Int32} {a : Nat → Nat → Int32} {ad : Nat → Nat} {v : Int64} {v2 : UInt64} (hL : L ≤ 120) (hi : i9 + 5 ≤ L) (hN9 : N + 71 * 31 * 32 < 2 ^ 31) (hc0 : c0 + 7000 ≤ 1200144) (hs0 : s0 + 23000 ≤ 5497402)
    (hC : coS E w x N f a mn cn nb) (hT : tM E w y ad f a) (hO : lA E w o v) (hD : dA E w od v2) (hP : wP E w H) (hS : va_S (gA E) s.heap H locs) (hl : lv_has ls 9 [(0, .ref b), (1, .ref x), (2, .ref y), (3, .ref o), (4, .ref od), (5, .int (nI i9))])
    (kk : ∀ (w1 : wd) (H1 : Heap) (locs1 : List Loc) (ls1 : Array Slot) (f1 : Nat → Int32) (a1 : Nat → Nat → Int32) (mn1 cn1 nb1 : Nat) (v1 : Int64) (v21 : UInt64), coS E w1 x (N + 64000) f1 a1 mn1 cn1 nb1 → tM E w1 y ad f1 a1 → lA E w1 o v1 → dA E w1 od v21 → wP E w1 H1 → va_S (gA E) s.heap H1 locs1 → lv_has ls1 9 [(0, .ref b), (1, .ref x), (2, .ref y), (3, .ref o), (4, .ref od), (5, .int (nI i9))] → W p l0 e room_1 s m args below meth c H1 locs1 (c0 + 7000) (s0 + 23000) Q (F0 m 1904 ls1 [])) :
    W p l0 e room_1 s m args below meth c H locs c0 s0 Q (F0 m 864 ls []) := by
  obtain ⟨⟨n9, n6, n7, n11⟩, ⟨n60, c8⟩, ⟨m25, m6⟩, gI0⟩ := hC.nums
  refine lv_aload_n hx hb dL_law_864 rfl (lv_at hl 1 rfl) ?_
  refine lv_aload_n hx hb dL_law_865 rfl (lv_at hl 0 rfl) ?_
  refine lv_iload hx hb dL_law_866 (lv_at hl 5 rfl) ?_
  refine lv_iconst (v := 1) hx hb dL_law_868 (by decide) ?_
  refine k_iaddN (x := i9) (y := 1) hx hb dL_law_869 ?_
  refine va_sld hx hb hX0 hbl hbA hS (vp_in_nI (n := i9 + 1) (N := L) (by omega) (by omega)) dL_law_870 ?_
  rw [nI_clamp (show i9 + 1 < 2 ^ 31 from by omega)]
  refine lv_aload_n hx hb dL_law_871 rfl (lv_at hl 3 rfl) ?_
  refine kx_cSH hx hb hml hown hts (CX0_heightAgain l0 hl0 E w x o f a mn cn nb N v (xs (i9 + 1)) hC hO) (vx_cwSW 3 hts (lw_SW q882 q883 q68 q884) rfl rfl rfl dyX0_heightAgain ⟨Nat.le_of_ble_eq_true rfl, Nat.le_of_ble_eq_true rfl⟩) hG hP hS (As := [.ref x, .int (xs (i9 + 1)), .ref o]) (rest := []) rfl hl.1 rfl (lv_room (Nat.le_of_ble_eq_true rfl)) dL_law_872 ⟨show c0 + 40 ≤ 1200144 from by omega, show s0 + 220 ≤ 5497402 from by omega⟩ (fun r872 w1 H locs hp hP hS => ?_)
  obtain ⟨v9_1, hp0, ⟨hO', hC', -⟩, hf9⟩ := hp
  have hT : tM E w1 y ad f a := hT.fr hf9 (fun t9 h9 => by simp only [pW, pWd, pO, pN, pXs] at h9; first | omega | (subst h9; decide))
  have hD : dA E w1 od v2 := hD.fr hf9 (by intro z9; simp [pO, pN, pW, pWd, tP, pXs] at z9)
  have hO : lA E w1 o v9_1 := hO'
  have hC : coS E w1 x N f a mn cn nb := hC'
  show W p l0 e room_1 s m args below meth c H locs (c0 + 40) (s0 + 220) Q (F0 m 875 ls [.int r872])
  obtain ⟨hk0, hk1⟩ := hp0
  refine lv_istore (lv' := [(6, .int r872), (0, .ref b), (1, .ref x), (2, .ref y), (3, .ref o), (4, .ref od), (5, .int (nI i9))]) hx hb dL_law_875 hl (by decide) rfl (fun ls hl => ?_)
  refine lv_aload_n hx hb dL_law_877 rfl (lv_at hl 3 rfl) ?_
  refine lv_aload_n hx hb dL_law_878 rfl (lv_at hl 1 rfl) ?_
  refine lv_iload hx hb dL_law_879 (lv_at hl 6 rfl) ?_
  refine lv_iconst (v := 1) hx hb dL_law_881 (by decide) ?_
  refine k_iaddN (x := i9) (y := 1) hx hb dL_law_882 ?_
  refine va_sld hx hb hX0 hbl hbA hS (vp_in_nI (n := i9 + 1) (N := L) (by omega) (by omega)) dL_law_883 ?_
  rw [nI_clamp (show i9 + 1 < 2 ^ 31 from by omega)]
  refine k_cV hx hb hml hown hts (CX6_heightAgain l0 E w1 y ad f a (xs (i9 + 1)) mn hT m6 m25 (fun k hk _ => (gI0.2.2.2 k hk).2.2.2.2.2.1.1)) (cwV 1 hts (lw_V q1801 q1802 q1803 q81 q1804) rfl rfl rfl dyX6_heightAgain ⟨Nat.le_of_ble_eq_true rfl, Nat.le_of_ble_eq_true rfl⟩) hG hP hS hT.1 rfl (As := [.int (xs (i9 + 1))]) (rest := []) rfl hl.1 rfl (lv_room (Nat.le_of_ble_eq_true rfl)) dL_law_884 ⟨show (c0 + 40) + 0 ≤ 1200144 from by omega, show (s0 + 220) + 0 ≤ 5497402 from by omega⟩ (fun r884 w2 H locs hp hP hS => ?_)
  obtain ⟨f1, a1, hz, hT', hf9⟩ := hp
  have hC : coS E w2 x N f a mn cn nb := hC.fr hf9 (fun t9 h9 => by simp only [tP, pO, pXs] at h9; omega)
  have hO : lA E w2 o v9_1 := hO.fr hf9 (by intro z9; simp [pO, pN, pW, pWd, tP, pXs] at z9)
  have hD : dA E w2 od v2 := hD.fr hf9 (by intro z9; simp [pO, pN, pW, pWd, tP, pXs] at z9)
  have hT : tM E w2 y ad f1 a1 := hT'
  obtain ⟨hr7, hf7, ha7⟩ := hz
  have hth : f1 13 = _ := (congrFun hf7 13).trans (up_s _ _ _)
  have hco := (hC.mono (show _ ≤ N + 64000 from by omega)).co (f1 := f1) (a1 := a1) (by rw [ha7]) (by rw [ha7]) (by rw [ha7]) (by rw [ha7]) (fun j hj => by rw [hf7]; exact up_n (by omega))
  have hans := hr7
  show W p l0 e room_1 s m args below meth c H locs (c0 + 40) (s0 + 220) Q (F0 m 887 ls [.int r884])
  refine lv_istore (lv' := [(7, .int r884), (6, .int r872), (0, .ref b), (1, .ref x), (2, .ref y), (3, .ref o), (4, .ref od), (5, .int (nI i9))]) hx hb dL_law_887 hl (by decide) rfl (fun ls hl => ?_)
  refine lv_aload_n hx hb dL_law_889 rfl (lv_at hl 4 rfl) ?_
  refine k_cV hx hb hml hown hts (CX6_thrown l0 E w2 y ad f1 a1 hT) (cwV 0 hts (lw_V q1681 q1682 q1683 q81 q1684) rfl rfl rfl dyX6_thrown ⟨Nat.le_of_ble_eq_true rfl, Nat.le_of_ble_eq_true rfl⟩) hG hP hS hT.1 rfl (As := []) (rest := []) rfl hl.1 rfl (lv_room (Nat.le_of_ble_eq_true rfl)) dL_law_890 ⟨show (c0 + 40) + 0 ≤ 1200144 from by omega, show (s0 + 220) + 0 ≤ 5497402 from by omega⟩ (fun r890 w3 H locs hp hP hS => ?_)
  obtain ⟨hp1, hp0⟩ := hp
  rw [hp1] at hP
  rw [hp0, hth, ← hk0]
  show W p l0 e room_1 s m args below meth c H locs (c0 + 40) (s0 + 220) Q (F0 m 893 ls [.int r872])
  refine lv_iload hx hb dL_law_893 (lv_at hl 1 rfl) ?_
  refine lv_icmp_eq (tgt := 900) hx hb dL_law_895 (by decide) (fun c895 => ?_) (fun c895 => ?_)
  · skip
    refine lv_iload hx hb dL_law_900 (lv_at hl 1 rfl) ?_
    refine lv_if_ne (tgt := 917) hx hb dL_law_902 (by decide) (fun c902 => ?_) (fun c902 => ?_)
    · skip
      refine lv_goto (tgt := 1904) hx hb dL_law_917 (by decide) ?_
      refine W.widen (show (c0 + 40) ≤ c0 + 7000 from by omega) (show (s0 + 220) ≤ s0 + 23000 from by omega) ?_
      exact kk _ H locs ls _ _ _ _ _ _ _ hco hT hO hD hP hS (lv_drop hl (by simp))
    · skip
      have hv9 := hk1 (hk0.symm.trans c902)
      have hans9 := hans
      rw [hv9, ← hans9] at hO
      have hO : lA E w2 o (r884).toInt64 := hO
      refine lv_aload_n hx hb dL_law_905 rfl (lv_at hl 5 rfl) ?_
      refine lv_iconst (v := 0) hx hb dL_law_906 (by decide) ?_
      refine k_lald hx hb hG hP hO dL_law_907 ?_
      refine lv_iload hx hb dL_law_908 (lv_at hl 0 rfl) ?_
      refine lv_i2l hx hb dL_law_910 rfl ?_
      refine lv_lcmpE hx hb dL_law_911 ?_
      refine lv_if_eq (tgt := 917) hx hb dL_law_912 (by decide) (fun c912 => ?_) (fun c912 => ?_)
      · skip
        refine lv_goto (tgt := 1904) hx hb dL_law_917 (by decide) ?_
        refine W.widen (show (c0 + 40) ≤ c0 + 7000 from by omega) (show (s0 + 220) ≤ s0 + 23000 from by omega) ?_
        exact kk _ H locs ls _ _ _ _ _ _ _ hco hT hO hD hP hS (lv_drop hl (by simp))
      · skip
        exact absurd c912 (by decide)
  · skip
    exact absurd rfl c895

set_option maxHeartbeats 4000000 in
theorem law_placeAt {p : Program} {e : Env} {s : State} {m : MethodId} {args : Array Value} {below : List Frame} {meth : Method} {c : Code} {E : gE} {b L : Nat} {xs : Nat → Int32} {Q : State → Prop} (l0 : Launch) (hl0 : l0.stackTraces = false) (hx : p.tables.exec = Jvm.exec) (hb : c.code = cL_law) (hml : c.maxLocals = 9) (hown : s.vm.findClass "KiteRoofsLaw" = some m.cls) (hts : ∀ w ∈ lw_all, w.before args s = true) (hG : gK E s) (hX0 : va_X b L xs s s.heap) (hbl : b < s.heap.size) (hbA : ¬ gA E b)
    {w : wd} {H : Heap} {locs : List Loc} {ls : Array Slot} {x y o od N mn cn nb i9 c0 s0 : Nat} {f : Nat → Int32} {a : Nat → Nat → Int32} {ad : Nat → Nat} {v : Int64} {v2 : UInt64} (hL : L ≤ 120) (hi : i9 + 5 ≤ L) (hN9 : N + 71 * 31 * 32 < 2 ^ 31) (hc0 : c0 + 7000 ≤ 1200144) (hs0 : s0 + 23000 ≤ 5497402)
    (hC : coS E w x N f a mn cn nb) (hT : tM E w y ad f a) (hO : lA E w o v) (hD : dA E w od v2) (hP : wP E w H) (hS : va_S (gA E) s.heap H locs) (hl : lv_has ls 9 [(0, .ref b), (1, .ref x), (2, .ref y), (3, .ref o), (4, .ref od), (5, .int (nI i9))])
    (kk : ∀ (w1 : wd) (H1 : Heap) (locs1 : List Loc) (ls1 : Array Slot) (f1 : Nat → Int32) (a1 : Nat → Nat → Int32) (mn1 cn1 nb1 : Nat) (v1 : Int64) (v21 : UInt64), coS E w1 x (N + 64000) f1 a1 mn1 cn1 nb1 → tM E w1 y ad f1 a1 → lA E w1 o v1 → dA E w1 od v21 → wP E w1 H1 → va_S (gA E) s.heap H1 locs1 → lv_has ls1 9 [(0, .ref b), (1, .ref x), (2, .ref y), (3, .ref o), (4, .ref od), (5, .int (nI i9))] → W p l0 e room_1 s m args below meth c H1 locs1 (c0 + 7000) (s0 + 23000) Q (F0 m 1904 ls1 [])) :
    W p l0 e room_1 s m args below meth c H locs c0 s0 Q (F0 m 920 ls []) := by
  obtain ⟨⟨n9, n6, n7, n11⟩, ⟨n60, c8⟩, ⟨m25, m6⟩, gI0⟩ := hC.nums
  refine lv_aload_n hx hb dL_law_920 rfl (lv_at hl 1 rfl) ?_
  refine lv_aload_n hx hb dL_law_921 rfl (lv_at hl 0 rfl) ?_
  refine lv_iload hx hb dL_law_922 (lv_at hl 5 rfl) ?_
  refine lv_iconst (v := 1) hx hb dL_law_924 (by decide) ?_
  refine k_iaddN (x := i9) (y := 1) hx hb dL_law_925 ?_
  refine va_sld hx hb hX0 hbl hbA hS (vp_in_nI (n := i9 + 1) (N := L) (by omega) (by omega)) dL_law_926 ?_
  rw [nI_clamp (show i9 + 1 < 2 ^ 31 from by omega)]
  refine lv_aload_n hx hb dL_law_927 rfl (lv_at hl 0 rfl) ?_
  refine lv_iload hx hb dL_law_928 (lv_at hl 5 rfl) ?_
  refine lv_iconst (v := 2) hx hb dL_law_930 (by decide) ?_
  refine k_iaddN (x := i9) (y := 2) hx hb dL_law_931 ?_
  refine va_sld hx hb hX0 hbl hbA hS (vp_in_nI (n := i9 + 2) (N := L) (by omega) (by omega)) dL_law_932 ?_
  rw [nI_clamp (show i9 + 2 < 2 ^ 31 from by omega)]
  refine lv_aload_n hx hb dL_law_933 rfl (lv_at hl 3 rfl) ?_
  refine kx_cSH hx hb hml hown hts (CX0_placeAt l0 hl0 E w x o f a mn cn nb N v (xs (i9 + 1)) (xs (i9 + 2)) hC hO) (vx_cwSW 4 hts (lw_SW q893 q894 q68 q895) rfl rfl rfl dyX0_placeAt ⟨Nat.le_of_ble_eq_true rfl, Nat.le_of_ble_eq_true rfl⟩) hG hP hS (As := [.ref x, .int (xs (i9 + 1)), .int (xs (i9 + 2)), .ref o]) (rest := []) rfl hl.1 rfl (lv_room (Nat.le_of_ble_eq_true rfl)) dL_law_934 ⟨show c0 + 40 ≤ 1200144 from by omega, show s0 + 220 ≤ 5497402 from by omega⟩ (fun r934 w1 H locs hp hP hS => ?_)
  obtain ⟨v9_1, hp0, ⟨hO', hC', -⟩, hf9⟩ := hp
  have hT : tM E w1 y ad f a := hT.fr hf9 (fun t9 h9 => by simp only [pW, pWd, pO, pN, pXs] at h9; first | omega | (subst h9; decide))
  have hD : dA E w1 od v2 := hD.fr hf9 (by intro z9; simp [pO, pN, pW, pWd, tP, pXs] at z9)
  have hO : lA E w1 o v9_1 := hO'
  have hC : coS E w1 x N f a mn cn nb := hC'
  show W p l0 e room_1 s m args below meth c H locs (c0 + 40) (s0 + 220) Q (F0 m 937 ls [.int r934])
  obtain ⟨hk0, hk1⟩ := hp0
  refine lv_istore (lv' := [(6, .int r934), (0, .ref b), (1, .ref x), (2, .ref y), (3, .ref o), (4, .ref od), (5, .int (nI i9))]) hx hb dL_law_937 hl (by decide) rfl (fun ls hl => ?_)
  refine lv_aload_n hx hb dL_law_939 rfl (lv_at hl 3 rfl) ?_
  refine lv_aload_n hx hb dL_law_940 rfl (lv_at hl 1 rfl) ?_
  refine lv_iload hx hb dL_law_941 (lv_at hl 6 rfl) ?_
  refine lv_iconst (v := 1) hx hb dL_law_943 (by decide) ?_
  refine k_iaddN (x := i9) (y := 1) hx hb dL_law_944 ?_
  refine va_sld hx hb hX0 hbl hbA hS (vp_in_nI (n := i9 + 1) (N := L) (by omega) (by omega)) dL_law_945 ?_
  rw [nI_clamp (show i9 + 1 < 2 ^ 31 from by omega)]
  refine lv_aload_n hx hb dL_law_946 rfl (lv_at hl 1 rfl) ?_
  refine lv_iload hx hb dL_law_947 (lv_at hl 6 rfl) ?_
  refine lv_iconst (v := 2) hx hb dL_law_949 (by decide) ?_
  refine k_iaddN (x := i9) (y := 2) hx hb dL_law_950 ?_
  refine va_sld hx hb hX0 hbl hbA hS (vp_in_nI (n := i9 + 2) (N := L) (by omega) (by omega)) dL_law_951 ?_
  rw [nI_clamp (show i9 + 2 < 2 ^ 31 from by omega)]
  refine k_cV hx hb hml hown hts (CX6_placeAt l0 E w1 y ad f a (xs (i9 + 1)) (xs (i9 + 2)) mn hT m6 m25) (cwV 2 hts (lw_V q1805 q1806 q1807 q81 q1808) rfl rfl rfl dyX6_placeAt ⟨Nat.le_of_ble_eq_true rfl, Nat.le_of_ble_eq_true rfl⟩) hG hP hS hT.1 rfl (As := [.int (xs (i9 + 1)), .int (xs (i9 + 2))]) (rest := []) rfl hl.1 rfl (lv_room (Nat.le_of_ble_eq_true rfl)) dL_law_952 ⟨show (c0 + 40) + 0 ≤ 1200144 from by omega, show (s0 + 220) + 0 ≤ 5497402 from by omega⟩ (fun r952 w2 H locs hp hP hS => ?_)
  obtain ⟨f1, a1, hz, hT', hf9⟩ := hp
  have hC : coS E w2 x N f a mn cn nb := hC.fr hf9 (fun t9 h9 => by simp only [tP, pO, pXs] at h9; omega)
  have hO : lA E w2 o v9_1 := hO.fr hf9 (by intro z9; simp [pO, pN, pW, pWd, tP, pXs] at z9)
  have hD : dA E w2 od v2 := hD.fr hf9 (by intro z9; simp [pO, pN, pW, pWd, tP, pXs] at z9)
  have hT : tM E w2 y ad f1 a1 := hT'
  obtain ⟨hr7, hf7, ha7⟩ := hz
  have hth : f1 13 = _ := (congrFun hf7 13).trans (up_s _ _ _)
  have hco := (hC.mono (show _ ≤ N + 64000 from by omega)).co (f1 := f1) (a1 := a1) (by rw [ha7]) (by rw [ha7]) (by rw [ha7]) (by rw [ha7]) (fun j hj => by rw [hf7]; exact up_n (by omega))
  have hans := hr7
  show W p l0 e room_1 s m args below meth c H locs (c0 + 40) (s0 + 220) Q (F0 m 955 ls [.int r952])
  refine lv_istore (lv' := [(7, .int r952), (6, .int r934), (0, .ref b), (1, .ref x), (2, .ref y), (3, .ref o), (4, .ref od), (5, .int (nI i9))]) hx hb dL_law_955 hl (by decide) rfl (fun ls hl => ?_)
  refine lv_aload_n hx hb dL_law_957 rfl (lv_at hl 4 rfl) ?_
  refine k_cV hx hb hml hown hts (CX6_thrown l0 E w2 y ad f1 a1 hT) (cwV 0 hts (lw_V q1681 q1682 q1683 q81 q1684) rfl rfl rfl dyX6_thrown ⟨Nat.le_of_ble_eq_true rfl, Nat.le_of_ble_eq_true rfl⟩) hG hP hS hT.1 rfl (As := []) (rest := []) rfl hl.1 rfl (lv_room (Nat.le_of_ble_eq_true rfl)) dL_law_958 ⟨show (c0 + 40) + 0 ≤ 1200144 from by omega, show (s0 + 220) + 0 ≤ 5497402 from by omega⟩ (fun r958 w3 H locs hp hP hS => ?_)
  obtain ⟨hp1, hp0⟩ := hp
  rw [hp1] at hP
  rw [hp0, hth, ← hk0]
  show W p l0 e room_1 s m args below meth c H locs (c0 + 40) (s0 + 220) Q (F0 m 961 ls [.int r934])
  refine lv_iload hx hb dL_law_961 (lv_at hl 1 rfl) ?_
  refine lv_icmp_eq (tgt := 968) hx hb dL_law_963 (by decide) (fun c963 => ?_) (fun c963 => ?_)
  · skip
    refine lv_iload hx hb dL_law_968 (lv_at hl 1 rfl) ?_
    refine lv_if_ne (tgt := 985) hx hb dL_law_970 (by decide) (fun c970 => ?_) (fun c970 => ?_)
    · skip
      refine lv_goto (tgt := 1904) hx hb dL_law_985 (by decide) ?_
      refine W.widen (show (c0 + 40) ≤ c0 + 7000 from by omega) (show (s0 + 220) ≤ s0 + 23000 from by omega) ?_
      exact kk _ H locs ls _ _ _ _ _ _ _ hco hT hO hD hP hS (lv_drop hl (by simp))
    · skip
      have hv9 := hk1 (hk0.symm.trans c970)
      have hans9 := hans
      rw [hv9, ← hans9] at hO
      have hO : lA E w2 o (r952).toInt64 := hO
      refine lv_aload_n hx hb dL_law_973 rfl (lv_at hl 5 rfl) ?_
      refine lv_iconst (v := 0) hx hb dL_law_974 (by decide) ?_
      refine k_lald hx hb hG hP hO dL_law_975 ?_
      refine lv_iload hx hb dL_law_976 (lv_at hl 0 rfl) ?_
      refine lv_i2l hx hb dL_law_978 rfl ?_
      refine lv_lcmpE hx hb dL_law_979 ?_
      refine lv_if_eq (tgt := 985) hx hb dL_law_980 (by decide) (fun c980 => ?_) (fun c980 => ?_)
      · skip
        refine lv_goto (tgt := 1904) hx hb dL_law_985 (by decide) ?_
        refine W.widen (show (c0 + 40) ≤ c0 + 7000 from by omega) (show (s0 + 220) ≤ s0 + 23000 from by omega) ?_
        exact kk _ H locs ls _ _ _ _ _ _ _ hco hT hO hD hP hS (lv_drop hl (by simp))
      · skip
        exact absurd c980 (by decide)
  · skip
    exact absurd rfl c963

set_option maxHeartbeats 4000000 in
theorem law_crossing {p : Program} {e : Env} {s : State} {m : MethodId} {args : Array Value} {below : List Frame} {meth : Method} {c : Code} {E : gE} {b L : Nat} {xs : Nat → Int32} {Q : State → Prop} (l0 : Launch) (hl0 : l0.stackTraces = false) (hx : p.tables.exec = Jvm.exec) (hb : c.code = cL_law) (hml : c.maxLocals = 9) (hown : s.vm.findClass "KiteRoofsLaw" = some m.cls) (hts : ∀ w ∈ lw_all, w.before args s = true) (hG : gK E s) (hX0 : va_X b L xs s s.heap) (hbl : b < s.heap.size) (hbA : ¬ gA E b)
    {w : wd} {H : Heap} {locs : List Loc} {ls : Array Slot} {x y o od N mn cn nb i9 c0 s0 : Nat} {f : Nat → Int32} {a : Nat → Nat → Int32} {ad : Nat → Nat} {v : Int64} {v2 : UInt64} (hL : L ≤ 120) (hi : i9 + 5 ≤ L) (hN9 : N + 71 * 31 * 32 < 2 ^ 31) (hc0 : c0 + 7000 ≤ 1200144) (hs0 : s0 + 23000 ≤ 5497402)
    (hC : coS E w x N f a mn cn nb) (hT : tM E w y ad f a) (hO : lA E w o v) (hD : dA E w od v2) (hP : wP E w H) (hS : va_S (gA E) s.heap H locs) (hl : lv_has ls 9 [(0, .ref b), (1, .ref x), (2, .ref y), (3, .ref o), (4, .ref od), (5, .int (nI i9))])
    (kk : ∀ (w1 : wd) (H1 : Heap) (locs1 : List Loc) (ls1 : Array Slot) (f1 : Nat → Int32) (a1 : Nat → Nat → Int32) (mn1 cn1 nb1 : Nat) (v1 : Int64) (v21 : UInt64), coS E w1 x (N + 64000) f1 a1 mn1 cn1 nb1 → tM E w1 y ad f1 a1 → lA E w1 o v1 → dA E w1 od v21 → wP E w1 H1 → va_S (gA E) s.heap H1 locs1 → lv_has ls1 9 [(0, .ref b), (1, .ref x), (2, .ref y), (3, .ref o), (4, .ref od), (5, .int (nI i9))] → W p l0 e room_1 s m args below meth c H1 locs1 (c0 + 7000) (s0 + 23000) Q (F0 m 1904 ls1 [])) :
    W p l0 e room_1 s m args below meth c H locs c0 s0 Q (F0 m 988 ls []) := by
  obtain ⟨⟨n9, n6, n7, n11⟩, ⟨n60, c8⟩, ⟨m25, m6⟩, gI0⟩ := hC.nums
  refine lv_aload_n hx hb dL_law_988 rfl (lv_at hl 1 rfl) ?_
  refine lv_aload_n hx hb dL_law_989 rfl (lv_at hl 0 rfl) ?_
  refine lv_iload hx hb dL_law_990 (lv_at hl 5 rfl) ?_
  refine lv_iconst (v := 1) hx hb dL_law_992 (by decide) ?_
  refine k_iaddN (x := i9) (y := 1) hx hb dL_law_993 ?_
  refine va_sld hx hb hX0 hbl hbA hS (vp_in_nI (n := i9 + 1) (N := L) (by omega) (by omega)) dL_law_994 ?_
  rw [nI_clamp (show i9 + 1 < 2 ^ 31 from by omega)]
  refine lv_aload_n hx hb dL_law_995 rfl (lv_at hl 0 rfl) ?_
  refine lv_iload hx hb dL_law_996 (lv_at hl 5 rfl) ?_
  refine lv_iconst (v := 2) hx hb dL_law_998 (by decide) ?_
  refine k_iaddN (x := i9) (y := 2) hx hb dL_law_999 ?_
  refine va_sld hx hb hX0 hbl hbA hS (vp_in_nI (n := i9 + 2) (N := L) (by omega) (by omega)) dL_law_1000 ?_
  rw [nI_clamp (show i9 + 2 < 2 ^ 31 from by omega)]
  refine lv_aload_n hx hb dL_law_1001 rfl (lv_at hl 3 rfl) ?_
  refine kx_cSH hx hb hml hown hts (CX0_crossing l0 hl0 E w x o f a mn cn nb N v (xs (i9 + 1)) (xs (i9 + 2)) hC hO) (vx_cwSW 4 hts (lw_SW q920 q921 q68 q922) rfl rfl rfl dyX0_crossing ⟨Nat.le_of_ble_eq_true rfl, Nat.le_of_ble_eq_true rfl⟩) hG hP hS (As := [.ref x, .int (xs (i9 + 1)), .int (xs (i9 + 2)), .ref o]) (rest := []) rfl hl.1 rfl (lv_room (Nat.le_of_ble_eq_true rfl)) dL_law_1002 ⟨show c0 + 40 ≤ 1200144 from by omega, show s0 + 220 ≤ 5497402 from by omega⟩ (fun r1002 w1 H locs hp hP hS => ?_)
  obtain ⟨v9_1, hp0, ⟨hO', hC', -⟩, hf9⟩ := hp
  have hT : tM E w1 y ad f a := hT.fr hf9 (fun t9 h9 => by simp only [pW, pWd, pO, pN, pXs] at h9; first | omega | (subst h9; decide))
  have hD : dA E w1 od v2 := hD.fr hf9 (by intro z9; simp [pO, pN, pW, pWd, tP, pXs] at z9)
  have hO : lA E w1 o v9_1 := hO'
  have hC : coS E w1 x N f a mn cn nb := hC'
  show W p l0 e room_1 s m args below meth c H locs (c0 + 40) (s0 + 220) Q (F0 m 1005 ls [.int r1002])
  obtain ⟨hk0, hk1⟩ := hp0
  refine lv_istore (lv' := [(6, .int r1002), (0, .ref b), (1, .ref x), (2, .ref y), (3, .ref o), (4, .ref od), (5, .int (nI i9))]) hx hb dL_law_1005 hl (by decide) rfl (fun ls hl => ?_)
  refine lv_aload_n hx hb dL_law_1007 rfl (lv_at hl 3 rfl) ?_
  refine lv_aload_n hx hb dL_law_1008 rfl (lv_at hl 1 rfl) ?_
  refine lv_iload hx hb dL_law_1009 (lv_at hl 6 rfl) ?_
  refine lv_iconst (v := 1) hx hb dL_law_1011 (by decide) ?_
  refine k_iaddN (x := i9) (y := 1) hx hb dL_law_1012 ?_
  refine va_sld hx hb hX0 hbl hbA hS (vp_in_nI (n := i9 + 1) (N := L) (by omega) (by omega)) dL_law_1013 ?_
  rw [nI_clamp (show i9 + 1 < 2 ^ 31 from by omega)]
  refine lv_aload_n hx hb dL_law_1014 rfl (lv_at hl 1 rfl) ?_
  refine lv_iload hx hb dL_law_1015 (lv_at hl 6 rfl) ?_
  refine lv_iconst (v := 2) hx hb dL_law_1017 (by decide) ?_
  refine k_iaddN (x := i9) (y := 2) hx hb dL_law_1018 ?_
  refine va_sld hx hb hX0 hbl hbA hS (vp_in_nI (n := i9 + 2) (N := L) (by omega) (by omega)) dL_law_1019 ?_
  rw [nI_clamp (show i9 + 2 < 2 ^ 31 from by omega)]
  refine k_cV hx hb hml hown hts (CX6_crossing l0 E w1 y ad f a (xs (i9 + 1)) (xs (i9 + 2)) mn hT m6 m25) (cwV 2 hts (lw_V q1809 q1810 q1811 q81 q1812) rfl rfl rfl dyX6_crossing ⟨Nat.le_of_ble_eq_true rfl, Nat.le_of_ble_eq_true rfl⟩) hG hP hS hT.1 rfl (As := [.int (xs (i9 + 1)), .int (xs (i9 + 2))]) (rest := []) rfl hl.1 rfl (lv_room (Nat.le_of_ble_eq_true rfl)) dL_law_1020 ⟨show (c0 + 40) + 0 ≤ 1200144 from by omega, show (s0 + 220) + 0 ≤ 5497402 from by omega⟩ (fun r1020 w2 H locs hp hP hS => ?_)
  obtain ⟨f1, a1, hz, hT', hf9⟩ := hp
  have hC : coS E w2 x N f a mn cn nb := hC.fr hf9 (fun t9 h9 => by simp only [tP, pO, pXs] at h9; omega)
  have hO : lA E w2 o v9_1 := hO.fr hf9 (by intro z9; simp [pO, pN, pW, pWd, tP, pXs] at z9)
  have hD : dA E w2 od v2 := hD.fr hf9 (by intro z9; simp [pO, pN, pW, pWd, tP, pXs] at z9)
  have hT : tM E w2 y ad f1 a1 := hT'
  obtain ⟨hr7, hf7, ha7⟩ := hz
  have hth : f1 13 = _ := (congrFun hf7 13).trans (up_s _ _ _)
  have hco := (hC.mono (show _ ≤ N + 64000 from by omega)).co (f1 := f1) (a1 := a1) (by rw [ha7]) (by rw [ha7]) (by rw [ha7]) (by rw [ha7]) (fun j hj => by rw [hf7]; exact up_n (by omega))
  have hans := hr7
  show W p l0 e room_1 s m args below meth c H locs (c0 + 40) (s0 + 220) Q (F0 m 1023 ls [.int r1020])
  refine lv_istore (lv' := [(7, .int r1020), (6, .int r1002), (0, .ref b), (1, .ref x), (2, .ref y), (3, .ref o), (4, .ref od), (5, .int (nI i9))]) hx hb dL_law_1023 hl (by decide) rfl (fun ls hl => ?_)
  refine lv_aload_n hx hb dL_law_1025 rfl (lv_at hl 4 rfl) ?_
  refine k_cV hx hb hml hown hts (CX6_thrown l0 E w2 y ad f1 a1 hT) (cwV 0 hts (lw_V q1681 q1682 q1683 q81 q1684) rfl rfl rfl dyX6_thrown ⟨Nat.le_of_ble_eq_true rfl, Nat.le_of_ble_eq_true rfl⟩) hG hP hS hT.1 rfl (As := []) (rest := []) rfl hl.1 rfl (lv_room (Nat.le_of_ble_eq_true rfl)) dL_law_1026 ⟨show (c0 + 40) + 0 ≤ 1200144 from by omega, show (s0 + 220) + 0 ≤ 5497402 from by omega⟩ (fun r1026 w3 H locs hp hP hS => ?_)
  obtain ⟨hp1, hp0⟩ := hp
  rw [hp1] at hP
  rw [hp0, hth, ← hk0]
  show W p l0 e room_1 s m args below meth c H locs (c0 + 40) (s0 + 220) Q (F0 m 1029 ls [.int r1002])
  refine lv_iload hx hb dL_law_1029 (lv_at hl 1 rfl) ?_
  refine lv_icmp_eq (tgt := 1036) hx hb dL_law_1031 (by decide) (fun c1031 => ?_) (fun c1031 => ?_)
  · skip
    refine lv_iload hx hb dL_law_1036 (lv_at hl 1 rfl) ?_
    refine lv_if_ne (tgt := 1053) hx hb dL_law_1038 (by decide) (fun c1038 => ?_) (fun c1038 => ?_)
    · skip
      refine lv_goto (tgt := 1904) hx hb dL_law_1053 (by decide) ?_
      refine W.widen (show (c0 + 40) ≤ c0 + 7000 from by omega) (show (s0 + 220) ≤ s0 + 23000 from by omega) ?_
      exact kk _ H locs ls _ _ _ _ _ _ _ hco hT hO hD hP hS (lv_drop hl (by simp))
    · skip
      have hv9 := hk1 (hk0.symm.trans c1038)
      have hans9 := hans
      rw [hv9, ← hans9] at hO
      have hO : lA E w2 o (r1020).toInt64 := hO
      refine lv_aload_n hx hb dL_law_1041 rfl (lv_at hl 5 rfl) ?_
      refine lv_iconst (v := 0) hx hb dL_law_1042 (by decide) ?_
      refine k_lald hx hb hG hP hO dL_law_1043 ?_
      refine lv_iload hx hb dL_law_1044 (lv_at hl 0 rfl) ?_
      refine lv_i2l hx hb dL_law_1046 rfl ?_
      refine lv_lcmpE hx hb dL_law_1047 ?_
      refine lv_if_eq (tgt := 1053) hx hb dL_law_1048 (by decide) (fun c1048 => ?_) (fun c1048 => ?_)
      · skip
        refine lv_goto (tgt := 1904) hx hb dL_law_1053 (by decide) ?_
        refine W.widen (show (c0 + 40) ≤ c0 + 7000 from by omega) (show (s0 + 220) ≤ s0 + 23000 from by omega) ?_
        exact kk _ H locs ls _ _ _ _ _ _ _ hco hT hO hD hP hS (lv_drop hl (by simp))
      · skip
        exact absurd c1048 (by decide)
  · skip
    exact absurd rfl c1031

set_option maxHeartbeats 4000000 in
theorem law_wears {p : Program} {e : Env} {s : State} {m : MethodId} {args : Array Value} {below : List Frame} {meth : Method} {c : Code} {E : gE} {b L : Nat} {xs : Nat → Int32} {Q : State → Prop} (l0 : Launch) (hl0 : l0.stackTraces = false) (hx : p.tables.exec = Jvm.exec) (hb : c.code = cL_law) (hml : c.maxLocals = 9) (hown : s.vm.findClass "KiteRoofsLaw" = some m.cls) (hts : ∀ w ∈ lw_all, w.before args s = true) (hG : gK E s) (hX0 : va_X b L xs s s.heap) (hbl : b < s.heap.size) (hbA : ¬ gA E b)
    {w : wd} {H : Heap} {locs : List Loc} {ls : Array Slot} {x y o od N mn cn nb i9 c0 s0 : Nat} {f : Nat → Int32} {a : Nat → Nat → Int32} {ad : Nat → Nat} {v : Int64} {v2 : UInt64} (hL : L ≤ 120) (hi : i9 + 5 ≤ L) (hN9 : N + 71 * 31 * 32 < 2 ^ 31) (hc0 : c0 + 7000 ≤ 1200144) (hs0 : s0 + 23000 ≤ 5497402)
    (hC : coS E w x N f a mn cn nb) (hT : tM E w y ad f a) (hO : lA E w o v) (hD : dA E w od v2) (hP : wP E w H) (hS : va_S (gA E) s.heap H locs) (hl : lv_has ls 9 [(0, .ref b), (1, .ref x), (2, .ref y), (3, .ref o), (4, .ref od), (5, .int (nI i9))])
    (kk : ∀ (w1 : wd) (H1 : Heap) (locs1 : List Loc) (ls1 : Array Slot) (f1 : Nat → Int32) (a1 : Nat → Nat → Int32) (mn1 cn1 nb1 : Nat) (v1 : Int64) (v21 : UInt64), coS E w1 x (N + 64000) f1 a1 mn1 cn1 nb1 → tM E w1 y ad f1 a1 → lA E w1 o v1 → dA E w1 od v21 → wP E w1 H1 → va_S (gA E) s.heap H1 locs1 → lv_has ls1 9 [(0, .ref b), (1, .ref x), (2, .ref y), (3, .ref o), (4, .ref od), (5, .int (nI i9))] → W p l0 e room_1 s m args below meth c H1 locs1 (c0 + 7000) (s0 + 23000) Q (F0 m 1904 ls1 [])) :
    W p l0 e room_1 s m args below meth c H locs c0 s0 Q (F0 m 1056 ls []) := by
  obtain ⟨⟨n9, n6, n7, n11⟩, ⟨n60, c8⟩, ⟨m25, m6⟩, gI0⟩ := hC.nums
  refine lv_aload_n hx hb dL_law_1056 rfl (lv_at hl 1 rfl) ?_
  refine lv_aload_n hx hb dL_law_1057 rfl (lv_at hl 0 rfl) ?_
  refine lv_iload hx hb dL_law_1058 (lv_at hl 5 rfl) ?_
  refine lv_iconst (v := 1) hx hb dL_law_1060 (by decide) ?_
  refine k_iaddN (x := i9) (y := 1) hx hb dL_law_1061 ?_
  refine va_sld hx hb hX0 hbl hbA hS (vp_in_nI (n := i9 + 1) (N := L) (by omega) (by omega)) dL_law_1062 ?_
  rw [nI_clamp (show i9 + 1 < 2 ^ 31 from by omega)]
  refine lv_aload_n hx hb dL_law_1063 rfl (lv_at hl 3 rfl) ?_
  refine kx_cSH hx hb hml hown hts (CX0_wears l0 hl0 E w x o f a mn cn nb N v (xs (i9 + 1)) hC hO) (vx_cwSW 3 hts (lw_SW q936 q937 q68 q938) rfl rfl rfl dyX0_wears ⟨Nat.le_of_ble_eq_true rfl, Nat.le_of_ble_eq_true rfl⟩) hG hP hS (As := [.ref x, .int (xs (i9 + 1)), .ref o]) (rest := []) rfl hl.1 rfl (lv_room (Nat.le_of_ble_eq_true rfl)) dL_law_1064 ⟨show c0 + 40 ≤ 1200144 from by omega, show s0 + 220 ≤ 5497402 from by omega⟩ (fun r1064 w1 H locs hp hP hS => ?_)
  obtain ⟨v9_1, hp0, ⟨hO', hC', -⟩, hf9⟩ := hp
  have hT : tM E w1 y ad f a := hT.fr hf9 (fun t9 h9 => by simp only [pW, pWd, pO, pN, pXs] at h9; first | omega | (subst h9; decide))
  have hD : dA E w1 od v2 := hD.fr hf9 (by intro z9; simp [pO, pN, pW, pWd, tP, pXs] at z9)
  have hO : lA E w1 o v9_1 := hO'
  have hC : coS E w1 x N f a mn cn nb := hC'
  show W p l0 e room_1 s m args below meth c H locs (c0 + 40) (s0 + 220) Q (F0 m 1067 ls [.int r1064])
  obtain ⟨hk0, hk1⟩ := hp0
  refine lv_istore (lv' := [(6, .int r1064), (0, .ref b), (1, .ref x), (2, .ref y), (3, .ref o), (4, .ref od), (5, .int (nI i9))]) hx hb dL_law_1067 hl (by decide) rfl (fun ls hl => ?_)
  refine lv_aload_n hx hb dL_law_1069 rfl (lv_at hl 3 rfl) ?_
  refine lv_aload_n hx hb dL_law_1070 rfl (lv_at hl 1 rfl) ?_
  refine lv_iload hx hb dL_law_1071 (lv_at hl 6 rfl) ?_
  refine lv_iconst (v := 1) hx hb dL_law_1073 (by decide) ?_
  refine k_iaddN (x := i9) (y := 1) hx hb dL_law_1074 ?_
  refine va_sld hx hb hX0 hbl hbA hS (vp_in_nI (n := i9 + 1) (N := L) (by omega) (by omega)) dL_law_1075 ?_
  rw [nI_clamp (show i9 + 1 < 2 ^ 31 from by omega)]
  refine k_cV hx hb hml hown hts (CX6_wears l0 E w1 y ad f a (xs (i9 + 1)) mn hT m6 m25) (cwV 1 hts (lw_V q1820 q1821 q1822 q81 q1823) rfl rfl rfl dyX6_wears ⟨Nat.le_of_ble_eq_true rfl, Nat.le_of_ble_eq_true rfl⟩) hG hP hS hT.1 rfl (As := [.int (xs (i9 + 1))]) (rest := []) rfl hl.1 rfl (lv_room (Nat.le_of_ble_eq_true rfl)) dL_law_1076 ⟨show (c0 + 40) + 0 ≤ 1200144 from by omega, show (s0 + 220) + 0 ≤ 5497402 from by omega⟩ (fun r1076 w2 H locs hp hP hS => ?_)
  obtain ⟨f1, a1, hz, hT', hf9⟩ := hp
  have hC : coS E w2 x N f a mn cn nb := hC.fr hf9 (fun t9 h9 => by simp only [tP, pO, pXs] at h9; omega)
  have hO : lA E w2 o v9_1 := hO.fr hf9 (by intro z9; simp [pO, pN, pW, pWd, tP, pXs] at z9)
  have hD : dA E w2 od v2 := hD.fr hf9 (by intro z9; simp [pO, pN, pW, pWd, tP, pXs] at z9)
  have hT : tM E w2 y ad f1 a1 := hT'
  obtain ⟨hr7, hf7, ha7⟩ := hz
  have hth : f1 13 = _ := (congrFun hf7 13).trans (up_s _ _ _)
  have hco := (hC.mono (show _ ≤ N + 64000 from by omega)).co (f1 := f1) (a1 := a1) (by rw [ha7]) (by rw [ha7]) (by rw [ha7]) (by rw [ha7]) (fun j hj => by rw [hf7]; exact up_n (by omega))
  have hans := hr7
  show W p l0 e room_1 s m args below meth c H locs (c0 + 40) (s0 + 220) Q (F0 m 1079 ls [.int r1076])
  refine lv_istore (lv' := [(7, .int r1076), (6, .int r1064), (0, .ref b), (1, .ref x), (2, .ref y), (3, .ref o), (4, .ref od), (5, .int (nI i9))]) hx hb dL_law_1079 hl (by decide) rfl (fun ls hl => ?_)
  refine lv_aload_n hx hb dL_law_1081 rfl (lv_at hl 4 rfl) ?_
  refine k_cV hx hb hml hown hts (CX6_thrown l0 E w2 y ad f1 a1 hT) (cwV 0 hts (lw_V q1681 q1682 q1683 q81 q1684) rfl rfl rfl dyX6_thrown ⟨Nat.le_of_ble_eq_true rfl, Nat.le_of_ble_eq_true rfl⟩) hG hP hS hT.1 rfl (As := []) (rest := []) rfl hl.1 rfl (lv_room (Nat.le_of_ble_eq_true rfl)) dL_law_1082 ⟨show (c0 + 40) + 0 ≤ 1200144 from by omega, show (s0 + 220) + 0 ≤ 5497402 from by omega⟩ (fun r1082 w3 H locs hp hP hS => ?_)
  obtain ⟨hp1, hp0⟩ := hp
  rw [hp1] at hP
  rw [hp0, hth, ← hk0]
  show W p l0 e room_1 s m args below meth c H locs (c0 + 40) (s0 + 220) Q (F0 m 1085 ls [.int r1064])
  refine lv_iload hx hb dL_law_1085 (lv_at hl 1 rfl) ?_
  refine lv_icmp_eq (tgt := 1092) hx hb dL_law_1087 (by decide) (fun c1087 => ?_) (fun c1087 => ?_)
  · skip
    refine lv_iload hx hb dL_law_1092 (lv_at hl 1 rfl) ?_
    refine lv_if_ne (tgt := 1109) hx hb dL_law_1094 (by decide) (fun c1094 => ?_) (fun c1094 => ?_)
    · skip
      refine lv_goto (tgt := 1904) hx hb dL_law_1109 (by decide) ?_
      refine W.widen (show (c0 + 40) ≤ c0 + 7000 from by omega) (show (s0 + 220) ≤ s0 + 23000 from by omega) ?_
      exact kk _ H locs ls _ _ _ _ _ _ _ hco hT hO hD hP hS (lv_drop hl (by simp))
    · skip
      have hv9 := hk1 (hk0.symm.trans c1094)
      have hans9 := hans
      rw [hv9, ← hans9] at hO
      have hO : lA E w2 o (r1076).toInt64 := hO
      refine lv_aload_n hx hb dL_law_1097 rfl (lv_at hl 5 rfl) ?_
      refine lv_iconst (v := 0) hx hb dL_law_1098 (by decide) ?_
      refine k_lald hx hb hG hP hO dL_law_1099 ?_
      refine lv_iload hx hb dL_law_1100 (lv_at hl 0 rfl) ?_
      refine lv_i2l hx hb dL_law_1102 rfl ?_
      refine lv_lcmpE hx hb dL_law_1103 ?_
      refine lv_if_eq (tgt := 1109) hx hb dL_law_1104 (by decide) (fun c1104 => ?_) (fun c1104 => ?_)
      · skip
        refine lv_goto (tgt := 1904) hx hb dL_law_1109 (by decide) ?_
        refine W.widen (show (c0 + 40) ≤ c0 + 7000 from by omega) (show (s0 + 220) ≤ s0 + 23000 from by omega) ?_
        exact kk _ H locs ls _ _ _ _ _ _ _ hco hT hO hD hP hS (lv_drop hl (by simp))
      · skip
        exact absurd c1104 (by decide)
  · skip
    exact absurd rfl c1087

set_option maxHeartbeats 4000000 in
theorem law_cause {p : Program} {e : Env} {s : State} {m : MethodId} {args : Array Value} {below : List Frame} {meth : Method} {c : Code} {E : gE} {b L : Nat} {xs : Nat → Int32} {Q : State → Prop} (l0 : Launch) (hl0 : l0.stackTraces = false) (hx : p.tables.exec = Jvm.exec) (hb : c.code = cL_law) (hml : c.maxLocals = 9) (hown : s.vm.findClass "KiteRoofsLaw" = some m.cls) (hts : ∀ w ∈ lw_all, w.before args s = true) (hG : gK E s) (hX0 : va_X b L xs s s.heap) (hbl : b < s.heap.size) (hbA : ¬ gA E b)
    {w : wd} {H : Heap} {locs : List Loc} {ls : Array Slot} {x y o od N mn cn nb i9 c0 s0 : Nat} {f : Nat → Int32} {a : Nat → Nat → Int32} {ad : Nat → Nat} {v : Int64} {v2 : UInt64} (hL : L ≤ 120) (hi : i9 + 5 ≤ L) (hN9 : N + 71 * 31 * 32 < 2 ^ 31) (hc0 : c0 + 7000 ≤ 1200144) (hs0 : s0 + 23000 ≤ 5497402)
    (hC : coS E w x N f a mn cn nb) (hT : tM E w y ad f a) (hO : lA E w o v) (hD : dA E w od v2) (hP : wP E w H) (hS : va_S (gA E) s.heap H locs) (hl : lv_has ls 9 [(0, .ref b), (1, .ref x), (2, .ref y), (3, .ref o), (4, .ref od), (5, .int (nI i9))])
    (kk : ∀ (w1 : wd) (H1 : Heap) (locs1 : List Loc) (ls1 : Array Slot) (f1 : Nat → Int32) (a1 : Nat → Nat → Int32) (mn1 cn1 nb1 : Nat) (v1 : Int64) (v21 : UInt64), coS E w1 x (N + 64000) f1 a1 mn1 cn1 nb1 → tM E w1 y ad f1 a1 → lA E w1 o v1 → dA E w1 od v21 → wP E w1 H1 → va_S (gA E) s.heap H1 locs1 → lv_has ls1 9 [(0, .ref b), (1, .ref x), (2, .ref y), (3, .ref o), (4, .ref od), (5, .int (nI i9))] → W p l0 e room_1 s m args below meth c H1 locs1 (c0 + 7000) (s0 + 23000) Q (F0 m 1904 ls1 [])) :
    W p l0 e room_1 s m args below meth c H locs c0 s0 Q (F0 m 1304 ls []) := by
  obtain ⟨⟨n9, n6, n7, n11⟩, ⟨n60, c8⟩, ⟨m25, m6⟩, gI0⟩ := hC.nums
  refine lv_aload_n hx hb dL_law_1304 rfl (lv_at hl 1 rfl) ?_
  refine lv_aload_n hx hb dL_law_1305 rfl (lv_at hl 0 rfl) ?_
  refine lv_iload hx hb dL_law_1306 (lv_at hl 5 rfl) ?_
  refine lv_iconst (v := 1) hx hb dL_law_1308 (by decide) ?_
  refine k_iaddN (x := i9) (y := 1) hx hb dL_law_1309 ?_
  refine va_sld hx hb hX0 hbl hbA hS (vp_in_nI (n := i9 + 1) (N := L) (by omega) (by omega)) dL_law_1310 ?_
  rw [nI_clamp (show i9 + 1 < 2 ^ 31 from by omega)]
  refine lv_aload_n hx hb dL_law_1311 rfl (lv_at hl 0 rfl) ?_
  refine lv_iload hx hb dL_law_1312 (lv_at hl 5 rfl) ?_
  refine lv_iconst (v := 2) hx hb dL_law_1314 (by decide) ?_
  refine k_iaddN (x := i9) (y := 2) hx hb dL_law_1315 ?_
  refine va_sld hx hb hX0 hbl hbA hS (vp_in_nI (n := i9 + 2) (N := L) (by omega) (by omega)) dL_law_1316 ?_
  rw [nI_clamp (show i9 + 2 < 2 ^ 31 from by omega)]
  refine lv_aload_n hx hb dL_law_1317 rfl (lv_at hl 3 rfl) ?_
  refine kx_cSH hx hb hml hown hts (CX0_cause l0 hl0 E w x o f a mn cn nb N v (xs (i9 + 1)) (xs (i9 + 2)) hC hO) (vx_cwSW 4 hts (lw_SW q1050 q1051 q68 q1052) rfl rfl rfl dyX0_cause ⟨Nat.le_of_ble_eq_true rfl, Nat.le_of_ble_eq_true rfl⟩) hG hP hS (As := [.ref x, .int (xs (i9 + 1)), .int (xs (i9 + 2)), .ref o]) (rest := []) rfl hl.1 rfl (lv_room (Nat.le_of_ble_eq_true rfl)) dL_law_1318 ⟨show c0 + 40 ≤ 1200144 from by omega, show s0 + 220 ≤ 5497402 from by omega⟩ (fun r1318 w1 H locs hp hP hS => ?_)
  obtain ⟨v9_1, hp0, ⟨hO', hC', -⟩, hf9⟩ := hp
  have hT : tM E w1 y ad f a := hT.fr hf9 (fun t9 h9 => by simp only [pW, pWd, pO, pN, pXs] at h9; first | omega | (subst h9; decide))
  have hD : dA E w1 od v2 := hD.fr hf9 (by intro z9; simp [pO, pN, pW, pWd, tP, pXs] at z9)
  have hO : lA E w1 o v9_1 := hO'
  have hC : coS E w1 x N f a mn cn nb := hC'
  show W p l0 e room_1 s m args below meth c H locs (c0 + 40) (s0 + 220) Q (F0 m 1321 ls [.int r1318])
  obtain ⟨hk0, hk1⟩ := hp0
  refine lv_istore (lv' := [(6, .int r1318), (0, .ref b), (1, .ref x), (2, .ref y), (3, .ref o), (4, .ref od), (5, .int (nI i9))]) hx hb dL_law_1321 hl (by decide) rfl (fun ls hl => ?_)
  refine lv_aload_n hx hb dL_law_1323 rfl (lv_at hl 3 rfl) ?_
  refine lv_aload_n hx hb dL_law_1324 rfl (lv_at hl 1 rfl) ?_
  refine lv_iload hx hb dL_law_1325 (lv_at hl 6 rfl) ?_
  refine lv_iconst (v := 1) hx hb dL_law_1327 (by decide) ?_
  refine k_iaddN (x := i9) (y := 1) hx hb dL_law_1328 ?_
  refine va_sld hx hb hX0 hbl hbA hS (vp_in_nI (n := i9 + 1) (N := L) (by omega) (by omega)) dL_law_1329 ?_
  rw [nI_clamp (show i9 + 1 < 2 ^ 31 from by omega)]
  refine lv_aload_n hx hb dL_law_1330 rfl (lv_at hl 1 rfl) ?_
  refine lv_iload hx hb dL_law_1331 (lv_at hl 6 rfl) ?_
  refine lv_iconst (v := 2) hx hb dL_law_1333 (by decide) ?_
  refine k_iaddN (x := i9) (y := 2) hx hb dL_law_1334 ?_
  refine va_sld hx hb hX0 hbl hbA hS (vp_in_nI (n := i9 + 2) (N := L) (by omega) (by omega)) dL_law_1335 ?_
  rw [nI_clamp (show i9 + 2 < 2 ^ 31 from by omega)]
  refine k_cV hx hb hml hown hts (CX6_cause l0 E w1 y ad f a (xs (i9 + 1)) (xs (i9 + 2)) mn hT m6 m25) (cwV 2 hts (lw_V q1860 q1861 q1862 q81 q1863) rfl rfl rfl dyX6_cause ⟨Nat.le_of_ble_eq_true rfl, Nat.le_of_ble_eq_true rfl⟩) hG hP hS hT.1 rfl (As := [.int (xs (i9 + 1)), .int (xs (i9 + 2))]) (rest := []) rfl hl.1 rfl (lv_room (Nat.le_of_ble_eq_true rfl)) dL_law_1336 ⟨show (c0 + 40) + 0 ≤ 1200144 from by omega, show (s0 + 220) + 0 ≤ 5497402 from by omega⟩ (fun r1336 w2 H locs hp hP hS => ?_)
  obtain ⟨f1, a1, hz, hT', hf9⟩ := hp
  have hC : coS E w2 x N f a mn cn nb := hC.fr hf9 (fun t9 h9 => by simp only [tP, pO, pXs] at h9; omega)
  have hO : lA E w2 o v9_1 := hO.fr hf9 (by intro z9; simp [pO, pN, pW, pWd, tP, pXs] at z9)
  have hD : dA E w2 od v2 := hD.fr hf9 (by intro z9; simp [pO, pN, pW, pWd, tP, pXs] at z9)
  have hT : tM E w2 y ad f1 a1 := hT'
  obtain ⟨hr7, hf7, ha7⟩ := hz
  have hth : f1 13 = _ := (congrFun hf7 13).trans (up_s _ _ _)
  have hco := (hC.mono (show _ ≤ N + 64000 from by omega)).co (f1 := f1) (a1 := a1) (by rw [ha7]) (by rw [ha7]) (by rw [ha7]) (by rw [ha7]) (fun j hj => by rw [hf7]; exact up_n (by omega))
  have hans := hr7
  show W p l0 e room_1 s m args below meth c H locs (c0 + 40) (s0 + 220) Q (F0 m 1339 ls [.int r1336])
  refine lv_istore (lv' := [(7, .int r1336), (6, .int r1318), (0, .ref b), (1, .ref x), (2, .ref y), (3, .ref o), (4, .ref od), (5, .int (nI i9))]) hx hb dL_law_1339 hl (by decide) rfl (fun ls hl => ?_)
  refine lv_aload_n hx hb dL_law_1341 rfl (lv_at hl 4 rfl) ?_
  refine k_cV hx hb hml hown hts (CX6_thrown l0 E w2 y ad f1 a1 hT) (cwV 0 hts (lw_V q1681 q1682 q1683 q81 q1684) rfl rfl rfl dyX6_thrown ⟨Nat.le_of_ble_eq_true rfl, Nat.le_of_ble_eq_true rfl⟩) hG hP hS hT.1 rfl (As := []) (rest := []) rfl hl.1 rfl (lv_room (Nat.le_of_ble_eq_true rfl)) dL_law_1342 ⟨show (c0 + 40) + 0 ≤ 1200144 from by omega, show (s0 + 220) + 0 ≤ 5497402 from by omega⟩ (fun r1342 w3 H locs hp hP hS => ?_)
  obtain ⟨hp1, hp0⟩ := hp
  rw [hp1] at hP
  rw [hp0, hth, ← hk0]
  show W p l0 e room_1 s m args below meth c H locs (c0 + 40) (s0 + 220) Q (F0 m 1345 ls [.int r1318])
  refine lv_iload hx hb dL_law_1345 (lv_at hl 1 rfl) ?_
  refine lv_icmp_eq (tgt := 1352) hx hb dL_law_1347 (by decide) (fun c1347 => ?_) (fun c1347 => ?_)
  · skip
    refine lv_iload hx hb dL_law_1352 (lv_at hl 1 rfl) ?_
    refine lv_if_ne (tgt := 1369) hx hb dL_law_1354 (by decide) (fun c1354 => ?_) (fun c1354 => ?_)
    · skip
      refine lv_goto (tgt := 1904) hx hb dL_law_1369 (by decide) ?_
      refine W.widen (show (c0 + 40) ≤ c0 + 7000 from by omega) (show (s0 + 220) ≤ s0 + 23000 from by omega) ?_
      exact kk _ H locs ls _ _ _ _ _ _ _ hco hT hO hD hP hS (lv_drop hl (by simp))
    · skip
      have hv9 := hk1 (hk0.symm.trans c1354)
      have hans9 := hans
      rw [hv9, ← hans9] at hO
      have hO : lA E w2 o (r1336).toInt64 := hO
      refine lv_aload_n hx hb dL_law_1357 rfl (lv_at hl 5 rfl) ?_
      refine lv_iconst (v := 0) hx hb dL_law_1358 (by decide) ?_
      refine k_lald hx hb hG hP hO dL_law_1359 ?_
      refine lv_iload hx hb dL_law_1360 (lv_at hl 0 rfl) ?_
      refine lv_i2l hx hb dL_law_1362 rfl ?_
      refine lv_lcmpE hx hb dL_law_1363 ?_
      refine lv_if_eq (tgt := 1369) hx hb dL_law_1364 (by decide) (fun c1364 => ?_) (fun c1364 => ?_)
      · skip
        refine lv_goto (tgt := 1904) hx hb dL_law_1369 (by decide) ?_
        refine W.widen (show (c0 + 40) ≤ c0 + 7000 from by omega) (show (s0 + 220) ≤ s0 + 23000 from by omega) ?_
        exact kk _ H locs ls _ _ _ _ _ _ _ hco hT hO hD hP hS (lv_drop hl (by simp))
      · skip
        exact absurd c1364 (by decide)
  · skip
    exact absurd rfl c1347

set_option maxHeartbeats 4000000 in
theorem law_leader {p : Program} {e : Env} {s : State} {m : MethodId} {args : Array Value} {below : List Frame} {meth : Method} {c : Code} {E : gE} {b L : Nat} {xs : Nat → Int32} {Q : State → Prop} (l0 : Launch) (hl0 : l0.stackTraces = false) (hx : p.tables.exec = Jvm.exec) (hb : c.code = cL_law) (hml : c.maxLocals = 9) (hown : s.vm.findClass "KiteRoofsLaw" = some m.cls) (hts : ∀ w ∈ lw_all, w.before args s = true) (hG : gK E s) (hX0 : va_X b L xs s s.heap) (hbl : b < s.heap.size) (hbA : ¬ gA E b)
    {w : wd} {H : Heap} {locs : List Loc} {ls : Array Slot} {x y o od N mn cn nb i9 c0 s0 : Nat} {f : Nat → Int32} {a : Nat → Nat → Int32} {ad : Nat → Nat} {v : Int64} {v2 : UInt64} (hL : L ≤ 120) (hi : i9 + 5 ≤ L) (hN9 : N + 71 * 31 * 32 < 2 ^ 31) (hc0 : c0 + 7000 ≤ 1200144) (hs0 : s0 + 23000 ≤ 5497402)
    (hC : coS E w x N f a mn cn nb) (hT : tM E w y ad f a) (hO : lA E w o v) (hD : dA E w od v2) (hP : wP E w H) (hS : va_S (gA E) s.heap H locs) (hl : lv_has ls 9 [(0, .ref b), (1, .ref x), (2, .ref y), (3, .ref o), (4, .ref od), (5, .int (nI i9))])
    (kk : ∀ (w1 : wd) (H1 : Heap) (locs1 : List Loc) (ls1 : Array Slot) (f1 : Nat → Int32) (a1 : Nat → Nat → Int32) (mn1 cn1 nb1 : Nat) (v1 : Int64) (v21 : UInt64), coS E w1 x (N + 64000) f1 a1 mn1 cn1 nb1 → tM E w1 y ad f1 a1 → lA E w1 o v1 → dA E w1 od v21 → wP E w1 H1 → va_S (gA E) s.heap H1 locs1 → lv_has ls1 9 [(0, .ref b), (1, .ref x), (2, .ref y), (3, .ref o), (4, .ref od), (5, .int (nI i9))] → W p l0 e room_1 s m args below meth c H1 locs1 (c0 + 7000) (s0 + 23000) Q (F0 m 1904 ls1 [])) :
    W p l0 e room_1 s m args below meth c H locs c0 s0 Q (F0 m 1372 ls []) := by
  obtain ⟨⟨n9, n6, n7, n11⟩, ⟨n60, c8⟩, ⟨m25, m6⟩, gI0⟩ := hC.nums
  refine lv_aload_n hx hb dL_law_1372 rfl (lv_at hl 1 rfl) ?_
  refine lv_aload_n hx hb dL_law_1373 rfl (lv_at hl 3 rfl) ?_
  refine kx_cSH hx hb hml hown hts (CX0_leader l0 hl0 E w x o f a mn cn nb N v hC hO) (vx_cwSW 2 hts (lw_SW q1062 q1063 q68 q1064) rfl rfl rfl dyX0_leader ⟨Nat.le_of_ble_eq_true rfl, Nat.le_of_ble_eq_true rfl⟩) hG hP hS (As := [.ref x, .ref o]) (rest := []) rfl hl.1 rfl (lv_room (Nat.le_of_ble_eq_true rfl)) dL_law_1374 ⟨show c0 + 40 ≤ 1200144 from by omega, show s0 + 220 ≤ 5497402 from by omega⟩ (fun r1374 w1 H locs hp hP hS => ?_)
  obtain ⟨v9_1, hp0, ⟨hO', hC', -⟩, hf9⟩ := hp
  have hT : tM E w1 y ad f a := hT.fr hf9 (fun t9 h9 => by simp only [pW, pWd, pO, pN, pXs] at h9; first | omega | (subst h9; decide))
  have hD : dA E w1 od v2 := hD.fr hf9 (by intro z9; simp [pO, pN, pW, pWd, tP, pXs] at z9)
  have hO : lA E w1 o v9_1 := hO'
  have hC : coS E w1 x N f a mn cn nb := hC'
  show W p l0 e room_1 s m args below meth c H locs (c0 + 40) (s0 + 220) Q (F0 m 1377 ls [.int r1374])
  obtain ⟨hk0, hk1⟩ := hp0
  refine lv_istore (lv' := [(6, .int r1374), (0, .ref b), (1, .ref x), (2, .ref y), (3, .ref o), (4, .ref od), (5, .int (nI i9))]) hx hb dL_law_1377 hl (by decide) rfl (fun ls hl => ?_)
  refine lv_aload_n hx hb dL_law_1379 rfl (lv_at hl 3 rfl) ?_
  refine k_cV hx hb hml hown hts (CX6_leader l0 E w1 y ad f a mn hT m6 m25) (cwV 0 hts (lw_V q1864 q1865 q1866 q81 q1867) rfl rfl rfl dyX6_leader ⟨Nat.le_of_ble_eq_true rfl, Nat.le_of_ble_eq_true rfl⟩) hG hP hS hT.1 rfl (As := []) (rest := []) rfl hl.1 rfl (lv_room (Nat.le_of_ble_eq_true rfl)) dL_law_1380 ⟨show (c0 + 40) + 0 ≤ 1200144 from by omega, show (s0 + 220) + 0 ≤ 5497402 from by omega⟩ (fun r1380 w2 H locs hp hP hS => ?_)
  obtain ⟨f1, a1, hz, hT', hf9⟩ := hp
  have hC : coS E w2 x N f a mn cn nb := hC.fr hf9 (fun t9 h9 => by simp only [tP, pO, pXs] at h9; omega)
  have hO : lA E w2 o v9_1 := hO.fr hf9 (by intro z9; simp [pO, pN, pW, pWd, tP, pXs] at z9)
  have hD : dA E w2 od v2 := hD.fr hf9 (by intro z9; simp [pO, pN, pW, pWd, tP, pXs] at z9)
  have hT : tM E w2 y ad f1 a1 := hT'
  obtain ⟨hr7, hf7, ha7⟩ := hz
  have hth : f1 13 = _ := (congrFun hf7 13).trans (up_s _ _ _)
  have hco := (hC.mono (show _ ≤ N + 64000 from by omega)).co (f1 := f1) (a1 := a1) (by rw [ha7]) (by rw [ha7]) (by rw [ha7]) (by rw [ha7]) (fun j hj => by rw [hf7]; exact up_n (by omega))
  have hans := hr7
  show W p l0 e room_1 s m args below meth c H locs (c0 + 40) (s0 + 220) Q (F0 m 1383 ls [.int r1380])
  refine lv_istore (lv' := [(7, .int r1380), (6, .int r1374), (0, .ref b), (1, .ref x), (2, .ref y), (3, .ref o), (4, .ref od), (5, .int (nI i9))]) hx hb dL_law_1383 hl (by decide) rfl (fun ls hl => ?_)
  refine lv_aload_n hx hb dL_law_1385 rfl (lv_at hl 4 rfl) ?_
  refine k_cV hx hb hml hown hts (CX6_thrown l0 E w2 y ad f1 a1 hT) (cwV 0 hts (lw_V q1681 q1682 q1683 q81 q1684) rfl rfl rfl dyX6_thrown ⟨Nat.le_of_ble_eq_true rfl, Nat.le_of_ble_eq_true rfl⟩) hG hP hS hT.1 rfl (As := []) (rest := []) rfl hl.1 rfl (lv_room (Nat.le_of_ble_eq_true rfl)) dL_law_1386 ⟨show (c0 + 40) + 0 ≤ 1200144 from by omega, show (s0 + 220) + 0 ≤ 5497402 from by omega⟩ (fun r1386 w3 H locs hp hP hS => ?_)
  obtain ⟨hp1, hp0⟩ := hp
  rw [hp1] at hP
  rw [hp0, hth, ← hk0]
  show W p l0 e room_1 s m args below meth c H locs (c0 + 40) (s0 + 220) Q (F0 m 1389 ls [.int r1374])
  refine lv_iload hx hb dL_law_1389 (lv_at hl 1 rfl) ?_
  refine lv_icmp_eq (tgt := 1396) hx hb dL_law_1391 (by decide) (fun c1391 => ?_) (fun c1391 => ?_)
  · skip
    refine lv_iload hx hb dL_law_1396 (lv_at hl 1 rfl) ?_
    refine lv_if_ne (tgt := 1413) hx hb dL_law_1398 (by decide) (fun c1398 => ?_) (fun c1398 => ?_)
    · skip
      refine lv_goto (tgt := 1904) hx hb dL_law_1413 (by decide) ?_
      refine W.widen (show (c0 + 40) ≤ c0 + 7000 from by omega) (show (s0 + 220) ≤ s0 + 23000 from by omega) ?_
      exact kk _ H locs ls _ _ _ _ _ _ _ hco hT hO hD hP hS (lv_drop hl (by simp))
    · skip
      have hv9 := hk1 (hk0.symm.trans c1398)
      have hans9 := hans
      rw [hv9, ← hans9] at hO
      have hO : lA E w2 o (r1380).toInt64 := hO
      refine lv_aload_n hx hb dL_law_1401 rfl (lv_at hl 5 rfl) ?_
      refine lv_iconst (v := 0) hx hb dL_law_1402 (by decide) ?_
      refine k_lald hx hb hG hP hO dL_law_1403 ?_
      refine lv_iload hx hb dL_law_1404 (lv_at hl 0 rfl) ?_
      refine lv_i2l hx hb dL_law_1406 rfl ?_
      refine lv_lcmpE hx hb dL_law_1407 ?_
      refine lv_if_eq (tgt := 1413) hx hb dL_law_1408 (by decide) (fun c1408 => ?_) (fun c1408 => ?_)
      · skip
        refine lv_goto (tgt := 1904) hx hb dL_law_1413 (by decide) ?_
        refine W.widen (show (c0 + 40) ≤ c0 + 7000 from by omega) (show (s0 + 220) ≤ s0 + 23000 from by omega) ?_
        exact kk _ H locs ls _ _ _ _ _ _ _ hco hT hO hD hP hS (lv_drop hl (by simp))
      · skip
        exact absurd c1408 (by decide)
  · skip
    exact absurd rfl c1391

set_option maxHeartbeats 4000000 in
theorem law_refusal {p : Program} {e : Env} {s : State} {m : MethodId} {args : Array Value} {below : List Frame} {meth : Method} {c : Code} {E : gE} {b L : Nat} {xs : Nat → Int32} {Q : State → Prop} (l0 : Launch) (hl0 : l0.stackTraces = false) (hx : p.tables.exec = Jvm.exec) (hb : c.code = cL_law) (hml : c.maxLocals = 9) (hown : s.vm.findClass "KiteRoofsLaw" = some m.cls) (hts : ∀ w ∈ lw_all, w.before args s = true) (hG : gK E s) (hX0 : va_X b L xs s s.heap) (hbl : b < s.heap.size) (hbA : ¬ gA E b)
    {w : wd} {H : Heap} {locs : List Loc} {ls : Array Slot} {x y o od N mn cn nb i9 c0 s0 : Nat} {f : Nat → Int32} {a : Nat → Nat → Int32} {ad : Nat → Nat} {v : Int64} {v2 : UInt64} (hL : L ≤ 120) (hi : i9 + 5 ≤ L) (hN9 : N + 71 * 31 * 32 < 2 ^ 31) (hc0 : c0 + 7000 ≤ 1200144) (hs0 : s0 + 23000 ≤ 5497402)
    (hC : coS E w x N f a mn cn nb) (hT : tM E w y ad f a) (hO : lA E w o v) (hD : dA E w od v2) (hP : wP E w H) (hS : va_S (gA E) s.heap H locs) (hl : lv_has ls 9 [(0, .ref b), (1, .ref x), (2, .ref y), (3, .ref o), (4, .ref od), (5, .int (nI i9))])
    (kk : ∀ (w1 : wd) (H1 : Heap) (locs1 : List Loc) (ls1 : Array Slot) (f1 : Nat → Int32) (a1 : Nat → Nat → Int32) (mn1 cn1 nb1 : Nat) (v1 : Int64) (v21 : UInt64), coS E w1 x (N + 64000) f1 a1 mn1 cn1 nb1 → tM E w1 y ad f1 a1 → lA E w1 o v1 → dA E w1 od v21 → wP E w1 H1 → va_S (gA E) s.heap H1 locs1 → lv_has ls1 9 [(0, .ref b), (1, .ref x), (2, .ref y), (3, .ref o), (4, .ref od), (5, .int (nI i9))] → W p l0 e room_1 s m args below meth c H1 locs1 (c0 + 7000) (s0 + 23000) Q (F0 m 1904 ls1 [])) :
    W p l0 e room_1 s m args below meth c H locs c0 s0 Q (F0 m 1531 ls []) := by
  obtain ⟨⟨n9, n6, n7, n11⟩, ⟨n60, c8⟩, ⟨m25, m6⟩, gI0⟩ := hC.nums
  refine lv_aload_n hx hb dL_law_1531 rfl (lv_at hl 1 rfl) ?_
  refine lv_aload_n hx hb dL_law_1532 rfl (lv_at hl 0 rfl) ?_
  refine lv_iload hx hb dL_law_1533 (lv_at hl 5 rfl) ?_
  refine lv_iconst (v := 1) hx hb dL_law_1535 (by decide) ?_
  refine k_iaddN (x := i9) (y := 1) hx hb dL_law_1536 ?_
  refine va_sld hx hb hX0 hbl hbA hS (vp_in_nI (n := i9 + 1) (N := L) (by omega) (by omega)) dL_law_1537 ?_
  rw [nI_clamp (show i9 + 1 < 2 ^ 31 from by omega)]
  refine lv_if_eq (tgt := 1545) hx hb dL_law_1538 (by decide) (fun c1538 => ?_) (fun c1538 => ?_)
  · skip
    refine lv_iconst (v := 0) hx hb dL_law_1545 (by decide) ?_
    refine lv_aload_n hx hb dL_law_1546 rfl (lv_at hl 3 rfl) ?_
    refine kx_cSH hx hb hml hown hts (CX0_refusal l0 hl0 E w x o f a mn cn nb N v false hC hO) (vx_cwSW 3 hts (lw_SW q1514 q1515 q68 q1516) rfl rfl rfl dyX0_refusal ⟨Nat.le_of_ble_eq_true rfl, Nat.le_of_ble_eq_true rfl⟩) hG hP hS (As := [.ref x, .int 0, .ref o]) (rest := []) rfl hl.1 rfl (lv_room (Nat.le_of_ble_eq_true rfl)) dL_law_1547 ⟨show c0 + 40 ≤ 1200144 from by omega, show s0 + 220 ≤ 5497402 from by omega⟩ (fun r1547 w1 H locs hp hP hS => ?_)
    obtain ⟨v9_1, hp0, ⟨hO', hC', -⟩, hf9⟩ := hp
    have hT : tM E w1 y ad f a := hT.fr hf9 (fun t9 h9 => by simp only [pW, pWd, pO, pN, pXs] at h9; first | omega | (subst h9; decide))
    have hD : dA E w1 od v2 := hD.fr hf9 (by intro z9; simp [pO, pN, pW, pWd, tP, pXs] at z9)
    have hO : lA E w1 o v9_1 := hO'
    have hC : coS E w1 x N f a mn cn nb := hC'
    show W p l0 e room_1 s m args below meth c H locs (c0 + 40) (s0 + 220) Q (F0 m 1550 ls [.int r1547])
    obtain ⟨hk0, hk1⟩ := hp0
    refine lv_istore (lv' := [(6, .int r1547), (0, .ref b), (1, .ref x), (2, .ref y), (3, .ref o), (4, .ref od), (5, .int (nI i9))]) hx hb dL_law_1550 hl (by decide) rfl (fun ls hl => ?_)
    refine lv_aload_n hx hb dL_law_1552 rfl (lv_at hl 3 rfl) ?_
    refine lv_aload_n hx hb dL_law_1553 rfl (lv_at hl 1 rfl) ?_
    refine lv_iload hx hb dL_law_1554 (lv_at hl 6 rfl) ?_
    refine lv_iconst (v := 1) hx hb dL_law_1556 (by decide) ?_
    refine k_iaddN (x := i9) (y := 1) hx hb dL_law_1557 ?_
    refine va_sld hx hb hX0 hbl hbA hS (vp_in_nI (n := i9 + 1) (N := L) (by omega) (by omega)) dL_law_1558 ?_
    rw [nI_clamp (show i9 + 1 < 2 ^ 31 from by omega)]
    refine lv_if_eq (tgt := 1566) hx hb dL_law_1559 (by decide) (fun c1559 => ?_) (fun c1559 => ?_)
    · skip
      refine lv_iconst (v := 0) hx hb dL_law_1566 (by decide) ?_
      refine k_cV hx hb hml hown hts (CX6_refusal l0 E w1 y ad f a false hT) (cwV 1 hts (lw_V q1917 q1918 q1919 q81 q1920) rfl rfl rfl dyX6_refusal ⟨Nat.le_of_ble_eq_true rfl, Nat.le_of_ble_eq_true rfl⟩) hG hP hS hT.1 rfl (As := [.int 0]) (rest := []) rfl hl.1 rfl (lv_room (Nat.le_of_ble_eq_true rfl)) dL_law_1567 ⟨show (c0 + 40) + 0 ≤ 1200144 from by omega, show (s0 + 220) + 0 ≤ 5497402 from by omega⟩ (fun r1567 w2 H locs hp hP hS => ?_)
      obtain ⟨f1, a1, hz, hT', hf9⟩ := hp
      have hC : coS E w2 x N f a mn cn nb := hC.fr hf9 (fun t9 h9 => by simp only [tP, pO, pXs] at h9; omega)
      have hO : lA E w2 o v9_1 := hO.fr hf9 (by intro z9; simp [pO, pN, pW, pWd, tP, pXs] at z9)
      have hD : dA E w2 od v2 := hD.fr hf9 (by intro z9; simp [pO, pN, pW, pWd, tP, pXs] at z9)
      have hT : tM E w2 y ad f1 a1 := hT'
      rw [qRef_qRf] at hz
      obtain ⟨hr7, hf7, ha7⟩ := hz
      have hth : f1 13 = _ := (congrFun hf7 13).trans (up_s _ _ _)
      have hco := (hC.mono (show _ ≤ N + 64000 from by omega)).co (f1 := f1) (a1 := a1) (by rw [ha7]) (by rw [ha7]) (by rw [ha7]) (by rw [ha7]) (fun j hj => by rw [hf7]; exact up_n (by omega))
      have hans := hr7
      show W p l0 e room_1 s m args below meth c H locs (c0 + 40) (s0 + 220) Q (F0 m 1570 ls [.int r1567])
      refine lv_istore (lv' := [(7, .int r1567), (6, .int r1547), (0, .ref b), (1, .ref x), (2, .ref y), (3, .ref o), (4, .ref od), (5, .int (nI i9))]) hx hb dL_law_1570 hl (by decide) rfl (fun ls hl => ?_)
      refine lv_aload_n hx hb dL_law_1572 rfl (lv_at hl 4 rfl) ?_
      refine k_cV hx hb hml hown hts (CX6_thrown l0 E w2 y ad f1 a1 hT) (cwV 0 hts (lw_V q1681 q1682 q1683 q81 q1684) rfl rfl rfl dyX6_thrown ⟨Nat.le_of_ble_eq_true rfl, Nat.le_of_ble_eq_true rfl⟩) hG hP hS hT.1 rfl (As := []) (rest := []) rfl hl.1 rfl (lv_room (Nat.le_of_ble_eq_true rfl)) dL_law_1573 ⟨show (c0 + 40) + 0 ≤ 1200144 from by omega, show (s0 + 220) + 0 ≤ 5497402 from by omega⟩ (fun r1573 w3 H locs hp hP hS => ?_)
      obtain ⟨hp1, hp0⟩ := hp
      rw [hp1] at hP
      rw [hp0, hth, ← hk0]
      show W p l0 e room_1 s m args below meth c H locs (c0 + 40) (s0 + 220) Q (F0 m 1576 ls [.int r1547])
      refine lv_iload hx hb dL_law_1576 (lv_at hl 1 rfl) ?_
      refine lv_icmp_eq (tgt := 1583) hx hb dL_law_1578 (by decide) (fun c1578 => ?_) (fun c1578 => ?_)
      · skip
        refine lv_iload hx hb dL_law_1583 (lv_at hl 1 rfl) ?_
        refine lv_if_ne (tgt := 1600) hx hb dL_law_1585 (by decide) (fun c1585 => ?_) (fun c1585 => ?_)
        · skip
          refine lv_goto (tgt := 1904) hx hb dL_law_1600 (by decide) ?_
          refine W.widen (show (c0 + 40) ≤ c0 + 7000 from by omega) (show (s0 + 220) ≤ s0 + 23000 from by omega) ?_
          exact kk _ H locs ls _ _ _ _ _ _ _ hco hT hO hD hP hS (lv_drop hl (by simp))
        · skip
          have hv9 := hk1 (hk0.symm.trans c1585)
          have hans9 := hans
          rw [hv9, ← hans9] at hO
          have hO : lA E w2 o (r1567).toInt64 := hO
          refine lv_aload_n hx hb dL_law_1588 rfl (lv_at hl 5 rfl) ?_
          refine lv_iconst (v := 0) hx hb dL_law_1589 (by decide) ?_
          refine k_lald hx hb hG hP hO dL_law_1590 ?_
          refine lv_iload hx hb dL_law_1591 (lv_at hl 0 rfl) ?_
          refine lv_i2l hx hb dL_law_1593 rfl ?_
          refine lv_lcmpE hx hb dL_law_1594 ?_
          refine lv_if_eq (tgt := 1600) hx hb dL_law_1595 (by decide) (fun c1595 => ?_) (fun c1595 => ?_)
          · skip
            refine lv_goto (tgt := 1904) hx hb dL_law_1600 (by decide) ?_
            refine W.widen (show (c0 + 40) ≤ c0 + 7000 from by omega) (show (s0 + 220) ≤ s0 + 23000 from by omega) ?_
            exact kk _ H locs ls _ _ _ _ _ _ _ hco hT hO hD hP hS (lv_drop hl (by simp))
          · skip
            exact absurd c1595 (by decide)
      · skip
        exact absurd rfl c1578
    · skip
      exact absurd c1538 c1559
  · skip
    refine lv_iconst (v := 1) hx hb dL_law_1541 (by decide) ?_
    refine lv_goto (tgt := 1546) hx hb dL_law_1542 (by decide) ?_
    refine lv_aload_n hx hb dL_law_1546 rfl (lv_at hl 3 rfl) ?_
    refine kx_cSH hx hb hml hown hts (CX0_refusal l0 hl0 E w x o f a mn cn nb N v true hC hO) (vx_cwSW 3 hts (lw_SW q1514 q1515 q68 q1516) rfl rfl rfl dyX0_refusal ⟨Nat.le_of_ble_eq_true rfl, Nat.le_of_ble_eq_true rfl⟩) hG hP hS (As := [.ref x, .int 1, .ref o]) (rest := []) rfl hl.1 rfl (lv_room (Nat.le_of_ble_eq_true rfl)) dL_law_1547 ⟨show c0 + 40 ≤ 1200144 from by omega, show s0 + 220 ≤ 5497402 from by omega⟩ (fun r1547 w4 H locs hp hP hS => ?_)
    obtain ⟨v9_2, hp0, ⟨hO', hC', -⟩, hf9⟩ := hp
    have hT : tM E w4 y ad f a := hT.fr hf9 (fun t9 h9 => by simp only [pW, pWd, pO, pN, pXs] at h9; first | omega | (subst h9; decide))
    have hD : dA E w4 od v2 := hD.fr hf9 (by intro z9; simp [pO, pN, pW, pWd, tP, pXs] at z9)
    have hO : lA E w4 o v9_2 := hO'
    have hC : coS E w4 x N f a mn cn nb := hC'
    show W p l0 e room_1 s m args below meth c H locs (c0 + 40) (s0 + 220) Q (F0 m 1550 ls [.int r1547])
    obtain ⟨hk0, hk1⟩ := hp0
    refine lv_istore (lv' := [(6, .int r1547), (0, .ref b), (1, .ref x), (2, .ref y), (3, .ref o), (4, .ref od), (5, .int (nI i9))]) hx hb dL_law_1550 hl (by decide) rfl (fun ls hl => ?_)
    refine lv_aload_n hx hb dL_law_1552 rfl (lv_at hl 3 rfl) ?_
    refine lv_aload_n hx hb dL_law_1553 rfl (lv_at hl 1 rfl) ?_
    refine lv_iload hx hb dL_law_1554 (lv_at hl 6 rfl) ?_
    refine lv_iconst (v := 1) hx hb dL_law_1556 (by decide) ?_
    refine k_iaddN (x := i9) (y := 1) hx hb dL_law_1557 ?_
    refine va_sld hx hb hX0 hbl hbA hS (vp_in_nI (n := i9 + 1) (N := L) (by omega) (by omega)) dL_law_1558 ?_
    rw [nI_clamp (show i9 + 1 < 2 ^ 31 from by omega)]
    refine lv_if_eq (tgt := 1566) hx hb dL_law_1559 (by decide) (fun c1559 => ?_) (fun c1559 => ?_)
    · skip
      exact absurd c1559 c1538
    · skip
      refine lv_iconst (v := 1) hx hb dL_law_1562 (by decide) ?_
      refine lv_goto (tgt := 1567) hx hb dL_law_1563 (by decide) ?_
      refine k_cV hx hb hml hown hts (CX6_refusal l0 E w4 y ad f a true hT) (cwV 1 hts (lw_V q1917 q1918 q1919 q81 q1920) rfl rfl rfl dyX6_refusal ⟨Nat.le_of_ble_eq_true rfl, Nat.le_of_ble_eq_true rfl⟩) hG hP hS hT.1 rfl (As := [.int 1]) (rest := []) rfl hl.1 rfl (lv_room (Nat.le_of_ble_eq_true rfl)) dL_law_1567 ⟨show (c0 + 40) + 0 ≤ 1200144 from by omega, show (s0 + 220) + 0 ≤ 5497402 from by omega⟩ (fun r1567 w5 H locs hp hP hS => ?_)
      obtain ⟨f1, a1, hz, hT', hf9⟩ := hp
      have hC : coS E w5 x N f a mn cn nb := hC.fr hf9 (fun t9 h9 => by simp only [tP, pO, pXs] at h9; omega)
      have hO : lA E w5 o v9_2 := hO.fr hf9 (by intro z9; simp [pO, pN, pW, pWd, tP, pXs] at z9)
      have hD : dA E w5 od v2 := hD.fr hf9 (by intro z9; simp [pO, pN, pW, pWd, tP, pXs] at z9)
      have hT : tM E w5 y ad f1 a1 := hT'
      rw [qRef_qRf] at hz
      obtain ⟨hr7, hf7, ha7⟩ := hz
      have hth : f1 13 = _ := (congrFun hf7 13).trans (up_s _ _ _)
      have hco := (hC.mono (show _ ≤ N + 64000 from by omega)).co (f1 := f1) (a1 := a1) (by rw [ha7]) (by rw [ha7]) (by rw [ha7]) (by rw [ha7]) (fun j hj => by rw [hf7]; exact up_n (by omega))
      have hans := hr7
      show W p l0 e room_1 s m args below meth c H locs (c0 + 40) (s0 + 220) Q (F0 m 1570 ls [.int r1567])
      refine lv_istore (lv' := [(7, .int r1567), (6, .int r1547), (0, .ref b), (1, .ref x), (2, .ref y), (3, .ref o), (4, .ref od), (5, .int (nI i9))]) hx hb dL_law_1570 hl (by decide) rfl (fun ls hl => ?_)
      refine lv_aload_n hx hb dL_law_1572 rfl (lv_at hl 4 rfl) ?_
      refine k_cV hx hb hml hown hts (CX6_thrown l0 E w5 y ad f1 a1 hT) (cwV 0 hts (lw_V q1681 q1682 q1683 q81 q1684) rfl rfl rfl dyX6_thrown ⟨Nat.le_of_ble_eq_true rfl, Nat.le_of_ble_eq_true rfl⟩) hG hP hS hT.1 rfl (As := []) (rest := []) rfl hl.1 rfl (lv_room (Nat.le_of_ble_eq_true rfl)) dL_law_1573 ⟨show (c0 + 40) + 0 ≤ 1200144 from by omega, show (s0 + 220) + 0 ≤ 5497402 from by omega⟩ (fun r1573 w6 H locs hp hP hS => ?_)
      obtain ⟨hp1, hp0⟩ := hp
      rw [hp1] at hP
      rw [hp0, hth, ← hk0]
      show W p l0 e room_1 s m args below meth c H locs (c0 + 40) (s0 + 220) Q (F0 m 1576 ls [.int r1547])
      refine lv_iload hx hb dL_law_1576 (lv_at hl 1 rfl) ?_
      refine lv_icmp_eq (tgt := 1583) hx hb dL_law_1578 (by decide) (fun c1578 => ?_) (fun c1578 => ?_)
      · skip
        refine lv_iload hx hb dL_law_1583 (lv_at hl 1 rfl) ?_
        refine lv_if_ne (tgt := 1600) hx hb dL_law_1585 (by decide) (fun c1585 => ?_) (fun c1585 => ?_)
        · skip
          refine lv_goto (tgt := 1904) hx hb dL_law_1600 (by decide) ?_
          refine W.widen (show (c0 + 40) ≤ c0 + 7000 from by omega) (show (s0 + 220) ≤ s0 + 23000 from by omega) ?_
          exact kk _ H locs ls _ _ _ _ _ _ _ hco hT hO hD hP hS (lv_drop hl (by simp))
        · skip
          have hv9 := hk1 (hk0.symm.trans c1585)
          have hans9 := hans
          rw [hv9, ← hans9] at hO
          have hO : lA E w5 o (r1567).toInt64 := hO
          refine lv_aload_n hx hb dL_law_1588 rfl (lv_at hl 5 rfl) ?_
          refine lv_iconst (v := 0) hx hb dL_law_1589 (by decide) ?_
          refine k_lald hx hb hG hP hO dL_law_1590 ?_
          refine lv_iload hx hb dL_law_1591 (lv_at hl 0 rfl) ?_
          refine lv_i2l hx hb dL_law_1593 rfl ?_
          refine lv_lcmpE hx hb dL_law_1594 ?_
          refine lv_if_eq (tgt := 1600) hx hb dL_law_1595 (by decide) (fun c1595 => ?_) (fun c1595 => ?_)
          · skip
            refine lv_goto (tgt := 1904) hx hb dL_law_1600 (by decide) ?_
            refine W.widen (show (c0 + 40) ≤ c0 + 7000 from by omega) (show (s0 + 220) ≤ s0 + 23000 from by omega) ?_
            exact kk _ H locs ls _ _ _ _ _ _ _ hco hT hO hD hP hS (lv_drop hl (by simp))
          · skip
            exact absurd c1595 (by decide)
      · skip
        exact absurd rfl c1578

set_option maxHeartbeats 4000000 in
theorem law_account {p : Program} {e : Env} {s : State} {m : MethodId} {args : Array Value} {below : List Frame} {meth : Method} {c : Code} {E : gE} {b L : Nat} {xs : Nat → Int32} {Q : State → Prop} (l0 : Launch) (hl0 : l0.stackTraces = false) (hx : p.tables.exec = Jvm.exec) (hb : c.code = cL_law) (hml : c.maxLocals = 9) (hown : s.vm.findClass "KiteRoofsLaw" = some m.cls) (hts : ∀ w ∈ lw_all, w.before args s = true) (hG : gK E s) (hX0 : va_X b L xs s s.heap) (hbl : b < s.heap.size) (hbA : ¬ gA E b)
    {w : wd} {H : Heap} {locs : List Loc} {ls : Array Slot} {x y o od N mn cn nb i9 c0 s0 : Nat} {f : Nat → Int32} {a : Nat → Nat → Int32} {ad : Nat → Nat} {v : Int64} {v2 : UInt64} (hL : L ≤ 120) (hi : i9 + 5 ≤ L) (hN9 : N + 71 * 31 * 32 < 2 ^ 31) (hc0 : c0 + 7000 ≤ 1200144) (hs0 : s0 + 23000 ≤ 5497402)
    (hC : coS E w x N f a mn cn nb) (hT : tM E w y ad f a) (hO : lA E w o v) (hD : dA E w od v2) (hP : wP E w H) (hS : va_S (gA E) s.heap H locs) (hl : lv_has ls 9 [(0, .ref b), (1, .ref x), (2, .ref y), (3, .ref o), (4, .ref od), (5, .int (nI i9))])
    (kk : ∀ (w1 : wd) (H1 : Heap) (locs1 : List Loc) (ls1 : Array Slot) (f1 : Nat → Int32) (a1 : Nat → Nat → Int32) (mn1 cn1 nb1 : Nat) (v1 : Int64) (v21 : UInt64), coS E w1 x (N + 64000) f1 a1 mn1 cn1 nb1 → tM E w1 y ad f1 a1 → lA E w1 o v1 → dA E w1 od v21 → wP E w1 H1 → va_S (gA E) s.heap H1 locs1 → lv_has ls1 9 [(0, .ref b), (1, .ref x), (2, .ref y), (3, .ref o), (4, .ref od), (5, .int (nI i9))] → W p l0 e room_1 s m args below meth c H1 locs1 (c0 + 7000) (s0 + 23000) Q (F0 m 1904 ls1 [])) :
    W p l0 e room_1 s m args below meth c H locs c0 s0 Q (F0 m 1603 ls []) := by
  obtain ⟨⟨n9, n6, n7, n11⟩, ⟨n60, c8⟩, ⟨m25, m6⟩, gI0⟩ := hC.nums
  refine lv_aload_n hx hb dL_law_1603 rfl (lv_at hl 1 rfl) ?_
  refine lv_aload_n hx hb dL_law_1604 rfl (lv_at hl 0 rfl) ?_
  refine lv_iload hx hb dL_law_1605 (lv_at hl 5 rfl) ?_
  refine lv_iconst (v := 1) hx hb dL_law_1607 (by decide) ?_
  refine k_iaddN (x := i9) (y := 1) hx hb dL_law_1608 ?_
  refine va_sld hx hb hX0 hbl hbA hS (vp_in_nI (n := i9 + 1) (N := L) (by omega) (by omega)) dL_law_1609 ?_
  rw [nI_clamp (show i9 + 1 < 2 ^ 31 from by omega)]
  refine lv_aload_n hx hb dL_law_1610 rfl (lv_at hl 3 rfl) ?_
  refine kx_cSH hx hb hml hown hts (CX0_account l0 hl0 E w x o f a mn cn nb N v (xs (i9 + 1)) hC hO) (vx_cwSW 3 hts (lw_SW q1521 q1522 q68 q1523) rfl rfl rfl dyX0_account ⟨Nat.le_of_ble_eq_true rfl, Nat.le_of_ble_eq_true rfl⟩) hG hP hS (As := [.ref x, .int (xs (i9 + 1)), .ref o]) (rest := []) rfl hl.1 rfl (lv_room (Nat.le_of_ble_eq_true rfl)) dL_law_1611 ⟨show c0 + 40 ≤ 1200144 from by omega, show s0 + 220 ≤ 5497402 from by omega⟩ (fun r1611 w1 H locs hp hP hS => ?_)
  obtain ⟨v9_1, hp0, ⟨hO', hC', -⟩, hf9⟩ := hp
  have hT : tM E w1 y ad f a := hT.fr hf9 (fun t9 h9 => by simp only [pW, pWd, pO, pN, pXs] at h9; first | omega | (subst h9; decide))
  have hD : dA E w1 od v2 := hD.fr hf9 (by intro z9; simp [pO, pN, pW, pWd, tP, pXs] at z9)
  have hO : lA E w1 o v9_1 := hO'
  have hC : coS E w1 x N f a mn cn nb := hC'
  show W p l0 e room_1 s m args below meth c H locs (c0 + 40) (s0 + 220) Q (F0 m 1614 ls [.int r1611])
  obtain ⟨hk0, hk1⟩ := hp0
  refine lv_istore (lv' := [(6, .int r1611), (0, .ref b), (1, .ref x), (2, .ref y), (3, .ref o), (4, .ref od), (5, .int (nI i9))]) hx hb dL_law_1614 hl (by decide) rfl (fun ls hl => ?_)
  refine lv_aload_n hx hb dL_law_1616 rfl (lv_at hl 3 rfl) ?_
  refine lv_aload_n hx hb dL_law_1617 rfl (lv_at hl 1 rfl) ?_
  refine lv_iload hx hb dL_law_1618 (lv_at hl 6 rfl) ?_
  refine lv_iconst (v := 1) hx hb dL_law_1620 (by decide) ?_
  refine k_iaddN (x := i9) (y := 1) hx hb dL_law_1621 ?_
  refine va_sld hx hb hX0 hbl hbA hS (vp_in_nI (n := i9 + 1) (N := L) (by omega) (by omega)) dL_law_1622 ?_
  rw [nI_clamp (show i9 + 1 < 2 ^ 31 from by omega)]
  refine k_cV hx hb hml hown hts (CX6_account l0 E w1 y ad f a (xs (i9 + 1)) cn mn hT n6 c8 m6 m25) (cwV 1 hts (lw_V q1921 q1922 q1923 q81 q1924) rfl rfl rfl dyX6_account ⟨Nat.le_of_ble_eq_true rfl, Nat.le_of_ble_eq_true rfl⟩) hG hP hS hT.1 rfl (As := [.int (xs (i9 + 1))]) (rest := []) rfl hl.1 rfl (lv_room (Nat.le_of_ble_eq_true rfl)) dL_law_1623 ⟨show (c0 + 40) + 0 ≤ 1200144 from by omega, show (s0 + 220) + 0 ≤ 5497402 from by omega⟩ (fun r1623 w2 H locs hp hP hS => ?_)
  obtain ⟨f1, a1, hz, hT', hf9⟩ := hp
  have hC : coS E w2 x N f a mn cn nb := hC.fr hf9 (fun t9 h9 => by simp only [tP, pO, pXs] at h9; omega)
  have hO : lA E w2 o v9_1 := hO.fr hf9 (by intro z9; simp [pO, pN, pW, pWd, tP, pXs] at z9)
  have hD : dA E w2 od v2 := hD.fr hf9 (by intro z9; simp [pO, pN, pW, pWd, tP, pXs] at z9)
  have hT : tM E w2 y ad f1 a1 := hT'
  obtain ⟨hr7, hf7, ha7⟩ := hz
  have hth : f1 13 = _ := (congrFun hf7 13).trans (up_s _ _ _)
  have hco := (hC.mono (show _ ≤ N + 64000 from by omega)).co (f1 := f1) (a1 := a1) (by rw [ha7]) (by rw [ha7]) (by rw [ha7]) (by rw [ha7]) (fun j hj => by rw [hf7]; exact up_n (by omega))
  have hans := hr7
  show W p l0 e room_1 s m args below meth c H locs (c0 + 40) (s0 + 220) Q (F0 m 1626 ls [.int r1623])
  refine lv_istore (lv' := [(7, .int r1623), (6, .int r1611), (0, .ref b), (1, .ref x), (2, .ref y), (3, .ref o), (4, .ref od), (5, .int (nI i9))]) hx hb dL_law_1626 hl (by decide) rfl (fun ls hl => ?_)
  refine lv_aload_n hx hb dL_law_1628 rfl (lv_at hl 4 rfl) ?_
  refine k_cV hx hb hml hown hts (CX6_thrown l0 E w2 y ad f1 a1 hT) (cwV 0 hts (lw_V q1681 q1682 q1683 q81 q1684) rfl rfl rfl dyX6_thrown ⟨Nat.le_of_ble_eq_true rfl, Nat.le_of_ble_eq_true rfl⟩) hG hP hS hT.1 rfl (As := []) (rest := []) rfl hl.1 rfl (lv_room (Nat.le_of_ble_eq_true rfl)) dL_law_1629 ⟨show (c0 + 40) + 0 ≤ 1200144 from by omega, show (s0 + 220) + 0 ≤ 5497402 from by omega⟩ (fun r1629 w3 H locs hp hP hS => ?_)
  obtain ⟨hp1, hp0⟩ := hp
  rw [hp1] at hP
  rw [hp0, hth, ← hk0]
  show W p l0 e room_1 s m args below meth c H locs (c0 + 40) (s0 + 220) Q (F0 m 1632 ls [.int r1611])
  refine lv_iload hx hb dL_law_1632 (lv_at hl 1 rfl) ?_
  refine lv_icmp_eq (tgt := 1639) hx hb dL_law_1634 (by decide) (fun c1634 => ?_) (fun c1634 => ?_)
  · skip
    refine lv_iload hx hb dL_law_1639 (lv_at hl 1 rfl) ?_
    refine lv_if_ne (tgt := 1656) hx hb dL_law_1641 (by decide) (fun c1641 => ?_) (fun c1641 => ?_)
    · skip
      refine lv_goto (tgt := 1904) hx hb dL_law_1656 (by decide) ?_
      refine W.widen (show (c0 + 40) ≤ c0 + 7000 from by omega) (show (s0 + 220) ≤ s0 + 23000 from by omega) ?_
      exact kk _ H locs ls _ _ _ _ _ _ _ hco hT hO hD hP hS (lv_drop hl (by simp))
    · skip
      have hv9 := hk1 (hk0.symm.trans c1641)
      have hans9 := hans
      rw [hv9, ← hans9] at hO
      have hO : lA E w2 o (r1623).toInt64 := hO
      refine lv_aload_n hx hb dL_law_1644 rfl (lv_at hl 5 rfl) ?_
      refine lv_iconst (v := 0) hx hb dL_law_1645 (by decide) ?_
      refine k_lald hx hb hG hP hO dL_law_1646 ?_
      refine lv_iload hx hb dL_law_1647 (lv_at hl 0 rfl) ?_
      refine lv_i2l hx hb dL_law_1649 rfl ?_
      refine lv_lcmpE hx hb dL_law_1650 ?_
      refine lv_if_eq (tgt := 1656) hx hb dL_law_1651 (by decide) (fun c1651 => ?_) (fun c1651 => ?_)
      · skip
        refine lv_goto (tgt := 1904) hx hb dL_law_1656 (by decide) ?_
        refine W.widen (show (c0 + 40) ≤ c0 + 7000 from by omega) (show (s0 + 220) ≤ s0 + 23000 from by omega) ?_
        exact kk _ H locs ls _ _ _ _ _ _ _ hco hT hO hD hP hS (lv_drop hl (by simp))
      · skip
        exact absurd c1651 (by decide)
  · skip
    exact absurd rfl c1634

set_option maxHeartbeats 4000000 in
theorem law_read {p : Program} {e : Env} {s : State} {m : MethodId} {args : Array Value} {below : List Frame} {meth : Method} {c : Code} {E : gE} {b L : Nat} {xs : Nat → Int32} {Q : State → Prop} (l0 : Launch) (hl0 : l0.stackTraces = false) (hx : p.tables.exec = Jvm.exec) (hb : c.code = cL_law) (hml : c.maxLocals = 9) (hown : s.vm.findClass "KiteRoofsLaw" = some m.cls) (hts : ∀ w ∈ lw_all, w.before args s = true) (hG : gK E s) (hX0 : va_X b L xs s s.heap) (hbl : b < s.heap.size) (hbA : ¬ gA E b)
    {w : wd} {H : Heap} {locs : List Loc} {ls : Array Slot} {x y o od N mn cn nb i9 c0 s0 : Nat} {f : Nat → Int32} {a : Nat → Nat → Int32} {ad : Nat → Nat} {v : Int64} {v2 : UInt64} (hL : L ≤ 120) (hi : i9 + 5 ≤ L) (hN9 : N + 71 * 31 * 32 < 2 ^ 31) (hc0 : c0 + 7000 ≤ 1200144) (hs0 : s0 + 23000 ≤ 5497402)
    (hC : coS E w x N f a mn cn nb) (hT : tM E w y ad f a) (hO : lA E w o v) (hD : dA E w od v2) (hP : wP E w H) (hS : va_S (gA E) s.heap H locs) (hl : lv_has ls 9 [(0, .ref b), (1, .ref x), (2, .ref y), (3, .ref o), (4, .ref od), (5, .int (nI i9))])
    (kk : ∀ (w1 : wd) (H1 : Heap) (locs1 : List Loc) (ls1 : Array Slot) (f1 : Nat → Int32) (a1 : Nat → Nat → Int32) (mn1 cn1 nb1 : Nat) (v1 : Int64) (v21 : UInt64), coS E w1 x (N + 64000) f1 a1 mn1 cn1 nb1 → tM E w1 y ad f1 a1 → lA E w1 o v1 → dA E w1 od v21 → wP E w1 H1 → va_S (gA E) s.heap H1 locs1 → lv_has ls1 9 [(0, .ref b), (1, .ref x), (2, .ref y), (3, .ref o), (4, .ref od), (5, .int (nI i9))] → W p l0 e room_1 s m args below meth c H1 locs1 (c0 + 7000) (s0 + 23000) Q (F0 m 1904 ls1 [])) :
    W p l0 e room_1 s m args below meth c H locs c0 s0 Q (F0 m 1474 ls []) := by
  obtain ⟨⟨n9, n6, n7, n11⟩, ⟨n60, c8⟩, ⟨m25, m6⟩, gI0⟩ := hC.nums
  refine lv_aload_n hx hb dL_law_1474 rfl (lv_at hl 1 rfl) ?_
  refine lv_aload_n hx hb dL_law_1475 rfl (lv_at hl 3 rfl) ?_
  refine kx_cSH hx hb hml hown hts (CX0_read l0 hl0 E w x o f a mn cn nb N v hN9 hC hO) (vx_cwSW 2 hts (lw_SW q1179 q1180 q68 q1181) rfl rfl rfl dyX0_read ⟨Nat.le_of_ble_eq_true rfl, Nat.le_of_ble_eq_true rfl⟩) hG hP hS (As := [.ref x, .ref o]) (rest := []) rfl hl.1 rfl (lv_room (Nat.le_of_ble_eq_true rfl)) dL_law_1476 ⟨show c0 + 6900 ≤ 1200144 from by omega, show s0 + 22700 ≤ 5497402 from by omega⟩ (fun r1476 w1 H locs hp hP hS => ?_)
  obtain ⟨v9_1, m9_2, c9_3, hp0, ⟨hO', hC', -⟩, hf9⟩ := hp
  have hT : tM E w1 y ad f a := hT.fr hf9 (fun t9 h9 => by simp only [pW, pWd, pO, pN, pXs] at h9; first | omega | (subst h9; decide))
  have hD : dA E w1 od v2 := hD.fr hf9 (by intro z9; simp [pO, pN, pW, pWd, tP, pXs] at z9)
  have hO : lA E w1 o v9_1 := hO'
  have hC : coS E w1 x (N + 63900) (rdF f cn (cTx (a 8) nb 61 0 0 (fun _ _ => 0)) (cRo (cTx (a 8) nb 61 0 0 (fun _ _ => 0)).2.2.2 (cTx (a 8) nb 61 0 0 (fun _ _ => 0)).2.2.1 0 (a 0) mn)) (rdA a cn (cTx (a 8) nb 61 0 0 (fun _ _ => 0)) (cRo (cTx (a 8) nb 61 0 0 (fun _ _ => 0)).2.2.2 (cTx (a 8) nb 61 0 0 (fun _ _ => 0)).2.2.1 0 (a 0) mn)) m9_2 c9_3 0 := hC'
  show W p l0 e room_1 s m args below meth c H locs (c0 + 6900) (s0 + 22700) Q (F0 m 1479 ls [.int r1476])
  obtain ⟨hk0, hk1⟩ := hp0
  refine lv_istore (lv' := [(6, .int r1476), (0, .ref b), (1, .ref x), (2, .ref y), (3, .ref o), (4, .ref od), (5, .int (nI i9))]) hx hb dL_law_1479 hl (by decide) rfl (fun ls hl => ?_)
  refine lv_aload_n hx hb dL_law_1481 rfl (lv_at hl 3 rfl) ?_
  refine k_cV hx hb hml hown hts (CX6_read l0 E w1 y ad f a nb cn mn hT n9 n60 n7 n6 c8 m6 m25) (cwV 0 hts (lw_V q1872 q1873 q1874 q81 q1875) rfl rfl rfl dyX6_read ⟨Nat.le_of_ble_eq_true rfl, Nat.le_of_ble_eq_true rfl⟩) hG hP hS hT.1 rfl (As := []) (rest := []) rfl hl.1 rfl (lv_room (Nat.le_of_ble_eq_true rfl)) dL_law_1482 ⟨show (c0 + 6900) + 0 ≤ 1200144 from by omega, show (s0 + 22700) + 0 ≤ 5497402 from by omega⟩ (fun r1482 w2 H locs hp hP hS => ?_)
  obtain ⟨f1, a1, hz, hT', hf9⟩ := hp
  have hC : coS E w2 x (N + 63900) (rdF f cn (cTx (a 8) nb 61 0 0 (fun _ _ => 0)) (cRo (cTx (a 8) nb 61 0 0 (fun _ _ => 0)).2.2.2 (cTx (a 8) nb 61 0 0 (fun _ _ => 0)).2.2.1 0 (a 0) mn)) (rdA a cn (cTx (a 8) nb 61 0 0 (fun _ _ => 0)) (cRo (cTx (a 8) nb 61 0 0 (fun _ _ => 0)).2.2.2 (cTx (a 8) nb 61 0 0 (fun _ _ => 0)).2.2.1 0 (a 0) mn)) m9_2 c9_3 0 := hC.fr hf9 (fun t9 h9 => by simp only [tP, pO, pXs] at h9; omega)
  have hO : lA E w2 o v9_1 := hO.fr hf9 (by intro z9; simp [pO, pN, pW, pWd, tP, pXs] at z9)
  have hD : dA E w2 od v2 := hD.fr hf9 (by intro z9; simp [pO, pN, pW, pWd, tP, pXs] at z9)
  have hT : tM E w2 y ad f1 a1 := hT'
  obtain ⟨T9, hT9, hz⟩ := hz
  obtain ⟨qx, hqx⟩ : ∃ q, q = (cTx (a 8) nb 61 0 0 (fun _ _ => 0)) := ⟨_, rfl⟩
  obtain ⟨R9, hR9⟩ : ∃ q, q = cRo qx.2.2.2 qx.2.2.1 0 (a 0) mn := ⟨_, rfl⟩
  rw [← hqx, ← hR9] at hC hk0 hk1
  have hrd := read_eq n60 gI0 (by omega) n7 hT9 hqx hR9 hz
  obtain ⟨hth, hans, q0, q1, q2, q8, qf⟩ := hrd
  have hco := (hC.mono (show _ ≤ N + 64000 from by omega)).co (f1 := f1) (a1 := a1) q0 q1 q2 q8 qf
  show W p l0 e room_1 s m args below meth c H locs (c0 + 6900) (s0 + 22700) Q (F0 m 1485 ls [.int r1482])
  refine lv_istore (lv' := [(7, .int r1482), (6, .int r1476), (0, .ref b), (1, .ref x), (2, .ref y), (3, .ref o), (4, .ref od), (5, .int (nI i9))]) hx hb dL_law_1485 hl (by decide) rfl (fun ls hl => ?_)
  refine lv_aload_n hx hb dL_law_1487 rfl (lv_at hl 4 rfl) ?_
  refine k_cV hx hb hml hown hts (CX6_thrown l0 E w2 y ad f1 a1 hT) (cwV 0 hts (lw_V q1681 q1682 q1683 q81 q1684) rfl rfl rfl dyX6_thrown ⟨Nat.le_of_ble_eq_true rfl, Nat.le_of_ble_eq_true rfl⟩) hG hP hS hT.1 rfl (As := []) (rest := []) rfl hl.1 rfl (lv_room (Nat.le_of_ble_eq_true rfl)) dL_law_1488 ⟨show (c0 + 6900) + 0 ≤ 1200144 from by omega, show (s0 + 22700) + 0 ≤ 5497402 from by omega⟩ (fun r1488 w3 H locs hp hP hS => ?_)
  obtain ⟨hp1, hp0⟩ := hp
  rw [hp1] at hP
  rw [hp0, hth, ← hk0]
  show W p l0 e room_1 s m args below meth c H locs (c0 + 6900) (s0 + 22700) Q (F0 m 1491 ls [.int r1476])
  refine lv_iload hx hb dL_law_1491 (lv_at hl 1 rfl) ?_
  refine lv_icmp_eq (tgt := 1498) hx hb dL_law_1493 (by decide) (fun c1493 => ?_) (fun c1493 => ?_)
  · skip
    refine lv_iload hx hb dL_law_1498 (lv_at hl 1 rfl) ?_
    refine lv_if_ne (tgt := 1515) hx hb dL_law_1500 (by decide) (fun c1500 => ?_) (fun c1500 => ?_)
    · skip
      refine lv_goto (tgt := 1904) hx hb dL_law_1515 (by decide) ?_
      refine W.widen (show (c0 + 6900) ≤ c0 + 7000 from by omega) (show (s0 + 22700) ≤ s0 + 23000 from by omega) ?_
      exact kk _ H locs ls _ _ _ _ _ _ _ hco hT hO hD hP hS (lv_drop hl (by simp))
    · skip
      have hv9 := hk1 (hk0.symm.trans c1500)
      have hans9 := hans (hk0.symm.trans c1500)
      rw [hv9, ← hans9] at hO
      have hO : lA E w2 o (r1482).toInt64 := hO
      refine lv_aload_n hx hb dL_law_1503 rfl (lv_at hl 5 rfl) ?_
      refine lv_iconst (v := 0) hx hb dL_law_1504 (by decide) ?_
      refine k_lald hx hb hG hP hO dL_law_1505 ?_
      refine lv_iload hx hb dL_law_1506 (lv_at hl 0 rfl) ?_
      refine lv_i2l hx hb dL_law_1508 rfl ?_
      refine lv_lcmpE hx hb dL_law_1509 ?_
      refine lv_if_eq (tgt := 1515) hx hb dL_law_1510 (by decide) (fun c1510 => ?_) (fun c1510 => ?_)
      · skip
        refine lv_goto (tgt := 1904) hx hb dL_law_1515 (by decide) ?_
        refine W.widen (show (c0 + 6900) ≤ c0 + 7000 from by omega) (show (s0 + 22700) ≤ s0 + 23000 from by omega) ?_
        exact kk _ H locs ls _ _ _ _ _ _ _ hco hT hO hD hP hS (lv_drop hl (by simp))
      · skip
        exact absurd c1510 (by decide)
  · skip
    exact absurd rfl c1493

set_option maxHeartbeats 4000000 in
theorem law_round {p : Program} {e : Env} {s : State} {m : MethodId} {args : Array Value} {below : List Frame} {meth : Method} {c : Code} {E : gE} {b L : Nat} {xs : Nat → Int32} {Q : State → Prop} (l0 : Launch) (hl0 : l0.stackTraces = false) (hx : p.tables.exec = Jvm.exec) (hb : c.code = cL_law) (hml : c.maxLocals = 9) (hown : s.vm.findClass "KiteRoofsLaw" = some m.cls) (hts : ∀ w ∈ lw_all, w.before args s = true) (hG : gK E s) (hX0 : va_X b L xs s s.heap) (hbl : b < s.heap.size) (hbA : ¬ gA E b)
    {w : wd} {H : Heap} {locs : List Loc} {ls : Array Slot} {x y o od N mn cn nb i9 c0 s0 : Nat} {f : Nat → Int32} {a : Nat → Nat → Int32} {ad : Nat → Nat} {v : Int64} {v2 : UInt64} (hL : L ≤ 120) (hi : i9 + 5 ≤ L) (hN9 : N + 71 * 31 * 32 < 2 ^ 31) (hc0 : c0 + 7000 ≤ 1200144) (hs0 : s0 + 23000 ≤ 5497402)
    (hC : coS E w x N f a mn cn nb) (hT : tM E w y ad f a) (hO : lA E w o v) (hD : dA E w od v2) (hP : wP E w H) (hS : va_S (gA E) s.heap H locs) (hl : lv_has ls 9 [(0, .ref b), (1, .ref x), (2, .ref y), (3, .ref o), (4, .ref od), (5, .int (nI i9))])
    (kk : ∀ (w1 : wd) (H1 : Heap) (locs1 : List Loc) (ls1 : Array Slot) (f1 : Nat → Int32) (a1 : Nat → Nat → Int32) (mn1 cn1 nb1 : Nat) (v1 : Int64) (v21 : UInt64), coS E w1 x (N + 64000) f1 a1 mn1 cn1 nb1 → tM E w1 y ad f1 a1 → lA E w1 o v1 → dA E w1 od v21 → wP E w1 H1 → va_S (gA E) s.heap H1 locs1 → lv_has ls1 9 [(0, .ref b), (1, .ref x), (2, .ref y), (3, .ref o), (4, .ref od), (5, .int (nI i9))] → W p l0 e room_1 s m args below meth c H1 locs1 (c0 + 7000) (s0 + 23000) Q (F0 m 1904 ls1 [])) :
    W p l0 e room_1 s m args below meth c H locs c0 s0 Q (F0 m 1112 ls []) := by
  obtain ⟨⟨n9, n6, n7, n11⟩, ⟨n60, c8⟩, ⟨m25, m6⟩, gI0⟩ := hC.nums
  refine lv_aload_n hx hb dL_law_1112 rfl (lv_at hl 1 rfl) ?_
  refine lv_aload_n hx hb dL_law_1113 rfl (lv_at hl 0 rfl) ?_
  refine lv_iload hx hb dL_law_1114 (lv_at hl 5 rfl) ?_
  refine lv_iconst (v := 1) hx hb dL_law_1116 (by decide) ?_
  refine k_iaddN (x := i9) (y := 1) hx hb dL_law_1117 ?_
  refine va_sld hx hb hX0 hbl hbA hS (vp_in_nI (n := i9 + 1) (N := L) (by omega) (by omega)) dL_law_1118 ?_
  rw [nI_clamp (show i9 + 1 < 2 ^ 31 from by omega)]
  refine lv_aload_n hx hb dL_law_1119 rfl (lv_at hl 3 rfl) ?_
  refine kx_cSH hx hb hml hown hts (CX0_round l0 hl0 E w x o f a mn cn nb N v (xs (i9 + 1)) (by omega) hC hO) (vx_cwSW 3 hts (lw_SW q953 q954 q68 q955) rfl rfl rfl dyX0_round ⟨Nat.le_of_ble_eq_true rfl, Nat.le_of_ble_eq_true rfl⟩) hG hP hS (As := [.ref x, .int (xs (i9 + 1)), .ref o]) (rest := []) rfl hl.1 rfl (lv_room (Nat.le_of_ble_eq_true rfl)) dL_law_1120 ⟨show c0 + 240 ≤ 1200144 from by omega, show s0 + 800 ≤ 5497402 from by omega⟩ (fun r1120 w1 H locs hp hP hS => ?_)
  obtain ⟨v9_1, m9_2, c9_3, hp0, ⟨hO', hC', -⟩, hf9⟩ := hp
  have hT : tM E w1 y ad f a := hT.fr hf9 (fun t9 h9 => by simp only [pW, pWd, pO, pN, pXs] at h9; first | omega | (subst h9; decide))
  have hD : dA E w1 od v2 := hD.fr hf9 (by intro z9; simp [pO, pN, pW, pWd, tP, pXs] at z9)
  have hO : lA E w1 o v9_1 := hO'
  have hC : coS E w1 x (N + 2201) (oF f cn (qRound (a 0) mn (xs (i9 + 1)))) (oA f a cn (qRound (a 0) mn (xs (i9 + 1)))) m9_2 c9_3 nb := hC'
  show W p l0 e room_1 s m args below meth c H locs (c0 + 240) (s0 + 800) Q (F0 m 1123 ls [.int r1120])
  obtain ⟨hk0, hk1⟩ := hp0
  refine lv_istore (lv' := [(6, .int r1120), (0, .ref b), (1, .ref x), (2, .ref y), (3, .ref o), (4, .ref od), (5, .int (nI i9))]) hx hb dL_law_1123 hl (by decide) rfl (fun ls hl => ?_)
  refine lv_aload_n hx hb dL_law_1125 rfl (lv_at hl 3 rfl) ?_
  refine lv_aload_n hx hb dL_law_1126 rfl (lv_at hl 1 rfl) ?_
  refine lv_iload hx hb dL_law_1127 (lv_at hl 6 rfl) ?_
  refine lv_iconst (v := 1) hx hb dL_law_1129 (by decide) ?_
  refine k_iaddN (x := i9) (y := 1) hx hb dL_law_1130 ?_
  refine va_sld hx hb hX0 hbl hbA hS (vp_in_nI (n := i9 + 1) (N := L) (by omega) (by omega)) dL_law_1131 ?_
  rw [nI_clamp (show i9 + 1 < 2 ^ 31 from by omega)]
  refine k_cV hx hb hml hown hts (CX6_round l0 E w1 y ad f a (xs (i9 + 1)) cn mn hT n6 c8 m6 m25) (cwV 1 hts (lw_V q1832 q1833 q1834 q81 q1835) rfl rfl rfl dyX6_round ⟨Nat.le_of_ble_eq_true rfl, Nat.le_of_ble_eq_true rfl⟩) hG hP hS hT.1 rfl (As := [.int (xs (i9 + 1))]) (rest := []) rfl hl.1 rfl (lv_room (Nat.le_of_ble_eq_true rfl)) dL_law_1132 ⟨show (c0 + 240) + 0 ≤ 1200144 from by omega, show (s0 + 800) + 0 ≤ 5497402 from by omega⟩ (fun r1132 w2 H locs hp hP hS => ?_)
  obtain ⟨f1, a1, hz, hT', hf9⟩ := hp
  have hC : coS E w2 x (N + 2201) (oF f cn (qRound (a 0) mn (xs (i9 + 1)))) (oA f a cn (qRound (a 0) mn (xs (i9 + 1)))) m9_2 c9_3 nb := hC.fr hf9 (fun t9 h9 => by simp only [tP, pO, pXs] at h9; omega)
  have hO : lA E w2 o v9_1 := hO.fr hf9 (by intro z9; simp [pO, pN, pW, pWd, tP, pXs] at z9)
  have hD : dA E w2 od v2 := hD.fr hf9 (by intro z9; simp [pO, pN, pW, pWd, tP, pXs] at z9)
  have hT : tM E w2 y ad f1 a1 := hT'
  obtain ⟨x9, y9, z9, hr7, hf7, ha7⟩ := hz
  have hth : f1 13 = _ := (congrFun hf7 13).trans (oF_13 (f := f) (ch := cn) (Q := (qRound (a 0) mn (xs (i9 + 1)))))
  have hco := (hC.mono (show _ ≤ N + 64000 from by omega)).co (f1 := f1) (a1 := a1) (by rw [ha7]; simp [va_up]) (by rw [ha7]; simp [va_up]) (by rw [ha7]; simp [va_up]) (by rw [ha7]; simp [va_up]) (fun j hj => by rw [hf7])
  have hans := hr7
  show W p l0 e room_1 s m args below meth c H locs (c0 + 240) (s0 + 800) Q (F0 m 1135 ls [.int r1132])
  refine lv_istore (lv' := [(7, .int r1132), (6, .int r1120), (0, .ref b), (1, .ref x), (2, .ref y), (3, .ref o), (4, .ref od), (5, .int (nI i9))]) hx hb dL_law_1135 hl (by decide) rfl (fun ls hl => ?_)
  refine lv_aload_n hx hb dL_law_1137 rfl (lv_at hl 4 rfl) ?_
  refine k_cV hx hb hml hown hts (CX6_thrown l0 E w2 y ad f1 a1 hT) (cwV 0 hts (lw_V q1681 q1682 q1683 q81 q1684) rfl rfl rfl dyX6_thrown ⟨Nat.le_of_ble_eq_true rfl, Nat.le_of_ble_eq_true rfl⟩) hG hP hS hT.1 rfl (As := []) (rest := []) rfl hl.1 rfl (lv_room (Nat.le_of_ble_eq_true rfl)) dL_law_1138 ⟨show (c0 + 240) + 0 ≤ 1200144 from by omega, show (s0 + 800) + 0 ≤ 5497402 from by omega⟩ (fun r1138 w3 H locs hp hP hS => ?_)
  obtain ⟨hp1, hp0⟩ := hp
  rw [hp1] at hP
  rw [hp0, hth, ← hk0]
  show W p l0 e room_1 s m args below meth c H locs (c0 + 240) (s0 + 800) Q (F0 m 1141 ls [.int r1120])
  refine lv_iload hx hb dL_law_1141 (lv_at hl 1 rfl) ?_
  refine lv_icmp_eq (tgt := 1148) hx hb dL_law_1143 (by decide) (fun c1143 => ?_) (fun c1143 => ?_)
  · skip
    refine lv_iload hx hb dL_law_1148 (lv_at hl 1 rfl) ?_
    refine lv_if_ne (tgt := 1165) hx hb dL_law_1150 (by decide) (fun c1150 => ?_) (fun c1150 => ?_)
    · skip
      refine lv_goto (tgt := 1904) hx hb dL_law_1165 (by decide) ?_
      refine W.widen (show (c0 + 240) ≤ c0 + 7000 from by omega) (show (s0 + 800) ≤ s0 + 23000 from by omega) ?_
      exact kk _ H locs ls _ _ _ _ _ _ _ hco hT hO hD hP hS (lv_drop hl (by simp))
    · skip
      have hv9 := hk1 (hk0.symm.trans c1150)
      have hans9 := hans
      rw [hv9, ← hans9] at hO
      have hO : lA E w2 o (r1132).toInt64 := hO
      refine lv_aload_n hx hb dL_law_1153 rfl (lv_at hl 5 rfl) ?_
      refine lv_iconst (v := 0) hx hb dL_law_1154 (by decide) ?_
      refine k_lald hx hb hG hP hO dL_law_1155 ?_
      refine lv_iload hx hb dL_law_1156 (lv_at hl 0 rfl) ?_
      refine lv_i2l hx hb dL_law_1158 rfl ?_
      refine lv_lcmpE hx hb dL_law_1159 ?_
      refine lv_if_eq (tgt := 1165) hx hb dL_law_1160 (by decide) (fun c1160 => ?_) (fun c1160 => ?_)
      · skip
        refine lv_goto (tgt := 1904) hx hb dL_law_1165 (by decide) ?_
        refine W.widen (show (c0 + 240) ≤ c0 + 7000 from by omega) (show (s0 + 800) ≤ s0 + 23000 from by omega) ?_
        exact kk _ H locs ls _ _ _ _ _ _ _ hco hT hO hD hP hS (lv_drop hl (by simp))
      · skip
        exact absurd c1160 (by decide)
  · skip
    exact absurd rfl c1143

set_option maxHeartbeats 4000000 in
theorem law_cutIn {p : Program} {e : Env} {s : State} {m : MethodId} {args : Array Value} {below : List Frame} {meth : Method} {c : Code} {E : gE} {b L : Nat} {xs : Nat → Int32} {Q : State → Prop} (l0 : Launch) (hl0 : l0.stackTraces = false) (hx : p.tables.exec = Jvm.exec) (hb : c.code = cL_law) (hml : c.maxLocals = 9) (hown : s.vm.findClass "KiteRoofsLaw" = some m.cls) (hts : ∀ w ∈ lw_all, w.before args s = true) (hG : gK E s) (hX0 : va_X b L xs s s.heap) (hbl : b < s.heap.size) (hbA : ¬ gA E b)
    {w : wd} {H : Heap} {locs : List Loc} {ls : Array Slot} {x y o od N mn cn nb i9 c0 s0 : Nat} {f : Nat → Int32} {a : Nat → Nat → Int32} {ad : Nat → Nat} {v : Int64} {v2 : UInt64} (hL : L ≤ 120) (hi : i9 + 5 ≤ L) (hN9 : N + 71 * 31 * 32 < 2 ^ 31) (hc0 : c0 + 7000 ≤ 1200144) (hs0 : s0 + 23000 ≤ 5497402)
    (hC : coS E w x N f a mn cn nb) (hT : tM E w y ad f a) (hO : lA E w o v) (hD : dA E w od v2) (hP : wP E w H) (hS : va_S (gA E) s.heap H locs) (hl : lv_has ls 9 [(0, .ref b), (1, .ref x), (2, .ref y), (3, .ref o), (4, .ref od), (5, .int (nI i9))])
    (kk : ∀ (w1 : wd) (H1 : Heap) (locs1 : List Loc) (ls1 : Array Slot) (f1 : Nat → Int32) (a1 : Nat → Nat → Int32) (mn1 cn1 nb1 : Nat) (v1 : Int64) (v21 : UInt64), coS E w1 x (N + 64000) f1 a1 mn1 cn1 nb1 → tM E w1 y ad f1 a1 → lA E w1 o v1 → dA E w1 od v21 → wP E w1 H1 → va_S (gA E) s.heap H1 locs1 → lv_has ls1 9 [(0, .ref b), (1, .ref x), (2, .ref y), (3, .ref o), (4, .ref od), (5, .int (nI i9))] → W p l0 e room_1 s m args below meth c H1 locs1 (c0 + 7000) (s0 + 23000) Q (F0 m 1904 ls1 [])) :
    W p l0 e room_1 s m args below meth c H locs c0 s0 Q (F0 m 1168 ls []) := by
  obtain ⟨⟨n9, n6, n7, n11⟩, ⟨n60, c8⟩, ⟨m25, m6⟩, gI0⟩ := hC.nums
  refine lv_aload_n hx hb dL_law_1168 rfl (lv_at hl 1 rfl) ?_
  refine lv_aload_n hx hb dL_law_1169 rfl (lv_at hl 0 rfl) ?_
  refine lv_iload hx hb dL_law_1170 (lv_at hl 5 rfl) ?_
  refine lv_iconst (v := 1) hx hb dL_law_1172 (by decide) ?_
  refine k_iaddN (x := i9) (y := 1) hx hb dL_law_1173 ?_
  refine va_sld hx hb hX0 hbl hbA hS (vp_in_nI (n := i9 + 1) (N := L) (by omega) (by omega)) dL_law_1174 ?_
  rw [nI_clamp (show i9 + 1 < 2 ^ 31 from by omega)]
  refine lv_aload_n hx hb dL_law_1175 rfl (lv_at hl 0 rfl) ?_
  refine lv_iload hx hb dL_law_1176 (lv_at hl 5 rfl) ?_
  refine lv_iconst (v := 2) hx hb dL_law_1178 (by decide) ?_
  refine k_iaddN (x := i9) (y := 2) hx hb dL_law_1179 ?_
  refine va_sld hx hb hX0 hbl hbA hS (vp_in_nI (n := i9 + 2) (N := L) (by omega) (by omega)) dL_law_1180 ?_
  rw [nI_clamp (show i9 + 2 < 2 ^ 31 from by omega)]
  refine lv_aload_n hx hb dL_law_1181 rfl (lv_at hl 3 rfl) ?_
  refine kx_cSH hx hb hml hown hts (CX0_cutIn l0 hl0 E w x o f a mn cn nb N v (xs (i9 + 1)) (xs (i9 + 2)) (by omega) hC hO) (vx_cwSW 4 hts (lw_SW q1032 q1033 q68 q1034) rfl rfl rfl dyX0_cutIn ⟨Nat.le_of_ble_eq_true rfl, Nat.le_of_ble_eq_true rfl⟩) hG hP hS (As := [.ref x, .int (xs (i9 + 1)), .int (xs (i9 + 2)), .ref o]) (rest := []) rfl hl.1 rfl (lv_room (Nat.le_of_ble_eq_true rfl)) dL_law_1182 ⟨show c0 + 240 ≤ 1200144 from by omega, show s0 + 700 ≤ 5497402 from by omega⟩ (fun r1182 w1 H locs hp hP hS => ?_)
  obtain ⟨v9_1, hp0, ⟨hO', hC', -⟩, hf9⟩ := hp
  have hT : tM E w1 y ad f a := hT.fr hf9 (fun t9 h9 => by simp only [pW, pWd, pO, pN, pXs] at h9; first | omega | (subst h9; decide))
  have hD : dA E w1 od v2 := hD.fr hf9 (by intro z9; simp [pO, pN, pW, pWd, tP, pXs] at z9)
  have hO : lA E w1 o v9_1 := hO'
  have hC : coS E w1 x N (oC f (qCin (a 0) mn (xs (i9 + 1)) (xs (i9 + 2)))) a mn cn nb := hC'
  show W p l0 e room_1 s m args below meth c H locs (c0 + 240) (s0 + 700) Q (F0 m 1185 ls [.int r1182])
  obtain ⟨hk0, hk1⟩ := hp0
  refine lv_istore (lv' := [(6, .int r1182), (0, .ref b), (1, .ref x), (2, .ref y), (3, .ref o), (4, .ref od), (5, .int (nI i9))]) hx hb dL_law_1185 hl (by decide) rfl (fun ls hl => ?_)
  refine lv_aload_n hx hb dL_law_1187 rfl (lv_at hl 3 rfl) ?_
  refine lv_aload_n hx hb dL_law_1188 rfl (lv_at hl 1 rfl) ?_
  refine lv_iload hx hb dL_law_1189 (lv_at hl 6 rfl) ?_
  refine lv_iconst (v := 1) hx hb dL_law_1191 (by decide) ?_
  refine k_iaddN (x := i9) (y := 1) hx hb dL_law_1192 ?_
  refine va_sld hx hb hX0 hbl hbA hS (vp_in_nI (n := i9 + 1) (N := L) (by omega) (by omega)) dL_law_1193 ?_
  rw [nI_clamp (show i9 + 1 < 2 ^ 31 from by omega)]
  refine lv_aload_n hx hb dL_law_1194 rfl (lv_at hl 1 rfl) ?_
  refine lv_iload hx hb dL_law_1195 (lv_at hl 6 rfl) ?_
  refine lv_iconst (v := 2) hx hb dL_law_1197 (by decide) ?_
  refine k_iaddN (x := i9) (y := 2) hx hb dL_law_1198 ?_
  refine va_sld hx hb hX0 hbl hbA hS (vp_in_nI (n := i9 + 2) (N := L) (by omega) (by omega)) dL_law_1199 ?_
  rw [nI_clamp (show i9 + 2 < 2 ^ 31 from by omega)]
  refine k_cV hx hb hml hown hts (CX6_cutIn l0 E w1 y ad f a (xs (i9 + 1)) (xs (i9 + 2)) mn hT m6 m25) (cwV 2 hts (lw_V q1852 q1853 q1854 q81 q1855) rfl rfl rfl dyX6_cutIn ⟨Nat.le_of_ble_eq_true rfl, Nat.le_of_ble_eq_true rfl⟩) hG hP hS hT.1 rfl (As := [.int (xs (i9 + 1)), .int (xs (i9 + 2))]) (rest := []) rfl hl.1 rfl (lv_room (Nat.le_of_ble_eq_true rfl)) dL_law_1200 ⟨show (c0 + 240) + 0 ≤ 1200144 from by omega, show (s0 + 700) + 0 ≤ 5497402 from by omega⟩ (fun r1200 w2 H locs hp hP hS => ?_)
  obtain ⟨f1, a1, hz, hT', hf9⟩ := hp
  have hC : coS E w2 x N (oC f (qCin (a 0) mn (xs (i9 + 1)) (xs (i9 + 2)))) a mn cn nb := hC.fr hf9 (fun t9 h9 => by simp only [tP, pO, pXs] at h9; omega)
  have hO : lA E w2 o v9_1 := hO.fr hf9 (by intro z9; simp [pO, pN, pW, pWd, tP, pXs] at z9)
  have hD : dA E w2 od v2 := hD.fr hf9 (by intro z9; simp [pO, pN, pW, pWd, tP, pXs] at z9)
  have hT : tM E w2 y ad f1 a1 := hT'
  obtain ⟨t9, x9, y9, z9, hr7, hf7, ha7⟩ := hz
  have hth : f1 13 = _ := (congrFun hf7 13).trans oC_13
  have hco := (hC.mono (show _ ≤ N + 64000 from by omega)).co (f1 := f1) (a1 := a1) (by rw [ha7]; simp [va_up]) (by rw [ha7]; simp [va_up]) (by rw [ha7]; simp [va_up]) (by rw [ha7]; simp [va_up]) (fun j hj => by rw [hf7])
  have hans := hr7
  show W p l0 e room_1 s m args below meth c H locs (c0 + 240) (s0 + 700) Q (F0 m 1203 ls [.int r1200])
  refine lv_istore (lv' := [(7, .int r1200), (6, .int r1182), (0, .ref b), (1, .ref x), (2, .ref y), (3, .ref o), (4, .ref od), (5, .int (nI i9))]) hx hb dL_law_1203 hl (by decide) rfl (fun ls hl => ?_)
  refine lv_aload_n hx hb dL_law_1205 rfl (lv_at hl 4 rfl) ?_
  refine k_cV hx hb hml hown hts (CX6_thrown l0 E w2 y ad f1 a1 hT) (cwV 0 hts (lw_V q1681 q1682 q1683 q81 q1684) rfl rfl rfl dyX6_thrown ⟨Nat.le_of_ble_eq_true rfl, Nat.le_of_ble_eq_true rfl⟩) hG hP hS hT.1 rfl (As := []) (rest := []) rfl hl.1 rfl (lv_room (Nat.le_of_ble_eq_true rfl)) dL_law_1206 ⟨show (c0 + 240) + 0 ≤ 1200144 from by omega, show (s0 + 700) + 0 ≤ 5497402 from by omega⟩ (fun r1206 w3 H locs hp hP hS => ?_)
  obtain ⟨hp1, hp0⟩ := hp
  rw [hp1] at hP
  rw [hp0, hth, ← hk0]
  show W p l0 e room_1 s m args below meth c H locs (c0 + 240) (s0 + 700) Q (F0 m 1209 ls [.int r1182])
  refine lv_iload hx hb dL_law_1209 (lv_at hl 1 rfl) ?_
  refine lv_icmp_eq (tgt := 1216) hx hb dL_law_1211 (by decide) (fun c1211 => ?_) (fun c1211 => ?_)
  · skip
    refine lv_iload hx hb dL_law_1216 (lv_at hl 1 rfl) ?_
    refine lv_if_ne (tgt := 1233) hx hb dL_law_1218 (by decide) (fun c1218 => ?_) (fun c1218 => ?_)
    · skip
      refine lv_goto (tgt := 1904) hx hb dL_law_1233 (by decide) ?_
      refine W.widen (show (c0 + 240) ≤ c0 + 7000 from by omega) (show (s0 + 700) ≤ s0 + 23000 from by omega) ?_
      exact kk _ H locs ls _ _ _ _ _ _ _ hco hT hO hD hP hS (lv_drop hl (by simp))
    · skip
      have hv9 := hk1 (hk0.symm.trans c1218)
      have hans9 := hans
      rw [hv9, ← hans9] at hO
      have hO : lA E w2 o (r1200).toInt64 := hO
      refine lv_aload_n hx hb dL_law_1221 rfl (lv_at hl 5 rfl) ?_
      refine lv_iconst (v := 0) hx hb dL_law_1222 (by decide) ?_
      refine k_lald hx hb hG hP hO dL_law_1223 ?_
      refine lv_iload hx hb dL_law_1224 (lv_at hl 0 rfl) ?_
      refine lv_i2l hx hb dL_law_1226 rfl ?_
      refine lv_lcmpE hx hb dL_law_1227 ?_
      refine lv_if_eq (tgt := 1233) hx hb dL_law_1228 (by decide) (fun c1228 => ?_) (fun c1228 => ?_)
      · skip
        refine lv_goto (tgt := 1904) hx hb dL_law_1233 (by decide) ?_
        refine W.widen (show (c0 + 240) ≤ c0 + 7000 from by omega) (show (s0 + 700) ≤ s0 + 23000 from by omega) ?_
        exact kk _ H locs ls _ _ _ _ _ _ _ hco hT hO hD hP hS (lv_drop hl (by simp))
      · skip
        exact absurd c1228 (by decide)
  · skip
    exact absurd rfl c1211

set_option maxHeartbeats 4000000 in
theorem law_bestSpeed {p : Program} {e : Env} {s : State} {m : MethodId} {args : Array Value} {below : List Frame} {meth : Method} {c : Code} {E : gE} {b L : Nat} {xs : Nat → Int32} {Q : State → Prop} (l0 : Launch) (hl0 : l0.stackTraces = false) (hx : p.tables.exec = Jvm.exec) (hb : c.code = cL_law) (hml : c.maxLocals = 9) (hown : s.vm.findClass "KiteRoofsLaw" = some m.cls) (hts : ∀ w ∈ lw_all, w.before args s = true) (hG : gK E s) (hX0 : va_X b L xs s s.heap) (hbl : b < s.heap.size) (hbA : ¬ gA E b)
    {w : wd} {H : Heap} {locs : List Loc} {ls : Array Slot} {x y o od N mn cn nb i9 c0 s0 : Nat} {f : Nat → Int32} {a : Nat → Nat → Int32} {ad : Nat → Nat} {v : Int64} {v2 : UInt64} (hL : L ≤ 120) (hi : i9 + 5 ≤ L) (hN9 : N + 71 * 31 * 32 < 2 ^ 31) (hc0 : c0 + 7000 ≤ 1200144) (hs0 : s0 + 23000 ≤ 5497402)
    (hC : coS E w x N f a mn cn nb) (hT : tM E w y ad f a) (hO : lA E w o v) (hD : dA E w od v2) (hP : wP E w H) (hS : va_S (gA E) s.heap H locs) (hl : lv_has ls 9 [(0, .ref b), (1, .ref x), (2, .ref y), (3, .ref o), (4, .ref od), (5, .int (nI i9))])
    (kk : ∀ (w1 : wd) (H1 : Heap) (locs1 : List Loc) (ls1 : Array Slot) (f1 : Nat → Int32) (a1 : Nat → Nat → Int32) (mn1 cn1 nb1 : Nat) (v1 : Int64) (v21 : UInt64), coS E w1 x (N + 64000) f1 a1 mn1 cn1 nb1 → tM E w1 y ad f1 a1 → lA E w1 o v1 → dA E w1 od v21 → wP E w1 H1 → va_S (gA E) s.heap H1 locs1 → lv_has ls1 9 [(0, .ref b), (1, .ref x), (2, .ref y), (3, .ref o), (4, .ref od), (5, .int (nI i9))] → W p l0 e room_1 s m args below meth c H1 locs1 (c0 + 7000) (s0 + 23000) Q (F0 m 1904 ls1 [])) :
    W p l0 e room_1 s m args below meth c H locs c0 s0 Q (F0 m 1236 ls []) := by
  obtain ⟨⟨n9, n6, n7, n11⟩, ⟨n60, c8⟩, ⟨m25, m6⟩, gI0⟩ := hC.nums
  refine lv_aload_n hx hb dL_law_1236 rfl (lv_at hl 1 rfl) ?_
  refine lv_aload_n hx hb dL_law_1237 rfl (lv_at hl 0 rfl) ?_
  refine lv_iload hx hb dL_law_1238 (lv_at hl 5 rfl) ?_
  refine lv_iconst (v := 1) hx hb dL_law_1240 (by decide) ?_
  refine k_iaddN (x := i9) (y := 1) hx hb dL_law_1241 ?_
  refine va_sld hx hb hX0 hbl hbA hS (vp_in_nI (n := i9 + 1) (N := L) (by omega) (by omega)) dL_law_1242 ?_
  rw [nI_clamp (show i9 + 1 < 2 ^ 31 from by omega)]
  refine lv_aload_n hx hb dL_law_1243 rfl (lv_at hl 0 rfl) ?_
  refine lv_iload hx hb dL_law_1244 (lv_at hl 5 rfl) ?_
  refine lv_iconst (v := 2) hx hb dL_law_1246 (by decide) ?_
  refine k_iaddN (x := i9) (y := 2) hx hb dL_law_1247 ?_
  refine va_sld hx hb hX0 hbl hbA hS (vp_in_nI (n := i9 + 2) (N := L) (by omega) (by omega)) dL_law_1248 ?_
  rw [nI_clamp (show i9 + 2 < 2 ^ 31 from by omega)]
  refine lv_aload_n hx hb dL_law_1249 rfl (lv_at hl 3 rfl) ?_
  refine kx_cSH hx hb hml hown hts (CX0_bestSpeed l0 hl0 E w x o f a mn cn nb N v (xs (i9 + 1)) (xs (i9 + 2)) (by omega) hC hO) (vx_cwSW 4 hts (lw_SW q1039 q1040 q68 q1041) rfl rfl rfl dyX0_bestSpeed ⟨Nat.le_of_ble_eq_true rfl, Nat.le_of_ble_eq_true rfl⟩) hG hP hS (As := [.ref x, .int (xs (i9 + 1)), .int (xs (i9 + 2)), .ref o]) (rest := []) rfl hl.1 rfl (lv_room (Nat.le_of_ble_eq_true rfl)) dL_law_1250 ⟨show c0 + 1400 ≤ 1200144 from by omega, show s0 + 4400 ≤ 5497402 from by omega⟩ (fun r1250 w1 H locs hp hP hS => ?_)
  obtain ⟨v9_1, hp0, ⟨hO', hC', -⟩, hf9⟩ := hp
  have hT : tM E w1 y ad f a := hT.fr hf9 (fun t9 h9 => by simp only [pW, pWd, pO, pN, pXs] at h9; first | omega | (subst h9; decide))
  have hD : dA E w1 od v2 := hD.fr hf9 (by intro z9; simp [pO, pN, pW, pWd, tP, pXs] at z9)
  have hO : lA E w1 o v9_1 := hO'
  have hC : coS E w1 x N (oC f (qBsp (a 0) mn (xs (i9 + 1)) (xs (i9 + 2)))) a mn cn nb := hC'
  show W p l0 e room_1 s m args below meth c H locs (c0 + 1400) (s0 + 4400) Q (F0 m 1253 ls [.int r1250])
  obtain ⟨hk0, hk1⟩ := hp0
  refine lv_istore (lv' := [(6, .int r1250), (0, .ref b), (1, .ref x), (2, .ref y), (3, .ref o), (4, .ref od), (5, .int (nI i9))]) hx hb dL_law_1253 hl (by decide) rfl (fun ls hl => ?_)
  refine lv_aload_n hx hb dL_law_1255 rfl (lv_at hl 3 rfl) ?_
  refine lv_aload_n hx hb dL_law_1256 rfl (lv_at hl 1 rfl) ?_
  refine lv_iload hx hb dL_law_1257 (lv_at hl 6 rfl) ?_
  refine lv_iconst (v := 1) hx hb dL_law_1259 (by decide) ?_
  refine k_iaddN (x := i9) (y := 1) hx hb dL_law_1260 ?_
  refine va_sld hx hb hX0 hbl hbA hS (vp_in_nI (n := i9 + 1) (N := L) (by omega) (by omega)) dL_law_1261 ?_
  rw [nI_clamp (show i9 + 1 < 2 ^ 31 from by omega)]
  refine lv_aload_n hx hb dL_law_1262 rfl (lv_at hl 1 rfl) ?_
  refine lv_iload hx hb dL_law_1263 (lv_at hl 6 rfl) ?_
  refine lv_iconst (v := 2) hx hb dL_law_1265 (by decide) ?_
  refine k_iaddN (x := i9) (y := 2) hx hb dL_law_1266 ?_
  refine va_sld hx hb hX0 hbl hbA hS (vp_in_nI (n := i9 + 2) (N := L) (by omega) (by omega)) dL_law_1267 ?_
  rw [nI_clamp (show i9 + 2 < 2 ^ 31 from by omega)]
  refine k_cV hx hb hml hown hts (CX6_bestSpeed l0 E w1 y ad f a (xs (i9 + 1)) (xs (i9 + 2)) mn hT m6 m25) (cwV 2 hts (lw_V q1856 q1857 q1858 q81 q1859) rfl rfl rfl dyX6_bestSpeed ⟨Nat.le_of_ble_eq_true rfl, Nat.le_of_ble_eq_true rfl⟩) hG hP hS hT.1 rfl (As := [.int (xs (i9 + 1)), .int (xs (i9 + 2))]) (rest := []) rfl hl.1 rfl (lv_room (Nat.le_of_ble_eq_true rfl)) dL_law_1268 ⟨show (c0 + 1400) + 0 ≤ 1200144 from by omega, show (s0 + 4400) + 0 ≤ 5497402 from by omega⟩ (fun r1268 w2 H locs hp hP hS => ?_)
  obtain ⟨f1, a1, hz, hT', hf9⟩ := hp
  have hC : coS E w2 x N (oC f (qBsp (a 0) mn (xs (i9 + 1)) (xs (i9 + 2)))) a mn cn nb := hC.fr hf9 (fun t9 h9 => by simp only [tP, pO, pXs] at h9; omega)
  have hO : lA E w2 o v9_1 := hO.fr hf9 (by intro z9; simp [pO, pN, pW, pWd, tP, pXs] at z9)
  have hD : dA E w2 od v2 := hD.fr hf9 (by intro z9; simp [pO, pN, pW, pWd, tP, pXs] at z9)
  have hT : tM E w2 y ad f1 a1 := hT'
  obtain ⟨t9, x9, y9, z9, hr7, hf7, ha7⟩ := hz
  have hth : f1 13 = _ := (congrFun hf7 13).trans oC_13
  have hco := (hC.mono (show _ ≤ N + 64000 from by omega)).co (f1 := f1) (a1 := a1) (by rw [ha7]; simp [va_up]) (by rw [ha7]; simp [va_up]) (by rw [ha7]; simp [va_up]) (by rw [ha7]; simp [va_up]) (fun j hj => by rw [hf7])
  have hans := hr7
  show W p l0 e room_1 s m args below meth c H locs (c0 + 1400) (s0 + 4400) Q (F0 m 1271 ls [.int r1268])
  refine lv_istore (lv' := [(7, .int r1268), (6, .int r1250), (0, .ref b), (1, .ref x), (2, .ref y), (3, .ref o), (4, .ref od), (5, .int (nI i9))]) hx hb dL_law_1271 hl (by decide) rfl (fun ls hl => ?_)
  refine lv_aload_n hx hb dL_law_1273 rfl (lv_at hl 4 rfl) ?_
  refine k_cV hx hb hml hown hts (CX6_thrown l0 E w2 y ad f1 a1 hT) (cwV 0 hts (lw_V q1681 q1682 q1683 q81 q1684) rfl rfl rfl dyX6_thrown ⟨Nat.le_of_ble_eq_true rfl, Nat.le_of_ble_eq_true rfl⟩) hG hP hS hT.1 rfl (As := []) (rest := []) rfl hl.1 rfl (lv_room (Nat.le_of_ble_eq_true rfl)) dL_law_1274 ⟨show (c0 + 1400) + 0 ≤ 1200144 from by omega, show (s0 + 4400) + 0 ≤ 5497402 from by omega⟩ (fun r1274 w3 H locs hp hP hS => ?_)
  obtain ⟨hp1, hp0⟩ := hp
  rw [hp1] at hP
  rw [hp0, hth, ← hk0]
  show W p l0 e room_1 s m args below meth c H locs (c0 + 1400) (s0 + 4400) Q (F0 m 1277 ls [.int r1250])
  refine lv_iload hx hb dL_law_1277 (lv_at hl 1 rfl) ?_
  refine lv_icmp_eq (tgt := 1284) hx hb dL_law_1279 (by decide) (fun c1279 => ?_) (fun c1279 => ?_)
  · skip
    refine lv_iload hx hb dL_law_1284 (lv_at hl 1 rfl) ?_
    refine lv_if_ne (tgt := 1301) hx hb dL_law_1286 (by decide) (fun c1286 => ?_) (fun c1286 => ?_)
    · skip
      refine lv_goto (tgt := 1904) hx hb dL_law_1301 (by decide) ?_
      refine W.widen (show (c0 + 1400) ≤ c0 + 7000 from by omega) (show (s0 + 4400) ≤ s0 + 23000 from by omega) ?_
      exact kk _ H locs ls _ _ _ _ _ _ _ hco hT hO hD hP hS (lv_drop hl (by simp))
    · skip
      have hv9 := hk1 (hk0.symm.trans c1286)
      have hans9 := hans
      rw [hv9, ← hans9] at hO
      have hO : lA E w2 o (r1268).toInt64 := hO
      refine lv_aload_n hx hb dL_law_1289 rfl (lv_at hl 5 rfl) ?_
      refine lv_iconst (v := 0) hx hb dL_law_1290 (by decide) ?_
      refine k_lald hx hb hG hP hO dL_law_1291 ?_
      refine lv_iload hx hb dL_law_1292 (lv_at hl 0 rfl) ?_
      refine lv_i2l hx hb dL_law_1294 rfl ?_
      refine lv_lcmpE hx hb dL_law_1295 ?_
      refine lv_if_eq (tgt := 1301) hx hb dL_law_1296 (by decide) (fun c1296 => ?_) (fun c1296 => ?_)
      · skip
        refine lv_goto (tgt := 1904) hx hb dL_law_1301 (by decide) ?_
        refine W.widen (show (c0 + 1400) ≤ c0 + 7000 from by omega) (show (s0 + 4400) ≤ s0 + 23000 from by omega) ?_
        exact kk _ H locs ls _ _ _ _ _ _ _ hco hT hO hD hP hS (lv_drop hl (by simp))
      · skip
        exact absurd c1296 (by decide)
  · skip
    exact absurd rfl c1279

set_option maxHeartbeats 4000000 in
theorem law_append {p : Program} {e : Env} {s : State} {m : MethodId} {args : Array Value} {below : List Frame} {meth : Method} {c : Code} {E : gE} {b L : Nat} {xs : Nat → Int32} {Q : State → Prop} (l0 : Launch) (hl0 : l0.stackTraces = false) (hx : p.tables.exec = Jvm.exec) (hb : c.code = cL_law) (hml : c.maxLocals = 9) (hown : s.vm.findClass "KiteRoofsLaw" = some m.cls) (hts : ∀ w ∈ lw_all, w.before args s = true) (hG : gK E s) (hX0 : va_X b L xs s s.heap) (hbl : b < s.heap.size) (hbA : ¬ gA E b)
    {w : wd} {H : Heap} {locs : List Loc} {ls : Array Slot} {x y o od N mn cn nb i9 c0 s0 : Nat} {f : Nat → Int32} {a : Nat → Nat → Int32} {ad : Nat → Nat} {v : Int64} {v2 : UInt64} (hL : L ≤ 120) (hi : i9 + 5 ≤ L) (hN9 : N + 71 * 31 * 32 < 2 ^ 31) (hc0 : c0 + 7000 ≤ 1200144) (hs0 : s0 + 23000 ≤ 5497402)
    (hC : coS E w x N f a mn cn nb) (hT : tM E w y ad f a) (hO : lA E w o v) (hD : dA E w od v2) (hP : wP E w H) (hS : va_S (gA E) s.heap H locs) (hl : lv_has ls 9 [(0, .ref b), (1, .ref x), (2, .ref y), (3, .ref o), (4, .ref od), (5, .int (nI i9))])
    (kk : ∀ (w1 : wd) (H1 : Heap) (locs1 : List Loc) (ls1 : Array Slot) (f1 : Nat → Int32) (a1 : Nat → Nat → Int32) (mn1 cn1 nb1 : Nat) (v1 : Int64) (v21 : UInt64), coS E w1 x (N + 64000) f1 a1 mn1 cn1 nb1 → tM E w1 y ad f1 a1 → lA E w1 o v1 → dA E w1 od v21 → wP E w1 H1 → va_S (gA E) s.heap H1 locs1 → lv_has ls1 9 [(0, .ref b), (1, .ref x), (2, .ref y), (3, .ref o), (4, .ref od), (5, .int (nI i9))] → W p l0 e room_1 s m args below meth c H1 locs1 (c0 + 7000) (s0 + 23000) Q (F0 m 1904 ls1 [])) :
    W p l0 e room_1 s m args below meth c H locs c0 s0 Q (F0 m 1416 ls []) := by
  obtain ⟨⟨n9, n6, n7, n11⟩, ⟨n60, c8⟩, ⟨m25, m6⟩, gI0⟩ := hC.nums
  obtain ⟨k9, hk9, hk9e⟩ := i2c_ex (xs (i9 + 1))
  refine lv_aload_n hx hb dL_law_1416 rfl (lv_at hl 1 rfl) ?_
  refine lv_aload_n hx hb dL_law_1417 rfl (lv_at hl 0 rfl) ?_
  refine lv_iload hx hb dL_law_1418 (lv_at hl 5 rfl) ?_
  refine lv_iconst (v := 1) hx hb dL_law_1420 (by decide) ?_
  refine k_iaddN (x := i9) (y := 1) hx hb dL_law_1421 ?_
  refine va_sld hx hb hX0 hbl hbA hS (vp_in_nI (n := i9 + 1) (N := L) (by omega) (by omega)) dL_law_1422 ?_
  rw [nI_clamp (show i9 + 1 < 2 ^ 31 from by omega)]
  refine lv_i2c (v := nI k9) hx hb dL_law_1423 hk9e ?_
  refine lv_aload_n hx hb dL_law_1424 rfl (lv_at hl 3 rfl) ?_
  refine kx_cSH hx hb hml hown hts (CX0_append l0 hl0 E w x o f a mn cn nb N v k9 hk9 hC hO) (vx_cwSW 3 hts (lw_SW q1069 q1070 q68 q1071) rfl rfl rfl dyX0_append ⟨Nat.le_of_ble_eq_true rfl, Nat.le_of_ble_eq_true rfl⟩) hG hP hS (As := [.ref x, .int (nI k9), .ref o]) (rest := []) rfl hl.1 rfl (lv_room (Nat.le_of_ble_eq_true rfl)) dL_law_1425 ⟨show c0 + 40 ≤ 1200144 from by omega, show s0 + 420 ≤ 5497402 from by omega⟩ (fun r1425 w1 H locs hp hP hS => ?_)
  obtain ⟨v9_1, n9_2, hp0, ⟨hO', hC', -⟩, hf9⟩ := hp
  have hT : tM E w1 y ad f a := hT.fr hf9 (fun t9 h9 => by simp only [pW, pWd, pO, pN, pXs] at h9; first | omega | (subst h9; decide))
  have hD : dA E w1 od v2 := hD.fr hf9 (by intro z9; simp [pO, pN, pW, pWd, tP, pXs] at z9)
  have hO : lA E w1 o v9_1 := hO'
  have hC : coS E w1 x N (pF f nb) (pA a nb (nI k9)) mn cn n9_2 := hC'
  show W p l0 e room_1 s m args below meth c H locs (c0 + 40) (s0 + 420) Q (F0 m 1428 ls [.int r1425])
  obtain ⟨hk0, hk1⟩ := hp0
  refine lv_istore (lv' := [(6, .int r1425), (0, .ref b), (1, .ref x), (2, .ref y), (3, .ref o), (4, .ref od), (5, .int (nI i9))]) hx hb dL_law_1428 hl (by decide) rfl (fun ls hl => ?_)
  refine lv_aload_n hx hb dL_law_1430 rfl (lv_at hl 3 rfl) ?_
  refine lv_aload_n hx hb dL_law_1431 rfl (lv_at hl 1 rfl) ?_
  refine lv_iload hx hb dL_law_1432 (lv_at hl 6 rfl) ?_
  refine lv_iconst (v := 1) hx hb dL_law_1434 (by decide) ?_
  refine k_iaddN (x := i9) (y := 1) hx hb dL_law_1435 ?_
  refine va_sld hx hb hX0 hbl hbA hS (vp_in_nI (n := i9 + 1) (N := L) (by omega) (by omega)) dL_law_1436 ?_
  rw [nI_clamp (show i9 + 1 < 2 ^ 31 from by omega)]
  refine lv_i2c (v := nI k9) hx hb dL_law_1437 hk9e ?_
  refine k_cV hx hb hml hown hts (CX6_append l0 E w1 y ad f a (nI k9) nb hT n9 n60) (cwV 1 hts (lw_V q1868 q1869 q1870 q81 q1871) rfl rfl rfl dyX6_append ⟨Nat.le_of_ble_eq_true rfl, Nat.le_of_ble_eq_true rfl⟩) hG hP hS hT.1 rfl (As := [.int (nI k9)]) (rest := []) rfl hl.1 rfl (lv_room (Nat.le_of_ble_eq_true rfl)) dL_law_1438 ⟨show (c0 + 40) + 0 ≤ 1200144 from by omega, show (s0 + 420) + 0 ≤ 5497402 from by omega⟩ (fun r1438 w2 H locs hp hP hS => ?_)
  obtain ⟨f1, a1, hz, hT', hf9⟩ := hp
  have hC : coS E w2 x N (pF f nb) (pA a nb (nI k9)) mn cn n9_2 := hC.fr hf9 (fun t9 h9 => by simp only [tP, pO, pXs] at h9; omega)
  have hO : lA E w2 o v9_1 := hO.fr hf9 (by intro z9; simp [pO, pN, pW, pWd, tP, pXs] at z9)
  have hD : dA E w2 od v2 := hD.fr hf9 (by intro z9; simp [pO, pN, pW, pWd, tP, pXs] at z9)
  have hT : tM E w2 y ad f1 a1 := hT'
  have hz9 : (f1 = (pF f nb) ∧ a1 = (pA a nb (nI k9))) ∧ f1 13 = (if nb = 60 then (1 : Int32) else 0) ∧ ((if nb = 60 then (1 : Int32) else 0) = 0 → r1438 = nI (nb + 1)) := by
    rcases hz with ⟨h0, e1, e2, e3⟩ | ⟨h0, e1, e2, e3⟩
    · exact ⟨⟨by rw [pF, if_pos h0]; exact e2, by rw [pA, if_pos h0]; exact e3⟩, by rw [e2, up_s, if_pos h0], fun e9 => by rw [if_pos h0] at e9; exact absurd e9 (by decide)⟩
    · have h0 : ¬ nb = 60 := by first | exact h0 | omega
      exact ⟨⟨by rw [pF, if_neg h0]; exact e2, by rw [pA, if_neg h0]; exact e3⟩, by rw [e2, up_n (by decide), up_s, if_neg h0], fun _ => e1⟩
  obtain ⟨⟨hf7, ha7⟩, hth, hans⟩ := hz9
  have hco := hC.mono (show _ ≤ N + 64000 from by omega)
  rw [← hf7, ← ha7] at hco
  show W p l0 e room_1 s m args below meth c H locs (c0 + 40) (s0 + 420) Q (F0 m 1441 ls [.int r1438])
  refine lv_istore (lv' := [(7, .int r1438), (6, .int r1425), (0, .ref b), (1, .ref x), (2, .ref y), (3, .ref o), (4, .ref od), (5, .int (nI i9))]) hx hb dL_law_1441 hl (by decide) rfl (fun ls hl => ?_)
  refine lv_aload_n hx hb dL_law_1443 rfl (lv_at hl 4 rfl) ?_
  refine k_cV hx hb hml hown hts (CX6_thrown l0 E w2 y ad f1 a1 hT) (cwV 0 hts (lw_V q1681 q1682 q1683 q81 q1684) rfl rfl rfl dyX6_thrown ⟨Nat.le_of_ble_eq_true rfl, Nat.le_of_ble_eq_true rfl⟩) hG hP hS hT.1 rfl (As := []) (rest := []) rfl hl.1 rfl (lv_room (Nat.le_of_ble_eq_true rfl)) dL_law_1444 ⟨show (c0 + 40) + 0 ≤ 1200144 from by omega, show (s0 + 420) + 0 ≤ 5497402 from by omega⟩ (fun r1444 w3 H locs hp hP hS => ?_)
  obtain ⟨hp1, hp0⟩ := hp
  rw [hp1] at hP
  rw [hp0, hth, ← hk0]
  show W p l0 e room_1 s m args below meth c H locs (c0 + 40) (s0 + 420) Q (F0 m 1447 ls [.int r1425])
  refine lv_iload hx hb dL_law_1447 (lv_at hl 1 rfl) ?_
  refine lv_icmp_eq (tgt := 1454) hx hb dL_law_1449 (by decide) (fun c1449 => ?_) (fun c1449 => ?_)
  · skip
    refine lv_iload hx hb dL_law_1454 (lv_at hl 1 rfl) ?_
    refine lv_if_ne (tgt := 1471) hx hb dL_law_1456 (by decide) (fun c1456 => ?_) (fun c1456 => ?_)
    · skip
      refine lv_goto (tgt := 1904) hx hb dL_law_1471 (by decide) ?_
      refine W.widen (show (c0 + 40) ≤ c0 + 7000 from by omega) (show (s0 + 420) ≤ s0 + 23000 from by omega) ?_
      exact kk _ H locs ls _ _ _ _ _ _ _ hco hT hO hD hP hS (lv_drop hl (by simp))
    · skip
      have hv9 := hk1 (hk0.symm.trans c1456)
      have hans9 := hans (hk0.symm.trans c1456)
      rw [hv9, ← hans9] at hO
      have hO : lA E w2 o (r1438).toInt64 := hO
      refine lv_aload_n hx hb dL_law_1459 rfl (lv_at hl 5 rfl) ?_
      refine lv_iconst (v := 0) hx hb dL_law_1460 (by decide) ?_
      refine k_lald hx hb hG hP hO dL_law_1461 ?_
      refine lv_iload hx hb dL_law_1462 (lv_at hl 0 rfl) ?_
      refine lv_i2l hx hb dL_law_1464 rfl ?_
      refine lv_lcmpE hx hb dL_law_1465 ?_
      refine lv_if_eq (tgt := 1471) hx hb dL_law_1466 (by decide) (fun c1466 => ?_) (fun c1466 => ?_)
      · skip
        refine lv_goto (tgt := 1904) hx hb dL_law_1471 (by decide) ?_
        refine W.widen (show (c0 + 40) ≤ c0 + 7000 from by omega) (show (s0 + 420) ≤ s0 + 23000 from by omega) ?_
        exact kk _ H locs ls _ _ _ _ _ _ _ hco hT hO hD hP hS (lv_drop hl (by simp))
      · skip
        exact absurd c1466 (by decide)
  · skip
    exact absurd rfl c1449

set_option maxHeartbeats 4000000 in
theorem law_undo {p : Program} {e : Env} {s : State} {m : MethodId} {args : Array Value} {below : List Frame} {meth : Method} {c : Code} {E : gE} {b L : Nat} {xs : Nat → Int32} {Q : State → Prop} (l0 : Launch) (hl0 : l0.stackTraces = false) (hx : p.tables.exec = Jvm.exec) (hb : c.code = cL_law) (hml : c.maxLocals = 9) (hown : s.vm.findClass "KiteRoofsLaw" = some m.cls) (hts : ∀ w ∈ lw_all, w.before args s = true) (hG : gK E s) (hX0 : va_X b L xs s s.heap) (hbl : b < s.heap.size) (hbA : ¬ gA E b)
    {w : wd} {H : Heap} {locs : List Loc} {ls : Array Slot} {x y o od N mn cn nb i9 c0 s0 : Nat} {f : Nat → Int32} {a : Nat → Nat → Int32} {ad : Nat → Nat} {v : Int64} {v2 : UInt64} (hL : L ≤ 120) (hi : i9 + 5 ≤ L) (hN9 : N + 71 * 31 * 32 < 2 ^ 31) (hc0 : c0 + 7000 ≤ 1200144) (hs0 : s0 + 23000 ≤ 5497402)
    (hC : coS E w x N f a mn cn nb) (hT : tM E w y ad f a) (hO : lA E w o v) (hD : dA E w od v2) (hP : wP E w H) (hS : va_S (gA E) s.heap H locs) (hl : lv_has ls 9 [(0, .ref b), (1, .ref x), (2, .ref y), (3, .ref o), (4, .ref od), (5, .int (nI i9))])
    (kk : ∀ (w1 : wd) (H1 : Heap) (locs1 : List Loc) (ls1 : Array Slot) (f1 : Nat → Int32) (a1 : Nat → Nat → Int32) (mn1 cn1 nb1 : Nat) (v1 : Int64) (v21 : UInt64), coS E w1 x (N + 64000) f1 a1 mn1 cn1 nb1 → tM E w1 y ad f1 a1 → lA E w1 o v1 → dA E w1 od v21 → wP E w1 H1 → va_S (gA E) s.heap H1 locs1 → lv_has ls1 9 [(0, .ref b), (1, .ref x), (2, .ref y), (3, .ref o), (4, .ref od), (5, .int (nI i9))] → W p l0 e room_1 s m args below meth c H1 locs1 (c0 + 7000) (s0 + 23000) Q (F0 m 1904 ls1 [])) :
    W p l0 e room_1 s m args below meth c H locs c0 s0 Q (F0 m 1803 ls []) := by
  obtain ⟨⟨n9, n6, n7, n11⟩, ⟨n60, c8⟩, ⟨m25, m6⟩, gI0⟩ := hC.nums
  refine lv_aload_n hx hb dL_law_1803 rfl (lv_at hl 1 rfl) ?_
  refine lv_aload_n hx hb dL_law_1804 rfl (lv_at hl 3 rfl) ?_
  refine kx_cSH hx hb hml hown hts (CX0_undo l0 hl0 E w x o f a mn cn nb N v hC hO) (vx_cwSW 2 hts (lw_SW q1582 q1583 q68 q1584) rfl rfl rfl dyX0_undo ⟨Nat.le_of_ble_eq_true rfl, Nat.le_of_ble_eq_true rfl⟩) hG hP hS (As := [.ref x, .ref o]) (rest := []) rfl hl.1 rfl (lv_room (Nat.le_of_ble_eq_true rfl)) dL_law_1805 ⟨show c0 + 40 ≤ 1200144 from by omega, show s0 + 220 ≤ 5497402 from by omega⟩ (fun r1805 w1 H locs hp hP hS => ?_)
  obtain ⟨v9_1, m9_2, c9_3, hp0, ⟨hO', hC', -⟩, hf9⟩ := hp
  have hT : tM E w1 y ad f a := hT.fr hf9 (fun t9 h9 => by simp only [pW, pWd, pO, pN, pXs] at h9; first | omega | (subst h9; decide))
  have hD : dA E w1 od v2 := hD.fr hf9 (by intro z9; simp [pO, pN, pW, pWd, tP, pXs] at z9)
  have hO : lA E w1 o v9_1 := hO'
  have hC : coS E w1 x N (uF f cn) (uA a cn) m9_2 c9_3 nb := hC'
  show W p l0 e room_1 s m args below meth c H locs (c0 + 40) (s0 + 220) Q (F0 m 1808 ls [.int r1805])
  obtain ⟨hk0, hk1⟩ := hp0
  refine lv_istore (lv' := [(6, .int r1805), (0, .ref b), (1, .ref x), (2, .ref y), (3, .ref o), (4, .ref od), (5, .int (nI i9))]) hx hb dL_law_1808 hl (by decide) rfl (fun ls hl => ?_)
  refine lv_aload_n hx hb dL_law_1810 rfl (lv_at hl 3 rfl) ?_
  refine k_cV hx hb hml hown hts (CX6_undo l0 E w1 y ad f a cn hT n6 c8) (cwV 0 hts (lw_V q1945 q1946 q1947 q81 q1948) rfl rfl rfl dyX6_undo ⟨Nat.le_of_ble_eq_true rfl, Nat.le_of_ble_eq_true rfl⟩) hG hP hS hT.1 rfl (As := []) (rest := []) rfl hl.1 rfl (lv_room (Nat.le_of_ble_eq_true rfl)) dL_law_1811 ⟨show (c0 + 40) + 0 ≤ 1200144 from by omega, show (s0 + 220) + 0 ≤ 5497402 from by omega⟩ (fun r1811 w2 H locs hp hP hS => ?_)
  obtain ⟨f1, a1, hz, hT', hf9⟩ := hp
  have hC : coS E w2 x N (uF f cn) (uA a cn) m9_2 c9_3 nb := hC.fr hf9 (fun t9 h9 => by simp only [tP, pO, pXs] at h9; omega)
  have hO : lA E w2 o v9_1 := hO.fr hf9 (by intro z9; simp [pO, pN, pW, pWd, tP, pXs] at z9)
  have hD : dA E w2 od v2 := hD.fr hf9 (by intro z9; simp [pO, pN, pW, pWd, tP, pXs] at z9)
  have hT : tM E w2 y ad f1 a1 := hT'
  have hz9 : (f1 = (uF f cn) ∧ a1 = (uA a cn)) ∧ f1 13 = (if cn = 0 then (1 : Int32) else 0) ∧ ((if cn = 0 then (1 : Int32) else 0) = 0 → r1811 = nI (cn - 1)) := by
    rcases hz with ⟨h0, e1, e2, e3⟩ | ⟨h0, e1, e2, e3⟩
    · exact ⟨⟨by rw [uF, if_pos h0]; exact e2, by rw [uA, if_pos h0]; exact e3⟩, by rw [e2, up_s, if_pos h0], fun e9 => by rw [if_pos h0] at e9; exact absurd e9 (by decide)⟩
    · have h0 : ¬ cn = 0 := by first | exact h0 | omega
      exact ⟨⟨by rw [uF, if_neg h0]; exact e2, by rw [uA, if_neg h0]; exact e3⟩, by rw [e2, up_n (by decide), up_s, if_neg h0], fun _ => e1⟩
  obtain ⟨⟨hf7, ha7⟩, hth, hans⟩ := hz9
  have hco := hC.mono (show _ ≤ N + 64000 from by omega)
  rw [← hf7, ← ha7] at hco
  show W p l0 e room_1 s m args below meth c H locs (c0 + 40) (s0 + 220) Q (F0 m 1814 ls [.int r1811])
  refine lv_istore (lv' := [(7, .int r1811), (6, .int r1805), (0, .ref b), (1, .ref x), (2, .ref y), (3, .ref o), (4, .ref od), (5, .int (nI i9))]) hx hb dL_law_1814 hl (by decide) rfl (fun ls hl => ?_)
  refine lv_aload_n hx hb dL_law_1816 rfl (lv_at hl 4 rfl) ?_
  refine k_cV hx hb hml hown hts (CX6_thrown l0 E w2 y ad f1 a1 hT) (cwV 0 hts (lw_V q1681 q1682 q1683 q81 q1684) rfl rfl rfl dyX6_thrown ⟨Nat.le_of_ble_eq_true rfl, Nat.le_of_ble_eq_true rfl⟩) hG hP hS hT.1 rfl (As := []) (rest := []) rfl hl.1 rfl (lv_room (Nat.le_of_ble_eq_true rfl)) dL_law_1817 ⟨show (c0 + 40) + 0 ≤ 1200144 from by omega, show (s0 + 220) + 0 ≤ 5497402 from by omega⟩ (fun r1817 w3 H locs hp hP hS => ?_)
  obtain ⟨hp1, hp0⟩ := hp
  rw [hp1] at hP
  rw [hp0, hth, ← hk0]
  show W p l0 e room_1 s m args below meth c H locs (c0 + 40) (s0 + 220) Q (F0 m 1820 ls [.int r1805])
  refine lv_iload hx hb dL_law_1820 (lv_at hl 1 rfl) ?_
  refine lv_icmp_eq (tgt := 1827) hx hb dL_law_1822 (by decide) (fun c1822 => ?_) (fun c1822 => ?_)
  · skip
    refine lv_iload hx hb dL_law_1827 (lv_at hl 1 rfl) ?_
    refine lv_if_ne (tgt := 1844) hx hb dL_law_1829 (by decide) (fun c1829 => ?_) (fun c1829 => ?_)
    · skip
      refine lv_goto (tgt := 1904) hx hb dL_law_1844 (by decide) ?_
      refine W.widen (show (c0 + 40) ≤ c0 + 7000 from by omega) (show (s0 + 220) ≤ s0 + 23000 from by omega) ?_
      exact kk _ H locs ls _ _ _ _ _ _ _ hco hT hO hD hP hS (lv_drop hl (by simp))
    · skip
      have hv9 := hk1 (hk0.symm.trans c1829)
      have hans9 := hans (hk0.symm.trans c1829)
      rw [hv9, ← hans9] at hO
      have hO : lA E w2 o (r1811).toInt64 := hO
      refine lv_aload_n hx hb dL_law_1832 rfl (lv_at hl 5 rfl) ?_
      refine lv_iconst (v := 0) hx hb dL_law_1833 (by decide) ?_
      refine k_lald hx hb hG hP hO dL_law_1834 ?_
      refine lv_iload hx hb dL_law_1835 (lv_at hl 0 rfl) ?_
      refine lv_i2l hx hb dL_law_1837 rfl ?_
      refine lv_lcmpE hx hb dL_law_1838 ?_
      refine lv_if_eq (tgt := 1844) hx hb dL_law_1839 (by decide) (fun c1839 => ?_) (fun c1839 => ?_)
      · skip
        refine lv_goto (tgt := 1904) hx hb dL_law_1844 (by decide) ?_
        refine W.widen (show (c0 + 40) ≤ c0 + 7000 from by omega) (show (s0 + 220) ≤ s0 + 23000 from by omega) ?_
        exact kk _ H locs ls _ _ _ _ _ _ _ hco hT hO hD hP hS (lv_drop hl (by simp))
      · skip
        exact absurd c1839 (by decide)
  · skip
    exact absurd rfl c1822

set_option maxHeartbeats 4000000 in
theorem law_restore {p : Program} {e : Env} {s : State} {m : MethodId} {args : Array Value} {below : List Frame} {meth : Method} {c : Code} {E : gE} {b L : Nat} {xs : Nat → Int32} {Q : State → Prop} (l0 : Launch) (hl0 : l0.stackTraces = false) (hx : p.tables.exec = Jvm.exec) (hb : c.code = cL_law) (hml : c.maxLocals = 9) (hown : s.vm.findClass "KiteRoofsLaw" = some m.cls) (hts : ∀ w ∈ lw_all, w.before args s = true) (hG : gK E s) (hX0 : va_X b L xs s s.heap) (hbl : b < s.heap.size) (hbA : ¬ gA E b)
    {w : wd} {H : Heap} {locs : List Loc} {ls : Array Slot} {x y o od N mn cn nb i9 c0 s0 : Nat} {f : Nat → Int32} {a : Nat → Nat → Int32} {ad : Nat → Nat} {v : Int64} {v2 : UInt64} (hL : L ≤ 120) (hi : i9 + 5 ≤ L) (hN9 : N + 71 * 31 * 32 < 2 ^ 31) (hc0 : c0 + 7000 ≤ 1200144) (hs0 : s0 + 23000 ≤ 5497402)
    (hC : coS E w x N f a mn cn nb) (hT : tM E w y ad f a) (hO : lA E w o v) (hD : dA E w od v2) (hP : wP E w H) (hS : va_S (gA E) s.heap H locs) (hl : lv_has ls 9 [(0, .ref b), (1, .ref x), (2, .ref y), (3, .ref o), (4, .ref od), (5, .int (nI i9))])
    (kk : ∀ (w1 : wd) (H1 : Heap) (locs1 : List Loc) (ls1 : Array Slot) (f1 : Nat → Int32) (a1 : Nat → Nat → Int32) (mn1 cn1 nb1 : Nat) (v1 : Int64) (v21 : UInt64), coS E w1 x (N + 64000) f1 a1 mn1 cn1 nb1 → tM E w1 y ad f1 a1 → lA E w1 o v1 → dA E w1 od v21 → wP E w1 H1 → va_S (gA E) s.heap H1 locs1 → lv_has ls1 9 [(0, .ref b), (1, .ref x), (2, .ref y), (3, .ref o), (4, .ref od), (5, .int (nI i9))] → W p l0 e room_1 s m args below meth c H1 locs1 (c0 + 7000) (s0 + 23000) Q (F0 m 1904 ls1 [])) :
    W p l0 e room_1 s m args below meth c H locs c0 s0 Q (F0 m 1860 ls []) := by
  obtain ⟨⟨n9, n6, n7, n11⟩, ⟨n60, c8⟩, ⟨m25, m6⟩, gI0⟩ := hC.nums
  refine lv_aload_n hx hb dL_law_1860 rfl (lv_at hl 1 rfl) ?_
  refine lv_aload_n hx hb dL_law_1861 rfl (lv_at hl 3 rfl) ?_
  refine kx_cSH hx hb hml hown hts (CX0_restore l0 hl0 E w x o f a mn cn nb N v hC hO) (vx_cwSW 2 hts (lw_SW q1600 q1601 q68 q1602) rfl rfl rfl dyX0_restore ⟨Nat.le_of_ble_eq_true rfl, Nat.le_of_ble_eq_true rfl⟩) hG hP hS (As := [.ref x, .ref o]) (rest := []) rfl hl.1 rfl (lv_room (Nat.le_of_ble_eq_true rfl)) dL_law_1862 ⟨show c0 + 40 ≤ 1200144 from by omega, show s0 + 220 ≤ 5497402 from by omega⟩ (fun r1862 w1 H locs hp hP hS => ?_)
  obtain ⟨v9_1, m9_2, c9_3, hp0, ⟨hO', hC', -⟩, hf9⟩ := hp
  have hT : tM E w1 y ad f a := hT.fr hf9 (fun t9 h9 => by simp only [pW, pWd, pO, pN, pXs] at h9; first | omega | (subst h9; decide))
  have hD : dA E w1 od v2 := hD.fr hf9 (by intro z9; simp [pO, pN, pW, pWd, tP, pXs] at z9)
  have hO : lA E w1 o v9_1 := hO'
  have hC : coS E w1 x N (rF f) (rA f a) m9_2 c9_3 nb := hC'
  show W p l0 e room_1 s m args below meth c H locs (c0 + 40) (s0 + 220) Q (F0 m 1865 ls [.int r1862])
  obtain ⟨hk0, hk1⟩ := hp0
  refine lv_istore (lv' := [(6, .int r1862), (0, .ref b), (1, .ref x), (2, .ref y), (3, .ref o), (4, .ref od), (5, .int (nI i9))]) hx hb dL_law_1865 hl (by decide) rfl (fun ls hl => ?_)
  refine lv_aload_n hx hb dL_law_1867 rfl (lv_at hl 3 rfl) ?_
  refine k_cV hx hb hml hown hts (CX6_restore l0 E w1 y ad f a hT) (cwV 0 hts (lw_V q1953 q1954 q1955 q81 q1956) rfl rfl rfl dyX6_restore ⟨Nat.le_of_ble_eq_true rfl, Nat.le_of_ble_eq_true rfl⟩) hG hP hS hT.1 rfl (As := []) (rest := []) rfl hl.1 rfl (lv_room (Nat.le_of_ble_eq_true rfl)) dL_law_1868 ⟨show (c0 + 40) + 0 ≤ 1200144 from by omega, show (s0 + 220) + 0 ≤ 5497402 from by omega⟩ (fun r1868 w2 H locs hp hP hS => ?_)
  obtain ⟨f1, a1, hz, hT', hf9⟩ := hp
  have hC : coS E w2 x N (rF f) (rA f a) m9_2 c9_3 nb := hC.fr hf9 (fun t9 h9 => by simp only [tP, pO, pXs] at h9; omega)
  have hO : lA E w2 o v9_1 := hO.fr hf9 (by intro z9; simp [pO, pN, pW, pWd, tP, pXs] at z9)
  have hD : dA E w2 od v2 := hD.fr hf9 (by intro z9; simp [pO, pN, pW, pWd, tP, pXs] at z9)
  have hT : tM E w2 y ad f1 a1 := hT'
  have hz9 : (f1 = (rF f) ∧ a1 = (rA f a)) ∧ f1 13 = (if f 5 = 0 then (1 : Int32) else 0) ∧ ((if f 5 = 0 then (1 : Int32) else 0) = 0 → r1868 = a 2 20) := by
    rcases hz with ⟨h0, e1, e2, e3⟩ | ⟨h0, e1, e2, e3⟩
    · exact ⟨⟨by rw [rF, if_pos h0]; exact e2, by rw [rA, if_pos h0]; exact e3⟩, by rw [e2, up_s, if_pos h0], fun e9 => by rw [if_pos h0] at e9; exact absurd e9 (by decide)⟩
    · have h0 : ¬ f 5 = 0 := by first | exact h0 | omega
      exact ⟨⟨by rw [rF, if_neg h0]; exact e2, by rw [rA, if_neg h0]; exact e3⟩, by rw [e2, up_n (by decide), up_s, if_neg h0], fun _ => e1⟩
  obtain ⟨⟨hf7, ha7⟩, hth, hans⟩ := hz9
  have hco := hC.mono (show _ ≤ N + 64000 from by omega)
  rw [← hf7, ← ha7] at hco
  show W p l0 e room_1 s m args below meth c H locs (c0 + 40) (s0 + 220) Q (F0 m 1871 ls [.int r1868])
  refine lv_istore (lv' := [(7, .int r1868), (6, .int r1862), (0, .ref b), (1, .ref x), (2, .ref y), (3, .ref o), (4, .ref od), (5, .int (nI i9))]) hx hb dL_law_1871 hl (by decide) rfl (fun ls hl => ?_)
  refine lv_aload_n hx hb dL_law_1873 rfl (lv_at hl 4 rfl) ?_
  refine k_cV hx hb hml hown hts (CX6_thrown l0 E w2 y ad f1 a1 hT) (cwV 0 hts (lw_V q1681 q1682 q1683 q81 q1684) rfl rfl rfl dyX6_thrown ⟨Nat.le_of_ble_eq_true rfl, Nat.le_of_ble_eq_true rfl⟩) hG hP hS hT.1 rfl (As := []) (rest := []) rfl hl.1 rfl (lv_room (Nat.le_of_ble_eq_true rfl)) dL_law_1874 ⟨show (c0 + 40) + 0 ≤ 1200144 from by omega, show (s0 + 220) + 0 ≤ 5497402 from by omega⟩ (fun r1874 w3 H locs hp hP hS => ?_)
  obtain ⟨hp1, hp0⟩ := hp
  rw [hp1] at hP
  rw [hp0, hth, ← hk0]
  show W p l0 e room_1 s m args below meth c H locs (c0 + 40) (s0 + 220) Q (F0 m 1877 ls [.int r1862])
  refine lv_iload hx hb dL_law_1877 (lv_at hl 1 rfl) ?_
  refine lv_icmp_eq (tgt := 1884) hx hb dL_law_1879 (by decide) (fun c1879 => ?_) (fun c1879 => ?_)
  · skip
    refine lv_iload hx hb dL_law_1884 (lv_at hl 1 rfl) ?_
    refine lv_if_ne (tgt := 1901) hx hb dL_law_1886 (by decide) (fun c1886 => ?_) (fun c1886 => ?_)
    · skip
      refine lv_goto (tgt := 1904) hx hb dL_law_1901 (by decide) ?_
      refine W.widen (show (c0 + 40) ≤ c0 + 7000 from by omega) (show (s0 + 220) ≤ s0 + 23000 from by omega) ?_
      exact kk _ H locs ls _ _ _ _ _ _ _ hco hT hO hD hP hS (lv_drop hl (by simp))
    · skip
      have hv9 := hk1 (hk0.symm.trans c1886)
      have hans9 := hans (hk0.symm.trans c1886)
      rw [hv9, ← hans9] at hO
      have hO : lA E w2 o (r1868).toInt64 := hO
      refine lv_aload_n hx hb dL_law_1889 rfl (lv_at hl 5 rfl) ?_
      refine lv_iconst (v := 0) hx hb dL_law_1890 (by decide) ?_
      refine k_lald hx hb hG hP hO dL_law_1891 ?_
      refine lv_iload hx hb dL_law_1892 (lv_at hl 0 rfl) ?_
      refine lv_i2l hx hb dL_law_1894 rfl ?_
      refine lv_lcmpE hx hb dL_law_1895 ?_
      refine lv_if_eq (tgt := 1901) hx hb dL_law_1896 (by decide) (fun c1896 => ?_) (fun c1896 => ?_)
      · skip
        refine lv_goto (tgt := 1904) hx hb dL_law_1901 (by decide) ?_
        refine W.widen (show (c0 + 40) ≤ c0 + 7000 from by omega) (show (s0 + 220) ≤ s0 + 23000 from by omega) ?_
        exact kk _ H locs ls _ _ _ _ _ _ _ hco hT hO hD hP hS (lv_drop hl (by simp))
      · skip
        exact absurd c1896 (by decide)
  · skip
    exact absurd rfl c1879

set_option maxHeartbeats 4000000 in
theorem law_meanTension {p : Program} {e : Env} {s : State} {m : MethodId} {args : Array Value} {below : List Frame} {meth : Method} {c : Code} {E : gE} {b L : Nat} {xs : Nat → Int32} {Q : State → Prop} (l0 : Launch) (hl0 : l0.stackTraces = false) (hx : p.tables.exec = Jvm.exec) (hb : c.code = cL_law) (hml : c.maxLocals = 9) (hown : s.vm.findClass "KiteRoofsLaw" = some m.cls) (hts : ∀ w ∈ lw_all, w.before args s = true) (hG : gK E s) (hX0 : va_X b L xs s s.heap) (hbl : b < s.heap.size) (hbA : ¬ gA E b)
    {w : wd} {H : Heap} {locs : List Loc} {ls : Array Slot} {x y o od N mn cn nb i9 c0 s0 : Nat} {f : Nat → Int32} {a : Nat → Nat → Int32} {ad : Nat → Nat} {v : Int64} {v2 : UInt64} (hL : L ≤ 120) (hi : i9 + 5 ≤ L) (hN9 : N + 71 * 31 * 32 < 2 ^ 31) (hc0 : c0 + 7000 ≤ 1200144) (hs0 : s0 + 23000 ≤ 5497402)
    (hC : coS E w x N f a mn cn nb) (hT : tM E w y ad f a) (hO : lA E w o v) (hD : dA E w od v2) (hP : wP E w H) (hS : va_S (gA E) s.heap H locs) (hl : lv_has ls 9 [(0, .ref b), (1, .ref x), (2, .ref y), (3, .ref o), (4, .ref od), (5, .int (nI i9))])
    (kk : ∀ (w1 : wd) (H1 : Heap) (locs1 : List Loc) (ls1 : Array Slot) (f1 : Nat → Int32) (a1 : Nat → Nat → Int32) (mn1 cn1 nb1 : Nat) (v1 : Int64) (v21 : UInt64), coS E w1 x (N + 64000) f1 a1 mn1 cn1 nb1 → tM E w1 y ad f1 a1 → lA E w1 o v1 → dA E w1 od v21 → wP E w1 H1 → va_S (gA E) s.heap H1 locs1 → lv_has ls1 9 [(0, .ref b), (1, .ref x), (2, .ref y), (3, .ref o), (4, .ref od), (5, .int (nI i9))] → W p l0 e room_1 s m args below meth c H1 locs1 (c0 + 7000) (s0 + 23000) Q (F0 m 1904 ls1 [])) :
    W p l0 e room_1 s m args below meth c H locs c0 s0 Q (F0 m 1672 ls []) := by
  obtain ⟨⟨n9, n6, n7, n11⟩, ⟨n60, c8⟩, ⟨m25, m6⟩, gI0⟩ := hC.nums
  refine lv_aload_n hx hb dL_law_1672 rfl (lv_at hl 1 rfl) ?_
  refine lv_aload hx hb dL_law_1673 (lv_at hl 4 rfl) ?_
  refine kx_cSH hx hb hml hown hts (CX0_meanTension l0 hl0 E w x od f a mn cn nb N v2 hC hD) (vx_cwSW 2 hts (lw_SW q1538 q1539 q68 q1540) rfl rfl rfl dyX0_meanTension ⟨Nat.le_of_ble_eq_true rfl, Nat.le_of_ble_eq_true rfl⟩) hG hP hS (As := [.ref x, .ref od]) (rest := []) rfl hl.1 rfl (lv_room (Nat.le_of_ble_eq_true rfl)) dL_law_1675 ⟨show c0 + 40 ≤ 1200144 from by omega, show s0 + 220 ≤ 5497402 from by omega⟩ (fun r1675 w1 H locs hp hP hS => ?_)
  obtain ⟨v9_1, hp0, ⟨hD', hC', -⟩, hf9⟩ := hp
  have hT : tM E w1 y ad f a := hT.fr hf9 (fun t9 h9 => by simp only [pW, pWd, pO, pN, pXs] at h9; first | omega | (subst h9; decide))
  have hO : lA E w1 o v := hO.fr hf9 (by intro z9; simp [pO, pN, pW, pWd, tP, pXs] at z9)
  have hD : dA E w1 od v9_1 := hD'
  have hC : coS E w1 x N f a mn cn nb := hC'
  show W p l0 e room_1 s m args below meth c H locs (c0 + 40) (s0 + 220) Q (F0 m 1678 ls [.int r1675])
  obtain ⟨hk0, hk1⟩ := hp0
  refine lv_istore (lv' := [(6, .int r1675), (0, .ref b), (1, .ref x), (2, .ref y), (3, .ref o), (4, .ref od), (5, .int (nI i9))]) hx hb dL_law_1678 hl (by decide) rfl (fun ls hl => ?_)
  refine lv_aload_n hx hb dL_law_1680 rfl (lv_at hl 3 rfl) ?_
  refine k_cV hx hb hml hown hts (CX6_meanTension l0 E w1 y ad f a mn hT m6 m25) (cwV 0 hts (lw_V q1937 q1938 q1939 q81 q1940) rfl rfl rfl dyX6_meanTension ⟨Nat.le_of_ble_eq_true rfl, Nat.le_of_ble_eq_true rfl⟩) hG hP hS hT.1 rfl (As := []) (rest := []) rfl hl.1 rfl (lv_room (Nat.le_of_ble_eq_true rfl)) dL_law_1681 ⟨show (c0 + 40) + 0 ≤ 1200144 from by omega, show (s0 + 220) + 0 ≤ 5497402 from by omega⟩ (fun r1681 w2 H locs hp hP hS => ?_)
  obtain ⟨f1, a1, hz, hT', hf9⟩ := hp
  have hC : coS E w2 x N f a mn cn nb := hC.fr hf9 (fun t9 h9 => by simp only [tP, pO, pXs] at h9; omega)
  have hO : lA E w2 o v := hO.fr hf9 (by intro z9; simp [pO, pN, pW, pWd, tP, pXs] at z9)
  have hD : dA E w2 od v9_1 := hD.fr hf9 (by intro z9; simp [pO, pN, pW, pWd, tP, pXs] at z9)
  have hT : tM E w2 y ad f1 a1 := hT'
  have hz9 : a1 = a ∧ (∀ j, j ≠ 13 → f1 j = f j) ∧ f1 13 = (if tIn (a 0) 1 mn = 0 then (1 : Int32) else 0) ∧ ((if tIn (a 0) 1 mn = 0 then (1 : Int32) else 0) = 0 → r1681 = FP.ddiv (FP.i2d (tTn (a 0) mn)) (FP.i2d (tIn (a 0) 1 mn))) := by
    rcases hz with ⟨h0, e2, e3⟩ | ⟨h0, e1, e2, e3⟩
    · exact ⟨e3, fun j hj => by rw [e2, up_n hj], by rw [e2, up_s, if_pos h0], fun e9 => by rw [if_pos h0] at e9; exact absurd e9 (by decide)⟩
    · exact ⟨e3, fun j hj => by rw [e2, up_n hj], by rw [e2, up_s, if_neg h0], fun _ => e1⟩
  obtain ⟨ha7, hf7, hth, hans⟩ := hz9
  have hco := (hC.mono (show _ ≤ N + 64000 from by omega)).co (f1 := f1) (a1 := a1) (by rw [ha7]) (by rw [ha7]) (by rw [ha7]) (by rw [ha7]) (fun j hj => hf7 j (by omega))
  show W p l0 e room_1 s m args below meth c H locs (c0 + 40) (s0 + 220) Q (F0 m 1684 ls [.double r1681])
  refine lv_dstore hx hb dL_law_1684 hl (by decide) rfl (fun ls hl => ?_)
  have hl : lv_has ls 9 [(7, .double r1681), (6, .int r1675), (0, .ref b), (1, .ref x), (2, .ref y), (3, .ref o), (4, .ref od), (5, .int (nI i9))] := hl
  refine lv_aload_n hx hb dL_law_1686 rfl (lv_at hl 4 rfl) ?_
  refine k_cV hx hb hml hown hts (CX6_thrown l0 E w2 y ad f1 a1 hT) (cwV 0 hts (lw_V q1681 q1682 q1683 q81 q1684) rfl rfl rfl dyX6_thrown ⟨Nat.le_of_ble_eq_true rfl, Nat.le_of_ble_eq_true rfl⟩) hG hP hS hT.1 rfl (As := []) (rest := []) rfl hl.1 rfl (lv_room (Nat.le_of_ble_eq_true rfl)) dL_law_1687 ⟨show (c0 + 40) + 0 ≤ 1200144 from by omega, show (s0 + 220) + 0 ≤ 5497402 from by omega⟩ (fun r1687 w3 H locs hp hP hS => ?_)
  obtain ⟨hp1, hp0⟩ := hp
  rw [hp1] at hP
  rw [hp0, hth, ← hk0]
  show W p l0 e room_1 s m args below meth c H locs (c0 + 40) (s0 + 220) Q (F0 m 1690 ls [.int r1675])
  refine lv_iload hx hb dL_law_1690 (lv_at hl 1 rfl) ?_
  refine lv_icmp_eq (tgt := 1697) hx hb dL_law_1692 (by decide) (fun c1692 => ?_) (fun c1692 => ?_)
  · skip
    refine lv_iload hx hb dL_law_1697 (lv_at hl 1 rfl) ?_
    refine lv_if_ne (tgt := 1734) hx hb dL_law_1699 (by decide) (fun c1699 => ?_) (fun c1699 => ?_)
    · skip
      refine lv_goto (tgt := 1904) hx hb dL_law_1734 (by decide) ?_
      refine W.widen (show (c0 + 40) ≤ c0 + 7000 from by omega) (show (s0 + 220) ≤ s0 + 23000 from by omega) ?_
      exact kk _ H locs ls _ _ _ _ _ _ _ hco hT hO hD hP hS (lv_drop hl (by simp))
    · skip
      have hv9 := hk1 (hk0.symm.trans c1699)
      have hans9 := hans (hk0.symm.trans c1699)
      rw [hv9, ← hans9] at hD
      have hD : dA E w2 od r1681 := hD
      refine lv_aload hx hb dL_law_1702 (lv_at hl 6 rfl) ?_
      refine lv_iconst (v := 0) hx hb dL_law_1704 (by decide) ?_
      refine k_dald hx hb hG hP hD dL_law_1705 ?_
      refine lv_dload hx hb dL_law_1706 (lv_at hl 0 rfl) ?_
      refine lv_dcmp hx hb dL_law_1708 ?_
      refine lv_if_eq (tgt := 1734) hx hb dL_law_1709 (by decide) (fun c1709 => ?_) (fun c1709 => ?_)
      · skip
        refine lv_goto (tgt := 1904) hx hb dL_law_1734 (by decide) ?_
        refine W.widen (show (c0 + 40) ≤ c0 + 7000 from by omega) (show (s0 + 220) ≤ s0 + 23000 from by omega) ?_
        exact kk _ H locs ls _ _ _ _ _ _ _ hco hT hO hD hP hS (lv_drop hl (by simp))
      · skip
        refine lv_aload hx hb dL_law_1712 (lv_at hl 6 rfl) ?_
        refine lv_iconst (v := 0) hx hb dL_law_1714 (by decide) ?_
        refine k_dald hx hb hG hP hD dL_law_1715 ?_
        refine lv_aload hx hb dL_law_1716 (lv_at hl 6 rfl) ?_
        refine lv_iconst (v := 0) hx hb dL_law_1718 (by decide) ?_
        refine k_dald hx hb hG hP hD dL_law_1719 ?_
        refine lv_dcmp hx hb dL_law_1720 ?_
        refine lv_if_eq (tgt := 1732) hx hb dL_law_1721 (by decide) (fun c1721 => ?_) (fun c1721 => ?_)
        · skip
          exact absurd c1721 c1709
        · skip
          refine lv_dload hx hb dL_law_1724 (lv_at hl 0 rfl) ?_
          refine lv_dload hx hb dL_law_1726 (lv_at hl 0 rfl) ?_
          refine lv_dcmp hx hb dL_law_1728 ?_
          refine lv_if_ne (tgt := 1734) hx hb dL_law_1729 (by decide) (fun c1729 => ?_) (fun c1729 => ?_)
          · skip
            refine lv_goto (tgt := 1904) hx hb dL_law_1734 (by decide) ?_
            refine W.widen (show (c0 + 40) ≤ c0 + 7000 from by omega) (show (s0 + 220) ≤ s0 + 23000 from by omega) ?_
            exact kk _ H locs ls _ _ _ _ _ _ _ hco hT hO hD hP hS (lv_drop hl (by simp))
          · skip
            exact absurd c1729 c1709
  · skip
    exact absurd rfl c1692
