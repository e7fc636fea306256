/-! LAW, 11: its last arms -/
set_option maxRecDepth 100000
set_option maxHeartbeats 4000000 in
theorem law_faultPosition {p : Program} {e : Env} {s : State} {m : MethodId} {args : Array Value} {below : List Frame} {meth : Method} {c : Code} {E : gE} {b L : Nat} {xs : Nat → Int32} {Q : State → Prop} (l0 : Launch) (hl0 : l0.stackTraces = false) (hx : p.tables.exec = Jvm.exec) (hb : c.code = cL_law) (hml : c.maxLocals = 9) (hown : s.vm.findClass "KiteRoofsLaw" = some m.cls) (hts : ∀ w ∈ lw_all, w.before args s = true) (hG : gK E s) (hX0 : va_X b L xs s s.heap) (hbl : b < s.heap.size) (hbA : ¬ gA E b)
    {w : wd} {H : Heap} {locs : List Loc} {ls : Array Slot} {x y o od N mn cn nb i9 c0 s0 : Nat} {f : Nat → Int32} {a : Nat → Nat → Int32} {ad : Nat → Nat} {v : Int64} {v2 : UInt64} (hL : L ≤ 120) (hi : i9 + 5 ≤ L) (hN9 : N + 71 * 31 * 32 < 2 ^ 31) (hc0 : c0 + 7000 ≤ 1200144) (hs0 : s0 + 23000 ≤ 5497402)
    (hC : coS E w x N f a mn cn nb) (hT : tM E w y ad f a) (hO : lA E w o v) (hD : dA E w od v2) (hP : wP E w H) (hS : va_S (gA E) s.heap H locs) (hl : lv_has ls 9 [(0, .ref b), (1, .ref x), (2, .ref y), (3, .ref o), (4, .ref od), (5, .int (nI i9))])
    (kk : ∀ (w1 : wd) (H1 : Heap) (locs1 : List Loc) (ls1 : Array Slot) (f1 : Nat → Int32) (a1 : Nat → Nat → Int32) (mn1 cn1 nb1 : Nat) (v1 : Int64) (v21 : UInt64), coS E w1 x (N + 64000) f1 a1 mn1 cn1 nb1 → tM E w1 y ad f1 a1 → lA E w1 o v1 → dA E w1 od v21 → wP E w1 H1 → va_S (gA E) s.heap H1 locs1 → lv_has ls1 9 [(0, .ref b), (1, .ref x), (2, .ref y), (3, .ref o), (4, .ref od), (5, .int (nI i9))] → W p l0 e room_1 s m args below meth c H1 locs1 (c0 + 7000) (s0 + 23000) Q (F0 m 1904 ls1 [])) :
    W p l0 e room_1 s m args below meth c H locs c0 s0 Q (F0 m 1518 ls []) := by
  obtain ⟨⟨n9, n6, n7, n11⟩, ⟨n60, c8⟩, ⟨m25, m6⟩, gI0⟩ := hC.nums
  have hC0 := hC
  obtain ⟨A1, A2, A3, d, b, wn, ly, I, mk, hX, ⟨hM, hI⟩, ⟨u2, m2, wb2, lb2, hM2⟩, ⟨u3, m3, wb3, lb3, hM3, hs3⟩, ⟨hK, hKI⟩, ⟨hSB, hcB⟩, ⟨hf9n, hf6, hf7, hf11⟩⟩ := hC0
  have hc8 := hK.le
  have hm6 := hM.m25
  refine lv_aload_n hx hb dL_law_1518 rfl (lv_at hl 1 rfl) ?_
  refine k_cV hx hb hml hown hts (CX1_faultPosition l0 E w x A1 A2 A3 d b (f 5) (f 10) (f 11) (f 12) hX) (cwV 0 hts (lw_V q304 q305 q306 q69 q307) rfl rfl rfl dyX1_faultPosition ⟨Nat.le_of_ble_eq_true rfl, Nat.le_of_ble_eq_true rfl⟩) hG hP hS hX rfl (As := []) (rest := []) rfl hl.1 rfl (lv_room (Nat.le_of_ble_eq_true rfl)) dL_law_1519 ⟨show c0 + 0 ≤ 1200144 from by omega, show s0 + 0 ≤ 5497402 from by omega⟩ (fun r9 w9 H locs hp hP hS => ?_)
  obtain ⟨hp1, hp0⟩ := hp
  rw [hp1] at hP
  rw [hp0]
  show W p l0 e room_1 s m args below meth c H locs c0 s0 Q (F0 m 1522 ls [.int (f 10)])
  refine lv_aload_n hx hb dL_law_1522 rfl (lv_at hl 2 rfl) ?_
  refine k_cV hx hb hml hown hts (CX6_faultPosition l0 E w y ad f a hT) (cwV 0 hts (lw_V q1913 q1914 q1915 q81 q1916) rfl rfl rfl dyX6_faultPosition ⟨Nat.le_of_ble_eq_true rfl, Nat.le_of_ble_eq_true rfl⟩) hG hP hS hT.1 rfl (As := []) (rest := [.int (f 10)]) rfl hl.1 rfl (lv_room (Nat.le_of_ble_eq_true rfl)) dL_law_1523 ⟨show c0 + 0 ≤ 1200144 from by omega, show s0 + 0 ≤ 5497402 from by omega⟩ (fun r1523 w1 H locs hp hP hS => ?_)
  obtain ⟨f1, a1, hz, hT', hf9⟩ := hp
  have hC : coS E w1 x N f a mn cn nb := hC.fr hf9 (fun t9 h9 => by simp only [tP, pO, pXs] at h9; omega)
  have hO : lA E w1 o v := hO.fr hf9 (by intro z9; simp [pO, pN, pW, pWd, tP, pXs] at z9)
  have hD : dA E w1 od v2 := hD.fr hf9 (by intro z9; simp [pO, pN, pW, pWd, tP, pXs] at z9)
  have hT : tM E w1 y ad f1 a1 := hT'
  obtain ⟨hr7, hf7, ha7⟩ := hz
  have hco := (hC.mono (show _ ≤ N + 64000 from by omega)).co (f1 := f1) (a1 := a1) (by rw [ha7]) (by rw [ha7]) (by rw [ha7]) (by rw [ha7]) (fun j hj => by rw [hf7]; exact up_n (by omega))
  rw [hr7]
  show W p l0 e room_1 s m args below meth c H locs c0 s0 Q (F0 m 1526 ls [.int (f 10), .int (f 10)])
  refine lv_icmp_eq (tgt := 1904) hx hb dL_law_1526 (by decide) (fun c1526 => ?_) (fun c1526 => ?_)
  · skip
    refine W.widen (show c0 ≤ c0 + 7000 from by omega) (show s0 ≤ s0 + 23000 from by omega) ?_
    exact kk _ H locs ls _ _ _ _ _ _ _ hco hT hO hD hP hS (lv_drop hl (by simp))
  · skip
    exact absurd rfl c1526

set_option maxHeartbeats 4000000 in
theorem law_isBalanced {p : Program} {e : Env} {s : State} {m : MethodId} {args : Array Value} {below : List Frame} {meth : Method} {c : Code} {E : gE} {b L : Nat} {xs : Nat → Int32} {Q : State → Prop} (l0 : Launch) (hl0 : l0.stackTraces = false) (hx : p.tables.exec = Jvm.exec) (hb : c.code = cL_law) (hml : c.maxLocals = 9) (hown : s.vm.findClass "KiteRoofsLaw" = some m.cls) (hts : ∀ w ∈ lw_all, w.before args s = true) (hG : gK E s) (hX0 : va_X b L xs s s.heap) (hbl : b < s.heap.size) (hbA : ¬ gA E b)
    {w : wd} {H : Heap} {locs : List Loc} {ls : Array Slot} {x y o od N mn cn nb i9 c0 s0 : Nat} {f : Nat → Int32} {a : Nat → Nat → Int32} {ad : Nat → Nat} {v : Int64} {v2 : UInt64} (hL : L ≤ 120) (hi : i9 + 5 ≤ L) (hN9 : N + 71 * 31 * 32 < 2 ^ 31) (hc0 : c0 + 7000 ≤ 1200144) (hs0 : s0 + 23000 ≤ 5497402)
    (hC : coS E w x N f a mn cn nb) (hT : tM E w y ad f a) (hO : lA E w o v) (hD : dA E w od v2) (hP : wP E w H) (hS : va_S (gA E) s.heap H locs) (hl : lv_has ls 9 [(0, .ref b), (1, .ref x), (2, .ref y), (3, .ref o), (4, .ref od), (5, .int (nI i9))])
    (kk : ∀ (w1 : wd) (H1 : Heap) (locs1 : List Loc) (ls1 : Array Slot) (f1 : Nat → Int32) (a1 : Nat → Nat → Int32) (mn1 cn1 nb1 : Nat) (v1 : Int64) (v21 : UInt64), coS E w1 x (N + 64000) f1 a1 mn1 cn1 nb1 → tM E w1 y ad f1 a1 → lA E w1 o v1 → dA E w1 od v21 → wP E w1 H1 → va_S (gA E) s.heap H1 locs1 → lv_has ls1 9 [(0, .ref b), (1, .ref x), (2, .ref y), (3, .ref o), (4, .ref od), (5, .int (nI i9))] → W p l0 e room_1 s m args below meth c H1 locs1 (c0 + 7000) (s0 + 23000) Q (F0 m 1904 ls1 [])) :
    W p l0 e room_1 s m args below meth c H locs c0 s0 Q (F0 m 1659 ls []) := by
  obtain ⟨⟨n9, n6, n7, n11⟩, ⟨n60, c8⟩, ⟨m25, m6⟩, gI0⟩ := hC.nums
  have hC0 := hC
  obtain ⟨A1, A2, A3, d, b, wn, ly, I, mk, hX, ⟨hM, hI⟩, ⟨u2, m2, wb2, lb2, hM2⟩, ⟨u3, m3, wb3, lb3, hM3, hs3⟩, ⟨hK, hKI⟩, ⟨hSB, hcB⟩, ⟨hf9n, hf6, hf7, hf11⟩⟩ := hC0
  have hc8 := hK.le
  have hm6 := hM.m25
  refine lv_aload_n hx hb dL_law_1659 rfl (lv_at hl 1 rfl) ?_
  refine k_cV hx hb hml hown hts (CX1_isBalanced l0 E w x A1 A2 A3 d b (f 5) (f 10) (f 11) (f 12) (a 0) mn wn ly N hI hX hM) (cwV 0 hts (lw_V q308 q309 q310 q69 q311) rfl rfl rfl dyX1_isBalanced ⟨Nat.le_of_ble_eq_true rfl, Nat.le_of_ble_eq_true rfl⟩) hG hP hS hX rfl (As := []) (rest := []) rfl hl.1 rfl (lv_room (Nat.le_of_ble_eq_true rfl)) dL_law_1660 ⟨show c0 + 0 ≤ 1200144 from by omega, show s0 + 0 ≤ 5497402 from by omega⟩ (fun r9 w9 H locs hp hP hS => ?_)
  obtain ⟨hp1, hp0⟩ := hp
  rw [hp1] at hP
  rw [hp0]
  show W p l0 e room_1 s m args below meth c H locs c0 s0 Q (F0 m 1663 ls [.int (bI (tBal (a 0) mn))])
  refine lv_aload_n hx hb dL_law_1663 rfl (lv_at hl 2 rfl) ?_
  refine k_cV hx hb hml hown hts (CX6_isBalanced l0 E w y ad f a mn hT m6 m25) (cwV 0 hts (lw_V q1933 q1934 q1935 q81 q1936) rfl rfl rfl dyX6_isBalanced ⟨Nat.le_of_ble_eq_true rfl, Nat.le_of_ble_eq_true rfl⟩) hG hP hS hT.1 rfl (As := []) (rest := [.int (bI (tBal (a 0) mn))]) rfl hl.1 rfl (lv_room (Nat.le_of_ble_eq_true rfl)) dL_law_1664 ⟨show c0 + 0 ≤ 1200144 from by omega, show s0 + 0 ≤ 5497402 from by omega⟩ (fun r1664 w1 H locs hp hP hS => ?_)
  obtain ⟨f1, a1, hz, hT', hf9⟩ := hp
  have hC : coS E w1 x N f a mn cn nb := hC.fr hf9 (fun t9 h9 => by simp only [tP, pO, pXs] at h9; omega)
  have hO : lA E w1 o v := hO.fr hf9 (by intro z9; simp [pO, pN, pW, pWd, tP, pXs] at z9)
  have hD : dA E w1 od v2 := hD.fr hf9 (by intro z9; simp [pO, pN, pW, pWd, tP, pXs] at z9)
  have hT : tM E w1 y ad f1 a1 := hT'
  obtain ⟨hr7, hf7, ha7⟩ := hz
  have hco := (hC.mono (show _ ≤ N + 64000 from by omega)).co (f1 := f1) (a1 := a1) (by rw [ha7]) (by rw [ha7]) (by rw [ha7]) (by rw [ha7]) (fun j hj => by rw [hf7]; exact up_n (by omega))
  rw [hr7]
  show W p l0 e room_1 s m args below meth c H locs c0 s0 Q (F0 m 1667 ls [.int (bI (tBal (a 0) mn)), .int (bI (tBal (a 0) mn))])
  refine lv_icmp_eq (tgt := 1904) hx hb dL_law_1667 (by decide) (fun c1667 => ?_) (fun c1667 => ?_)
  · skip
    refine W.widen (show c0 ≤ c0 + 7000 from by omega) (show s0 ≤ s0 + 23000 from by omega) ?_
    exact kk _ H locs ls _ _ _ _ _ _ _ hco hT hO hD hP hS (lv_drop hl (by simp))
  · skip
    exact absurd rfl c1667

set_option maxHeartbeats 4000000 in
theorem law_save {p : Program} {e : Env} {s : State} {m : MethodId} {args : Array Value} {below : List Frame} {meth : Method} {c : Code} {E : gE} {b L : Nat} {xs : Nat → Int32} {Q : State → Prop} (l0 : Launch) (hl0 : l0.stackTraces = false) (hx : p.tables.exec = Jvm.exec) (hb : c.code = cL_law) (hml : c.maxLocals = 9) (hown : s.vm.findClass "KiteRoofsLaw" = some m.cls) (hts : ∀ w ∈ lw_all, w.before args s = true) (hG : gK E s) (hX0 : va_X b L xs s s.heap) (hbl : b < s.heap.size) (hbA : ¬ gA E b)
    {w : wd} {H : Heap} {locs : List Loc} {ls : Array Slot} {x y o od N mn cn nb i9 c0 s0 : Nat} {f : Nat → Int32} {a : Nat → Nat → Int32} {ad : Nat → Nat} {v : Int64} {v2 : UInt64} (hL : L ≤ 120) (hi : i9 + 5 ≤ L) (hN9 : N + 71 * 31 * 32 < 2 ^ 31) (hc0 : c0 + 7000 ≤ 1200144) (hs0 : s0 + 23000 ≤ 5497402)
    (hC : coS E w x N f a mn cn nb) (hT : tM E w y ad f a) (hO : lA E w o v) (hD : dA E w od v2) (hP : wP E w H) (hS : va_S (gA E) s.heap H locs) (hl : lv_has ls 9 [(0, .ref b), (1, .ref x), (2, .ref y), (3, .ref o), (4, .ref od), (5, .int (nI i9))])
    (kk : ∀ (w1 : wd) (H1 : Heap) (locs1 : List Loc) (ls1 : Array Slot) (f1 : Nat → Int32) (a1 : Nat → Nat → Int32) (mn1 cn1 nb1 : Nat) (v1 : Int64) (v21 : UInt64), coS E w1 x (N + 64000) f1 a1 mn1 cn1 nb1 → tM E w1 y ad f1 a1 → lA E w1 o v1 → dA E w1 od v21 → wP E w1 H1 → va_S (gA E) s.heap H1 locs1 → lv_has ls1 9 [(0, .ref b), (1, .ref x), (2, .ref y), (3, .ref o), (4, .ref od), (5, .int (nI i9))] → W p l0 e room_1 s m args below meth c H1 locs1 (c0 + 7000) (s0 + 23000) Q (F0 m 1904 ls1 [])) :
    W p l0 e room_1 s m args below meth c H locs c0 s0 Q (F0 m 1847 ls []) := by
  obtain ⟨⟨n9, n6, n7, n11⟩, ⟨n60, c8⟩, ⟨m25, m6⟩, gI0⟩ := hC.nums
  have hC0 := hC
  obtain ⟨A1, A2, A3, d, b, wn, ly, I, mk, hX, ⟨hM, hI⟩, ⟨u2, m2, wb2, lb2, hM2⟩, ⟨u3, m3, wb3, lb3, hM3, hs3⟩, ⟨hK, hKI⟩, ⟨hSB, hcB⟩, ⟨hf9n, hf6, hf7n, hf11⟩⟩ := hC0
  have hc8 := hK.le
  have hm6 := hM.m25
  refine lv_aload_n hx hb dL_law_1847 rfl (lv_at hl 1 rfl) ?_
  refine k_cV hx hb hml hown hts (CX1_save l0 E w x A1 A2 A3 d b (f 5) (f 10) (f 11) (f 12) (a 0) mn wn ly u3 m3 wb3 lb3 hX hM hM3) (cwV 0 hts (lw_V q325 q326 q327 q69 q328) rfl rfl rfl dyX1_save ⟨Nat.le_of_ble_eq_true rfl, Nat.le_of_ble_eq_true rfl⟩) hG hP hS hX rfl (As := []) (rest := []) rfl hl.1 rfl (lv_room (Nat.le_of_ble_eq_true rfl)) dL_law_1848 ⟨show c0 + 6 ≤ 1200144 from by omega, show s0 + 12 ≤ 5497402 from by omega⟩ (fun r1848 w1 H locs hp hP hS => ?_)
  obtain ⟨hp0, ⟨hX', hM3', -⟩, hf9⟩ := hp
  have hT : tM E w1 y ad f a := hT.fr hf9 (fun t9 h9 => by simp only [pW, pWd, pO, pN, pXs] at h9; first | omega | (subst h9; decide))
  have hO : lA E w1 o v := hO.fr hf9 (by intro z9; simp [pO, pN, pW, pWd, tP, pXs] at z9)
  have hD : dA E w1 od v2 := hD.fr hf9 (by intro z9; simp [pO, pN, pW, pWd, tP, pXs] at z9)
  have hM : townR E w1 1 A1 (a 0) mn wn ly := hM.frm hf9 (by intro z9; first | (simp only [pO, pN, pD, pKp, pT, pB, pBs, pS, pR, pRd, pRo, Prod.mk.injEq, pX1, pX2, pXs, pX2t] at z9; done) | (simp only [pO, pN, pD, pKp, pT, pB, pBs, pS, pR, pRd, pRo, Prod.mk.injEq, pX1, pX2, pXs, pX2t] at z9; omega)) (fun r9 => (by intro z9; first | (simp only [pO, pN, pD, pKp, pT, pB, pBs, pS, pR, pRd, pRo, Prod.mk.injEq, pX1, pX2, pXs, pX2t] at z9; done) | (simp only [pO, pN, pD, pKp, pT, pB, pBs, pS, pR, pRd, pRo, Prod.mk.injEq, pX1, pX2, pXs, pX2t] at z9; omega)))
  have hM2 : townR E w1 2 A2 u2 m2 wb2 lb2 := hM2.frm hf9 (by intro z9; first | (simp only [pO, pN, pD, pKp, pT, pB, pBs, pS, pR, pRd, pRo, Prod.mk.injEq, pX1, pX2, pXs, pX2t] at z9; done) | (simp only [pO, pN, pD, pKp, pT, pB, pBs, pS, pR, pRd, pRo, Prod.mk.injEq, pX1, pX2, pXs, pX2t] at z9; omega)) (fun r9 => (by intro z9; first | (simp only [pO, pN, pD, pKp, pT, pB, pBs, pS, pR, pRd, pRo, Prod.mk.injEq, pX1, pX2, pXs, pX2t] at z9; done) | (simp only [pO, pN, pD, pKp, pT, pB, pBs, pS, pR, pRd, pRo, Prod.mk.injEq, pX1, pX2, pXs, pX2t] at z9; omega)))
  have hK : kpR E w1 d cn I (kRw a) mk := hK.fr hf9 (by intro z9; first | (simp only [pO, pN, pD, pKp, pT, pB, pBs, pS, pR, pRd, pRo, Prod.mk.injEq, pX1, pX2, pXs, pX2t] at z9; done) | (simp only [pO, pN, pD, pKp, pT, pB, pBs, pS, pR, pRd, pRo, Prod.mk.injEq, pX1, pX2, pXs, pX2t] at z9; omega)) (fun i9 r9 h7 h8 => (by intro z9; first | (simp only [pO, pN, pD, pKp, pT, pB, pBs, pS, pR, pRd, pRo, Prod.mk.injEq, pX1, pX2, pXs, pX2t] at z9; done) | (simp only [pO, pN, pD, pKp, pT, pB, pBs, pS, pR, pRd, pRo, Prod.mk.injEq, pX1, pX2, pXs, pX2t] at z9; omega)))
  have hSB : sbR E w1 b (a 8) nb := hSB.fr hf9 (by intro z9; first | (simp only [pO, pN, pD, pKp, pT, pB, pBs, pS, pR, pRd, pRo, Prod.mk.injEq, pX1, pX2, pXs, pX2t] at z9; done) | (simp only [pO, pN, pD, pKp, pT, pB, pBs, pS, pR, pRd, pRo, Prod.mk.injEq, pX1, pX2, pXs, pX2t] at z9; omega)) (by intro z9; first | (simp only [pO, pN, pD, pKp, pT, pB, pBs, pS, pR, pRd, pRo, Prod.mk.injEq, pX1, pX2, pXs, pX2t] at z9; done) | (simp only [pO, pN, pD, pKp, pT, pB, pBs, pS, pR, pRd, pRo, Prod.mk.injEq, pX1, pX2, pXs, pX2t] at z9; omega))
  have hX : w1 x = some ((94, 0), .inr (1, [.ref (A1 0), .ref (A2 0), .ref (A3 0), .int 1, .ref d, .ref b, .int (f 10), .int (f 11), .int (f 12)])) := hX'
  have hM3 : townR E w1 3 A3 (a 0) mn wb3 lb3 := hM3'
  rw [hp0]
  show W p l0 e room_1 s m args below meth c H locs (c0 + 6) (s0 + 12) Q (F0 m 1851 ls [.int ((a 0) 20)])
  have hXs := hX
  have hMs := hM
  have hM2s := hM2
  have hM3s := hM3
  have hKs := hK
  have hSBs := hSB
  skip
  refine lv_aload_n hx hb dL_law_1851 rfl (lv_at hl 2 rfl) ?_
  refine k_cV hx hb hml hown hts (CX6_save l0 E w1 y ad f a hT) (cwV 0 hts (lw_V q1949 q1950 q1951 q81 q1952) rfl rfl rfl dyX6_save ⟨Nat.le_of_ble_eq_true rfl, Nat.le_of_ble_eq_true rfl⟩) hG hP hS hT.1 rfl (As := []) (rest := [.int ((a 0) 20)]) rfl hl.1 rfl (lv_room (Nat.le_of_ble_eq_true rfl)) dL_law_1852 ⟨show (c0 + 6) + 0 ≤ 1200144 from by omega, show (s0 + 12) + 0 ≤ 5497402 from by omega⟩ (fun r1852 w2 H locs hp hP hS => ?_)
  obtain ⟨f1, a1, hz, hT', hf9⟩ := hp
  have hO : lA E w2 o v := hO.fr hf9 (by intro z9; simp [pO, pN, pW, pWd, tP, pXs] at z9)
  have hD : dA E w2 od v2 := hD.fr hf9 (by intro z9; simp [pO, pN, pW, pWd, tP, pXs] at z9)
  have hT : tM E w2 y ad f1 a1 := hT'
  obtain ⟨hr7, hf7, ha7⟩ := hz
  have hco := (coS_sv hf7 ha7 hXs hMs hI hM2s hM3s hKs hKI hSBs hcB hf9n hf6 hf7n hf11 : coS E w1 x N f1 a1 mn cn nb)
  have hco := (hco.mono (show _ ≤ N + 64000 from by omega)).fr hf9 (fun t9 h9 => by simp only [tP, pO, pXs] at h9; omega)
  rw [hr7]
  show W p l0 e room_1 s m args below meth c H locs (c0 + 6) (s0 + 12) Q (F0 m 1855 ls [.int (a 0 20), .int ((a 0) 20)])
  refine lv_icmp_eq (tgt := 1904) hx hb dL_law_1855 (by decide) (fun c1855 => ?_) (fun c1855 => ?_)
  · skip
    refine W.widen (show (c0 + 6) ≤ c0 + 7000 from by omega) (show (s0 + 12) ≤ s0 + 23000 from by omega) ?_
    exact kk _ H locs ls _ _ _ _ _ _ _ hco hT hO hD hP hS (lv_drop hl (by simp))
  · skip
    exact absurd rfl c1855

set_option maxHeartbeats 4000000 in
theorem law_outShare {p : Program} {e : Env} {s : State} {m : MethodId} {args : Array Value} {below : List Frame} {meth : Method} {c : Code} {E : gE} {b L : Nat} {xs : Nat → Int32} {Q : State → Prop} (l0 : Launch) (hl0 : l0.stackTraces = false) (hx : p.tables.exec = Jvm.exec) (hb : c.code = cL_law) (hml : c.maxLocals = 9) (hown : s.vm.findClass "KiteRoofsLaw" = some m.cls) (hts : ∀ w ∈ lw_all, w.before args s = true) (hG : gK E s) (hX0 : va_X b L xs s s.heap) (hbl : b < s.heap.size) (hbA : ¬ gA E b)
    {w : wd} {H : Heap} {locs : List Loc} {ls : Array Slot} {x y o od N mn cn nb i9 c0 s0 : Nat} {f : Nat → Int32} {a : Nat → Nat → Int32} {ad : Nat → Nat} {v : Int64} {v2 : UInt64} (hL : L ≤ 120) (hi : i9 + 5 ≤ L) (hN9 : N + 71 * 31 * 32 < 2 ^ 31) (hc0 : c0 + 7000 ≤ 1200144) (hs0 : s0 + 23000 ≤ 5497402)
    (hC : coS E w x N f a mn cn nb) (hT : tM E w y ad f a) (hO : lA E w o v) (hD : dA E w od v2) (hP : wP E w H) (hS : va_S (gA E) s.heap H locs) (hl : lv_has ls 9 [(0, .ref b), (1, .ref x), (2, .ref y), (3, .ref o), (4, .ref od), (5, .int (nI i9))])
    (kk : ∀ (w1 : wd) (H1 : Heap) (locs1 : List Loc) (ls1 : Array Slot) (f1 : Nat → Int32) (a1 : Nat → Nat → Int32) (mn1 cn1 nb1 : Nat) (v1 : Int64) (v21 : UInt64), coS E w1 x (N + 64000) f1 a1 mn1 cn1 nb1 → tM E w1 y ad f1 a1 → lA E w1 o v1 → dA E w1 od v21 → wP E w1 H1 → va_S (gA E) s.heap H1 locs1 → lv_has ls1 9 [(0, .ref b), (1, .ref x), (2, .ref y), (3, .ref o), (4, .ref od), (5, .int (nI i9))] → W p l0 e room_1 s m args below meth c H1 locs1 (c0 + 7000) (s0 + 23000) Q (F0 m 1904 ls1 [])) :
    W p l0 e room_1 s m args below meth c H locs c0 s0 Q (F0 m 1737 ls []) := by
  obtain ⟨⟨n9, n6, n7, n11⟩, ⟨n60, c8⟩, ⟨m25, m6⟩, gI0⟩ := hC.nums
  obtain ⟨k3, hk3, e3⟩ := tSu_nn gI0 (Or.inl rfl) mn (Nat.le_refl _)
  obtain ⟨k5, hk5, e5⟩ := tSu_nn gI0 (Or.inr rfl) mn (Nat.le_refl _)
  have hb3 : (tSu (a 0) 3 mn).toInt.natAbs < 16777216 := by rw [e3, nI_toInt (by omega)]; omega
  have hb5 : (tSu (a 0) 5 mn).toInt.natAbs < 16777216 := by rw [e5, nI_toInt (by omega)]; omega
  refine lv_aload_n hx hb dL_law_1737 rfl (lv_at hl 1 rfl) ?_
  refine lv_aload hx hb dL_law_1738 (lv_at hl 4 rfl) ?_
  refine kx_cSH hx hb hml hown hts (CX0_outShare l0 hl0 E w x od f a mn cn nb N v2 hC hD) (vx_cwSW 2 hts (lw_SW q1571 q1572 q68 q1573) rfl rfl rfl dyX0_outShare ⟨Nat.le_of_ble_eq_true rfl, Nat.le_of_ble_eq_true rfl⟩) hG hP hS (As := [.ref x, .ref od]) (rest := []) rfl hl.1 rfl (lv_room (Nat.le_of_ble_eq_true rfl)) dL_law_1740 ⟨show c0 + 40 ≤ 1200144 from by omega, show s0 + 220 ≤ 5497402 from by omega⟩ (fun r1740 w1 H locs hp hP hS => ?_)
  obtain ⟨v9_1, hp0, ⟨hD', hC', -⟩, hf9⟩ := hp
  have hT : tM E w1 y ad f a := hT.fr hf9 (fun t9 h9 => by simp only [pW, pWd, pO, pN, pXs] at h9; first | omega | (subst h9; decide))
  have hO : lA E w1 o v := hO.fr hf9 (by intro z9; simp [pO, pN, pW, pWd, tP, pXs] at z9)
  have hD : dA E w1 od v9_1 := hD'
  have hC : coS E w1 x N f a mn cn nb := hC'
  show W p l0 e room_1 s m args below meth c H locs (c0 + 40) (s0 + 220) Q (F0 m 1743 ls [.int r1740])
  obtain ⟨hk0, hk1⟩ := hp0
  refine lv_istore (lv' := [(6, .int r1740), (0, .ref b), (1, .ref x), (2, .ref y), (3, .ref o), (4, .ref od), (5, .int (nI i9))]) hx hb dL_law_1743 hl (by decide) rfl (fun ls hl => ?_)
  refine lv_aload_n hx hb dL_law_1745 rfl (lv_at hl 3 rfl) ?_
  refine k_cV hx hb hml hown hts (CX6_outShare l0 E w1 y ad f a mn hT m6 m25 hb3 hb5) (cwV 0 hts (lw_V q1941 q1942 q1943 q81 q1944) rfl rfl rfl dyX6_outShare ⟨Nat.le_of_ble_eq_true rfl, Nat.le_of_ble_eq_true rfl⟩) hG hP hS hT.1 rfl (As := []) (rest := []) rfl hl.1 rfl (lv_room (Nat.le_of_ble_eq_true rfl)) dL_law_1746 ⟨show (c0 + 40) + 0 ≤ 1200144 from by omega, show (s0 + 220) + 0 ≤ 5497402 from by omega⟩ (fun r1746 w2 H locs hp hP hS => ?_)
  obtain ⟨f1, a1, hz, hT', hf9⟩ := hp
  have hC : coS E w2 x N f a mn cn nb := hC.fr hf9 (fun t9 h9 => by simp only [tP, pO, pXs] at h9; omega)
  have hO : lA E w2 o v := hO.fr hf9 (by intro z9; simp [pO, pN, pW, pWd, tP, pXs] at z9)
  have hD : dA E w2 od v9_1 := hD.fr hf9 (by intro z9; simp [pO, pN, pW, pWd, tP, pXs] at z9)
  have hT : tM E w2 y ad f1 a1 := hT'
  have hz9 : a1 = a ∧ (∀ j, j ≠ 13 → f1 j = f j) ∧ f1 13 = (if tSu (a 0) 3 mn = 0 then (1 : Int32) else 0) ∧ ((if tSu (a 0) 3 mn = 0 then (1 : Int32) else 0) = 0 → r1746 = FP.fdiv (FP.i2f (tSu (a 0) 5 mn)) (FP.i2f (tSu (a 0) 3 mn))) := by
    rcases hz with ⟨h0, e2, e3⟩ | ⟨h0, e1, e2, e3⟩
    · exact ⟨e3, fun j hj => by rw [e2, up_n hj], by rw [e2, up_s, if_pos h0], fun e9 => by rw [if_pos h0] at e9; exact absurd e9 (by decide)⟩
    · exact ⟨e3, fun j hj => by rw [e2, up_n hj], by rw [e2, up_s, if_neg h0], fun _ => e1⟩
  obtain ⟨ha7, hf7, hth, hans⟩ := hz9
  have hco := (hC.mono (show _ ≤ N + 64000 from by omega)).co (f1 := f1) (a1 := a1) (by rw [ha7]) (by rw [ha7]) (by rw [ha7]) (by rw [ha7]) (fun j hj => hf7 j (by omega))
  show W p l0 e room_1 s m args below meth c H locs (c0 + 40) (s0 + 220) Q (F0 m 1749 ls [.float r1746])
  refine lv_fstore hx hb dL_law_1749 hl (by decide) rfl (fun ls hl => ?_)
  have hl : lv_has ls 9 [(7, .float r1746), (6, .int r1740), (0, .ref b), (1, .ref x), (2, .ref y), (3, .ref o), (4, .ref od), (5, .int (nI i9))] := hl
  refine lv_aload_n hx hb dL_law_1751 rfl (lv_at hl 4 rfl) ?_
  refine k_cV hx hb hml hown hts (CX6_thrown l0 E w2 y ad f1 a1 hT) (cwV 0 hts (lw_V q1681 q1682 q1683 q81 q1684) rfl rfl rfl dyX6_thrown ⟨Nat.le_of_ble_eq_true rfl, Nat.le_of_ble_eq_true rfl⟩) hG hP hS hT.1 rfl (As := []) (rest := []) rfl hl.1 rfl (lv_room (Nat.le_of_ble_eq_true rfl)) dL_law_1752 ⟨show (c0 + 40) + 0 ≤ 1200144 from by omega, show (s0 + 220) + 0 ≤ 5497402 from by omega⟩ (fun r1752 w3 H locs hp hP hS => ?_)
  obtain ⟨hp1, hp0⟩ := hp
  rw [hp1] at hP
  rw [hp0, hth, ← hk0]
  show W p l0 e room_1 s m args below meth c H locs (c0 + 40) (s0 + 220) Q (F0 m 1755 ls [.int r1740])
  refine lv_iload hx hb dL_law_1755 (lv_at hl 1 rfl) ?_
  refine lv_icmp_eq (tgt := 1762) hx hb dL_law_1757 (by decide) (fun c1757 => ?_) (fun c1757 => ?_)
  · skip
    refine lv_iload hx hb dL_law_1762 (lv_at hl 1 rfl) ?_
    refine lv_if_ne (tgt := 1800) hx hb dL_law_1764 (by decide) (fun c1764 => ?_) (fun c1764 => ?_)
    · skip
      refine lv_goto (tgt := 1904) hx hb dL_law_1800 (by decide) ?_
      refine W.widen (show (c0 + 40) ≤ c0 + 7000 from by omega) (show (s0 + 220) ≤ s0 + 23000 from by omega) ?_
      exact kk _ H locs ls _ _ _ _ _ _ _ hco hT hO hD hP hS (lv_drop hl (by simp))
    · skip
      have hv9 := hk1 (hk0.symm.trans c1764)
      have hans9 := hans (hk0.symm.trans c1764)
      rw [hv9, ← hans9] at hD
      have hD : dA E w2 od (FP.f2d r1746) := hD
      have hcode := hk0.symm.trans c1764
      have hn3 : ¬ tSu (a 0) 3 mn = 0 := fun e9 => by rw [if_pos e9] at hcode; exact absurd hcode (by decide)
      have hans8 := hans hcode
      have hne9 : vf_n64 (FP.f2d r1746) := by rw [hans8]; exact fl_f2d (fl_f hn3 hb5 hb3)
      refine lv_aload hx hb dL_law_1767 (lv_at hl 6 rfl) ?_
      refine lv_iconst (v := 0) hx hb dL_law_1769 (by decide) ?_
      refine k_dald hx hb hG hP hD dL_law_1770 ?_
      refine lv_fload hx hb dL_law_1771 (lv_at hl 0 rfl) ?_
      refine lv_f2d hx hb dL_law_1773 hne9 ?_
      refine lv_dcmp hx hb dL_law_1774 ?_
      refine lv_if_eq (tgt := 1800) hx hb dL_law_1775 (by decide) (fun c1775 => ?_) (fun c1775 => ?_)
      · skip
        refine lv_goto (tgt := 1904) hx hb dL_law_1800 (by decide) ?_
        refine W.widen (show (c0 + 40) ≤ c0 + 7000 from by omega) (show (s0 + 220) ≤ s0 + 23000 from by omega) ?_
        exact kk _ H locs ls _ _ _ _ _ _ _ hco hT hO hD hP hS (lv_drop hl (by simp))
      · skip
        exact absurd (dc_self hne9) c1775
  · skip
    exact absurd rfl c1757
