/-! THE COMPONENT, 6: crossings, sums, reasons -/
set_option maxRecDepth 100000
abbrev rmCX2_doCross : Room := { frames := 2, cells := 0, slots := 0, locals := 44 }
theorem dyX2_doCross : yX2_doCross.cls = RX2 ∧ yX2_doCross.cls ≠ "java/lang/invoke/MethodHandle" ∧ yX2_doCross.cls ≠ "java/lang/invoke/VarHandle" ∧ (parseMethodDescriptor yX2_doCross.desc).map (fun d => d.parameters.length) = some 3 := by decide +kernel
set_option maxHeartbeats 4000000 in
theorem CX2_doCross (l0 : Launch) (E : gE) (w : wd) (i : Nat) (A : Nat → Nat) (g : Nat → Int32) (mn : Nat) (wn : Nat → Int32) (ly : Nat → Int32) (N : Nat) (x : Nat) (y : Nat) (n : Nat) (hI : gI g mn N) (hx9 : x < mn) (hy9 : y < mn) (hn9 : n < 10) (hM : townR E w i A g mn wn ly) : kC l0 yX2_doCross (ws_ yX2_doCross cX2_doCross 6 (some .boolean)) rmCX2_doCross 0 0 mI E w [.ref (A 0), .ref (A (6 + x)), .ref (A (6 + y)), .int (nI n)] (fun r w' => w' = w ∧ r = (bI (tDo (tPl g x n - tPl g y n) (tPl g x (n + 1) - tPl g y (n + 1))))) := by
  refine k_open (cc := cX2_doCross) (maxL := 6) (ret := (some .boolean)) (by decide) rfl (Nat.le_of_ble_eq_true rfl) ?_
  intro p e s m args below meth c ls Q hx hb hr hml hown hts hlocks hname hQ hG hP hl hS
  have hl : lv_has ls 6 [(0, .ref (A 0)), (1, .ref (A (6 + x))), (2, .ref (A (6 + y))), (3, .int (nI n))] := hl
  obtain ⟨hT, ⟨fs9, hS1, hs1⟩, ⟨fd9, hS2, hs2⟩, ⟨fk9, hS3, hs3⟩, hS4, hS5, ⟨hm, hmn⟩, hK⟩ := id hM
  refine lv_aload_n hx hb dX2_doCross_0 rfl (lv_at hl 0 rfl) ?_
  refine lv_aload_n hx hb dX2_doCross_1 rfl (lv_at hl 1 rfl) ?_
  refine lv_iload_n hx hb dX2_doCross_2 rfl (lv_at hl 3 rfl) ?_
  refine k_cV hx hb hml hown hts (CX2_place l0 E w i A g mn wn ly N x n hI (by omega) (by omega) hM) (cwV 2 hts (lw_V q844 q846 qs10 q70 q847) rfl rfl rfl dyX2_place ⟨Nat.le_of_ble_eq_true rfl, Nat.le_of_ble_eq_true rfl⟩) hG hP hS hT rfl (As := [.ref (A (6 + x)), .int (nI n)]) (rest := []) rfl hl.1 rfl (lv_room (Nat.le_of_ble_eq_true rfl)) dX2_doCross_3 ⟨show 0 + 0 ≤ 0 from by omega, show 0 + 0 ≤ 0 from by omega⟩ (fun r9 w9 H locs hp hP hS => ?_)
  obtain ⟨hp1, hp0⟩ := hp
  rw [hp1] at hP
  rw [hp0]
  show W p l0 e rmCX2_doCross s m args below meth c H locs 0 0 Q (F0 m 6 ls [.int (tPl g x n)])
  refine lv_aload_n hx hb dX2_doCross_6 rfl (lv_at hl 0 rfl) ?_
  refine lv_aload_n hx hb dX2_doCross_7 rfl (lv_at hl 2 rfl) ?_
  refine lv_iload_n hx hb dX2_doCross_8 rfl (lv_at hl 3 rfl) ?_
  refine k_cV hx hb hml hown hts (CX2_place l0 E w i A g mn wn ly N y n hI (by omega) (by omega) hM) (cwV 2 hts (lw_V q844 q846 qs10 q70 q847) rfl rfl rfl dyX2_place ⟨Nat.le_of_ble_eq_true rfl, Nat.le_of_ble_eq_true rfl⟩) hG hP hS hT rfl (As := [.ref (A (6 + y)), .int (nI n)]) (rest := [.int (tPl g x n)]) rfl hl.1 rfl (lv_room (Nat.le_of_ble_eq_true rfl)) dX2_doCross_9 ⟨show 0 + 0 ≤ 0 from by omega, show 0 + 0 ≤ 0 from by omega⟩ (fun r9 w9 H locs hp hP hS => ?_)
  obtain ⟨hp1, hp0⟩ := hp
  rw [hp1] at hP
  rw [hp0]
  show W p l0 e rmCX2_doCross s m args below meth c H locs 0 0 Q (F0 m 12 ls [.int (tPl g y n), .int (tPl g x n)])
  refine lv_isub hx hb dX2_doCross_12 ?_
  refine lv_istore (lv' := [(4, .int ((tPl g x n) - (tPl g y n))), (0, .ref (A 0)), (1, .ref (A (6 + x))), (2, .ref (A (6 + y))), (3, .int (nI n))]) hx hb dX2_doCross_13 hl (by decide) rfl (fun ls hl => ?_)
  refine lv_aload_n hx hb dX2_doCross_15 rfl (lv_at hl 1 rfl) ?_
  refine lv_aload_n hx hb dX2_doCross_16 rfl (lv_at hl 2 rfl) ?_
  refine lv_iload_n hx hb dX2_doCross_17 rfl (lv_at hl 4 rfl) ?_
  refine lv_iconst (v := 1) hx hb dX2_doCross_18 (by decide) ?_
  refine k_iaddN (x := n) (y := 1) hx hb dX2_doCross_19 ?_
  refine k_cV hx hb hml hown hts (CX2_place l0 E w i A g mn wn ly N x (n + 1) hI (by omega) (by omega) hM) (cwV 2 hts (lw_V q844 q846 qs10 q70 q847) rfl rfl rfl dyX2_place ⟨Nat.le_of_ble_eq_true rfl, Nat.le_of_ble_eq_true rfl⟩) hG hP hS hT rfl (As := [.ref (A (6 + x)), .int (nI (n + 1))]) (rest := []) rfl hl.1 rfl (lv_room (Nat.le_of_ble_eq_true rfl)) dX2_doCross_20 ⟨show 0 + 0 ≤ 0 from by omega, show 0 + 0 ≤ 0 from by omega⟩ (fun r9 w9 H locs hp hP hS => ?_)
  obtain ⟨hp1, hp0⟩ := hp
  rw [hp1] at hP
  rw [hp0]
  show W p l0 e rmCX2_doCross s m args below meth c H locs 0 0 Q (F0 m 23 ls [.int (tPl g x (n + 1))])
  refine lv_aload_n hx hb dX2_doCross_23 rfl (lv_at hl 1 rfl) ?_
  refine lv_aload_n hx hb dX2_doCross_24 rfl (lv_at hl 3 rfl) ?_
  refine lv_iload_n hx hb dX2_doCross_25 rfl (lv_at hl 4 rfl) ?_
  refine lv_iconst (v := 1) hx hb dX2_doCross_26 (by decide) ?_
  refine k_iaddN (x := n) (y := 1) hx hb dX2_doCross_27 ?_
  refine k_cV hx hb hml hown hts (CX2_place l0 E w i A g mn wn ly N y (n + 1) hI (by omega) (by omega) hM) (cwV 2 hts (lw_V q844 q846 qs10 q70 q847) rfl rfl rfl dyX2_place ⟨Nat.le_of_ble_eq_true rfl, Nat.le_of_ble_eq_true rfl⟩) hG hP hS hT rfl (As := [.ref (A (6 + y)), .int (nI (n + 1))]) (rest := [.int (tPl g x (n + 1))]) rfl hl.1 rfl (lv_room (Nat.le_of_ble_eq_true rfl)) dX2_doCross_28 ⟨show 0 + 0 ≤ 0 from by omega, show 0 + 0 ≤ 0 from by omega⟩ (fun r9 w9 H locs hp hP hS => ?_)
  obtain ⟨hp1, hp0⟩ := hp
  rw [hp1] at hP
  rw [hp0]
  show W p l0 e rmCX2_doCross s m args below meth c H locs 0 0 Q (F0 m 31 ls [.int (tPl g y (n + 1)), .int (tPl g x (n + 1))])
  refine lv_isub hx hb dX2_doCross_31 ?_
  refine lv_istore (lv' := [(5, .int ((tPl g x (n + 1)) - (tPl g y (n + 1)))), (4, .int ((tPl g x n) - (tPl g y n))), (0, .ref (A 0)), (1, .ref (A (6 + x))), (2, .ref (A (6 + y))), (3, .int (nI n))]) hx hb dX2_doCross_32 hl (by decide) rfl (fun ls hl => ?_)
  refine lv_iload hx hb dX2_doCross_34 (lv_at hl 0 rfl) ?_
  refine lv_if_eq (tgt := 59) hx hb dX2_doCross_36 (by decide) (fun c36 => ?_) (fun c36 => ?_)
  · skip
    have hD : tDo ((tPl g x n) - (tPl g y n)) ((tPl g x (n + 1)) - (tPl g y (n + 1))) = true := by rw [tDo_iff]; (try simp only [i_le, i_lt, i_eq, i_0] at c36); (try simp only [i_le, i_lt, i_eq, i_0] at c41); (try simp only [i_le, i_lt, i_eq, i_0] at c46); (try simp only [i_le, i_lt, i_eq, i_0] at c51); (try simp only [i_le, i_lt, i_eq, i_0] at c56); omega
    refine lv_iconst (v := 1) hx hb dX2_doCross_59 (by decide) ?_
    refine lv_goto (tgt := 64) hx hb dX2_doCross_60 (by decide) ?_
    exact k_zret hx hb hr hlocks hQ hP hS (by omega) (by omega) dX2_doCross_64 rfl (⟨rfl, by rw [hD]; rfl⟩)
  · skip
    refine lv_iload hx hb dX2_doCross_39 (lv_at hl 1 rfl) ?_
    refine lv_if_ge (tgt := 49) hx hb dX2_doCross_41 (by decide) (fun c41 => ?_) (fun c41 => ?_)
    · skip
      refine lv_iload hx hb dX2_doCross_49 (lv_at hl 1 rfl) ?_
      refine lv_if_le (tgt := 63) hx hb dX2_doCross_51 (by decide) (fun c51 => ?_) (fun c51 => ?_)
      · skip
        have hD : tDo ((tPl g x n) - (tPl g y n)) ((tPl g x (n + 1)) - (tPl g y (n + 1))) = false := by rw [← Bool.not_eq_true, tDo_iff]; (try simp only [i_le, i_lt, i_eq, i_0] at c36); (try simp only [i_le, i_lt, i_eq, i_0] at c41); (try simp only [i_le, i_lt, i_eq, i_0] at c46); (try simp only [i_le, i_lt, i_eq, i_0] at c51); (try simp only [i_le, i_lt, i_eq, i_0] at c56); omega
        refine lv_iconst (v := 0) hx hb dX2_doCross_63 (by decide) ?_
        exact k_zret hx hb hr hlocks hQ hP hS (by omega) (by omega) dX2_doCross_64 rfl (⟨rfl, by rw [hD]; rfl⟩)
      · skip
        refine lv_iload hx hb dX2_doCross_54 (lv_at hl 0 rfl) ?_
        refine lv_if_ge (tgt := 63) hx hb dX2_doCross_56 (by decide) (fun c56 => ?_) (fun c56 => ?_)
        · skip
          have hD : tDo ((tPl g x n) - (tPl g y n)) ((tPl g x (n + 1)) - (tPl g y (n + 1))) = false := by rw [← Bool.not_eq_true, tDo_iff]; (try simp only [i_le, i_lt, i_eq, i_0] at c36); (try simp only [i_le, i_lt, i_eq, i_0] at c41); (try simp only [i_le, i_lt, i_eq, i_0] at c46); (try simp only [i_le, i_lt, i_eq, i_0] at c51); (try simp only [i_le, i_lt, i_eq, i_0] at c56); omega
          refine lv_iconst (v := 0) hx hb dX2_doCross_63 (by decide) ?_
          exact k_zret hx hb hr hlocks hQ hP hS (by omega) (by omega) dX2_doCross_64 rfl (⟨rfl, by rw [hD]; rfl⟩)
        · skip
          have hD : tDo ((tPl g x n) - (tPl g y n)) ((tPl g x (n + 1)) - (tPl g y (n + 1))) = true := by rw [tDo_iff]; (try simp only [i_le, i_lt, i_eq, i_0] at c36); (try simp only [i_le, i_lt, i_eq, i_0] at c41); (try simp only [i_le, i_lt, i_eq, i_0] at c46); (try simp only [i_le, i_lt, i_eq, i_0] at c51); (try simp only [i_le, i_lt, i_eq, i_0] at c56); omega
          refine lv_iconst (v := 1) hx hb dX2_doCross_59 (by decide) ?_
          refine lv_goto (tgt := 64) hx hb dX2_doCross_60 (by decide) ?_
          exact k_zret hx hb hr hlocks hQ hP hS (by omega) (by omega) dX2_doCross_64 rfl (⟨rfl, by rw [hD]; rfl⟩)
    · skip
      refine lv_iload hx hb dX2_doCross_44 (lv_at hl 0 rfl) ?_
      refine lv_if_gt (tgt := 59) hx hb dX2_doCross_46 (by decide) (fun c46 => ?_) (fun c46 => ?_)
      · skip
        have hD : tDo ((tPl g x n) - (tPl g y n)) ((tPl g x (n + 1)) - (tPl g y (n + 1))) = true := by rw [tDo_iff]; (try simp only [i_le, i_lt, i_eq, i_0] at c36); (try simp only [i_le, i_lt, i_eq, i_0] at c41); (try simp only [i_le, i_lt, i_eq, i_0] at c46); (try simp only [i_le, i_lt, i_eq, i_0] at c51); (try simp only [i_le, i_lt, i_eq, i_0] at c56); omega
        refine lv_iconst (v := 1) hx hb dX2_doCross_59 (by decide) ?_
        refine lv_goto (tgt := 64) hx hb dX2_doCross_60 (by decide) ?_
        exact k_zret hx hb hr hlocks hQ hP hS (by omega) (by omega) dX2_doCross_64 rfl (⟨rfl, by rw [hD]; rfl⟩)
      · skip
        refine lv_iload hx hb dX2_doCross_49 (lv_at hl 1 rfl) ?_
        refine lv_if_le (tgt := 63) hx hb dX2_doCross_51 (by decide) (fun c51 => ?_) (fun c51 => ?_)
        · skip
          have hD : tDo ((tPl g x n) - (tPl g y n)) ((tPl g x (n + 1)) - (tPl g y (n + 1))) = false := by rw [← Bool.not_eq_true, tDo_iff]; (try simp only [i_le, i_lt, i_eq, i_0] at c36); (try simp only [i_le, i_lt, i_eq, i_0] at c41); (try simp only [i_le, i_lt, i_eq, i_0] at c46); (try simp only [i_le, i_lt, i_eq, i_0] at c51); (try simp only [i_le, i_lt, i_eq, i_0] at c56); omega
          refine lv_iconst (v := 0) hx hb dX2_doCross_63 (by decide) ?_
          exact k_zret hx hb hr hlocks hQ hP hS (by omega) (by omega) dX2_doCross_64 rfl (⟨rfl, by rw [hD]; rfl⟩)
        · skip
          refine lv_iload hx hb dX2_doCross_54 (lv_at hl 0 rfl) ?_
          refine lv_if_ge (tgt := 63) hx hb dX2_doCross_56 (by decide) (fun c56 => ?_) (fun c56 => ?_)
          · skip
            have hD : tDo ((tPl g x n) - (tPl g y n)) ((tPl g x (n + 1)) - (tPl g y (n + 1))) = false := by rw [← Bool.not_eq_true, tDo_iff]; (try simp only [i_le, i_lt, i_eq, i_0] at c36); (try simp only [i_le, i_lt, i_eq, i_0] at c41); (try simp only [i_le, i_lt, i_eq, i_0] at c46); (try simp only [i_le, i_lt, i_eq, i_0] at c51); (try simp only [i_le, i_lt, i_eq, i_0] at c56); omega
            refine lv_iconst (v := 0) hx hb dX2_doCross_63 (by decide) ?_
            exact k_zret hx hb hr hlocks hQ hP hS (by omega) (by omega) dX2_doCross_64 rfl (⟨rfl, by rw [hD]; rfl⟩)
          · skip
            have hD : tDo ((tPl g x n) - (tPl g y n)) ((tPl g x (n + 1)) - (tPl g y (n + 1))) = true := by rw [tDo_iff]; (try simp only [i_le, i_lt, i_eq, i_0] at c36); (try simp only [i_le, i_lt, i_eq, i_0] at c41); (try simp only [i_le, i_lt, i_eq, i_0] at c46); (try simp only [i_le, i_lt, i_eq, i_0] at c51); (try simp only [i_le, i_lt, i_eq, i_0] at c56); omega
            refine lv_iconst (v := 1) hx hb dX2_doCross_59 (by decide) ?_
            refine lv_goto (tgt := 64) hx hb dX2_doCross_60 (by decide) ?_
            exact k_zret hx hb hr hlocks hQ hP hS (by omega) (by omega) dX2_doCross_64 rfl (⟨rfl, by rw [hD]; rfl⟩)

abbrev rmCX2_crossing : Room := { frames := 3, cells := 0, slots := 0, locals := 78 }
theorem dyX2_crossing : yX2_crossing.cls = RX2 ∧ yX2_crossing.cls ≠ "java/lang/invoke/MethodHandle" ∧ yX2_crossing.cls ≠ "java/lang/invoke/VarHandle" ∧ (parseMethodDescriptor yX2_crossing.desc).map (fun d => d.parameters.length) = some 2 := by decide +kernel
set_option maxHeartbeats 4000000 in
theorem CX2_crossing (l0 : Launch) (E : gE) (w : wd) (i : Nat) (A : Nat → Nat) (g : Nat → Int32) (mn : Nat) (wn : Nat → Int32) (ly : Nat → Int32) (N : Nat) (x : Nat) (y : Nat) (hI : gI g mn N) (hx9 : x < mn) (hy9 : y < mn) (hM : townR E w i A g mn wn ly) : kC l0 yX2_crossing (ws_ yX2_crossing cX2_crossing 7 (some .int)) rmCX2_crossing 0 0 mI E w [.ref (A 0), .int (nI x), .int (nI y)] (fun r w' => w' = w ∧ r = (oI (tCr g x y))) := by
  refine k_open (cc := cX2_crossing) (maxL := 7) (ret := (some .int)) (by decide) rfl (Nat.le_of_ble_eq_true rfl) ?_
  intro p e s m args below meth c ls Q hx hb hr hml hown hts hlocks hname hQ hG hP hl hS
  have hl : lv_has ls 7 [(0, .ref (A 0)), (1, .int (nI x)), (2, .int (nI y))] := hl
  obtain ⟨hT, ⟨fs9, hS1, hs1⟩, ⟨fd9, hS2, hs2⟩, ⟨fk9, hS3, hs3⟩, hS4, hS5, ⟨hm, hmn⟩, hK⟩ := id hM
  obtain ⟨t9, hk, hst⟩ := hM.kite (k := x) (by omega)
  obtain ⟨t92, hk2, hst2⟩ := hM.kite (k := y) (by omega)
  have t1 := tHt_le g x
  have t2 := tHt_le g y
  refine lv_aload_n hx hb dX2_crossing_0 rfl (lv_at hl 0 rfl) ?_
  refine k_get hx hb hts in_X2 hown hG hP hT rfl 2 (by decide) (hts _ q184) (fun _ h9 => h9) (v := .ref (A 3)) rfl dX2_crossing_1 ?_
  refine lv_iload_n hx hb dX2_crossing_4 rfl (lv_at hl 1 rfl) ?_
  refine k_aald hx hb hG hP (j := x) 4 hS3 rfl (by omega) (show x < 6 from by omega) dX2_crossing_5 ?_
  rw [hs3 x (by omega)]
  refine lv_astore_n (lv' := [(3, .ref (A (6 + x))), (0, .ref (A 0)), (1, .int (nI x)), (2, .int (nI y))]) hx hb dX2_crossing_6 rfl hl (by decide) rfl (fun ls hl => ?_)
  refine lv_aload_n hx hb dX2_crossing_7 rfl (lv_at hl 1 rfl) ?_
  refine k_get hx hb hts in_X2 hown hG hP hT rfl 2 (by decide) (hts _ q184) (fun _ h9 => h9) (v := .ref (A 3)) rfl dX2_crossing_8 ?_
  refine lv_iload_n hx hb dX2_crossing_11 rfl (lv_at hl 3 rfl) ?_
  refine k_aald hx hb hG hP (j := y) 4 hS3 rfl (by omega) (show y < 6 from by omega) dX2_crossing_12 ?_
  rw [hs3 y (by omega)]
  refine lv_astore (lv' := [(4, .ref (A (6 + y))), (3, .ref (A (6 + x))), (0, .ref (A 0)), (1, .int (nI x)), (2, .int (nI y))]) hx hb dX2_crossing_13 hl (by decide) rfl (fun ls hl => ?_)
  refine lv_iload_n hx hb dX2_crossing_15 rfl (lv_at hl 3 rfl) ?_
  refine lv_iload_n hx hb dX2_crossing_16 rfl (lv_at hl 4 rfl) ?_
  refine k_icmp_eqN (x := x) (y := y) (tgt := 35) hx hb (by omega) (by omega) dX2_crossing_17 (by decide) (fun c17 => ?_) (fun c17 => ?_)
  · skip
    refine lv_iconst (v := (-1)) hx hb dX2_crossing_35 (by decide) ?_
    exact k_iret hx hb hr hlocks hQ hP hS (by omega) (by omega) dX2_crossing_36 (⟨rfl, by first | (rw [tCr, if_pos c17]; rfl) | (rw [tCr_nu1 c24]; rfl) | (rw [tCr_nu2 c32]; rfl)⟩)
  · skip
    refine lv_aload_n hx hb dX2_crossing_20 rfl (lv_at hl 1 rfl) ?_
    refine k_cV hx hb hml hown hts (CX3_isUp l0 E w i x (A (6 + x)) (kv g x) t9 hk hst) (cwV 0 hts (lw_V q712 q713 q714 q71 q715) rfl rfl rfl dyX3_isUp ⟨Nat.le_of_ble_eq_true rfl, Nat.le_of_ble_eq_true rfl⟩) hG hP hS hk rfl (As := []) (rest := []) rfl hl.1 rfl (lv_room (Nat.le_of_ble_eq_true rfl)) dX2_crossing_21 ⟨show 0 + 0 ≤ 0 from by omega, show 0 + 0 ≤ 0 from by omega⟩ (fun r9 w9 H locs hp hP hS => ?_)
    obtain ⟨hp1, hp0⟩ := hp
    rw [hp1] at hP
    rw [hp0]
    show W p l0 e rmCX2_crossing s m args below meth c H locs 0 0 Q (F0 m 24 ls [.int (bI (decide (((kv g x) 0) = 1)))])
    refine k_top (y := (bI (tUp g x))) (rfl) ?_
    refine k_ifeqB (x := tUp g x) (tgt := 35) hx hb dX2_crossing_24 (by decide) (fun c24 => ?_) (fun c24 => ?_)
    · skip
      refine lv_iconst (v := (-1)) hx hb dX2_crossing_35 (by decide) ?_
      exact k_iret hx hb hr hlocks hQ hP hS (by omega) (by omega) dX2_crossing_36 (⟨rfl, by first | (rw [tCr, if_pos c17]; rfl) | (rw [tCr_nu1 c24]; rfl) | (rw [tCr_nu2 c32]; rfl)⟩)
    · skip
      refine lv_aload hx hb dX2_crossing_27 (lv_at hl 0 rfl) ?_
      refine k_cV hx hb hml hown hts (CX3_isUp l0 E w i y (A (6 + y)) (kv g y) t92 hk2 hst2) (cwV 0 hts (lw_V q712 q713 q714 q71 q715) rfl rfl rfl dyX3_isUp ⟨Nat.le_of_ble_eq_true rfl, Nat.le_of_ble_eq_true rfl⟩) hG hP hS hk2 rfl (As := []) (rest := []) rfl hl.1 rfl (lv_room (Nat.le_of_ble_eq_true rfl)) dX2_crossing_29 ⟨show 0 + 0 ≤ 0 from by omega, show 0 + 0 ≤ 0 from by omega⟩ (fun r9 w9 H locs hp hP hS => ?_)
      obtain ⟨hp1, hp0⟩ := hp
      rw [hp1] at hP
      rw [hp0]
      show W p l0 e rmCX2_crossing s m args below meth c H locs 0 0 Q (F0 m 32 ls [.int (bI (decide (((kv g y) 0) = 1)))])
      refine k_top (y := (bI (tUp g y))) (rfl) ?_
      refine k_ifneB (x := tUp g y) (tgt := 37) hx hb dX2_crossing_32 (by decide) (fun c32 => ?_) (fun c32 => ?_)
      · skip
        refine lv_aload_n hx hb dX2_crossing_37 rfl (lv_at hl 2 rfl) ?_
        refine lv_aload_n hx hb dX2_crossing_38 rfl (lv_at hl 1 rfl) ?_
        refine k_cV hx hb hml hown hts (CX2_height l0 E w i A g mn wn ly N x hI (by omega) hM) (cwV 1 hts (lw_V q827 q804 q805 q70 q806) rfl rfl rfl dyX2_height ⟨Nat.le_of_ble_eq_true rfl, Nat.le_of_ble_eq_true rfl⟩) hG hP hS hT rfl (As := [.ref (A (6 + x))]) (rest := []) rfl hl.1 rfl (lv_room (Nat.le_of_ble_eq_true rfl)) dX2_crossing_39 ⟨show 0 + 0 ≤ 0 from by omega, show 0 + 0 ≤ 0 from by omega⟩ (fun r9 w9 H locs hp hP hS => ?_)
        obtain ⟨hp1, hp0⟩ := hp
        rw [hp1] at hP
        rw [hp0]
        show W p l0 e rmCX2_crossing s m args below meth c H locs 0 0 Q (F0 m 42 ls [.int (nI (tHt g x))])
        refine lv_aload_n hx hb dX2_crossing_42 rfl (lv_at hl 2 rfl) ?_
        refine lv_aload hx hb dX2_crossing_43 (lv_at hl 0 rfl) ?_
        refine k_cV hx hb hml hown hts (CX2_height l0 E w i A g mn wn ly N y hI (by omega) hM) (cwV 1 hts (lw_V q827 q804 q805 q70 q806) rfl rfl rfl dyX2_height ⟨Nat.le_of_ble_eq_true rfl, Nat.le_of_ble_eq_true rfl⟩) hG hP hS hT rfl (As := [.ref (A (6 + y))]) (rest := [.int (nI (tHt g x))]) rfl hl.1 rfl (lv_room (Nat.le_of_ble_eq_true rfl)) dX2_crossing_45 ⟨show 0 + 0 ≤ 0 from by omega, show 0 + 0 ≤ 0 from by omega⟩ (fun r9 w9 H locs hp hP hS => ?_)
        obtain ⟨hp1, hp0⟩ := hp
        rw [hp1] at hP
        rw [hp0]
        show W p l0 e rmCX2_crossing s m args below meth c H locs 0 0 Q (F0 m 48 ls [.int (nI (tHt g y)), .int (nI (tHt g x))])
        refine va_mmin hx hb (hml.trans hl.1.symm) hown (hts _ q931) (hts _ q592) (hts _ q92) (hts _ q593) (Nat.le_of_ble_eq_true rfl) (Nat.le_of_ble_eq_true rfl) (Nat.zero_le _) (Nat.zero_le _) dX2_crossing_48 ?_
        refine k_top (y := (nI (min (tHt g x) (tHt g y)))) (mMin_nI (by omega) (by omega)) ?_
        refine lv_istore (lv' := [(5, .int (nI (min (tHt g x) (tHt g y)))), (4, .ref (A (6 + y))), (3, .ref (A (6 + x))), (0, .ref (A 0)), (1, .int (nI x)), (2, .int (nI y))]) hx hb dX2_crossing_51 hl (by decide) rfl (fun ls hl => ?_)
        refine lv_iconst (v := 0) hx hb dX2_crossing_53 (by decide) ?_
        refine lv_istore (lv' := [(6, .int 0), (5, .int (nI (min (tHt g x) (tHt g y)))), (4, .ref (A (6 + y))), (3, .ref (A (6 + x))), (0, .ref (A 0)), (1, .int (nI x)), (2, .int (nI y))]) hx hb dX2_crossing_54 hl (by decide) rfl (fun ls hl => ?_)
        have hloop_56 : ∀ (n9_56 : Nat) (q : Nat) (z : Nat), (q + z = min (tHt g x) (tHt g y)) → (tCg g x y q z = tCr g x y) → q < n9_56 → ∀ (H : Heap) (locs : List Loc) (ls : Array Slot), wP E w H → va_S (gA E) s.heap H locs → lv_has ls 7 [(6, .int (nI z)), (5, .int (nI (min (tHt g x) (tHt g y)))), (4, .ref (A (6 + y))), (3, .ref (A (6 + x))), (0, .ref (A 0)), (1, .int (nI x)), (2, .int (nI y))] → W p l0 e rmCX2_crossing s m args below meth c H locs 0 0 Q (F0 m 56 ls []) := by
          intro n9_56
          induction n9_56 with
          | zero => intro q z hq hv hn; exact absurd hn (Nat.not_lt_zero _)
          | succ n9_56 ih_56 =>
            intro q z hq hv hn_56 H locs ls  hP hS hl
            refine lv_iload hx hb dX2_crossing_56 (lv_at hl 0 rfl) ?_
            refine lv_iload hx hb dX2_crossing_58 (lv_at hl 1 rfl) ?_
            refine k_icmp_geN (x := z) (y := min (tHt g x) (tHt g y)) (tgt := 84) hx hb (by omega) (by omega) dX2_crossing_60 (by decide) (fun c60 => ?_) (fun c60 => ?_)
            · skip
              refine lv_iconst (v := (-1)) hx hb dX2_crossing_84 (by decide) ?_
              exact k_iret hx hb hr hlocks hQ hP hS (by omega) (by omega) dX2_crossing_85 (⟨rfl, by (obtain rfl : q = 0 := by omega); rw [← hv]; rfl⟩)
            · skip
              obtain ⟨q, rfl⟩ : ∃ z, q = z + 1 := ⟨q - 1, by omega⟩
              refine lv_aload_n hx hb dX2_crossing_63 rfl (lv_at hl 4 rfl) ?_
              refine lv_aload_n hx hb dX2_crossing_64 rfl (lv_at hl 3 rfl) ?_
              refine lv_aload hx hb dX2_crossing_65 (lv_at hl 2 rfl) ?_
              refine lv_iload hx hb dX2_crossing_67 (lv_at hl 0 rfl) ?_
              refine k_cV hx hb hml hown hts (CX2_doCross l0 E w i A g mn wn ly N x y z hI (by omega) (by omega) (by omega) hM) (cwV 3 hts (lw_V q932 q934 qs12 q70 q935) rfl rfl rfl dyX2_doCross ⟨Nat.le_of_ble_eq_true rfl, Nat.le_of_ble_eq_true rfl⟩) hG hP hS hT rfl (As := [.ref (A (6 + x)), .ref (A (6 + y)), .int (nI z)]) (rest := []) rfl hl.1 rfl (lv_room (Nat.le_of_ble_eq_true rfl)) dX2_crossing_69 ⟨show 0 + 0 ≤ 0 from by omega, show 0 + 0 ≤ 0 from by omega⟩ (fun r9 w9 H locs hp hP hS => ?_)
              obtain ⟨hp1, hp0⟩ := hp
              rw [hp1] at hP
              rw [hp0]
              show W p l0 e rmCX2_crossing s m args below meth c H locs 0 0 Q (F0 m 72 ls [.int (bI (tDo (tPl g x z - tPl g y z) (tPl g x (z + 1) - tPl g y (z + 1))))])
              refine k_ifeqB (x := tDo (tPl g x z - tPl g y z) (tPl g x (z + 1) - tPl g y (z + 1))) (tgt := 78) hx hb dX2_crossing_72 (by decide) (fun c72 => ?_) (fun c72 => ?_)
              · skip
                refine lv_iinc (v := (nI (z + 1))) (lv' := [(6, .int (nI (z + 1))), (5, .int (nI (min (tHt g x) (tHt g y)))), (4, .ref (A (6 + y))), (3, .ref (A (6 + x))), (0, .ref (A 0)), (1, .int (nI x)), (2, .int (nI y))]) hx hb dX2_crossing_78 hl (k := 0) rfl (nI_add z 1) (by decide) rfl (fun ls hl => ?_)
                refine lv_goto (tgt := 56) hx hb dX2_crossing_81 (by decide) ?_
                have hl : lv_has ls 7 [(6, .int (nI (z + 1))), (5, .int (nI (min (tHt g x) (tHt g y)))), (4, .ref (A (6 + y))), (3, .ref (A (6 + x))), (0, .ref (A 0)), (1, .int (nI x)), (2, .int (nI y))] := hl
                exact ih_56 q (z + 1) (by omega) (by rw [← hv, tCg, if_neg (by rw [c72]; decide)]) (by omega) _ _ _ hP hS hl
              · skip
                refine lv_iload hx hb dX2_crossing_75 (lv_at hl 0 rfl) ?_
                exact k_iret hx hb hr hlocks hQ hP hS (by omega) (by omega) dX2_crossing_77 (⟨rfl, by rw [← hv, tCg, if_pos c72]; rfl⟩)
        have hl : lv_has ls 7 [(6, .int (nI 0)), (5, .int (nI (min (tHt g x) (tHt g y)))), (4, .ref (A (6 + y))), (3, .ref (A (6 + x))), (0, .ref (A 0)), (1, .int (nI x)), (2, .int (nI y))] := hl
        exact hloop_56 _ (min (tHt g x) (tHt g y)) 0 (by omega) (by rw [tCr, if_neg c17]) (Nat.lt_succ_self _) _ _ _ hP hS hl
      · skip
        refine lv_iconst (v := (-1)) hx hb dX2_crossing_35 (by decide) ?_
        exact k_iret hx hb hr hlocks hQ hP hS (by omega) (by omega) dX2_crossing_36 (⟨rfl, by first | (rw [tCr, if_pos c17]; rfl) | (rw [tCr_nu1 c24]; rfl) | (rw [tCr_nu2 c32]; rfl)⟩)

abbrev rmCX2_crossings : Room := { frames := 4, cells := 0, slots := 0, locals := 104 }
theorem dyX2_crossings : yX2_crossings.cls = RX2 ∧ yX2_crossings.cls ≠ "java/lang/invoke/MethodHandle" ∧ yX2_crossings.cls ≠ "java/lang/invoke/VarHandle" ∧ (parseMethodDescriptor yX2_crossings.desc).map (fun d => d.parameters.length) = some 0 := by decide +kernel
set_option maxHeartbeats 4000000 in
theorem CX2_crossings (l0 : Launch) (E : gE) (w : wd) (i : Nat) (A : Nat → Nat) (g : Nat → Int32) (mn : Nat) (wn : Nat → Int32) (ly : Nat → Int32) (N : Nat) (hI : gI g mn N) (hM : townR E w i A g mn wn ly) : kC l0 yX2_crossings (ws_ yX2_crossings cX2_crossings 4 (some .int)) rmCX2_crossings 0 0 mI E w [.ref (A 0)] (fun r w' => w' = w ∧ r = (tPr g mn)) := by
  refine k_open (cc := cX2_crossings) (maxL := 4) (ret := (some .int)) (by decide) rfl (Nat.le_of_ble_eq_true rfl) ?_
  intro p e s m args below meth c ls Q hx hb hr hml hown hts hlocks hname hQ hG hP hl hS
  have hl : lv_has ls 4 [(0, .ref (A 0))] := hl
  obtain ⟨hT, ⟨fs9, hS1, hs1⟩, ⟨fd9, hS2, hs2⟩, ⟨fk9, hS3, hs3⟩, hS4, hS5, ⟨hm, hmn⟩, hK⟩ := id hM
  refine lv_iconst (v := 0) hx hb dX2_crossings_0 (by decide) ?_
  refine lv_istore_n (lv' := [(1, .int 0), (0, .ref (A 0))]) hx hb dX2_crossings_1 rfl hl (by decide) rfl (fun ls hl => ?_)
  refine lv_iconst (v := 0) hx hb dX2_crossings_2 (by decide) ?_
  refine lv_istore_n (lv' := [(2, .int 0), (1, .int 0), (0, .ref (A 0))]) hx hb dX2_crossings_3 rfl hl (by decide) rfl (fun ls hl => ?_)
  have hloop_4 : ∀ (n9_4 : Nat) (z : Nat), (z ≤ mn) → (mn - z) < n9_4 → ∀ (H : Heap) (locs : List Loc) (ls : Array Slot), wP E w H → va_S (gA E) s.heap H locs → lv_has ls 4 [(2, .int (nI z)), (1, .int (tPr g z)), (0, .ref (A 0))] → W p l0 e rmCX2_crossings s m args below meth c H locs 0 0 Q (F0 m 4 ls []) := by
    intro n9_4
    induction n9_4 with
    | zero => intro z hz hn; exact absurd hn (Nat.not_lt_zero _)
    | succ n9_4 ih_4 =>
      intro z hz hn_4 H locs ls  hP hS hl
      refine lv_iload_n hx hb dX2_crossings_4 rfl (lv_at hl 0 rfl) ?_
      refine lv_aload_n hx hb dX2_crossings_5 rfl (lv_at hl 2 rfl) ?_
      refine k_get hx hb hts in_X2 hown hG hP hT rfl 3 (by decide) (hts _ q186) (fun _ h9 => h9) (v := .int (nI mn)) rfl dX2_crossings_6 ?_
      refine k_icmp_geN (x := z) (y := mn) (tgt := 49) hx hb (by omega) (by omega) dX2_crossings_9 (by decide) (fun c9 => ?_) (fun c9 => ?_)
      · skip
        refine lv_iload_n hx hb dX2_crossings_49 rfl (lv_at hl 1 rfl) ?_
        exact k_iret hx hb hr hlocks hQ hP hS (by omega) (by omega) dX2_crossings_50 (⟨rfl, by rw [show z = mn from by omega]⟩)
      · skip
        refine lv_iconst (v := 0) hx hb dX2_crossings_12 (by decide) ?_
        refine lv_istore_n (lv' := [(3, .int 0), (2, .int (nI z)), (1, .int (tPr g z)), (0, .ref (A 0))]) hx hb dX2_crossings_13 rfl hl (by decide) rfl (fun ls hl => ?_)
        have hloop_14 : ∀ (n9_14 : Nat) (u : Nat), (u ≤ z) → (z - u) < n9_14 → ∀ (H : Heap) (locs : List Loc) (ls : Array Slot), wP E w H → va_S (gA E) s.heap H locs → lv_has ls 4 [(3, .int (nI u)), (2, .int (nI z)), (1, .int (tPa g (tPr g z) z u)), (0, .ref (A 0))] → W p l0 e rmCX2_crossings s m args below meth c H locs 0 0 Q (F0 m 14 ls []) := by
          intro n9_14
          induction n9_14 with
          | zero => intro u hu hn; exact absurd hn (Nat.not_lt_zero _)
          | succ n9_14 ih_14 =>
            intro u hu hn_14 H locs ls  hP hS hl
            refine lv_iload_n hx hb dX2_crossings_14 rfl (lv_at hl 0 rfl) ?_
            refine lv_iload_n hx hb dX2_crossings_15 rfl (lv_at hl 1 rfl) ?_
            refine k_icmp_geN (x := u) (y := z) (tgt := 43) hx hb (by omega) (by omega) dX2_crossings_16 (by decide) (fun c16 => ?_) (fun c16 => ?_)
            · skip
              refine lv_iinc (v := (nI (z + 1))) (lv' := [(2, .int (nI (z + 1))), (3, .int (nI u)), (1, .int (tPa g (tPr g z) z u)), (0, .ref (A 0))]) hx hb dX2_crossings_43 hl (k := 1) rfl (nI_add z 1) (by decide) rfl (fun ls hl => ?_)
              refine lv_goto (tgt := 4) hx hb dX2_crossings_46 (by decide) ?_
              have hl := Eq.mp (congrArg (fun z9 => lv_has ls 4 [(2, .int (nI (z + 1))), (3, .int (nI u)), (1, .int z9), (0, .ref (A 0))]) (show (tPa g (tPr g z) z u) = (tPr g (z + 1)) from by rw [tPr, show u = z from by omega])) hl
              have hl := lv_sub (l' := [(2, .int (nI (z + 1))), (1, .int (tPr g (z + 1))), (0, .ref (A 0))]) hl [0, 2, 3] rfl
              exact ih_4 (z + 1) (by omega) (by omega) _ _ _ hP hS hl
            · skip
              refine lv_iload_n hx hb dX2_crossings_19 rfl (lv_at hl 2 rfl) ?_
              refine lv_aload_n hx hb dX2_crossings_20 rfl (lv_at hl 3 rfl) ?_
              refine lv_iload_n hx hb dX2_crossings_21 rfl (lv_at hl 1 rfl) ?_
              refine lv_iload_n hx hb dX2_crossings_22 rfl (lv_at hl 0 rfl) ?_
              refine k_cV hx hb hml hown hts (CX2_crossing l0 E w i A g mn wn ly N z u hI (by omega) (by omega) hM) (cwV 2 hts (lw_V q951 q928 q929 q70 q930) rfl rfl rfl dyX2_crossing ⟨Nat.le_of_ble_eq_true rfl, Nat.le_of_ble_eq_true rfl⟩) hG hP hS hT rfl (As := [.int (nI z), .int (nI u)]) (rest := [.int (tPa g (tPr g z) z u)]) rfl hl.1 rfl (lv_room (Nat.le_of_ble_eq_true rfl)) dX2_crossings_23 ⟨show 0 + 0 ≤ 0 from by omega, show 0 + 0 ≤ 0 from by omega⟩ (fun r9 w9 H locs hp hP hS => ?_)
              obtain ⟨hp1, hp0⟩ := hp
              rw [hp1] at hP
              rw [hp0]
              show W p l0 e rmCX2_crossings s m args below meth c H locs 0 0 Q (F0 m 26 ls [.int (oI (tCr g z u)), .int (tPa g (tPr g z) z u)])
              refine lv_iconst (v := (-1)) hx hb dX2_crossings_26 (by decide) ?_
              refine lv_icmp_eq (tgt := 34) hx hb dX2_crossings_27 (by decide) (fun c27 => ?_) (fun c27 => ?_)
              · skip
                refine lv_iconst (v := 0) hx hb dX2_crossings_34 (by decide) ?_
                refine lv_iadd hx hb dX2_crossings_35 ?_
                refine lv_istore_n (lv' := [(1, .int ((tPa g (tPr g z) z u) + 0)), (3, .int (nI u)), (2, .int (nI z)), (0, .ref (A 0))]) hx hb dX2_crossings_36 rfl hl (by decide) rfl (fun ls hl => ?_)
                refine lv_iinc (v := (nI (u + 1))) (lv' := [(3, .int (nI (u + 1))), (1, .int ((tPa g (tPr g z) z u) + 0)), (2, .int (nI z)), (0, .ref (A 0))]) hx hb dX2_crossings_37 hl (k := 1) rfl (nI_add u 1) (by decide) rfl (fun ls hl => ?_)
                refine lv_goto (tgt := 14) hx hb dX2_crossings_40 (by decide) ?_
                have hl := Eq.mp (congrArg (fun z9 => lv_has ls 4 [(3, .int (nI (u + 1))), (1, .int z9), (2, .int (nI z)), (0, .ref (A 0))]) (show ((tPa g (tPr g z) z u) + 0) = (tPa g (tPr g z) z (u + 1)) from by first | rw [tPa, if_pos (oI_m1.mp c27)] | rw [tPa, if_neg (fun z9 => c27 (oI_m1.mpr z9))])) hl
                have hl := lv_sub (l' := [(3, .int (nI (u + 1))), (2, .int (nI z)), (1, .int (tPa g (tPr g z) z (u + 1))), (0, .ref (A 0))]) hl [0, 2, 1, 3] rfl
                exact ih_14 (u + 1) (by omega) (by omega) _ _ _ hP hS hl
              · skip
                refine lv_iconst (v := 1) hx hb dX2_crossings_30 (by decide) ?_
                refine lv_goto (tgt := 35) hx hb dX2_crossings_31 (by decide) ?_
                refine lv_iadd hx hb dX2_crossings_35 ?_
                refine lv_istore_n (lv' := [(1, .int ((tPa g (tPr g z) z u) + 1)), (3, .int (nI u)), (2, .int (nI z)), (0, .ref (A 0))]) hx hb dX2_crossings_36 rfl hl (by decide) rfl (fun ls hl => ?_)
                refine lv_iinc (v := (nI (u + 1))) (lv' := [(3, .int (nI (u + 1))), (1, .int ((tPa g (tPr g z) z u) + 1)), (2, .int (nI z)), (0, .ref (A 0))]) hx hb dX2_crossings_37 hl (k := 1) rfl (nI_add u 1) (by decide) rfl (fun ls hl => ?_)
                refine lv_goto (tgt := 14) hx hb dX2_crossings_40 (by decide) ?_
                have hl := Eq.mp (congrArg (fun z9 => lv_has ls 4 [(3, .int (nI (u + 1))), (1, .int z9), (2, .int (nI z)), (0, .ref (A 0))]) (show ((tPa g (tPr g z) z u) + 1) = (tPa g (tPr g z) z (u + 1)) from by first | rw [tPa, if_pos (oI_m1.mp c27)] | rw [tPa, if_neg (fun z9 => c27 (oI_m1.mpr z9))])) hl
                have hl := lv_sub (l' := [(3, .int (nI (u + 1))), (2, .int (nI z)), (1, .int (tPa g (tPr g z) z (u + 1))), (0, .ref (A 0))]) hl [0, 2, 1, 3] rfl
                exact ih_14 (u + 1) (by omega) (by omega) _ _ _ hP hS hl
        have hl : lv_has ls 4 [(3, .int (nI 0)), (2, .int (nI z)), (1, .int (tPa g (tPr g z) z 0)), (0, .ref (A 0))] := hl
        exact hloop_14 _ 0 (by omega) (Nat.lt_succ_self _) _ _ _ hP hS hl
  have hl : lv_has ls 4 [(2, .int (nI 0)), (1, .int (tPr g 0)), (0, .ref (A 0))] := hl
  exact hloop_4 _ 0 (by omega) (Nat.lt_succ_self _) _ _ _ hP hS hl

abbrev rmCX2_wearsBy : Room := { frames := 4, cells := 0, slots := 0, locals := 104 }
theorem dyX2_wearsBy : yX2_wearsBy.cls = RX2 ∧ yX2_wearsBy.cls ≠ "java/lang/invoke/MethodHandle" ∧ yX2_wearsBy.cls ≠ "java/lang/invoke/VarHandle" ∧ (parseMethodDescriptor yX2_wearsBy.desc).map (fun d => d.parameters.length) = some 2 := by decide +kernel
set_option maxHeartbeats 4000000 in
theorem CX2_wearsBy (l0 : Launch) (E : gE) (w : wd) (i : Nat) (A : Nat → Nat) (g : Nat → Int32) (mn : Nat) (wn : Nat → Int32) (ly : Nat → Int32) (N : Nat) (x : Nat) (y : Nat) (hI : gI g mn N) (hx9 : x < mn) (hy9 : y < mn) (hM : townR E w i A g mn wn ly) : kC l0 yX2_wearsBy (ws_ yX2_wearsBy cX2_wearsBy 4 (some .int)) rmCX2_wearsBy 0 0 mI E w [.ref (A 0), .int (nI x), .int (nI y)] (fun r w' => w' = w ∧ r = (tWb g x y)) := by
  refine k_open (cc := cX2_wearsBy) (maxL := 4) (ret := (some .int)) (by decide) rfl (Nat.le_of_ble_eq_true rfl) ?_
  intro p e s m args below meth c ls Q hx hb hr hml hown hts hlocks hname hQ hG hP hl hS
  have hl : lv_has ls 4 [(0, .ref (A 0)), (1, .int (nI x)), (2, .int (nI y))] := hl
  obtain ⟨hT, ⟨fs9, hS1, hs1⟩, ⟨fd9, hS2, hs2⟩, ⟨fk9, hS3, hs3⟩, hS4, hS5, ⟨hm, hmn⟩, hK⟩ := id hM
  obtain ⟨t9, hk, hst⟩ := hM.kite (k := x) (by omega)
  obtain ⟨t92, hk2, hst2⟩ := hM.kite (k := y) (by omega)
  refine lv_aload_n hx hb dX2_wearsBy_0 rfl (lv_at hl 0 rfl) ?_
  refine lv_iload_n hx hb dX2_wearsBy_1 rfl (lv_at hl 1 rfl) ?_
  refine lv_iload_n hx hb dX2_wearsBy_2 rfl (lv_at hl 2 rfl) ?_
  refine k_cV hx hb hml hown hts (CX2_crossing l0 E w i A g mn wn ly N x y hI (by omega) (by omega) hM) (cwV 2 hts (lw_V q951 q928 q929 q70 q930) rfl rfl rfl dyX2_crossing ⟨Nat.le_of_ble_eq_true rfl, Nat.le_of_ble_eq_true rfl⟩) hG hP hS hT rfl (As := [.int (nI x), .int (nI y)]) (rest := []) rfl hl.1 rfl (lv_room (Nat.le_of_ble_eq_true rfl)) dX2_wearsBy_3 ⟨show 0 + 0 ≤ 0 from by omega, show 0 + 0 ≤ 0 from by omega⟩ (fun r9 w9 H locs hp hP hS => ?_)
  obtain ⟨hp1, hp0⟩ := hp
  rw [hp1] at hP
  rw [hp0]
  show W p l0 e rmCX2_wearsBy s m args below meth c H locs 0 0 Q (F0 m 6 ls [.int (oI (tCr g x y))])
  refine lv_iconst (v := (-1)) hx hb dX2_wearsBy_6 (by decide) ?_
  refine lv_icmp_ne (tgt := 12) hx hb dX2_wearsBy_7 (by decide) (fun c7 => ?_) (fun c7 => ?_)
  · skip
    refine lv_aload_n hx hb dX2_wearsBy_12 rfl (lv_at hl 0 rfl) ?_
    refine k_get hx hb hts in_X2 hown hG hP hT rfl 2 (by decide) (hts _ q184) (fun _ h9 => h9) (v := .ref (A 3)) rfl dX2_wearsBy_13 ?_
    refine lv_iload_n hx hb dX2_wearsBy_16 rfl (lv_at hl 2 rfl) ?_
    refine k_aald hx hb hG hP (j := y) 4 hS3 rfl (by omega) (show y < 6 from by omega) dX2_wearsBy_17 ?_
    rw [hs3 y (by omega)]
    refine lv_astore_n (lv' := [(3, .ref (A (6 + y))), (0, .ref (A 0)), (1, .int (nI x)), (2, .int (nI y))]) hx hb dX2_wearsBy_18 rfl hl (by decide) rfl (fun ls hl => ?_)
    refine lv_aload_n hx hb dX2_wearsBy_19 rfl (lv_at hl 1 rfl) ?_
    refine lv_aload_n hx hb dX2_wearsBy_20 rfl (lv_at hl 0 rfl) ?_
    refine k_cV hx hb hml hown hts (CX2_tension l0 E w i A g mn wn ly N y hI (by omega) hM) (cwV 1 hts (lw_V q952 q824 q825 q70 q826) rfl rfl rfl dyX2_tension ⟨Nat.le_of_ble_eq_true rfl, Nat.le_of_ble_eq_true rfl⟩) hG hP hS hT rfl (As := [.ref (A (6 + y))]) (rest := []) rfl hl.1 rfl (lv_room (Nat.le_of_ble_eq_true rfl)) dX2_wearsBy_21 ⟨show 0 + 0 ≤ 0 from by omega, show 0 + 0 ≤ 0 from by omega⟩ (fun r9 w9 H locs hp hP hS => ?_)
    obtain ⟨hp1, hp0⟩ := hp
    rw [hp1] at hP
    rw [hp0]
    show W p l0 e rmCX2_wearsBy s m args below meth c H locs 0 0 Q (F0 m 24 ls [.int (tTs g y)])
    refine lv_aload_n hx hb dX2_wearsBy_24 rfl (lv_at hl 1 rfl) ?_
    refine lv_aload_n hx hb dX2_wearsBy_25 rfl (lv_at hl 1 rfl) ?_
    refine k_get hx hb hts in_X2 hown hG hP hT rfl 2 (by decide) (hts _ q184) (fun _ h9 => h9) (v := .ref (A 3)) rfl dX2_wearsBy_26 ?_
    refine lv_iload_n hx hb dX2_wearsBy_29 rfl (lv_at hl 2 rfl) ?_
    refine k_aald hx hb hG hP (j := x) 4 hS3 rfl (by omega) (show x < 6 from by omega) dX2_wearsBy_30 ?_
    rw [hs3 x (by omega)]
    refine k_cV hx hb hml hown hts (CX2_tension l0 E w i A g mn wn ly N x hI (by omega) hM) (cwV 1 hts (lw_V q952 q824 q825 q70 q826) rfl rfl rfl dyX2_tension ⟨Nat.le_of_ble_eq_true rfl, Nat.le_of_ble_eq_true rfl⟩) hG hP hS hT rfl (As := [.ref (A (6 + x))]) (rest := [.int (tTs g y)]) rfl hl.1 rfl (lv_room (Nat.le_of_ble_eq_true rfl)) dX2_wearsBy_31 ⟨show 0 + 0 ≤ 0 from by omega, show 0 + 0 ≤ 0 from by omega⟩ (fun r9 w9 H locs hp hP hS => ?_)
    obtain ⟨hp1, hp0⟩ := hp
    rw [hp1] at hP
    rw [hp0]
    show W p l0 e rmCX2_wearsBy s m args below meth c H locs 0 0 Q (F0 m 34 ls [.int (tTs g x), .int (tTs g y)])
    refine lv_icmp_le (tgt := 46) hx hb dX2_wearsBy_34 (by decide) (fun c34 => ?_) (fun c34 => ?_)
    · skip
      refine lv_aload_n hx hb dX2_wearsBy_46 rfl (lv_at hl 0 rfl) ?_
      refine k_getN hx hb hts in_X3 hown hG hP hk2 rfl 4 (by decide) (hG.2.1.1 _ q152 rfl) (fun _ h9 => h9) (v := .int (g (kO y 4))) rfl dX2_wearsBy_47 ?_
      exact k_iret hx hb hr hlocks hQ hP hS (by omega) (by omega) dX2_wearsBy_50 (⟨rfl, by first | (rw [tWb, if_neg (fun z9 => c7 (oI_m1.mpr z9)), if_neg (Int32.not_lt.mpr c34)]; done) | (rw [tWb, if_neg (fun z9 => c7 (oI_m1.mpr z9)), if_pos (Int32.not_le.mp c34)]; done)⟩)
    · skip
      refine lv_iconst (v := 2) hx hb dX2_wearsBy_37 (by decide) ?_
      refine lv_aload_n hx hb dX2_wearsBy_38 rfl (lv_at hl 0 rfl) ?_
      refine k_getN hx hb hts in_X3 hown hG hP hk2 rfl 4 (by decide) (hG.2.1.1 _ q152 rfl) (fun _ h9 => h9) (v := .int (g (kO y 4))) rfl dX2_wearsBy_39 ?_
      refine lv_imul hx hb dX2_wearsBy_42 ?_
      refine lv_goto (tgt := 50) hx hb dX2_wearsBy_43 (by decide) ?_
      exact k_iret hx hb hr hlocks hQ hP hS (by omega) (by omega) dX2_wearsBy_50 (⟨rfl, by first | (rw [tWb, if_neg (fun z9 => c7 (oI_m1.mpr z9)), if_neg (Int32.not_lt.mpr c34)]; done) | (rw [tWb, if_neg (fun z9 => c7 (oI_m1.mpr z9)), if_pos (Int32.not_le.mp c34)]; done)⟩)
  · skip
    refine lv_iconst (v := 0) hx hb dX2_wearsBy_10 (by decide) ?_
    exact k_iret hx hb hr hlocks hQ hP hS (by omega) (by omega) dX2_wearsBy_11 (⟨rfl, by rw [tWb, if_pos (oI_m1.mp c7)]⟩)

abbrev rmCX2_wears : Room := { frames := 5, cells := 0, slots := 0, locals := 127 }
theorem dyX2_wears : yX2_wears.cls = RX2 ∧ yX2_wears.cls ≠ "java/lang/invoke/MethodHandle" ∧ yX2_wears.cls ≠ "java/lang/invoke/VarHandle" ∧ (parseMethodDescriptor yX2_wears.desc).map (fun d => d.parameters.length) = some 1 := by decide +kernel
set_option maxHeartbeats 4000000 in
theorem CX2_wears (l0 : Launch) (E : gE) (w : wd) (i : Nat) (A : Nat → Nat) (g : Nat → Int32) (mn : Nat) (wn : Nat → Int32) (ly : Nat → Int32) (N : Nat) (x : Nat) (hI : gI g mn N) (hx9 : x < mn) (hM : townR E w i A g mn wn ly) : kC l0 yX2_wears (ws_ yX2_wears cX2_wears 4 (some .int)) rmCX2_wears 0 0 mI E w [.ref (A 0), .int (nI x)] (fun r w' => w' = w ∧ r = (tWn g x mn)) := by
  refine k_open (cc := cX2_wears) (maxL := 4) (ret := (some .int)) (by decide) rfl (Nat.le_of_ble_eq_true rfl) ?_
  intro p e s m args below meth c ls Q hx hb hr hml hown hts hlocks hname hQ hG hP hl hS
  have hl : lv_has ls 4 [(0, .ref (A 0)), (1, .int (nI x))] := hl
  obtain ⟨hT, ⟨fs9, hS1, hs1⟩, ⟨fd9, hS2, hs2⟩, ⟨fk9, hS3, hs3⟩, hS4, hS5, ⟨hm, hmn⟩, hK⟩ := id hM
  refine lv_iconst (v := 0) hx hb dX2_wears_0 (by decide) ?_
  refine lv_istore_n (lv' := [(2, .int 0), (0, .ref (A 0)), (1, .int (nI x))]) hx hb dX2_wears_1 rfl hl (by decide) rfl (fun ls hl => ?_)
  refine lv_iconst (v := 0) hx hb dX2_wears_2 (by decide) ?_
  refine lv_istore_n (lv' := [(3, .int 0), (2, .int 0), (0, .ref (A 0)), (1, .int (nI x))]) hx hb dX2_wears_3 rfl hl (by decide) rfl (fun ls hl => ?_)
  have hloop_4 : ∀ (n9_4 : Nat) (z : Nat), (z ≤ mn) → (mn - z) < n9_4 → ∀ (H : Heap) (locs : List Loc) (ls : Array Slot), wP E w H → va_S (gA E) s.heap H locs → lv_has ls 4 [(3, .int (nI z)), (2, .int (tWn g x z)), (0, .ref (A 0)), (1, .int (nI x))] → W p l0 e rmCX2_wears s m args below meth c H locs 0 0 Q (F0 m 4 ls []) := by
    intro n9_4
    induction n9_4 with
    | zero => intro z hz hn; exact absurd hn (Nat.not_lt_zero _)
    | succ n9_4 ih_4 =>
      intro z hz hn_4 H locs ls  hP hS hl
      refine lv_iload_n hx hb dX2_wears_4 rfl (lv_at hl 0 rfl) ?_
      refine lv_aload_n hx hb dX2_wears_5 rfl (lv_at hl 2 rfl) ?_
      refine k_get hx hb hts in_X2 hown hG hP hT rfl 3 (by decide) (hts _ q186) (fun _ h9 => h9) (v := .int (nI mn)) rfl dX2_wears_6 ?_
      refine k_icmp_geN (x := z) (y := mn) (tgt := 27) hx hb (by omega) (by omega) dX2_wears_9 (by decide) (fun c9 => ?_) (fun c9 => ?_)
      · skip
        refine lv_iload_n hx hb dX2_wears_27 rfl (lv_at hl 1 rfl) ?_
        exact k_iret hx hb hr hlocks hQ hP hS (by omega) (by omega) dX2_wears_28 (⟨rfl, by rw [show z = mn from by omega]⟩)
      · skip
        refine lv_iload_n hx hb dX2_wears_12 rfl (lv_at hl 1 rfl) ?_
        refine lv_aload_n hx hb dX2_wears_13 rfl (lv_at hl 2 rfl) ?_
        refine lv_iload_n hx hb dX2_wears_14 rfl (lv_at hl 3 rfl) ?_
        refine lv_iload_n hx hb dX2_wears_15 rfl (lv_at hl 0 rfl) ?_
        refine k_cV hx hb hml hown hts (CX2_wearsBy l0 E w i A g mn wn ly N x z hI (by omega) (by omega) hM) (cwV 2 hts (lw_V q947 q949 qs13 q70 q950) rfl rfl rfl dyX2_wearsBy ⟨Nat.le_of_ble_eq_true rfl, Nat.le_of_ble_eq_true rfl⟩) hG hP hS hT rfl (As := [.int (nI x), .int (nI z)]) (rest := [.int (tWn g x z)]) rfl hl.1 rfl (lv_room (Nat.le_of_ble_eq_true rfl)) dX2_wears_16 ⟨show 0 + 0 ≤ 0 from by omega, show 0 + 0 ≤ 0 from by omega⟩ (fun r9 w9 H locs hp hP hS => ?_)
        obtain ⟨hp1, hp0⟩ := hp
        rw [hp1] at hP
        rw [hp0]
        show W p l0 e rmCX2_wears s m args below meth c H locs 0 0 Q (F0 m 19 ls [.int (tWb g x z), .int (tWn g x z)])
        refine lv_iadd hx hb dX2_wears_19 ?_
        refine lv_istore_n (lv' := [(2, .int ((tWn g x z) + (tWb g x z))), (3, .int (nI z)), (0, .ref (A 0)), (1, .int (nI x))]) hx hb dX2_wears_20 rfl hl (by decide) rfl (fun ls hl => ?_)
        refine lv_iinc (v := (nI (z + 1))) (lv' := [(3, .int (nI (z + 1))), (2, .int ((tWn g x z) + (tWb g x z))), (0, .ref (A 0)), (1, .int (nI x))]) hx hb dX2_wears_21 hl (k := 1) rfl (nI_add z 1) (by decide) rfl (fun ls hl => ?_)
        refine lv_goto (tgt := 4) hx hb dX2_wears_24 (by decide) ?_
        have hl : lv_has ls 4 [(3, .int (nI (z + 1))), (2, .int (tWn g x (z + 1))), (0, .ref (A 0)), (1, .int (nI x))] := hl
        exact ih_4 (z + 1) (by omega) (by omega) _ _ _ hP hS hl
  have hl : lv_has ls 4 [(3, .int (nI 0)), (2, .int (tWn g x 0)), (0, .ref (A 0)), (1, .int (nI x))] := hl
  exact hloop_4 _ 0 (by omega) (Nat.lt_succ_self _) _ _ _ hP hS hl

abbrev rmCX2_inState : Room := { frames := 1, cells := 0, slots := 0, locals := 20 }
theorem dyX2_inState : yX2_inState.cls = RX2 ∧ yX2_inState.cls ≠ "java/lang/invoke/MethodHandle" ∧ yX2_inState.cls ≠ "java/lang/invoke/VarHandle" ∧ (parseMethodDescriptor yX2_inState.desc).map (fun d => d.parameters.length) = some 1 := by decide +kernel
set_option maxHeartbeats 4000000 in
theorem CX2_inState (l0 : Launch) (E : gE) (w : wd) (i : Nat) (A : Nat → Nat) (g : Nat → Int32) (mn : Nat) (wn : Nat → Int32) (ly : Nat → Int32) (x : Int32) (hM : townR E w i A g mn wn ly) : kC l0 yX2_inState (ws_ yX2_inState cX2_inState 4 (some .int)) rmCX2_inState 0 0 mI E w [.ref (A 0), .int x] (fun r w' => w' = w ∧ r = (tIn g x mn)) := by
  refine k_open (cc := cX2_inState) (maxL := 4) (ret := (some .int)) (by decide) rfl (Nat.le_of_ble_eq_true rfl) ?_
  intro p e s m args below meth c ls Q hx hb hr hml hown hts hlocks hname hQ hG hP hl hS
  have hl : lv_has ls 4 [(0, .ref (A 0)), (1, .int x)] := hl
  obtain ⟨hT, ⟨fs9, hS1, hs1⟩, ⟨fd9, hS2, hs2⟩, ⟨fk9, hS3, hs3⟩, hS4, hS5, ⟨hm, hmn⟩, hK⟩ := id hM
  refine lv_iconst (v := 0) hx hb dX2_inState_0 (by decide) ?_
  refine lv_istore_n (lv' := [(2, .int 0), (0, .ref (A 0)), (1, .int x)]) hx hb dX2_inState_1 rfl hl (by decide) rfl (fun ls hl => ?_)
  refine lv_iconst (v := 0) hx hb dX2_inState_2 (by decide) ?_
  refine lv_istore_n (lv' := [(3, .int 0), (2, .int 0), (0, .ref (A 0)), (1, .int x)]) hx hb dX2_inState_3 rfl hl (by decide) rfl (fun ls hl => ?_)
  have hloop_4 : ∀ (n9_4 : Nat) (z : Nat), (z ≤ mn) → (mn - z) < n9_4 → ∀ (H : Heap) (locs : List Loc) (ls : Array Slot), wP E w H → va_S (gA E) s.heap H locs → lv_has ls 4 [(3, .int (nI z)), (2, .int (tIn g x z)), (0, .ref (A 0)), (1, .int x)] → W p l0 e rmCX2_inState s m args below meth c H locs 0 0 Q (F0 m 4 ls []) := by
    intro n9_4
    induction n9_4 with
    | zero => intro z hz hn; exact absurd hn (Nat.not_lt_zero _)
    | succ n9_4 ih_4 =>
      intro z hz hn_4 H locs ls  hP hS hl
      refine lv_iload_n hx hb dX2_inState_4 rfl (lv_at hl 0 rfl) ?_
      refine lv_aload_n hx hb dX2_inState_5 rfl (lv_at hl 2 rfl) ?_
      refine k_get hx hb hts in_X2 hown hG hP hT rfl 3 (by decide) (hts _ q186) (fun _ h9 => h9) (v := .int (nI mn)) rfl dX2_inState_6 ?_
      refine k_icmp_geN (x := z) (y := mn) (tgt := 44) hx hb (by omega) (by omega) dX2_inState_9 (by decide) (fun c9 => ?_) (fun c9 => ?_)
      · skip
        refine lv_iload_n hx hb dX2_inState_44 rfl (lv_at hl 1 rfl) ?_
        exact k_iret hx hb hr hlocks hQ hP hS (by omega) (by omega) dX2_inState_45 (⟨rfl, by rw [show z = mn from by omega]⟩)
      · skip
        obtain ⟨t9, hk, hst⟩ := hM.kite (k := z) (by omega)
        refine lv_iload_n hx hb dX2_inState_12 rfl (lv_at hl 1 rfl) ?_
        refine lv_aload_n hx hb dX2_inState_13 rfl (lv_at hl 2 rfl) ?_
        refine k_get hx hb hts in_X2 hown hG hP hT rfl 2 (by decide) (hts _ q184) (fun _ h9 => h9) (v := .ref (A 3)) rfl dX2_inState_14 ?_
        refine lv_iload_n hx hb dX2_inState_17 rfl (lv_at hl 0 rfl) ?_
        refine k_aald hx hb hG hP (j := z) 4 hS3 rfl (by omega) (show z < 6 from by omega) dX2_inState_18 ?_
        rw [hs3 z (by omega)]
        refine k_getN hx hb hts in_X3 hown hG hP hk rfl 7 (by decide) (hG.2.1.1 _ q161 rfl) (fun _ h9 => h9) (v := .ref t9) rfl dX2_inState_19 ?_
        refine k_num hx hb hml hown hts q680 hst hG hP hS hl.1 dX2_inState_22 ⟨Nat.le_of_ble_eq_true rfl, Nat.le_of_ble_eq_true rfl⟩ (Nat.le_of_ble_eq_true rfl) ⟨show 0 ≤ 0 from by omega, show 0 ≤ 0 from by omega⟩ (fun H locs hP hS => ?_)
        refine k_top (y := (g (kO z 0))) rfl ?_
        refine lv_iload_n hx hb dX2_inState_27 rfl (lv_at hl 3 rfl) ?_
        refine lv_icmp_ne (tgt := 35) hx hb dX2_inState_28 (by decide) (fun c28 => ?_) (fun c28 => ?_)
        · skip
          refine lv_iconst (v := 0) hx hb dX2_inState_35 (by decide) ?_
          refine lv_iadd hx hb dX2_inState_36 ?_
          refine lv_istore_n (lv' := [(2, .int ((tIn g x z) + 0)), (3, .int (nI z)), (0, .ref (A 0)), (1, .int x)]) hx hb dX2_inState_37 rfl hl (by decide) rfl (fun ls hl => ?_)
          refine lv_iinc (v := (nI (z + 1))) (lv' := [(3, .int (nI (z + 1))), (2, .int ((tIn g x z) + 0)), (0, .ref (A 0)), (1, .int x)]) hx hb dX2_inState_38 hl (k := 1) rfl (nI_add z 1) (by decide) rfl (fun ls hl => ?_)
          refine lv_goto (tgt := 4) hx hb dX2_inState_41 (by decide) ?_
          have hl := Eq.mp (congrArg (fun z9 => lv_has ls 4 [(3, .int (nI (z + 1))), (2, .int z9), (0, .ref (A 0)), (1, .int x)]) (show ((tIn g x z) + 0) = (tIn g x (z + 1)) from by first | rw [tIn, if_pos c28] | rw [tIn, if_neg c28])) hl
          have hl : lv_has ls 4 [(3, .int (nI (z + 1))), (2, .int (tIn g x (z + 1))), (0, .ref (A 0)), (1, .int x)] := hl
          exact ih_4 (z + 1) (by omega) (by omega) _ _ _ hP hS hl
        · skip
          refine lv_iconst (v := 1) hx hb dX2_inState_31 (by decide) ?_
          refine lv_goto (tgt := 36) hx hb dX2_inState_32 (by decide) ?_
          refine lv_iadd hx hb dX2_inState_36 ?_
          refine lv_istore_n (lv' := [(2, .int ((tIn g x z) + 1)), (3, .int (nI z)), (0, .ref (A 0)), (1, .int x)]) hx hb dX2_inState_37 rfl hl (by decide) rfl (fun ls hl => ?_)
          refine lv_iinc (v := (nI (z + 1))) (lv' := [(3, .int (nI (z + 1))), (2, .int ((tIn g x z) + 1)), (0, .ref (A 0)), (1, .int x)]) hx hb dX2_inState_38 hl (k := 1) rfl (nI_add z 1) (by decide) rfl (fun ls hl => ?_)
          refine lv_goto (tgt := 4) hx hb dX2_inState_41 (by decide) ?_
          have hl := Eq.mp (congrArg (fun z9 => lv_has ls 4 [(3, .int (nI (z + 1))), (2, .int z9), (0, .ref (A 0)), (1, .int x)]) (show ((tIn g x z) + 1) = (tIn g x (z + 1)) from by first | rw [tIn, if_pos c28] | rw [tIn, if_neg c28])) hl
          have hl : lv_has ls 4 [(3, .int (nI (z + 1))), (2, .int (tIn g x (z + 1))), (0, .ref (A 0)), (1, .int x)] := hl
          exact ih_4 (z + 1) (by omega) (by omega) _ _ _ hP hS hl
  have hl : lv_has ls 4 [(3, .int (nI 0)), (2, .int (tIn g x 0)), (0, .ref (A 0)), (1, .int x)] := hl
  exact hloop_4 _ 0 (by omega) (Nat.lt_succ_self _) _ _ _ hP hS hl

abbrev rmCX2_out : Room := { frames := 1, cells := 0, slots := 0, locals := 22 }
theorem dyX2_out : yX2_out.cls = RX2 ∧ yX2_out.cls ≠ "java/lang/invoke/MethodHandle" ∧ yX2_out.cls ≠ "java/lang/invoke/VarHandle" ∧ (parseMethodDescriptor yX2_out.desc).map (fun d => d.parameters.length) = some 0 := by decide +kernel
set_option maxHeartbeats 4000000 in
theorem CX2_out (l0 : Launch) (E : gE) (w : wd) (i : Nat) (A : Nat → Nat) (g : Nat → Int32) (mn : Nat) (wn : Nat → Int32) (ly : Nat → Int32) (N : Nat) (hI : gI g mn N) (hM : townR E w i A g mn wn ly) : kC l0 yX2_out (ws_ yX2_out cX2_out 3 (some .int)) rmCX2_out 0 0 mI E w [.ref (A 0)] (fun r w' => w' = w ∧ r = (tSu g 5 mn)) := by
  refine k_open (cc := cX2_out) (maxL := 3) (ret := (some .int)) (by decide) rfl (Nat.le_of_ble_eq_true rfl) ?_
  intro p e s m args below meth c ls Q hx hb hr hml hown hts hlocks hname hQ hG hP hl hS
  have hl : lv_has ls 3 [(0, .ref (A 0))] := hl
  obtain ⟨hT, ⟨fs9, hS1, hs1⟩, ⟨fd9, hS2, hs2⟩, ⟨fk9, hS3, hs3⟩, hS4, hS5, ⟨hm, hmn⟩, hK⟩ := id hM
  refine lv_iconst (v := 0) hx hb dX2_out_0 (by decide) ?_
  refine lv_istore_n (lv' := [(1, .int 0), (0, .ref (A 0))]) hx hb dX2_out_1 rfl hl (by decide) rfl (fun ls hl => ?_)
  refine lv_iconst (v := 0) hx hb dX2_out_2 (by decide) ?_
  refine lv_istore_n (lv' := [(2, .int 0), (1, .int 0), (0, .ref (A 0))]) hx hb dX2_out_3 rfl hl (by decide) rfl (fun ls hl => ?_)
  have hloop_4 : ∀ (n9_4 : Nat) (z : Nat), (z ≤ mn) → (mn - z) < n9_4 → ∀ (H : Heap) (locs : List Loc) (ls : Array Slot), wP E w H → va_S (gA E) s.heap H locs → lv_has ls 3 [(2, .int (nI z)), (1, .int (tSu g 5 z)), (0, .ref (A 0))] → W p l0 e rmCX2_out s m args below meth c H locs 0 0 Q (F0 m 4 ls []) := by
    intro n9_4
    induction n9_4 with
    | zero => intro z hz hn; exact absurd hn (Nat.not_lt_zero _)
    | succ n9_4 ih_4 =>
      intro z hz hn_4 H locs ls  hP hS hl
      refine lv_iload_n hx hb dX2_out_4 rfl (lv_at hl 0 rfl) ?_
      refine lv_aload_n hx hb dX2_out_5 rfl (lv_at hl 2 rfl) ?_
      refine k_get hx hb hts in_X2 hown hG hP hT rfl 3 (by decide) (hts _ q186) (fun _ h9 => h9) (v := .int (nI mn)) rfl dX2_out_6 ?_
      refine k_icmp_geN (x := z) (y := mn) (tgt := 30) hx hb (by omega) (by omega) dX2_out_9 (by decide) (fun c9 => ?_) (fun c9 => ?_)
      · skip
        refine lv_iload_n hx hb dX2_out_30 rfl (lv_at hl 1 rfl) ?_
        exact k_iret hx hb hr hlocks hQ hP hS (by omega) (by omega) dX2_out_31 (⟨rfl, by rw [show z = mn from by omega]⟩)
      · skip
        obtain ⟨t9, hk, hst⟩ := hM.kite (k := z) (by omega)
        refine lv_iload_n hx hb dX2_out_12 rfl (lv_at hl 1 rfl) ?_
        refine lv_aload_n hx hb dX2_out_13 rfl (lv_at hl 2 rfl) ?_
        refine k_get hx hb hts in_X2 hown hG hP hT rfl 2 (by decide) (hts _ q184) (fun _ h9 => h9) (v := .ref (A 3)) rfl dX2_out_14 ?_
        refine lv_iload_n hx hb dX2_out_17 rfl (lv_at hl 0 rfl) ?_
        refine k_aald hx hb hG hP (j := z) 4 hS3 rfl (by omega) (show z < 6 from by omega) dX2_out_18 ?_
        rw [hs3 z (by omega)]
        refine k_cV hx hb hml hown hts (CX3_out l0 E w i z (A (6 + z)) (kv g z) t9 hk hst) (cwV 0 hts (lw_V q320 q321 q322 q71 q323) rfl rfl rfl dyX3_out ⟨Nat.le_of_ble_eq_true rfl, Nat.le_of_ble_eq_true rfl⟩) hG hP hS hk rfl (As := []) (rest := [.int (tSu g 5 z)]) rfl hl.1 rfl (lv_room (Nat.le_of_ble_eq_true rfl)) dX2_out_19 ⟨show 0 + 0 ≤ 0 from by omega, show 0 + 0 ≤ 0 from by omega⟩ (fun r9 w9 H locs hp hP hS => ?_)
        obtain ⟨hp1, hp0⟩ := hp
        rw [hp1] at hP
        rw [hp0]
        show W p l0 e rmCX2_out s m args below meth c H locs 0 0 Q (F0 m 22 ls [.int (kOt (kv g z)), .int (tSu g 5 z)])
        refine k_top (y := (g (kO z 5))) (kOt_5 hI (by omega)) ?_
        refine lv_iadd hx hb dX2_out_22 ?_
        refine lv_istore_n (lv' := [(1, .int ((tSu g 5 z) + (g (kO z 5)))), (2, .int (nI z)), (0, .ref (A 0))]) hx hb dX2_out_23 rfl hl (by decide) rfl (fun ls hl => ?_)
        refine lv_iinc (v := (nI (z + 1))) (lv' := [(2, .int (nI (z + 1))), (1, .int ((tSu g 5 z) + (g (kO z 5)))), (0, .ref (A 0))]) hx hb dX2_out_24 hl (k := 1) rfl (nI_add z 1) (by decide) rfl (fun ls hl => ?_)
        refine lv_goto (tgt := 4) hx hb dX2_out_27 (by decide) ?_
        have hl : lv_has ls 3 [(2, .int (nI (z + 1))), (1, .int (tSu g 5 (z + 1))), (0, .ref (A 0))] := hl
        exact ih_4 (z + 1) (by omega) (by omega) _ _ _ hP hS hl
  have hl : lv_has ls 3 [(2, .int (nI 0)), (1, .int (tSu g 5 0)), (0, .ref (A 0))] := hl
  exact hloop_4 _ 0 (by omega) (Nat.lt_succ_self _) _ _ _ hP hS hl

abbrev rmCX2_spools : Room := { frames := 0, cells := 0, slots := 0, locals := 0 }
theorem dyX2_spools : yX2_spools.cls = RX2 ∧ yX2_spools.cls ≠ "java/lang/invoke/MethodHandle" ∧ yX2_spools.cls ≠ "java/lang/invoke/VarHandle" ∧ (parseMethodDescriptor yX2_spools.desc).map (fun d => d.parameters.length) = some 0 := by decide +kernel
set_option maxHeartbeats 4000000 in
theorem CX2_spools (l0 : Launch) (E : gE) (w : wd) (i : Nat) (A : Nat → Nat) (g : Nat → Int32) (mn : Nat) (wn : Nat → Int32) (ly : Nat → Int32) (hM : townR E w i A g mn wn ly) : kC l0 yX2_spools (ws_ yX2_spools cX2_spools 3 (some .int)) rmCX2_spools 0 0 mI E w [.ref (A 0)] (fun r w' => w' = w ∧ r = (tSu g 3 mn)) := by
  refine k_open (cc := cX2_spools) (maxL := 3) (ret := (some .int)) (by decide) rfl (Nat.le_of_ble_eq_true rfl) ?_
  intro p e s m args below meth c ls Q hx hb hr hml hown hts hlocks hname hQ hG hP hl hS
  have hl : lv_has ls 3 [(0, .ref (A 0))] := hl
  obtain ⟨hT, ⟨fs9, hS1, hs1⟩, ⟨fd9, hS2, hs2⟩, ⟨fk9, hS3, hs3⟩, hS4, hS5, ⟨hm, hmn⟩, hK⟩ := id hM
  refine lv_iconst (v := 0) hx hb dX2_spools_0 (by decide) ?_
  refine lv_istore_n (lv' := [(1, .int 0), (0, .ref (A 0))]) hx hb dX2_spools_1 rfl hl (by decide) rfl (fun ls hl => ?_)
  refine lv_iconst (v := 0) hx hb dX2_spools_2 (by decide) ?_
  refine lv_istore_n (lv' := [(2, .int 0), (1, .int 0), (0, .ref (A 0))]) hx hb dX2_spools_3 rfl hl (by decide) rfl (fun ls hl => ?_)
  have hloop_4 : ∀ (n9_4 : Nat) (z : Nat), (z ≤ mn) → (mn - z) < n9_4 → ∀ (H : Heap) (locs : List Loc) (ls : Array Slot), wP E w H → va_S (gA E) s.heap H locs → lv_has ls 3 [(2, .int (nI z)), (1, .int (tSu g 3 z)), (0, .ref (A 0))] → W p l0 e rmCX2_spools s m args below meth c H locs 0 0 Q (F0 m 4 ls []) := by
    intro n9_4
    induction n9_4 with
    | zero => intro z hz hn; exact absurd hn (Nat.not_lt_zero _)
    | succ n9_4 ih_4 =>
      intro z hz hn_4 H locs ls  hP hS hl
      refine lv_iload_n hx hb dX2_spools_4 rfl (lv_at hl 0 rfl) ?_
      refine lv_aload_n hx hb dX2_spools_5 rfl (lv_at hl 2 rfl) ?_
      refine k_get hx hb hts in_X2 hown hG hP hT rfl 3 (by decide) (hts _ q186) (fun _ h9 => h9) (v := .int (nI mn)) rfl dX2_spools_6 ?_
      refine k_icmp_geN (x := z) (y := mn) (tgt := 30) hx hb (by omega) (by omega) dX2_spools_9 (by decide) (fun c9 => ?_) (fun c9 => ?_)
      · skip
        refine lv_iload_n hx hb dX2_spools_30 rfl (lv_at hl 1 rfl) ?_
        exact k_iret hx hb hr hlocks hQ hP hS (by omega) (by omega) dX2_spools_31 (⟨rfl, by rw [show z = mn from by omega]⟩)
      · skip
        obtain ⟨t9, hk, hst⟩ := hM.kite (k := z) (by omega)
        refine lv_iload_n hx hb dX2_spools_12 rfl (lv_at hl 1 rfl) ?_
        refine lv_aload_n hx hb dX2_spools_13 rfl (lv_at hl 2 rfl) ?_
        refine k_get hx hb hts in_X2 hown hG hP hT rfl 2 (by decide) (hts _ q184) (fun _ h9 => h9) (v := .ref (A 3)) rfl dX2_spools_14 ?_
        refine lv_iload_n hx hb dX2_spools_17 rfl (lv_at hl 0 rfl) ?_
        refine k_aald hx hb hG hP (j := z) 4 hS3 rfl (by omega) (show z < 6 from by omega) dX2_spools_18 ?_
        rw [hs3 z (by omega)]
        refine k_getN hx hb hts in_X3 hown hG hP hk rfl 2 (by decide) (hG.2.1.1 _ q147 rfl) (fun _ h9 => h9) (v := .int (g (kO z 3))) rfl dX2_spools_19 ?_
        refine lv_iadd hx hb dX2_spools_22 ?_
        refine lv_istore_n (lv' := [(1, .int ((tSu g 3 z) + (g (kO z 3)))), (2, .int (nI z)), (0, .ref (A 0))]) hx hb dX2_spools_23 rfl hl (by decide) rfl (fun ls hl => ?_)
        refine lv_iinc (v := (nI (z + 1))) (lv' := [(2, .int (nI (z + 1))), (1, .int ((tSu g 3 z) + (g (kO z 3)))), (0, .ref (A 0))]) hx hb dX2_spools_24 hl (k := 1) rfl (nI_add z 1) (by decide) rfl (fun ls hl => ?_)
        refine lv_goto (tgt := 4) hx hb dX2_spools_27 (by decide) ?_
        have hl : lv_has ls 3 [(2, .int (nI (z + 1))), (1, .int (tSu g 3 (z + 1))), (0, .ref (A 0))] := hl
        exact ih_4 (z + 1) (by omega) (by omega) _ _ _ hP hS hl
  have hl : lv_has ls 3 [(2, .int (nI 0)), (1, .int (tSu g 3 0)), (0, .ref (A 0))] := hl
  exact hloop_4 _ 0 (by omega) (Nat.lt_succ_self _) _ _ _ hP hS hl

abbrev rmCX2_points : Room := { frames := 0, cells := 0, slots := 0, locals := 0 }
theorem dyX2_points : yX2_points.cls = RX2 ∧ yX2_points.cls ≠ "java/lang/invoke/MethodHandle" ∧ yX2_points.cls ≠ "java/lang/invoke/VarHandle" ∧ (parseMethodDescriptor yX2_points.desc).map (fun d => d.parameters.length) = some 0 := by decide +kernel
set_option maxHeartbeats 4000000 in
theorem CX2_points (l0 : Launch) (E : gE) (w : wd) (i : Nat) (A : Nat → Nat) (g : Nat → Int32) (mn : Nat) (wn : Nat → Int32) (ly : Nat → Int32) (hM : townR E w i A g mn wn ly) : kC l0 yX2_points (ws_ yX2_points cX2_points 3 (some .int)) rmCX2_points 0 0 mI E w [.ref (A 0)] (fun r w' => w' = w ∧ r = (tSu g 8 mn)) := by
  refine k_open (cc := cX2_points) (maxL := 3) (ret := (some .int)) (by decide) rfl (Nat.le_of_ble_eq_true rfl) ?_
  intro p e s m args below meth c ls Q hx hb hr hml hown hts hlocks hname hQ hG hP hl hS
  have hl : lv_has ls 3 [(0, .ref (A 0))] := hl
  obtain ⟨hT, ⟨fs9, hS1, hs1⟩, ⟨fd9, hS2, hs2⟩, ⟨fk9, hS3, hs3⟩, hS4, hS5, ⟨hm, hmn⟩, hK⟩ := id hM
  refine lv_iconst (v := 0) hx hb dX2_points_0 (by decide) ?_
  refine lv_istore_n (lv' := [(1, .int 0), (0, .ref (A 0))]) hx hb dX2_points_1 rfl hl (by decide) rfl (fun ls hl => ?_)
  refine lv_iconst (v := 0) hx hb dX2_points_2 (by decide) ?_
  refine lv_istore_n (lv' := [(2, .int 0), (1, .int 0), (0, .ref (A 0))]) hx hb dX2_points_3 rfl hl (by decide) rfl (fun ls hl => ?_)
  have hloop_4 : ∀ (n9_4 : Nat) (z : Nat), (z ≤ mn) → (mn - z) < n9_4 → ∀ (H : Heap) (locs : List Loc) (ls : Array Slot), wP E w H → va_S (gA E) s.heap H locs → lv_has ls 3 [(2, .int (nI z)), (1, .int (tSu g 8 z)), (0, .ref (A 0))] → W p l0 e rmCX2_points s m args below meth c H locs 0 0 Q (F0 m 4 ls []) := by
    intro n9_4
    induction n9_4 with
    | zero => intro z hz hn; exact absurd hn (Nat.not_lt_zero _)
    | succ n9_4 ih_4 =>
      intro z hz hn_4 H locs ls  hP hS hl
      refine lv_iload_n hx hb dX2_points_4 rfl (lv_at hl 0 rfl) ?_
      refine lv_aload_n hx hb dX2_points_5 rfl (lv_at hl 2 rfl) ?_
      refine k_get hx hb hts in_X2 hown hG hP hT rfl 3 (by decide) (hts _ q186) (fun _ h9 => h9) (v := .int (nI mn)) rfl dX2_points_6 ?_
      refine k_icmp_geN (x := z) (y := mn) (tgt := 30) hx hb (by omega) (by omega) dX2_points_9 (by decide) (fun c9 => ?_) (fun c9 => ?_)
      · skip
        refine lv_iload_n hx hb dX2_points_30 rfl (lv_at hl 1 rfl) ?_
        exact k_iret hx hb hr hlocks hQ hP hS (by omega) (by omega) dX2_points_31 (⟨rfl, by rw [show z = mn from by omega]⟩)
      · skip
        obtain ⟨t9, hk, hst⟩ := hM.kite (k := z) (by omega)
        refine lv_iload_n hx hb dX2_points_12 rfl (lv_at hl 1 rfl) ?_
        refine lv_aload_n hx hb dX2_points_13 rfl (lv_at hl 2 rfl) ?_
        refine k_get hx hb hts in_X2 hown hG hP hT rfl 2 (by decide) (hts _ q184) (fun _ h9 => h9) (v := .ref (A 3)) rfl dX2_points_14 ?_
        refine lv_iload_n hx hb dX2_points_17 rfl (lv_at hl 0 rfl) ?_
        refine k_aald hx hb hG hP (j := z) 4 hS3 rfl (by omega) (show z < 6 from by omega) dX2_points_18 ?_
        rw [hs3 z (by omega)]
        refine k_getN hx hb hts in_X3 hown hG hP hk rfl 6 (by decide) (hG.2.1.1 _ q158 rfl) (fun _ h9 => h9) (v := .int (g (kO z 8))) rfl dX2_points_19 ?_
        refine lv_iadd hx hb dX2_points_22 ?_
        refine lv_istore_n (lv' := [(1, .int ((tSu g 8 z) + (g (kO z 8)))), (2, .int (nI z)), (0, .ref (A 0))]) hx hb dX2_points_23 rfl hl (by decide) rfl (fun ls hl => ?_)
        refine lv_iinc (v := (nI (z + 1))) (lv' := [(2, .int (nI (z + 1))), (1, .int ((tSu g 8 z) + (g (kO z 8)))), (0, .ref (A 0))]) hx hb dX2_points_24 hl (k := 1) rfl (nI_add z 1) (by decide) rfl (fun ls hl => ?_)
        refine lv_goto (tgt := 4) hx hb dX2_points_27 (by decide) ?_
        have hl : lv_has ls 3 [(2, .int (nI (z + 1))), (1, .int (tSu g 8 (z + 1))), (0, .ref (A 0))] := hl
        exact ih_4 (z + 1) (by omega) (by omega) _ _ _ hP hS hl
  have hl : lv_has ls 3 [(2, .int (nI 0)), (1, .int (tSu g 8 0)), (0, .ref (A 0))] := hl
  exact hloop_4 _ 0 (by omega) (Nat.lt_succ_self _) _ _ _ hP hS hl

abbrev rmCX2_tensions : Room := { frames := 4, cells := 0, slots := 0, locals := 101 }
theorem dyX2_tensions : yX2_tensions.cls = RX2 ∧ yX2_tensions.cls ≠ "java/lang/invoke/MethodHandle" ∧ yX2_tensions.cls ≠ "java/lang/invoke/VarHandle" ∧ (parseMethodDescriptor yX2_tensions.desc).map (fun d => d.parameters.length) = some 0 := by decide +kernel
set_option maxHeartbeats 4000000 in
theorem CX2_tensions (l0 : Launch) (E : gE) (w : wd) (i : Nat) (A : Nat → Nat) (g : Nat → Int32) (mn : Nat) (wn : Nat → Int32) (ly : Nat → Int32) (N : Nat) (hI : gI g mn N) (hM : townR E w i A g mn wn ly) : kC l0 yX2_tensions (ws_ yX2_tensions cX2_tensions 3 (some .int)) rmCX2_tensions 0 0 mI E w [.ref (A 0)] (fun r w' => w' = w ∧ r = (tTn g mn)) := by
  refine k_open (cc := cX2_tensions) (maxL := 3) (ret := (some .int)) (by decide) rfl (Nat.le_of_ble_eq_true rfl) ?_
  intro p e s m args below meth c ls Q hx hb hr hml hown hts hlocks hname hQ hG hP hl hS
  have hl : lv_has ls 3 [(0, .ref (A 0))] := hl
  obtain ⟨hT, ⟨fs9, hS1, hs1⟩, ⟨fd9, hS2, hs2⟩, ⟨fk9, hS3, hs3⟩, hS4, hS5, ⟨hm, hmn⟩, hK⟩ := id hM
  refine lv_iconst (v := 0) hx hb dX2_tensions_0 (by decide) ?_
  refine lv_istore_n (lv' := [(1, .int 0), (0, .ref (A 0))]) hx hb dX2_tensions_1 rfl hl (by decide) rfl (fun ls hl => ?_)
  refine lv_iconst (v := 0) hx hb dX2_tensions_2 (by decide) ?_
  refine lv_istore_n (lv' := [(2, .int 0), (1, .int 0), (0, .ref (A 0))]) hx hb dX2_tensions_3 rfl hl (by decide) rfl (fun ls hl => ?_)
  have hloop_4 : ∀ (n9_4 : Nat) (z : Nat), (z ≤ mn) → (mn - z) < n9_4 → ∀ (H : Heap) (locs : List Loc) (ls : Array Slot), wP E w H → va_S (gA E) s.heap H locs → lv_has ls 3 [(2, .int (nI z)), (1, .int (tTn g z)), (0, .ref (A 0))] → W p l0 e rmCX2_tensions s m args below meth c H locs 0 0 Q (F0 m 4 ls []) := by
    intro n9_4
    induction n9_4 with
    | zero => intro z hz hn; exact absurd hn (Nat.not_lt_zero _)
    | succ n9_4 ih_4 =>
      intro z hz hn_4 H locs ls  hP hS hl
      refine lv_iload_n hx hb dX2_tensions_4 rfl (lv_at hl 0 rfl) ?_
      refine lv_aload_n hx hb dX2_tensions_5 rfl (lv_at hl 2 rfl) ?_
      refine k_get hx hb hts in_X2 hown hG hP hT rfl 3 (by decide) (hts _ q186) (fun _ h9 => h9) (v := .int (nI mn)) rfl dX2_tensions_6 ?_
      refine k_icmp_geN (x := z) (y := mn) (tgt := 31) hx hb (by omega) (by omega) dX2_tensions_9 (by decide) (fun c9 => ?_) (fun c9 => ?_)
      · skip
        refine lv_iload_n hx hb dX2_tensions_31 rfl (lv_at hl 1 rfl) ?_
        exact k_iret hx hb hr hlocks hQ hP hS (by omega) (by omega) dX2_tensions_32 (⟨rfl, by rw [show z = mn from by omega]⟩)
      · skip
        obtain ⟨t9, hk, hst⟩ := hM.kite (k := z) (by omega)
        refine lv_iload_n hx hb dX2_tensions_12 rfl (lv_at hl 1 rfl) ?_
        refine lv_aload_n hx hb dX2_tensions_13 rfl (lv_at hl 2 rfl) ?_
        refine lv_aload_n hx hb dX2_tensions_14 rfl (lv_at hl 2 rfl) ?_
        refine k_get hx hb hts in_X2 hown hG hP hT rfl 2 (by decide) (hts _ q184) (fun _ h9 => h9) (v := .ref (A 3)) rfl dX2_tensions_15 ?_
        refine lv_iload_n hx hb dX2_tensions_18 rfl (lv_at hl 0 rfl) ?_
        refine k_aald hx hb hG hP (j := z) 4 hS3 rfl (by omega) (show z < 6 from by omega) dX2_tensions_19 ?_
        rw [hs3 z (by omega)]
        refine k_cV hx hb hml hown hts (CX2_tension l0 E w i A g mn wn ly N z hI (by omega) hM) (cwV 1 hts (lw_V q952 q824 q825 q70 q826) rfl rfl rfl dyX2_tension ⟨Nat.le_of_ble_eq_true rfl, Nat.le_of_ble_eq_true rfl⟩) hG hP hS hT rfl (As := [.ref (A (6 + z))]) (rest := [.int (tTn g z)]) rfl hl.1 rfl (lv_room (Nat.le_of_ble_eq_true rfl)) dX2_tensions_20 ⟨show 0 + 0 ≤ 0 from by omega, show 0 + 0 ≤ 0 from by omega⟩ (fun r9 w9 H locs hp hP hS => ?_)
        obtain ⟨hp1, hp0⟩ := hp
        rw [hp1] at hP
        rw [hp0]
        show W p l0 e rmCX2_tensions s m args below meth c H locs 0 0 Q (F0 m 23 ls [.int (tTs g z), .int (tTn g z)])
        refine lv_iadd hx hb dX2_tensions_23 ?_
        refine lv_istore_n (lv' := [(1, .int ((tTn g z) + (tTs g z))), (2, .int (nI z)), (0, .ref (A 0))]) hx hb dX2_tensions_24 rfl hl (by decide) rfl (fun ls hl => ?_)
        refine lv_iinc (v := (nI (z + 1))) (lv' := [(2, .int (nI (z + 1))), (1, .int ((tTn g z) + (tTs g z))), (0, .ref (A 0))]) hx hb dX2_tensions_25 hl (k := 1) rfl (nI_add z 1) (by decide) rfl (fun ls hl => ?_)
        refine lv_goto (tgt := 4) hx hb dX2_tensions_28 (by decide) ?_
        have hl : lv_has ls 3 [(2, .int (nI (z + 1))), (1, .int (tTn g (z + 1))), (0, .ref (A 0))] := hl
        exact ih_4 (z + 1) (by omega) (by omega) _ _ _ hP hS hl
  have hl : lv_has ls 3 [(2, .int (nI 0)), (1, .int (tTn g 0)), (0, .ref (A 0))] := hl
  exact hloop_4 _ 0 (by omega) (Nat.lt_succ_self _) _ _ _ hP hS hl

abbrev rmCX2_isBalanced : Room := { frames := 2, cells := 0, slots := 0, locals := 44 }
theorem dyX2_isBalanced : yX2_isBalanced.cls = RX2 ∧ yX2_isBalanced.cls ≠ "java/lang/invoke/MethodHandle" ∧ yX2_isBalanced.cls ≠ "java/lang/invoke/VarHandle" ∧ (parseMethodDescriptor yX2_isBalanced.desc).map (fun d => d.parameters.length) = some 0 := by decide +kernel
set_option maxHeartbeats 4000000 in
theorem CX2_isBalanced (l0 : Launch) (E : gE) (w : wd) (i : Nat) (A : Nat → Nat) (g : Nat → Int32) (mn : Nat) (wn : Nat → Int32) (ly : Nat → Int32) (N : Nat) (hI : gI g mn N) (hM : townR E w i A g mn wn ly) : kC l0 yX2_isBalanced (ws_ yX2_isBalanced cX2_isBalanced 3 (some .boolean)) rmCX2_isBalanced 0 0 mI E w [.ref (A 0)] (fun r w' => w' = w ∧ r = (bI (tBal g mn))) := by
  refine k_open (cc := cX2_isBalanced) (maxL := 3) (ret := (some .boolean)) (by decide) rfl (Nat.le_of_ble_eq_true rfl) ?_
  intro p e s m args below meth c ls Q hx hb hr hml hown hts hlocks hname hQ hG hP hl hS
  have hl : lv_has ls 3 [(0, .ref (A 0))] := hl
  obtain ⟨hT, ⟨fs9, hS1, hs1⟩, ⟨fd9, hS2, hs2⟩, ⟨fk9, hS3, hs3⟩, hS4, hS5, ⟨hm, hmn⟩, hK⟩ := id hM
  refine lv_iconst (v := 0) hx hb dX2_isBalanced_0 (by decide) ?_
  refine lv_istore_n (lv' := [(1, .int 0), (0, .ref (A 0))]) hx hb dX2_isBalanced_1 rfl hl (by decide) rfl (fun ls hl => ?_)
  refine lv_iconst (v := 0) hx hb dX2_isBalanced_2 (by decide) ?_
  refine lv_istore_n (lv' := [(2, .int 0), (1, .int 0), (0, .ref (A 0))]) hx hb dX2_isBalanced_3 rfl hl (by decide) rfl (fun ls hl => ?_)
  have hloop_4 : ∀ (n9_4 : Nat) (z : Nat), (z ≤ mn) → (mn - z) < n9_4 → ∀ (H : Heap) (locs : List Loc) (ls : Array Slot), wP E w H → va_S (gA E) s.heap H locs → lv_has ls 3 [(2, .int (nI z)), (1, .int (tSu g 13 z)), (0, .ref (A 0))] → W p l0 e rmCX2_isBalanced s m args below meth c H locs 0 0 Q (F0 m 4 ls []) := by
    intro n9_4
    induction n9_4 with
    | zero => intro z hz hn; exact absurd hn (Nat.not_lt_zero _)
    | succ n9_4 ih_4 =>
      intro z hz hn_4 H locs ls  hP hS hl
      refine lv_iload_n hx hb dX2_isBalanced_4 rfl (lv_at hl 0 rfl) ?_
      refine lv_aload_n hx hb dX2_isBalanced_5 rfl (lv_at hl 2 rfl) ?_
      refine k_get hx hb hts in_X2 hown hG hP hT rfl 3 (by decide) (hts _ q186) (fun _ h9 => h9) (v := .int (nI mn)) rfl dX2_isBalanced_6 ?_
      refine k_icmp_geN (x := z) (y := mn) (tgt := 40) hx hb (by omega) (by omega) dX2_isBalanced_9 (by decide) (fun c9 => ?_) (fun c9 => ?_)
      · skip
        obtain rfl : mn = z := by omega
        refine lv_aload_n hx hb dX2_isBalanced_40 rfl (lv_at hl 2 rfl) ?_
        refine k_get hx hb hts in_X2 hown hG hP hT rfl 5 (by decide) (hts _ q190) (fun _ h9 => h9) (v := .int (g 21)) rfl dX2_isBalanced_41 ?_
        refine lv_aload_n hx hb dX2_isBalanced_44 rfl (lv_at hl 2 rfl) ?_
        refine k_cV hx hb hml hown hts (CX2_out l0 E w i A g mn wn ly N hI hM) (cwV 0 hts (lw_V q316 q317 q318 q70 q319) rfl rfl rfl dyX2_out ⟨Nat.le_of_ble_eq_true rfl, Nat.le_of_ble_eq_true rfl⟩) hG hP hS hT rfl (As := []) (rest := [.int (g 21)]) rfl hl.1 rfl (lv_room (Nat.le_of_ble_eq_true rfl)) dX2_isBalanced_45 ⟨show 0 + 0 ≤ 0 from by omega, show 0 + 0 ≤ 0 from by omega⟩ (fun r9 w9 H locs hp hP hS => ?_)
        obtain ⟨hp1, hp0⟩ := hp
        rw [hp1] at hP
        rw [hp0]
        show W p l0 e rmCX2_isBalanced s m args below meth c H locs 0 0 Q (F0 m 48 ls [.int (tSu g 5 mn), .int (g 21)])
        refine lv_aload_n hx hb dX2_isBalanced_48 rfl (lv_at hl 2 rfl) ?_
        refine k_get hx hb hts in_X2 hown hG hP hT rfl 7 (by decide) (hts _ q194) (fun _ h9 => h9) (v := .int (g 22)) rfl dX2_isBalanced_49 ?_
        refine lv_iadd hx hb dX2_isBalanced_52 ?_
        refine lv_aload_n hx hb dX2_isBalanced_53 rfl (lv_at hl 2 rfl) ?_
        refine k_get hx hb hts in_X2 hown hG hP hT rfl 6 (by decide) (hts _ q192) (fun _ h9 => h9) (v := .int (g 23)) rfl dX2_isBalanced_54 ?_
        refine lv_iadd hx hb dX2_isBalanced_57 ?_
        refine lv_icmp_ne (tgt := 73) hx hb dX2_isBalanced_58 (by decide) (fun c58 => ?_) (fun c58 => ?_)
        · skip
          refine lv_iconst (v := 0) hx hb dX2_isBalanced_73 (by decide) ?_
          exact k_zret hx hb hr hlocks hQ hP hS (by omega) (by omega) dX2_isBalanced_74 rfl (⟨rfl, by rw [tBal, tBk_t hI (Nat.le_refl _), Bool.true_and]; first | (rw [decide_eq_true c58, decide_eq_true c66]; rfl) | (rw [decide_eq_false c58]; rfl) | (rw [decide_eq_false c66, Bool.and_false]; rfl)⟩)
        · skip
          refine lv_iload_n hx hb dX2_isBalanced_61 rfl (lv_at hl 1 rfl) ?_
          refine lv_aload_n hx hb dX2_isBalanced_62 rfl (lv_at hl 2 rfl) ?_
          refine k_get hx hb hts in_X2 hown hG hP hT rfl 7 (by decide) (hts _ q194) (fun _ h9 => h9) (v := .int (g 22)) rfl dX2_isBalanced_63 ?_
          refine lv_icmp_ne (tgt := 73) hx hb dX2_isBalanced_66 (by decide) (fun c66 => ?_) (fun c66 => ?_)
          · skip
            refine lv_iconst (v := 0) hx hb dX2_isBalanced_73 (by decide) ?_
            exact k_zret hx hb hr hlocks hQ hP hS (by omega) (by omega) dX2_isBalanced_74 rfl (⟨rfl, by rw [tBal, tBk_t hI (Nat.le_refl _), Bool.true_and]; first | (rw [decide_eq_true c58, decide_eq_true c66]; rfl) | (rw [decide_eq_false c58]; rfl) | (rw [decide_eq_false c66, Bool.and_false]; rfl)⟩)
          · skip
            refine lv_iconst (v := 1) hx hb dX2_isBalanced_69 (by decide) ?_
            refine lv_goto (tgt := 74) hx hb dX2_isBalanced_70 (by decide) ?_
            exact k_zret hx hb hr hlocks hQ hP hS (by omega) (by omega) dX2_isBalanced_74 rfl (⟨rfl, by rw [tBal, tBk_t hI (Nat.le_refl _), Bool.true_and]; first | (rw [decide_eq_true c58, decide_eq_true c66]; rfl) | (rw [decide_eq_false c58]; rfl) | (rw [decide_eq_false c66, Bool.and_false]; rfl)⟩)
      · skip
        obtain ⟨t9, hk, hst⟩ := hM.kite (k := z) (by omega)
        refine lv_iload_n hx hb dX2_isBalanced_12 rfl (lv_at hl 1 rfl) ?_
        refine lv_aload_n hx hb dX2_isBalanced_13 rfl (lv_at hl 2 rfl) ?_
        refine k_get hx hb hts in_X2 hown hG hP hT rfl 2 (by decide) (hts _ q184) (fun _ h9 => h9) (v := .ref (A 3)) rfl dX2_isBalanced_14 ?_
        refine lv_iload_n hx hb dX2_isBalanced_17 rfl (lv_at hl 0 rfl) ?_
        refine k_aald hx hb hG hP (j := z) 4 hS3 rfl (by omega) (show z < 6 from by omega) dX2_isBalanced_18 ?_
        rw [hs3 z (by omega)]
        refine k_getN hx hb hts in_X3 hown hG hP hk rfl 3 (by decide) (hG.2.1.1 _ q150 rfl) (fun _ h9 => h9) (v := .int (g (kO z 12))) rfl dX2_isBalanced_19 ?_
        refine lv_aload_n hx hb dX2_isBalanced_22 rfl (lv_at hl 2 rfl) ?_
        refine k_get hx hb hts in_X2 hown hG hP hT rfl 2 (by decide) (hts _ q184) (fun _ h9 => h9) (v := .ref (A 3)) rfl dX2_isBalanced_23 ?_
        refine lv_iload_n hx hb dX2_isBalanced_26 rfl (lv_at hl 0 rfl) ?_
        refine k_aald hx hb hG hP (j := z) 4 hS3 rfl (by omega) (show z < 6 from by omega) dX2_isBalanced_27 ?_
        rw [hs3 z (by omega)]
        refine k_getN hx hb hts in_X3 hown hG hP hk rfl 2 (by decide) (hG.2.1.1 _ q147 rfl) (fun _ h9 => h9) (v := .int (g (kO z 3))) rfl dX2_isBalanced_28 ?_
        refine lv_isub hx hb dX2_isBalanced_31 ?_
        refine lv_iadd hx hb dX2_isBalanced_32 ?_
        refine lv_istore_n (lv' := [(1, .int ((tSu g 13 z) + ((g (kO z 12)) - (g (kO z 3))))), (2, .int (nI z)), (0, .ref (A 0))]) hx hb dX2_isBalanced_33 rfl hl (by decide) rfl (fun ls hl => ?_)
        refine lv_iinc (v := (nI (z + 1))) (lv' := [(2, .int (nI (z + 1))), (1, .int ((tSu g 13 z) + ((g (kO z 12)) - (g (kO z 3))))), (0, .ref (A 0))]) hx hb dX2_isBalanced_34 hl (k := 1) rfl (nI_add z 1) (by decide) rfl (fun ls hl => ?_)
        refine lv_goto (tgt := 4) hx hb dX2_isBalanced_37 (by decide) ?_
        have hl := Eq.mp (congrArg (fun z9 => lv_has ls 3 [(2, .int (nI (z + 1))), (1, .int z9), (0, .ref (A 0))]) (show ((tSu g 13 z) + ((g (kO z 12)) - (g (kO z 3)))) = (tSu g 13 (z + 1)) from tSu_13 hI (by omega))) hl
        have hl : lv_has ls 3 [(2, .int (nI (z + 1))), (1, .int (tSu g 13 (z + 1))), (0, .ref (A 0))] := hl
        exact ih_4 (z + 1) (by omega) (by omega) _ _ _ hP hS hl
  have hl : lv_has ls 3 [(2, .int (nI 0)), (1, .int (tSu g 13 0)), (0, .ref (A 0))] := hl
  exact hloop_4 _ 0 (by omega) (Nat.lt_succ_self _) _ _ _ hP hS hl

abbrev rmCX2_reasonToLaunch : Room := { frames := 1, cells := 0, slots := 0, locals := 20 }
theorem dyX2_reasonToLaunch : yX2_reasonToLaunch.cls = RX2 ∧ yX2_reasonToLaunch.cls ≠ "java/lang/invoke/MethodHandle" ∧ yX2_reasonToLaunch.cls ≠ "java/lang/invoke/VarHandle" ∧ (parseMethodDescriptor yX2_reasonToLaunch.desc).map (fun d => d.parameters.length) = some 1 := by decide +kernel
set_option maxHeartbeats 4000000 in
theorem CX2_reasonToLaunch (l0 : Launch) (E : gE) (w : wd) (i : Nat) (A : Nat → Nat) (g : Nat → Int32) (mn : Nat) (wn : Nat → Int32) (ly : Nat → Int32) (x : Nat) (hx9 : x < mn) (hM : townR E w i A g mn wn ly) : kC l0 yX2_reasonToLaunch (ws_ yX2_reasonToLaunch cX2_reasonToLaunch 2 (some .int)) rmCX2_reasonToLaunch 0 0 mI E w [.ref (A 0), .int (nI x)] (fun r w' => w' = w ∧ r = (if g (kO x 0) = 0 then (if g 0 = 0 then 3 else 0) else 2)) := by
  refine k_open (cc := cX2_reasonToLaunch) (maxL := 2) (ret := (some .int)) (by decide) rfl (Nat.le_of_ble_eq_true rfl) ?_
  intro p e s m args below meth c ls Q hx hb hr hml hown hts hlocks hname hQ hG hP hl hS
  have hl : lv_has ls 2 [(0, .ref (A 0)), (1, .int (nI x))] := hl
  obtain ⟨hT, ⟨fs9, hS1, hs1⟩, ⟨fd9, hS2, hs2⟩, ⟨fk9, hS3, hs3⟩, hS4, hS5, ⟨hm, hmn⟩, hK⟩ := id hM
  obtain ⟨t9, hk, hst⟩ := hM.kite (k := x) (by omega)
  refine lv_aload_n hx hb dX2_reasonToLaunch_0 rfl (lv_at hl 0 rfl) ?_
  refine k_get hx hb hts in_X2 hown hG hP hT rfl 2 (by decide) (hts _ q184) (fun _ h9 => h9) (v := .ref (A 3)) rfl dX2_reasonToLaunch_1 ?_
  refine lv_iload_n hx hb dX2_reasonToLaunch_4 rfl (lv_at hl 1 rfl) ?_
  refine k_aald hx hb hG hP (j := x) 4 hS3 rfl (by omega) (show x < 6 from by omega) dX2_reasonToLaunch_5 ?_
  rw [hs3 x (by omega)]
  refine k_cV hx hb hml hown hts (CX3_isOnRoof l0 E w i x (A (6 + x)) (kv g x) t9 hk hst) (cwV 0 hts (lw_V q665 q666 q667 q71 q668) rfl rfl rfl dyX3_isOnRoof ⟨Nat.le_of_ble_eq_true rfl, Nat.le_of_ble_eq_true rfl⟩) hG hP hS hk rfl (As := []) (rest := []) rfl hl.1 rfl (lv_room (Nat.le_of_ble_eq_true rfl)) dX2_reasonToLaunch_6 ⟨show 0 + 0 ≤ 0 from by omega, show 0 + 0 ≤ 0 from by omega⟩ (fun r9 w9 H locs hp hP hS => ?_)
  obtain ⟨hp1, hp0⟩ := hp
  rw [hp1] at hP
  rw [hp0]
  show W p l0 e rmCX2_reasonToLaunch s m args below meth c H locs 0 0 Q (F0 m 9 ls [.int (bI (decide (((kv g x) 0) = 0)))])
  refine k_top (y := (bI (decide (g (kO x 0) = 0)))) (rfl) ?_
  refine k_ifneB (x := decide (g (kO x 0) = 0)) (tgt := 16) hx hb dX2_reasonToLaunch_9 (by decide) (fun c9 => ?_) (fun c9 => ?_)
  · skip
    refine lv_aload_n hx hb dX2_reasonToLaunch_16 rfl (lv_at hl 0 rfl) ?_
    refine k_get hx hb hts in_X2 hown hG hP hT rfl 0 (by decide) (hts _ q180) (fun _ h9 => h9) (v := .ref (A 1)) rfl dX2_reasonToLaunch_17 ?_
    refine lv_iconst (v := 0) hx hb dX2_reasonToLaunch_20 (by decide) ?_
    refine k_iald hx hb hG hP (j := 0) hS1 (by omega) (show 0 < 10 from by omega) dX2_reasonToLaunch_21 ?_
    refine k_top (y := (g 0)) (hs1 0 (by decide)) ?_
    refine lv_if_ne (tgt := 29) hx hb dX2_reasonToLaunch_22 (by decide) (fun c22 => ?_) (fun c22 => ?_)
    · skip
      refine lv_iconst (v := 0) hx hb dX2_reasonToLaunch_29 (by decide) ?_
      exact k_iret hx hb hr hlocks hQ hP hS (by omega) (by omega) dX2_reasonToLaunch_30 (⟨rfl, by first | (rw [if_neg (of_decide_eq_false c9)]; done) | (rw [if_pos (of_decide_eq_true c9), if_pos c22]; done) | (rw [if_pos (of_decide_eq_true c9), if_neg c22]; done)⟩)
    · skip
      refine lv_iconst (v := 3) hx hb dX2_reasonToLaunch_25 (by decide) ?_
      refine lv_goto (tgt := 30) hx hb dX2_reasonToLaunch_26 (by decide) ?_
      exact k_iret hx hb hr hlocks hQ hP hS (by omega) (by omega) dX2_reasonToLaunch_30 (⟨rfl, by first | (rw [if_neg (of_decide_eq_false c9)]; done) | (rw [if_pos (of_decide_eq_true c9), if_pos c22]; done) | (rw [if_pos (of_decide_eq_true c9), if_neg c22]; done)⟩)
  · skip
    refine lv_iconst (v := 2) hx hb dX2_reasonToLaunch_12 (by decide) ?_
    refine lv_goto (tgt := 30) hx hb dX2_reasonToLaunch_13 (by decide) ?_
    exact k_iret hx hb hr hlocks hQ hP hS (by omega) (by omega) dX2_reasonToLaunch_30 (⟨rfl, by first | (rw [if_neg (of_decide_eq_false c9)]; done) | (rw [if_pos (of_decide_eq_true c9), if_pos c22]; done) | (rw [if_pos (of_decide_eq_true c9), if_neg c22]; done)⟩)

abbrev rmCX2_reasonToReel : Room := { frames := 1, cells := 0, slots := 0, locals := 22 }
theorem dyX2_reasonToReel : yX2_reasonToReel.cls = RX2 ∧ yX2_reasonToReel.cls ≠ "java/lang/invoke/MethodHandle" ∧ yX2_reasonToReel.cls ≠ "java/lang/invoke/VarHandle" ∧ (parseMethodDescriptor yX2_reasonToReel.desc).map (fun d => d.parameters.length) = some 2 := by decide +kernel
set_option maxHeartbeats 4000000 in
theorem CX2_reasonToReel (l0 : Launch) (E : gE) (w : wd) (i : Nat) (A : Nat → Nat) (g : Nat → Int32) (mn : Nat) (wn : Nat → Int32) (ly : Nat → Int32) (x : Nat) (b : Int32) (hx9 : x < mn) (hM : townR E w i A g mn wn ly) : kC l0 yX2_reasonToReel (ws_ yX2_reasonToReel cX2_reasonToReel 4 (some .int)) rmCX2_reasonToReel 0 0 mI E w [.ref (A 0), .int (nI x), .int b] (fun r w' => w' = w ∧ r = (if tUp g x = true then (if g (kO x 5) + b ≤ g (kO x 3) then (if 0 ≤ g (kO x 5) + b then 0 else 6) else 5) else 4)) := by
  refine k_open (cc := cX2_reasonToReel) (maxL := 4) (ret := (some .int)) (by decide) rfl (Nat.le_of_ble_eq_true rfl) ?_
  intro p e s m args below meth c ls Q hx hb hr hml hown hts hlocks hname hQ hG hP hl hS
  have hl : lv_has ls 4 [(0, .ref (A 0)), (1, .int (nI x)), (2, .int b)] := hl
  obtain ⟨hT, ⟨fs9, hS1, hs1⟩, ⟨fd9, hS2, hs2⟩, ⟨fk9, hS3, hs3⟩, hS4, hS5, ⟨hm, hmn⟩, hK⟩ := id hM
  obtain ⟨t9, hk, hst⟩ := hM.kite (k := x) (by omega)
  refine lv_aload_n hx hb dX2_reasonToReel_0 rfl (lv_at hl 0 rfl) ?_
  refine k_get hx hb hts in_X2 hown hG hP hT rfl 2 (by decide) (hts _ q184) (fun _ h9 => h9) (v := .ref (A 3)) rfl dX2_reasonToReel_1 ?_
  refine lv_iload_n hx hb dX2_reasonToReel_4 rfl (lv_at hl 1 rfl) ?_
  refine k_aald hx hb hG hP (j := x) 4 hS3 rfl (by omega) (show x < 6 from by omega) dX2_reasonToReel_5 ?_
  rw [hs3 x (by omega)]
  refine lv_astore_n (lv' := [(3, .ref (A (6 + x))), (0, .ref (A 0)), (1, .int (nI x)), (2, .int b)]) hx hb dX2_reasonToReel_6 rfl hl (by decide) rfl (fun ls hl => ?_)
  refine lv_aload_n hx hb dX2_reasonToReel_7 rfl (lv_at hl 0 rfl) ?_
  refine k_cV hx hb hml hown hts (CX3_isUp l0 E w i x (A (6 + x)) (kv g x) t9 hk hst) (cwV 0 hts (lw_V q712 q713 q714 q71 q715) rfl rfl rfl dyX3_isUp ⟨Nat.le_of_ble_eq_true rfl, Nat.le_of_ble_eq_true rfl⟩) hG hP hS hk rfl (As := []) (rest := []) rfl hl.1 rfl (lv_room (Nat.le_of_ble_eq_true rfl)) dX2_reasonToReel_8 ⟨show 0 + 0 ≤ 0 from by omega, show 0 + 0 ≤ 0 from by omega⟩ (fun r9 w9 H locs hp hP hS => ?_)
  obtain ⟨hp1, hp0⟩ := hp
  rw [hp1] at hP
  rw [hp0]
  show W p l0 e rmCX2_reasonToReel s m args below meth c H locs 0 0 Q (F0 m 11 ls [.int (bI (decide (((kv g x) 0) = 1)))])
  refine k_top (y := (bI (tUp g x))) (rfl) ?_
  refine k_ifneB (x := tUp g x) (tgt := 16) hx hb dX2_reasonToReel_11 (by decide) (fun c11 => ?_) (fun c11 => ?_)
  · skip
    refine lv_aload_n hx hb dX2_reasonToReel_16 rfl (lv_at hl 0 rfl) ?_
    refine k_cV hx hb hml hown hts (CX3_out l0 E w i x (A (6 + x)) (kv g x) t9 hk hst) (cwV 0 hts (lw_V q320 q321 q322 q71 q323) rfl rfl rfl dyX3_out ⟨Nat.le_of_ble_eq_true rfl, Nat.le_of_ble_eq_true rfl⟩) hG hP hS hk rfl (As := []) (rest := []) rfl hl.1 rfl (lv_room (Nat.le_of_ble_eq_true rfl)) dX2_reasonToReel_17 ⟨show 0 + 0 ≤ 0 from by omega, show 0 + 0 ≤ 0 from by omega⟩ (fun r9 w9 H locs hp hP hS => ?_)
    obtain ⟨hp1, hp0⟩ := hp
    rw [hp1] at hP
    rw [hp0]
    show W p l0 e rmCX2_reasonToReel s m args below meth c H locs 0 0 Q (F0 m 20 ls [.int (kOt (kv g x))])
    refine k_top (y := (g (kO x 5))) (kOt_up c11) ?_
    refine lv_iload_n hx hb dX2_reasonToReel_20 rfl (lv_at hl 3 rfl) ?_
    refine lv_iadd hx hb dX2_reasonToReel_21 ?_
    refine lv_aload_n hx hb dX2_reasonToReel_22 rfl (lv_at hl 0 rfl) ?_
    refine k_getN hx hb hts in_X3 hown hG hP hk rfl 2 (by decide) (hG.2.1.1 _ q147 rfl) (fun _ h9 => h9) (v := .int (g (kO x 3))) rfl dX2_reasonToReel_23 ?_
    refine lv_icmp_le (tgt := 33) hx hb dX2_reasonToReel_26 (by decide) (fun c26 => ?_) (fun c26 => ?_)
    · skip
      refine lv_aload_n hx hb dX2_reasonToReel_33 rfl (lv_at hl 0 rfl) ?_
      refine k_cV hx hb hml hown hts (CX3_out l0 E w i x (A (6 + x)) (kv g x) t9 hk hst) (cwV 0 hts (lw_V q320 q321 q322 q71 q323) rfl rfl rfl dyX3_out ⟨Nat.le_of_ble_eq_true rfl, Nat.le_of_ble_eq_true rfl⟩) hG hP hS hk rfl (As := []) (rest := []) rfl hl.1 rfl (lv_room (Nat.le_of_ble_eq_true rfl)) dX2_reasonToReel_34 ⟨show 0 + 0 ≤ 0 from by omega, show 0 + 0 ≤ 0 from by omega⟩ (fun r9 w9 H locs hp hP hS => ?_)
      obtain ⟨hp1, hp0⟩ := hp
      rw [hp1] at hP
      rw [hp0]
      show W p l0 e rmCX2_reasonToReel s m args below meth c H locs 0 0 Q (F0 m 37 ls [.int (kOt (kv g x))])
      refine k_top (y := (g (kO x 5))) (kOt_up c11) ?_
      refine lv_iload_n hx hb dX2_reasonToReel_37 rfl (lv_at hl 3 rfl) ?_
      refine lv_iadd hx hb dX2_reasonToReel_38 ?_
      refine lv_if_ge (tgt := 47) hx hb dX2_reasonToReel_39 (by decide) (fun c39 => ?_) (fun c39 => ?_)
      · skip
        refine lv_iconst (v := 0) hx hb dX2_reasonToReel_47 (by decide) ?_
        exact k_iret hx hb hr hlocks hQ hP hS (by omega) (by omega) dX2_reasonToReel_48 (⟨rfl, by first | (rw [if_neg (by rw [c11]; decide)]; done) | (rw [if_pos c11, if_neg c26]; done) | (rw [if_pos c11, if_pos c26, if_pos c39]; done) | (rw [if_pos c11, if_pos c26, if_neg c39]; done)⟩)
      · skip
        refine lv_bipush (v := 6) hx hb dX2_reasonToReel_42 (by decide) ?_
        refine lv_goto (tgt := 48) hx hb dX2_reasonToReel_44 (by decide) ?_
        exact k_iret hx hb hr hlocks hQ hP hS (by omega) (by omega) dX2_reasonToReel_48 (⟨rfl, by first | (rw [if_neg (by rw [c11]; decide)]; done) | (rw [if_pos c11, if_neg c26]; done) | (rw [if_pos c11, if_pos c26, if_pos c39]; done) | (rw [if_pos c11, if_pos c26, if_neg c39]; done)⟩)
    · skip
      refine lv_iconst (v := 5) hx hb dX2_reasonToReel_29 (by decide) ?_
      refine lv_goto (tgt := 48) hx hb dX2_reasonToReel_30 (by decide) ?_
      exact k_iret hx hb hr hlocks hQ hP hS (by omega) (by omega) dX2_reasonToReel_48 (⟨rfl, by first | (rw [if_neg (by rw [c11]; decide)]; done) | (rw [if_pos c11, if_neg c26]; done) | (rw [if_pos c11, if_pos c26, if_pos c39]; done) | (rw [if_pos c11, if_pos c26, if_neg c39]; done)⟩)
  · skip
    refine lv_iconst (v := 4) hx hb dX2_reasonToReel_14 (by decide) ?_
    exact k_iret hx hb hr hlocks hQ hP hS (by omega) (by omega) dX2_reasonToReel_15 (⟨rfl, by first | (rw [if_neg (by rw [c11]; decide)]; done) | (rw [if_pos c11, if_neg c26]; done) | (rw [if_pos c11, if_pos c26, if_pos c39]; done) | (rw [if_pos c11, if_pos c26, if_neg c39]; done)⟩)

abbrev rmCX2_reasonToTie : Room := { frames := 0, cells := 0, slots := 0, locals := 0 }
theorem dyX2_reasonToTie : yX2_reasonToTie.cls = RX2 ∧ yX2_reasonToTie.cls ≠ "java/lang/invoke/MethodHandle" ∧ yX2_reasonToTie.cls ≠ "java/lang/invoke/VarHandle" ∧ (parseMethodDescriptor yX2_reasonToTie.desc).map (fun d => d.parameters.length) = some 1 := by decide +kernel
set_option maxHeartbeats 4000000 in
theorem CX2_reasonToTie (l0 : Launch) (E : gE) (w : wd) (i : Nat) (A : Nat → Nat) (g : Nat → Int32) (mn : Nat) (wn : Nat → Int32) (ly : Nat → Int32) (x : Nat) (hx9 : x < mn) (hM : townR E w i A g mn wn ly) : kC l0 yX2_reasonToTie (ws_ yX2_reasonToTie cX2_reasonToTie 2 (some .int)) rmCX2_reasonToTie 0 0 mI E w [.ref (A 0), .int (nI x)] (fun r w' => w' = w ∧ r = (if g (kO x 0) = 2 then (if 10 ≤ g (kO x 3) then 0 else 8) else 7)) := by
  refine k_open (cc := cX2_reasonToTie) (maxL := 2) (ret := (some .int)) (by decide) rfl (Nat.le_of_ble_eq_true rfl) ?_
  intro p e s m args below meth c ls Q hx hb hr hml hown hts hlocks hname hQ hG hP hl hS
  have hl : lv_has ls 2 [(0, .ref (A 0)), (1, .int (nI x))] := hl
  obtain ⟨hT, ⟨fs9, hS1, hs1⟩, ⟨fd9, hS2, hs2⟩, ⟨fk9, hS3, hs3⟩, hS4, hS5, ⟨hm, hmn⟩, hK⟩ := id hM
  obtain ⟨t9, hk, hst⟩ := hM.kite (k := x) (by omega)
  rcases hst with ⟨e0, h1⟩ | ⟨e0, h1⟩ | ⟨e0, h1⟩
  · skip
    have e0 : g (kO x 0) = 0 := e0
    refine lv_aload_n hx hb dX2_reasonToTie_0 rfl (lv_at hl 0 rfl) ?_
    refine k_get hx hb hts in_X2 hown hG hP hT rfl 2 (by decide) (hts _ q184) (fun _ h9 => h9) (v := .ref (A 3)) rfl dX2_reasonToTie_1 ?_
    refine lv_iload_n hx hb dX2_reasonToTie_4 rfl (lv_at hl 1 rfl) ?_
    refine k_aald hx hb hG hP (j := x) 4 hS3 rfl (by omega) (show x < 6 from by omega) dX2_reasonToTie_5 ?_
    rw [hs3 x (by omega)]
    refine k_getN hx hb hts in_X3 hown hG hP hk rfl 7 (by decide) (hG.2.1.1 _ q161 rfl) (fun _ h9 => h9) (v := .ref t9) rfl dX2_reasonToTie_6 ?_
    refine k_instNo hx hb hown (hts _ q772) hG hP h1 rfl (List.mem_of_getElem? (i := 1) rfl) dX2_reasonToTie_9 ?_
    refine lv_if_ne (tgt := 20) hx hb dX2_reasonToTie_12 (by decide) (fun c12 => ?_) (fun c12 => ?_)
    · skip
      exact absurd c12 (by decide)
    · skip
      refine lv_bipush (v := 7) hx hb dX2_reasonToTie_15 (by decide) ?_
      refine lv_goto (tgt := 40) hx hb dX2_reasonToTie_17 (by decide) ?_
      exact k_iret hx hb hr hlocks hQ hP hS (by omega) (by omega) dX2_reasonToTie_40 (⟨rfl, by first | (rw [if_neg (by rw [e0]; decide)]; done) | (rw [if_pos e0, if_pos c31]; done) | (rw [if_pos e0, if_neg c31]; done)⟩)
  · skip
    have e0 : g (kO x 0) = 1 := e0
    refine lv_aload_n hx hb dX2_reasonToTie_0 rfl (lv_at hl 0 rfl) ?_
    refine k_get hx hb hts in_X2 hown hG hP hT rfl 2 (by decide) (hts _ q184) (fun _ h9 => h9) (v := .ref (A 3)) rfl dX2_reasonToTie_1 ?_
    refine lv_iload_n hx hb dX2_reasonToTie_4 rfl (lv_at hl 1 rfl) ?_
    refine k_aald hx hb hG hP (j := x) 4 hS3 rfl (by omega) (show x < 6 from by omega) dX2_reasonToTie_5 ?_
    rw [hs3 x (by omega)]
    refine k_getN hx hb hts in_X3 hown hG hP hk rfl 7 (by decide) (hG.2.1.1 _ q161 rfl) (fun _ h9 => h9) (v := .ref t9) rfl dX2_reasonToTie_6 ?_
    refine k_instNo hx hb hown (hts _ q772) hG hP h1 rfl (List.mem_of_getElem? (i := 3) rfl) dX2_reasonToTie_9 ?_
    refine lv_if_ne (tgt := 20) hx hb dX2_reasonToTie_12 (by decide) (fun c12 => ?_) (fun c12 => ?_)
    · skip
      exact absurd c12 (by decide)
    · skip
      refine lv_bipush (v := 7) hx hb dX2_reasonToTie_15 (by decide) ?_
      refine lv_goto (tgt := 40) hx hb dX2_reasonToTie_17 (by decide) ?_
      exact k_iret hx hb hr hlocks hQ hP hS (by omega) (by omega) dX2_reasonToTie_40 (⟨rfl, by first | (rw [if_neg (by rw [e0]; decide)]; done) | (rw [if_pos e0, if_pos c31]; done) | (rw [if_pos e0, if_neg c31]; done)⟩)
  · skip
    have e0 : g (kO x 0) = 2 := e0
    refine lv_aload_n hx hb dX2_reasonToTie_0 rfl (lv_at hl 0 rfl) ?_
    refine k_get hx hb hts in_X2 hown hG hP hT rfl 2 (by decide) (hts _ q184) (fun _ h9 => h9) (v := .ref (A 3)) rfl dX2_reasonToTie_1 ?_
    refine lv_iload_n hx hb dX2_reasonToTie_4 rfl (lv_at hl 1 rfl) ?_
    refine k_aald hx hb hG hP (j := x) 4 hS3 rfl (by omega) (show x < 6 from by omega) dX2_reasonToTie_5 ?_
    rw [hs3 x (by omega)]
    refine k_getN hx hb hts in_X3 hown hG hP hk rfl 7 (by decide) (hG.2.1.1 _ q161 rfl) (fun _ h9 => h9) (v := .ref t9) rfl dX2_reasonToTie_6 ?_
    refine k_instS hx hb hown (hts _ q772) hG hP h1 rfl dX2_reasonToTie_9 ?_
    refine lv_if_ne (tgt := 20) hx hb dX2_reasonToTie_12 (by decide) (fun c12 => ?_) (fun c12 => ?_)
    · skip
      refine lv_aload_n hx hb dX2_reasonToTie_20 rfl (lv_at hl 0 rfl) ?_
      refine k_get hx hb hts in_X2 hown hG hP hT rfl 2 (by decide) (hts _ q184) (fun _ h9 => h9) (v := .ref (A 3)) rfl dX2_reasonToTie_21 ?_
      refine lv_iload_n hx hb dX2_reasonToTie_24 rfl (lv_at hl 1 rfl) ?_
      refine k_aald hx hb hG hP (j := x) 4 hS3 rfl (by omega) (show x < 6 from by omega) dX2_reasonToTie_25 ?_
      rw [hs3 x (by omega)]
      refine k_getN hx hb hts in_X3 hown hG hP hk rfl 2 (by decide) (hG.2.1.1 _ q147 rfl) (fun _ h9 => h9) (v := .int (g (kO x 3))) rfl dX2_reasonToTie_26 ?_
      refine lv_bipush (v := 10) hx hb dX2_reasonToTie_29 (by decide) ?_
      refine lv_icmp_ge (tgt := 39) hx hb dX2_reasonToTie_31 (by decide) (fun c31 => ?_) (fun c31 => ?_)
      · skip
        refine lv_iconst (v := 0) hx hb dX2_reasonToTie_39 (by decide) ?_
        exact k_iret hx hb hr hlocks hQ hP hS (by omega) (by omega) dX2_reasonToTie_40 (⟨rfl, by first | (rw [if_neg (by rw [e0]; decide)]; done) | (rw [if_pos e0, if_pos c31]; done) | (rw [if_pos e0, if_neg c31]; done)⟩)
      · skip
        refine lv_bipush (v := 8) hx hb dX2_reasonToTie_34 (by decide) ?_
        refine lv_goto (tgt := 40) hx hb dX2_reasonToTie_36 (by decide) ?_
        exact k_iret hx hb hr hlocks hQ hP hS (by omega) (by omega) dX2_reasonToTie_40 (⟨rfl, by first | (rw [if_neg (by rw [e0]; decide)]; done) | (rw [if_pos e0, if_pos c31]; done) | (rw [if_pos e0, if_neg c31]; done)⟩)
    · skip
      exact absurd c12 (by decide)
