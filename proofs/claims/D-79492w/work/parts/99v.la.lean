/-! LAW, 8: the twin's reading carried out against the component's; rows for the law -/
set_option maxRecDepth 100000
theorem qCy_c {O g v : Nat → Int32} {mn N z : Nat} (hr : rel O z v) (hv : vOK v) (hI : gI g mn N) :
    (cMB g v = false → (¬ (qCy g mn O z).1 = 0 ∧ ¬ (qCy g mn O z).1 = rCy O z) ∧ (qCy g mn O z).2.1 = 0) ∧ (cMB g v = true → 0 < cRs g mn v → (¬ (qCy g mn O z).1 = 0 ∧ (qCy g mn O z).1 = rCy O z) ∧ (qCy g mn O z).2.1 = cRs g mn v) ∧
    (cMB g v = true → cRs g mn v ≤ 0 → (qCy g mn O z).1 = 0 ∧ (qCy g mn O z).2.2.2 = cDo g mn v) := by
  obtain ⟨h0, h1, h2, h3, h4⟩ := hr
  have hm := hI.2.2.1
  unfold qCy rCy cMB cRs cDo
  rw [h0, h1]
  by_cases e1 : v 0 = 107
  · rw [if_pos e1, if_pos e1, if_pos e1, if_neg (show ¬ v 0 = 119 by rw [e1]; decide), if_neg (show ¬ v 0 = 119 by rw [e1]; decide), if_pos e1, if_pos e1, h2 (Or.inl e1), h3 (Or.inl e1), h4 e1]
    refine ⟨fun hb => ?_, fun hb hp => ?_, fun hb hp => ?_⟩
    · have e := qKite_1 (g := g) (mn := mn) hb
      exact ⟨⟨by rw [e]; decide, by rw [e]; decide⟩, qKite_z e⟩
    · by_cases h6 : mn = 6
      · rw [qKite_2 hb h6, if_pos h6]
        exact ⟨⟨by simp, rfl⟩, rfl⟩
      · rw [if_neg h6] at hp
        exact absurd hp (by decide)
    · by_cases h6 : mn = 6
      · rw [if_pos h6] at hp
        exact absurd hp (by decide)
      · rw [qKite_ok hb h6]
        exact ⟨rfl, rfl⟩
  · rw [if_neg e1, if_neg e1, if_neg e1, if_neg e1, if_neg e1]
    by_cases e2 : v 0 = 114
    · have n1 : ¬ v 0 = 119 := by rw [e2]; decide
      have n2 : ¬ v 0 = 117 := by rw [e2]; decide
      rw [if_pos e2, if_pos e2, if_neg n1, if_neg n2, if_pos e2, if_neg n2, if_pos e2, if_neg n1, if_neg n2, if_pos e2, h2 (Or.inr (Or.inl e2))]
      refine ⟨fun hb => ?_, fun hb hp => ?_, fun hb hp => ?_⟩
      · by_cases k1 : tKt g (v 1) = true
        · have e := qReel_2 k1 ((Bool.and_eq_false_iff.mp hb).resolve_left (by rw [k1]; decide))
          exact ⟨⟨by rw [e]; decide, by rw [e]; decide⟩, qReel_z (Or.inr e)⟩
        · have e := qReel_1 (z := v 2) (bt k1)
          exact ⟨⟨by rw [e]; decide, by rw [e]; decide⟩, qReel_z (Or.inl e)⟩
      · obtain ⟨k1, k2⟩ := Bool.and_eq_true_iff.mp hb
        obtain ⟨k, hk, e⟩ := tKt_of hm.1 hm.2 k1
        rw [e] at k1 hp ⊢
        have hc : (nI k).toNatClampNeg = k := nI_clamp (by omega)
        rw [hc] at hp ⊢
        have h := (qReel_r k1 k2 hc).1 hp
        exact ⟨⟨by rw [h.1]; decide, h.1⟩, h.2⟩
      · obtain ⟨k1, k2⟩ := Bool.and_eq_true_iff.mp hb
        obtain ⟨k, hk, e⟩ := tKt_of hm.1 hm.2 k1
        rw [e] at k1 hp ⊢
        have hc : (nI k).toNatClampNeg = k := nI_clamp (by omega)
        rw [hc] at hp ⊢
        have h := ((qReel_r k1 k2 hc).2 hp).2
        rw [h]
        exact ⟨rfl, rfl⟩
    · rw [if_neg e2, if_neg e2, if_neg e2, if_neg e2, if_neg e2]
      by_cases e3 : v 0 = 117
      · have n1 : ¬ v 0 = 119 := by rw [e3]; decide
        rw [if_pos e3, if_pos e3, if_neg n1, if_pos e3, if_pos e3, if_neg n1, if_pos e3]
        refine ⟨fun hb => ?_, fun hb hp => ?_, fun hb hp => ?_⟩
        · have e := qLnch_1 (mn := mn) hb
          exact ⟨⟨by rw [e]; decide, by rw [e]; decide⟩, qLnch_z e⟩
        · obtain ⟨k, hk, e⟩ := tKt_of hm.1 hm.2 hb
          rw [e] at hb hp ⊢
          have hc : (nI k).toNatClampNeg = k := nI_clamp (by omega)
          rw [hc] at hp ⊢
          have h := (qLnch_r (mn := mn) hb hc).1 hp
          exact ⟨⟨by rw [h.1]; decide, h.1⟩, h.2⟩
        · obtain ⟨k, hk, e⟩ := tKt_of hm.1 hm.2 hb
          rw [e] at hb hp ⊢
          have hc : (nI k).toNatClampNeg = k := nI_clamp (by omega)
          rw [hc] at hp ⊢
          have h := (qLnch_r (mn := mn) hb hc).2 hp
          rw [h]
          exact ⟨rfl, rfl⟩
      · rw [if_neg e3, if_neg e3, if_neg e3, if_neg e3, if_neg e3]
        by_cases e4 : v 0 = 119
        · rw [if_pos e4, if_pos e4, if_pos e4, if_pos e4, h2 (Or.inr (Or.inr e4)), h3 (Or.inr e4)]
          have k1 := hv e4
          refine ⟨fun hb => ?_, fun hb hp => absurd hp (by decide), fun hb hp => ?_⟩
          · have e := qWind_2 (g := g) k1 hb
            exact ⟨⟨by rw [e]; decide, by rw [e]; decide⟩, qWind_z⟩
          · obtain ⟨k, hk, e⟩ := tin_N (n := 9) (by decide) k1
            rw [e] at k1 ⊢
            have hc : (nI k).toNatClampNeg = k := nI_clamp (by omega)
            rw [qWind_ok k1 hb hc, hc]
            exact ⟨rfl, rfl⟩
        · rw [if_neg e4, if_neg e4, if_neg e4, if_neg e4]
          refine ⟨fun hb => ?_, fun hb hp => absurd hp (by decide), fun hb hp => ?_⟩
          · have e := qRound_1 (g := g) (mn := mn) hb
            exact ⟨⟨by rw [e]; decide, by rw [e]; decide⟩, qRound_z⟩
          · obtain ⟨k, hk, e⟩ := tin_1N (n := 30) (by decide) hb
            rw [e] at hb ⊢
            have hc : (nI k).toNatClampNeg = k := nI_clamp (by omega)
            rw [qRound_ok hb hc, hc]
            exact ⟨rfl, rfl⟩
theorem tRo_cRo {O : Nat → Int32} {V : Nat → Nat → Int32} {N : Nat} : ∀ (q i : Nat) (g : Nat → Int32) (mn : Nat), (∀ k, k < i + q → rel O (5 * k) (V k)) → (∀ k, k < i + q → vOK (V k)) → gI g mn (N + 2130 * i) → N + 2130 * (i + q) + 2201 < 2 ^ 31 →
    ((cRo V q i g mn).1 = 0 → (tRo O q i g).2.1 = 0 ∧ (tRo O q i g).2.2.2.2 = (cRo V q i g mn).2.2.2.1) ∧ ((cRo V q i g mn).1 = 1 → (¬ (tRo O q i g).2.1 = 0 ∧ ¬ (tRo O q i g).2.1 = rCy O (5 * ((tRo O q i g).1 - 1))) ∧ (tRo O q i g).2.2.1 = 0) ∧
    ((cRo V q i g mn).1 = 2 → (¬ (tRo O q i g).2.1 = 0 ∧ (tRo O q i g).2.1 = rCy O (5 * ((tRo O q i g).1 - 1))) ∧ (tRo O q i g).2.2.1 = (cRo V q i g mn).2.1 ∧ nI ((tRo O q i g).1 - 1) = (cRo V q i g mn).2.2.1)
  | 0, i, g, mn, _, _, _, _ => ⟨fun _ => ⟨rfl, rfl⟩, fun h => absurd h (by decide : ¬ (0 : Int32) = 1), fun h => absurd h (by decide : ¬ (0 : Int32) = 2)⟩
  | q + 1, i, g, mn, hr, hv, hI, hN => by
    obtain ⟨c1, c2, c3⟩ := qCy_c (hr i (by omega)) (hv i (by omega)) hI
    have hc : (g 25).toNatClampNeg = mn := by rw [hI.2.2.1.1, nI_clamp (by have := hI.2.2.1.2; omega)]
    unfold cRo tRo
    rw [hc]
    by_cases h1 : cMB g (V i) = true
    · rw [if_pos h1]
      by_cases h2 : cRs g mn (V i) ≤ 0
      · obtain ⟨k1, k2⟩ := c3 h1 h2
        rw [if_pos h2, if_pos k1, k2]
        exact tRo_cRo (N := N) q (i + 1) _ _ (fun k hk => hr k (by omega)) (fun k hk => hv k (by omega)) (gI_mono (gI_do (N := N + 2130 * i) hI h1 h2 (hv i (by omega)) (by omega)) (by omega)) (by omega)
      · obtain ⟨⟨k1, k2⟩, k3⟩ := c2 h1 (Int32.not_le.mp h2)
        rw [if_neg h2, if_neg k1]
        exact ⟨fun h => absurd h (by decide : ¬ (2 : Int32) = 0), fun h => absurd h (by decide : ¬ (2 : Int32) = 1), fun _ => ⟨⟨k1, k2⟩, k3, rfl⟩⟩
    · obtain ⟨⟨k1, k2⟩, k3⟩ := c1 (bt h1)
      rw [if_neg h1, if_neg k1]
      exact ⟨fun h => absurd h (by decide : ¬ (1 : Int32) = 0), fun _ => ⟨⟨k1, k2⟩, k3⟩, fun h => absurd h (by decide : ¬ (1 : Int32) = 2)⟩
theorem tC1_co {z : Int32} {K G G1 : Nat → Int32} {c : Nat} (e : ∀ j, j < 116 → G1 j = G j) : tC1 z K G1 c = tC1 z K G c := by
  unfold tC1 tKp
  split
  · funext j
    simp only [va_cpy]
    split
    · exact e _ (by omega)
    · rfl
  · rfl
theorem oF_13 {f : Nat → Int32} {ch : Nat} {Q : q4} : oF f ch Q 13 = Q.1 := by
  unfold oF
  split
  · next h => rw [up_n (by decide), up_s, h]
  · split
    · rw [up_s]
    · rw [up_s]
theorem coS.nums {E : gE} {w : wd} {x N mn cn nb : Nat} {f : Nat → Int32} {a : Nat → Nat → Int32} (h : coS E w x N f a mn cn nb) : (f 9 = nI nb ∧ f 6 = nI cn ∧ f 7 = 0 ∧ 0 ≤ f 11) ∧ (nb ≤ 60 ∧ cn ≤ 8) ∧ (a 0 25 = nI mn ∧ mn ≤ 6) ∧ gI (a 0) mn N := by
  obtain ⟨A1, A2, A3, d, b, wn, ly, I, mk, hX, h1, h2, h3, h4, h5, h6⟩ := h
  exact ⟨h6, ⟨h5.1.le, h4.1.le⟩, h1.2.2.2.1, h1.2⟩
theorem tM.fr {P : Nat × Nat → Prop} {E : gE} {w w1 : wd} {y : Nat} {ad : Nat → Nat} {f : Nat → Int32} {a : Nat → Nat → Int32} (h : tM E w y ad f a) (hf : fr P w w1) (h0 : ∀ τ, P τ → τ.1 ≠ 99) : tM E w1 y ad f a :=
  ⟨hf _ _ _ h.1 (fun hp => h0 _ hp rfl), fun k hk => hf _ _ _ (h.2 k hk) (fun hp => h0 _ hp rfl)⟩
theorem i2c_ex (x : Int32) : ∃ k, k < 65536 ∧ (x.toUInt32 % 65536).toInt32 = nI k := by
  obtain ⟨u, hu⟩ : ∃ u, u = x.toUInt32 % 65536 := ⟨_, rfl⟩
  have h : u.toNat < 65536 := by
    rw [hu, UInt32.toNat_mod]
    exact Nat.mod_lt _ (by decide)
  refine ⟨u.toNat, h, ?_⟩
  rw [← hu]
  have e : u = UInt32.ofNat u.toNat := UInt32.ofNat_toNat.symm
  exact (congrArg UInt32.toInt32 e).trans rfl
theorem lv_drop {ls : Array Slot} {n : Nat} {l l1 : List (Nat × Value)} (h : lv_has ls n l) (hs : ∀ q ∈ l1, q ∈ l) : lv_has ls n l1 := ⟨h.1, h.2.1, fun q hq => h.2.2 q (hs q hq)⟩
section KXZ
variable {p : Program} {l : Launch} {e : Env} {R : Room} {s : State} {m : MethodId} {args : Array Value} {below : List Frame} {meth : Method} {c : Code} {H : Heap} {locs : List Loc} {cells slots : Nat} {Q : State → Prop}
variable {cc : ByteArray} {pc : Nat} {ls : Array Slot} {rest st0 : List Value} {a : Nat} {E : gE} {w : wd} {τ : Nat × Nat}
theorem kx_cSH {ρ : Type} {mk : ρ → Option Value} {post : ρ → wd → Prop} {own : String} {index n nL mc ms maxL : Nat} {y : MethodName} {ws : List Cond} {rm : Room} {bytes : ByteArray} {ret : Option FieldType} {hh : List (Nat × Nat × Nat × Nat)} {As : List Value} (hx : p.tables.exec = Jvm.exec) (hb : c.code = cc) (hml : c.maxLocals = nL) (hown : s.vm.findClass own = some m.cls) (hts : ∀ w ∈ lw_all, w.before args s = true)
    (hMt : kX l y ws rm mc ms mk E w As post (fun _ _ _ => False)) (cw : vx_CSW R s args own index y bytes maxL ret hh ws rm mc ms n) (hG : gK E s) (hP : wP E w H) (hS : va_S (gA E) s.heap H locs) (hn : As.length = n) (hsize : ls.size = nL) (hst : st0 = As.reverse ++ rest) (hW : 2 * (F0 m pc ls st0).monitorRoom + (rest.map fun v => v.category).sum ≤ 8) (hdg : decode cc pc = .ok (.invokestatic index, 3)) (hf : cells + mc ≤ R.cells ∧ slots + ms ≤ R.slots)
    (kk : ∀ (r : ρ) (w' : wd) (H1 : Heap) (locs1 : List Loc), post r w' → wP E w' H1 → va_S (gA E) s.heap H1 locs1 → W p l e R s m args below meth c H1 locs1 (cells + mc) (slots + ms) Q (F0 m (pc + 3) ls ((mk r).toList ++ rest))) : W p l e R s m args below meth c H locs cells slots Q (F0 m pc ls st0) :=
  kx_callG (vx_runSX (g := F0 m pc ls st0) ⟨hx, hb, hml, hown, hts⟩ hMt cw (k_preS hG hP hS) rfl hn hsize hst hW hdg hf) hS (fun X ce q w' H1 locs1 h => h.elim) kk
end KXZ
theorem qRef_qRf {f : Nat → Int32} {b : Bool} : qRef f b = qRf (f 11) (f 12) b := rfl
/-- what the twin's 'read' has left is what the component's has -/
theorem read_eq {f f1 : Nat → Int32} {a a1 : Nat → Nat → Int32} {nb cn mn N : Nat} {r : Int32} {T9 : q5} {qx : qT} {R : qR} (n60 : nb ≤ 60) (hI : gI (a 0) mn N) (hN : N + 66101 < 2 ^ 31) (h7 : f 7 = 0) (hT9 : T9 = pTx (a 8) nb 61 0 0 (a 18)) (hqx : qx = cTx (a 8) nb 61 0 0 (fun _ _ => 0)) (hR : R = cRo qx.2.2.2 qx.2.2.1 0 (a 0) mn)
    (hz : (T9.1 = false ∧ r = 0 ∧ f1 = (va_up (va_up (va_up (va_up (va_up f 17 (nI T9.2.1)) 19 (nI T9.2.2.1)) 10 (nI T9.2.1)) 9 0) 13 1) ∧ a1 = va_up a 18 T9.2.2.2) ∨ (T9.1 = true ∧ (tRo T9.2.2.2 T9.2.2.1 0 (a 0)).2.1 = 0 ∧ r = nI T9.2.2.1 ∧ f1 = va_up (va_up (va_up (va_up (va_up (va_up (va_up (va_up (va_up f 17 (nI T9.2.1)) 19 (nI T9.2.2.1)) 10 (-1)) 9 0) 13 0) 7 1) 13 0) 7 0) 6 (tC6 0 cn) ∧ ∃ x9 y9 z9, a1 = va_up (va_up (va_up (va_up (va_up (va_up (va_up a 18 T9.2.2.2) 3 (va_cpy (a 0) (a 3) 0 0 116)) 0 (tRo T9.2.2.2 T9.2.2.1 0 (a 0)).2.2.2.2) 14 x9) 15 y9) 16 z9) 1 (tC1 0 (a 1) (va_cpy (a 0) (a 3) 0 0 116) cn)) ∨ (T9.1 = true ∧ ¬ (tRo T9.2.2.2 T9.2.2.1 0 (a 0)).2.1 = 0 ∧ r = 0 ∧ f1 = (if (tRo T9.2.2.2 T9.2.2.1 0 (a 0)).2.1 = rCy T9.2.2.2 (5 * ((tRo T9.2.2.2 T9.2.2.1 0 (a 0)).1 - 1)) then va_up (va_up (va_up (oC (va_up (va_up (va_up (va_up (va_up (va_up f 17 (nI T9.2.1)) 19 (nI T9.2.2.1)) 10 (-1)) 9 0) 13 0) 7 1) ((tRo T9.2.2.2 T9.2.2.1 0 (a 0)).2.1, (tRo T9.2.2.2 T9.2.2.1 0 (a 0)).2.2.1, 0)) 7 0) 12 (nI ((tRo T9.2.2.2 T9.2.2.1 0 (a 0)).1 - 1))) 13 2 else va_up (va_up (oC (va_up (va_up (va_up (va_up (va_up (va_up f 17 (nI T9.2.1)) 19 (nI T9.2.2.1)) 10 (-1)) 9 0) 13 0) 7 1) ((tRo T9.2.2.2 T9.2.2.1 0 (a 0)).2.1, (tRo T9.2.2.2 T9.2.2.1 0 (a 0)).2.2.1, 0)) 7 0) 13 1) ∧ ∃ x9 y9 z9, a1 = va_up (va_up (va_up (va_up (va_up (va_up a 18 T9.2.2.2) 3 (va_cpy (a 0) (a 3) 0 0 116)) 0 (a 0)) 14 x9) 15 y9) 16 z9)) :
    f1 13 = rdC qx R ∧ (rdC qx R = 0 → r = nI qx.2.2.1) ∧ a1 0 = rdA a cn qx R 0 ∧ a1 1 = rdA a cn qx R 1 ∧ a1 2 = rdA a cn qx R 2 ∧ a1 8 = rdA a cn qx R 8 ∧ ∀ j, (j = 5 ∨ j = 6 ∨ j = 7 ∨ j = 9 ∨ j = 10 ∨ j = 11 ∨ j = 12) → f1 j = rdF f cn qx R j := by
  obtain ⟨e1, e2, e3⟩ := rl_tx (B := a 8) (n := nb) 61 0 0 (a 18) (fun _ _ => 0) (fun k hk => absurd hk (Nat.not_lt_zero k))
  rw [← hT9, ← hqx] at e1 e2 e3
  by_cases hq : qx.1 = false
  · have ht : T9.1 = false := e1.trans hq
    rcases hz with ⟨-, hr, hf, ha⟩ | ⟨h, -⟩ | ⟨h, -⟩
    · rw [rdC, if_pos hq, rdA, if_pos hq, rdF, if_pos hq, hf, ha, e2]
      refine ⟨up_s _ _ _, fun h => absurd h (by decide), up_n (by decide), up_n (by decide), up_n (by decide), up_n (by decide), fun j hj => ?_⟩
      rcases hj with rfl | rfl | rfl | rfl | rfl | rfl | rfl <;> simp [va_up]
    · rw [ht] at h; cases h
    · rw [ht] at h; cases h
  · have hq1 : qx.1 = true := by simpa using hq
    obtain ⟨e4, e5⟩ := e3 hq1
    have hm30 : qx.2.2.1 ≤ 30 := by rw [hqx]; exact cTx_m n60 (by rw [← hqx]; exact hq1)
    have hv := cTx_v (B := a 8) (n := nb) 61 0 0 (fun _ _ => 0) (fun k hk => absurd hk (Nat.not_lt_zero k))
    rw [← hqx] at hv
    obtain ⟨c0, c1, c2⟩ := tRo_cRo (O := T9.2.2.2) (V := qx.2.2.2) (N := N) qx.2.2.1 0 (a 0) mn (fun k hk => e5 k (by omega)) (fun k hk => hv k (by omega)) hI (by omega)
    rw [← hR, ← e4] at c0 c1 c2
    have ht : T9.1 = true := e1.trans hq1
    have e116 : ∀ j, j < 116 → va_cpy (a 0) (a 3) 0 0 116 j = a 0 j := fun j hj => by
      rw [va_cpy, if_pos (by omega)]
      congr 1
      omega
    have hcode : R.1 = 0 ∨ R.1 = 1 ∨ (R.1 = 2 ∧ 0 < R.2.1) := by rw [hR]; exact cRo_code _ _ _ _
    rw [rdC, if_neg hq, rdA, if_neg hq, rdF, if_neg hq]
    rcases hcode with h0 | h0 | ⟨h0, hp⟩
    · obtain ⟨k1, k2⟩ := c0 h0
      rcases hz with ⟨h, -⟩ | ⟨-, -, hr, hf, x9, y9, z9, ha⟩ | ⟨-, h, -⟩
      · rw [ht] at h; cases h
      · rw [if_pos h0, if_pos h0, h0, hf, ha, ← e4, k2, tC1_co e116]
        refine ⟨by simp [va_up], fun _ => hr, by simp [va_up], by simp [va_up], by simp [va_up], by simp [va_up], fun j hj => ?_⟩
        rcases hj with rfl | rfl | rfl | rfl | rfl | rfl | rfl <;> simp [va_up, tC6_kCn, h7]
      · exact absurd k1 h
    · obtain ⟨⟨k1, k2⟩, k3⟩ := c1 h0
      rcases hz with ⟨h, -⟩ | ⟨-, h, -⟩ | ⟨-, -, hr, hf, x9, y9, z9, ha⟩
      · rw [ht] at h; cases h
      · exact absurd h k1
      · have n0 : ¬ R.1 = 0 := by rw [h0]; decide
        rw [if_neg k2] at hf
        have k4 : (oC (va_up (va_up (va_up (va_up (va_up (va_up f 17 (nI T9.2.1)) 19 (nI T9.2.2.1)) 10 (-1)) 9 0) 13 0) 7 1) ((tRo T9.2.2.2 T9.2.2.1 0 (a 0)).2.1, (tRo T9.2.2.2 T9.2.2.1 0 (a 0)).2.2.1, 0)) = va_up (va_up (va_up (va_up (va_up (va_up (va_up f 17 (nI T9.2.1)) 19 (nI T9.2.2.1)) 10 (-1)) 9 0) 13 0) 7 1) 13 (tRo T9.2.2.2 T9.2.2.1 0 (a 0)).2.1 := by unfold oC; rw [if_neg k1, if_pos k3]
        rw [if_neg n0, if_neg n0, if_pos h0, h0, hf, ha, k4]
        refine ⟨up_s _ _ _, fun h => absurd h (by decide), by simp [va_up], by simp [va_up], by simp [va_up], by simp [va_up], fun j hj => ?_⟩
        rcases hj with rfl | rfl | rfl | rfl | rfl | rfl | rfl <;> simp [va_up, h7]
    · obtain ⟨⟨k1, k2⟩, k3, k5⟩ := c2 h0
      rcases hz with ⟨h, -⟩ | ⟨-, h, -⟩ | ⟨-, -, hr, hf, x9, y9, z9, ha⟩
      · rw [ht] at h; cases h
      · exact absurd h k1
      · have n0 : ¬ R.1 = 0 := by rw [h0]; decide
        have n1 : ¬ R.1 = 1 := by rw [h0]; decide
        have n3 : ¬ (tRo T9.2.2.2 T9.2.2.1 0 (a 0)).2.2.1 = 0 := by rw [k3]; intro e; rw [e] at hp; exact absurd hp (by decide)
        rw [if_pos k2] at hf
        have k4 : (oC (va_up (va_up (va_up (va_up (va_up (va_up f 17 (nI T9.2.1)) 19 (nI T9.2.2.1)) 10 (-1)) 9 0) 13 0) 7 1) ((tRo T9.2.2.2 T9.2.2.1 0 (a 0)).2.1, (tRo T9.2.2.2 T9.2.2.1 0 (a 0)).2.2.1, 0)) = va_up (va_up (va_up (va_up (va_up (va_up (va_up (va_up (va_up (va_up f 17 (nI T9.2.1)) 19 (nI T9.2.2.1)) 10 (-1)) 9 0) 13 0) 7 1) 13 0) 11 R.2.1) 12 (-1)) 13 (tRo T9.2.2.2 T9.2.2.1 0 (a 0)).2.1 := by unfold oC; rw [if_neg k1, if_neg n3, k3]
        rw [if_neg n0, if_neg n0, if_neg n1, h0, hf, ha, k4, k5]
        refine ⟨up_s _ _ _, fun h => absurd h (by decide), by simp [va_up], by simp [va_up], by simp [va_up], by simp [va_up], fun j hj => ?_⟩
        rcases hj with rfl | rfl | rfl | rfl | rfl | rfl | rfl <;> simp [va_up, h7]
