/-! LAW, 6: what undo, restore, append and read leave -/
set_option maxRecDepth 100000
theorem fl_f2d {x : UInt32} (h : vf_n32 x) : vf_n64 (FP.f2d x) := by
  have hsz : Jvm.FP.Core.b64.exps * Jvm.FP.Core.b64.tails = 9223372036854775808 := by decide
  have hin : (Jvm.FP.Core.b64.exps - 1) * Jvm.FP.Core.b64.tails = 9218868437227405312 := by decide
  have h1 : x.toNat % 2147483648 ≤ 2139095040 := by
    have h2 : x &&& 0x7fffffff ≤ 0x7f800000 := h
    rw [UInt32.le_iff_toNat_le, UInt32.toNat_and, show (0x7fffffff : UInt32).toNat = 2 ^ 31 - 1 from rfl, Nat.and_two_pow_sub_one_eq_mod, show (0x7f800000 : UInt32).toNat = 2139095040 from rfl] at h2
    exact h2
  have key : ∃ (s3 : Bool) (m : Nat), m ≤ 9218868437227405312 ∧ Jvm.FP.Core.convert Jvm.FP.Core.b32 Jvm.FP.Core.b64 x.toNat = s3.toNat * 9223372036854775808 + m ∧ Jvm.FP.Core.fIsNaN x = false := by
    unfold Jvm.FP.Core.convert Jvm.FP.Core.fIsNaN Jvm.FP.Core.isNaN
    cases hd : Jvm.FP.Core.decode Jvm.FP.Core.b32 x.toNat with
    | nan =>
      exfalso
      unfold Jvm.FP.Core.decode at hd
      split at hd
      · next e1 =>
        split at hd
        · cases hd
        · next e2 =>
          have e3 : x.toNat / 8388608 % 256 = 255 := e1
          have e4 : ¬ x.toNat % 8388608 = 0 := e2
          omega
      · split at hd <;> cases hd
    | inf s => exact ⟨s, 9218868437227405312, Nat.le_refl _, by
        show (s.toNat * Jvm.FP.Core.b64.exps + (Jvm.FP.Core.b64.exps - 1)) * Jvm.FP.Core.b64.tails + 0 = _
        rw [Nat.add_mul, Nat.mul_assoc, hsz, hin], by simp⟩
    | fin s c q =>
      obtain ⟨s3, m, hm, em⟩ := fl_enc (f := Jvm.FP.Core.b64) (s := s) (num := c) (den := 1) (e := q) (by decide) (by decide) (by decide)
      rw [hsz] at em
      rw [hin] at hm
      exact ⟨s3, m, hm, em, by simp⟩
  obtain ⟨s3, m, hm, em, en⟩ := key
  have hr : FP.f2d x = UInt64.ofNat (s3.toNat * 9223372036854775808 + m) := by
    show (if Jvm.FP.Core.fIsNaN x = true then _ else UInt64.ofNat (Jvm.FP.Core.convert Jvm.FP.Core.b32 Jvm.FP.Core.b64 x.toNat)) = _
    rw [en, if_neg (by decide), em]
  rw [hr]
  show UInt64.ofNat (s3.toNat * 9223372036854775808 + m) &&& 0x7fffffffffffffff ≤ 0x7ff0000000000000
  have hb : s3.toNat ≤ 1 := Bool.toNat_le s3
  rw [UInt64.le_iff_toNat_le, UInt64.toNat_and, show (0x7fffffffffffffff : UInt64).toNat = 2 ^ 63 - 1 from rfl, Nat.and_two_pow_sub_one_eq_mod, show (0x7ff0000000000000 : UInt64).toNat = 9218868437227405312 from rfl, UInt64.toNat_ofNat_of_lt' (by show _ < 18446744073709551616; omega)]
  omega
def uF (f : Nat → Int32) (cn : Nat) : Nat → Int32 := if cn = 0 then va_up f 13 1 else va_up (va_up f 13 0) 6 (nI (cn - 1))
def uA (a : Nat → Nat → Int32) (cn : Nat) : Nat → Nat → Int32 := if cn = 0 then a else va_up a 0 (va_cpy (a 1) (a 0) (116 * (cn - 1)) 0 116)
def rF (f : Nat → Int32) : Nat → Int32 := if f 5 = 0 then va_up f 13 1 else va_up (va_up f 13 0) 6 0
def rA (f : Nat → Int32) (a : Nat → Nat → Int32) : Nat → Nat → Int32 := if f 5 = 0 then a else va_up a 0 (va_cpy (a 2) (a 0) 0 0 116)
def pF (f : Nat → Int32) (nb : Nat) : Nat → Int32 := if nb = 60 then va_up f 13 1 else va_up (va_up f 13 0) 9 (nI (nb + 1))
def pA (a : Nat → Nat → Int32) (nb : Nat) (x : Int32) : Nat → Nat → Int32 := if nb = 60 then a else va_up a 8 (va_up (a 8) nb x)
section
variable {E : gE} {w : wd} {x N mn cn nb d b : Nat} {f : Nat → Int32} {a : Nat → Nat → Int32} {A1 A2 A3 I mk : Nat → Nat} {wn ly u2 wb2 lb2 u3 wb3 lb3 : Nat → Int32} {m2 m3 : Nat}
theorem coS_un (h0 : 0 < cn) (hX : w x = some ((94, 0), .inr (1, [.ref (A1 0), .ref (A2 0), .ref (A3 0), .int (f 5), .ref d, .ref b, .int (f 10), .int (f 11), .int (f 12)]))) (hM : townR E w 1 A1 (kRw a (cn - 1)) (mk (cn - 1)) wn ly) (hM2 : townR E w 2 A2 u2 m2 wb2 lb2)
    (hM3 : townR E w 3 A3 u3 m3 wb3 lb3) (hs3 : f 5 = 0 ∨ (f 5 = 1 ∧ (∀ j, j < 116 → a 2 j = u3 j) ∧ gI u3 m3 N)) (hK : kpR E w d (cn - 1) I (kRw a) mk) (hKI : ∀ j, j < cn → gI (kRw a j) (mk j) N) (hSB : sbR E w b (a 8) nb) (hcB : cB (a 8) nb)
    (h9 : f 9 = nI nb) (h7 : f 7 = 0) (h11 : 0 ≤ f 11) : coS E w x N (uF f cn) (uA a cn) (mk (cn - 1)) (cn - 1) nb := by
  have e1 : uA a cn = va_up a 0 (va_cpy (a 1) (a 0) (116 * (cn - 1)) 0 116) := if_neg (by omega)
  have e2 : uF f cn = va_up (va_up f 13 0) 6 (nI (cn - 1)) := if_neg (by omega)
  have ek : kRw (uA a cn) = kRw a := by unfold kRw; rw [e1, up_n (by decide)]
  have e0 : ∀ j, j < 116 → uA a cn 0 j = kRw a (cn - 1) j := fun j hj => by
    rw [e1, up_s, va_cpy, if_pos (by omega)]
    rfl
  refine ⟨A1, A2, A3, d, b, wn, ly, I, mk, by rw [e2]; simpa [va_up] using hX, ⟨hM.co e0, (hKI _ (by omega)).co e0⟩, ⟨u2, m2, wb2, lb2, hM2⟩, ⟨u3, m3, wb3, lb3, hM3, by rw [e1, e2]; simpa [va_up] using hs3⟩, ⟨by rw [ek]; exact hK, fun j hj => by rw [ek]; exact hKI j (by omega)⟩, by rw [e1]; simpa [va_up] using ⟨hSB, hcB⟩, by rw [e2]; simpa [va_up] using ⟨h9, h7, h11⟩⟩
theorem coS_re (h5 : f 5 = 1) (hX : w x = some ((94, 0), .inr (1, [.ref (A1 0), .ref (A2 0), .ref (A3 0), .int (f 5), .ref d, .ref b, .int (f 10), .int (f 11), .int (f 12)]))) (hM : townR E w 1 A1 u3 m3 wn ly) (hM2 : townR E w 2 A2 u2 m2 wb2 lb2)
    (hM3 : townR E w 3 A3 u3 m3 wb3 lb3) (hs3 : f 5 = 0 ∨ (f 5 = 1 ∧ (∀ j, j < 116 → a 2 j = u3 j) ∧ gI u3 m3 N)) (hK : kpR E w d 0 I (kRw a) mk) (hSB : sbR E w b (a 8) nb) (hcB : cB (a 8) nb)
    (h9 : f 9 = nI nb) (h7 : f 7 = 0) (h11 : 0 ≤ f 11) : coS E w x N (rF f) (rA f a) m3 0 nb := by
  have h50 : ¬ f 5 = 0 := by rw [h5]; decide
  obtain ⟨h51, h52, h53⟩ := hs3.resolve_left h50
  have e1 : rA f a = va_up a 0 (va_cpy (a 2) (a 0) 0 0 116) := if_neg h50
  have e2 : rF f = va_up (va_up f 13 0) 6 0 := if_neg h50
  have ek : kRw (rA f a) = kRw a := by unfold kRw; rw [e1, up_n (by decide)]
  have e0 : ∀ j, j < 116 → rA f a 0 j = u3 j := fun j hj => by
    rw [e1, up_s, va_cpy, if_pos (by omega), ← h52 j hj]
    congr 1
    omega
  refine ⟨A1, A2, A3, d, b, wn, ly, I, mk, by rw [e2]; simpa [va_up] using hX, ⟨hM.co e0, h53.co e0⟩, ⟨u2, m2, wb2, lb2, hM2⟩, ⟨u3, m3, wb3, lb3, hM3, by rw [e1, e2]; simpa [va_up] using hs3⟩, ⟨by rw [ek]; exact hK, fun j hj => absurd hj (Nat.not_lt_zero j)⟩, by rw [e1]; simpa [va_up] using ⟨hSB, hcB⟩, by rw [e2, up_n (by decide), up_n (by decide)]; exact h9, by rw [e2, up_s]; rfl, by rw [e2, up_n (by decide), up_n (by decide)]; exact h7, by rw [e2, up_n (by decide), up_n (by decide)]; exact h11⟩
theorem coS_ap {k : Nat} (hk : k < 65536) (hn : nb < 60) (hX : w x = some ((94, 0), .inr (1, [.ref (A1 0), .ref (A2 0), .ref (A3 0), .int (f 5), .ref d, .ref b, .int (f 10), .int (f 11), .int (f 12)]))) (hM : townR E w 1 A1 (a 0) mn wn ly) (hI : gI (a 0) mn N) (hM2 : townR E w 2 A2 u2 m2 wb2 lb2)
    (hM3 : townR E w 3 A3 u3 m3 wb3 lb3) (hs3 : f 5 = 0 ∨ (f 5 = 1 ∧ (∀ j, j < 116 → a 2 j = u3 j) ∧ gI u3 m3 N)) (hK : kpR E w d cn I (kRw a) mk) (hKI : ∀ j, j < cn → gI (kRw a j) (mk j) N) (hSB : sbR E w b (va_up (a 8) nb (nI k)) (nb + 1)) (hcB : cB (a 8) nb)
    (h6 : f 6 = nI cn) (h7 : f 7 = 0) (h11 : 0 ≤ f 11) : coS E w x N (pF f nb) (pA a nb (nI k)) mn cn (nb + 1) := by
  have e1 : pA a nb (nI k) = va_up a 8 (va_up (a 8) nb (nI k)) := if_neg (by omega)
  have e2 : pF f nb = va_up (va_up f 13 0) 9 (nI (nb + 1)) := if_neg (by omega)
  have ek : kRw (pA a nb (nI k)) = kRw a := by unfold kRw; rw [e1, up_n (by decide)]
  have e0 : pA a nb (nI k) 0 = a 0 := by rw [e1, up_n (by decide)]
  refine ⟨A1, A2, A3, d, b, wn, ly, I, mk, by rw [e2]; simpa [va_up] using hX, by rw [e0]; exact ⟨hM, hI⟩, ⟨u2, m2, wb2, lb2, hM2⟩, ⟨u3, m3, wb3, lb3, hM3, by rw [e1, e2]; simpa [va_up] using hs3⟩, by rw [ek]; exact ⟨hK, hKI⟩, ⟨by rw [e1, up_s]; exact hSB, fun j hj => ?_⟩, by rw [e2]; simpa [va_up] using ⟨h6, h7, h11⟩⟩
  rw [e1, up_s]
  by_cases e : j = nb
  · exact ⟨k, hk, by rw [e, up_s]⟩
  · rw [up_n e]
    exact hcB j (by omega)
end
/-- cutIn, bestSpeed: only the reason is kept -/
theorem coS_c0 {E : gE} {w : wd} {x N mn cn nb : Nat} {f : Nat → Int32} {a : Nat → Nat → Int32} {Q : Int32 × Int32 × Int32} (h : coS E w x N f a mn cn nb) (h1 : Q.1 = 0 ∨ Q.2.1 = 0) : coS E w x N (oC f Q) a mn cn nb := by
  refine h.co rfl rfl rfl rfl (fun j hj => ?_)
  unfold oC
  split
  · exact up_n (by omega)
  · next c => rw [if_pos (h1.resolve_left c)]; exact up_n (by omega)
theorem coS_cs {E : gE} {w w1 : wd} {x N mn cn nb : Nat} {f : Nat → Int32} {a : Nat → Nat → Int32} {Q : Int32 × Int32 × Int32} (h : coS E w x N f a mn cn nb) (h1 : ¬ Q.1 = 0) (h2 : 0 < Q.2.1) (hf : fr (pO (94, 0)) w w1)
    (hX : ∀ A1 A2 A3 d b, w x = some ((94, 0), .inr (1, [.ref A1, .ref A2, .ref A3, .int (f 5), .ref d, .ref b, .int (f 10), .int (f 11), .int (f 12)])) → w1 x = some ((94, 0), .inr (1, [.ref A1, .ref A2, .ref A3, .int (f 5), .ref d, .ref b, .int (f 10), .int Q.2.1, .int (-1)]))) : coS E w1 x N (oC f Q) a mn cn nb := by
  have h9 := coS_su (Q := (Q.1, Q.2.1, 0, a 0)) h h1 h2 hf hX
  have e1 : oF f cn (Q.1, Q.2.1, 0, a 0) = oC f Q := by unfold oF oC; rw [if_neg h1, if_neg h1]
  have e2 : oA f a cn (Q.1, Q.2.1, 0, a 0) = a := by unfold oA; rw [if_neg h1]
  rw [e1, e2] at h9
  exact h9
theorem cRo_gI {V : Nat → Nat → Int32} {N : Nat} : ∀ (q i : Nat) (g : Nat → Int32) (mn : Nat), (∀ k, k < i + q → vOK (V k)) → gI g mn (N + 2130 * i) → N + 2130 * (i + q) + 2201 < 2 ^ 31 → (cRo V q i g mn).1 = 0 → gI (cRo V q i g mn).2.2.2.1 (cRo V q i g mn).2.2.2.2 (N + 2130 * (i + q))
  | 0, i, g, mn, _, hI, _, _ => hI
  | q + 1, i, g, mn, hv, hI, hN, h0 => by
    unfold cRo at h0 ⊢
    by_cases h1 : cMB g (V i) = true
    · rw [if_pos h1] at h0 ⊢
      by_cases h2 : cRs g mn (V i) ≤ 0
      · rw [if_pos h2] at h0 ⊢
        have h3 := cRo_gI (N := N) q (i + 1) (cDo g mn (V i)) (cDm mn (V i)) (fun k hk => hv k (by omega)) (gI_mono (gI_do (N := N + 2130 * i) hI h1 h2 (hv i (by omega)) (by omega)) (by omega)) (by omega) h0
        rw [show i + (q + 1) = i + 1 + q from by omega]
        exact h3
      · rw [if_neg h2] at h0
        simp at h0
    · rw [if_neg h1] at h0
      simp at h0
theorem cTx_m {B : Nat → Int32} {n : Nat} (hn : n ≤ 60) (h : (cTx B n 61 0 0 (fun _ _ => 0)).1 = true) : (cTx B n 61 0 0 (fun _ _ => 0)).2.2.1 ≤ 30 := by
  obtain ⟨h1, -, h3⟩ := rl_tx (B := B) (n := n) 61 0 0 (fun _ => 0) (fun _ _ => 0) (fun k hk => absurd hk (Nat.not_lt_zero k))
  rw [← (h3 h).1]
  exact pTx_t hn 61 0 0 _ (Nat.zero_le _) (Nat.le_refl _) (h1.trans h)
section KXW
variable {p : Program} {l : Launch} {e : Env} {R : Room} {s : State} {m : MethodId} {args : Array Value} {below : List Frame} {meth : Method} {c : Code} {H : Heap} {locs : List Loc} {cells slots : Nat} {Q : State → Prop}
variable {cc : ByteArray} {pc : Nat} {ls : Array Slot} {rest st0 : List Value} {a : Nat} {E : gE} {w : wd} {τ : Nat × Nat}
theorem kx_cVGW {ρ : Type} {mk : ρ → Option Value} {post : ρ → wd → Prop} {py : String → Nat → wd → Prop} {own C : String} {T : u_T} {N ci index n nL mc ms maxL : Nat} {y : MethodName} {ws : List Cond} {rm : Room} {bytes : ByteArray} {ret : Option FieldType} {hh : List (Nat × Nat × Nat × Nat)} {As : List Value} {fs : List Value} (hx : p.tables.exec = Jvm.exec) (hb : c.code = cc) (hml : c.maxLocals = nL) (hown : s.vm.findClass own = some m.cls) (hts : ∀ w ∈ lw_all, w.before args s = true)
    (hMt : kX l y ws rm mc ms mk E w (.ref a :: As) post py) (cw : vx_CVW R s args own C index y bytes maxL ret hh ws rm mc ms n) (hG : gK E s) (hP : wP E w H) (hS : va_S (gA E) s.heap H locs) (hrv : w a = some (τ, .inr (ci, fs))) (hc : gCl[ci]? = some (C, T, N)) (hn : As.length = n) (hsize : ls.size = nL) (hst : st0 = As.reverse ++ .ref a :: rest) (hW : 2 * (F0 m pc ls st0).monitorRoom + (rest.map fun v => v.category).sum ≤ 8) (hdg : decode cc pc = .ok (.invokevirtual index, 3)) (hf : cells + mc ≤ R.cells ∧ slots + ms ≤ R.slots)
    (kx : ∀ (X : String) (ce : Cell) (q : Nat) (w' : wd) (H1 : Heap) (locs1 : List Loc), py X q w' → wP E w' H1 → va_S (gA E) s.heap H1 locs1 → H1[q]? = some ce → ce.vm = .none → s.vm.findClass X = some ce.cls → vx_W p l e R s m args below meth c H1 locs1 (cells + mc) (slots + ms) Q (F0 m pc ls rest) q)
    (kk : ∀ (r : ρ) (w' : wd) (H1 : Heap) (locs1 : List Loc), post r w' → wP E w' H1 → va_S (gA E) s.heap H1 locs1 → W p l e R s m args below meth c H1 locs1 (cells + mc) (slots + ms) Q (F0 m (pc + 3) ls ((mk r).toList ++ rest))) : W p l e R s m args below meth c H locs cells slots Q (F0 m pc ls st0) :=
  kx_callG (vx_runVX (g := F0 m pc ls st0) ⟨hx, hb, hml, hown, hts⟩ hMt cw (k_preV hG hP hS hrv hc) rfl hn hsize hst hW hdg hf) hS kx kk
end KXW
theorem qCin_z {g : Nat → Int32} {mn : Nat} {x y : Int32} (h : (qCin g mn x y).1 = 1 ∨ (qCin g mn x y).1 = 2) : (qCin g mn x y).2.1 = 0 := by
  revert h
  unfold qCin
  repeat' split
  all_goals first | exact fun _ => rfl | exact fun h => by simp at h
theorem qBsp_z {g : Nat → Int32} {mn : Nat} {x y : Int32} (h : (qBsp g mn x y).1 = 1 ∨ (qBsp g mn x y).1 = 2) : (qBsp g mn x y).2.1 = 0 := by
  revert h
  unfold qBsp
  repeat' split
  all_goals first | exact fun _ => rfl | exact fun h => by simp at h
/-- what 'read' leaves of the twin's scalars and rows -/
def rdF (f : Nat → Int32) (cn : Nat) (qx : qT) (R : qR) : Nat → Int32 :=
  if qx.1 = false then va_up (va_up f 10 (nI qx.2.1)) 9 0 else if R.1 = 0 then va_up (va_up (va_up f 10 (-1)) 9 0) 6 (nI (kCn cn)) else if R.1 = 1 then va_up (va_up f 10 (-1)) 9 0 else va_up (va_up (va_up (va_up f 10 (-1)) 9 0) 11 R.2.1) 12 R.2.2.1
def rdA (a : Nat → Nat → Int32) (cn : Nat) (qx : qT) (R : qR) : Nat → Nat → Int32 := if qx.1 = false then a else if R.1 = 0 then va_up (va_up a 1 (tC1 0 (a 1) (a 0) cn)) 0 R.2.2.2.1 else a
def rdC (qx : qT) (R : qR) : Int32 := if qx.1 = false then 1 else R.1
theorem cRo_code {V : Nat → Nat → Int32} : ∀ (q i : Nat) (g : Nat → Int32) (mn : Nat), (cRo V q i g mn).1 = 0 ∨ (cRo V q i g mn).1 = 1 ∨ ((cRo V q i g mn).1 = 2 ∧ 0 < (cRo V q i g mn).2.1)
  | 0, i, g, mn => Or.inl rfl
  | q + 1, i, g, mn => by
    unfold cRo
    split
    · split
      · exact cRo_code q _ _ _
      · next h => exact Or.inr (Or.inr ⟨rfl, Int32.not_le.mp h⟩)
    · exact Or.inr (Or.inl rfl)
section
variable {E : gE} {w : wd} {x N M mn cn nb d b : Nat} {f : Nat → Int32} {a : Nat → Nat → Int32} {A1 A2 A3 I mk : Nat → Nat} {wn ly u2 wb2 lb2 u3 wb3 lb3 : Nat → Int32} {m2 m3 : Nat} {qx : qT} {R : qR}
theorem coS_rn {X : String} {t r o : Int32} (hR : R.1 = 0 ∨ R.1 = 1 ∨ (R.1 = 2 ∧ 0 < R.2.1)) (hq : qRf9 qx R (f 10) (f 11) (f 12) X t r o) (hX : w x = some ((94, 0), .inr (1, [.ref (A1 0), .ref (A2 0), .ref (A3 0), .int (f 5), .ref d, .ref b, .int t, .int r, .int o]))) (hM : townR E w 1 A1 (a 0) mn wn ly) (hI : gI (a 0) mn N) (hM2 : ∃ u2 m2 wb2 lb2, townR E w 2 A2 u2 m2 wb2 lb2)
    (hM3 : townR E w 3 A3 u3 m3 wb3 lb3) (hs3 : f 5 = 0 ∨ (f 5 = 1 ∧ (∀ j, j < 116 → a 2 j = u3 j) ∧ gI u3 m3 N)) (hK : kpR E w d cn I (kRw a) mk) (hKI : ∀ j, j < cn → gI (kRw a j) (mk j) N) (hSB : sbR E w b (a 8) 0)
    (h6 : f 6 = nI cn) (h7 : f 7 = 0) (h11 : 0 ≤ f 11) : coS E w x N (rdF f cn qx R) (rdA a cn qx R) mn cn 0 ∧ ((rdC qx R = 1 ∧ X = nIA) ∨ (rdC qx R = 2 ∧ X = nUO)) := by
  have hcB : cB (a 8) 0 := fun j hj => absurd hj (Nat.not_lt_zero j)
  have fin : ∀ f1 : Nat → Int32, f1 5 = f 5 → f1 10 = t → f1 11 = r → f1 12 = o → f1 9 = nI 0 → f1 6 = nI cn → f1 7 = 0 → 0 ≤ f1 11 → coS E w x N f1 a mn cn 0 := fun f1 k5 k10 k11 k12 k9 k6 k7 kk =>
    ⟨A1, A2, A3, d, b, wn, ly, I, mk, by rw [k5, k10, k11, k12]; exact hX, ⟨hM, hI⟩, hM2, ⟨u3, m3, wb3, lb3, hM3, by rw [k5]; exact hs3⟩, ⟨hK, hKI⟩, ⟨hSB, hcB⟩, k9, k6, k7, kk⟩
  rcases hq with ⟨q1, q2, q3, q4, q5⟩ | ⟨q1, q6, q2, q3, q4, q5⟩ | ⟨q1, q6, q2, q3, q4, q5⟩
  · rw [rdF, if_pos q1, rdA, if_pos q1, rdC, if_pos q1]
    exact ⟨fin _ (by simp [va_up]) (by simp [va_up, q3]) (by simp [va_up, q4]) (by simp [va_up, q5]) (by simp [va_up]; rfl) (by simp [va_up, h6]) (by simp [va_up, h7]) (by simp [va_up, h11]), Or.inl ⟨rfl, q2⟩⟩
  · have q0 : ¬ qx.1 = false := by rw [q1]; decide
    have q7 : ¬ R.1 = 0 := by rw [q6]; decide
    rw [rdF, if_neg q0, if_neg q7, if_pos q6, rdA, if_neg q0, if_neg q7, rdC, if_neg q0]
    exact ⟨fin _ (by simp [va_up]) (by simp [va_up, q3]) (by simp [va_up, q4]) (by simp [va_up, q5]) (by simp [va_up]; rfl) (by simp [va_up, h6]) (by simp [va_up, h7]) (by simp [va_up, h11]), Or.inl ⟨q6, q2⟩⟩
  · have q0 : ¬ qx.1 = false := by rw [q1]; decide
    have q7 : ¬ R.1 = 0 := by rw [q6]; decide
    have q8 : ¬ R.1 = 1 := by rw [q6]; decide
    have q9 : 0 < R.2.1 := by
      rcases hR with h | h | h
      · exact absurd h q7
      · exact absurd h q8
      · exact h.2
    rw [rdF, if_neg q0, if_neg q7, if_neg q8, rdA, if_neg q0, if_neg q7, rdC, if_neg q0]
    exact ⟨fin _ (by simp [va_up]) (by simp [va_up, q3]) (by simp [va_up, q4]) (by simp [va_up, q5]) (by simp [va_up]; rfl) (by simp [va_up, h6]) (by simp [va_up, h7]) (by simp [va_up, Int32.le_of_lt q9]), Or.inr ⟨q6, q2⟩⟩
theorem coS_ro (h1 : qx.1 = true) (h2 : R.1 = 0) (hN : N ≤ M) (hX : w x = some ((94, 0), .inr (1, [.ref (A1 0), .ref (A2 0), .ref (A3 0), .int (f 5), .ref d, .ref b, .int (-1), .int (f 11), .int (f 12)]))) (hM : townR E w 1 A1 R.2.2.2.1 R.2.2.2.2 wn ly) (hI : gI R.2.2.2.1 R.2.2.2.2 M) (hI0 : gI (a 0) mn N) (hM2 : townR E w 2 A2 u2 m2 wb2 lb2)
    (hM3 : townR E w 3 A3 u3 m3 wb3 lb3) (hs3 : f 5 = 0 ∨ (f 5 = 1 ∧ (∀ j, j < 116 → a 2 j = u3 j) ∧ gI u3 m3 N)) (hc : cn ≤ 8) (hK : kpR E w d (kCn cn) I (kSh cn (kRw a) (a 0)) (kSh cn mk mn)) (hKI : ∀ j, j < cn → gI (kRw a j) (mk j) N) (hSB : sbR E w b (a 8) 0)
    (h7 : f 7 = 0) (h11 : 0 ≤ f 11) : coS E w x M (rdF f cn qx R) (rdA a cn qx R) R.2.2.2.2 (kCn cn) 0 := by
  have q0 : ¬ qx.1 = false := by rw [h1]; decide
  have h9 := coS_ok (Q := (0, 0, 0, R.2.2.2.1)) (m9 := R.2.2.2.2) (f := va_up (va_up f 10 (-1)) 9 0) (a := a) (nb := 0) (wn := wn) (ly := ly) rfl hN (by simpa [va_up] using hX) hM hI hI0 hM2 hM3 (by simpa [va_up] using hs3) hc hK hKI hSB (fun j hj => absurd hj (Nat.not_lt_zero j)) (by simp [va_up]; rfl) (by simp [va_up, h7]) (by simp [va_up, h11])
  rw [rdF, if_neg q0, if_pos h2, rdA, if_neg q0, if_pos h2]
  refine h9.co ?_ ?_ ?_ ?_ (fun j hj => ?_)
  · simp [oA, va_up]
  · simp [oA, va_up, h7]
  · simp [oA, va_up]
  · simp [oA, va_up]
  · rcases hj with rfl | rfl | rfl | rfl | rfl | rfl | rfl <;> simp [oF, va_up, h7, tC6_kCn]
end
