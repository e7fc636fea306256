/-! LAW, 10: the last arms' arithmetic -/
set_option maxRecDepth 100000
theorem dc_self {x : UInt64} (h : vf_n64 x) : Op.cmpValue (FP.dcmp x x) .l = 0 := by
  have h1 : x.toNat % 9223372036854775808 ≤ 9218868437227405312 := by
    have h2 : x &&& 0x7fffffffffffffff ≤ 0x7ff0000000000000 := h
    rw [UInt64.le_iff_toNat_le, UInt64.toNat_and, show (0x7fffffffffffffff : UInt64).toNat = 2 ^ 63 - 1 from rfl, Nat.and_two_pow_sub_one_eq_mod, show (0x7ff0000000000000 : UInt64).toNat = 9218868437227405312 from rfl] at h2
    exact h2
  have e : FP.dcmp x x = some .eq := by
    show Jvm.FP.Core.order (Jvm.FP.Core.decode Jvm.FP.Core.b64 x.toNat) (Jvm.FP.Core.decode Jvm.FP.Core.b64 x.toNat) = some .eq
    cases hd : Jvm.FP.Core.decode Jvm.FP.Core.b64 x.toNat with
    | nan =>
      exfalso
      unfold Jvm.FP.Core.decode at hd
      split at hd
      · next e1 =>
        split at hd
        · cases hd
        · next e2 =>
          have e3 : x.toNat / 4503599627370496 % 2048 = 2047 := e1
          have e4 : ¬ x.toNat % 4503599627370496 = 0 := e2
          omega
      · split at hd <;> cases hd
    | inf s => cases s <;> rfl
    | fin s c q =>
      show some (compare _ _) = some Ordering.eq
      congr 1
      simp [compare, compareOfLessAndEq]
  rw [e]
  rfl
theorem coS_sv {E : gE} {w : wd} {x N mn cn nb d b : Nat} {f : Nat → Int32} {a : Nat → Nat → Int32} {A1 A2 A3 I mk : Nat → Nat} {wn ly u2 wb2 lb2 wb3 lb3 : Nat → Int32} {m2 : Nat} {f1 : Nat → Int32} {a1 : Nat → Nat → Int32} (hf : f1 = va_up (va_up f 13 0) 5 1) (ha : a1 = va_up a 2 (va_cpy (a 0) (a 2) 0 0 116))
    (hX : w x = some ((94, 0), .inr (1, [.ref (A1 0), .ref (A2 0), .ref (A3 0), .int 1, .ref d, .ref b, .int (f 10), .int (f 11), .int (f 12)]))) (hM : townR E w 1 A1 (a 0) mn wn ly) (hI : gI (a 0) mn N) (hM2 : townR E w 2 A2 u2 m2 wb2 lb2)
    (hM3 : townR E w 3 A3 (a 0) mn wb3 lb3) (hK : kpR E w d cn I (kRw a) mk) (hKI : ∀ j, j < cn → gI (kRw a j) (mk j) N) (hSB : sbR E w b (a 8) nb) (hcB : cB (a 8) nb)
    (h9 : f 9 = nI nb) (h6 : f 6 = nI cn) (h7 : f 7 = 0) (h11 : 0 ≤ f 11) : coS E w x N f1 a1 mn cn nb := by
  have ek : kRw a1 = kRw a := by unfold kRw; rw [ha, up_n (by decide)]
  have e0 : a1 0 = a 0 := by rw [ha, up_n (by decide)]
  refine ⟨A1, A2, A3, d, b, wn, ly, I, mk, by rw [hf]; simpa [va_up] using hX, by rw [e0]; exact ⟨hM, hI⟩, ⟨u2, m2, wb2, lb2, hM2⟩, ⟨a 0, mn, wb3, lb3, hM3, Or.inr ⟨by rw [hf, up_s], fun j hj => ?_, hI⟩⟩, by rw [ek]; exact ⟨hK, hKI⟩, by rw [ha, up_n (by decide)]; exact ⟨hSB, hcB⟩, by rw [hf]; simpa [va_up] using ⟨h9, h6, h7, h11⟩⟩
  rw [ha, up_s, va_cpy, if_pos (by omega)]
  congr 1
  omega
