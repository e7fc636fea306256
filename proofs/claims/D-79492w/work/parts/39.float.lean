/-! FLOATS: quotients of whole numbers are numbers -/
set_option maxRecDepth 100000
theorem fl_asm_T {f : Jvm.FP.Core.Fmt} {s : Bool} {e t : Nat} (ht : t < f.tails) : Jvm.FP.Core.fieldT f (Jvm.FP.Core.assemble f s e t) = t := by
  unfold Jvm.FP.Core.fieldT Jvm.FP.Core.assemble
  rw [Nat.mul_comm, Nat.mul_add_mod, Nat.mod_eq_of_lt ht]
theorem fl_asm_E {f : Jvm.FP.Core.Fmt} {s : Bool} {e t : Nat} (ht : t < f.tails) (he : e < f.exps) : Jvm.FP.Core.fieldE f (Jvm.FP.Core.assemble f s e t) = e := by
  unfold Jvm.FP.Core.fieldE Jvm.FP.Core.assemble
  rw [Nat.mul_comm, Nat.mul_add_div (by omega), Nat.div_eq_of_lt ht, Nat.add_zero, Nat.mul_comm, Nat.mul_add_mod, Nat.mod_eq_of_lt he]
theorem fl_asm_le {f : Jvm.FP.Core.Fmt} {s : Bool} {e t : Nat} (ht : t < f.tails) (he : e + 1 < f.exps) : ∃ m, m ≤ (f.exps - 1) * f.tails ∧ Jvm.FP.Core.assemble f s e t = s.toNat * (f.exps * f.tails) + m := by
  refine ⟨e * f.tails + t, ?_, ?_⟩
  · have h1 : (e + 1) * f.tails ≤ (f.exps - 1) * f.tails := Nat.mul_le_mul_right _ (by omega)
    rw [Nat.add_mul, Nat.one_mul] at h1
    omega
  · unfold Jvm.FP.Core.assemble
    rw [Nat.add_mul, Nat.mul_assoc, Nat.add_assoc]
theorem fl_dec {f : Jvm.FP.Core.Fmt} {s : Bool} {e t : Nat} (ht : t < f.tails) (he : e + 1 < f.exps) : ∃ s1 c1 q1, Jvm.FP.Core.decode f (Jvm.FP.Core.assemble f s e t) = .fin s1 c1 q1 ∧ ((e ≠ 0 ∨ t ≠ 0) → c1 ≠ 0) := by
  unfold Jvm.FP.Core.decode
  rw [fl_asm_E ht (by omega), fl_asm_T ht, if_neg (by omega)]
  by_cases h : e = 0
  · rw [if_pos h]
    exact ⟨_, _, _, rfl, fun z => by omega⟩
  · rw [if_neg h]
    exact ⟨_, _, _, rfl, fun _ => by omega⟩
theorem fl_log {c : Nat} (h : c ≠ 0) : 2 ^ c.log2 ≤ c ∧ c < 2 ^ (c.log2 + 1) := ⟨Nat.log2_self_le h, Nat.lt_log2_self⟩
theorem fl_int {f : Jvm.FP.Core.Fmt} {s : Bool} {c : Nat} (hp : 1 ≤ f.p) (h0 : c ≠ 0) (hc : c < 2 ^ f.p) (h1 : f.qmin ≤ 1 - (f.p : Int)) (h2 : 0 ≤ f.qmax) : Jvm.FP.Core.roundRatio f s c 1 0 = .fin s (c * 2 ^ (f.p - 1 - c.log2)) ((c.log2 : Int) - ((f.p : Int) - 1)) := by
  obtain ⟨l1, l2⟩ := fl_log h0
  have l3 : c.log2 < f.p := (Nat.pow_lt_pow_iff_right (by decide : 1 < 2)).mp (Nat.lt_of_le_of_lt l1 hc)
  have hlead : Jvm.FP.Core.leading c 1 = (c.log2 : Int) := by
    unfold Jvm.FP.Core.leading
    rw [show (1 : Nat).log2 = 0 from by decide]
    dsimp only
    rw [show ((c.log2 : Int) - ((0 : Nat) : Int)) = (c.log2 : Int) from by omega, show (-(c.log2 : Int)).toNat = 0 from by omega, show ((c.log2 : Int)).toNat = c.log2 from by omega, if_pos (by rw [Nat.one_mul, Nat.pow_zero, Nat.mul_one]; exact l1)]
  have hq : Jvm.FP.Core.quantum f c 1 0 = (c.log2 : Int) - ((f.p : Int) - 1) := by
    unfold Jvm.FP.Core.quantum
    rw [hlead]
    omega
  have hlt : c * 2 ^ (f.p - 1 - c.log2) < 2 ^ f.p := by
    have := Nat.mul_lt_mul_of_pos_right l2 (Nat.two_pow_pos (f.p - 1 - c.log2))
    rw [← Nat.pow_add, show c.log2 + 1 + (f.p - 1 - c.log2) = f.p from by omega] at this
    exact this
  unfold Jvm.FP.Core.roundRatio
  rw [if_neg h0, hq]
  unfold Jvm.FP.Core.roundAt Jvm.FP.Core.unitsNum Jvm.FP.Core.unitsDen
  rw [show (0 - ((c.log2 : Int) - ((f.p : Int) - 1))).toNat = f.p - 1 - c.log2 from by omega, show ((c.log2 : Int) - ((f.p : Int) - 1) - 0).toNat = 0 from by omega, Nat.pow_zero, Nat.one_mul]
  unfold Jvm.FP.Core.nearest
  rw [Nat.mod_one, if_pos (by decide), Nat.div_one]
  unfold Jvm.FP.Core.settle
  rw [if_pos hlt]
  unfold Jvm.FP.Core.bound
  rw [if_pos (by omega)]
/-- a whole number laid out and read back is finite, and isn't zero but for zero -/
theorem fl_back {f : Jvm.FP.Core.Fmt} {i : Int} (hp : 2 ≤ f.p) (hw : 3 ≤ f.exps) (hc : i.natAbs < 2 ^ f.p) (h1 : f.qmin ≤ 1 - (f.p : Int)) (h2 : 0 ≤ f.qmax) (h3 : f.qmax - f.qmin + 3 = (f.exps : Int)) : Jvm.FP.Core.fromInt f i < 2 * (f.exps * f.tails) ∧ ∃ s1 c1 q1, Jvm.FP.Core.decode f (Jvm.FP.Core.fromInt f i) = .fin s1 c1 q1 ∧ (i ≠ 0 → c1 ≠ 0) := by
  have htp : 0 < f.tails := Nat.two_pow_pos _
  have h2t : 2 ^ f.p = 2 * f.tails := by
    show 2 ^ f.p = 2 * 2 ^ (f.p - 1)
    rw [← Nat.pow_succ', show (f.p - 1).succ = f.p from by omega]
  have key : ∀ (s : Bool) (e t : Nat), t < f.tails → e + 1 < f.exps → (i ≠ 0 → e ≠ 0 ∨ t ≠ 0) → Jvm.FP.Core.assemble f s e t < 2 * (f.exps * f.tails) ∧ ∃ s1 c1 q1, Jvm.FP.Core.decode f (Jvm.FP.Core.assemble f s e t) = .fin s1 c1 q1 ∧ (i ≠ 0 → c1 ≠ 0) := by
    intro s e t ht he hi
    obtain ⟨s1, c1, q1, e1, e2⟩ := fl_dec (s := s) ht he
    refine ⟨?_, s1, c1, q1, e1, fun z => e2 (hi z)⟩
    obtain ⟨m, hm, em⟩ := fl_asm_le (s := s) ht he
    rw [em]
    have : (f.exps - 1) * f.tails < f.exps * f.tails := Nat.mul_lt_mul_of_pos_right (by omega) htp
    cases s
    · simp only [Bool.toNat_false]; omega
    · simp only [Bool.toNat_true]; omega
  unfold Jvm.FP.Core.fromInt Jvm.FP.Core.ofInt Jvm.FP.Core.round
  dsimp only
  by_cases h0 : i.natAbs = 0
  · rw [h0]
    unfold Jvm.FP.Core.roundRatio
    rw [if_pos rfl]
    unfold Jvm.FP.Core.encode
    dsimp only
    rw [if_pos htp]
    exact key _ 0 0 htp (by omega) (fun z => absurd (Int.natAbs_eq_zero.mp h0) z)
  · obtain ⟨l1, l2⟩ := fl_log h0
    have l3 : i.natAbs.log2 < f.p := (Nat.pow_lt_pow_iff_right (by decide : 1 < 2)).mp (Nat.lt_of_le_of_lt l1 hc)
    rw [fl_int (by omega) h0 hc h1 h2]
    have hlt : i.natAbs * 2 ^ (f.p - 1 - i.natAbs.log2) < 2 ^ f.p := by
      have := Nat.mul_lt_mul_of_pos_right l2 (Nat.two_pow_pos (f.p - 1 - i.natAbs.log2))
      rw [← Nat.pow_add, show i.natAbs.log2 + 1 + (f.p - 1 - i.natAbs.log2) = f.p from by omega] at this
      exact this
    have hge : f.tails ≤ i.natAbs * 2 ^ (f.p - 1 - i.natAbs.log2) := by
      have := Nat.mul_le_mul_right (2 ^ (f.p - 1 - i.natAbs.log2)) l1
      rw [← Nat.pow_add, show i.natAbs.log2 + (f.p - 1 - i.natAbs.log2) = f.p - 1 from by omega] at this
      exact this
    unfold Jvm.FP.Core.encode
    dsimp only
    rw [if_neg (by omega)]
    exact key _ _ _ (by omega) (by omega) (fun _ => Or.inl (by omega))
/-- what rounding answers lies no higher than the infinities -/
theorem fl_enc {f : Jvm.FP.Core.Fmt} {s : Bool} {num den : Nat} {e : Int} (hp : 2 ≤ f.p) (hw : 3 ≤ f.exps) (h3 : f.qmax - f.qmin + 3 = (f.exps : Int)) : ∃ (s1 : Bool) (m : Nat), m ≤ (f.exps - 1) * f.tails ∧ Jvm.FP.Core.encode f (Jvm.FP.Core.roundRatio f s num den e) = s1.toNat * (f.exps * f.tails) + m := by
  have htp : 0 < f.tails := Nat.two_pow_pos _
  have h2t : 2 ^ f.p = 2 * f.tails := by
    show 2 ^ f.p = 2 * 2 ^ (f.p - 1)
    rw [← Nat.pow_succ', show (f.p - 1).succ = f.p from by omega]
  have hfin : ∀ (s : Bool) (c : Nat) (q : Int), c < 2 ^ f.p → ∃ (s1 : Bool) (m : Nat), m ≤ (f.exps - 1) * f.tails ∧ Jvm.FP.Core.encode f (Jvm.FP.Core.bound f s c q) = s1.toNat * (f.exps * f.tails) + m := by
    intro s c q hc
    unfold Jvm.FP.Core.bound
    split
    · next h =>
      unfold Jvm.FP.Core.encode
      dsimp only
      split
      · next h4 =>
        obtain ⟨m, h5, h6⟩ := fl_asm_le (s := s) (e := 0) h4 (by omega)
        exact ⟨s, m, h5, h6⟩
      · next h4 =>
        obtain ⟨m, h5, h6⟩ := fl_asm_le (f := f) (s := s) (e := (q - f.qmin).toNat + 1) (t := c - f.tails) (by omega) (by omega)
        exact ⟨s, m, h5, h6⟩
    · unfold Jvm.FP.Core.encode
      dsimp only
      refine ⟨s, (f.exps - 1) * f.tails, Nat.le_refl _, ?_⟩
      unfold Jvm.FP.Core.assemble
      rw [Nat.add_mul, Nat.mul_assoc, Nat.add_zero]
  unfold Jvm.FP.Core.roundRatio
  split
  · unfold Jvm.FP.Core.encode
    dsimp only
    rw [if_pos htp]
    obtain ⟨m, h5, h6⟩ := fl_asm_le (f := f) (s := s) (e := 0) (t := 0) htp (by omega)
    exact ⟨s, m, h5, h6⟩
  · unfold Jvm.FP.Core.roundAt Jvm.FP.Core.settle
    split
    · next h => exact hfin _ _ _ h
    · exact hfin _ _ _ (by omega)
theorem fl_d {x y : Int32} (h : ¬ y = 0) : vf_n64 (FP.ddiv (FP.i2d x) (FP.i2d y)) := by
  have hx := Int32.le_toInt x
  have hx2 := Int32.toInt_lt x
  have hy := Int32.le_toInt y
  have hy2 := Int32.toInt_lt y
  have big : (2 : Nat) ^ Jvm.FP.Core.b64.p = 9007199254740992 := by decide
  have hsz : Jvm.FP.Core.b64.exps * Jvm.FP.Core.b64.tails = 9223372036854775808 := by decide
  have hin : (Jvm.FP.Core.b64.exps - 1) * Jvm.FP.Core.b64.tails = 9218868437227405312 := by decide
  obtain ⟨a1, s1, c1, q1, a2, _⟩ := fl_back (f := Jvm.FP.Core.b64) (i := x.toInt) (by decide) (by decide) (by rw [big]; omega) (by decide) (by decide) (by decide)
  obtain ⟨b1, s2, c2, q2, b2, b3⟩ := fl_back (f := Jvm.FP.Core.b64) (i := y.toInt) (by decide) (by decide) (by rw [big]; omega) (by decide) (by decide) (by decide)
  have hc2 := b3 (fun z => h (Int32.toInt_inj.mp (by rw [z]; rfl)))
  rw [hsz] at a1 b1
  obtain ⟨s3, m, hm, em⟩ := fl_enc (f := Jvm.FP.Core.b64) (s := (s1 != s2)) (num := c1) (den := c2) (e := q1 - q2) (by decide) (by decide) (by decide)
  rw [hsz] at em
  rw [hin] at hm
  have hr : FP.ddiv (FP.i2d x) (FP.i2d y) = UInt64.ofNat (s3.toNat * 9223372036854775808 + m) := by
    show UInt64.ofNat (Jvm.FP.Core.div Jvm.FP.Core.b64 (UInt64.ofNat (Jvm.FP.Core.fromInt Jvm.FP.Core.b64 x.toInt)).toNat (UInt64.ofNat (Jvm.FP.Core.fromInt Jvm.FP.Core.b64 y.toInt)).toNat) = _
    rw [UInt64.toNat_ofNat_of_lt' (by omega), UInt64.toNat_ofNat_of_lt' (by omega)]
    unfold Jvm.FP.Core.div
    rw [a2, b2]
    unfold Jvm.FP.Core.quotient
    dsimp only
    rw [if_neg hc2, em]
  rw [hr]
  show UInt64.ofNat (s3.toNat * 9223372036854775808 + m) &&& 0x7fffffffffffffff ≤ 0x7ff0000000000000
  have hb : s3.toNat ≤ 1 := Bool.toNat_le s3
  rw [UInt64.le_iff_toNat_le, UInt64.toNat_and, show (0x7fffffffffffffff : UInt64).toNat = 2 ^ 63 - 1 from rfl, Nat.and_two_pow_sub_one_eq_mod, show (0x7ff0000000000000 : UInt64).toNat = 9218868437227405312 from rfl, UInt64.toNat_ofNat_of_lt' (by show _ < 18446744073709551616; omega)]
  omega
theorem fl_f {x y : Int32} (h : ¬ y = 0) (hx : x.toInt.natAbs < 16777216) (hy : y.toInt.natAbs < 16777216) : vf_n32 (FP.fdiv (FP.i2f x) (FP.i2f y)) := by
  have big : (2 : Nat) ^ Jvm.FP.Core.b32.p = 16777216 := by decide
  have hsz : Jvm.FP.Core.b32.exps * Jvm.FP.Core.b32.tails = 2147483648 := by decide
  have hin : (Jvm.FP.Core.b32.exps - 1) * Jvm.FP.Core.b32.tails = 2139095040 := by decide
  obtain ⟨a1, s1, c1, q1, a2, _⟩ := fl_back (f := Jvm.FP.Core.b32) (i := x.toInt) (by decide) (by decide) (by rw [big]; omega) (by decide) (by decide) (by decide)
  obtain ⟨b1, s2, c2, q2, b2, b3⟩ := fl_back (f := Jvm.FP.Core.b32) (i := y.toInt) (by decide) (by decide) (by rw [big]; omega) (by decide) (by decide) (by decide)
  have hc2 := b3 (fun z => h (Int32.toInt_inj.mp (by rw [z]; rfl)))
  rw [hsz] at a1 b1
  obtain ⟨s3, m, hm, em⟩ := fl_enc (f := Jvm.FP.Core.b32) (s := (s1 != s2)) (num := c1) (den := c2) (e := q1 - q2) (by decide) (by decide) (by decide)
  rw [hsz] at em
  rw [hin] at hm
  have hr : FP.fdiv (FP.i2f x) (FP.i2f y) = UInt32.ofNat (s3.toNat * 2147483648 + m) := by
    show UInt32.ofNat (Jvm.FP.Core.div Jvm.FP.Core.b32 (UInt32.ofNat (Jvm.FP.Core.fromInt Jvm.FP.Core.b32 x.toInt)).toNat (UInt32.ofNat (Jvm.FP.Core.fromInt Jvm.FP.Core.b32 y.toInt)).toNat) = _
    rw [UInt32.toNat_ofNat_of_lt' (by omega), UInt32.toNat_ofNat_of_lt' (by omega)]
    unfold Jvm.FP.Core.div
    rw [a2, b2]
    unfold Jvm.FP.Core.quotient
    dsimp only
    rw [if_neg hc2, em]
  rw [hr]
  show UInt32.ofNat (s3.toNat * 2147483648 + m) &&& 0x7fffffff ≤ 0x7f800000
  have hb : s3.toNat ≤ 1 := Bool.toNat_le s3
  rw [UInt32.le_iff_toNat_le, UInt32.toNat_and, show (0x7fffffff : UInt32).toNat = 2 ^ 31 - 1 from rfl, Nat.and_two_pow_sub_one_eq_mod, show (0x7f800000 : UInt32).toNat = 2139095040 from rfl, UInt32.toNat_ofNat_of_lt' (by show _ < 4294967296; omega)]
  omega
