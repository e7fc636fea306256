/-! PURE, 20: what is known of a cut -/
set_option maxRecDepth 100000
theorem bit_01 (x : Int32) : x &&& 1 = 0 ∨ x &&& 1 = 1 := by
  have h : (x.toBitVec &&& 1#32) = 0#32 ∨ (x.toBitVec &&& 1#32) = 1#32 := by
    have e : (x.toBitVec &&& 1#32).toNat = x.toBitVec.toNat % 2 := by rw [BitVec.toNat_and, show (1#32).toNat = 1 from rfl, Nat.and_one_is_mod]
    rcases Nat.mod_two_eq_zero_or_one x.toBitVec.toNat with z | z
    · exact Or.inl (BitVec.eq_of_toNat_eq (by rw [e, z]; rfl))
    · exact Or.inr (BitVec.eq_of_toNat_eq (by rw [e, z]; rfl))
  rcases h with h | h
  · exact Or.inl (Int32.toBitVec_inj.mp h)
  · exact Or.inr (Int32.toBitVec_inj.mp h)
def kKn (r l b x : Int32) : Int32 := if x < 2 then (if x = 0 then r else l) else oI (tCs b x 6 0 2)
