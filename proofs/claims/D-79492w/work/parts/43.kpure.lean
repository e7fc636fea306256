/-! THE COMPONENT, pure 1: kites and what they do -/
set_option maxRecDepth 100000
def uRl (o y x : Int32) : Int32 := if 0 < (if o + x < y then o + x else y) then (if o + x < y then o + x else y) else 0
def stR (w : wd) (i k : Nat) (v : Nat → Int32) (t : Nat) : Prop :=
  (v 0 = 0 ∧ w t = some ((0, 0), .inr (4, []))) ∨ (v 0 = 1 ∧ w t = some ((i, 12 + k), .inr (5, [.int (v 5), .int (v 6)]))) ∨ (v 0 = 2 ∧ w t = some ((0, 0), .inr (6, [.int (v 9), .int (v 10), .int (v 11)])))
theorem stR.fr {P : Nat × Nat → Prop} {w w1 : wd} {i k : Nat} {v : Nat → Int32} {t : Nat} (h : stR w i k v t) (hf : fr P w w1) (h0 : ¬ P (0, 0)) (h1 : ¬ P (i, 12 + k)) : stR w1 i k v t := by
  rcases h with ⟨e, h⟩ | ⟨e, h⟩ | ⟨e, h⟩
  · exact Or.inl ⟨e, hf _ _ _ h h0⟩
  · exact Or.inr (Or.inl ⟨e, hf _ _ _ h h1⟩)
  · exact Or.inr (Or.inr ⟨e, hf _ _ _ h h0⟩)
def kOt (v : Nat → Int32) : Int32 := if v 0 = 1 then v 5 else 0
def kWr (v : Nat → Int32) : Int32 := if v 0 = 1 then v 6 else 0
def kRv (v : Nat → Int32) (x : Int32) : Nat → Int32 := if v 0 = 1 then va_up v 5 (uRl (v 5) (v 3) x) else v
def kRr (v : Nat → Int32) (x : Int32) : Int32 := if v 0 = 1 then uRl (v 5) (v 3) x - v 5 else 0
def kWv (v : Nat → Int32) (x : Int32) : Nat → Int32 := if v 0 = 1 then va_up v 6 (v 6 + x) else v
def kBg (z : Nat) (x2 x3 x4 : Int32) : Nat → Int32 := fun c => if c = 1 then nI z else if c = 2 then x2 else if c = 3 then x3 else if c = 12 then x3 else if c = 4 then x4 else 0
theorem in_X5 : ∀ w ∈ u_ws RX5 TX5 0, w ∈ lw_all := fun w h => by simp [u_ws] at h
def tyX5 : Nat → FieldType := fun _ => .int
theorem tyX5_ok : ∀ k, k < 0 → parseFieldDescriptor (TX5 k).2.2.1 = some (tyX5 k) := fun k h => absurd h (Nat.not_lt_zero k)
