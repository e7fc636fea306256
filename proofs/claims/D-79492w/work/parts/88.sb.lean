/-! STRINGS as the component has them: a builder, a string -/
set_option maxRecDepth 100000
theorem mn_ge {a b : Nat} (h : b ≤ a) (ha : a < 2 ^ 31) : (if nI b < nI a then nI b else nI a) = nI b := by
  by_cases e : a = b
  · subst e; split <;> rfl
  · rw [if_pos (nI_lt (by omega) ha)]
theorem nar_c {k : Nat} (h : k < 65536) : narrow .char (.int (nI k)) = .int (nI k) := by
  show Value.int (((nI k).toUInt32 % 65536).toInt32) = _
  rw [i2c_n h]
def cap3 (n mm : Nat) : Prop := n ≤ mm ∧ (mm = 16 ∨ mm = 34 ∨ mm = 70)
def sbR (E : gE) (w : wd) (b : Nat) (B : Nat → Int32) (n : Nat) : Prop := ∃ (q mm : Nat) (f : Nat → Int32), (sb_Fit f ∧ n ≤ 60 ∧ cap3 n mm) ∧
  ((w b = some ((96, 0), .inr (15, [.ref q, .int 0, .int 0, .int (nI n)])) ∧ w q = some ((96, 1), .inl (eT E 3, mm, .inl f)) ∧ sL f B n) ∨
   (w b = some ((96, 0), .inr (15, [.ref q, .int 1, .int 0, .int (nI n)])) ∧ w q = some ((96, 1), .inl (eT E 3, 2 * mm, .inl f)) ∧ sU f B n))
theorem sbR.obj {E : gE} {w : wd} {b : Nat} {B : Nat → Int32} {n : Nat} (h : sbR E w b B n) : ∃ (q : Nat) (co : Int32), w b = some ((96, 0), .inr (15, [.ref q, .int co, .int 0, .int (nI n)])) := by
  obtain ⟨q, mm, f, -, ⟨h, -⟩ | ⟨h, -⟩⟩ := h
  · exact ⟨q, 0, h⟩
  · exact ⟨q, 1, h⟩
theorem sbR.le {E : gE} {w : wd} {b : Nat} {B : Nat → Int32} {n : Nat} (h : sbR E w b B n) : n ≤ 60 := by
  obtain ⟨q, mm, f, ⟨-, h, -⟩, -⟩ := h
  exact h
theorem sbR.fr {P : Nat × Nat → Prop} {E : gE} {w w1 : wd} {b : Nat} {B : Nat → Int32} {n : Nat} (h : sbR E w b B n) (hf : fr P w w1) (h0 : ¬ P (96, 0)) (h1 : ¬ P (96, 1)) : sbR E w1 b B n := by
  obtain ⟨q, mm, f, h8, ⟨a1, a2, a3⟩ | ⟨a1, a2, a3⟩⟩ := h
  · exact ⟨q, mm, f, h8, Or.inl ⟨hf _ _ _ a1 h0, hf _ _ _ a2 h1, a3⟩⟩
  · exact ⟨q, mm, f, h8, Or.inr ⟨hf _ _ _ a1 h0, hf _ _ _ a2 h1, a3⟩⟩
theorem sbR.co {E : gE} {w : wd} {b : Nat} {B B1 : Nat → Int32} {n : Nat} (h : sbR E w b B n) (he : ∀ j, j < n → B1 j = B j) : sbR E w b B1 n := by
  obtain ⟨q, mm, f, h8, ⟨a1, a2, a3⟩ | ⟨a1, a2, a3⟩⟩ := h
  · exact ⟨q, mm, f, h8, Or.inl ⟨a1, a2, sL_B a3 he⟩⟩
  · exact ⟨q, mm, f, h8, Or.inr ⟨a1, a2, sU_B a3 he⟩⟩
def strR (E : gE) (w : wd) (T : Nat) (B : Nat → Int32) (n : Nat) : Prop := ∃ (q : Nat) (f : Nat → Int32), n ≤ 60 ∧
  ((w T = some ((96, 2), .inr (16, [.ref q, .int 0, .int 0, .int 0])) ∧ w q = some ((96, 3), .inl (eT E 3, n, .inl f)) ∧ sL f B n) ∨
   (w T = some ((96, 2), .inr (16, [.ref q, .int 1, .int 0, .int 0])) ∧ w q = some ((96, 3), .inl (eT E 3, 2 * n, .inl f)) ∧ sU f B n))
theorem strR.obj {E : gE} {w : wd} {T : Nat} {B : Nat → Int32} {n : Nat} (h : strR E w T B n) : ∃ (q : Nat) (co : Int32), w T = some ((96, 2), .inr (16, [.ref q, .int co, .int 0, .int 0])) := by
  obtain ⟨q, f, -, ⟨h, -⟩ | ⟨h, -⟩⟩ := h
  · exact ⟨q, 0, h⟩
  · exact ⟨q, 1, h⟩
theorem strR.fr {P : Nat × Nat → Prop} {E : gE} {w w1 : wd} {T : Nat} {B : Nat → Int32} {n : Nat} (h : strR E w T B n) (hf : fr P w w1) (h0 : ¬ P (96, 2)) (h1 : ¬ P (96, 3)) : strR E w1 T B n := by
  obtain ⟨q, f, h8, ⟨a1, a2, a3⟩ | ⟨a1, a2, a3⟩⟩ := h
  · exact ⟨q, f, h8, Or.inl ⟨hf _ _ _ a1 h0, hf _ _ _ a2 h1, a3⟩⟩
  · exact ⟨q, f, h8, Or.inr ⟨hf _ _ _ a1 h0, hf _ _ _ a2 h1, a3⟩⟩
def pS (τ : Nat × Nat) : Prop := τ = (96, 2) ∨ τ = (96, 3)
def pBs (τ : Nat × Nat) : Prop := τ = (96, 0) ∨ τ = (96, 1)
theorem le255 {k : Nat} (hk : k < 65536) (h : decide (nI k ≤ 255) = true) : k < 256 := by
  have h1 : nI k ≤ nI 255 := of_decide_eq_true h
  have := (nI_leI (by omega) (by omega)).mp h1
  omega
