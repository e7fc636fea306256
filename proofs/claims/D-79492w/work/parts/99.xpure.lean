/-! THE COMPONENT, 8: what the calls answer -/
set_option maxRecDepth 100000
/-- thrown by a check: nothing has changed -/
def pxL (L : List (String × Int32)) (w : wd) (code : Int32) : String → Nat → wd → Prop := fun X _ w' => (X, code) ∈ L ∧ w' = w
/-- .. or refused, with a reason that is kept -/
def pxM (L : List (String × Int32)) (w : wd) (code u rs : Int32) (x : Nat) (ve : Int32 → Int32 → va_E) : String → Nat → wd → Prop := fun X _ w' => ((X, code) ∈ L ∧ w' = w) ∨ (X = nUO ∧ code = u ∧ 0 < rs ∧ w' x = some ((94, 0), ve rs (-1)) ∧ fr (pO (94, 0)) w w')
theorem pxL.mk' {L : List (String × Int32)} {w w' w1 : wd} {code k : Int32} {X Y : String} {q : Nat} (hX : X = Y) (he : code = k) (hm : (Y, k) ∈ L) (hw : w' = w1) (h0 : w = w1) : pxL L w code X q w' := ⟨by rw [hX, he]; exact hm, hw.trans h0.symm⟩
theorem pxM.mk' {L : List (String × Int32)} {w w' w1 : wd} {code u rs k : Int32} {x : Nat} {ve : Int32 → Int32 → va_E} {X Y : String} {q : Nat} (hX : X = Y) (he : code = k) (hm : (Y, k) ∈ L) (hw : w' = w1) (h0 : w = w1) : pxM L w code u rs x ve X q w' := Or.inl ⟨by rw [hX, he]; exact hm, hw.trans h0.symm⟩
theorem pxM.su {L : List (String × Int32)} {w w' w1 : wd} {code u rs r2 : Int32} {x : Nat} {ve : Int32 → Int32 → va_E} {X : String} {q : Nat} (hX : X = nUO) (he : code = u ∧ rs = r2) (hp : 0 < r2) (hv : w' x = some ((94, 0), ve r2 (-1))) (hf : fr (pO (94, 0)) w1 w') (h0 : w = w1) : pxM L w code u rs x ve X q w' := Or.inr ⟨hX, he.1, by rw [he.2]; exact hp, by rw [he.2]; exact hv, by rw [h0]; exact hf⟩
theorem qWind_1 {g : Nat → Int32} {y s d : Int32} (h : tin y 0 9 = false) : (qWind g y s d).1 = 1 := by simp [qWind, h]
theorem qWind_2 {g : Nat → Int32} {y s d : Int32} (h : tin y 0 9 = true) (h2 : (tin s 0 9 && tin d (-3) 3) = false) : (qWind g y s d).1 = 2 := by
  unfold qWind
  rw [if_pos h]
  rcases Bool.and_eq_false_iff.mp h2 with h3 | h3
  · simp [h3]
  · split <;> simp [h3]
theorem qWind_ok {g : Nat → Int32} {k : Nat} {s d : Int32} (h : tin (nI k) 0 9 = true) (h2 : (tin s 0 9 && tin d (-3) 3) = true) (hc : (nI k).toNatClampNeg = k) : qWind g (nI k) s d = (0, 0, g (2 * k), va_up (va_up g (2 * k) s) (2 * k + 1) d) := by
  obtain ⟨h3, h4⟩ := Bool.and_eq_true_iff.mp h2
  simp [qWind, h, h3, h4, hc]
theorem qKite_1 {g : Nat → Int32} {mn : Nat} {x1 x2 x3 x4 : Int32} (h : (tin x1 0 2 && (tin x2 0 40 && (tin x3 10 99 && tin x4 0 9))) = false) : (qKite g mn x1 x2 x3 x4).1 = 1 := by
  unfold qKite
  split
  · split
    · split
      · split
        · simp_all
        · rfl
      · rfl
    · rfl
  · rfl
theorem qKite_2 {g : Nat → Int32} {mn : Nat} {x1 x2 x3 x4 : Int32} (h : (tin x1 0 2 && (tin x2 0 40 && (tin x3 10 99 && tin x4 0 9))) = true) (hm : mn = 6) : qKite g mn x1 x2 x3 x4 = (2, 1, 0, g) := by
  simp only [Bool.and_eq_true] at h
  simp [qKite, h.1, h.2.1, h.2.2.1, h.2.2.2, hm]
theorem qKite_ok {g : Nat → Int32} {mn : Nat} {x1 x2 x3 x4 : Int32} (h : (tin x1 0 2 && (tin x2 0 40 && (tin x3 10 99 && tin x4 0 9))) = true) (hm : ¬ mn = 6) : qKite g mn x1 x2 x3 x4 = (0, 0, nI mn, tNk g mn x1 x2 x3 x4) := by
  simp only [Bool.and_eq_true] at h
  simp [qKite, h.1, h.2.1, h.2.2.1, h.2.2.2, hm]
theorem qLnch_1 {g : Nat → Int32} {mn : Nat} {y : Int32} (h : tKt g y = false) : (qLnch g mn y).1 = 1 := by simp [qLnch, h]
abbrev rsL (g : Nat → Int32) (k : Nat) : Int32 := if g (kO k 0) = 0 then (if g 0 = 0 then 3 else 0) else 2
theorem qLnch_r {g : Nat → Int32} {mn k : Nat} (h : tKt g (nI k) = true) (hc : (nI k).toNatClampNeg = k) : (0 < rsL g k → (qLnch g mn (nI k)).1 = 2 ∧ (qLnch g mn (nI k)).2.1 = rsL g k) ∧ (rsL g k ≤ 0 → qLnch g mn (nI k) = (0, 0, tIn (tLn g k) 1 mn, tLn g k)) := by
  unfold qLnch rsL
  rw [if_pos h, hc]
  split
  · split
    · exact ⟨fun _ => ⟨rfl, rfl⟩, fun z => absurd z (by decide)⟩
    · exact ⟨fun z => absurd z (by decide), fun _ => rfl⟩
  · exact ⟨fun _ => ⟨rfl, rfl⟩, fun z => absurd z (by decide)⟩
theorem qReel_1 {g : Nat → Int32} {y z : Int32} (h : tKt g y = false) : (qReel g y z).1 = 1 := by simp [qReel, h]
theorem qReel_2 {g : Nat → Int32} {y z : Int32} (h : tKt g y = true) (h2 : tin z (-20) 20 = false) : (qReel g y z).1 = 2 := by simp [qReel, h, h2]
abbrev rsR (g : Nat → Int32) (k : Nat) (b : Int32) : Int32 := if tUp g k = true then (if g (kO k 5) + b ≤ g (kO k 3) then (if 0 ≤ g (kO k 5) + b then 0 else 6) else 5) else 4
theorem qReel_r {g : Nat → Int32} {k : Nat} {z : Int32} (h : tKt g (nI k) = true) (h2 : tin z (-20) 20 = true) (hc : (nI k).toNatClampNeg = k) : (0 < rsR g k z → (qReel g (nI k) z).1 = 3 ∧ (qReel g (nI k) z).2.1 = rsR g k z) ∧ (rsR g k z ≤ 0 → (tUp g k = true ∧ g (kO k 5) + z ≤ g (kO k 3) ∧ 0 ≤ g (kO k 5) + z) ∧ qReel g (nI k) z = (0, 0, tLt g k z (kO k 5), tLt g k z)) := by
  unfold qReel rsR
  rw [if_pos h, if_pos h2, hc]
  split
  · next a =>
    split
    · next b =>
      split
      · next d => exact ⟨fun z => absurd z (by decide), fun _ => ⟨⟨a, b, d⟩, rfl⟩⟩
      · exact ⟨fun _ => ⟨rfl, rfl⟩, fun z => absurd z (by decide)⟩
    · exact ⟨fun _ => ⟨rfl, rfl⟩, fun z => absurd z (by decide)⟩
  · exact ⟨fun _ => ⟨rfl, rfl⟩, fun z => absurd z (by decide)⟩
theorem qSpeed_1 {g : Nat → Int32} {y z : Int32} (h : tKt g y = false) : (qSpeed g y z).1 = 1 := by simp [qSpeed, h]
theorem qSpeed_2 {g : Nat → Int32} {y z : Int32} (h : tKt g y = true) (h2 : tin z (-9) 9 = false) : (qSpeed g y z).1 = 2 := by simp [qSpeed, h, h2]
theorem qSpeed_ok {g : Nat → Int32} {k : Nat} {z : Int32} (h : tKt g (nI k) = true) (h2 : tin z (-9) 9 = true) (hc : (nI k).toNatClampNeg = k) : qSpeed g (nI k) z = (0, 0, g (kO k 7), va_up g (kO k 7) z) := by simp [qSpeed, h, h2, hc]
theorem qLand_1 {g : Nat → Int32} {y : Int32} (h : tKt g y = false) : (qLand g y).1 = 1 := by simp [qLand, h]
theorem qTie_1 {g : Nat → Int32} {y : Int32} (h : tKt g y = false) : (qTie g y).1 = 1 := by simp [qTie, h]
abbrev rsT (g : Nat → Int32) (k : Nat) : Int32 := if g (kO k 0) = 2 then (if 10 ≤ g (kO k 3) then 0 else 8) else 7
theorem qTie_r {g : Nat → Int32} {k : Nat} (h : tKt g (nI k) = true) (hc : (nI k).toNatClampNeg = k) : (0 < rsT g k → (qTie g (nI k)).1 = 2 ∧ (qTie g (nI k)).2.1 = rsT g k) ∧ (rsT g k ≤ 0 → qTie g (nI k) = (0, 0, g (kO k 3), va_up g (kO k 0) 0)) := by
  unfold qTie rsT
  rw [if_pos h, hc]
  split
  · split
    · exact ⟨fun z => absurd z (by decide), fun _ => rfl⟩
    · exact ⟨fun _ => ⟨rfl, rfl⟩, fun z => absurd z (by decide)⟩
  · exact ⟨fun _ => ⟨rfl, rfl⟩, fun z => absurd z (by decide)⟩
theorem qLand_n {g : Nat → Int32} {k : Nat} (h : tKt g (nI k) = true) (hc : (nI k).toNatClampNeg = k) (hu : decide (kv g k 0 = 1) = false) : (qLand g (nI k)).1 = 2 ∧ (qLand g (nI k)).2.1 = 4 := by
  unfold qLand
  rw [if_pos h, hc, if_neg (show ¬ tUp g k = true by rw [show tUp g k = false from hu]; decide)]
  exact ⟨rfl, rfl⟩
theorem qLand_ok {g : Nat → Int32} {k : Nat} (h : tKt g (nI k) = true) (hc : (nI k).toNatClampNeg = k) (hu : decide (kv g k 0 = 1) = true) : qLand g (nI k) = (0, 0, g (kO k 5), tLd g k) := by
  unfold qLand
  rw [if_pos h, hc, if_pos (show tUp g k = true from hu)]
  rfl
theorem tKt_N {g : Nat → Int32} {mn k : Nat} (hm : g 25 = nI mn) (hmn : mn ≤ 6) (h : k < mn) : tKt g (nI k) = true := by
  unfold tKt tin
  have e1 : nI mn - 1 = nI (mn - 1) := (show nI mn - nI 1 = nI (mn - 1) from pk_sub (show 1 ≤ mn by omega))
  have e2 : (0 : Int32) ≤ nI k := nI_le (a := 0) (Nat.zero_le k) (by omega)
  have e3 : nI k ≤ nI (mn - 1) := nI_le (show k ≤ mn - 1 by omega) (by omega)
  rw [hm, e1, decide_eq_true e2, decide_eq_true e3]
  rfl
theorem kd3 {k : Nat} (h : k ≤ 2) : nI k = 0 ∨ nI k = 1 ∨ nI k = 2 := by
  have h3 : k = 0 ∨ k = 1 ∨ k = 2 := by omega
  rcases h3 with h | h | h <;> rw [h] <;> first | exact Or.inl rfl | exact Or.inr (Or.inl rfl) | exact Or.inr (Or.inr rfl)
