/-! THE COMPONENT, 3: the town and its row -/
set_option maxRecDepth 100000
def kv (g : Nat → Int32) (k : Nat) : Nat → Int32 := fun c => if c < 15 then g (kO k c) else 0
abbrev kF (E : gE) (v : Nat → Int32) (t : Nat) : List Value := [.ref (eM E (v 1).toNatClampNeg), .int (v 2), .int (v 3), .int (v 12), .int (v 4), .int (v 7), .int (v 8), .ref t]
def kR (E : gE) (w : wd) (i y k : Nat) (v : Nat → Int32) (t : Nat) : Prop := w y = some ((i, 6 + k), .inr (3, kF E v t)) ∧ stR w i k v t
theorem kR.frm {P : Nat × Nat → Prop} {E : gE} {w w1 : wd} {i y k : Nat} {v : Nat → Int32} {t : Nat} (h : kR E w i y k v t) (hf : fr P w w1) (h0 : ¬ P (0, 0)) (h1 : ¬ P (i, 6 + k)) (h2 : ¬ P (i, 12 + k)) : kR E w1 i y k v t := ⟨hf _ _ _ h.1 h1, h.2.fr hf h0 h2⟩
/-- all six kites; those that fly are as the row has them -/
def ksR (E : gE) (w : wd) (i : Nat) (A : Nat → Nat) (g : Nat → Int32) (mn : Nat) : Prop := ∀ k, k < 6 → ∃ v t, (k < mn → v = kv g k) ∧ kR E w i (A (6 + k)) k v t
theorem ksR.frm {P : Nat × Nat → Prop} {E : gE} {w w1 : wd} {i : Nat} {A : Nat → Nat} {g : Nat → Int32} {mn : Nat} (h : ksR E w i A g mn) (hf : fr P w w1) (h0 : ¬ P (0, 0)) (h1 : ∀ r, 6 ≤ r → ¬ P (i, r)) : ksR E w1 i A g mn := by
  intro k hk
  obtain ⟨v, t, e, h⟩ := h k hk
  exact ⟨v, t, e, h.frm hf h0 (h1 _ (by omega)) (h1 _ (by omega))⟩
/-- one kite has changed -/
theorem ksR.upd {E : gE} {w w1 : wd} {i k : Nat} {A : Nat → Nat} {g g1 : Nat → Int32} {mn : Nat} {v : Nat → Int32} {t : Nat} (h : ksR E w i A g mn) (hf : fr (pK i k) w w1) (hi : i ≠ 0) (hk6 : k < 6) (hk : kR E w1 i (A (6 + k)) k v t) (hv : k < mn → v = kv g1 k) (ho : ∀ j, j < mn → j ≠ k → kv g1 j = kv g j) : ksR E w1 i A g1 mn := by
  intro j hj
  by_cases e : j = k
  · subst e
    exact ⟨v, t, hv, hk⟩
  · obtain ⟨v', t', e', h'⟩ := h j hj
    refine ⟨v', t', fun z => (e' z).trans (ho j z e).symm, h'.frm hf ?_ ?_ ?_⟩
    · intro z; simp only [pK, Prod.mk.injEq] at z; omega
    · intro z; simp only [pK, Prod.mk.injEq] at z; omega
    · intro z; simp only [pK, Prod.mk.injEq] at z; omega
abbrev tnF (A : Nat → Nat) (g : Nat → Int32) (mn : Nat) : List Value := [.ref (A 1), .ref (A 2), .ref (A 3), .int (nI mn), .int (g 20), .int (g 21), .int (g 23), .int (g 22), .int (g 24), .ref (A 4), .ref (A 5)]
def townR (E : gE) (w : wd) (i : Nat) (A : Nat → Nat) (g : Nat → Int32) (mn : Nat) (wn ly : Nat → Int32) : Prop :=
  w (A 0) = some ((i, 0), .inr (2, tnF A g mn)) ∧ (∃ f, w (A 1) = some ((i, 1), .inl (eT E 0, 10, .inl f)) ∧ ∀ q, q < 10 → f q = g (2 * q)) ∧ (∃ f, w (A 2) = some ((i, 2), .inl (eT E 0, 10, .inl f)) ∧ ∀ q, q < 10 → f q = g (2 * q + 1)) ∧
  (∃ f, w (A 3) = some ((i, 3), .inl (eT E 4, 6, .inr (.inr (.inr (.inr f))))) ∧ ∀ k, k < 6 → f k = some (A (6 + k))) ∧ w (A 4) = some ((i, 4), .inl (eT E 0, 36, .inl wn)) ∧ w (A 5) = some ((i, 5), .inl (eT E 0, 6, .inl ly)) ∧ (g 25 = nI mn ∧ mn ≤ 6) ∧ ksR E w i A g mn
theorem townR.frm {P : Nat × Nat → Prop} {E : gE} {w w1 : wd} {i : Nat} {A : Nat → Nat} {g : Nat → Int32} {mn : Nat} {wn ly : Nat → Int32} (h : townR E w i A g mn wn ly) (hf : fr P w w1) (h0 : ¬ P (0, 0)) (h1 : ∀ r, ¬ P (i, r)) : townR E w1 i A g mn wn ly := by
  obtain ⟨a0, ⟨f1, a1, b1⟩, ⟨f2, a2, b2⟩, ⟨f3, a3, b3⟩, a4, a5, a6, a7⟩ := h
  exact ⟨hf _ _ _ a0 (h1 _), ⟨f1, hf _ _ _ a1 (h1 _), b1⟩, ⟨f2, hf _ _ _ a2 (h1 _), b2⟩, ⟨f3, hf _ _ _ a3 (h1 _), b3⟩, hf _ _ _ a4 (h1 _), hf _ _ _ a5 (h1 _), a6, a7.frm hf h0 (fun r _ => h1 r)⟩
theorem townR.kite {E : gE} {w : wd} {i k : Nat} {A : Nat → Nat} {g : Nat → Int32} {mn : Nat} {wn ly : Nat → Int32} (h : townR E w i A g mn wn ly) (hk : k < mn) : ∃ t, w (A (6 + k)) = some ((i, 6 + k), .inr (3, [.ref (eM E (g (kO k 1)).toNatClampNeg), .int (g (kO k 2)), .int (g (kO k 3)), .int (g (kO k 12)), .int (g (kO k 4)), .int (g (kO k 7)), .int (g (kO k 8)), .ref t])) ∧ stR w i k (kv g k) t := by
  obtain ⟨-, -, -, -, -, -, h6, h7⟩ := h
  obtain ⟨v, t, e, h1, h2⟩ := h7 k (by omega)
  have e := e hk
  subst e
  exact ⟨t, h1, h2⟩
/-- what holds of a row in every run: N bounds rounds and points -/
def kI (g : Nat → Int32) (k N : Nat) : Prop :=
  (g (kO k 1) = 0 ∨ g (kO k 1) = 1 ∨ g (kO k 1) = 2) ∧ (g (kO k 0) = 0 ∨ g (kO k 0) = 1 ∨ g (kO k 0) = 2) ∧ (0 ≤ g (kO k 4) ∧ g (kO k 4) ≤ 9) ∧ (0 ≤ g (kO k 3) ∧ g (kO k 3) ≤ 99) ∧ (-9 ≤ g (kO k 7) ∧ g (kO k 7) ≤ 9) ∧ (0 ≤ g (kO k 5) ∧ g (kO k 5) ≤ g (kO k 3)) ∧ (g (kO k 0) ≠ 1 → g (kO k 5) = 0) ∧
  (0 ≤ g (kO k 8) ∧ (g (kO k 8)).toInt ≤ N) ∧ (g (kO k 0) = 2 → 0 ≤ g (kO k 9) ∧ (0 ≤ g (kO k 10) ∧ g (kO k 10) ≤ 9)) ∧ g (kO k 3) = g (kO k 12) - g (kO k 13)
def gI (g : Nat → Int32) (mn N : Nat) : Prop :=
  (∀ q, q < 10 → (0 ≤ g (2 * q) ∧ g (2 * q) ≤ 9) ∧ (-3 ≤ g (2 * q + 1) ∧ g (2 * q + 1) ≤ 3)) ∧ (0 ≤ g 20 ∧ (g 20).toInt ≤ N) ∧ (g 25 = nI mn ∧ mn ≤ 6) ∧ ∀ k, k < mn → kI g k N
theorem gI.kind {g : Nat → Int32} {mn N k : Nat} (h : gI g mn N) (hk : k < mn) : g (kO k 1) = 0 ∨ g (kO k 1) = 1 ∨ g (kO k 1) = 2 := (h.2.2.2 k hk).1
theorem tSz_abs (x : Int32) : (if 0 ≤ x then x else 0 - x) = tSz x := by
  unfold tSz
  by_cases h : x < 0
  · rw [if_neg (Int32.not_le.mpr h), if_pos h]
    exact Int32.zero_sub x
  · rw [if_pos (Int32.not_lt.mp h), if_neg h]
section KTN
variable {p : Program} {l : Launch} {e : Env} {R : Room} {s : State} {m : MethodId} {args : Array Value} {below : List Frame} {meth : Method} {c : Code} {H : Heap} {locs : List Loc} {cells slots : Nat} {Q : State → Prop}
variable {cc : ByteArray} {pc : Nat} {ls : Array Slot} {rest st0 : List Value} {a : Nat} {E : gE} {w : wd} {τ : Nat × Nat}
theorem k_factor (hx : p.tables.exec = Jvm.exec) (hb : c.code = cc) {own : String} {index nL : Nat} (hml : c.maxLocals = nL) (hown : s.vm.findClass own = some m.cls) (hts : ∀ w ∈ lw_all, w.before args s = true) (hlink : Cond.methodLink own index ⟨"KiteRoofs$Make", "factor", "()I"⟩ ∈ lw_all) {x : Int32} (hx3 : x = 0 ∨ x = 1 ∨ x = 2) (hG : gK E s) (hP : wP E w H) (hS : va_S (gA E) s.heap H locs) (hsize : ls.size = nL) (hdg : decode cc pc = .ok (.invokevirtual index, 3)) (hR : 1 ≤ R.frames ∧ 20 ≤ R.locals) (hW : (rest.map fun v => v.category).sum ≤ 8) (hf : cells ≤ R.cells ∧ slots ≤ R.slots)
    (kk : ∀ (H1 : Heap) (locs1 : List Loc), wP E w H1 → va_S (gA E) s.heap H1 locs1 → W p l e R s m args below meth c H1 locs1 cells slots Q (F0 m (pc + 3) ls (.int (if x = 2 then 2 else 1) :: rest))) : W p l e R s m args below meth c H locs cells slots Q (F0 m pc ls (.ref (eM E x.toNatClampNeg) :: rest)) := by
  have hlocs : 2 * (F0 m pc ls (.ref (eM E x.toNatClampNeg) :: rest)).monitorRoom + (rest.map fun v => v.category).sum ≤ 8 := by show 2 * 0 + _ ≤ 8; omega
  rcases hx3 with h | h | h <;> subst h
  · refine k_cM (z := 0) (As := []) (rest := rest) hx hb hml hown hts (by decide) (CX4_factor l E w (eM E 0)) (va_cwU (x := ⟨"KiteRoofs$Make", "factor", "()I"⟩) (owner := "KiteRoofs$Make") 0 hts (lw_U hlink q816 q817 q815 q73 q822) rfl rfl rfl rfl (by decide) hR) hG hP hS rfl hsize rfl hlocs hdg hf (fun r w' H1 locs1 hp hP1 hS1 => ?_)
    obtain ⟨rfl, rfl⟩ := hp
    exact kk H1 locs1 hP1 hS1
  · refine k_cM (z := 1) (As := []) (rest := rest) hx hb hml hown hts (by decide) (CX4_factor l E w (eM E 1)) (va_cwU (x := ⟨"KiteRoofs$Make", "factor", "()I"⟩) (owner := "KiteRoofs$Make") 0 hts (lw_U hlink q816 q818 q815 q73 q822) rfl rfl rfl rfl (by decide) hR) hG hP hS rfl hsize rfl hlocs hdg hf (fun r w' H1 locs1 hp hP1 hS1 => ?_)
    obtain ⟨rfl, rfl⟩ := hp
    exact kk H1 locs1 hP1 hS1
  · exact k_kn (z := 2) (k0 := 1) (x := ⟨"KiteRoofs$Make", "factor", "()I"⟩) (owner := "KiteRoofs$Make") hx hb hml hown (by decide) (hts _ hlink) (hts _ q816) (va_Decl.of (x := ⟨"KiteRoofs$Make", "factor", "()I"⟩) (hts _ q815) (hts _ q822)) (by decide) (hts _ q819) (hts _ q820) (hts _ q821) (by decide) (by decide +kernel) (Or.inl ⟨dX18_factor_0, by decide⟩) dX18_factor_1 hG hS hsize hdg hR hW (kk H locs hP hS)
theorem k_area (hx : p.tables.exec = Jvm.exec) (hb : c.code = cc) {own : String} {index nL : Nat} (hml : c.maxLocals = nL) (hown : s.vm.findClass own = some m.cls) (hts : ∀ w ∈ lw_all, w.before args s = true) (hlink : Cond.methodLink own index ⟨"KiteRoofs$Make", "area", "()I"⟩ ∈ lw_all) {x : Int32} (hx3 : x = 0 ∨ x = 1 ∨ x = 2) (hG : gK E s) (hP : wP E w H) (hS : va_S (gA E) s.heap H locs) (hsize : ls.size = nL) (hdg : decode cc pc = .ok (.invokevirtual index, 3)) (hR : 1 ≤ R.frames ∧ 20 ≤ R.locals) (hW : (rest.map fun v => v.category).sum ≤ 8) (hf : cells ≤ R.cells ∧ slots ≤ R.slots)
    (kk : ∀ (H1 : Heap) (locs1 : List Loc), wP E w H1 → va_S (gA E) s.heap H1 locs1 → W p l e R s m args below meth c H1 locs1 cells slots Q (F0 m (pc + 3) ls (.int (if x = 0 then 2 else if x = 1 then 3 else 1) :: rest))) : W p l e R s m args below meth c H locs cells slots Q (F0 m pc ls (.ref (eM E x.toNatClampNeg) :: rest)) := by
  have hlocs : 2 * (F0 m pc ls (.ref (eM E x.toNatClampNeg) :: rest)).monitorRoom + (rest.map fun v => v.category).sum ≤ 8 := by show 2 * 0 + _ ≤ 8; omega
  rcases hx3 with h | h | h <;> subst h
  · exact k_kn (z := 0) (k0 := 1) (x := ⟨"KiteRoofs$Make", "area", "()I"⟩) (owner := "KiteRoofs$Make") hx hb hml hown (by decide) (hts _ hlink) (hts _ q830) (va_Decl.abs (x := ⟨"KiteRoofs$Make", "area", "()I"⟩) (hG.2.1.1 _ q829 rfl)) (by decide) (hts _ q831) (hts _ q832) (hts _ q833) (by decide) (by decide +kernel) (Or.inl ⟨dX16_area_0, by decide⟩) dX16_area_1 hG hS hsize hdg hR hW (kk H locs hP hS)
  · exact k_kn (z := 1) (k0 := 1) (x := ⟨"KiteRoofs$Make", "area", "()I"⟩) (owner := "KiteRoofs$Make") hx hb hml hown (by decide) (hts _ hlink) (hts _ q830) (va_Decl.abs (x := ⟨"KiteRoofs$Make", "area", "()I"⟩) (hG.2.1.1 _ q829 rfl)) (by decide) (hts _ q834) (hts _ q835) (hts _ q836) (by decide) (by decide +kernel) (Or.inl ⟨dX17_area_0, by decide⟩) dX17_area_1 hG hS hsize hdg hR hW (kk H locs hP hS)
  · exact k_kn (z := 2) (k0 := 1) (x := ⟨"KiteRoofs$Make", "area", "()I"⟩) (owner := "KiteRoofs$Make") hx hb hml hown (by decide) (hts _ hlink) (hts _ q830) (va_Decl.abs (x := ⟨"KiteRoofs$Make", "area", "()I"⟩) (hG.2.1.1 _ q829 rfl)) (by decide) (hts _ q837) (hts _ q838) (hts _ q839) (by decide) (by decide +kernel) (Or.inl ⟨dX18_area_0, by decide⟩) dX18_area_1 hG hS hsize hdg hR hW (kk H locs hP hS)
theorem k_hard (hx : p.tables.exec = Jvm.exec) (hb : c.code = cc) {own : String} {index nL : Nat} (hml : c.maxLocals = nL) (hown : s.vm.findClass own = some m.cls) (hts : ∀ w ∈ lw_all, w.before args s = true) (hlink : Cond.methodLink own index ⟨"KiteRoofs$Make", "hardness", "()I"⟩ ∈ lw_all) {x : Int32} (hx3 : x = 0 ∨ x = 1 ∨ x = 2) (hG : gK E s) (hP : wP E w H) (hS : va_S (gA E) s.heap H locs) (hsize : ls.size = nL) (hdg : decode cc pc = .ok (.invokevirtual index, 3)) (hR : 1 ≤ R.frames ∧ 20 ≤ R.locals) (hW : (rest.map fun v => v.category).sum ≤ 8) (hf : cells ≤ R.cells ∧ slots ≤ R.slots)
    (kk : ∀ (H1 : Heap) (locs1 : List Loc), wP E w H1 → va_S (gA E) s.heap H1 locs1 → W p l e R s m args below meth c H1 locs1 cells slots Q (F0 m (pc + 3) ls (.int (if x = 0 then 30 else if x = 1 then 50 else 20) :: rest))) : W p l e R s m args below meth c H locs cells slots Q (F0 m pc ls (.ref (eM E x.toNatClampNeg) :: rest)) := by
  have hlocs : 2 * (F0 m pc ls (.ref (eM E x.toNatClampNeg) :: rest)).monitorRoom + (rest.map fun v => v.category).sum ≤ 8 := by show 2 * 0 + _ ≤ 8; omega
  rcases hx3 with h | h | h <;> subst h
  · exact k_kn (z := 0) (k0 := 2) (x := ⟨"KiteRoofs$Make", "hardness", "()I"⟩) (owner := "KiteRoofs$Make") hx hb hml hown (by decide) (hts _ hlink) (hts _ q991) (va_Decl.abs (x := ⟨"KiteRoofs$Make", "hardness", "()I"⟩) (hG.2.1.1 _ q990 rfl)) (by decide) (hts _ q992) (hts _ q993) (hts _ q994) (by decide) (by decide +kernel) (Or.inr ⟨dX16_hardness_0, by decide⟩) dX16_hardness_2 hG hS hsize hdg hR hW (kk H locs hP hS)
  · exact k_kn (z := 1) (k0 := 2) (x := ⟨"KiteRoofs$Make", "hardness", "()I"⟩) (owner := "KiteRoofs$Make") hx hb hml hown (by decide) (hts _ hlink) (hts _ q991) (va_Decl.abs (x := ⟨"KiteRoofs$Make", "hardness", "()I"⟩) (hG.2.1.1 _ q990 rfl)) (by decide) (hts _ q995) (hts _ q996) (hts _ q997) (by decide) (by decide +kernel) (Or.inr ⟨dX17_hardness_0, by decide⟩) dX17_hardness_2 hG hS hsize hdg hR hW (kk H locs hP hS)
  · exact k_kn (z := 2) (k0 := 2) (x := ⟨"KiteRoofs$Make", "hardness", "()I"⟩) (owner := "KiteRoofs$Make") hx hb hml hown (by decide) (hts _ hlink) (hts _ q991) (va_Decl.abs (x := ⟨"KiteRoofs$Make", "hardness", "()I"⟩) (hG.2.1.1 _ q990 rfl)) (by decide) (hts _ q998) (hts _ q999) (hts _ q1000) (by decide) (by decide +kernel) (Or.inr ⟨dX18_hardness_0, by decide⟩) dX18_hardness_2 hG hS hsize hdg hR hW (kk H locs hP hS)
end KTN
