/-! LAW, 1: long and double arrays -/
set_option maxRecDepth 100000
section KLR
variable {p : Program} {l : Launch} {e : Env} {R : Room} {s : State} {m : MethodId} {args : Array Value} {below : List Frame} {meth : Method} {c : Code} {H : Heap} {locs : List Loc} {cells slots : Nat} {Q : State → Prop}
variable {cc : ByteArray} {pc : Nat} {ls : Array Slot} {rest st0 : List Value} {a : Nat} {E : gE} {w : wd} {τ : Nat × Nat}
theorem lv_lcmpE (hx : p.tables.exec = Jvm.exec) (hb : c.code = cc) {x : Int64} (hdg : decode cc pc = .ok (.lcmp, 1))
    (k : W p l e R s m args below meth c H locs cells slots Q (F0 m (pc + 1) ls (.int 0 :: rest))) : W p l e R s m args below meth c H locs cells slots Q (F0 m pc ls (.long x :: .long x :: rest)) := by
  intro T hT X
  obtain ⟨t, a, b⟩ := k T hT X
  refine ⟨t, ?_, b⟩
  jvm_step X.here [X.here.top, hx, hb, hdg]
  exact a
/-- a long array of one place; a double array -/
abbrev lA (E : gE) (w : wd) (o : Nat) (v : Int64) : Prop := ∃ f : Nat → Int64, f 0 = v ∧ w o = some ((100, 0), .inl (eT E 1, 1, .inr (.inl f)))
abbrev dA (E : gE) (w : wd) (o : Nat) (v : UInt64) : Prop := ∃ f : Nat → UInt64, f 0 = v ∧ w o = some ((101, 0), .inl (eT E 2, 1, .inr (.inr (.inr (.inl f)))))
theorem k_lald (hx : p.tables.exec = Jvm.exec) (hb : c.code = cc) (hG : gK E s) (hP : wP E w H) {v : Int64} (ha : lA E w a v) (hdg : decode cc pc = .ok (.laload, 1))
    (kk : W p l e R s m args below meth c H locs cells slots Q (F0 m (pc + 1) ls (.long v :: rest))) : W p l e R s m args below meth c H locs cells slots Q (F0 m pc ls (.int 0 :: .ref a :: rest)) := by
  obtain ⟨f, h0, ha⟩ := ha
  refine va_lald (ws := [(a, .inl (eT E 1, 1, .inr (.inl f)))]) hx hb hG.1 (hP.one ha) 0 1 rfl rfl (vp_in_nI (n := 0) (N := 1) (by decide) (by decide)) hdg ?_
  rw [show Int32.toNatClampNeg 0 = 0 from rfl, h0]
  exact kk
theorem k_dald (hx : p.tables.exec = Jvm.exec) (hb : c.code = cc) (hG : gK E s) (hP : wP E w H) {v : UInt64} (ha : dA E w a v) (hdg : decode cc pc = .ok (.daload, 1))
    (kk : W p l e R s m args below meth c H locs cells slots Q (F0 m (pc + 1) ls (.double v :: rest))) : W p l e R s m args below meth c H locs cells slots Q (F0 m pc ls (.int 0 :: .ref a :: rest)) := by
  obtain ⟨f, h0, ha⟩ := ha
  refine va_dald (ws := [(a, .inl (eT E 2, 1, .inr (.inr (.inr (.inl f)))))]) hx hb hG.1 (hP.one ha) 0 2 rfl rfl (vp_in_nI (n := 0) (N := 1) (by decide) (by decide)) hdg ?_
  rw [show Int32.toNatClampNeg 0 = 0 from rfl, h0]
  exact kk
theorem k_last (hx : p.tables.exec = Jvm.exec) (hb : c.code = cc) (hG : gK E s) (hP : wP E w H) (hS : va_S (gA E) s.heap H locs) {v0 v : Int64} (ha : lA E w a v0) (hdg : decode cc pc = .ok (.lastore, 1))
    (kk : ∀ (w1 : wd) (H1 : Heap) (locs1 : List Loc), lA E w1 a v → fr (pO (100, 0)) w w1 → wP E w1 H1 → va_S (gA E) s.heap H1 locs1 → W p l e R s m args below meth c H1 locs1 cells slots Q (F0 m (pc + 1) ls rest)) : W p l e R s m args below meth c H locs cells slots Q (F0 m pc ls (.long v :: .int 0 :: .ref a :: rest)) := by
  obtain ⟨f, h0, ha⟩ := ha
  obtain ⟨hE, h1⟩ := hP a _ _ ha
  refine W.last hx hb h1 ((hG.1.2 1 (eT E 1, .long) rfl).1 1 (fun j => .long (f j))) (fun q => by cases q) (by show ¬ ((0 : Int32) < 0 ∨ (arrV _ _ _).slots.size ≤ Int32.toNatClampNeg 0); rw [arrV_size]; exact vp_in_nI (n := 0) (N := 1) (by decide) (by decide)) rfl rfl hdg fun H1 e z oq => ?_
  refine kk _ H1 _ ⟨vp_updL f 0 v, by simp [vp_updL], wu_s⟩ (fr.rf.put ha rfl) (hP.set ha ?_ oq) (hS.put z oq hE)
  show H1[a]? = some (vp_cell _ _)
  rw [e]
  rw [vp_cell_l, vp_cell_l, arrV_store]
  congr 2
  funext q
  by_cases hq : q = 0
  · subst hq
    simp [updV, vp_updL]
  · simp [updV, vp_updL, hq]
theorem k_dast (hx : p.tables.exec = Jvm.exec) (hb : c.code = cc) (hG : gK E s) (hP : wP E w H) (hS : va_S (gA E) s.heap H locs) {v0 v : UInt64} (ha : dA E w a v0) (hdg : decode cc pc = .ok (.dastore, 1))
    (kk : ∀ (w1 : wd) (H1 : Heap) (locs1 : List Loc), dA E w1 a v → fr (pO (101, 0)) w w1 → wP E w1 H1 → va_S (gA E) s.heap H1 locs1 → W p l e R s m args below meth c H1 locs1 cells slots Q (F0 m (pc + 1) ls rest)) : W p l e R s m args below meth c H locs cells slots Q (F0 m pc ls (.double v :: .int 0 :: .ref a :: rest)) := by
  obtain ⟨f, h0, ha⟩ := ha
  obtain ⟨hE, h1⟩ := hP a _ _ ha
  refine W.dast hx hb h1 ((hG.1.2 2 (eT E 2, .double) rfl).1 1 (fun j => .double (f j))) (fun q => by cases q) (by show ¬ ((0 : Int32) < 0 ∨ (arrV _ _ _).slots.size ≤ Int32.toNatClampNeg 0); rw [arrV_size]; exact vp_in_nI (n := 0) (N := 1) (by decide) (by decide)) rfl rfl hdg fun H1 e z oq => ?_
  refine kk _ H1 _ ⟨vf_upd f 0 v, by simp [vf_upd], wu_s⟩ (fr.rf.put ha rfl) (hP.set ha ?_ oq) (hS.put z oq hE)
  show H1[a]? = some (vp_cell _ _)
  rw [e]
  rw [vp_cell_d, vp_cell_d, arrV_store]
  congr 2
  funext q
  by_cases hq : q = 0
  · subst hq
    simp [updV, vf_upd]
  · simp [updV, vf_upd, hq]
theorem k_newl (hx : p.tables.exec = Jvm.exec) (hb : c.code = cc) (harr : (Cond.arrayClass .long).before args s = true) (hG : gK E s) (hP : wP E w H) (hS : va_S (gA E) s.heap H locs) (hcells : cells + 1 ≤ R.cells) (hslots : slots + 1 ≤ R.slots) (hdg : decode cc pc = .ok (.newarray .long, 2))
    (kk : ∀ (q : Nat) (w1 : wd) (H1 : Heap), lA E w1 q 0 → fr pN w w1 → wP E w1 H1 → va_S (gA E) s.heap H1 locs →
      W p l e R s m args below meth c H1 locs (cells + 1) (slots + 1) Q (F0 m (pc + 2) ls (.ref q :: rest))) : W p l e R s m args below meth c H locs cells slots Q (F0 m pc ls (.int 1 :: rest)) := by
  refine va_newaK (atype := .long) hx hb harr rfl hdg rfl (by decide) (N := 1) rfl (by show 1 * componentBytes .long ≤ _; simp [componentBytes]) hcells hslots rfl fun H1 cA e1 z1 o1 hAr hNm => ?_
  have hcA : cA = eT E 1 := Option.some.inj (hNm.symm.trans (hG.1.2 1 (eT E 1, .long) rfl).2)
  subst hcA
  exact kk H.size _ H1 ⟨fun _ => 0, rfl, wu_s⟩ (fr.rf.new hP.fresh) (hP.new (100, 0) e1 (Nat.le_trans hG.2.2.1 hS.1) o1) ⟨Nat.le_trans hS.1 (by omega), fun x h1 h2 => (o1 x (Nat.lt_of_lt_of_le h1 hS.1)).trans (hS.2.1 x h1 h2), hS.2.2⟩
theorem k_newd (hx : p.tables.exec = Jvm.exec) (hb : c.code = cc) (harr : (Cond.arrayClass .double).before args s = true) (hG : gK E s) (hP : wP E w H) (hS : va_S (gA E) s.heap H locs) (hcells : cells + 1 ≤ R.cells) (hslots : slots + 1 ≤ R.slots) (hdg : decode cc pc = .ok (.newarray .double, 2))
    (kk : ∀ (q : Nat) (w1 : wd) (H1 : Heap), dA E w1 q 0 → fr pN w w1 → wP E w1 H1 → va_S (gA E) s.heap H1 locs →
      W p l e R s m args below meth c H1 locs (cells + 1) (slots + 1) Q (F0 m (pc + 2) ls (.ref q :: rest))) : W p l e R s m args below meth c H locs cells slots Q (F0 m pc ls (.int 1 :: rest)) := by
  refine va_newaK (atype := .double) hx hb harr rfl hdg rfl (by decide) (N := 1) rfl (by show 1 * componentBytes .double ≤ _; simp [componentBytes]) hcells hslots rfl fun H1 cA e1 z1 o1 hAr hNm => ?_
  have hcA : cA = eT E 2 := Option.some.inj (hNm.symm.trans (hG.1.2 2 (eT E 2, .double) rfl).2)
  subst hcA
  exact kk H.size _ H1 ⟨fun _ => 0, rfl, wu_s⟩ (fr.rf.new hP.fresh) (hP.new (101, 0) e1 (Nat.le_trans hG.2.2.1 hS.1) o1) ⟨Nat.le_trans hS.1 (by omega), fun x h1 h2 => (o1 x (Nat.lt_of_lt_of_le h1 hS.1)).trans (hS.2.1 x h1 h2), hS.2.2⟩
theorem lA.fr {P : Nat × Nat → Prop} {w1 : wd} {o : Nat} {v : Int64} (h : lA E w o v) (hf : fr P w w1) (h0 : ¬ P (100, 0)) : lA E w1 o v := by
  obtain ⟨f, h1, h2⟩ := h
  exact ⟨f, h1, hf _ _ _ h2 h0⟩
theorem dA.fr {P : Nat × Nat → Prop} {w1 : wd} {o : Nat} {v : UInt64} (h : dA E w o v) (hf : fr P w w1) (h0 : ¬ P (101, 0)) : dA E w1 o v := by
  obtain ⟨f, h1, h2⟩ := h
  exact ⟨f, h1, hf _ _ _ h2 h0⟩
end KLR
