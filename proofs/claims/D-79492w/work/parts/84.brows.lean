/-! BYTES: rows -/
set_option maxRecDepth 100000
def by8 (x : Int32) : Int32 := vp_nar .byte x
def b8up (f : Nat → Int32) (j : Nat) (x : Int32) : Nat → Int32 := va_up f j (by8 x)
theorem by8_fit (x : Int32) : fits .byte (.int (by8 x)) = true := pk_fb _
theorem b8up_fit {f : Nat → Int32} {j : Nat} {x : Int32} (h : sb_Fit f) : sb_Fit (b8up f j x) := by
  intro k
  unfold b8up va_up
  split
  · exact by8_fit x
  · exact h k
section KBY
variable {p : Program} {l : Launch} {e : Env} {R : Room} {s : State} {m : MethodId} {args : Array Value} {below : List Frame} {meth : Method} {c : Code} {H : Heap} {locs : List Loc} {cells slots : Nat} {Q : State → Prop}
variable {cc : ByteArray} {pc : Nat} {ls : Array Slot} {rest st0 : List Value} {a : Nat} {E : gE} {w : wd} {τ : Nat × Nat}
theorem k_bald (hx : p.tables.exec = Jvm.exec) (hb : c.code = cc) (hG : gK E s) (hP : wP E w H) {n j : Nat} {f : Nat → Int32} (ha : w a = some (τ, .inl (eT E 3, n, .inl f))) (hn : n ≤ 65536) (hj : j < n) (hdg : decode cc pc = .ok (.baload, 1))
    (kk : W p l e R s m args below meth c H locs cells slots Q (F0 m (pc + 1) ls (.int (f j) :: rest))) : W p l e R s m args below meth c H locs cells slots Q (F0 m pc ls (.int (nI j) :: .ref a :: rest)) := by
  refine va_bald (ws := [(a, .inl (eT E 3, n, .inl f))]) hx hb hG.1 (hP.one ha) 0 3 rfl rfl (vp_in_nI hj (by omega)) hdg ?_
  rw [nI_clamp (by omega)]
  exact kk
theorem k_bastW (hx : p.tables.exec = Jvm.exec) (hb : c.code = cc) (hG : gK E s) (hP : wP E w H) (hS : va_S (gA E) s.heap H locs) {n j : Nat} {f : Nat → Int32} (ha : w a = some (τ, .inl (eT E 3, n, .inl f))) (hn : n ≤ 65536) (hj : j < n) {x : Int32} (hdg : decode cc pc = .ok (.bastore, 1))
    (kk : ∀ (w1 : wd) (H1 : Heap) (locs1 : List Loc), w1 a = some (τ, .inl (eT E 3, n, .inl (b8up f j x))) → fr (pO τ) w w1 → wP E w1 H1 → va_S (gA E) s.heap H1 locs1 → W p l e R s m args below meth c H1 locs1 cells slots Q (F0 m (pc + 1) ls rest)) : W p l e R s m args below meth c H locs cells slots Q (F0 m pc ls (.int x :: .int (nI j) :: .ref a :: rest)) := by
  obtain ⟨hE, h1⟩ := hP a _ _ ha
  have hin : vp_in (nI j) n := vp_in_nI hj (by omega)
  refine W.bast hx hb h1 ((hG.1.2 3 (eT E 3, .byte) rfl).1 n (fun j => .int (f j))) (fun q => by cases q) (by show ¬ (nI j < 0 ∨ (arrV _ _ _).slots.size ≤ _); rw [arrV_size]; exact hin) rfl rfl hdg fun H1 e z oq => ?_
  refine kk _ H1 _ wu_s (fr.rf.put ha rfl) (hP.set ha ?_ oq) (hS.put z oq hE)
  show H1[a]? = some (vp_cell _ _)
  rw [e, nI_clamp (by omega)]
  rw [vp_cell_i, vp_cell_i, arrV_store]
  congr 2
  funext q
  by_cases hq : q = j
  · subst hq
    simp [updV, b8up, va_up, by8, vp_nar]
    try rfl
  · simp [updV, b8up, va_up, hq]
theorem k_alenb (hx : p.tables.exec = Jvm.exec) (hb : c.code = cc) (hG : gK E s) (hP : wP E w H) {n : Nat} {f : Nat → Int32} (ha : w a = some (τ, .inl (eT E 3, n, .inl f))) (hdg : decode cc pc = .ok (.arraylength, 1))
    (kk : W p l e R s m args below meth c H locs cells slots Q (F0 m (pc + 1) ls (.int (nI n) :: rest))) : W p l e R s m args below meth c H locs cells slots Q (F0 m pc ls (.ref a :: rest)) :=
  va_alen (ws := [(a, .inl (eT E 3, n, .inl f))]) (v := nI n) hx hb hG.1 (hP.one ha) 0 3 rfl rfl rfl hdg kk
theorem k_newbW (hx : p.tables.exec = Jvm.exec) (hb : c.code = cc) (τ : Nat × Nat) (harr : (Cond.arrayClass .byte).before args s = true) (hG : gK E s) (hP : wP E w H) (hS : va_S (gA E) s.heap H locs) {n : Nat} (hn : n ≤ 65536) (hcells : cells + 1 ≤ R.cells) (hslots : slots + n ≤ R.slots) (hdg : decode cc pc = .ok (.newarray .byte, 2))
    (kk : ∀ (q : Nat) (w1 : wd) (H1 : Heap), w1 q = some (τ, .inl (eT E 3, n, .inl (fun _ => 0))) → fr pN w w1 → wP E w1 H1 → va_S (gA E) s.heap H1 locs →
      W p l e R s m args below meth c H1 locs (cells + 1) (slots + n) Q (F0 m (pc + 2) ls (.ref q :: rest))) : W p l e R s m args below meth c H locs cells slots Q (F0 m pc ls (.int (nI n) :: rest)) := by
  refine va_newaK (atype := .byte) hx hb harr rfl hdg rfl (nI_pos (by omega)) (nI_clamp (by omega)) (by show n * componentBytes .byte ≤ _; simp [componentBytes]; omega) hcells hslots rfl fun H1 cA e1 z1 o1 hAr hNm => ?_
  have hcA : cA = eT E 3 := Option.some.inj (hNm.symm.trans (hG.1.2 3 (eT E 3, .byte) rfl).2)
  subst hcA
  exact kk H.size _ H1 wu_s (fr.rf.new hP.fresh) (hP.new τ e1 (Nat.le_trans hG.2.2.1 hS.1) o1) ⟨Nat.le_trans hS.1 (by omega), fun x h1 h2 => (o1 x (Nat.lt_of_lt_of_le h1 hS.1)).trans (hS.2.1 x h1 h2), hS.2.2⟩
theorem k_copyb (hx : p.tables.exec = Jvm.exec) (hb : c.code = cc) (hml : c.maxLocals = ls.size) {own : String} {index : Nat} (hown : s.vm.findClass own = some m.cls) (hlink : (Cond.methodLink own index arraycopyName).before args s = true) (hnat : (Cond.native arraycopyName).before args s = true) (hstat : (Cond.static arraycopyName).before args s = true) (hini : (Cond.initialized "java/lang/System").before args s = true)
    (hG : gK E s) (hP : wP E w H) (hS : va_S (gA E) s.heap H locs) {a0 : Nat} {σ : Nat × Nat} {n0 n1 sp dp n : Nat} {f g : Nat → Int32} (ha0 : w a0 = some (σ, .inl (eT E 3, n0, .inl f))) (ha1 : w a = some (τ, .inl (eT E 3, n1, .inl g))) (hn0 : n0 ≤ 65536) (hn1 : n1 ≤ 65536) (hfit : sb_Fit f) (h4 : sp + n ≤ n0) (h5 : dp + n ≤ n1)
    (hframes : 1 ≤ R.frames) (hlocals : (rest.map fun v => v.category).sum + (nativeFrameWords "java/lang/System" "arraycopy" 5 + 11) ≤ R.locals) (hdg : decode cc pc = .ok (.invokestatic index, 3))
    (kk : ∀ (H1 : Heap) (locs1 : List Loc), wP E (wu w a (τ, .inl (eT E 3, n1, .inl (va_cpy f g sp dp n)))) H1 → va_S (gA E) s.heap H1 locs1 → W p l e R s m args below meth c H1 locs1 cells slots Q (F0 m (pc + 3) ls rest)) : W p l e R s m args below meth c H locs cells slots Q (F0 m pc ls (.int (nI n) :: .int (nI dp) :: .ref a :: .int (nI sp) :: .ref a0 :: rest)) := by
  have e1 : (nI sp).toNatClampNeg = sp := nI_clamp (by omega)
  have e2 : (nI dp).toNatClampNeg = dp := nI_clamp (by omega)
  have e3 : (nI n).toNatClampNeg = n := nI_clamp (by omega)
  have i1 : (nI sp).toInt = sp := nI_toInt (by omega)
  have i2 : (nI dp).toInt = dp := nI_toInt (by omega)
  have i3 : (nI n).toInt = n := nI_toInt (by omega)
  obtain ⟨hE0, hc0⟩ := hP a0 _ _ ha0
  obtain ⟨hE1, hc1⟩ := hP a _ _ ha1
  have hc0 : H[a0]? = some (vp_cell (eT E 3) (n0, .inl f)) := hc0
  have hc1 : H[a]? = some (vp_cell (eT E 3) (n1, .inl g)) := hc1
  intro T hT X
  obtain ⟨-, k0, hk0, cm0, hkk0⟩ := (hG.1.2 3 (eT E 3, .byte) rfl).1 n0 (fun j => .int (f j))
  obtain ⟨-, k1, hk1, cm1, hkk1⟩ := (hG.1.2 3 (eT E 3, .byte) rfl).1 n1 (fun j => .int (g j))
  obtain ⟨vm', X', step⟩ := X.arraycopy hx hown hlink hnat hstat hini (src := a0) (dst := a) (cs := vp_cell (eT E 3) (n0, .inl f)) (cd := vp_cell (eT E 3) (n1, .inl g)) (srcPos := nI sp) (destPos := nI dp) (n := nI n) (by rw [hT]; exact hc0) (by rw [hT]; exact hc1)
    (fun _ h => by cases h) (fun _ h => by cases h) (fun h => by cases h) (fun h => by cases h) hk0 hk1 hkk0 hkk1 (by simp [refKind]) (nI_pos (by omega)) (nI_pos (by omega)) (nI_pos (by omega))
    (by rw [i1, i3]; show ¬ _ > ((arrV (eT E 3) n0 (fun j => .int (f j))).slots.size : Int); rw [arrV_size]; omega)
    (by rw [i2, i3]; show ¬ _ > ((arrV (eT E 3) n1 (fun j => .int (g j))).slots.size : Int); rw [arrV_size]; omega)
    (fun vm₁ _ i hi => by
      rw [e3] at hi
      have e : (vp_cell (eT E 3) (n0, .inl f)).slots.getD ((nI sp).toNatClampNeg + i) .null = .int (f (sp + i)) := by
        show (arrV (eT E 3) n0 (fun j => .int (f j))).slots.getD _ _ = _
        rw [Array.getD_eq_getD_getElem?, e1, arrV_read _ _ (by omega)]
        rfl
      refine ⟨?_, ?_⟩
      · rw [e]; exact hfit _
      · rw [e]; exact trivial)
    (g := F0 m pc ls (.int (nI n) :: .int (nI dp) :: .ref a :: .int (nI sp) :: .ref a0 :: rest)) rfl (by rw [hml]) (rest := rest) rfl (by rw [hb]; exact hdg) hframes (by show 2 * 0 + _ + _ ≤ _; omega)
  have e0 : copied (vp_cell (eT E 3) (n0, .inl f)) (vp_cell (eT E 3) (n1, .inl g)) (nI sp) (nI dp) (nI n) = vp_cell (eT E 3) (n1, .inl (va_cpy f g sp dp n)) := by
    have h9 : copied (vp_cell (eT E 3) (n0, .inl f)) (vp_cell (eT E 3) (n1, .inl g)) (nI sp) (nI dp) (nI n) = vp_cell (eT E 3) (n1, .inl (va_cpy f g (nI sp).toNatClampNeg (nI dp).toNatClampNeg (nI n).toNatClampNeg)) := va_copied (fun z => .int z) (eT E 3) (eT E 3) f g (show (nI sp).toNatClampNeg + (nI n).toNatClampNeg ≤ n0 by rw [e1, e3]; exact h4)
    rw [e1, e2, e3] at h9
    exact h9
  rw [e0] at X' step
  have hl : a < H.size := (Array.getElem?_eq_some_iff.mp hc1).1
  have hheap : ((T.setVm vm').setCell a (vp_cell (eT E 3) (n1, .inl (va_cpy f g sp dp n)))).heap = H.setIfInBounds a (vp_cell (eT E 3) (n1, .inl (va_cpy f g sp dp n))) := by rw [← hT]; rfl
  have oq : ∀ q : Nat, q ≠ a → (H.setIfInBounds a (vp_cell (eT E 3) (n1, .inl (va_cpy f g sp dp n))))[q]? = H[q]? := fun q hq => by simp [Array.getElem?_setIfInBounds, Ne.symm hq]
  obtain ⟨t, a1, b1⟩ := kk _ _ (hP.set ha1 (show (H.setIfInBounds a _)[a]? = some _ by simp [Array.getElem?_setIfInBounds, hl]) oq) ⟨by simp; exact hS.1, fun q g1 g2 => by
      rw [oq q (fun e => g2 (by rw [e]; exact hE1))]
      exact hS.2.1 q g1 g2, fun q hq => by
      rcases List.mem_append.mp hq with h | h
      · exact hS.2.2 q h
      · obtain ⟨z, -, hz⟩ := List.mem_map.mp h
        rw [← hz]
        exact hE1⟩ _ hheap X'
  exact ⟨t, step t a1, b1⟩
theorem k_copybW (hx : p.tables.exec = Jvm.exec) (hb : c.code = cc) (hml : c.maxLocals = ls.size) {own : String} {index : Nat} (hown : s.vm.findClass own = some m.cls) (hlink : (Cond.methodLink own index arraycopyName).before args s = true) (hnat : (Cond.native arraycopyName).before args s = true) (hstat : (Cond.static arraycopyName).before args s = true) (hini : (Cond.initialized "java/lang/System").before args s = true)
    (hG : gK E s) (hP : wP E w H) (hS : va_S (gA E) s.heap H locs) {a0 : Nat} {σ : Nat × Nat} {n0 n1 sp dp n : Nat} {f g : Nat → Int32} (ha0 : w a0 = some (σ, .inl (eT E 3, n0, .inl f))) (ha1 : w a = some (τ, .inl (eT E 3, n1, .inl g))) (hn0 : n0 ≤ 65536) (hn1 : n1 ≤ 65536) (hfit : sb_Fit f) (h4 : sp + n ≤ n0) (h5 : dp + n ≤ n1)
    (hframes : 1 ≤ R.frames) (hlocals : (rest.map fun v => v.category).sum + (nativeFrameWords "java/lang/System" "arraycopy" 5 + 11) ≤ R.locals) (hdg : decode cc pc = .ok (.invokestatic index, 3))
    (kk : ∀ (w1 : wd) (H1 : Heap) (locs1 : List Loc), w1 a = some (τ, .inl (eT E 3, n1, .inl (va_cpy f g sp dp n))) → fr (pO τ) w w1 → wP E w1 H1 → va_S (gA E) s.heap H1 locs1 → W p l e R s m args below meth c H1 locs1 cells slots Q (F0 m (pc + 3) ls rest)) : W p l e R s m args below meth c H locs cells slots Q (F0 m pc ls (.int (nI n) :: .int (nI dp) :: .ref a :: .int (nI sp) :: .ref a0 :: rest)) :=
  k_copyb hx hb hml hown hlink hnat hstat hini hG hP hS ha0 ha1 hn0 hn1 hfit h4 h5 hframes hlocals hdg (fun H1 locs1 hP1 hS1 => kk _ H1 locs1 wu_s (fr.rf.put ha1 rfl) hP1 hS1)
theorem k_clonebW (hx : p.tables.exec = Jvm.exec) (hb : c.code = cc) (σ : Nat × Nat) (hml : c.maxLocals = ls.size) {own : String} {index : Nat} (hown : s.vm.findClass own = some m.cls) (hts : ∀ w ∈ lw_all, w.before args s = true)
    (hlink : Cond.methodLink own index ⟨"[B", "clone", "()Ljava/lang/Object;"⟩ ∈ lw_all) (hcl : va_Nw (.castable "[B" "java/lang/Cloneable") s)
    (hG : gK E s) (hP : wP E w H) (hS : va_S (gA E) s.heap H locs) {n : Nat} {f : Nat → Int32} (ha : w a = some (τ, .inl (eT E 3, n, .inl f))) (hfit : sb_Fit f)
    (hframes : 1 ≤ R.frames) (hlocals : (rest.map fun v => v.category).sum + 14 ≤ R.locals) (hcells : cells + 1 ≤ R.cells) (hslots : slots + n ≤ R.slots) (hdg : decode cc pc = .ok (.invokevirtual index, 3))
    (kk : ∀ (q : Nat) (w1 : wd) (H1 : Heap), w1 q = some (σ, .inl (eT E 3, n, .inl f)) → fr pN w w1 → wP E w1 H1 → va_S (gA E) s.heap H1 locs →
      W p l e R s m args below meth c H1 locs (cells + 1) (slots + n) Q (F0 m (pc + 3) ls (.ref q :: rest))) : W p l e R s m args below meth c H locs cells slots Q (F0 m pc ls (.ref a :: rest)) := by
  obtain ⟨c0, t0', f1, f2, f3⟩ := Cond.castable_spec (va_Nw.use (A := args) rfl hcl)
  have hnm : s.vm.findClass "[B" = some (eT E 3) := va_nm_byte (hG.1.2 3 (eT E 3, .byte) rfl).2
  cases hnm.symm.trans f1
  have hc1 : H[a]? = some (vp_cell (eT E 3) (n, .inl f)) := (hP a _ _ ha).2
  have hsz : (vp_cell (eT E 3) (n, .inl f)).slots.size = n := arrV_size _ _ _
  intro T hT X
  have hcellT : T.heap[a]? = some (vp_cell (eT E 3) (n, .inl f)) := by rw [hT]; exact hc1
  obtain ⟨-, kA, hkA, comp, hkind⟩ := State.isArrayOf_alike X.warmed.alike ((hG.1.2 3 (eT E 3, .byte) rfl).1 0 (fun _ => .null))
  obtain ⟨-, kS, hkS, compS, hkindS⟩ := (hG.1.2 3 (eT E 3, .byte) rfl).1 0 (fun _ => .null)
  obtain ⟨vm', X', st⟩ := X.cloneArray hx hown (hts _ hlink) (hts _ q1120) (hts _ q1121) (hts _ q1122) (hts _ q1123) (a := a) (cell := vp_cell (eT E 3) (n, .inl f)) hcellT (fun k h => by cases h) (fun h => by cases h) hnm f2 f3
    (fun i v hv => by
      have hk' : T.vm.classes[eT E 3]? = some kA := hkA
      have hv' : (arrV (eT E 3) n (fun j => .int (f j))).slots[i]? = some v := hv
      have hi : i < n := by
        have := (Array.getElem?_eq_some_iff.mp hv').1
        rwa [arrV_size] at this
      rw [arrV_read _ _ hi] at hv'
      cases hv'
      have h0 : (vp_cell (eT E 3) (n, .inl f)).cls = eT E 3 := rfl
      rw [h0]
      simpa [State.fitsSlot, State.slotType?, hk', hkind] using hfit i)
    (g := F0 m pc ls (.ref a :: rest)) rfl (by rw [hml]) rfl (by rw [hb]; exact hdg) hframes (by show 2 * 0 + _ + 14 ≤ _; omega) hcells (by rw [hsz]; exact hslots) (hloader := Vm.clonesLoader_of_array hkS hkindS)
  rw [hsz] at X'
  have hcellE : ({ cls := (vp_cell (eT E 3) (n, .inl f)).cls, slots := (vp_cell (eT E 3) (n, .inl f)).slots } : Cell) = vp_cell (eT E 3) (n, .inl f) := rfl
  rw [hcellE] at X' st
  generalize hH1 : H.push (vp_cell (eT E 3) (n, .inl f)) = H1
  have z1 : H1.size = H.size + 1 := by rw [← hH1, Array.size_push]
  have e1 : H1[H.size]? = some (vp_cell (eT E 3) (n, .inl f)) := by rw [← hH1, Array.getElem?_push_size]
  have o1 : ∀ q : Nat, q < H.size → H1[q]? = H[q]? := fun q hq => by rw [← hH1, Array.getElem?_push, if_neg (Nat.ne_of_lt hq)]
  obtain ⟨t, b1, b2⟩ := kk H.size _ H1 wu_s (fr.rf.new hP.fresh) (hP.new σ e1 (Nat.le_trans hG.2.2.1 hS.1) o1) ⟨Nat.le_trans hS.1 (by omega), fun x h1 h2 => (o1 x (Nat.lt_of_lt_of_le h1 hS.1)).trans (hS.2.1 x h1 h2), hS.2.2⟩
    ((T.setVm vm').pushCell (vp_cell (eT E 3) (n, .inl f))) (by rw [← hH1, ← hT]; rfl) X'
  refine ⟨t, st t ?_, b2⟩
  rw [hT]
  exact b1
/-- a checkcast of an array of bytes to its own class -/
theorem k_castB (hx : p.tables.exec = Jvm.exec) (hb : c.code = cc) {own : String} {index : Nat} (hown : s.vm.findClass own = some m.cls) (hlink : (Cond.classLink own index "[B").before args s = true) (hG : gK E s) (hP : wP E w H) {n : Nat} {f : Nat → Int32} (ha : w a = some (τ, .inl (eT E 3, n, .inl f))) (hdg : decode cc pc = .ok (.checkcast index, 3))
    (kk : W p l e R s m args below meth c H locs cells slots Q (F0 m (pc + 3) ls (.ref a :: rest))) : W p l e R s m args below meth c H locs cells slots Q (F0 m pc ls (.ref a :: rest)) :=
  va_castA (ws := [(a, .inl (eT E 3, n, .inl f))]) hx hb hown hlink (hP.one ha) 0 rfl (va_nm_byte (hG.1.2 3 (eT E 3, .byte) rfl).2) hdg kk
/-- the library's switches -/
theorem k_getZ (hx : p.tables.exec = Jvm.exec) (hb : c.code = cc) {own ref C n d : String} {v : Int32} {index : Nat} (hq : (C, n, d, v) ∈ gZs) (hown : s.vm.findClass own = some m.cls) (hG : gK E s) (hS : va_S (gA E) s.heap H locs) (hlink : (Cond.fieldLink own index ref n d).before args s = true) (hsame : ∀ x, s.fieldFound? C n d = some x → s.fieldFound? ref n d = some x) (hdg : decode cc pc = .ok (.getstatic index, 3))
    (kk : W p l e R s m args below meth c H locs cells slots Q (F0 m (pc + 3) ls (.int v :: rest))) : W p l e R s m args below meth c H locs cells slots Q (F0 m pc ls rest) :=
  va_gets hx hb (hG.2.2.2.2.1 _ hq) hS hown hlink hsame hdg kk
/-- .. and one that is null or a reference -/
theorem k_getQ (hx : p.tables.exec = Jvm.exec) (hb : c.code = cc) {own ref C n d : String} {index : Nat} (hZ : va_Zq C n d (gA E) s s.heap) (hown : s.vm.findClass own = some m.cls) (hS : va_S (gA E) s.heap H locs) (hlink : (Cond.fieldLink own index ref n d).before args s = true) (hsame : ∀ x, s.fieldFound? C n d = some x → s.fieldFound? ref n d = some x) (hdg : decode cc pc = .ok (.getstatic index, 3))
    (kk : ∀ v : Option Nat, W p l e R s m args below meth c H locs cells slots Q (F0 m (pc + 3) ls (va_rf v :: rest))) : W p l e R s m args below meth c H locs cells slots Q (F0 m pc ls rest) := by
  rcases hZ with h | ⟨t, h⟩
  · exact va_gets hx hb h hS hown hlink hsame hdg (kk none)
  · exact va_gets hx hb h hS hown hlink hsame hdg (kk (some t))
end KBY
