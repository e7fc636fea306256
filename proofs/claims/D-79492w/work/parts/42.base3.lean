/-! BASE, 3: rows with the world changed at one place -/
set_option maxRecDepth 100000
def pO (τ0 : Nat × Nat) : Nat × Nat → Prop := fun t => t = τ0
def pN : Nat × Nat → Prop := fun _ => False
def pK (i k : Nat) : Nat × Nat → Prop := fun t => t = (i, 6 + k) ∨ t = (i, 12 + k)
def pT (i : Nat) : Nat × Nat → Prop := fun t => t.1 = i ∨ t.1 = 93
/-- an object made has another tag from now on -/
theorem k_retag {E : gE} {w : wd} {H : Heap} {a : Nat} {τ : Nat × Nat} {e : va_E} (τ1 : Nat × Nat) (hP : wP E w H) (h : w a = some (τ, e)) : ∃ w1 : wd, w1 a = some (τ1, e) ∧ fr (pO τ) w w1 ∧ wP E w1 H := by
  refine ⟨wu w a (τ1, e), wu_s, fun b σ f hb n => ?_, fun b σ f hb => ?_⟩
  · by_cases e1 : b = a
    · subst e1
      rw [h] at hb
      cases hb
      exact absurd rfl n
    · rw [wu_n e1]; exact hb
  · by_cases e1 : b = a
    · subst e1
      rw [wu_s] at hb
      cases hb
      exact hP b τ e h
    · rw [wu_n e1] at hb
      exact hP b σ f hb
section KB3
variable {p : Program} {l : Launch} {e : Env} {R : Room} {s : State} {m : MethodId} {args : Array Value} {below : List Frame} {meth : Method} {c : Code} {H : Heap} {locs : List Loc} {cells slots : Nat} {Q : State → Prop}
variable {cc : ByteArray} {pc : Nat} {ls : Array Slot} {rest st0 : List Value} {a : Nat} {E : gE} {w : wd} {τ : Nat × Nat}
theorem k_putW (hx : p.tables.exec = Jvm.exec) (hb : c.code = cc) {own ref C : String} {T : u_T} {N ci index : Nat} (hts : ∀ w ∈ lw_all, w.before args s = true) (hin : ∀ w ∈ u_ws C T N, w ∈ lw_all) (ty0 : Nat → FieldType) (hty : ∀ k, k < N → parseFieldDescriptor (T k).2.2.1 = some (ty0 k)) (hnm : ∀ a, a < N → ∀ b, b < N → a ≠ b → (T a).2.1 ≠ (T b).2.1) (hown : s.vm.findClass own = some m.cls) (hG : gK E s) (hP : wP E w H) (hS0 : va_S (gA E) s.heap H locs) {fs : List Value} (he : w a = some (τ, .inr (ci, fs))) (hc : gCl[ci]? = some (C, T, N)) (k : Nat) (hk : k < N) (hlink : (Cond.fieldLink own index ref (T k).2.1 (T k).2.2.1).before args s = true) (hsame : ∀ x, s.fieldFound? (T k).1 (T k).2.1 (T k).2.2.1 = some x → s.fieldFound? ref (T k).2.1 (T k).2.2.1 = some x) (hfin : (T k).2.2.2 = false) {ty : FieldType} {v : Value} (hd : parseFieldDescriptor (T k).2.2.1 = some ty) (hn : narrow ty v = v) (hfit : fits ty v = true) (hl : k < fs.length)
    (hdg : decode cc pc = .ok (.putfield index, 3)) (kk : ∀ (w1 : wd) (H1 : Heap) (locs1 : List Loc), w1 a = some (τ, .inr (ci, fs.set k v)) → fr (pO τ) w w1 → wP E w1 H1 → va_S (gA E) s.heap H1 locs1 → W p l e R s m args below meth c H1 locs1 cells slots Q (F0 m (pc + 3) ls rest)) : W p l e R s m args below meth c H locs cells slots Q (F0 m pc ls (v :: .ref a :: rest)) :=
  k_put hx hb hts hin ty0 hty hnm hown hG hP hS0 he hc k hk hlink hsame hfin hd hn hfit hl hdg (fun H1 locs1 hP1 hS1 => kk _ H1 locs1 wu_s (fr.rf.put he rfl) hP1 hS1)
theorem k_putNW (hx : p.tables.exec = Jvm.exec) (hb : c.code = cc) {own ref C host : String} {T : u_T} {N ci index : Nat} (hts : ∀ w ∈ lw_all, w.before args s = true) (hin : ∀ w ∈ u_ws C T N, w ∈ lw_all) (ty0 : Nat → FieldType) (hty : ∀ k, k < N → parseFieldDescriptor (T k).2.2.1 = some (ty0 k)) (hnm : ∀ a, a < N → ∀ b, b < N → a ≠ b → (T a).2.1 ≠ (T b).2.1) (hown : s.vm.findClass own = some m.cls) (hG : gK E s) (hP : wP E w H) (hS0 : va_S (gA E) s.heap H locs) {fs : List Value} (he : w a = some (τ, .inr (ci, fs))) (hc : gCl[ci]? = some (C, T, N)) (k : Nat) (hk : k < N) (hlink : va_Nw (Cond.fieldLinkNest own index ref (T k).2.1 (T k).2.2.1 host) s) (hsame : ∀ x, s.fieldFound? (T k).1 (T k).2.1 (T k).2.2.1 = some x → s.fieldFound? ref (T k).2.1 (T k).2.2.1 = some x) (hfin : (T k).2.2.2 = false) {ty : FieldType} {v : Value} (hd : parseFieldDescriptor (T k).2.2.1 = some ty) (hn : narrow ty v = v) (hfit : fits ty v = true) (hl : k < fs.length)
    (hdg : decode cc pc = .ok (.putfield index, 3)) (kk : ∀ (w1 : wd) (H1 : Heap) (locs1 : List Loc), w1 a = some (τ, .inr (ci, fs.set k v)) → fr (pO τ) w w1 → wP E w1 H1 → va_S (gA E) s.heap H1 locs1 → W p l e R s m args below meth c H1 locs1 cells slots Q (F0 m (pc + 3) ls rest)) : W p l e R s m args below meth c H locs cells slots Q (F0 m pc ls (v :: .ref a :: rest)) :=
  k_putN hx hb hts hin ty0 hty hnm hown hG hP hS0 he hc k hk hlink hsame hfin hd hn hfit hl hdg (fun H1 locs1 hP1 hS1 => kk _ H1 locs1 wu_s (fr.rf.put he rfl) hP1 hS1)
theorem k_putFW (hx : p.tables.exec = Jvm.exec) (hb : c.code = cc) {own ref C : String} {T : u_T} {N ci index : Nat} (hts : ∀ w ∈ lw_all, w.before args s = true) (hin : ∀ w ∈ u_ws C T N, w ∈ lw_all) (ty0 : Nat → FieldType) (hty : ∀ k, k < N → parseFieldDescriptor (T k).2.2.1 = some (ty0 k)) (hnm : ∀ a, a < N → ∀ b, b < N → a ≠ b → (T a).2.1 ≠ (T b).2.1) (hown : s.vm.findClass own = some m.cls) (hG : gK E s) (hP : wP E w H) (hS0 : va_S (gA E) s.heap H locs) {fs : List Value} (he : w a = some (τ, .inr (ci, fs))) (hc : gCl[ci]? = some (C, T, N)) (k : Nat) (hk : k < N) (hlink : (Cond.fieldLink own index ref (T k).2.1 (T k).2.2.1).before args s = true) (hsame : ∀ x, s.fieldFound? (T k).1 (T k).2.1 (T k).2.2.1 = some x → s.fieldFound? ref (T k).2.1 (T k).2.2.1 = some x) (hfin : (T k).2.2.2 = true) (hin2 : meth.name = "<init>") (hdecl : (T k).1 = own) {ty : FieldType} {v : Value} (hd : parseFieldDescriptor (T k).2.2.1 = some ty) (hn : narrow ty v = v) (hfit : fits ty v = true) (hl : k < fs.length)
    (hdg : decode cc pc = .ok (.putfield index, 3)) (kk : ∀ (w1 : wd) (H1 : Heap) (locs1 : List Loc), w1 a = some (τ, .inr (ci, fs.set k v)) → fr (pO τ) w w1 → wP E w1 H1 → va_S (gA E) s.heap H1 locs1 → W p l e R s m args below meth c H1 locs1 cells slots Q (F0 m (pc + 3) ls rest)) : W p l e R s m args below meth c H locs cells slots Q (F0 m pc ls (v :: .ref a :: rest)) :=
  k_putF hx hb hts hin ty0 hty hnm hown hG hP hS0 he hc k hk hlink hsame hfin hin2 hdecl hd hn hfit hl hdg (fun H1 locs1 hP1 hS1 => kk _ H1 locs1 wu_s (fr.rf.put he rfl) hP1 hS1)
theorem k_iastW (hx : p.tables.exec = Jvm.exec) (hb : c.code = cc) (hG : gK E s) (hP : wP E w H) (hS : va_S (gA E) s.heap H locs) {n j : Nat} {f : Nat → Int32} (ha : w a = some (τ, .inl (eT E 0, n, .inl f))) (hn : n ≤ 65536) (hj : j < n) {x : Int32} (hdg : decode cc pc = .ok (.iastore, 1))
    (kk : ∀ (w1 : wd) (H1 : Heap) (locs1 : List Loc), w1 a = some (τ, .inl (eT E 0, n, .inl (va_up f j x))) → fr (pO τ) w w1 → wP E w1 H1 → va_S (gA E) s.heap H1 locs1 → W p l e R s m args below meth c H1 locs1 cells slots Q (F0 m (pc + 1) ls rest)) : W p l e R s m args below meth c H locs cells slots Q (F0 m pc ls (.int x :: .int (nI j) :: .ref a :: rest)) :=
  k_iast hx hb hG hP hS ha hn hj hdg (fun H1 locs1 hP1 hS1 => kk _ H1 locs1 wu_s (fr.rf.put ha rfl) hP1 hS1)
theorem k_aastW (hx : p.tables.exec = Jvm.exec) (hb : c.code = cc) (hG : gK E s) (hP : wP E w H) (hS : va_S (gA E) s.heap H locs) {n j v ci : Nat} (t : Nat) {C : String} {r : vw_C} {σ : Nat × Nat} {vs : List Value} {f : Nat → Option Nat} (ha : w a = some (τ, .inl (eT E t, n, .inr (.inr (.inr (.inr f)))))) (ht : (gTys E)[t]? = some (eT E t, .object C)) (hn : n ≤ 65536) (hj : j < n) (hv : w v = some (σ, .inr (ci, vs))) (hc : gCl[ci]? = some r)
    (hasg : ∀ comp c0 : ClassId, s.vm.findClass C = some comp → ClassAt s r.1 c0 → s.vm.assignable c0 comp = true) (hdg : decode cc pc = .ok (.aastore, 1))
    (kk : ∀ (w1 : wd) (H1 : Heap) (locs1 : List Loc), w1 a = some (τ, .inl (eT E t, n, .inr (.inr (.inr (.inr (va_up f j (some v))))))) → fr (pO τ) w w1 → wP E w1 H1 → va_S (gA E) s.heap H1 locs1 → W p l e R s m args below meth c H1 locs1 cells slots Q (F0 m (pc + 1) ls rest)) : W p l e R s m args below meth c H locs cells slots Q (F0 m pc ls (.ref v :: .int (nI j) :: .ref a :: rest)) :=
  k_aast hx hb hG hP hS t ha ht hn hj hv hc hasg hdg (fun H1 locs1 hP1 hS1 => kk _ H1 locs1 wu_s (fr.rf.put ha rfl) hP1 hS1)
theorem k_newW (hx : p.tables.exec = Jvm.exec) (hb : c.code = cc) {own C : String} {T : u_T} {N ci index : Nat} (τ : Nat × Nat) (hts : ∀ w ∈ lw_all, w.before args s = true) (hin : ∀ w ∈ u_ws C T N, w ∈ lw_all) (ty : Nat → FieldType) (hty : ∀ k, k < N → parseFieldDescriptor (T k).2.2.1 = some (ty k)) (hown : s.vm.findClass own = some m.cls) (hcl : (Cond.classLink own index C).before args s = true) (hinst : (Cond.instantiable C N).before args s = true) (hini : (Cond.initialized C).before args s = true)
    (hG : gK E s) (hP : wP E w H) (hS : va_S (gA E) s.heap H locs) (hc : gCl[ci]? = some (C, T, N)) {fs : List Value} (hfs : ∀ j, j < N → defaultValue (ty j) = vp_V fs j) (hcells : cells + 1 ≤ R.cells) (hslots : slots + N ≤ R.slots) (hdg : decode cc pc = .ok (.new index, 3))
    (kk : ∀ (q : Nat) (w1 : wd) (H1 : Heap), w1 q = some (τ, .inr (ci, fs)) → fr pN w w1 → wP E w1 H1 → va_S (gA E) s.heap H1 locs →
      W p l e R s m args below meth c H1 locs (cells + 1) (slots + N) Q (F0 m (pc + 3) ls (.ref q :: rest))) : W p l e R s m args below meth c H locs cells slots Q (F0 m pc ls rest) :=
  k_new hx hb τ hts hin ty hty hown hcl hinst hini hG hP hS hc hfs hcells hslots hdg (fun q H1 hq hP1 hS1 => kk q _ H1 wu_s (fr.rf.new hq) hP1 hS1)
theorem k_newiW (hx : p.tables.exec = Jvm.exec) (hb : c.code = cc) (τ : Nat × Nat) (harr : (Cond.arrayClass .int).before args s = true) (hG : gK E s) (hP : wP E w H) (hS : va_S (gA E) s.heap H locs) {n : Nat} (hn : n ≤ 65536) (hcells : cells + 1 ≤ R.cells) (hslots : slots + n ≤ R.slots) (hdg : decode cc pc = .ok (.newarray .int, 2))
    (kk : ∀ (q : Nat) (w1 : wd) (H1 : Heap), w1 q = some (τ, .inl (eT E 0, n, .inl (fun _ => 0))) → fr pN w w1 → wP E w1 H1 → va_S (gA E) s.heap H1 locs →
      W p l e R s m args below meth c H1 locs (cells + 1) (slots + n) Q (F0 m (pc + 2) ls (.ref q :: rest))) : W p l e R s m args below meth c H locs cells slots Q (F0 m pc ls (.int (nI n) :: rest)) :=
  k_newi hx hb τ harr hG hP hS hn hcells hslots hdg (fun q H1 hq hP1 hS1 => kk q _ H1 wu_s (fr.rf.new hq) hP1 hS1)
theorem k_newqW (hx : p.tables.exec = Jvm.exec) (hb : c.code = cc) (τ : Nat × Nat) {own C : String} {index : Nat} (t : Nat) (hown : s.vm.findClass own = some m.cls) (hclink : (Cond.classLink own index C).before args s = true) (hover : va_Nw (Cond.arrayOver (.object C)) s) (ht : (gTys E)[t]? = some (eT E t, .object C)) (hG : gK E s) (hP : wP E w H) (hS : va_S (gA E) s.heap H locs) {n : Nat} (hn : n ≤ 65536) (hcells : cells + 1 ≤ R.cells) (hslots : slots + n ≤ R.slots) (hdg : decode cc pc = .ok (.anewarray index, 3))
    (kk : ∀ (q : Nat) (w1 : wd) (H1 : Heap), w1 q = some (τ, .inl (eT E t, n, .inr (.inr (.inr (.inr (fun _ => none)))))) → fr pN w w1 → wP E w1 H1 → va_S (gA E) s.heap H1 locs →
      W p l e R s m args below meth c H1 locs (cells + 1) (slots + n) Q (F0 m (pc + 3) ls (.ref q :: rest))) : W p l e R s m args below meth c H locs cells slots Q (F0 m pc ls (.int (nI n) :: rest)) :=
  k_newq hx hb τ t hown hclink hover ht hG hP hS hn hcells hslots hdg (fun q H1 hq hP1 hS1 => kk q _ H1 wu_s (fr.rf.new hq) hP1 hS1)
end KB3
