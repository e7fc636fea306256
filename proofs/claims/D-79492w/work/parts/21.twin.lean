/-! THE TWIN: its world (the object and its ten arrays), its rows -/
set_option maxRecDepth 100000
def tArr : List Nat := [0, 1, 2, 3, 4, 8, 14, 15, 16, 18]
def tLen (k : Nat) : Nat := if k = 1 then 928 else if k = 8 then 60 else if k = 14 ∨ k = 15 ∨ k = 16 then 6 else if k = 18 then 155 else 116
theorem tLen_le (k : Nat) : tLen k ≤ 65536 := by
  unfold tLen
  repeat' split
  all_goals omega
abbrev tF (ad : Nat → Nat) (f : Nat → Int32) : List Value := [.ref (ad 0), .ref (ad 1), .ref (ad 2), .ref (ad 3), .ref (ad 4), .int (f 5), .int (f 6), .int (f 7), .ref (ad 8), .int (f 9), .int (f 10), .int (f 11), .int (f 12), .int (f 13), .ref (ad 14), .ref (ad 15), .ref (ad 16), .int (f 17), .ref (ad 18), .int (f 19)]
def tM (E : gE) (w : wd) (h : Nat) (ad : Nat → Nat) (f : Nat → Int32) (a : Nat → Nat → Int32) : Prop := w h = some ((99, 0), .inr (0, tF ad f)) ∧ ∀ k ∈ tArr, w (ad k) = some ((99, k + 1), .inl (eT E 0, tLen k, .inl (a k)))
theorem tM.of {E : gE} {w : wd} {h : Nat} {ad : Nat → Nat} {f : Nat → Int32} {a a' : Nat → Nat → Int32} (hM : tM E w h ad f a) (e : a = a') : tM E w h ad f a' := e ▸ hM
theorem tM.ofF {E : gE} {w : wd} {h : Nat} {ad : Nat → Nat} {f f' : Nat → Int32} {a a' : Nat → Nat → Int32} (hM : tM E w h ad f a) (e0 : f = f') (e : a = a') : tM E w h ad f' a' := e ▸ e0 ▸ hM
theorem tM.uu {E : gE} {w : wd} {h : Nat} {ad : Nat → Nat} {f : Nat → Int32} {a : Nat → Nat → Int32} {k : Nat} {x y : Nat → Int32} (hM : tM E w h ad f (va_up (va_up a k x) k y)) : tM E w h ad f (va_up a k y) := hM.of (bx_uu a k x y)
theorem bI_nar (b : Bool) : narrow .boolean (.int (bI b)) = .int (bI b) := by cases b <;> rfl
def tP : Nat × Nat → Prop := fun τ => τ.1 = 99
section TW
variable {p : Program} {l : Launch} {e : Env} {R : Room} {s : State} {m : MethodId} {args : Array Value} {below : List Frame} {meth : Method} {c : Code} {H : Heap} {locs : List Loc} {cells slots : Nat} {Q : State → Prop}
variable {cc : ByteArray} {pc : Nat} {ls : Array Slot} {rest st0 : List Value} {E : gE} {w w0 : wd} {h : Nat} {ad : Nat → Nat} {f : Nat → Int32} {a : Nat → Nat → Int32}
theorem tw_get (hx : p.tables.exec = Jvm.exec) (hb : c.code = cc) (hts : ∀ w ∈ lw_all, w.before args s = true) (hown : s.vm.findClass RX6 = some m.cls) (hG : gK E s) (hP : wP E w H) (hM : tM E w h ad f a) (k : Nat) (hk : k < 20) {index : Nat} (hlink : (Cond.fieldLink RX6 index RX6 (TX6 k).2.1 (TX6 k).2.2.1).before args s = true) (hsame : ∀ x, s.fieldFound? (TX6 k).1 (TX6 k).2.1 (TX6 k).2.2.1 = some x → s.fieldFound? RX6 (TX6 k).2.1 (TX6 k).2.2.1 = some x) {v : Value} (hv : (tF ad f)[k]? = some v) (hdg : decode cc pc = .ok (.getfield index, 3))
    (kk : W p l e R s m args below meth c H locs cells slots Q (F0 m (pc + 3) ls (v :: rest))) : W p l e R s m args below meth c H locs cells slots Q (F0 m pc ls (.ref h :: rest)) :=
  k_get hx hb hts in_X6 hown hG hP hM.1 rfl k hk hlink hsame hv hdg kk
theorem tw_put (hx : p.tables.exec = Jvm.exec) (hb : c.code = cc) (hts : ∀ w ∈ lw_all, w.before args s = true) (hown : s.vm.findClass RX6 = some m.cls) (hG : gK E s) (hP : wP E w H) (hS : va_S (gA E) s.heap H locs) (hM : tM E w h ad f a) (hF : fr tP w0 w) (k : Nat) (hk : k < 20) {index : Nat} (hlink : (Cond.fieldLink RX6 index RX6 (TX6 k).2.1 (TX6 k).2.2.1).before args s = true) (hsame : ∀ x, s.fieldFound? (TX6 k).1 (TX6 k).2.1 (TX6 k).2.2.1 = some x → s.fieldFound? RX6 (TX6 k).2.1 (TX6 k).2.2.1 = some x) (hfin : (TX6 k).2.2.2 = false) {ty : FieldType} {v : Int32} (hd : parseFieldDescriptor (TX6 k).2.2.1 = some ty) (hn : narrow ty (.int v) = .int v) (hfit : fits ty (.int v) = true) (hset : (tF ad f).set k (.int v) = tF ad (va_up f k v)) (hdg : decode cc pc = .ok (.putfield index, 3))
    (kk : ∀ (w1 : wd) (H1 : Heap) (locs1 : List Loc), tM E w1 h ad (va_up f k v) a → fr tP w0 w1 → wP E w1 H1 → va_S (gA E) s.heap H1 locs1 → W p l e R s m args below meth c H1 locs1 cells slots Q (F0 m (pc + 3) ls rest)) : W p l e R s m args below meth c H locs cells slots Q (F0 m pc ls (.int v :: .ref h :: rest)) := by
  refine k_put hx hb hts in_X6 tyX6 tyX6_ok nmX6 hown hG hP hS hM.1 rfl k hk hlink hsame hfin hd hn hfit hk hdg (fun H1 locs1 hP1 hS1 => ?_)
  refine kk _ H1 locs1 ⟨?_, fun j hj => ?_⟩ (hF.put hM.1 rfl) hP1 hS1
  · rw [wu_s, hset]
  · rw [wu_n (w_ne (hM.2 j hj) hM.1 (fun q => by cases q))]
    exact hM.2 j hj
theorem tw_ald (hx : p.tables.exec = Jvm.exec) (hb : c.code = cc) (hG : gK E s) (hP : wP E w H) (hM : tM E w h ad f a) (k : Nat) (hk : k ∈ tArr) {j : Nat} (hj : j < tLen k) (hdg : decode cc pc = .ok (.iaload, 1))
    (kk : W p l e R s m args below meth c H locs cells slots Q (F0 m (pc + 1) ls (.int (a k j) :: rest))) : W p l e R s m args below meth c H locs cells slots Q (F0 m pc ls (.int (nI j) :: .ref (ad k) :: rest)) :=
  k_iald hx hb hG hP (hM.2 k hk) (tLen_le k) hj hdg kk
theorem tw_ast (hx : p.tables.exec = Jvm.exec) (hb : c.code = cc) (hG : gK E s) (hP : wP E w H) (hS : va_S (gA E) s.heap H locs) (hM : tM E w h ad f a) (hF : fr tP w0 w) (k : Nat) (hk : k ∈ tArr) {j : Nat} (hj : j < tLen k) {x : Int32} (hdg : decode cc pc = .ok (.iastore, 1))
    (kk : ∀ (w1 : wd) (H1 : Heap) (locs1 : List Loc), tM E w1 h ad f (va_up a k (va_up (a k) j x)) → fr tP w0 w1 → wP E w1 H1 → va_S (gA E) s.heap H1 locs1 → W p l e R s m args below meth c H1 locs1 cells slots Q (F0 m (pc + 1) ls rest)) : W p l e R s m args below meth c H locs cells slots Q (F0 m pc ls (.int x :: .int (nI j) :: .ref (ad k) :: rest)) := by
  refine k_iast hx hb hG hP hS (hM.2 k hk) (tLen_le k) hj hdg (fun H1 locs1 hP1 hS1 => ?_)
  refine kk _ H1 locs1 ⟨?_, fun i hi => ?_⟩ (hF.put (hM.2 k hk) rfl) hP1 hS1
  · rw [wu_n (w_ne hM.1 (hM.2 k hk) (fun q => by cases q))]
    exact hM.1
  · by_cases hik : i = k
    · subst hik
      rw [wu_s]
      simp [va_up]
    · rw [wu_n (w_ne (hM.2 i hi) (hM.2 k hk) (fun q => hik (by cases q; rfl)))]
      rw [hM.2 i hi]
      simp [va_up, hik]
/-- a call of the twin's that only reads -/
theorem tw_cR {index n nL maxL : Nat} {y : MethodName} {ws : List Cond} {rm : Room} {bytes : ByteArray} {ret : Option FieldType} {As : List Value} {val : Int32} (hx : p.tables.exec = Jvm.exec) (hb : c.code = cc) (hml : c.maxLocals = nL) (hown : s.vm.findClass RX6 = some m.cls) (hts : ∀ w ∈ lw_all, w.before args s = true)
    (hMt : kC l y ws rm 0 0 mI E w (.ref h :: As) (fun r w' => w' = w ∧ r = val)) (cw : CallW R s args RX6 RX6 index y bytes maxL ret ws rm 0 0 n) (hG : gK E s) (hP : wP E w H) (hS : va_S (gA E) s.heap H locs) (hM : tM E w h ad f a) (hn : As.length = n) (hsize : ls.size = nL) (hst : st0 = As.reverse ++ .ref h :: rest) (hW : 2 * (F0 m pc ls st0).monitorRoom + (rest.map fun v => v.category).sum ≤ 8) (hdg : decode cc pc = .ok (.invokevirtual index, 3)) (hf : cells ≤ R.cells ∧ slots ≤ R.slots)
    (kk : ∀ (H1 : Heap) (locs1 : List Loc), wP E w H1 → va_S (gA E) s.heap H1 locs1 → W p l e R s m args below meth c H1 locs1 cells slots Q (F0 m (pc + 3) ls (.int val :: rest))) : W p l e R s m args below meth c H locs cells slots Q (F0 m pc ls st0) := by
  refine k_cV hx hb hml hown hts hMt cw hG hP hS hM.1 rfl hn hsize hst hW hdg hf (fun r w' H1 locs1 hp hP1 hS1 => ?_)
  obtain ⟨rfl, rfl⟩ := hp
  exact kk H1 locs1 hP1 hS1
/-- a call of the twin's that writes -/
theorem tw_cW {ρ : Type} {mk : ρ → Option Value} {post : ρ → (Nat → Int32) → (Nat → Nat → Int32) → Prop} {index n nL maxL : Nat} {y : MethodName} {ws : List Cond} {rm : Room} {bytes : ByteArray} {ret : Option FieldType} {As : List Value} (hx : p.tables.exec = Jvm.exec) (hb : c.code = cc) (hml : c.maxLocals = nL) (hown : s.vm.findClass RX6 = some m.cls) (hts : ∀ w ∈ lw_all, w.before args s = true)
    (hMt : kC l y ws rm 0 0 mk E w (.ref h :: As) (fun r w' => ∃ f' a', post r f' a' ∧ tM E w' h ad f' a' ∧ fr tP w w')) (cw : CallW R s args RX6 RX6 index y bytes maxL ret ws rm 0 0 n) (hG : gK E s) (hP : wP E w H) (hS : va_S (gA E) s.heap H locs) (hM : tM E w h ad f a) (hF : fr tP w0 w) (hn : As.length = n) (hsize : ls.size = nL) (hst : st0 = As.reverse ++ .ref h :: rest) (hW : 2 * (F0 m pc ls st0).monitorRoom + (rest.map fun v => v.category).sum ≤ 8) (hdg : decode cc pc = .ok (.invokevirtual index, 3)) (hf : cells ≤ R.cells ∧ slots ≤ R.slots)
    (kk : ∀ (r : ρ) (f1 : Nat → Int32) (a1 : Nat → Nat → Int32) (w1 : wd) (H1 : Heap) (locs1 : List Loc), post r f1 a1 → tM E w1 h ad f1 a1 → fr tP w0 w1 → wP E w1 H1 → va_S (gA E) s.heap H1 locs1 → W p l e R s m args below meth c H1 locs1 cells slots Q (F0 m (pc + 3) ls ((mk r).toList ++ rest))) : W p l e R s m args below meth c H locs cells slots Q (F0 m pc ls st0) := by
  refine k_cV hx hb hml hown hts hMt cw hG hP hS hM.1 rfl hn hsize hst hW hdg hf (fun r w' H1 locs1 hp hP1 hS1 => ?_)
  obtain ⟨f', a', h1, h2, h3⟩ := hp
  exact kk r f' a' w' H1 locs1 h1 h2 (hF.tr h3) hP1 hS1
/-- a static call that only reckons -/
theorem k_cP {own : String} {index n nL maxL : Nat} {y : MethodName} {ws : List Cond} {rm : Room} {bytes : ByteArray} {ret : Option FieldType} {As : List Value} {val : Int32} (hx : p.tables.exec = Jvm.exec) (hb : c.code = cc) (hml : c.maxLocals = nL) (hown : s.vm.findClass own = some m.cls) (hts : ∀ w ∈ lw_all, w.before args s = true)
    (hMt : kC l y ws rm 0 0 mI E w As (fun r w' => w' = w ∧ r = val)) (cw : CallB R s args own index y bytes maxL ret ws rm 0 0 n ∧ (Cond.static y).before args s = true) (hG : gK E s) (hP : wP E w H) (hS : va_S (gA E) s.heap H locs) (hn : As.length = n) (hsize : ls.size = nL) (hst : st0 = As.reverse ++ rest) (hW : 2 * (F0 m pc ls st0).monitorRoom + (rest.map fun v => v.category).sum ≤ 8) (hdg : decode cc pc = .ok (.invokestatic index, 3)) (hf : cells ≤ R.cells ∧ slots ≤ R.slots)
    (kk : ∀ (H1 : Heap) (locs1 : List Loc), wP E w H1 → va_S (gA E) s.heap H1 locs1 → W p l e R s m args below meth c H1 locs1 cells slots Q (F0 m (pc + 3) ls (.int val :: rest))) : W p l e R s m args below meth c H locs cells slots Q (F0 m pc ls st0) := by
  refine k_cS hx hb hml hown hts hMt cw hG hP hS hn hsize hst hW hdg hf (fun r w' H1 locs1 hp hP1 hS1 => ?_)
  obtain ⟨rfl, rfl⟩ := hp
  exact kk H1 locs1 hP1 hS1
/-- a static call that writes into the twin's arrays -/
theorem tw_cWS {ρ : Type} {mk : ρ → Option Value} {post : ρ → (Nat → Int32) → (Nat → Nat → Int32) → Prop} {index n nL maxL : Nat} {y : MethodName} {ws : List Cond} {rm : Room} {bytes : ByteArray} {ret : Option FieldType} {As : List Value} (hx : p.tables.exec = Jvm.exec) (hb : c.code = cc) (hml : c.maxLocals = nL) (hown : s.vm.findClass RX6 = some m.cls) (hts : ∀ w ∈ lw_all, w.before args s = true)
    (hMt : kC l y ws rm 0 0 mk E w As (fun r w' => ∃ f' a', post r f' a' ∧ tM E w' h ad f' a' ∧ fr tP w w')) (cw : CallB R s args RX6 index y bytes maxL ret ws rm 0 0 n ∧ (Cond.static y).before args s = true) (hG : gK E s) (hP : wP E w H) (hS : va_S (gA E) s.heap H locs) (hF : fr tP w0 w) (hn : As.length = n) (hsize : ls.size = nL) (hst : st0 = As.reverse ++ rest) (hW : 2 * (F0 m pc ls st0).monitorRoom + (rest.map fun v => v.category).sum ≤ 8) (hdg : decode cc pc = .ok (.invokestatic index, 3)) (hf : cells ≤ R.cells ∧ slots ≤ R.slots)
    (kk : ∀ (r : ρ) (f1 : Nat → Int32) (a1 : Nat → Nat → Int32) (w1 : wd) (H1 : Heap) (locs1 : List Loc), post r f1 a1 → tM E w1 h ad f1 a1 → fr tP w0 w1 → wP E w1 H1 → va_S (gA E) s.heap H1 locs1 → W p l e R s m args below meth c H1 locs1 cells slots Q (F0 m (pc + 3) ls ((mk r).toList ++ rest))) : W p l e R s m args below meth c H locs cells slots Q (F0 m pc ls st0) := by
  refine k_cS hx hb hml hown hts hMt cw hG hP hS hn hsize hst hW hdg hf (fun r w' H1 locs1 hp hP1 hS1 => ?_)
  obtain ⟨f', a', h1, h2, h3⟩ := hp
  exact kk r f' a' w' H1 locs1 h1 h2 (hF.tr h3) hP1 hS1
end TW
