/-! BASE, 2: references, final fields, casts, calls of nest mates, of interfaces and of constants -/
set_option maxRecDepth 100000
theorem lw_U {own : String} {idx : Nat} {C owner : String} {x y : MethodName} {b : ByteArray} {L : Nat} {r : Option FieldType} (h1 : Cond.methodLink own idx x ∈ lw_all) (h2 : Cond.sameMethod x.cls owner x.name x.desc ∈ lw_all) (h3 : Cond.selects C x y ∈ lw_all) (h4 : Cond.instanceMethod y ∈ lw_all) (h5 : Cond.initialized y.cls ∈ lw_all) (h6 : Cond.code y b L r ∈ lw_all) : GoodIn lw_all (va_wsU own idx C owner x y (ws_ y b L r)) := by
  refine lw_app ?_ (lw_meth h6)
  intro w hw
  simp only [List.mem_cons, List.not_mem_nil, or_false] at hw
  rcases hw with e | e | e | e | e
  · rw [e]; exact h1
  · rw [e]; exact h2
  · rw [e]; exact h3
  · rw [e]; exact h4
  · rw [e]; exact h5
theorem lw_O {own : String} {idx : Nat} {C owner : String} {x y : MethodName} {b : ByteArray} {L : Nat} {r : Option FieldType} (h1 : Cond.methodLink own idx x ∈ lw_all) (h2 : Cond.sameMethod x.cls owner x.name x.desc ∈ lw_all) (h0 : Cond.instanceMethod ⟨owner, x.name, x.desc⟩ ∈ lw_all) (h3 : Cond.selects C x y ∈ lw_all) (h4 : Cond.instanceMethod y ∈ lw_all) (h5 : Cond.initialized y.cls ∈ lw_all) (h6 : Cond.code y b L r ∈ lw_all) : GoodIn lw_all (va_wsO own idx C owner x y (ws_ y b L r)) := by
  refine lw_app ?_ (lw_meth h6)
  intro w hw
  simp only [List.mem_cons, List.not_mem_nil, or_false] at hw
  rcases hw with e | e | e | e | e | e
  · rw [e]; exact h1
  · rw [e]; exact h2
  · rw [e]; exact h0
  · rw [e]; exact h3
  · rw [e]; exact h4
  · rw [e]; exact h5
theorem lw_F {own : String} {idx : Nat} {C : String} {x y : MethodName} {b : ByteArray} {L : Nat} {r : Option FieldType} (h1 : Cond.methodLink own idx x ∈ lw_all) (h3 : Cond.selects C x y ∈ lw_all) (h4 : Cond.instanceMethod y ∈ lw_all) (h5 : Cond.initialized y.cls ∈ lw_all) (h6 : Cond.code y b L r ∈ lw_all) : GoodIn lw_all (va_wsF own idx C x y (ws_ y b L r)) := by
  refine lw_app ?_ (lw_meth h6)
  intro w hw
  simp only [List.mem_cons, List.not_mem_nil, or_false] at hw
  rcases hw with e | e | e | e
  · rw [e]; exact h1
  · rw [e]; exact h3
  · rw [e]; exact h4
  · rw [e]; exact h5
section KB2
variable {p : Program} {l : Launch} {e : Env} {R : Room} {s : State} {m : MethodId} {args : Array Value} {below : List Frame} {meth : Method} {c : Code} {H : Heap} {locs : List Loc} {cells slots : Nat} {Q : State → Prop}
variable {cc : ByteArray} {pc : Nat} {ls : Array Slot} {rest st0 : List Value} {a : Nat} {E : gE} {w : wd} {τ : Nat × Nat}
theorem k_cell {C : String} {T : u_T} {N ci : Nat} {fs : List Value} (hG : gK E s) (hP : wP E w H) (he : w a = some (τ, .inr (ci, fs))) (hc : gCl[ci]? = some (C, T, N)) : ∃ cell : Cell, H[a]? = some cell ∧ cell.vm.isStatics = false ∧ s.vm.findClass C = some cell.cls := va_recv hG.1 (hP.one he) (q0 := 0) hc rfl
theorem k_putF (hx : p.tables.exec = Jvm.exec) (hb : c.code = cc) {own ref C : String} {T : u_T} {N ci index : Nat} (hts : ∀ w ∈ lw_all, w.before args s = true) (hin : ∀ w ∈ u_ws C T N, w ∈ lw_all) (ty0 : Nat → FieldType) (hty : ∀ k, k < N → parseFieldDescriptor (T k).2.2.1 = some (ty0 k)) (hnm : ∀ a, a < N → ∀ b, b < N → a ≠ b → (T a).2.1 ≠ (T b).2.1) (hown : s.vm.findClass own = some m.cls) (hG : gK E s) (hP : wP E w H) (hS0 : va_S (gA E) s.heap H locs) {fs : List Value} (he : w a = some (τ, .inr (ci, fs))) (hc : gCl[ci]? = some (C, T, N)) (k : Nat) (hk : k < N) (hlink : (Cond.fieldLink own index ref (T k).2.1 (T k).2.2.1).before args s = true) (hsame : ∀ x, s.fieldFound? (T k).1 (T k).2.1 (T k).2.2.1 = some x → s.fieldFound? ref (T k).2.1 (T k).2.2.1 = some x) (hfin : (T k).2.2.2 = true) (hin2 : meth.name = "<init>") (hdecl : (T k).1 = own) {ty : FieldType} {v : Value} (hd : parseFieldDescriptor (T k).2.2.1 = some ty) (hn : narrow ty v = v) (hfit : fits ty v = true) (hl : k < fs.length)
    (hdg : decode cc pc = .ok (.putfield index, 3)) (kk : ∀ (H1 : Heap) (locs1 : List Loc), wP E (wu w a (τ, .inr (ci, fs.set k v))) H1 → va_S (gA E) s.heap H1 locs1 → W p l e R s m args below meth c H1 locs1 cells slots Q (F0 m (pc + 3) ls rest)) : W p l e R s m args below meth c H locs cells slots Q (F0 m pc ls (v :: .ref a :: rest)) := by
  have hK := hG.1
  have hap := va_apart (own := own) hts hin ty0 hty hnm hK hc
  obtain ⟨hE, r, h1, cell, q1, q2, q3, q4⟩ := hP a _ _ he
  have hr : r = (C, T, N) := Option.some.inj (h1.symm.trans hc)
  subst hr
  obtain ⟨hS, hfc, kC, hkC, hkind⟩ := hK.1 ci _ hc
  obtain ⟨cf, kf, fi, f, hi, hsl⟩ := hS k hk
  have hlay := hts _ (hin _ (u_in_lay hk))
  unfold u_lay at hlay
  rw [if_pos hfin] at hlay
  have hst := (u_facts hfc hkC (u_lays hts hin hk) hi).1
  have hcf : m.cls = cf := by
    obtain ⟨_, _, c', _, _, _, -, -, hf', -, -, -, hown2, -⟩ := Cond.laysFinal_spec hlay
    have e1 : c' = cf := by have := hi.symm.trans hf'; simp at this; exact this.1.symm
    rw [hdecl] at hown2
    rw [← e1]; exact Option.some.inj (hown.symm.trans hown2)
  have h6 := u_fits hfc hkC hkind (Or.inr hlay) hi hd hn hfit
  refine W.putFinK hx hb hown hlink (hsame _ hi) hst hcf hin2 (by rw [q2]; exact h6) q1 q3 (by rw [hsl]; exact k2_hasslot (q4 k hk)) rfl rfl hdg fun H' e1 e2 e3 => ?_
  rw [hsl] at e1 ⊢
  exact kk H' _ (hP.set he ⟨_, hc, t_OB.to (V := updV (vp_V fs) k v) ⟨_, e1, q2, q3, t_set q4 hap hk v⟩ (fun j _ => vp_updV_set hl v j)⟩ e3) (hS0.put e2 e3 hE)
theorem k_instS (hx : p.tables.exec = Jvm.exec) (hb : c.code = cc) {own C : String} {T : u_T} {N ci index : Nat} {fs : List Value} (hown : s.vm.findClass own = some m.cls) (hlink : (Cond.classLink own index C).before args s = true) (hG : gK E s) (hP : wP E w H) (he : w a = some (τ, .inr (ci, fs))) (hc : gCl[ci]? = some (C, T, N)) (hdg : decode cc pc = .ok (.instanceof index, 3))
    (k : W p l e R s m args below meth c H locs cells slots Q (F0 m (pc + 3) ls (.int 1 :: rest))) : W p l e R s m args below meth c H locs cells slots Q (F0 m pc ls (.ref a :: rest)) :=
  va_instS hx hb hown hlink (hG.1.1 ci _ hc).2 (k_cell hG hP he hc) hdg k
theorem k_castS (hx : p.tables.exec = Jvm.exec) (hb : c.code = cc) {own C : String} {T : u_T} {N ci index : Nat} {fs : List Value} (hown : s.vm.findClass own = some m.cls) (hlink : (Cond.classLink own index C).before args s = true) (hG : gK E s) (hP : wP E w H) (he : w a = some (τ, .inr (ci, fs))) (hc : gCl[ci]? = some (C, T, N)) (hdg : decode cc pc = .ok (.checkcast index, 3))
    (k : W p l e R s m args below meth c H locs cells slots Q (F0 m (pc + 3) ls (.ref a :: rest))) : W p l e R s m args below meth c H locs cells slots Q (F0 m pc ls (.ref a :: rest)) :=
  va_castS hx hb hown hlink (hG.1.1 ci _ hc).2 (k_cell hG hP he hc) hdg k
theorem k_instNo (hx : p.tables.exec = Jvm.exec) (hb : c.code = cc) {own C nm : String} {T : u_T} {N ci index : Nat} {fs : List Value} (hown : s.vm.findClass own = some m.cls) (hlink : (Cond.classLink own index nm).before args s = true) (hG : gK E s) (hP : wP E w H) (he : w a = some (τ, .inr (ci, fs))) (hc : gCl[ci]? = some (C, T, N)) (hno : (C, nm) ∈ gNo) (hdg : decode cc pc = .ok (.instanceof index, 3))
    (k : W p l e R s m args below meth c H locs cells slots Q (F0 m (pc + 3) ls (.int 0 :: rest))) : W p l e R s m args below meth c H locs cells slots Q (F0 m pc ls (.ref a :: rest)) :=
  va_instNo hx hb hown hlink (hG.2.1.2.1 _ hno) (k_cell hG hP he hc) hdg k
/-- calls -/
theorem k_cVN {ρ : Type} {mk : ρ → Option Value} {post : ρ → wd → Prop} {own host C : String} {T : u_T} {N ci index n nL mc ms maxL : Nat} {y : MethodName} {ws : List Cond} {rm : Room} {bytes : ByteArray} {ret : Option FieldType} {As : List Value} {fs : List Value} (hx : p.tables.exec = Jvm.exec) (hb : c.code = cc) (hml : c.maxLocals = nL) (hown : s.vm.findClass own = some m.cls) (hts : ∀ w ∈ lw_all, w.before args s = true)
    (hMt : kC l y ws rm mc ms mk E w (.ref a :: As) post) (cw : va_CN R s args own index y host bytes maxL ret ws rm mc ms n ∧ (Cond.instanceMethod y).before args s = true ∧ (Cond.selects C y y).before args s = true) (hG : gK E s) (hP : wP E w H) (hS : va_S (gA E) s.heap H locs) (hrv : w a = some (τ, .inr (ci, fs))) (hc : gCl[ci]? = some (C, T, N)) (hn : As.length = n) (hsize : ls.size = nL) (hst : st0 = As.reverse ++ .ref a :: rest) (hW : 2 * (F0 m pc ls st0).monitorRoom + (rest.map fun v => v.category).sum ≤ 8) (hdg : decode cc pc = .ok (.invokevirtual index, 3)) (hf : cells + mc ≤ R.cells ∧ slots + ms ≤ R.slots)
    (kk : ∀ (r : ρ) (w' : wd) (H1 : Heap) (locs1 : List Loc), post r w' → wP E w' H1 → va_S (gA E) s.heap H1 locs1 → W p l e R s m args below meth c H1 locs1 (cells + mc) (slots + ms) Q (F0 m (pc + 3) ls ((mk r).toList ++ rest))) : W p l e R s m args below meth c H locs cells slots Q (F0 m pc ls st0) :=
  k_call (va_runVN (g := F0 m pc ls st0) ⟨hx, hb, hml, hown, hts⟩ hMt cw (k_preV hG hP hS hrv hc) rfl hn hsize hst hW hdg hf) hS kk
theorem k_cSN {ρ : Type} {mk : ρ → Option Value} {post : ρ → wd → Prop} {own host : String} {index n nL mc ms maxL : Nat} {y : MethodName} {ws : List Cond} {rm : Room} {bytes : ByteArray} {ret : Option FieldType} {As : List Value} (hx : p.tables.exec = Jvm.exec) (hb : c.code = cc) (hml : c.maxLocals = nL) (hown : s.vm.findClass own = some m.cls) (hts : ∀ w ∈ lw_all, w.before args s = true)
    (hMt : kC l y ws rm mc ms mk E w As post) (cw : va_CN R s args own index y host bytes maxL ret ws rm mc ms n ∧ (Cond.static y).before args s = true ∧ True) (hG : gK E s) (hP : wP E w H) (hS : va_S (gA E) s.heap H locs) (hn : As.length = n) (hsize : ls.size = nL) (hst : st0 = As.reverse ++ rest) (hW : 2 * (F0 m pc ls st0).monitorRoom + (rest.map fun v => v.category).sum ≤ 8) (hdg : decode cc pc = .ok (.invokestatic index, 3)) (hf : cells + mc ≤ R.cells ∧ slots + ms ≤ R.slots)
    (kk : ∀ (r : ρ) (w' : wd) (H1 : Heap) (locs1 : List Loc), post r w' → wP E w' H1 → va_S (gA E) s.heap H1 locs1 → W p l e R s m args below meth c H1 locs1 (cells + mc) (slots + ms) Q (F0 m (pc + 3) ls ((mk r).toList ++ rest))) : W p l e R s m args below meth c H locs cells slots Q (F0 m pc ls st0) :=
  k_call (va_runSN (g := F0 m pc ls st0) ⟨hx, hb, hml, hown, hts⟩ hMt cw (k_preS hG hP hS) rfl hn hsize hst hW hdg hf) hS kk
theorem k_cIN {ρ : Type} {mk : ρ → Option Value} {post : ρ → wd → Prop} {own host : String} {index n nL mc ms maxL : Nat} {y : MethodName} {ws : List Cond} {rm : Room} {bytes : ByteArray} {As : List Value} (hx : p.tables.exec = Jvm.exec) (hb : c.code = cc) (hml : c.maxLocals = nL) (hown : s.vm.findClass own = some m.cls) (hts : ∀ w ∈ lw_all, w.before args s = true)
    (hMt : kC l y ws rm mc ms mk E w (.ref a :: As) post) (cw : va_CN R s args own index y host bytes maxL none ws rm mc ms n ∧ y.name = "<init>" ∧ (Cond.instanceMethod y).before args s = true) (hG : gK E s) (hP : wP E w H) (hS : va_S (gA E) s.heap H locs) (hn : As.length = n) (hsize : ls.size = nL) (hst : st0 = As.reverse ++ .ref a :: rest) (hW : 2 * (F0 m pc ls st0).monitorRoom + (rest.map fun v => v.category).sum ≤ 8) (hdg : decode cc pc = .ok (.invokespecial index, 3)) (hf : cells + mc ≤ R.cells ∧ slots + ms ≤ R.slots)
    (kk : ∀ (r : ρ) (w' : wd) (H1 : Heap) (locs1 : List Loc), post r w' → wP E w' H1 → va_S (gA E) s.heap H1 locs1 → W p l e R s m args below meth c H1 locs1 (cells + mc) (slots + ms) Q (F0 m (pc + 3) ls ((mk r).toList ++ rest))) : W p l e R s m args below meth c H locs cells slots Q (F0 m pc ls st0) :=
  k_call (va_runIN (g := F0 m pc ls st0) ⟨hx, hb, hml, hown, hts⟩ hMt cw (k_preS hG hP hS) rfl hn hsize hst hW hdg hf) hS kk
theorem k_cU {ρ : Type} {mk : ρ → Option Value} {post : ρ → wd → Prop} {own C owner : String} {T : u_T} {N ci index n nL mc ms maxL : Nat} {x y : MethodName} {ws : List Cond} {rm : Room} {bytes : ByteArray} {ret : Option FieldType} {As : List Value} {fs : List Value} (hx : p.tables.exec = Jvm.exec) (hb : c.code = cc) (hml : c.maxLocals = nL) (hown : s.vm.findClass own = some m.cls) (hts : ∀ w ∈ lw_all, w.before args s = true)
    (hMt : kC l y ws rm mc ms mk E w (.ref a :: As) post) (cw : va_CU R s args own C owner index x y bytes maxL ret ws rm mc ms n) (hG : gK E s) (hP : wP E w H) (hS : va_S (gA E) s.heap H locs) (hrv : w a = some (τ, .inr (ci, fs))) (hc : gCl[ci]? = some (C, T, N)) (hn : As.length = n) (hsize : ls.size = nL) (hst : st0 = As.reverse ++ .ref a :: rest) (hW : 2 * (F0 m pc ls st0).monitorRoom + (rest.map fun v => v.category).sum ≤ 8) (hdg : decode cc pc = .ok (.invokevirtual index, 3)) (hf : cells + mc ≤ R.cells ∧ slots + ms ≤ R.slots)
    (kk : ∀ (r : ρ) (w' : wd) (H1 : Heap) (locs1 : List Loc), post r w' → wP E w' H1 → va_S (gA E) s.heap H1 locs1 → W p l e R s m args below meth c H1 locs1 (cells + mc) (slots + ms) Q (F0 m (pc + 3) ls ((mk r).toList ++ rest))) : W p l e R s m args below meth c H locs cells slots Q (F0 m pc ls st0) :=
  k_call (va_runU (g := F0 m pc ls st0) ⟨hx, hb, hml, hown, hts⟩ hMt cw (k_preV hG hP hS hrv hc) rfl hn hsize hst hW hdg hf) hS kk
theorem k_cF {ρ : Type} {mk : ρ → Option Value} {post : ρ → wd → Prop} {own C : String} {T : u_T} {N ci index count n nL mc ms maxL : Nat} {x y : MethodName} {ws : List Cond} {rm : Room} {bytes : ByteArray} {ret : Option FieldType} {As : List Value} {fs : List Value} (hx : p.tables.exec = Jvm.exec) (hb : c.code = cc) (hml : c.maxLocals = nL) (hown : s.vm.findClass own = some m.cls) (hts : ∀ w ∈ lw_all, w.before args s = true)
    (hMt : kC l y ws rm mc ms mk E w (.ref a :: As) post) (cw : va_CI R s args own C index x y bytes maxL ret ws rm mc ms n) (hG : gK E s) (hP : wP E w H) (hS : va_S (gA E) s.heap H locs) (hrv : w a = some (τ, .inr (ci, fs))) (hc : gCl[ci]? = some (C, T, N)) (hn : As.length = n) (hsize : ls.size = nL) (hst : st0 = As.reverse ++ .ref a :: rest) (hW : 2 * (F0 m pc ls st0).monitorRoom + (rest.map fun v => v.category).sum ≤ 8) (hdg : decode cc pc = .ok (.invokeinterface index count, 5)) (hf : cells + mc ≤ R.cells ∧ slots + ms ≤ R.slots)
    (kk : ∀ (r : ρ) (w' : wd) (H1 : Heap) (locs1 : List Loc), post r w' → wP E w' H1 → va_S (gA E) s.heap H1 locs1 → W p l e R s m args below meth c H1 locs1 (cells + mc) (slots + ms) Q (F0 m (pc + 5) ls ((mk r).toList ++ rest))) : W p l e R s m args below meth c H locs cells slots Q (F0 m pc ls st0) :=
  k_call5 (va_runF (g := F0 m pc ls st0) (hG.1.1 ci _ hc).2 ⟨hx, hb, hml, hown, hts⟩ hMt cw (k_preV hG hP hS hrv hc) rfl hn hsize hst hW hdg hf) hS kk
/-- a constant of Make as the receiver -/
theorem k_cM {ρ : Type} {mk : ρ → Option Value} {post : ρ → wd → Prop} {own owner : String} {index n nL mc ms maxL z : Nat} {x y : MethodName} {ws : List Cond} {rm : Room} {bytes : ByteArray} {ret : Option FieldType} {As : List Value} (hx : p.tables.exec = Jvm.exec) (hb : c.code = cc) (hml : c.maxLocals = nL) (hown : s.vm.findClass own = some m.cls) (hts : ∀ w ∈ lw_all, w.before args s = true) (hz : z < 3)
    (hMt : kC l y ws rm mc ms mk E w (.ref (eM E z) :: As) post) (cw : va_CU R s args own (mkC z) owner index x y bytes maxL ret ws rm mc ms n) (hG : gK E s) (hP : wP E w H) (hS : va_S (gA E) s.heap H locs) (hn : As.length = n) (hsize : ls.size = nL) (hst : st0 = As.reverse ++ .ref (eM E z) :: rest) (hW : 2 * (F0 m pc ls st0).monitorRoom + (rest.map fun v => v.category).sum ≤ 8) (hdg : decode cc pc = .ok (.invokevirtual index, 3)) (hf : cells + mc ≤ R.cells ∧ slots + ms ≤ R.slots)
    (kk : ∀ (r : ρ) (w' : wd) (H1 : Heap) (locs1 : List Loc), post r w' → wP E w' H1 → va_S (gA E) s.heap H1 locs1 → W p l e R s m args below meth c H1 locs1 (cells + mc) (slots + ms) Q (F0 m (pc + 3) ls ((mk r).toList ++ rest))) : W p l e R s m args below meth c H locs cells slots Q (F0 m pc ls st0) := by
  have hrv : ∃ cell : Cell, H[eM E z]? = some cell ∧ cell.vm.isStatics = false ∧ s.vm.findClass (mkC z) = some cell.cls := by
    obtain ⟨cell, h1, h2, h3, -⟩ := ((hG.2.2.2.1 z hz).2.1.kept hS.2.1)
    exact ⟨cell, h1, h2, h3⟩
  exact k_call (va_runU (g := F0 m pc ls st0) ⟨hx, hb, hml, hown, hts⟩ hMt cw ⟨k_blind, hrv, fun U hU hW => ⟨rfl, hG.at hS hU hW, by rw [hU]; exact hP⟩⟩ rfl hn hsize hst hW hdg hf) hS kk
theorem k_getM (hx : p.tables.exec = Jvm.exec) (hb : c.code = cc) {own ref : String} {index z : Nat} (hown : s.vm.findClass own = some m.cls) (hz : z < 3) (hG : gK E s) (hS : va_S (gA E) s.heap H locs) (hlink : (Cond.fieldLink own index ref (mkN z) "LKiteRoofs$Make;").before args s = true) (hsame : ∀ x, s.fieldFound? RX4 (mkN z) "LKiteRoofs$Make;" = some x → s.fieldFound? ref (mkN z) "LKiteRoofs$Make;" = some x) (hdg : decode cc pc = .ok (.getstatic index, 3))
    (kk : W p l e R s m args below meth c H locs cells slots Q (F0 m (pc + 3) ls (.ref (eM E z) :: rest))) : W p l e R s m args below meth c H locs cells slots Q (F0 m pc ls rest) :=
  va_gets hx hb (hG.2.2.2.1 z hz).1 hS hown hlink hsame hdg kk
/-- arrays of references -/
theorem k_aald (hx : p.tables.exec = Jvm.exec) (hb : c.code = cc) (hG : gK E s) (hP : wP E w H) {n j : Nat} (t : Nat) {C : String} {f : Nat → Option Nat} (ha : w a = some (τ, .inl (eT E t, n, .inr (.inr (.inr (.inr f)))))) (ht : (gTys E)[t]? = some (eT E t, .object C)) (hn : n ≤ 65536) (hj : j < n) (hdg : decode cc pc = .ok (.aaload, 1))
    (kk : W p l e R s m args below meth c H locs cells slots Q (F0 m (pc + 1) ls (va_rf (f j) :: rest))) : W p l e R s m args below meth c H locs cells slots Q (F0 m pc ls (.int (nI j) :: .ref a :: rest)) := by
  refine va_aldq (ws := [(a, .inl (eT E t, n, .inr (.inr (.inr (.inr f)))))]) hx hb hG.1 (hP.one ha) 0 t rfl ht (vp_in_nI hj (by omega)) hdg ?_
  rw [nI_clamp (by omega)]
  exact kk
theorem k_aast (hx : p.tables.exec = Jvm.exec) (hb : c.code = cc) (hG : gK E s) (hP : wP E w H) (hS : va_S (gA E) s.heap H locs) {n j v ci : Nat} (t : Nat) {C : String} {r : vw_C} {σ : Nat × Nat} {vs : List Value} {f : Nat → Option Nat} (ha : w a = some (τ, .inl (eT E t, n, .inr (.inr (.inr (.inr f)))))) (ht : (gTys E)[t]? = some (eT E t, .object C)) (hn : n ≤ 65536) (hj : j < n) (hv : w v = some (σ, .inr (ci, vs))) (hc : gCl[ci]? = some r)
    (hasg : ∀ comp c0 : ClassId, s.vm.findClass C = some comp → ClassAt s r.1 c0 → s.vm.assignable c0 comp = true) (hdg : decode cc pc = .ok (.aastore, 1))
    (kk : ∀ (H1 : Heap) (locs1 : List Loc), wP E (wu w a (τ, .inl (eT E t, n, .inr (.inr (.inr (.inr (va_up f j (some v)))))))) H1 → va_S (gA E) s.heap H1 locs1 → W p l e R s m args below meth c H1 locs1 cells slots Q (F0 m (pc + 1) ls rest)) : W p l e R s m args below meth c H locs cells slots Q (F0 m pc ls (.ref v :: .int (nI j) :: .ref a :: rest)) := by
  obtain ⟨hE, h1⟩ := hP a _ _ ha
  obtain ⟨cellV, g1, g3, g4⟩ := k_cell hG hP hv hc
  have hcls := (hG.1.1 ci r hc).2
  obtain ⟨kA, comp, k1, k2, k3, -⟩ := (hG.1.2 t _ ht).2
  obtain ⟨kE, hkE, -⟩ := Vm.findClass_spec k3
  obtain ⟨kC, hkC, -⟩ := hcls.2
  have hce : cellV.cls = (eD E).1 ci := Option.some.inj (g4.symm.trans hcls.1)
  refine W.aast hx hb h1 (fun q h => by cases h) (fun h => by cases h) k1 k2 rfl hkE ⟨nI_pos (by omega), by show _ < (arrV _ _ _).slots.size; rw [arrV_size, nI_clamp (by omega)]; exact hj⟩ g1 (fun q h => by rw [h] at g3; cases g3) (by rw [hce]; exact hkC) (by rw [hce]; exact hasg _ _ k3 hcls) rfl rfl hdg fun H1 e z oq => ?_
  refine kk H1 _ (hP.set ha ?_ oq) (hS.put z oq hE)
  show H1[a]? = some (vp_cell _ _)
  rw [e, nI_clamp (by omega)]
  rw [vp_cell_q, vp_cell_q, arrV_store]
  congr 2
  funext q
  by_cases hq : q = j
  · subst hq
    simp [updV, va_up, va_rf]
  · simp [updV, va_up, hq]
theorem k_newq (hx : p.tables.exec = Jvm.exec) (hb : c.code = cc) (τ : Nat × Nat) {own C : String} {index : Nat} (t : Nat) (hown : s.vm.findClass own = some m.cls) (hclink : (Cond.classLink own index C).before args s = true) (hover : va_Nw (Cond.arrayOver (.object C)) s) (ht : (gTys E)[t]? = some (eT E t, .object C)) (hG : gK E s) (hP : wP E w H) (hS : va_S (gA E) s.heap H locs) {n : Nat} (hn : n ≤ 65536) (hcells : cells + 1 ≤ R.cells) (hslots : slots + n ≤ R.slots) (hdg : decode cc pc = .ok (.anewarray index, 3))
    (kk : ∀ (q : Nat) (H1 : Heap), w q = none → wP E (wu w q (τ, .inl (eT E t, n, .inr (.inr (.inr (.inr (fun _ => none))))))) H1 → va_S (gA E) s.heap H1 locs →
      W p l e R s m args below meth c H1 locs (cells + 1) (slots + n) Q (F0 m (pc + 3) ls (.ref q :: rest))) : W p l e R s m args below meth c H locs cells slots Q (F0 m pc ls (.int (nI n) :: rest)) := by
  have hcl : (nI n).toNatClampNeg = n := nI_clamp (by omega)
  refine W.anew hx hb hown hclink (va_AO.use hover) rfl hdg rfl (nI_pos (by omega)) (by rw [hcl]; omega) hcells (by rw [hcl]; exact hslots) fun cA kA comp f1 f2 f3 f4 => ?_
  rw [hcl]
  generalize hH1 : H.push ({ cls := cA, slots := Array.replicate n .null, vm := .none } : Cell) = H1
  have z1 : H1.size = H.size + 1 := by rw [← hH1, Array.size_push]
  have e1 : H1[H.size]? = some (arrV cA n (fun _ => .null)) := by rw [← hH1, Array.getElem?_push_size, ← arrV_new]
  have o1 : ∀ q : Nat, q < H.size → H1[q]? = H[q]? := fun q hq => by rw [← hH1, Array.getElem?_push, if_neg (Nat.ne_of_lt hq)]
  have hcA : cA = eT E t := Option.some.inj ((va_nmO (C := C) (nm := "[" ++ (FieldType.object C).toString) ⟨kA, comp, f2, f3, f4, f1⟩ rfl).symm.trans (va_nmO (hG.1.2 t _ ht).2 rfl))
  subst hcA
  exact kk H.size H1 hP.fresh (hP.new τ (by show H1[H.size]? = some (vp_cell _ _); rw [vp_cell_q]; exact e1) (Nat.le_trans hG.2.2.1 hS.1) o1) ⟨Nat.le_trans hS.1 (by omega), fun x h1 h2 => (o1 x (Nat.lt_of_lt_of_le h1 hS.1)).trans (hS.2.1 x h1 h2), hS.2.2⟩
/-- System.arraycopy of ints -/
theorem k_copyi (hx : p.tables.exec = Jvm.exec) (hb : c.code = cc) (hml : c.maxLocals = ls.size) {own : String} {index : Nat} (hown : s.vm.findClass own = some m.cls) (hlink : (Cond.methodLink own index arraycopyName).before args s = true) (hnat : (Cond.native arraycopyName).before args s = true) (hstat : (Cond.static arraycopyName).before args s = true) (hini : (Cond.initialized "java/lang/System").before args s = true)
    (hG : gK E s) (hP : wP E w H) (hS : va_S (gA E) s.heap H locs) {a0 : Nat} {σ : Nat × Nat} {n0 n1 sp dp n : Nat} {f g : Nat → Int32} (ha0 : w a0 = some (σ, .inl (eT E 0, n0, .inl f))) (ha1 : w a = some (τ, .inl (eT E 0, n1, .inl g))) (hn0 : n0 ≤ 65536) (hn1 : n1 ≤ 65536) (h4 : sp + n ≤ n0) (h5 : dp + n ≤ n1)
    (hframes : 1 ≤ R.frames) (hlocals : (rest.map fun v => v.category).sum + (nativeFrameWords "java/lang/System" "arraycopy" 5 + 11) ≤ R.locals) (hdg : decode cc pc = .ok (.invokestatic index, 3))
    (kk : ∀ (H1 : Heap) (locs1 : List Loc), wP E (wu w a (τ, .inl (eT E 0, n1, .inl (va_cpy f g sp dp n)))) H1 → va_S (gA E) s.heap H1 locs1 → W p l e R s m args below meth c H1 locs1 cells slots Q (F0 m (pc + 3) ls rest)) : W p l e R s m args below meth c H locs cells slots Q (F0 m pc ls (.int (nI n) :: .int (nI dp) :: .ref a :: .int (nI sp) :: .ref a0 :: rest)) := by
  have e1 : (nI sp).toNatClampNeg = sp := nI_clamp (by omega)
  have e2 : (nI dp).toNatClampNeg = dp := nI_clamp (by omega)
  have e3 : (nI n).toNatClampNeg = n := nI_clamp (by omega)
  have i1 : (nI sp).toInt = sp := nI_toInt (by omega)
  have i2 : (nI dp).toInt = dp := nI_toInt (by omega)
  have i3 : (nI n).toInt = n := nI_toInt (by omega)
  obtain ⟨hE0, hc0⟩ := hP a0 _ _ ha0
  obtain ⟨hE1, hc1⟩ := hP a _ _ ha1
  have hc0 : H[a0]? = some (vp_cell (eT E 0) (n0, .inl f)) := hc0
  have hc1 : H[a]? = some (vp_cell (eT E 0) (n1, .inl g)) := hc1
  intro T hT X
  obtain ⟨-, k0, hk0, cm0, hkk0⟩ := (hG.1.2 0 (eT E 0, .int) rfl).1 n0 (fun j => .int (f j))
  obtain ⟨-, k1, hk1, cm1, hkk1⟩ := (hG.1.2 0 (eT E 0, .int) rfl).1 n1 (fun j => .int (g j))
  obtain ⟨vm', X', step⟩ := X.arraycopy hx hown hlink hnat hstat hini (src := a0) (dst := a) (cs := vp_cell (eT E 0) (n0, .inl f)) (cd := vp_cell (eT E 0) (n1, .inl g)) (srcPos := nI sp) (destPos := nI dp) (n := nI n) (by rw [hT]; exact hc0) (by rw [hT]; exact hc1)
    (fun _ h => by cases h) (fun _ h => by cases h) (fun h => by cases h) (fun h => by cases h) hk0 hk1 hkk0 hkk1 (by simp [refKind]) (nI_pos (by omega)) (nI_pos (by omega)) (nI_pos (by omega))
    (by rw [i1, i3]; show ¬ _ > ((arrV (eT E 0) n0 (fun j => .int (f j))).slots.size : Int); rw [arrV_size]; omega)
    (by rw [i2, i3]; show ¬ _ > ((arrV (eT E 0) n1 (fun j => .int (g j))).slots.size : Int); rw [arrV_size]; omega)
    (fun vm₁ _ i hi => by
      rw [e3] at hi
      have e : (vp_cell (eT E 0) (n0, .inl f)).slots.getD ((nI sp).toNatClampNeg + i) .null = .int (f (sp + i)) := by
        show (arrV (eT E 0) n0 (fun j => .int (f j))).slots.getD _ _ = _
        rw [Array.getD_eq_getD_getElem?, e1, arrV_read _ _ (by omega)]
        rfl
      refine ⟨?_, ?_⟩
      · rw [e]; rfl
      · rw [e]; exact trivial)
    (g := F0 m pc ls (.int (nI n) :: .int (nI dp) :: .ref a :: .int (nI sp) :: .ref a0 :: rest)) rfl (by rw [hml]) (rest := rest) rfl (by rw [hb]; exact hdg) hframes (by show 2 * 0 + _ + _ ≤ _; omega)
  have e0 : copied (vp_cell (eT E 0) (n0, .inl f)) (vp_cell (eT E 0) (n1, .inl g)) (nI sp) (nI dp) (nI n) = vp_cell (eT E 0) (n1, .inl (va_cpy f g sp dp n)) := by
    have h9 : copied (vp_cell (eT E 0) (n0, .inl f)) (vp_cell (eT E 0) (n1, .inl g)) (nI sp) (nI dp) (nI n) = vp_cell (eT E 0) (n1, .inl (va_cpy f g (nI sp).toNatClampNeg (nI dp).toNatClampNeg (nI n).toNatClampNeg)) := va_copied (fun z => .int z) (eT E 0) (eT E 0) f g (show (nI sp).toNatClampNeg + (nI n).toNatClampNeg ≤ n0 by rw [e1, e3]; exact h4)
    rw [e1, e2, e3] at h9
    exact h9
  rw [e0] at X' step
  have hl : a < H.size := (Array.getElem?_eq_some_iff.mp hc1).1
  have hheap : ((T.setVm vm').setCell a (vp_cell (eT E 0) (n1, .inl (va_cpy f g sp dp n)))).heap = H.setIfInBounds a (vp_cell (eT E 0) (n1, .inl (va_cpy f g sp dp n))) := by rw [← hT]; rfl
  have oq : ∀ q : Nat, q ≠ a → (H.setIfInBounds a (vp_cell (eT E 0) (n1, .inl (va_cpy f g sp dp n))))[q]? = H[q]? := fun q hq => by simp [Array.getElem?_setIfInBounds, Ne.symm hq]
  obtain ⟨t, a1, b1⟩ := kk _ _ (hP.set ha1 (show (H.setIfInBounds a _)[a]? = some _ by simp [Array.getElem?_setIfInBounds, hl]) oq) ⟨by simp; exact hS.1, fun q g1 g2 => by
      rw [oq q (fun e => g2 (by rw [e]; exact hE1))]
      exact hS.2.1 q g1 g2, fun q hq => by
      rcases List.mem_append.mp hq with h | h
      · exact hS.2.2 q h
      · obtain ⟨z, -, hz⟩ := List.mem_map.mp h
        rw [← hz]
        exact hE1⟩ _ hheap X'
  exact ⟨t, step t a1, b1⟩
end KB2
