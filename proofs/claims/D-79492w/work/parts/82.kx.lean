/-! EXCEPTIONS over the world: a contract that returns or throws -/
set_option maxRecDepth 100000
def kXC (E : gE) (px : String → Nat → wd → Prop) : String → Addr → State → State → Prop := fun X q st t => (∃ w', px X q w' ∧ wP E w' t.heap) ∧ va_F (gA E) st t
abbrev kX {ρ : Type} (l : Launch) (y : MethodName) (ws : List Cond) (rm : Room) (mc ms : Nat) (mk : ρ → Option Value) (E : gE) (w : wd) (av : List Value) (post : ρ → wd → Prop) (px : String → Nat → wd → Prop) : Prop := vx_Met l y ws rm (kPc E w av) (kQ E mk post) (kXC E px) mc ms (gA E)
/-- a word that is known of the machine -/
def kW (w : Cond) : Prop := w ∈ lw_all ∨ (w ∈ lw_tbl ∧ gok w = true ∧ w.onTables = true) ∨ vx_no w = false
theorem kw_app {a b : List Cond} (h1 : ∀ w ∈ a, kW w) (h2 : ∀ w ∈ b, kW w) : ∀ w ∈ a ++ b, kW w := fun w h => (List.mem_append.mp h).elim (h1 w) (h2 w)
theorem kw_c {w : Cond} {b : List Cond} (h : kW w) (t : ∀ w ∈ b, kW w) : ∀ w' ∈ w :: b, kW w' := fun w' h' => (List.mem_cons.mp h').elim (fun e => by rw [e]; exact h) (t w')
theorem kw_n : ∀ w ∈ ([] : List Cond), kW w := fun _ h => nomatch h
theorem kW.at {w : Cond} {s : State} {args : Array Value} {E : gE} (h : kW w) (hv : vx_no w = true) (hts : ∀ w ∈ lw_all, w.before args s = true) (hG : gK E s) : w.before args s = true := by
  rcases h with h | ⟨h, hg, ho⟩ | h
  · exact hts _ h
  · exact va_Nw.use ho (hG.2.1.1 _ h hg)
  · rw [h] at hv; cases hv
theorem ot_pass {X Y : String} {i : Nat} {b : ByteArray} : ∀ w ∈ Bundle.passAtoms X Y i b, vx_ot w = true := by
  intro w h
  simp only [Bundle.passAtoms, List.mem_cons, List.not_mem_nil, or_false] at h
  rcases h with rfl | rfl | rfl | rfl | rfl <;> rfl
theorem ot_chain : ∀ (names : List String) (X : String), ∀ w ∈ Bundle.chain0Atoms X names, vx_ot w = true
  | [], X => ot_pass
  | Y :: r, X => fun w h => (List.mem_append.mp h).elim (ot_pass w) (ot_chain r Y w)
theorem ot_thr : ∀ w ∈ Bundle.throwableAtoms, vx_no w = true → vx_ot w = true := by
  intro w h hn
  simp only [Bundle.throwableAtoms, List.mem_cons, List.not_mem_nil, or_false] at h
  rcases h with rfl | rfl | rfl | rfl | rfl | rfl | rfl | rfl | rfl | rfl | rfl | rfl | rfl | rfl | rfl | rfl | rfl | rfl | rfl | rfl | rfl | rfl | rfl | rfl <;> first | rfl | (exfalso; revert hn; simp [vx_no])
theorem ot_own {own X : String} {ic : Nat} {names : List String} : ∀ w ∈ vx_at0 own ic X names, vx_ot w = true := by
  intro w h
  obtain ⟨h, hn⟩ := List.mem_filter.mp h
  rcases List.mem_append.mp h with h | h
  · rcases List.mem_append.mp h with h | h
    · exact ot_thr w h hn
    · exact ot_chain _ _ w h
  · simp only [List.mem_cons, List.not_mem_nil, or_false] at h
    rcases h with rfl | rfl | rfl | rfl | rfl | rfl | rfl | rfl | rfl | rfl | rfl | rfl | rfl | rfl <;> first | rfl | (exfalso; revert hn; simp [vx_no])
section KX
variable {p : Program} {l : Launch} {e : Env} {R : Room} {s : State} {m : MethodId} {args : Array Value} {below : List Frame} {meth : Method} {c : Code} {H : Heap} {locs : List Loc} {cells slots : Nat} {Q : State → Prop}
variable {cc : ByteArray} {pc : Nat} {ls : Array Slot} {rest st0 : List Value} {a : Nat} {E : gE} {w : wd} {τ : Nat × Nat}
/-- opens a body that may throw, without handlers -/
theorem kx_open {ρ : Type} {y : MethodName} {ws : List Cond} {rm : Room} {mc ms maxL : Nat} {mk : ρ → Option Value} {av : List Value} {post : ρ → wd → Prop} {px : String → Nat → wd → Prop} {ret : Option FieldType} (hy : plainName y.cls = true) (hw : ws = Cond.code y cc maxL ret :: lw_all) (hn : (lg_sl av).length ≤ maxL)
    (body : ∀ (p : Program) (e : Env) (s : State) (m : MethodId) (args : Array Value) (below : List Frame) (meth : Method) (c : Code) (ls : Array Slot) (Q : State → Prop), p.tables.exec = Jvm.exec → c.code = cc → meth.sig.returnType = ret → c.maxLocals = maxL → s.vm.findClass y.cls = some m.cls → (∀ w ∈ lw_all, w.before args s = true) → meth.locks = false → meth.name = y.name → (∀ x ∈ c.exceptionTable.toList, False) → Q = vx_MQ below (kQ E mk post) (kXC E px) args s mc ms (gA E) → gK E s → wP E w s.heap → lv_has ls maxL (lv_args 0 av) → va_S (gA E) s.heap s.heap [] →
      W p l e rm s m args below meth c s.heap [] 0 0 Q (F0 m 0 ls [])) : kX l y ws rm mc ms mk E w av post px := by
  refine vx_ofW (cc := cc) (maxL := maxL) (ret := ret) hy hw ?_
  intro p e s m args below meth c s₁ B hml ht hv
  obtain ⟨hav, hG, hP⟩ := hv
  have hts := atoms_spec (ws := ws) B.pre
  have hF : W p l e rm s m args below meth c s.heap [] 0 0 (vx_MQ below (kQ E mk post) (kXC E px) args s mc ms (gA E)) (F0 m 0 ((lg_sl av ++ List.replicate (maxL - (lg_sl av).length) Slot.unset).toArray) []) :=
    body p e s m args below meth c _ _ B.exec B.bytes B.returns hml (findClass_of_methodNamed B.named) (fun w h => hts w (by rw [hw]; exact List.mem_cons_of_mem _ h)) B.notSynchronized (name_of_methodNamed B.named B.method).1 ht rfl hG hP (lv_entry av hn) va_S.rf
  rw [hav, lg_entry_eq]
  rw [hav] at hF
  exact hF
variable {Qc : Array Value → State → Outcome → State → Prop} {px : String → Nat → wd → Prop}
/-- it leaves, thrown -/
theorem kx_out {X : String} {ce : Cell} {q : Nat} {mc ms : Nat} (hQ : Q = vx_MQ below Qc (kXC E px) args s mc ms (gA E)) (ht : ∀ x ∈ c.exceptionTable.toList, False) (hlocks : meth.locks = false) (hP : wP E w H) (hS : va_S (gA E) s.heap H locs) (hcell : H[q]? = some ce) (hv : ce.vm = .none) (hcl : s.vm.findClass X = some ce.cls) (hc : cells ≤ mc) (hs : slots ≤ ms) (hpx : px X q w) : vx_W p l e R s m args below meth c H locs cells slots Q (F0 m pc ls rest) q := by
  subst hQ
  exact vx_out (fun x hx => (ht x hx).elim) hlocks hcell hv hcl (fun t e1 _ => ⟨⟨w, hpx, by rw [e1]; exact hP⟩, hS.F e1⟩) hS.2.2 hc hs
/-- 'throw new X()' of a class of the library -/
theorem kx_throw {mc ms : Nat} (hx : p.tables.exec = Jvm.exec) (hb : c.code = cc) (hl0 : l.stackTraces = false) {own cls : String} {names : List String} {ik ic : Nat}
    (hown : s.vm.findClass own = some m.cls) (hcls : Bundle.fit cls = true) (hnames : ∀ n ∈ names, Bundle.fit n = true) (hts : ∀ w ∈ lw_all, w.before args s = true)
    (hk : Cond.classLink own ik cls ∈ lw_all) (hini : Cond.initialized cls ∈ lw_all) (hat : ∀ w ∈ Bundle.ownAtoms0 own ic cls names, kW w)
    (hQ : Q = vx_MQ below Qc (kXC E px) args s mc ms (gA E)) (ht : ∀ x ∈ c.exceptionTable.toList, False) (hlocks : meth.locks = false) (hG : gK E s) (hP : wP E w H) (hS : va_S (gA E) s.heap H locs) (hsize : ls.size = c.maxLocals)
    (d0 : decode cc pc = .ok (.new ik, 3)) (d3 : decode cc (pc + 3) = .ok (.dup, 1)) (d4 : decode cc (pc + 4) = .ok (.invokespecial ic, 3)) (d7 : decode cc (pc + 7) = .ok (.athrow, 1))
    (hR : names.length + 3 < R.frames ∧ (rest.map fun v => v.category).sum + (13 * (names.length + 1) + 42) ≤ R.locals ∧ cells + 1 ≤ R.cells ∧ slots + 6 ≤ R.slots) (hc : cells + 1 ≤ mc) (hs : slots + 6 ≤ ms) (hpx : ∀ q, px cls q w) :
    W p l e R s m args below meth c H locs cells slots Q (F0 m pc ls rest) := by
  subst hQ
  refine vx_throw0 hx hb hl0 hown hcls hnames (hts _ hk) (hts _ hini) (fun w h => (hat w (List.mem_filter.mp h).1).at (List.mem_filter.mp h).2 hts hG) (fun w h => ?_) hG.2.2.2.2.2.1 hG.2.2.2.2.2.2.1 hS hsize d0 d3 d4 d7 (fun x hx => (ht x hx).elim) hR.1 hR.2.1 hR.2.2.1 hR.2.2.2 hlocks
    (fun q t _ h1 h2 => ⟨⟨w, hpx q, fun b σ f hb => ⟨(hP b σ f hb).1, (hP b σ f hb).2.kept (h2 b (hP.lt hb))⟩⟩, Nat.le_trans hS.1 h1, fun b hb hn => (h2 b (Nat.lt_of_lt_of_le hb hS.1)).trans (hS.2.1 b hb hn)⟩) hS.2.2 hc hs
  rcases List.mem_cons.mp h with rfl | h
  · rfl
  · rcases List.mem_cons.mp h with rfl | h
    · rfl
    · exact ot_own w h
/-- a call of a method that may throw; what to do with what was thrown -/
theorem kx_callG {ρ : Type} {mk : ρ → Option Value} {post : ρ → wd → Prop} {py : String → Nat → wd → Prop} {mc ms : Nat} {av : Array Value} (hr : vx_Run p l e R s m args below meth c H locs cells slots mc ms (F0 m pc ls st0) rest (kQ E mk post av) (kXC E py) (gA E)) (hS : va_S (gA E) s.heap H locs)
    (kx : ∀ (X : String) (ce : Cell) (q : Nat) (w' : wd) (H1 : Heap) (locs1 : List Loc), py X q w' → wP E w' H1 → va_S (gA E) s.heap H1 locs1 → H1[q]? = some ce → ce.vm = .none → s.vm.findClass X = some ce.cls → vx_W p l e R s m args below meth c H1 locs1 (cells + mc) (slots + ms) Q (F0 m pc ls rest) q)
    (kk : ∀ (r : ρ) (w' : wd) (H1 : Heap) (locs1 : List Loc), post r w' → wP E w' H1 → va_S (gA E) s.heap H1 locs1 → W p l e R s m args below meth c H1 locs1 (cells + mc) (slots + ms) Q (F0 m (pc + 3) ls ((mk r).toList ++ rest))) : W p l e R s m args below meth c H locs cells slots Q (F0 m pc ls st0) := by
  intro T hT X
  rcases hr T hT X with ⟨v, st₀, t, T', L, h0, X', hL, e1, e2, ⟨⟨r, w', hv, hp, hw⟩, hF⟩, st⟩ | ⟨q, st₀, t, T', L, Xc, ce, h0, X', hL, e1, e2, ⟨⟨w', hp, hw⟩, hF⟩, hce, hcv, hcl, st⟩
  · cases hv
    obtain ⟨-, -, k3⟩ := vx_keep h0 e1 hS (fun _ _ h => h) (fun _ h => h) hL hF
    obtain ⟨t2, a1, b1⟩ := kk r w' T'.heap (locs ++ L) hp (by rw [e1]; exact hw) k3 T' rfl X'
    exact ⟨t2, st t2 a1, b1⟩
  · obtain ⟨-, -, k3⟩ := vx_keep h0 e1 hS (fun _ _ h => h) (fun _ h => h) hL hF
    obtain ⟨t2, a1, b1⟩ := kx Xc ce q w' T'.heap (locs ++ L) hp (by rw [e1]; exact hw) k3 (by rw [e1]; exact hce) hcv hcl T' rfl X'
    exact ⟨t2, st.trans a1, b1⟩
/-- .. it isn't caught here -/
theorem kx_call {ρ : Type} {mk : ρ → Option Value} {post : ρ → wd → Prop} {py : String → Nat → wd → Prop} {mc ms mc2 ms2 : Nat} {av : Array Value} (hr : vx_Run p l e R s m args below meth c H locs cells slots mc ms (F0 m pc ls st0) rest (kQ E mk post av) (kXC E py) (gA E)) (hS : va_S (gA E) s.heap H locs)
    (hQ : Q = vx_MQ below Qc (kXC E px) args s mc2 ms2 (gA E)) (ht : ∀ x ∈ c.exceptionTable.toList, False) (hlocks : meth.locks = false) (hc : cells + mc ≤ mc2) (hs : slots + ms ≤ ms2)
    (kx : ∀ (X : String) (q : Nat) (w' : wd), py X q w' → px X q w')
    (kk : ∀ (r : ρ) (w' : wd) (H1 : Heap) (locs1 : List Loc), post r w' → wP E w' H1 → va_S (gA E) s.heap H1 locs1 → W p l e R s m args below meth c H1 locs1 (cells + mc) (slots + ms) Q (F0 m (pc + 3) ls ((mk r).toList ++ rest))) : W p l e R s m args below meth c H locs cells slots Q (F0 m pc ls st0) :=
  kx_callG hr hS (fun X ce q w' H1 locs1 h1 h2 h3 h4 h5 h6 => kx_out hQ ht hlocks h2 h3 h4 h5 h6 hc hs (kx X q w' h1)) kk
theorem kx_cV {ρ : Type} {mk : ρ → Option Value} {post : ρ → wd → Prop} {py : String → Nat → wd → Prop} {own C : String} {T : u_T} {N ci index n nL mc ms mc2 ms2 maxL : Nat} {y : MethodName} {ws : List Cond} {rm : Room} {bytes : ByteArray} {ret : Option FieldType} {As : List Value} {fs : List Value} (hx : p.tables.exec = Jvm.exec) (hb : c.code = cc) (hml : c.maxLocals = nL) (hown : s.vm.findClass own = some m.cls) (hts : ∀ w ∈ lw_all, w.before args s = true)
    (hQ : Q = vx_MQ below Qc (kXC E px) args s mc2 ms2 (gA E)) (ht : ∀ x ∈ c.exceptionTable.toList, False) (hlocks : meth.locks = false)
    (hMt : kX l y ws rm mc ms mk E w (.ref a :: As) post py) (cw : CallW R s args own C index y bytes maxL ret ws rm mc ms n) (hG : gK E s) (hP : wP E w H) (hS : va_S (gA E) s.heap H locs) (hrv : w a = some (τ, .inr (ci, fs))) (hc : gCl[ci]? = some (C, T, N)) (hn : As.length = n) (hsize : ls.size = nL) (hst : st0 = As.reverse ++ .ref a :: rest) (hW : 2 * (F0 m pc ls st0).monitorRoom + (rest.map fun v => v.category).sum ≤ 8) (hdg : decode cc pc = .ok (.invokevirtual index, 3)) (hf : cells + mc ≤ R.cells ∧ slots + ms ≤ R.slots) (hf2 : cells + mc ≤ mc2 ∧ slots + ms ≤ ms2)
    (kx : ∀ (X : String) (q : Nat) (w' : wd), py X q w' → px X q w')
    (kk : ∀ (r : ρ) (w' : wd) (H1 : Heap) (locs1 : List Loc), post r w' → wP E w' H1 → va_S (gA E) s.heap H1 locs1 → W p l e R s m args below meth c H1 locs1 (cells + mc) (slots + ms) Q (F0 m (pc + 3) ls ((mk r).toList ++ rest))) : W p l e R s m args below meth c H locs cells slots Q (F0 m pc ls st0) :=
  kx_call (vx_runV (g := F0 m pc ls st0) ⟨hx, hb, hml, hown, hts⟩ hMt cw (k_preV hG hP hS hrv hc) rfl hn hsize hst hW hdg hf) hS hQ ht hlocks hf2.1 hf2.2 kx kk
theorem kx_cS {ρ : Type} {mk : ρ → Option Value} {post : ρ → wd → Prop} {py : String → Nat → wd → Prop} {own : String} {index n nL mc ms mc2 ms2 maxL : Nat} {y : MethodName} {ws : List Cond} {rm : Room} {bytes : ByteArray} {ret : Option FieldType} {As : List Value} (hx : p.tables.exec = Jvm.exec) (hb : c.code = cc) (hml : c.maxLocals = nL) (hown : s.vm.findClass own = some m.cls) (hts : ∀ w ∈ lw_all, w.before args s = true)
    (hQ : Q = vx_MQ below Qc (kXC E px) args s mc2 ms2 (gA E)) (ht : ∀ x ∈ c.exceptionTable.toList, False) (hlocks : meth.locks = false)
    (hMt : kX l y ws rm mc ms mk E w As post py) (cw : CallB R s args own index y bytes maxL ret ws rm mc ms n ∧ (Cond.static y).before args s = true) (hG : gK E s) (hP : wP E w H) (hS : va_S (gA E) s.heap H locs) (hn : As.length = n) (hsize : ls.size = nL) (hst : st0 = As.reverse ++ rest) (hW : 2 * (F0 m pc ls st0).monitorRoom + (rest.map fun v => v.category).sum ≤ 8) (hdg : decode cc pc = .ok (.invokestatic index, 3)) (hf : cells + mc ≤ R.cells ∧ slots + ms ≤ R.slots) (hf2 : cells + mc ≤ mc2 ∧ slots + ms ≤ ms2)
    (kx : ∀ (X : String) (q : Nat) (w' : wd), py X q w' → px X q w')
    (kk : ∀ (r : ρ) (w' : wd) (H1 : Heap) (locs1 : List Loc), post r w' → wP E w' H1 → va_S (gA E) s.heap H1 locs1 → W p l e R s m args below meth c H1 locs1 (cells + mc) (slots + ms) Q (F0 m (pc + 3) ls ((mk r).toList ++ rest))) : W p l e R s m args below meth c H locs cells slots Q (F0 m pc ls st0) :=
  kx_call (vx_runS (g := F0 m pc ls st0) ⟨hx, hb, hml, hown, hts⟩ hMt cw (k_preS hG hP hS) rfl hn hsize hst hW hdg hf) hS hQ ht hlocks hf2.1 hf2.2 kx kk
theorem kx_iret {post : Int32 → wd → Prop} {v : Int32} {mc ms : Nat} {XC : String → Addr → State → State → Prop} (hx : p.tables.exec = Jvm.exec) (hb : c.code = cc) (hr : meth.sig.returnType = some .int) (hlocks : meth.locks = false) (hQ : Q = vx_MQ below (kQ E mI post) XC args s mc ms (gA E)) (hP : wP E w H) (hS : va_S (gA E) s.heap H locs) (hc : cells ≤ mc) (hs : slots ≤ ms) (hdg : decode cc pc = .ok (.ireturn, 1)) (hpost : post v w) :
    W p l e R s m args below meth c H locs cells slots Q (F0 m pc ls [.int v]) := by
  subst hQ
  exact vx_ret (k_iret hx hb hr hlocks rfl hP hS hc hs hdg hpost)
theorem kx_dret {post : UInt64 → wd → Prop} {v : UInt64} {mc ms : Nat} {XC : String → Addr → State → State → Prop} (hx : p.tables.exec = Jvm.exec) (hb : c.code = cc) (hr : meth.sig.returnType = some .double) (hlocks : meth.locks = false) (hQ : Q = vx_MQ below (kQ E mD post) XC args s mc ms (gA E)) (hP : wP E w H) (hS : va_S (gA E) s.heap H locs) (hc : cells ≤ mc) (hs : slots ≤ ms) (hdg : decode cc pc = .ok (.dreturn, 1)) (hpost : post v w) :
    W p l e R s m args below meth c H locs cells slots Q (F0 m pc ls [.double v]) := by
  subst hQ
  exact vx_ret (k_dret hx hb hr hlocks rfl hP hS hc hs hdg hpost)
theorem kx_fret {post : UInt32 → wd → Prop} {v : UInt32} {mc ms : Nat} {XC : String → Addr → State → State → Prop} (hx : p.tables.exec = Jvm.exec) (hb : c.code = cc) (hr : meth.sig.returnType = some .float) (hlocks : meth.locks = false) (hQ : Q = vx_MQ below (kQ E mF post) XC args s mc ms (gA E)) (hP : wP E w H) (hS : va_S (gA E) s.heap H locs) (hc : cells ≤ mc) (hs : slots ≤ ms) (hdg : decode cc pc = .ok (.freturn, 1)) (hpost : post v w) :
    W p l e R s m args below meth c H locs cells slots Q (F0 m pc ls [.float v]) := by
  subst hQ
  exact vx_ret (k_fret hx hb hr hlocks rfl hP hS hc hs hdg hpost)
theorem kx_zret {post : Int32 → wd → Prop} {v : Int32} {ty : FieldType} {mc ms : Nat} {XC : String → Addr → State → State → Prop} (hx : p.tables.exec = Jvm.exec) (hb : c.code = cc) (hr : meth.sig.returnType = some ty) (hlocks : meth.locks = false) (hQ : Q = vx_MQ below (kQ E mI post) XC args s mc ms (gA E)) (hP : wP E w H) (hS : va_S (gA E) s.heap H locs) (hc : cells ≤ mc) (hs : slots ≤ ms) (hdg : decode cc pc = .ok (.ireturn, 1)) (hn : narrow ty (.int v) = .int v) (hpost : post v w) :
    W p l e R s m args below meth c H locs cells slots Q (F0 m pc ls [.int v]) := by
  subst hQ
  exact vx_ret (k_zret hx hb hr hlocks rfl hP hS hc hs hdg hn hpost)
theorem kx_vret {post : Unit → wd → Prop} {mc ms : Nat} {XC : String → Addr → State → State → Prop} (hx : p.tables.exec = Jvm.exec) (hb : c.code = cc) (hr : meth.sig.returnType = none) (hlocks : meth.locks = false) (hQ : Q = vx_MQ below (kQ E mV post) XC args s mc ms (gA E)) (hP : wP E w H) (hS : va_S (gA E) s.heap H locs) (hc : cells ≤ mc) (hs : slots ≤ ms) (hdg : decode cc pc = .ok (.return_, 1)) (hpost : post () w) :
    W p l e R s m args below meth c H locs cells slots Q (F0 m pc ls []) := by
  subst hQ
  exact vx_ret (k_vret hx hb hr hlocks rfl hP hS hc hs hdg hpost)
theorem kx_aret {post : Nat → wd → Prop} {v : Nat} {rt : FieldType} {mc ms : Nat} {XC : String → Addr → State → State → Prop} (hx : p.tables.exec = Jvm.exec) (hb : c.code = cc) (hr : meth.sig.returnType = some rt) (hrt : (∃ n, rt = .object n) ∨ ∃ t, rt = .array t) (hlocks : meth.locks = false) (hQ : Q = vx_MQ below (kQ E mR post) XC args s mc ms (gA E)) (hP : wP E w H) (hS : va_S (gA E) s.heap H locs) (hc : cells ≤ mc) (hs : slots ≤ ms) (hdg : decode cc pc = .ok (.areturn, 1)) (hpost : post v w) :
    W p l e R s m args below meth c H locs cells slots Q (F0 m pc ls [.ref v]) := by
  subst hQ
  exact vx_ret (k_aret hx hb hr hrt hlocks rfl hP hS hc hs hdg hpost)
end KX

theorem kt_thr : ∀ w ∈ Bundle.throwableAtoms, kW w := (kw_c (Or.inl q82) (kw_c (Or.inl q437) (kw_c (Or.inl q387) (kw_c (Or.inl q397) (kw_c (Or.inl q400) (kw_c (Or.inl q402) (kw_c (Or.inl q438) (kw_c (Or.inl q439) (kw_c (Or.inl q115) (kw_c (Or.inl q116) (kw_c (Or.inl q381) (kw_c (Or.inl q386) (kw_c (Or.inl q398) (kw_c (Or.inl q405) (kw_c (Or.inl q431) (kw_c (Or.inl q406) (kw_c (Or.inl q432) (kw_c (Or.inl q407) (kw_c (Or.inl q433) (kw_c (Or.inl q382) (kw_c (Or.inr (Or.inr (by simp [vx_no]))) (kw_c (Or.inl q384) (kw_c (Or.inr (Or.inr (by simp [vx_no]))) (kw_c (Or.inl q434) kw_n))))))))))))))))))))))))
theorem kp_IllegalArgumentException : ∀ w ∈ Bundle.passAtoms "java/lang/IllegalArgumentException" "java/lang/RuntimeException" 1 Bundle.five, kW w := (kw_c (Or.inl q496) (kw_c (Or.inl q497) (kw_c (Or.inl q498) (kw_c (Or.inl q472) (kw_c (Or.inr (Or.inl ⟨q424, rfl, rfl⟩)) kw_n)))))
theorem kp_RuntimeException : ∀ w ∈ Bundle.passAtoms "java/lang/RuntimeException" "java/lang/Exception" 1 Bundle.five, kW w := (kw_c (Or.inl q472) (kw_c (Or.inl q473) (kw_c (Or.inl q474) (kw_c (Or.inl q475) (kw_c (Or.inr (Or.inl ⟨q426, rfl, rfl⟩)) kw_n)))))
theorem kp_Exception : ∀ w ∈ Bundle.passAtoms "java/lang/Exception" "java/lang/Throwable" 1 Bundle.five, kW w := (kw_c (Or.inl q475) (kw_c (Or.inl q476) (kw_c (Or.inl q477) (kw_c (Or.inl q438) (kw_c (Or.inr (Or.inl ⟨q428, rfl, rfl⟩)) kw_n)))))
theorem kt_X1_check : ∀ w ∈ Bundle.ownAtoms0 "KiteRoofs" 49 "java/lang/IllegalArgumentException" ["java/lang/RuntimeException", "java/lang/Exception"], kW w := kw_app (kw_app kt_thr (kw_app kp_IllegalArgumentException (kw_app kp_RuntimeException kp_Exception))) (kw_c (Or.inl q495) (kw_c (Or.inl q487) (kw_c (Or.inr (Or.inl ⟨q488, rfl, rfl⟩)) (kw_c (Or.inl q489) (kw_c (Or.inl q392) (kw_c (Or.inl q490) (kw_c (Or.inl q491) (kw_c (Or.inl q492) (kw_c (Or.inl q493) (kw_c (Or.inr (Or.inr (by simp [vx_no]))) (kw_c (Or.inr (Or.inr (by simp [vx_no]))) (kw_c (Or.inl q436) (kw_c (Or.inl q435) (kw_c (Or.inl q494) kw_n))))))))))))))
theorem kp_NoSuchElementException : ∀ w ∈ Bundle.passAtoms "java/util/NoSuchElementException" "java/lang/RuntimeException" 1 Bundle.five, kW w := (kw_c (Or.inl q914) (kw_c (Or.inl q915) (kw_c (Or.inl q916) (kw_c (Or.inl q472) (kw_c (Or.inr (Or.inl ⟨q424, rfl, rfl⟩)) kw_n)))))
theorem kt_X1_checkElement : ∀ w ∈ Bundle.ownAtoms0 "KiteRoofs" 52 "java/util/NoSuchElementException" ["java/lang/RuntimeException", "java/lang/Exception"], kW w := kw_app (kw_app kt_thr (kw_app kp_NoSuchElementException (kw_app kp_RuntimeException kp_Exception))) (kw_c (Or.inl q913) (kw_c (Or.inl q905) (kw_c (Or.inr (Or.inl ⟨q906, rfl, rfl⟩)) (kw_c (Or.inl q907) (kw_c (Or.inl q396) (kw_c (Or.inl q908) (kw_c (Or.inl q909) (kw_c (Or.inl q910) (kw_c (Or.inl q911) (kw_c (Or.inr (Or.inr (by simp [vx_no]))) (kw_c (Or.inr (Or.inr (by simp [vx_no]))) (kw_c (Or.inl q436) (kw_c (Or.inl q435) (kw_c (Or.inl q912) kw_n))))))))))))))
theorem kp_IllegalStateException : ∀ w ∈ Bundle.passAtoms "java/lang/IllegalStateException" "java/lang/RuntimeException" 1 Bundle.five, kW w := (kw_c (Or.inl q1089) (kw_c (Or.inl q1090) (kw_c (Or.inl q1091) (kw_c (Or.inl q472) (kw_c (Or.inr (Or.inl ⟨q424, rfl, rfl⟩)) kw_n)))))
theorem kt_X1_checkState : ∀ w ∈ Bundle.ownAtoms0 "KiteRoofs" 55 "java/lang/IllegalStateException" ["java/lang/RuntimeException", "java/lang/Exception"], kW w := kw_app (kw_app kt_thr (kw_app kp_IllegalStateException (kw_app kp_RuntimeException kp_Exception))) (kw_c (Or.inl q1088) (kw_c (Or.inl q536) (kw_c (Or.inr (Or.inl ⟨q537, rfl, rfl⟩)) (kw_c (Or.inl q538) (kw_c (Or.inl q393) (kw_c (Or.inl q539) (kw_c (Or.inl q540) (kw_c (Or.inl q541) (kw_c (Or.inl q542) (kw_c (Or.inr (Or.inr (by simp [vx_no]))) (kw_c (Or.inr (Or.inr (by simp [vx_no]))) (kw_c (Or.inl q436) (kw_c (Or.inl q435) (kw_c (Or.inl q543) kw_n))))))))))))))
theorem kp_IndexOutOfBoundsException : ∀ w ∈ Bundle.passAtoms "java/lang/IndexOutOfBoundsException" "java/lang/RuntimeException" 1 Bundle.five, kW w := (kw_c (Or.inl q469) (kw_c (Or.inl q470) (kw_c (Or.inl q471) (kw_c (Or.inl q472) (kw_c (Or.inr (Or.inl ⟨q424, rfl, rfl⟩)) kw_n)))))
theorem kt_X1_checkIndex : ∀ w ∈ Bundle.ownAtoms0 "KiteRoofs" 58 "java/lang/IndexOutOfBoundsException" ["java/lang/RuntimeException", "java/lang/Exception"], kW w := kw_app (kw_app kt_thr (kw_app kp_IndexOutOfBoundsException (kw_app kp_RuntimeException kp_Exception))) (kw_c (Or.inl q468) (kw_c (Or.inl q460) (kw_c (Or.inr (Or.inl ⟨q461, rfl, rfl⟩)) (kw_c (Or.inl q462) (kw_c (Or.inl q394) (kw_c (Or.inl q463) (kw_c (Or.inl q464) (kw_c (Or.inl q465) (kw_c (Or.inl q466) (kw_c (Or.inr (Or.inr (by simp [vx_no]))) (kw_c (Or.inr (Or.inr (by simp [vx_no]))) (kw_c (Or.inl q436) (kw_c (Or.inl q435) (kw_c (Or.inl q467) kw_n))))))))))))))
theorem kp_ArithmeticException : ∀ w ∈ Bundle.passAtoms "java/lang/ArithmeticException" "java/lang/RuntimeException" 1 Bundle.five, kW w := (kw_c (Or.inl q1564) (kw_c (Or.inl q1565) (kw_c (Or.inl q1566) (kw_c (Or.inl q472) (kw_c (Or.inr (Or.inl ⟨q424, rfl, rfl⟩)) kw_n)))))
theorem kt_X1_checkAny : ∀ w ∈ Bundle.ownAtoms0 "KiteRoofs" 61 "java/lang/ArithmeticException" ["java/lang/RuntimeException", "java/lang/Exception"], kW w := kw_app (kw_app kt_thr (kw_app kp_ArithmeticException (kw_app kp_RuntimeException kp_Exception))) (kw_c (Or.inl q1563) (kw_c (Or.inl q1542) (kw_c (Or.inr (Or.inl ⟨q1553, rfl, rfl⟩)) (kw_c (Or.inl q1554) (kw_c (Or.inl q390) (kw_c (Or.inl q1548) (kw_c (Or.inl q1549) (kw_c (Or.inl q1551) (kw_c (Or.inl q1547) (kw_c (Or.inr (Or.inr (by simp [vx_no]))) (kw_c (Or.inr (Or.inr (by simp [vx_no]))) (kw_c (Or.inl q436) (kw_c (Or.inl q435) (kw_c (Or.inl q1546) kw_n))))))))))))))
theorem kp_UnsupportedOperationException : ∀ w ∈ Bundle.passAtoms "java/lang/UnsupportedOperationException" "java/lang/RuntimeException" 1 Bundle.five, kW w := (kw_c (Or.inl q628) (kw_c (Or.inl q629) (kw_c (Or.inl q630) (kw_c (Or.inl q472) (kw_c (Or.inr (Or.inl ⟨q424, rfl, rfl⟩)) kw_n)))))
theorem kt_X1_checkSupported : ∀ w ∈ Bundle.ownAtoms0 "KiteRoofs" 67 "java/lang/UnsupportedOperationException" ["java/lang/RuntimeException", "java/lang/Exception"], kW w := kw_app (kw_app kt_thr (kw_app kp_UnsupportedOperationException (kw_app kp_RuntimeException kp_Exception))) (kw_c (Or.inl q627) (kw_c (Or.inl q619) (kw_c (Or.inr (Or.inl ⟨q620, rfl, rfl⟩)) (kw_c (Or.inl q621) (kw_c (Or.inl q395) (kw_c (Or.inl q622) (kw_c (Or.inl q623) (kw_c (Or.inl q624) (kw_c (Or.inl q625) (kw_c (Or.inr (Or.inr (by simp [vx_no]))) (kw_c (Or.inr (Or.inr (by simp [vx_no]))) (kw_c (Or.inl q436) (kw_c (Or.inl q435) (kw_c (Or.inl q626) kw_n))))))))))))))
