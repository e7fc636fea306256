/-! CONSTANTS WITH BODIES: a method of theirs that answers a number, walked in its caller's step (no word says that their classes are initialised, so no contract can be called) -/
set_option maxRecDepth 100000
section CMC
variable {p : Program} {l : Launch} {e : Env} {R : Room} {s : State} {m : MethodId} {args : Array Value} {below : List Frame} {meth : Method} {c : Code} {T : State} {locs : List Loc} {cells slots : Nat}
theorem kn_const (X : Stand p l e R s m args below meth c T locs cells slots) (hexec : p.tables.exec = Jvm.exec) {g : JFrame} (hg : g.method = m) (hsize : g.locals.size = c.maxLocals) {target : State}
    {m' : MethodId} {meth' : Method} {code' : Code} {args' : Array Value} {ig : Instr} {len : Nat} (acts : List Action) {cc : ByteArray} {n : Int32} {k0 : Nat} {x : Int}
    (hpl : T.plainMethod m') (hm : T.vm.method? m' = some meth') (hc : meth'.code = some code') (hbytes : code'.code = cc) (hl : meth'.locks = false) (hret : meth'.sig.returnType = some .int)
    (d0 : (decode cc 0 = .ok (.iconst x, k0) ∧ Int32.ofInt x = n) ∨ (decode cc 0 = .ok (.bipush x, k0) ∧ (Int8.ofInt x).toInt32 = n)) (d1 : decode cc k0 = .ok (.ireturn, 1))
    (hframes : 1 ≤ R.frames) (hlocals : 2 * g.monitorRoom + (g.stack.map fun v => v.category).sum + (code'.maxLocals + 11) ≤ R.locals) (hdg : decode c.code g.pc = .ok (ig, len))
    (hrest : Steps p.tables e below (T.setTop { g with pc := g.pc + len, stack := .int n :: g.stack }) target) : Steps p.tables e below (doInvoke e (T.setTop g) acts m' args').1 target := by
  have hT : At T g.method c below := by rw [hg]; exact X.here
  rw [doInvoke_enter hT.top acts hm hc hl (X.notFull hsize hframes hlocals)]
  have hA : At ((T.setTop g).pushFrame (.java (entryFrame m' args' code'.maxLocals))) m' code' below := At.enter hT args' hm hc hpl
  have hf := frames_entered (g := g) hT.top (.java (entryFrame m' args' code'.maxLocals))
  generalize hU : (T.setTop g).pushFrame (.java (entryFrame m' args' code'.maxLocals)) = U at hA hf ⊢
  have hmU : U.vm.method? m' = some meth' := by rw [← hU]; simpa [State.pushFrame, State.setFrames] using hm
  have hcU : U.code? g.method = some c := by
    have := hT.code
    rw [← hU]
    rw [State.code?_eq] at this ⊢
    simpa [State.pushFrame, State.setFrames] using this
  have hback : U.setFrames (.java g :: T.frames.tail) = T.setTop g := by rw [← hU]; exact setFrames_entered hT.top _
  have last : Steps p.tables e below (U.setTop { method := m', pc := k0, locals := (entryFrame m' args' code'.maxLocals).locals, stack := [.int n], locked := none }) target := by
    jvm_step hA [hA.top, hexec, hbytes, d1, hmU, hret, narrow]
    (try refine ⟨rfl, ?_⟩); (try refine ⟨rfl, ?_⟩)
    intro acts'
    rw [doReturn_leave (g := g) (meth := meth') (cg := c) (ig := ig) (len := len) acts' hf (by simpa using hmU) hl rfl rfl hcU hdg, hback, State.setTop_setTop]
    exact hrest
  rcases d0 with ⟨d0, hn⟩ | ⟨d0, hn⟩
  · subst hn
    unfold entryFrame
    jvm_step hA [hA.top, hexec, hbytes, d0]
    exact last
  · subst hn
    unfold entryFrame
    jvm_step hA [hA.top, hexec, hbytes, d0]
    exact last
end CMC
section KKN
variable {p : Program} {l : Launch} {e : Env} {R : Room} {s : State} {m : MethodId} {args : Array Value} {below : List Frame} {meth : Method} {c : Code} {H : Heap} {locs : List Loc} {cells slots : Nat} {Q : State → Prop}
variable {cc : ByteArray} {pc : Nat} {ls : Array Slot} {rest : List Value} {E : gE} {w : wd}
theorem k_kn (hx : p.tables.exec = Jvm.exec) (hb : c.code = cc) {own owner : String} {index nL z k0 : Nat} {x y : MethodName} {cy : ByteArray} {n : Int32} {xi : Int} (hml : c.maxLocals = nL) (hown : s.vm.findClass own = some m.cls) (hz : z < 3)
    (hlink : (Cond.methodLink own index x).before args s = true) (hsame : (Cond.sameMethod x.cls owner x.name x.desc).before args s = true) (hd0 : va_Decl s ⟨owner, x.name, x.desc⟩) (howner : owner ≠ "java/lang/invoke/MethodHandle" ∧ owner ≠ "java/lang/invoke/VarHandle")
    (hsel : (Cond.selects (mkC z) x y).before args s = true) (hinst : (Cond.instanceMethod y).before args s = true) (hcode : (Cond.code y cy 1 (some .int)).before args s = true) (hy : plainName y.cls = true) (hdesc : (parseMethodDescriptor x.desc).map (fun d => d.parameters.length) = some 0)
    (d0 : (decode cy 0 = .ok (.iconst xi, k0) ∧ Int32.ofInt xi = n) ∨ (decode cy 0 = .ok (.bipush xi, k0) ∧ (Int8.ofInt xi).toInt32 = n)) (d1 : decode cy k0 = .ok (.ireturn, 1))
    (hG : gK E s) (hS : va_S (gA E) s.heap H locs) (hsize : ls.size = nL) (hdg : decode cc pc = .ok (.invokevirtual index, 3)) (hR : 1 ≤ R.frames ∧ 20 ≤ R.locals) (hW : (rest.map fun v => v.category).sum ≤ 8)
    (kk : W p l e R s m args below meth c H locs cells slots Q (F0 m (pc + 3) ls (.int n :: rest))) : W p l e R s m args below meth c H locs cells slots Q (F0 m pc ls (.ref (eM E z) :: rest)) := by
  intro T hT X
  obtain ⟨cellB, hcB, hoB, hclB⟩ : ∃ cell : Cell, H[eM E z]? = some cell ∧ cell.vm.isStatics = false ∧ s.vm.findClass (mkC z) = some cell.cls := by
    obtain ⟨cell, h1, h2, h3, -⟩ := ((hG.2.2.2.1 z hz).2.1.kept hS.2.1)
    exact ⟨cell, h1, h2, h3⟩
  obtain ⟨r0, r, hn, hrm, hstR, hsigR⟩ := hd0
  obtain ⟨cn, ck, r1, hcn, hck, hni, hf, hn1⟩ := Cond.sameMethod_found hsame
  cases hn.symm.trans hn1
  obtain ⟨mk, methM, hnamed, hmethM, -, habM⟩ := Cond.instanceMethod_spec hinst
  obtain ⟨c2, r2, m2, q1, q2, q3, q4, kP, hkP, hkPi⟩ := Cond.selects_spec hsel
  cases hclB.symm.trans q1
  cases hf.symm.trans q2
  cases hnamed.symm.trans q3
  have hselP : selectMethod e.platform s.vm cellB.cls r0 = .method mk := by rw [Launch.admits_selectMethod X.admits]; exact q4
  have hlen : ([] : List Value).length = r.sig.parameters.length := by
    rw [hsigR] at hdesc
    exact (Option.some.inj hdesc).symm
  obtain ⟨vm₁, X₁, hstep₁⟩ := X.invokevirtualUp hx hown hlink hsame howner hn hrm hstR (a := eM E z) (cell := cellB) (by rw [hT]; exact hcB)
    (fun z h => by rw [h] at hoB; cases hoB) hselP hmethM habM hkP hkPi (g := F0 m pc ls (.ref (eM E z) :: rest)) rfl (argsL := []) (rest := rest) hlen rfl (by rw [hb]; exact hdg)
  obtain ⟨t, a1, b1⟩ := kk (T.setVm vm₁) hT X₁
  refine ⟨t, hstep₁ _ fun acts => ?_, b1⟩
  obtain ⟨methY, cY, h1, h2, h3, h4, h5, h6, -, -⟩ := Cond.code_spec hnamed hcode
  have hmY : (T.setVm vm₁).vm.method? mk = some methY := by rw [X₁.warmed.alike.method?]; exact h1
  exact kn_const X₁ hx rfl (by show ls.size = c.maxLocals; rw [hml]; exact hsize) acts (State.plainMethod.of_named (plainFor_of_name hy) (X₁.named hnamed) hmY) hmY h2 h3 h6 h5 d0 d1 hR.1 (by show 2 * 0 + (rest.map fun v => v.category).sum + (cY.maxLocals + 11) ≤ R.locals; rw [h4]; have := hR.2; omega) (by rw [hb]; exact hdg) a1
end KKN
