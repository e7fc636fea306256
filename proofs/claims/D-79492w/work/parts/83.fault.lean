/-! A FAULT is made and thrown: an exception of our own, with a field -/
set_option maxRecDepth 100000
def ks_atoms (own : String) (ic : Nat) (sup : String) (names : List String) (X : String) (n : Nat) : List Cond :=
  Bundle.throwableAtoms ++ Bundle.chain0Atoms sup names ++
  [.methodLink own ic (Bundle.init0 sup), .instantiable X n, .selects X Bundle.tFill0 Bundle.tFill0, .selects X Bundle.tFill Bundle.tFill,
   .lays X Bundle.tN "cause" "Ljava/lang/Throwable;", .lays X Bundle.tN "stackTrace" Bundle.steD, .lays X Bundle.tN "suppressedExceptions" Bundle.listD, .lays X Bundle.tN "detailMessage" "Ljava/lang/String;",
   .isRef (.static Bundle.tN "UNASSIGNED_STACK" Bundle.steD), .isRef (.static Bundle.tN "SUPPRESSED_SENTINEL" Bundle.listD),
   .fieldLink Bundle.tN 198 Bundle.tN "backtrace" "Ljava/lang/Object;", .lays Bundle.tN Bundle.tN "backtrace" "Ljava/lang/Object;", .lays X Bundle.tN "backtrace" "Ljava/lang/Object;"]
section KS
variable {p : Program} {l : Launch} {e : Env} {R : Room} {s : State} {m₀ : MethodId} {args : Array Value} {below : List Frame} {meth : Method} {c : Code} {W : State} {cells slots : Nat}
set_option maxHeartbeats 1000000 in
/-- the super constructor's chain up to Throwable, over an object that has just been made (after vx_ctorMade0) -/
theorem ks_super0 (X : Stand p l e R s m₀ args below meth c W [] cells slots) (hexec : p.tables.exec = Jvm.exec) (htr : e.platform.stackTraces = false) {own sup cls : String} {names : List String} {ic n : Nat}
    (hown : s.vm.findClass own = some m₀.cls) (hcls : Bundle.fit sup = true) (hnames : ∀ n ∈ names, Bundle.fit n = true)
    (h : ∀ a ∈ ks_atoms own ic sup names cls n, a.before args s = true)
    {a : Addr} {cX : ClassId} {kX : Class} (hfoundX : s.vm.findClass cls = some cX) (hkX : s.vm.classes[cX]? = some kX) (hcell : W.heap[a]? = some (freshCell cX kX))
    {g : JFrame} (hg : g.method = m₀) (hsize : g.locals.size = c.maxLocals) {rest : List Value} (hstack : g.stack = .ref a :: rest)
    (hd6 : decode c.code g.pc = .ok (.invokespecial ic, 3))
    (hRframes : names.length + 3 < R.frames) (hRlocals : 2 * g.monitorRoom + (rest.map fun v => v.category).sum + (13 * (names.length + 1) + 41) ≤ R.locals) :
    ∃ (V : State) (ce : Cell) (L : List Loc), Stand p l e R s m₀ args below meth c (V.setCell a ce) L cells slots ∧ (∀ y ∈ L, y.base = a) ∧ a < V.heap.size ∧ ce.cls = cX ∧ ce.vm = .none ∧ ce.slots.size = (freshCell cX kX).slots.size ∧
      ∀ target, Steps p.tables e below ((V.setCell a ce).setTop { g with stack := rest, pc := g.pc + 3 }) target → Steps p.tables e below (W.setTop g) target := by
  have howns : e.platform.frameOwnsMonitors = true := by rw [X.admits.platform]
  have hfin : e.platform.finalization = false := by rw [X.admits.platform]
  have hpl : e.platform.magicAccessors = ({} : Platform).magicAccessors := by rw [X.admits.platform]
  have a' : ∀ x, x ∈ ks_atoms own ic sup names cls n → x.holds args s none s [] = true := fun x hx => h x hx
  obtain ⟨T, Z, L, LZ, Y⟩ := ThrowableC.of_atoms (args := args) howns hfin hpl (fun x hx => h x (by simp [ks_atoms, hx]))
  obtain ⟨P1, Ps, hlen, L1, hL, hP1m, hlink1, hlink⟩ := Bundle.chain0 (args := args) hpl Y.init0 names sup hcls hnames (fun x hx => h x (by simp [ks_atoms, hx]))
  obtain ⟨c1, kX', hc1, hk, hord, -, -, hn6⟩ := Cond.instantiable_spec (a' (.instantiable cls n) (by simp [ks_atoms]))
  cases Option.some.inj (hc1.symm.trans hfoundX)
  cases Option.some.inj (hkX.symm.trans hk)
  have hfound := hfoundX
  have hsel0 : selectMethod e.platform s.vm cX T.fill0 = .method T.fill0 := by
    obtain ⟨c2, r2, m2, q1, q2, q3, q4, -⟩ := Cond.selects_spec (a' (.selects cls Bundle.tFill0 Bundle.tFill0) (by simp [ks_atoms]))
    cases Option.some.inj (q1.symm.trans hfound)
    cases Option.some.inj (q2.symm.trans (State.methodFound?_of_named Y.fill0 (by decide)))
    cases Option.some.inj (q3.symm.trans Y.fill0)
    rw [Launch.admits_selectMethod X.admits]; exact q4
  have hselF : selectMethod e.platform s.vm cX T.fill = .method T.fill := by
    obtain ⟨c2, r2, m2, q1, q2, q3, q4, -⟩ := Cond.selects_spec (a' (.selects cls Bundle.tFill Bundle.tFill) (by simp [ks_atoms]))
    cases Option.some.inj (q1.symm.trans hfound)
    cases Option.some.inj (q2.symm.trans (State.methodFound?_of_named Y.fill (by decide)))
    cases Option.some.inj (q3.symm.trans Y.fill)
    rw [Launch.admits_selectMethod X.admits]; exact q4
  obtain ⟨cellS0, hcS0, hiss⟩ := Y.statics
  obtain ⟨u0, hu0⟩ := Cond.staticRefV Y.unassigned L.unassignedStatic L.statics hcS0 hiss (a' (.isRef (.static Bundle.tN "UNASSIGNED_STACK" Bundle.steD)) (by simp [ks_atoms]))
  obtain ⟨sen, hsen⟩ := Cond.staticRefV Y.sentinel L.sentinelStatic L.statics hcS0 hiss (a' (.isRef (.static Bundle.tN "SUPPRESSED_SENTINEL" Bundle.listD)) (by simp [ks_atoms]))
  obtain ⟨ci198, i198, fB, hk198, hg198, ha198, hsB, -, hnB, htB, hffB⟩ := Cond.ownField (t := .object "java/lang/Object") Y.found L.cls (by decide +kernel) (a' (.fieldLink Bundle.tN 198 Bundle.tN "backtrace" "Ljava/lang/Object;") (by simp [ks_atoms])) (a' (.lays Bundle.tN Bundle.tN "backtrace" "Ljava/lang/Object;") (by simp [ks_atoms])) e.platform hpl
  obtain ⟨cellS, hcS', heS, -, hkeep⟩ := X.same.2.2.2.2.2 T.aS cellS0 hcS0
  have hcellS : W.heap[T.aS]? = some cellS := hcS'
  have hknownS : cellS.vm ≠ .unknown := by
    rw [heS]; intro hu
    rw [show cellS0.vm = .unknown from hu] at hiss
    cases hiss
  have hneS : T.aS ≠ a := by
    intro hz
    rw [hz, hcell] at hcellS
    have h9 := Option.some.inj hcellS
    rw [← h9] at heS
    have h8 : (freshCell cX kX).vm = cellS0.vm := by have := congrArg Cell.vm heS; exact this
    rw [← h8] at hiss
    cases hiss
  obtain ⟨iM, hffM⟩ := Y.msg
  obtain ⟨tyC, dC, hdC, hdnC⟩ := Cond.laysAt hfound hk Y.cause (a' (.lays cls Bundle.tN "cause" "Ljava/lang/Throwable;") (by simp [ks_atoms]))
  obtain ⟨tyS, dS, hdS, hdnS⟩ := Cond.laysAt hfound hk Y.stack (a' (.lays cls Bundle.tN "stackTrace" Bundle.steD) (by simp [ks_atoms]))
  obtain ⟨tyP, dP, hdP, hdnP⟩ := Cond.laysAt hfound hk Y.supp (a' (.lays cls Bundle.tN "suppressedExceptions" Bundle.listD) (by simp [ks_atoms]))
  obtain ⟨tyB, dB, hdB, hdnB⟩ := Cond.laysAt hfound hk hffB (a' (.lays cls Bundle.tN "backtrace" "Ljava/lang/Object;") (by simp [ks_atoms]))
  have bC := Cond.laysApart hdB hdC hdnB hdnC (by rw [hnB, Y.causeName]; decide)
  have bS := Cond.laysApart hdB hdS hdnB hdnS (by rw [hnB, Y.stackName]; decide)
  have bP := Cond.laysApart hdB hdP hdnB hdnP (by rw [hnB, Y.suppName]; decide)
  have hskip : SkipFacts T e.platform s (fun u => u) u0 ((preparedCellV T.toThrowableT (freshCell cX kX) a u0 sen).withEntry W.cur) :=
    ⟨{ ci198 := ci198, i198 := i198, fBack := fB }, ⟨hk198, hg198, ha198, hsB⟩, by
      have := fresh_default (c := cX) tyB
      rw [htB] at this
      simpa [preparedCellV, Cell.setSlot, Cell.withEntry, Array.getElem?_setIfInBounds, bC, bS, bP, bC.symm, bS.symm, bP.symm, defaultValue] using this, fun _ _ => rfl⟩
  obtain ⟨tm, methC, cdC, kC, vm₁, hnC, -, -, -, -, -, -, -, hW₁, st1⟩ := Steps.initCold (tb := p.tables) (e := e) (below := below) (s := s) (U := W) X.here hexec X.warmed hpl hown (t := Bundle.init0 sup) rfl rfl (Bundle.fit_spec hcls).2
    (a' (.methodLink own ic (Bundle.init0 sup)) (by simp [ks_atoms])) (h (.instanceMethod (Bundle.init0 sup)) (by cases names <;> simp [ks_atoms, Bundle.chain0Atoms, Bundle.passAtoms])) (bytes := Bundle.five) (maxL := 1) (h (.code (Bundle.init0 sup) Bundle.five 1 none) (by cases names <;> simp [ks_atoms, Bundle.chain0Atoms, Bundle.passAtoms]))
    (f := g) hg (a := a) (rest := rest) hstack hd6
  cases Option.some.inj (hnC.symm.trans hP1m)
  have X₁ := X.noted hW₁
  obtain ⟨vm₂, X₂, st2⟩ := X₁.ctorPlainOffV hexec (g := { g with stack := rest }) hg hsize T L Z LZ (P1 :: Ps)
    (fun P hP => by rcases List.mem_cons.mp hP with rfl | hP; exact L1; exact hL P hP) ⟨hlink1, hlink⟩ (u0 := u0) (sen := sen) (self := a) (cell := freshCell cX kX) (cellS := cellS)
    hcell (fun _ => by simp) (by simp) rfl rfl hsel0 hselF hcellS hneS hknownS (by rw [hkeep _ (fun z => nomatch z)]; exact hu0) (by rw [hkeep _ (fun z => nomatch z)]; exact hsen)
    (Takes.of_laid hk hord tyC (by rw [Y.causeType]; rfl)) (Takes.of_laid hk hord tyS (by rw [Y.stackType]; exact fits_refV_array _ u0)) (Takes.of_laid hk hord tyP (by rw [Y.suppType]; exact fits_refV_object _ sen)) Y.objLocals hskip htr [] hd6
    (by simp only [List.length_cons, hlen]; omega) (by simp only [List.length_cons, hlen]; exact hRlocals)
  have hlt : a < ((W.setVm vm₁).setVm vm₂).heap.size := (Array.getElem?_eq_some_iff.mp hcell).1
  refine ⟨(W.setVm vm₁).setVm vm₂, _, _, X₂, fun y hy => ?_, hlt, rfl, rfl, by simp [preparedCellV, Cell.setSlot], fun target hwalk => st1 _ (fun acts => ?_)⟩
  · simp only [List.nil_append, List.mem_cons, List.not_mem_nil, or_false] at hy
    rcases hy with rfl | rfl | rfl | rfl <;> rfl
  · rw [doInvoke_state]
    exact st2 _ hwalk
end KS
theorem kt_Fault : ∀ w ∈ ks_atoms "KiteRoofs$Fault" 1 "java/lang/RuntimeException" ["java/lang/Exception"] "KiteRoofs$Fault" 7, kW w := kw_app (kw_app kt_thr (kw_app kp_RuntimeException kp_Exception)) (kw_c (Or.inl q1392) (kw_c (Or.inl q1381) (kw_c (Or.inl q1383) (kw_c (Or.inl q389) (kw_c (Or.inl q1384) (kw_c (Or.inl q1385) (kw_c (Or.inl q1386) (kw_c (Or.inl q1387) (kw_c (Or.inr (Or.inr (by simp [vx_no]))) (kw_c (Or.inr (Or.inr (by simp [vx_no]))) (kw_c (Or.inl q436) (kw_c (Or.inl q435) (kw_c (Or.inl q1388) kw_n)))))))))))))
def fr10 (E : gE) (U : State) (y : Nat) : Prop := ∃ kC, U.vm.classes[(eD E).1 8]? = some kC ∧ U.heap[y]? = some (blank ((eD E).1 8) kC)
theorem fr10.moved {E : gE} {s U : State} {y : Nat} {H : Heap} {kC : Class} (hW : s.WarmedH U.vm) (hk : s.vm.classes[(eD E).1 8]? = some kC) (h : H[y]? = some (blank ((eD E).1 8) kC)) (hU : U.heap = H) : fr10 E U y := by
  obtain ⟨k', hk', he⟩ := hW.alike.2.2 _ _ hk
  refine ⟨k', hk', ?_⟩
  rw [hU, h, he]
  rfl
section KF
variable {p : Program} {l : Launch} {e : Env} {R : Room} {s : State} {m : MethodId} {args : Array Value} {below : List Frame} {meth : Method} {c : Code} {H : Heap} {locs : List Loc} {cells slots : Nat} {Q : State → Prop}
variable {cc : ByteArray} {pc : Nat} {ls : Array Slot} {rest st0 : List Value} {a : Nat} {E : gE} {w : wd} {τ : Nat × Nat}
theorem k_openK {ρ : Type} {y : MethodName} {ws : List Cond} {rm : Room} {mc ms maxL : Nat} {mk : ρ → Option Value} {av : List Value} {post : ρ → wd → Prop} {ret : Option FieldType} {Kx : State → Prop} (hy : plainName y.cls = true) (hw : ws = Cond.code y cc maxL ret :: lw_all) (hn : (lg_sl av).length ≤ maxL)
    (body : ∀ (p : Program) (e : Env) (s : State) (m : MethodId) (args : Array Value) (below : List Frame) (meth : Method) (c : Code) (ls : Array Slot) (Q : State → Prop), p.tables.exec = Jvm.exec → c.code = cc → meth.sig.returnType = ret → c.maxLocals = maxL → s.vm.findClass y.cls = some m.cls → (∀ w ∈ lw_all, w.before args s = true) → meth.locks = false → meth.name = y.name → Q = MQ below (kQ E mk post) args s mc ms (gA E) → gK E s → wP E w s.heap → lv_has ls maxL (lv_args 0 av) → va_S (gA E) s.heap s.heap [] → Kx s →
      W p l e rm s m args below meth c s.heap [] 0 0 Q (F0 m 0 ls [])) : Met l y ws rm (fun a9 U => kPc E w av a9 U ∧ Kx U) (kQ E mk post) mc ms (gA E) := by
  refine Met.ofW (cc := cc) (maxL := maxL) (ret := ret) hy hw ?_
  intro p e s m args below meth c s₁ B hml hv
  obtain ⟨⟨hav, hG, hP⟩, hx9⟩ := hv
  have hts := atoms_spec (ws := ws) B.pre
  have hF : W p l e rm s m args below meth c s.heap [] 0 0 (MQ below (kQ E mk post) args s mc ms (gA E)) (F0 m 0 ((lg_sl av ++ List.replicate (maxL - (lg_sl av).length) Slot.unset).toArray) []) :=
    body p e s m args below meth c _ _ B.exec B.bytes B.returns hml (findClass_of_methodNamed B.named) (fun w h => hts w (by rw [hw]; exact List.mem_cons_of_mem _ h)) B.notSynchronized (name_of_methodNamed B.named B.method).1 rfl hG hP (lv_entry av hn) va_S.rf hx9
  rw [hav, lg_entry_eq]
  rw [hav] at hF
  exact hF
theorem k_super10 (hx : p.tables.exec = Jvm.exec) (hb : c.code = cc) (hl0 : l.stackTraces = false) (hown : s.vm.findClass "KiteRoofs$Fault" = some m.cls) (hts : ∀ w ∈ lw_all, w.before args s = true) (hG : gK E s) (hP : wP E w s.heap) {y : Nat} {fs : List Value} (hy : w y = some (τ, .inr (8, fs))) (hfr : fr10 E s y) (hsize : ls.size = c.maxLocals) (hR : 4 < R.frames ∧ 67 ≤ R.locals) (hdg : decode cc pc = .ok (.invokespecial 1, 3))
    (kk : ∀ (H1 : Heap) (locs1 : List Loc) (w1 : wd) (v0 v1 v2 v3 v4 v5 v6 : Value), w1 y = some (τ, .inr (8, [v0, v1, v2, v3, v4, v5, v6])) → fr (pO τ) w w1 → wP E w1 H1 → va_S (gA E) s.heap H1 locs1 → W p l e R s m args below meth c H1 locs1 cells slots Q (F0 m (pc + 3) ls [])) :
    W p l e R s m args below meth c s.heap [] cells slots Q (F0 m pc ls [.ref y]) := by
  intro T hT X
  have htr : e.platform.stackTraces = false := (show e.platform.stackTraces = l.stackTraces by rw [X.admits.platform]).trans hl0
  obtain ⟨kC, hkC, hc9⟩ := hfr
  have hfc := (hG.1.1 8 _ rfl).2.1
  have hat : ∀ w ∈ ks_atoms "KiteRoofs$Fault" 1 "java/lang/RuntimeException" ["java/lang/Exception"] "KiteRoofs$Fault" 7, w.before args s = true :=
    vx_own (fun w h => (kt_Fault w (List.mem_filter.mp h).1).at (List.mem_filter.mp h).2 hts hG) (vx_isRefq hG.2.2.2.2.2.1.1) (vx_isRefq hG.2.2.2.2.2.2.1.1) hG.2.2.2.2.2.1.2.word hG.2.2.2.2.2.2.1.2.word
  obtain ⟨V, ce, L, Z, hL, hlt, hcl9, hvm9, hsz, st⟩ := ks_super0 X hx htr hown (by decide) (by decide) hat hfc hkC (by rw [hT]; exact hc9) (g := F0 m pc ls [.ref y]) rfl hsize (rest := []) rfl (by rw [hb]; exact hdg) hR.1 hR.2
  obtain ⟨f1, f2⟩ := vx_frame Z.same
  obtain ⟨hE, r, h1, cell, q1, q2, q3, q4⟩ := hP y _ _ hy
  cases h1
  have hce := Option.some.inj (q1.symm.trans hc9)
  have hq : ∀ k, k < 7 → ∃ v, ce.slots[(eD E).2 8 k]? = some v := fun k hk => by
    have h2 := (Array.getElem?_eq_some_iff.mp (q4 k hk)).1
    rw [hce] at h2
    have h3 : (eD E).2 8 k < ce.slots.size := by rw [hsz]; exact h2
    exact ⟨_, Array.getElem?_eq_getElem h3⟩
  obtain ⟨v0, g0⟩ := hq 0 (by decide)
  obtain ⟨v1, g1⟩ := hq 1 (by decide)
  obtain ⟨v2, g2⟩ := hq 2 (by decide)
  obtain ⟨v3, g3⟩ := hq 3 (by decide)
  obtain ⟨v4, g4⟩ := hq 4 (by decide)
  obtain ⟨v5, g5⟩ := hq 5 (by decide)
  obtain ⟨v6, g6⟩ := hq 6 (by decide)
  have hP1 : wP E (wu w y (τ, .inr (8, [v0, v1, v2, v3, v4, v5, v6]))) (V.setCell y ce).heap := by
    intro b σ f hb9
    by_cases hba : b = y
    · subst hba
      rw [wu_s] at hb9
      cases hb9
      refine ⟨hE, _, rfl, ce, heapAt_setCell_self (s := V) ce hlt, hcl9, hvm9, fun k hk => ?_⟩
      match k, hk with
      | 0, _ => exact g0
      | 1, _ => exact g1
      | 2, _ => exact g2
      | 3, _ => exact g3
      | 4, _ => exact g4
      | 5, _ => exact g5
      | 6, _ => exact g6
    · rw [wu_n hba] at hb9
      obtain ⟨h1, h2⟩ := hP b σ f hb9
      exact ⟨h1, h2.kept (f2 b (hP.lt hb9) (fun z hz => by rw [hL z hz]; exact fun e9 => hba e9.symm))⟩
  have hS1 : va_S (gA E) s.heap (V.setCell y ce).heap L := ⟨f1, fun q h1 h2 => f2 q h1 (fun z hz => by rw [hL z hz]; exact fun e9 => h2 (by rw [← e9]; exact hE)), fun z hz => by rw [hL z hz]; exact hE⟩
  obtain ⟨t, a1, b1⟩ := kk _ L _ v0 v1 v2 v3 v4 v5 v6 wu_s (fr.rf.put hy rfl) hP1 hS1 _ rfl Z
  exact ⟨t, st t a1, b1⟩
end KF
abbrev rmCX10_init : Room := { frames := 5, cells := 0, slots := 0, locals := 100 }
theorem dyX10_init : yX10_init.cls = RX10 ∧ yX10_init.cls ≠ "java/lang/invoke/MethodHandle" ∧ yX10_init.cls ≠ "java/lang/invoke/VarHandle" ∧ (parseMethodDescriptor yX10_init.desc).map (fun d => d.parameters.length) = some 1 := by decide +kernel
set_option maxHeartbeats 4000000 in
theorem CX10_init (l0 : Launch) (hl0 : l0.stackTraces = false) (E : gE) (w : wd) (y : Nat) (x : Int32) (fs : List Value) (hy : w y = some ((97, 0), .inr (8, fs))) :
    Met l0 yX10_init (ws_ yX10_init cX10_init 2 none) rmCX10_init (fun a9 U => kPc E w [.ref y, .int x] a9 U ∧ fr10 E U y) (kQ E mV (fun _ w' => (∃ v0 v1 v2 v3 v4 v5, w' y = some ((97, 0), .inr (8, [v0, v1, v2, v3, v4, v5, .int x]))) ∧ fr (pO (97, 0)) w w')) 0 0 (gA E) := by
  refine k_openK (cc := cX10_init) (maxL := 2) (ret := none) (by decide) rfl (Nat.le_of_ble_eq_true rfl) ?_
  intro p e s m args below meth c ls Q hx hb hr hml hown hts hlocks hname hQ hG hP hl hS hfr
  have hl : lv_has ls 2 [(0, .ref y), (1, .int x)] := hl
  refine lv_aload_n hx hb dX10_init_0 rfl (lv_at hl 0 rfl) ?_
  refine k_super10 hx hb hl0 hown hts hG hP hy hfr (by rw [hml]; exact hl.1) ⟨by decide, by decide⟩ dX10_init_1 (fun H locs w1 v0 v1 v2 v3 v4 v5 v6 hy hf hP hS => ?_)
  refine W.eq (g2 := F0 m 4 ls []) rfl ?_
  refine lv_aload_n hx hb dX10_init_4 rfl (lv_at hl 0 rfl) ?_
  refine lv_iload_n hx hb dX10_init_5 rfl (lv_at hl 1 rfl) ?_
  refine k_putFW hx hb hts in_X10 tyX10 tyX10_ok nmX10 hown hG hP hS hy rfl 6 (by decide) (hts _ q1393) (fun _ h9 => h9) rfl hname rfl (ty := .int) (v := .int x) rfl rfl rfl (Nat.le_of_ble_eq_true rfl) dX10_init_6 (fun w2 H locs h9 hf9 hP hS => ?_)
  exact k_vret hx hb hr hlocks hQ hP hS (Nat.le_refl _) (Nat.le_refl _) dX10_init_9 ⟨⟨v0, v1, v2, v3, v4, v5, h9⟩, hf.tr hf9⟩
section KF2
variable {p : Program} {l : Launch} {e : Env} {R : Room} {s : State} {m : MethodId} {args : Array Value} {below : List Frame} {meth : Method} {c : Code} {H : Heap} {locs : List Loc} {cells slots : Nat} {Q : State → Prop}
variable {cc : ByteArray} {pc : Nat} {ls : Array Slot} {rest st0 : List Value} {a : Nat} {E : gE} {w : wd} {τ : Nat × Nat} {Qc : Array Value → State → Outcome → State → Prop} {px : String → Nat → wd → Prop}
/-- 'throw new Fault(at)' in the reader h -/
theorem kx_fault {mc ms nL : Nat} (hx : p.tables.exec = Jvm.exec) (hb : c.code = cc) (hml : c.maxLocals = nL) (hl0 : l.stackTraces = false) (hown : s.vm.findClass "KiteRoofs$Reader" = some m.cls) (hts : ∀ w ∈ lw_all, w.before args s = true)
    (hQ : Q = vx_MQ below Qc (kXC E px) args s mc ms (gA E)) (ht : ∀ x ∈ c.exceptionTable.toList, False) (hlocks : meth.locks = false) (hG : gK E s) (hP : wP E w H) (hS : va_S (gA E) s.heap H locs) (hsize : ls.size = nL)
    {h t9 o9 : Nat} {x y9 : Int32} (hr9 : w h = some (τ, .inr (7, [.ref t9, .int x, .ref o9, .int y9]))) (h0 : ls[0]? = some (.val (.ref h)))
    (d0 : decode cc pc = .ok (.new 42, 3)) (d3 : decode cc (pc + 3) = .ok (.dup, 1)) (d4 : decode cc (pc + 4) = .ok (.aload_n 0, 1)) (d5 : decode cc (pc + 5) = .ok (.getfield 21, 3)) (d8 : decode cc (pc + 8) = .ok (.invokespecial 44, 3)) (d11 : decode cc (pc + 11) = .ok (.athrow, 1))
    (hR : 6 ≤ R.frames ∧ 121 ≤ R.locals ∧ cells + 1 ≤ R.cells ∧ slots + 7 ≤ R.slots) (hc : cells + 1 ≤ mc) (hs : slots + 7 ≤ ms)
    (hpx : ∀ (q : Nat) (w' : wd) (v0 v1 v2 v3 v4 v5 : Value), w' q = some ((97, 0), .inr (8, [v0, v1, v2, v3, v4, v5, .int x])) → fr (pO (97, 0)) w w' → px "KiteRoofs$Fault" q w') :
    W p l e R s m args below meth c H locs cells slots Q (F0 m pc ls []) := by
  have hKn := hG.1.1 8 (RX10, TX10, 7) rfl
  refine W.newcK hx hb hown (hts _ q1380) (hts _ q1381) (hts _ q102) rfl d0 hR.2.2.1 hR.2.2.2 hKn.2.1 rfl fun H1 kC hkC e1 z1 o1 => ?_
  have hP1 : wP E (wu w H.size ((97, 0), .inr (8, [.null, .null, .null, .null, .null, .int 0, .int 0]))) H1 := hP.new (97, 0) ⟨_, rfl, (u_born tyX10 hts in_X10 hKn hkC e1 tyX10_ok).to (fun k hk => by
    match k, hk with
    | 0, _ => rfl
    | 1, _ => rfl
    | 2, _ => rfl
    | 3, _ => rfl
    | 4, _ => rfl
    | 5, _ => rfl
    | 6, _ => rfl)⟩ (Nat.le_trans hG.2.2.1 hS.1) o1
  have hS1 : va_S (gA E) s.heap H1 locs := ⟨Nat.le_trans hS.1 (by omega), fun x h1 h2 => (o1 x (Nat.lt_of_lt_of_le h1 hS.1)).trans (hS.2.1 x h1 h2), hS.2.2⟩
  have hne : h ≠ H.size := Nat.ne_of_lt (hP.lt hr9)
  have hr1 : (wu w H.size ((97, 0), .inr (8, [.null, .null, .null, .null, .null, .int 0, .int 0]))) h = some (τ, .inr (7, [.ref t9, .int x, .ref o9, .int y9])) := by rw [wu_n hne]; exact hr9
  have hf1 : fr (pO (97, 0)) w (wu w H.size ((97, 0), .inr (8, [.null, .null, .null, .null, .null, .int 0, .int 0]))) := fr.rf.new hP.fresh
  have hq1 : (wu w H.size ((97, 0), .inr (8, [.null, .null, .null, .null, .null, .int 0, .int 0]))) H.size = some ((97, 0), .inr (8, [.null, .null, .null, .null, .null, .int 0, .int 0])) := wu_s
  generalize wu w H.size ((97, 0), .inr (8, [.null, .null, .null, .null, .null, .int 0, .int 0])) = w1 at hP1 hr1 hf1 hq1
  generalize H.size = q at e1 hq1
  refine lv_dup hx hb d3 rfl ?_
  refine lv_aload_n hx hb d4 rfl h0 ?_
  refine k_get hx hb hts in_X9 hown hG hP1 hr1 rfl 1 (by decide) (hts _ q1325) (fun _ h9 => h9) (v := .int x) rfl d5 ?_
  refine k_call (av := (Value.ref q :: [.int x]).toArray) (rest := [.ref q]) (va_runI (g := F0 m (pc + 8) ls [.int x, .ref q, .ref q]) (As := [.int x]) (n := 1) ⟨hx, hb, hml, hown, hts⟩ (CX10_init l hl0 E w1 q x _ hq1) (cwI 1 hts (lw_meth q1391) rfl rfl rfl (hts _ q102) (hts _ q1389) (hts _ q1390) rfl dyX10_init.2 ⟨hR.1, hR.2.1⟩)
    ⟨fun _ _ _ _ h => ⟨⟨h.1.1, h.1.2.1.calling, h.1.2.2⟩, h.2⟩, fun U hU hW => ⟨⟨rfl, hG.at hS1 hU hW, by rw [hU]; exact hP1⟩, fr10.moved hW hkC e1 hU⟩⟩ rfl rfl hsize rfl (by show 2 * 0 + 1 ≤ 8; omega) d8 ⟨hR.2.2.1, hR.2.2.2⟩) hS1 (fun _ w2 H2 locs2 hp hP2 hS2 => ?_)
  obtain ⟨⟨v0, v1, v2, v3, v4, v5, h9⟩, hf2⟩ := hp
  refine vx_athrow hx hb (pc := pc + 11) d11 ?_
  obtain ⟨hE, r, h1, cell, q1, q2, q3, -⟩ := hP2 q _ _ h9
  cases h1
  exact kx_out hQ ht hlocks hP2 hS2 q1 q3 (by rw [q2]; exact hKn.2.1) (by omega) (by omega) (hpx q w2 v0 v1 v2 v3 v4 v5 h9 (hf1.tr hf2))
end KF2
