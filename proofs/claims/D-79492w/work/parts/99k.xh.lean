/-! reading as a whole, pure; bodies with handlers -/
set_option maxRecDepth 100000
theorem rB_i {α β : Type} {q : rP α} {k : α → Nat → rP β} {b : β} {p2 : Nat} (h : rB q k = (some b, p2)) : ∃ a p1, q = (some a, p1) ∧ k a p1 = (some b, p2) := by
  obtain ⟨o, p1⟩ := q
  cases o with
  | none => cases h
  | some a => exact ⟨a, p1, rfl, h⟩
theorem cDg_v {B : Nat → Int32} {n p p1 : Nat} {a : Int32} (h : cDg B n p = (some a, p1)) : tin a 0 9 = true := by
  unfold cDg at h
  split at h
  · next c =>
    obtain ⟨k, ⟨h1, h2⟩, e⟩ := tin_M (m := 48) (n := 57) (by decide) (by decide) c
    rw [e] at h
    cases h
    obtain ⟨j, hj, rfl⟩ : ∃ j, j < 10 ∧ k = 48 + j := ⟨k - 48, by omega, by omega⟩
    exact (show ∀ j : Fin 10, tin (nI (48 + j.val) - 48) 0 9 = true by decide) ⟨j, hj⟩
  · cases h
theorem vOK_od {l a b c d : Int32} (h : l ≠ 119 ∨ tin a 0 9 = true) : vOK (od l a b c d) := by
  intro h1
  rcases h with h | h
  · exact absurd h1 h
  · exact h
theorem cOr_v {B : Nat → Int32} {n p p1 : Nat} {v : Nat → Int32} (h : cOr B n p = (some v, p1)) : vOK v := by
  unfold cOr at h
  split at h
  · unfold cWi at h
    obtain ⟨a, p2, h1, h⟩ := rB_i h
    obtain ⟨_, p3, -, h⟩ := rB_i h
    obtain ⟨b, p4, -, h⟩ := rB_i h
    split at h
    · obtain ⟨s, p5, -, h⟩ := rB_i h
      obtain ⟨d, p6, -, h⟩ := rB_i h
      cases h
      exact vOK_od (Or.inr (cDg_v h1))
    · cases h
      exact vOK_od (Or.inr (cDg_v h1))
  · split at h
    · unfold cKi at h
      obtain ⟨a, p2, -, h⟩ := rB_i h
      obtain ⟨_, p3, -, h⟩ := rB_i h
      obtain ⟨_, p4, -, h⟩ := rB_i h
      obtain ⟨_, p5, -, h⟩ := rB_i h
      obtain ⟨_, p6, -, h⟩ := rB_i h
      obtain ⟨_, p7, -, h⟩ := rB_i h
      obtain ⟨_, p8, -, h⟩ := rB_i h
      cases h
      exact vOK_od (Or.inl (by decide))
    · split at h
      · obtain ⟨a, p2, -, h⟩ := rB_i h
        cases h
        exact vOK_od (Or.inl (by decide))
      · split at h
        · obtain ⟨a, p2, -, h⟩ := rB_i h
          obtain ⟨_, p3, -, h⟩ := rB_i h
          obtain ⟨_, p4, -, h⟩ := rB_i h
          cases h
          exact vOK_od (Or.inl (by decide))
        · obtain ⟨a, p2, -, h⟩ := rB_i h
          obtain ⟨_, p3, -, h⟩ := rB_i h
          cases h
          exact vOK_od (Or.inl (by decide))
theorem cOr_G {B : Nat → Int32} {n p : Nat} (hp : p ≤ n) : cG n p (cOr B n p) := by
  have up : ∀ {q : rP (Nat → Int32)}, cG n (p + 1) q → cG n p q := fun h => ⟨Nat.le_of_succ_le h.1, h.2⟩
  unfold cOr
  split
  · next c => exact up (cWi_G (pHe_lt' c (by decide)))
  · split
    · next c => exact up (cKi_G (pHe_lt' c (by decide)))
    · split
      · next c => exact up (cG_b (cDg_G (pHe_lt' c (by decide))) (fun a p _ hp => cSo _ hp))
      · split
        · next c => exact up (cG_b (cDg_G (pHe_lt' c (by decide))) (fun a p _ hp => cG_b (cSi_G hp) (fun b p _ hp => cG_b (cNu_G hp) (fun c p _ hp => cSo _ hp))))
        · exact cG_b (cMu_G hp (by decide)) (fun _ p _ hp => cG_b (cNu_G hp) (fun c p _ hp => cSo _ hp))
theorem cTx_p {B : Nat → Int32} {n : Nat} : ∀ (q p m : Nat) (V : Nat → Nat → Int32), p ≤ n → (cTx B n q p m V).2.1 ≤ n
  | 0, p, m, V, hp => hp
  | q + 1, p, m, V, hp => by
    have hg := cOr_G (B := B) hp
    unfold cTx
    cases h : cOr B n p with
    | mk o p1 =>
      rw [h] at hg
      cases o with
      | none => exact hg.2
      | some v =>
        dsimp only
        split
        · next c => exact cTx_p q _ _ _ (pHe_lt' c (by decide))
        · exact hg.2
theorem cTx_v {B : Nat → Int32} {n : Nat} : ∀ (q p m : Nat) (V : Nat → Nat → Int32), (∀ k, k < m → vOK (V k)) → ∀ k, k < (cTx B n q p m V).2.2.1 → vOK ((cTx B n q p m V).2.2.2 k)
  | 0, p, m, V, hV => hV
  | q + 1, p, m, V, hV => by
    unfold cTx
    cases h : cOr B n p with
    | mk o p1 =>
      cases o with
      | none => exact hV
      | some v =>
        have hV1 : ∀ k, k < m + 1 → vOK (va_up V m v k) := fun k hk => by
          by_cases e : k = m
          · subst e
            rw [up_s]
            exact cOr_v h
          · rw [up_n e]
            exact hV k (by omega)
        dsimp only
        split
        · exact cTx_v q _ _ _ hV1
        · exact hV1
abbrev qR : Type := Int32 × Int32 × Int32 × (Nat → Int32) × Nat
/-- the orders carried out one by one -/
def cRo (V : Nat → Nat → Int32) : Nat → Nat → (Nat → Int32) → Nat → qR
  | 0, _, g, mn => (0, 0, 0, g, mn)
  | q + 1, i, g, mn => if cMB g (V i) = true then (if cRs g mn (V i) ≤ 0 then cRo V q (i + 1) (cDo g mn (V i)) (cDm mn (V i)) else (2, cRs g mn (V i), nI i, g, mn)) else (1, 0, 0, g, mn)
theorem cRo_1 {V : Nat → Nat → Int32} {m i mn : Nat} {g : Nat → Int32} (hi : i < m) (h : cMB g (V i) = false) : cRo V (m - i) i g mn = (1, 0, 0, g, mn) := by
  obtain ⟨q, e⟩ : ∃ q, m - i = q + 1 := ⟨m - i - 1, by omega⟩
  rw [e, cRo, if_neg (by rw [h]; decide)]
theorem cRo_2 {V : Nat → Nat → Int32} {m i mn : Nat} {g : Nat → Int32} (hi : i < m) (h : cMB g (V i) = true) (h2 : 0 < cRs g mn (V i)) : cRo V (m - i) i g mn = (2, cRs g mn (V i), nI i, g, mn) := by
  obtain ⟨q, e⟩ : ∃ q, m - i = q + 1 := ⟨m - i - 1, by omega⟩
  rw [e, cRo, if_pos h, if_neg (Int32.not_le.mpr h2)]
theorem cRo_s {V : Nat → Nat → Int32} {m i mn : Nat} {g : Nat → Int32} (hi : i < m) (h : cMB g (V i) = true) (h2 : cRs g mn (V i) ≤ 0) : cRo V (m - i) i g mn = cRo V (m - (i + 1)) (i + 1) (cDo g mn (V i)) (cDm mn (V i)) := by
  obtain ⟨q, e⟩ : ∃ q, m - i = q + 1 := ⟨m - i - 1, by omega⟩
  rw [e, cRo, if_pos h, if_pos h2, show m - (i + 1) = q from by omega]
theorem cRo_e {V : Nat → Nat → Int32} {m i mn : Nat} {g : Nat → Int32} (hi : ¬ i < m) : cRo V (m - i) i g mn = (0, 0, 0, g, mn) := by
  rw [show m - i = 0 from by omega]
  rfl
def pX9 (τ : Nat × Nat) : Prop := τ.1 = 94 ∨ τ.1 = 2 ∨ τ.1 = 96 ∨ τ.1 = 97 ∨ τ.1 = 98 ∨ τ.1 = 1 ∨ τ.1 = 95 ∨ (4 ≤ τ.1 ∧ τ.1 ≤ 12) ∨ τ.1 = 93
/-- how 'read' refuses: what it has left behind -/
def qRf9 (qx : qT) (R : qR) (ft rf ro : Int32) (X : String) (t r o : Int32) : Prop :=
  (qx.1 = false ∧ X = nIA ∧ t = nI qx.2.1 ∧ r = rf ∧ o = ro) ∨ (qx.1 = true ∧ R.1 = 1 ∧ X = nIA ∧ t = -1 ∧ r = rf ∧ o = ro) ∨ (qx.1 = true ∧ R.1 = 2 ∧ X = nUO ∧ t = -1 ∧ r = R.2.1 ∧ o = R.2.2.1)
section KXH
variable {p : Program} {l : Launch} {e : Env} {R : Room} {s : State} {m : MethodId} {args : Array Value} {below : List Frame} {meth : Method} {c : Code} {H : Heap} {locs : List Loc} {cells slots : Nat} {Q : State → Prop}
variable {cc : ByteArray} {pc : Nat} {ls : Array Slot} {rest st0 : List Value} {a : Nat} {E : gE} {w : wd} {τ : Nat × Nat} {hh : List (Nat × Nat × Nat × Nat)}
theorem kx_openH {ρ : Type} {y : MethodName} {ws : List Cond} {rm : Room} {mc ms maxL : Nat} {mk : ρ → Option Value} {av : List Value} {post : ρ → wd → Prop} {px : String → Nat → wd → Prop} {ret : Option FieldType} (hy : plainName y.cls = true) (hw : ws = Cond.codeWith y cc maxL ret hh :: lw_all) (hn : (lg_sl av).length ≤ maxL)
    (body : ∀ (p : Program) (e : Env) (s : State) (m : MethodId) (args : Array Value) (below : List Frame) (meth : Method) (c : Code) (ls : Array Slot) (Q : State → Prop), p.tables.exec = Jvm.exec → c.code = cc → meth.sig.returnType = ret → c.maxLocals = maxL → s.vm.findClass y.cls = some m.cls → (∀ w ∈ lw_all, w.before args s = true) → meth.locks = false → meth.name = y.name → c.exceptionTable.toList = tableOf hh → Q = vx_MQ below (kQ E mk post) (kXC E px) args s mc ms (gA E) → gK E s → wP E w s.heap → lv_has ls maxL (lv_args 0 av) → va_S (gA E) s.heap s.heap [] →
      W p l e rm s m args below meth c s.heap [] 0 0 Q (F0 m 0 ls [])) : kX l y ws rm mc ms mk E w av post px := by
  refine vx_ofWH (cc := cc) (maxL := maxL) (ret := ret) (hh := hh) hy hw ?_
  intro p e s m args below meth c s₁ B hml hv
  obtain ⟨hav, hG, hP⟩ := hv
  have hts := atoms_spec (ws := ws) B.pre
  have hF : W p l e rm s m args below meth c s.heap [] 0 0 (vx_MQ below (kQ E mk post) (kXC E px) args s mc ms (gA E)) (F0 m 0 ((lg_sl av ++ List.replicate (maxL - (lg_sl av).length) Slot.unset).toArray) []) :=
    body p e s m args below meth c _ _ B.exec B.bytes B.returns hml (findClass_of_methodNamed B.named) (fun w h => hts w (by rw [hw]; exact List.mem_cons_of_mem _ h)) B.notSynchronized (name_of_methodNamed B.named B.method).1 (vx_table (x := y) B (hts _ (by rw [hw]; exact List.mem_cons_self))) rfl hG hP (lv_entry av hn) va_S.rf
  rw [hav, lg_entry_eq]
  rw [hav] at hF
  exact hF
variable {Qc : Array Value → State → Outcome → State → Prop} {px : String → Nat → wd → Prop}
/-- no row of the table covers this place -/
def noCv (hh : List (Nat × Nat × Nat × Nat)) (pc : Nat) : Prop := ∀ x ∈ tableOf hh, covers x pc = false
theorem kx_outC {X : String} {ce : Cell} {q : Nat} {mc ms : Nat} (hQ : Q = vx_MQ below Qc (kXC E px) args s mc ms (gA E)) (ht : c.exceptionTable.toList = tableOf hh) (hcv : noCv hh pc) (hlocks : meth.locks = false) (hP : wP E w H) (hS : va_S (gA E) s.heap H locs) (hcell : H[q]? = some ce) (hv : ce.vm = .none) (hcl : s.vm.findClass X = some ce.cls) (hc : cells ≤ mc) (hs : slots ≤ ms) (hpx : px X q w) : vx_W p l e R s m args below meth c H locs cells slots Q (F0 m pc ls rest) q := by
  subst hQ
  exact vx_out (fun x hx => hcv x (by rw [← ht]; exact hx)) hlocks hcell hv hcl (fun t e1 _ => ⟨⟨w, hpx, by rw [e1]; exact hP⟩, hS.F e1⟩) hS.2.2 hc hs
theorem kx_callC {ρ : Type} {mk : ρ → Option Value} {post : ρ → wd → Prop} {py : String → Nat → wd → Prop} {mc ms mc2 ms2 : Nat} {av : Array Value} (hr : vx_Run p l e R s m args below meth c H locs cells slots mc ms (F0 m pc ls st0) rest (kQ E mk post av) (kXC E py) (gA E)) (hS : va_S (gA E) s.heap H locs)
    (hQ : Q = vx_MQ below Qc (kXC E px) args s mc2 ms2 (gA E)) (ht : c.exceptionTable.toList = tableOf hh) (hcv : noCv hh pc) (hlocks : meth.locks = false) (hc : cells + mc ≤ mc2) (hs : slots + ms ≤ ms2)
    (kx : ∀ (X : String) (q : Nat) (w' : wd), py X q w' → px X q w')
    (kk : ∀ (r : ρ) (w' : wd) (H1 : Heap) (locs1 : List Loc), post r w' → wP E w' H1 → va_S (gA E) s.heap H1 locs1 → W p l e R s m args below meth c H1 locs1 (cells + mc) (slots + ms) Q (F0 m (pc + 3) ls ((mk r).toList ++ rest))) : W p l e R s m args below meth c H locs cells slots Q (F0 m pc ls st0) :=
  kx_callG hr hS (fun X ce q w' H1 locs1 h1 h2 h3 h4 h5 h6 => kx_outC hQ ht hcv hlocks h2 h3 h4 h5 h6 hc hs (kx X q w' h1)) kk
theorem kx_cVC {ρ : Type} {mk : ρ → Option Value} {post : ρ → wd → Prop} {py : String → Nat → wd → Prop} {own C : String} {T : u_T} {N ci index n nL mc ms mc2 ms2 maxL : Nat} {y : MethodName} {ws : List Cond} {rm : Room} {bytes : ByteArray} {ret : Option FieldType} {As : List Value} {fs : List Value} (hx : p.tables.exec = Jvm.exec) (hb : c.code = cc) (hml : c.maxLocals = nL) (hown : s.vm.findClass own = some m.cls) (hts : ∀ w ∈ lw_all, w.before args s = true)
    (hQ : Q = vx_MQ below Qc (kXC E px) args s mc2 ms2 (gA E)) (ht : c.exceptionTable.toList = tableOf hh) (hcv : noCv hh pc) (hlocks : meth.locks = false)
    (hMt : kX l y ws rm mc ms mk E w (.ref a :: As) post py) (cw : CallW R s args own C index y bytes maxL ret ws rm mc ms n) (hG : gK E s) (hP : wP E w H) (hS : va_S (gA E) s.heap H locs) (hrv : w a = some (τ, .inr (ci, fs))) (hc : gCl[ci]? = some (C, T, N)) (hn : As.length = n) (hsize : ls.size = nL) (hst : st0 = As.reverse ++ .ref a :: rest) (hW : 2 * (F0 m pc ls st0).monitorRoom + (rest.map fun v => v.category).sum ≤ 8) (hdg : decode cc pc = .ok (.invokevirtual index, 3)) (hf : cells + mc ≤ R.cells ∧ slots + ms ≤ R.slots) (hf2 : cells + mc ≤ mc2 ∧ slots + ms ≤ ms2)
    (kx : ∀ (X : String) (q : Nat) (w' : wd), py X q w' → px X q w')
    (kk : ∀ (r : ρ) (w' : wd) (H1 : Heap) (locs1 : List Loc), post r w' → wP E w' H1 → va_S (gA E) s.heap H1 locs1 → W p l e R s m args below meth c H1 locs1 (cells + mc) (slots + ms) Q (F0 m (pc + 3) ls ((mk r).toList ++ rest))) : W p l e R s m args below meth c H locs cells slots Q (F0 m pc ls st0) :=
  kx_callC (vx_runV (g := F0 m pc ls st0) ⟨hx, hb, hml, hown, hts⟩ hMt cw (k_preV hG hP hS hrv hc) rfl hn hsize hst hW hdg hf) hS hQ ht hcv hlocks hf2.1 hf2.2 kx kk
theorem kx_cSC {ρ : Type} {mk : ρ → Option Value} {post : ρ → wd → Prop} {py : String → Nat → wd → Prop} {own : String} {index n nL mc ms mc2 ms2 maxL : Nat} {y : MethodName} {ws : List Cond} {rm : Room} {bytes : ByteArray} {ret : Option FieldType} {As : List Value} (hx : p.tables.exec = Jvm.exec) (hb : c.code = cc) (hml : c.maxLocals = nL) (hown : s.vm.findClass own = some m.cls) (hts : ∀ w ∈ lw_all, w.before args s = true)
    (hQ : Q = vx_MQ below Qc (kXC E px) args s mc2 ms2 (gA E)) (ht : c.exceptionTable.toList = tableOf hh) (hcv : noCv hh pc) (hlocks : meth.locks = false)
    (hMt : kX l y ws rm mc ms mk E w As post py) (cw : CallB R s args own index y bytes maxL ret ws rm mc ms n ∧ (Cond.static y).before args s = true) (hG : gK E s) (hP : wP E w H) (hS : va_S (gA E) s.heap H locs) (hn : As.length = n) (hsize : ls.size = nL) (hst : st0 = As.reverse ++ rest) (hW : 2 * (F0 m pc ls st0).monitorRoom + (rest.map fun v => v.category).sum ≤ 8) (hdg : decode cc pc = .ok (.invokestatic index, 3)) (hf : cells + mc ≤ R.cells ∧ slots + ms ≤ R.slots) (hf2 : cells + mc ≤ mc2 ∧ slots + ms ≤ ms2)
    (kx : ∀ (X : String) (q : Nat) (w' : wd), py X q w' → px X q w')
    (kk : ∀ (r : ρ) (w' : wd) (H1 : Heap) (locs1 : List Loc), post r w' → wP E w' H1 → va_S (gA E) s.heap H1 locs1 → W p l e R s m args below meth c H1 locs1 (cells + mc) (slots + ms) Q (F0 m (pc + 3) ls ((mk r).toList ++ rest))) : W p l e R s m args below meth c H locs cells slots Q (F0 m pc ls st0) :=
  kx_callC (vx_runS (g := F0 m pc ls st0) ⟨hx, hb, hml, hown, hts⟩ hMt cw (k_preS hG hP hS) rfl hn hsize hst hW hdg hf) hS hQ ht hcv hlocks hf2.1 hf2.2 kx kk
/-- a call under a handler: caught by its one row -/
theorem kx_cVH {ρ : Type} {mk : ρ → Option Value} {post : ρ → wd → Prop} {py : String → Nat → wd → Prop} {own C nm : String} {T : u_T} {N ci index n nL mc ms maxL b0 b1 b2 b3 : Nat} {y : MethodName} {ws : List Cond} {rm : Room} {bytes : ByteArray} {ret : Option FieldType} {As : List Value} {fs : List Value} (hx : p.tables.exec = Jvm.exec) (hb : c.code = cc) (hml : c.maxLocals = nL) (hown : s.vm.findClass own = some m.cls) (hts : ∀ w ∈ lw_all, w.before args s = true)
    (ht : c.exceptionTable.toList = tableOf [(b0, b1, b2, b3)]) (hcv : ∀ x ∈ tableOf [(b0, b1, b2, b3)], covers x pc = true ∧ x.catchType = b3 ∧ x.handlerPc = b2) (h0 : b3 ≠ 0) (hlink : Cond.classLink own b3 nm ∈ lw_all) (hcast : (Cond.castable nm nm).before args s = true)
    (hMt : kX l y ws rm mc ms mk E w (.ref a :: As) post py) (cw : CallW R s args own C index y bytes maxL ret ws rm mc ms n) (hG : gK E s) (hP : wP E w H) (hS : va_S (gA E) s.heap H locs) (hrv : w a = some (τ, .inr (ci, fs))) (hc : gCl[ci]? = some (C, T, N)) (hn : As.length = n) (hsize : ls.size = nL) (hst : st0 = As.reverse ++ .ref a :: rest) (hW : 2 * (F0 m pc ls st0).monitorRoom + (rest.map fun v => v.category).sum ≤ 8) (hdg : decode cc pc = .ok (.invokevirtual index, 3)) (hf : cells + mc ≤ R.cells ∧ slots + ms ≤ R.slots)
    (hX : ∀ (X : String) (q : Nat) (w' : wd), py X q w' → X = nm)
    (kx : ∀ (X : String) (q : Nat) (w' : wd) (H1 : Heap) (locs1 : List Loc), py X q w' → wP E w' H1 → va_S (gA E) s.heap H1 locs1 → W p l e R s m args below meth c H1 locs1 (cells + mc) (slots + ms) Q (F0 m b2 ls [.ref q]))
    (kk : ∀ (r : ρ) (w' : wd) (H1 : Heap) (locs1 : List Loc), post r w' → wP E w' H1 → va_S (gA E) s.heap H1 locs1 → W p l e R s m args below meth c H1 locs1 (cells + mc) (slots + ms) Q (F0 m (pc + 3) ls ((mk r).toList ++ rest))) : W p l e R s m args below meth c H locs cells slots Q (F0 m pc ls st0) := by
  refine kx_callG (vx_runV (g := F0 m pc ls st0) ⟨hx, hb, hml, hown, hts⟩ hMt cw (k_preV hG hP hS hrv hc) rfl hn hsize hst hW hdg hf) hS (fun X ce q w' H1 locs1 h1 h2 h3 h4 h5 h6 => ?_) kk
  have e := hX X q w' h1
  obtain ⟨x, hx9⟩ : ∃ x, tableOf [(b0, b1, b2, b3)] = [x] := ⟨_, rfl⟩
  obtain ⟨c1, c2, c3⟩ := hcv x (by rw [hx9]; exact List.mem_singleton.mpr rfl)
  refine vx_catch (own := own) (name := nm) (E := X) hown [] x [] (by rw [ht, hx9]; rfl) (fun z hz => nomatch hz) c1 (by rw [c2]; exact h0) (by rw [c2]; exact hts _ hlink) (by rw [e]; exact hcast) h4 h5 h6 ?_
  rw [c3]
  exact kx X q w' H1 locs1 h1 h2 h3
end KXH
theorem cTR_n {q : qT} {p9 : Nat} (h : cTR q = (none, p9)) : q.1 = false ∧ q.2.1 = p9 := by
  unfold cTR at h
  split at h
  · cases h
  · next c =>
    cases h
    exact ⟨by simpa using c, rfl⟩
theorem nI_n1 {k : Nat} (h : k < 2 ^ 31) : ¬ nI k = -1 := fun e => by
  have e1 := congrArg Int32.toInt e
  rw [nI_toInt h] at e1
  have : (-1 : Int32).toInt = -1 := by decide
  omega
