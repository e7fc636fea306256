/-! BASE: the world is a map from addresses to tagged entries; one form of contract; rows over it -/
set_option maxRecDepth 100000
abbrev wd : Type := Nat → Option ((Nat × Nat) × va_E)
abbrev gE : Type := va_G × (Nat → ClassId) × (Nat → Nat) × Nat
abbrev eD (E : gE) : va_G := E.1
abbrev eT (E : gE) : Nat → ClassId := E.2.1
abbrev eM (E : gE) : Nat → Nat := E.2.2.1
abbrev eB (E : gE) : Nat := E.2.2.2
def gA (E : gE) : Nat → Prop := fun q => eB E ≤ q
def TX5 : u_T := fun _ => ("KiteRoofs$OnRoof", "", "", false)
abbrev gCl : List vw_C := [(RX6, TX6, 20), (RX1, TX1, 9), (RX2, TX2, 11), (RX3, TX3, 8), (RX5, TX5, 0), (RX7, TX7, 2), (RX8, TX8, 3), (RX9, TX9, 4), (RX10, TX10, 7), (RX11, TX11, 3), (RX12, TX12, 4), (RX13, TX13, 1), (RX14, TX14, 2), (RX15, TX15, 1), (RJ2, TJ2, 3), (RJ4, TJ4, 4), (RJ5, TJ5, 4)]
abbrev gTys (E : gE) : List (ClassId × FieldType) := [(eT E 0, .int), (eT E 1, .long), (eT E 2, .double), (eT E 3, .byte), (eT E 4, .object "KiteRoofs$Kite"), (eT E 5, .object "KiteRoofs$Order"), (eT E 6, .object "java/lang/Object")]
/-- words of the tables that ride in no list, but stay true in a warmer machine -/
def gok (w : Cond) : Bool := match w with
  | .castable _ _ => true
  | .declares _ => true
  | .fieldLinkNest _ _ _ _ _ _ => true
  | .methodLinkNest _ _ _ _ => true
  | .arrayOver (.object _) => true
  | .privateMethod _ => true
  | _ => false
theorem gok_moved {w : Cond} (h : gok w = true) {s U : State} (hW : s.WarmedH U.vm) (hZ : va_Nw w s) : va_Nw w U := by
  unfold gok at h
  split at h
  · exact va_Nw.warmC hW hZ
  · exact va_Nw.warmD hW hZ
  · exact va_Nw.warmF hW hZ
  · exact va_Nw.warmM hW hZ
  · exact va_AO.moved (U := U) hW.alike hZ
  · exact Cond.privateMethod_warm hW hZ
  · cases h
theorem gok_same {w : Cond} (h : gok w = true) {s U : State} (hv : s.vm = U.vm) (hZ : va_Nw w s) : va_Nw w U := by
  unfold gok at h
  split at h
  · exact va_Nw.same rfl hv hZ
  · exact va_Nw.same rfl hv hZ
  · exact va_Nw.same rfl hv hZ
  · exact va_Nw.same rfl hv hZ
  · exact va_AO.moved (u := s) (U := U) (by rw [hv]; exact Vm.Alike.refl _) hZ
  · exact va_Nw.same rfl hv hZ
  · cases h
/-- classes that can't be cast: what is thrown against what the handlers catch, the states and the orders among them -/
abbrev gSt : List String := [RX5, RX7, RX8]
abbrev gOr : List String := [RX11, RX12, RX13, RX14, RX15]
abbrev gNo : List (String × String) := [(RX5, RX7), (RX5, RX8), (RX7, RX5), (RX7, RX8), (RX8, RX5), (RX8, RX7),
  (RX11, RX12), (RX11, RX13), (RX11, RX14), (RX11, RX15), (RX12, RX11), (RX12, RX13), (RX12, RX14), (RX12, RX15), (RX13, RX11), (RX13, RX12), (RX13, RX14), (RX13, RX15), (RX14, RX11), (RX14, RX12), (RX14, RX13), (RX14, RX15), (RX15, RX11), (RX15, RX12), (RX15, RX13), (RX15, RX14),
  (RJ12, RJ10), (RJ16, RJ12), (RJ16, RJ10), (RJ17, RJ10)]
abbrev yNum : MethodName := ⟨"KiteRoofs$State", "number", "()I"⟩
abbrev ySig : MethodName := ⟨"KiteRoofs$State", "sign", "()C"⟩
abbrev gFw : List (String × MethodName × MethodName) := [(RX5, yNum, yX5_number), (RX7, yNum, yX7_number), (RX8, yNum, yX8_number), (RX5, ySig, yX5_sign), (RX7, ySig, yX7_sign), (RX8, ySig, yX8_sign)]
def gW (U : State) : Prop := (∀ w ∈ lw_tbl, gok w = true → va_Nw w U) ∧ (∀ q ∈ gNo, va_Nc q.1 q.2 U) ∧ ∀ q ∈ gFw, va_Fw q.1 q.2.1 q.2.2 U
theorem gFw_ok : ∀ q ∈ gFw, q.2.1.cls ≠ "java/lang/invoke/MethodHandle" ∧ q.2.1.cls ≠ "java/lang/invoke/VarHandle" := by decide
/-- what is made of: the constants of Make -/
def mkN (i : Nat) : String := if i = 0 then "PLAIN" else if i = 1 then "BOX" else "FIGHTER"
def mkC (i : Nat) : String := if i = 0 then RX16 else if i = 1 then RX17 else RX18
def gMk (E : gE) (U : State) (H : Heap) : Prop := ∀ i, i < 3 → va_Z RX4 (mkN i) "LKiteRoofs$Make;" (.ref (eM E i)) (gA E) U H ∧ va_O (mkC i) (eM E i) (gA E) U H ∧ va_OF RJ0 "ordinal" "I" (.int (nI i)) (eM E i) (gA E) U H
/-- statics -/
abbrev gZs : List (String × String × String × Int32) := [(RJ5, "COMPACT_STRINGS", "Z", 1), (RJ6, "$assertionsDisabled", "Z", 1), (RJ6, "HI_BYTE_SHIFT", "I", 0), (RJ6, "LO_BYTE_SHIFT", "I", 8)]
def gS (E : gE) (U : State) (H : Heap) : Prop := gMk E U H ∧ (∀ q ∈ gZs, va_Z q.1 q.2.1 q.2.2.1 (.int q.2.2.2) (gA E) U H) ∧ vx_Zq Bundle.tN "UNASSIGNED_STACK" Bundle.steD (gA E) U H ∧ vx_Zq Bundle.tN "SUPPRESSED_SENTINEL" Bundle.listD (gA E) U H ∧ va_Zq RJ20 "SIOOBE_FORMATTER" "Ljava/util/function/BiFunction;" (gA E) U H
theorem gS.moved {E : gE} {u U : State} {H : Heap} (hvm : u.vm.Alike U.vm) (h : gS E u H) : gS E U H :=
  ⟨fun i hi => ⟨va_Z.moved hvm (h.1 i hi).1, va_O.moved hvm (h.1 i hi).2.1, va_OF.moved hvm (h.1 i hi).2.2⟩, fun q hq => va_Z.moved hvm (h.2.1 q hq), vx_Zq.moved hvm h.2.2.1, vx_Zq.moved hvm h.2.2.2.1, va_Zq.moved hvm h.2.2.2.2⟩
theorem gS.kept {E : gE} {U : State} {H H1 : Heap} (h : gS E U H) (hq : ∀ a : Nat, a < H.size → ¬ gA E a → H1[a]? = H[a]?) : gS E U H1 :=
  ⟨fun i hi => ⟨(h.1 i hi).1.kept hq, (h.1 i hi).2.1.kept hq, (h.1 i hi).2.2.kept hq⟩, fun q h9 => (h.2.1 q h9).kept hq, h.2.2.1.kept hq, h.2.2.2.1.kept hq, h.2.2.2.2.kept hq⟩
/-- the world's frame: what is known of the machine itself -/
def gK (E : gE) (U : State) : Prop := va_K (eD E) gCl (gTys E) U ∧ gW U ∧ eB E ≤ U.heap.size ∧ gS E U U.heap
theorem gK.at {E : gE} {s U : State} {H : Heap} {locs : List Loc} (h : gK E s) (hS : va_S (gA E) s.heap H locs) (hU : U.heap = H) (hW : s.WarmedH U.vm) : gK E U :=
  ⟨va_K.moved hW.alike h.1, ⟨fun w hw hg => gok_moved hg hW (h.2.1.1 w hw hg), fun q hq => va_Nc.moved hW.alike (h.2.1.2.1 q hq), fun q hq => va_Fw.moved (gFw_ok q hq) hW.alike (h.2.1.2.2 q hq)⟩, by rw [hU]; exact Nat.le_trans h.2.2.1 hS.1, by rw [hU]; exact gS.moved hW.alike (h.2.2.2.kept hS.2.1)⟩
theorem gK.calling {E : gE} {U : State} {g : JFrame} {mk : MethodId} {a : Array Value} (h : gK E U) : gK E (U.calling g mk a) :=
  ⟨va_K.moved (u := U) (U := U.calling g mk a) (Vm.Alike.refl U.vm) h.1, ⟨fun w hw hg => gok_same (s := U) (U := U.calling g mk a) hg rfl (h.2.1.1 w hw hg), fun q hq => va_Nc.moved (u := U) (U := U.calling g mk a) (Vm.Alike.refl U.vm) (h.2.1.2.1 q hq), fun q hq => va_Fw.moved (u := U) (U := U.calling g mk a) (gFw_ok q hq) (Vm.Alike.refl U.vm) (h.2.1.2.2 q hq)⟩, h.2.2.1, gS.moved (u := U) (U := U.calling g mk a) (Vm.Alike.refl U.vm) h.2.2.2⟩
def wP (E : gE) (w : wd) (H : Heap) : Prop := ∀ (a : Nat) (τ : Nat × Nat) (e : va_E), w a = some (τ, e) → eB E ≤ a ∧ va_at (eD E) gCl (a, e) H
theorem wP.one {E : gE} {w : wd} {H : Heap} {a : Nat} {τ : Nat × Nat} {e : va_E} (h : wP E w H) (he : w a = some (τ, e)) : va_P (eD E) gCl [(a, e)] H := by
  intro k q hk
  have hz : k < 1 := (List.getElem?_eq_some_iff.mp hk).1
  rw [show k = 0 by omega] at hk
  cases hk
  exact (h a τ e he).2
def wu (w : wd) (a : Nat) (x : (Nat × Nat) × va_E) : wd := fun q => if q = a then some x else w q
theorem wu_s {w : wd} {a : Nat} {x : (Nat × Nat) × va_E} : wu w a x a = some x := by simp [wu]
theorem wu_n {w : wd} {a b : Nat} {x : (Nat × Nat) × va_E} (h : b ≠ a) : wu w a x b = w b := by simp [wu, h]
theorem wP.lt {E : gE} {w : wd} {H : Heap} {a : Nat} {τ : Nat × Nat} {e : va_E} (h : wP E w H) (he : w a = some (τ, e)) : a < H.size := (h a τ e he).2.lt
theorem wP.fresh {E : gE} {w : wd} {H : Heap} (h : wP E w H) : w H.size = none := by
  cases hh : w H.size with
  | none => rfl
  | some x => exact absurd (h.lt (τ := x.1) (e := x.2) hh) (Nat.lt_irrefl _)
theorem wP.set {E : gE} {w : wd} {H H1 : Heap} {a : Nat} {τ : Nat × Nat} {e0 e : va_E} (h : wP E w H) (he0 : w a = some (τ, e0)) (he : va_at (eD E) gCl (a, e) H1) (oq : ∀ q : Nat, q ≠ a → H1[q]? = H[q]?) : wP E (wu w a (τ, e)) H1 := by
  intro b σ f hb
  by_cases hba : b = a
  · subst hba
    rw [wu_s] at hb
    cases hb
    exact ⟨(h b τ e0 he0).1, he⟩
  · rw [wu_n hba] at hb
    obtain ⟨h1, h2⟩ := h b σ f hb
    exact ⟨h1, h2.kept (oq b hba)⟩
theorem wP.new {E : gE} {w : wd} {H H1 : Heap} {e : va_E} (τ : Nat × Nat) (h : wP E w H) (he : va_at (eD E) gCl (H.size, e) H1) (hE : eB E ≤ H.size) (o1 : ∀ q : Nat, q < H.size → H1[q]? = H[q]?) : wP E (wu w H.size (τ, e)) H1 := by
  intro b σ f hb
  by_cases hba : b = H.size
  · subst hba
    rw [wu_s] at hb
    cases hb
    exact ⟨hE, he⟩
  · rw [wu_n hba] at hb
    have hl := h.lt hb
    obtain ⟨h1, h2⟩ := h b σ f hb
    exact ⟨h1, h2.kept (o1 b hl)⟩
theorem w_ne {w : wd} {a b : Nat} {τ σ : Nat × Nat} {e f : va_E} (ha : w a = some (τ, e)) (hb : w b = some (σ, f)) (h : τ ≠ σ) : a ≠ b := by
  intro hab
  subst hab
  rw [ha] at hb
  cases hb
  exact h rfl
/-- what lies outside P stays -/
def fr (P : Nat × Nat → Prop) (w w' : wd) : Prop := ∀ (a : Nat) (τ : Nat × Nat) (e : va_E), w a = some (τ, e) → ¬ P τ → w' a = some (τ, e)
theorem fr.rf {P : Nat × Nat → Prop} {w : wd} : fr P w w := fun _ _ _ h _ => h
theorem fr.tr {P : Nat × Nat → Prop} {w w1 w2 : wd} (h1 : fr P w w1) (h2 : fr P w1 w2) : fr P w w2 := fun a τ e h n => h2 a τ e (h1 a τ e h n) n
theorem fr.up {P P' : Nat × Nat → Prop} {w w1 : wd} (h : fr P w w1) (hP : ∀ τ, P τ → P' τ) : fr P' w w1 := fun a τ e h1 n => h a τ e h1 (fun z => n (hP τ z))
theorem fr.put {P : Nat × Nat → Prop} {w w1 : wd} {a : Nat} {τ : Nat × Nat} {e0 e : va_E} (h : fr P w w1) (he : w1 a = some (τ, e0)) (hτ : P τ) : fr P w (wu w1 a (τ, e)) := by
  intro b σ f hb n
  have h1 := h b σ f hb n
  by_cases hba : b = a
  · subst hba
    rw [he] at h1
    cases h1
    exact absurd hτ n
  · rw [wu_n hba]
    exact h1
theorem fr.new {P : Nat × Nat → Prop} {w w1 : wd} {a : Nat} {x : (Nat × Nat) × va_E} (h : fr P w w1) (he : w1 a = none) : fr P w (wu w1 a x) := by
  intro b σ f hb n
  have h1 := h b σ f hb n
  by_cases hba : b = a
  · subst hba
    rw [he] at h1
    cases h1
  · rw [wu_n hba]
    exact h1
/-- contracts -/
def kPc (E : gE) (w : wd) (av : List Value) : Array Value → State → Prop := va_Pc av (fun U => gK E U ∧ wP E w U.heap)
def kQ {ρ : Type} (E : gE) (mk : ρ → Option Value) (post : ρ → wd → Prop) : Array Value → State → Outcome → State → Prop := fun _ st oc t => (∃ (r : ρ) (w' : wd), oc = .returned (mk r) ∧ post r w' ∧ wP E w' t.heap) ∧ va_F (gA E) st t
abbrev kC {ρ : Type} (l : Launch) (y : MethodName) (ws : List Cond) (rm : Room) (mc ms : Nat) (mk : ρ → Option Value) (E : gE) (w : wd) (av : List Value) (post : ρ → wd → Prop) : Prop := Met l y ws rm (kPc E w av) (kQ E mk post) mc ms (gA E)
abbrev mI : Int32 → Option Value := fun r => some (.int r)
abbrev mV : Unit → Option Value := fun _ => none
abbrev mR : Nat → Option Value := fun r => some (.ref r)
abbrev mQ : Option Nat → Option Value := fun r => some (va_rf r)
abbrev mD : UInt64 → Option Value := fun r => some (.double r)
abbrev mF : UInt32 → Option Value := fun r => some (.float r)
theorem k_blind {E : gE} {w : wd} {av : List Value} : FrameBlind (kPc E w av) := fun _ _ _ _ h => ⟨h.1, h.2.1.calling, h.2.2⟩
def bI (b : Bool) : Int32 := if b = true then 1 else 0
theorem bI_t : bI true = 1 := rfl
theorem bI_f : bI false = 0 := rfl
def oI (o : Option Nat) : Int32 := match o with
  | none => -1
  | some n => nI n
section KB
variable {p : Program} {l : Launch} {e : Env} {R : Room} {s : State} {m : MethodId} {args : Array Value} {below : List Frame} {meth : Method} {c : Code} {H : Heap} {locs : List Loc} {cells slots : Nat} {Q : State → Prop}
variable {cc : ByteArray} {pc : Nat} {ls : Array Slot} {rest st0 : List Value} {a : Nat} {E : gE} {w : wd} {τ : Nat × Nat}
theorem k_preV {As : List Value} {ci : Nat} {fs : List Value} {r : vw_C} (hG : gK E s) (hP : wP E w H) (hS : va_S (gA E) s.heap H locs) (hb : w a = some (τ, .inr (ci, fs))) (hc : gCl[ci]? = some r) : PreV s H r.1 a (kPc E w (.ref a :: As)) As :=
  ⟨k_blind, va_recv hG.1 (hP.one hb) (q0 := 0) hc rfl, fun U hU hW => ⟨rfl, hG.at hS hU hW, by rw [hU]; exact hP⟩⟩
theorem k_preS {As : List Value} (hG : gK E s) (hP : wP E w H) (hS : va_S (gA E) s.heap H locs) : PreS s H (kPc E w As) As :=
  ⟨k_blind, fun U hU hW => ⟨rfl, hG.at hS hU hW, by rw [hU]; exact hP⟩⟩
theorem k_call {ρ : Type} {mk : ρ → Option Value} {post : ρ → wd → Prop} {mc ms : Nat} {av : Array Value} (hr : va_Run p l e R s m args below meth c H locs cells slots mc ms (F0 m pc ls st0) rest (kQ E mk post av) (gA E)) (hS : va_S (gA E) s.heap H locs)
    (kk : ∀ (r : ρ) (w' : wd) (H1 : Heap) (locs1 : List Loc), post r w' → wP E w' H1 → va_S (gA E) s.heap H1 locs1 → W p l e R s m args below meth c H1 locs1 (cells + mc) (slots + ms) Q (F0 m (pc + 3) ls ((mk r).toList ++ rest))) : W p l e R s m args below meth c H locs cells slots Q (F0 m pc ls st0) := by
  intro T hT X
  obtain ⟨v, st₀, t, T', L, h0, X', hL, e1, e2, ⟨⟨r, w', hv, hp, hw⟩, hz, hk⟩, st⟩ := hr T hT X
  cases hv
  rw [h0] at hz hk
  obtain ⟨t2, a1, b1⟩ := kk r w' T'.heap (locs ++ L) hp (by rw [e1]; exact hw)
    ⟨Nat.le_trans hS.1 (by rw [e1]; exact hz), fun q h1 h2 => by rw [e1, hk q (Nat.lt_of_lt_of_le h1 hS.1) h2]; exact hS.2.1 q h1 h2, fun q hq => by
      rcases List.mem_append.mp hq with h | h
      · exact hS.2.2 q h
      · exact hL q h⟩ T' rfl X'
  exact ⟨t2, st t2 a1, b1⟩
theorem k_call5 {ρ : Type} {mk : ρ → Option Value} {post : ρ → wd → Prop} {mc ms : Nat} {av : Array Value} (hr : va_Run5 p l e R s m args below meth c H locs cells slots mc ms (F0 m pc ls st0) rest (kQ E mk post av) (gA E)) (hS : va_S (gA E) s.heap H locs)
    (kk : ∀ (r : ρ) (w' : wd) (H1 : Heap) (locs1 : List Loc), post r w' → wP E w' H1 → va_S (gA E) s.heap H1 locs1 → W p l e R s m args below meth c H1 locs1 (cells + mc) (slots + ms) Q (F0 m (pc + 5) ls ((mk r).toList ++ rest))) : W p l e R s m args below meth c H locs cells slots Q (F0 m pc ls st0) := by
  intro T hT X
  obtain ⟨v, st₀, t, T', L, h0, X', hL, e1, e2, ⟨⟨r, w', hv, hp, hw⟩, hz, hk⟩, st⟩ := hr T hT X
  cases hv
  rw [h0] at hz hk
  obtain ⟨t2, a1, b1⟩ := kk r w' T'.heap (locs ++ L) hp (by rw [e1]; exact hw)
    ⟨Nat.le_trans hS.1 (by rw [e1]; exact hz), fun q h1 h2 => by rw [e1, hk q (Nat.lt_of_lt_of_le h1 hS.1) h2]; exact hS.2.1 q h1 h2, fun q hq => by
      rcases List.mem_append.mp hq with h | h
      · exact hS.2.2 q h
      · exact hL q h⟩ T' rfl X'
  exact ⟨t2, st t2 a1, b1⟩
theorem k_open {ρ : Type} {y : MethodName} {ws : List Cond} {rm : Room} {mc ms maxL : Nat} {mk : ρ → Option Value} {av : List Value} {post : ρ → wd → Prop} {ret : Option FieldType} (hy : plainName y.cls = true) (hw : ws = Cond.code y cc maxL ret :: lw_all) (hn : (lg_sl av).length ≤ maxL)
    (body : ∀ (p : Program) (e : Env) (s : State) (m : MethodId) (args : Array Value) (below : List Frame) (meth : Method) (c : Code) (ls : Array Slot) (Q : State → Prop), p.tables.exec = Jvm.exec → c.code = cc → meth.sig.returnType = ret → c.maxLocals = maxL → s.vm.findClass y.cls = some m.cls → (∀ w ∈ lw_all, w.before args s = true) → meth.locks = false → meth.name = y.name → Q = MQ below (kQ E mk post) args s mc ms (gA E) → gK E s → wP E w s.heap → lv_has ls maxL (lv_args 0 av) → va_S (gA E) s.heap s.heap [] →
      W p l e rm s m args below meth c s.heap [] 0 0 Q (F0 m 0 ls [])) : kC l y ws rm mc ms mk E w av post := by
  refine Met.ofW (cc := cc) (maxL := maxL) (ret := ret) hy hw ?_
  intro p e s m args below meth c s₁ B hml hv
  obtain ⟨hav, hG, hP⟩ := hv
  have hts := atoms_spec (ws := ws) B.pre
  have hF : W p l e rm s m args below meth c s.heap [] 0 0 (MQ below (kQ E mk post) args s mc ms (gA E)) (F0 m 0 ((lg_sl av ++ List.replicate (maxL - (lg_sl av).length) Slot.unset).toArray) []) :=
    body p e s m args below meth c _ _ B.exec B.bytes B.returns hml (findClass_of_methodNamed B.named) (fun w h => hts w (by rw [hw]; exact List.mem_cons_of_mem _ h)) B.notSynchronized (name_of_methodNamed B.named B.method).1 rfl hG hP (lv_entry av hn) va_S.rf
  rw [hav, lg_entry_eq]
  rw [hav] at hF
  exact hF
theorem k_iret {post : Int32 → wd → Prop} {v : Int32} {mc ms : Nat} (hx : p.tables.exec = Jvm.exec) (hb : c.code = cc) (hr : meth.sig.returnType = some .int) (hlocks : meth.locks = false) (hQ : Q = MQ below (kQ E mI post) args s mc ms (gA E)) (hP : wP E w H) (hS : va_S (gA E) s.heap H locs) (hc : cells ≤ mc) (hs : slots ≤ ms) (hdg : decode cc pc = .ok (.ireturn, 1)) (hpost : post v w) :
    W p l e R s m args below meth c H locs cells slots Q (F0 m pc ls [.int v]) := by
  subst hQ
  exact W.widen hc hs (W.iret hx hb hr (fun t ht _ => ⟨⟨v, w, rfl, hpost, by rw [ht]; exact hP⟩, hS.F ht⟩) hS.2.2 hdg hlocks)
theorem k_zret {post : Int32 → wd → Prop} {v : Int32} {ty : FieldType} {mc ms : Nat} (hx : p.tables.exec = Jvm.exec) (hb : c.code = cc) (hr : meth.sig.returnType = some ty) (hlocks : meth.locks = false) (hQ : Q = MQ below (kQ E mI post) args s mc ms (gA E)) (hP : wP E w H) (hS : va_S (gA E) s.heap H locs) (hc : cells ≤ mc) (hs : slots ≤ ms) (hdg : decode cc pc = .ok (.ireturn, 1)) (hn : narrow ty (.int v) = .int v) (hpost : post v w) :
    W p l e R s m args below meth c H locs cells slots Q (F0 m pc ls [.int v]) := by
  subst hQ
  exact W.widen hc hs (W.zret hx hb hr hn (fun t ht _ => ⟨⟨v, w, rfl, hpost, by rw [ht]; exact hP⟩, hS.F ht⟩) hS.2.2 hdg hlocks)
theorem k_vret {post : Unit → wd → Prop} {mc ms : Nat} (hx : p.tables.exec = Jvm.exec) (hb : c.code = cc) (hr : meth.sig.returnType = none) (hlocks : meth.locks = false) (hQ : Q = MQ below (kQ E mV post) args s mc ms (gA E)) (hP : wP E w H) (hS : va_S (gA E) s.heap H locs) (hc : cells ≤ mc) (hs : slots ≤ ms) (hdg : decode cc pc = .ok (.return_, 1)) (hpost : post () w) :
    W p l e R s m args below meth c H locs cells slots Q (F0 m pc ls []) := by
  subst hQ
  exact W.widen hc hs (W.vret hx hb hr (fun t ht _ => ⟨⟨(), w, rfl, hpost, by rw [ht]; exact hP⟩, hS.F ht⟩) hS.2.2 hdg hlocks)
theorem k_aret {post : Nat → wd → Prop} {v : Nat} {rt : FieldType} {mc ms : Nat} (hx : p.tables.exec = Jvm.exec) (hb : c.code = cc) (hr : meth.sig.returnType = some rt) (hrt : (∃ n, rt = .object n) ∨ ∃ t, rt = .array t) (hlocks : meth.locks = false) (hQ : Q = MQ below (kQ E mR post) args s mc ms (gA E)) (hP : wP E w H) (hS : va_S (gA E) s.heap H locs) (hc : cells ≤ mc) (hs : slots ≤ ms) (hdg : decode cc pc = .ok (.areturn, 1)) (hpost : post v w) :
    W p l e R s m args below meth c H locs cells slots Q (F0 m pc ls [.ref v]) := by
  subst hQ
  exact W.widen hc hs (W.aret hx hb hr hrt (Or.inr ⟨v, rfl⟩) (fun t ht _ => ⟨⟨v, w, rfl, hpost, by rw [ht]; exact hP⟩, hS.F ht⟩) hS.2.2 hdg hlocks)
theorem k_qret {post : Option Nat → wd → Prop} {v : Option Nat} {rt : FieldType} {mc ms : Nat} (hx : p.tables.exec = Jvm.exec) (hb : c.code = cc) (hr : meth.sig.returnType = some rt) (hrt : (∃ n, rt = .object n) ∨ ∃ t, rt = .array t) (hlocks : meth.locks = false) (hQ : Q = MQ below (kQ E mQ post) args s mc ms (gA E)) (hP : wP E w H) (hS : va_S (gA E) s.heap H locs) (hc : cells ≤ mc) (hs : slots ≤ ms) (hdg : decode cc pc = .ok (.areturn, 1)) (hpost : post v w) :
    W p l e R s m args below meth c H locs cells slots Q (F0 m pc ls [va_rf v]) := by
  subst hQ
  exact W.widen hc hs (W.aret hx hb hr hrt (by cases v <;> simp [va_rf]) (fun t ht _ => ⟨⟨v, w, rfl, hpost, by rw [ht]; exact hP⟩, hS.F ht⟩) hS.2.2 hdg hlocks)
theorem k_dret {post : UInt64 → wd → Prop} {v : UInt64} {mc ms : Nat} (hx : p.tables.exec = Jvm.exec) (hb : c.code = cc) (hr : meth.sig.returnType = some .double) (hlocks : meth.locks = false) (hQ : Q = MQ below (kQ E mD post) args s mc ms (gA E)) (hP : wP E w H) (hS : va_S (gA E) s.heap H locs) (hc : cells ≤ mc) (hs : slots ≤ ms) (hdg : decode cc pc = .ok (.dreturn, 1)) (hpost : post v w) :
    W p l e R s m args below meth c H locs cells slots Q (F0 m pc ls [.double v]) := by
  subst hQ
  exact W.widen hc hs (W.dret hx hb hr (fun t ht _ => ⟨⟨v, w, rfl, hpost, by rw [ht]; exact hP⟩, hS.F ht⟩) hS.2.2 hdg hlocks)
theorem k_fret {post : UInt32 → wd → Prop} {v : UInt32} {mc ms : Nat} (hx : p.tables.exec = Jvm.exec) (hb : c.code = cc) (hr : meth.sig.returnType = some .float) (hlocks : meth.locks = false) (hQ : Q = MQ below (kQ E mF post) args s mc ms (gA E)) (hP : wP E w H) (hS : va_S (gA E) s.heap H locs) (hc : cells ≤ mc) (hs : slots ≤ ms) (hdg : decode cc pc = .ok (.freturn, 1)) (hpost : post v w) :
    W p l e R s m args below meth c H locs cells slots Q (F0 m pc ls [.float v]) := by
  subst hQ
  exact W.widen hc hs (W.fret hx hb hr (fun t ht _ => ⟨⟨v, w, rfl, hpost, by rw [ht]; exact hP⟩, hS.F ht⟩) hS.2.2 hdg hlocks)
/-- calls -/
theorem k_cV {ρ : Type} {mk : ρ → Option Value} {post : ρ → wd → Prop} {own C : String} {T : u_T} {N ci index n nL mc ms maxL : Nat} {y : MethodName} {ws : List Cond} {rm : Room} {bytes : ByteArray} {ret : Option FieldType} {As : List Value} {fs : List Value} (hx : p.tables.exec = Jvm.exec) (hb : c.code = cc) (hml : c.maxLocals = nL) (hown : s.vm.findClass own = some m.cls) (hts : ∀ w ∈ lw_all, w.before args s = true)
    (hMt : kC l y ws rm mc ms mk E w (.ref a :: As) post) (cw : CallW R s args own C index y bytes maxL ret ws rm mc ms n) (hG : gK E s) (hP : wP E w H) (hS : va_S (gA E) s.heap H locs) (hrv : w a = some (τ, .inr (ci, fs))) (hc : gCl[ci]? = some (C, T, N)) (hn : As.length = n) (hsize : ls.size = nL) (hst : st0 = As.reverse ++ .ref a :: rest) (hW : 2 * (F0 m pc ls st0).monitorRoom + (rest.map fun v => v.category).sum ≤ 8) (hdg : decode cc pc = .ok (.invokevirtual index, 3)) (hf : cells + mc ≤ R.cells ∧ slots + ms ≤ R.slots)
    (kk : ∀ (r : ρ) (w' : wd) (H1 : Heap) (locs1 : List Loc), post r w' → wP E w' H1 → va_S (gA E) s.heap H1 locs1 → W p l e R s m args below meth c H1 locs1 (cells + mc) (slots + ms) Q (F0 m (pc + 3) ls ((mk r).toList ++ rest))) : W p l e R s m args below meth c H locs cells slots Q (F0 m pc ls st0) :=
  k_call (va_runV (g := F0 m pc ls st0) ⟨hx, hb, hml, hown, hts⟩ hMt cw (k_preV hG hP hS hrv hc) rfl hn hsize hst hW hdg hf) hS kk
theorem k_cS {ρ : Type} {mk : ρ → Option Value} {post : ρ → wd → Prop} {own : String} {index n nL mc ms maxL : Nat} {y : MethodName} {ws : List Cond} {rm : Room} {bytes : ByteArray} {ret : Option FieldType} {As : List Value} (hx : p.tables.exec = Jvm.exec) (hb : c.code = cc) (hml : c.maxLocals = nL) (hown : s.vm.findClass own = some m.cls) (hts : ∀ w ∈ lw_all, w.before args s = true)
    (hMt : kC l y ws rm mc ms mk E w As post) (cw : CallB R s args own index y bytes maxL ret ws rm mc ms n ∧ (Cond.static y).before args s = true) (hG : gK E s) (hP : wP E w H) (hS : va_S (gA E) s.heap H locs) (hn : As.length = n) (hsize : ls.size = nL) (hst : st0 = As.reverse ++ rest) (hW : 2 * (F0 m pc ls st0).monitorRoom + (rest.map fun v => v.category).sum ≤ 8) (hdg : decode cc pc = .ok (.invokestatic index, 3)) (hf : cells + mc ≤ R.cells ∧ slots + ms ≤ R.slots)
    (kk : ∀ (r : ρ) (w' : wd) (H1 : Heap) (locs1 : List Loc), post r w' → wP E w' H1 → va_S (gA E) s.heap H1 locs1 → W p l e R s m args below meth c H1 locs1 (cells + mc) (slots + ms) Q (F0 m (pc + 3) ls ((mk r).toList ++ rest))) : W p l e R s m args below meth c H locs cells slots Q (F0 m pc ls st0) :=
  k_call (va_runS (g := F0 m pc ls st0) ⟨hx, hb, hml, hown, hts⟩ hMt cw (k_preS hG hP hS) rfl hn hsize hst hW hdg hf) hS kk
theorem k_cI {ρ : Type} {mk : ρ → Option Value} {post : ρ → wd → Prop} {own : String} {index n nL mc ms maxL : Nat} {y : MethodName} {ws : List Cond} {rm : Room} {bytes : ByteArray} {As : List Value} (hx : p.tables.exec = Jvm.exec) (hb : c.code = cc) (hml : c.maxLocals = nL) (hown : s.vm.findClass own = some m.cls) (hts : ∀ w ∈ lw_all, w.before args s = true)
    (hMt : kC l y ws rm mc ms mk E w (.ref a :: As) post) (cw : CallB R s args own index y bytes maxL none ws rm mc ms n ∧ y.name = "<init>" ∧ (Cond.instanceMethod y).before args s = true) (hG : gK E s) (hP : wP E w H) (hS : va_S (gA E) s.heap H locs) (hn : As.length = n) (hsize : ls.size = nL) (hst : st0 = As.reverse ++ .ref a :: rest) (hW : 2 * (F0 m pc ls st0).monitorRoom + (rest.map fun v => v.category).sum ≤ 8) (hdg : decode cc pc = .ok (.invokespecial index, 3)) (hf : cells + mc ≤ R.cells ∧ slots + ms ≤ R.slots)
    (kk : ∀ (r : ρ) (w' : wd) (H1 : Heap) (locs1 : List Loc), post r w' → wP E w' H1 → va_S (gA E) s.heap H1 locs1 → W p l e R s m args below meth c H1 locs1 (cells + mc) (slots + ms) Q (F0 m (pc + 3) ls ((mk r).toList ++ rest))) : W p l e R s m args below meth c H locs cells slots Q (F0 m pc ls st0) :=
  k_call (va_runI (g := F0 m pc ls st0) ⟨hx, hb, hml, hown, hts⟩ hMt cw (k_preS hG hP hS) rfl hn hsize hst hW hdg hf) hS kk
/-- numbers -/
theorem k_top {x y : Int32} (h : x = y) (k : W p l e R s m args below meth c H locs cells slots Q (F0 m pc ls (.int y :: rest))) : W p l e R s m args below meth c H locs cells slots Q (F0 m pc ls (.int x :: rest)) := by
  subst h; exact k
theorem k_top2 {x y : Int32} {v : Value} (h : x = y) (k : W p l e R s m args below meth c H locs cells slots Q (F0 m pc ls (v :: .int y :: rest))) : W p l e R s m args below meth c H locs cells slots Q (F0 m pc ls (v :: .int x :: rest)) := by
  subst h; exact k
theorem k_iaddN (hx : p.tables.exec = Jvm.exec) (hb : c.code = cc) {x y : Nat} (hdg : decode cc pc = .ok (.iadd, 1)) (k : W p l e R s m args below meth c H locs cells slots Q (F0 m (pc + 1) ls (.int (nI (x + y)) :: rest))) : W p l e R s m args below meth c H locs cells slots Q (F0 m pc ls (.int (nI y) :: .int (nI x) :: rest)) :=
  lv_iadd hx hb hdg (by rw [nI_add]; exact k)
theorem k_imulN (hx : p.tables.exec = Jvm.exec) (hb : c.code = cc) {x y : Nat} (hdg : decode cc pc = .ok (.imul, 1)) (k : W p l e R s m args below meth c H locs cells slots Q (F0 m (pc + 1) ls (.int (nI (x * y)) :: rest))) : W p l e R s m args below meth c H locs cells slots Q (F0 m pc ls (.int (nI y) :: .int (nI x) :: rest)) :=
  lv_imul hx hb hdg (by rw [pk_mul]; exact k)
theorem k_isubN (hx : p.tables.exec = Jvm.exec) (hb : c.code = cc) {x y : Nat} (h : y ≤ x) (hdg : decode cc pc = .ok (.isub, 1)) (k : W p l e R s m args below meth c H locs cells slots Q (F0 m (pc + 1) ls (.int (nI (x - y)) :: rest))) : W p l e R s m args below meth c H locs cells slots Q (F0 m pc ls (.int (nI y) :: .int (nI x) :: rest)) :=
  lv_isub hx hb hdg (by rw [pk_sub h]; exact k)
theorem k_icmp_ltN (hx : p.tables.exec = Jvm.exec) (hb : c.code = cc) {x y : Nat} {off : Int} {tgt : Nat} (h1 : x < 2 ^ 31) (h2 : y < 2 ^ 31) (hdg : decode cc pc = .ok (.if_icmp .lt off, 3)) (ht : (pc : Int) + off = (tgt : Int)) (kt : x < y → W p l e R s m args below meth c H locs cells slots Q (F0 m tgt ls rest)) (kf : y ≤ x → W p l e R s m args below meth c H locs cells slots Q (F0 m (pc + 3) ls rest)) : W p l e R s m args below meth c H locs cells slots Q (F0 m pc ls (.int (nI y) :: .int (nI x) :: rest)) :=
  lv_icmp_lt hx hb hdg ht (fun h => kt ((nI_ltI h1 h2).mp h)) (fun h => kf (Nat.le_of_not_lt fun z => h ((nI_ltI h1 h2).mpr z)))
theorem k_icmp_geN (hx : p.tables.exec = Jvm.exec) (hb : c.code = cc) {x y : Nat} {off : Int} {tgt : Nat} (h1 : x < 2 ^ 31) (h2 : y < 2 ^ 31) (hdg : decode cc pc = .ok (.if_icmp .ge off, 3)) (ht : (pc : Int) + off = (tgt : Int)) (kt : y ≤ x → W p l e R s m args below meth c H locs cells slots Q (F0 m tgt ls rest)) (kf : x < y → W p l e R s m args below meth c H locs cells slots Q (F0 m (pc + 3) ls rest)) : W p l e R s m args below meth c H locs cells slots Q (F0 m pc ls (.int (nI y) :: .int (nI x) :: rest)) :=
  lv_icmp_ge hx hb hdg ht (fun h => kt ((nI_leI h2 h1).mp h)) (fun h => kf (Nat.lt_of_not_le fun z => h ((nI_leI h2 h1).mpr z)))
theorem k_icmp_gtN (hx : p.tables.exec = Jvm.exec) (hb : c.code = cc) {x y : Nat} {off : Int} {tgt : Nat} (h1 : x < 2 ^ 31) (h2 : y < 2 ^ 31) (hdg : decode cc pc = .ok (.if_icmp .gt off, 3)) (ht : (pc : Int) + off = (tgt : Int)) (kt : y < x → W p l e R s m args below meth c H locs cells slots Q (F0 m tgt ls rest)) (kf : x ≤ y → W p l e R s m args below meth c H locs cells slots Q (F0 m (pc + 3) ls rest)) : W p l e R s m args below meth c H locs cells slots Q (F0 m pc ls (.int (nI y) :: .int (nI x) :: rest)) :=
  lv_icmp_gt hx hb hdg ht (fun h => kt ((nI_ltI h2 h1).mp h)) (fun h => kf (Nat.le_of_not_lt fun z => h ((nI_ltI h2 h1).mpr z)))
theorem k_icmp_leN (hx : p.tables.exec = Jvm.exec) (hb : c.code = cc) {x y : Nat} {off : Int} {tgt : Nat} (h1 : x < 2 ^ 31) (h2 : y < 2 ^ 31) (hdg : decode cc pc = .ok (.if_icmp .le off, 3)) (ht : (pc : Int) + off = (tgt : Int)) (kt : x ≤ y → W p l e R s m args below meth c H locs cells slots Q (F0 m tgt ls rest)) (kf : y < x → W p l e R s m args below meth c H locs cells slots Q (F0 m (pc + 3) ls rest)) : W p l e R s m args below meth c H locs cells slots Q (F0 m pc ls (.int (nI y) :: .int (nI x) :: rest)) :=
  lv_icmp_le hx hb hdg ht (fun h => kt ((nI_leI h1 h2).mp h)) (fun h => kf (Nat.lt_of_not_le fun z => h ((nI_leI h1 h2).mpr z)))
theorem k_icmp_eqN (hx : p.tables.exec = Jvm.exec) (hb : c.code = cc) {x y : Nat} {off : Int} {tgt : Nat} (h1 : x < 2 ^ 31) (h2 : y < 2 ^ 31) (hdg : decode cc pc = .ok (.if_icmp .eq off, 3)) (ht : (pc : Int) + off = (tgt : Int)) (kt : x = y → W p l e R s m args below meth c H locs cells slots Q (F0 m tgt ls rest)) (kf : ¬ x = y → W p l e R s m args below meth c H locs cells slots Q (F0 m (pc + 3) ls rest)) : W p l e R s m args below meth c H locs cells slots Q (F0 m pc ls (.int (nI y) :: .int (nI x) :: rest)) :=
  lv_icmp_eq hx hb hdg ht (fun h => kt ((nI_eq h1 h2).mp h)) (fun h => kf (fun z => h ((nI_eq h1 h2).mpr z)))
theorem k_icmp_neN (hx : p.tables.exec = Jvm.exec) (hb : c.code = cc) {x y : Nat} {off : Int} {tgt : Nat} (h1 : x < 2 ^ 31) (h2 : y < 2 ^ 31) (hdg : decode cc pc = .ok (.if_icmp .ne off, 3)) (ht : (pc : Int) + off = (tgt : Int)) (kt : ¬ x = y → W p l e R s m args below meth c H locs cells slots Q (F0 m tgt ls rest)) (kf : x = y → W p l e R s m args below meth c H locs cells slots Q (F0 m (pc + 3) ls rest)) : W p l e R s m args below meth c H locs cells slots Q (F0 m pc ls (.int (nI y) :: .int (nI x) :: rest)) :=
  lv_icmp_ne hx hb hdg ht (fun h => kt (fun z => h ((nI_eq h1 h2).mpr z))) (fun h => kf ((nI_eq h1 h2).mp h))
theorem k_ifeqB (hx : p.tables.exec = Jvm.exec) (hb : c.code = cc) {x : Bool} {off : Int} {tgt : Nat} (hdg : decode cc pc = .ok (.ifCond .eq off, 3)) (ht : (pc : Int) + off = (tgt : Int)) (kt : x = false → W p l e R s m args below meth c H locs cells slots Q (F0 m tgt ls rest)) (kf : x = true → W p l e R s m args below meth c H locs cells slots Q (F0 m (pc + 3) ls rest)) : W p l e R s m args below meth c H locs cells slots Q (F0 m pc ls (.int (bI x) :: rest)) :=
  lv_if_eq hx hb hdg ht (fun h => kt (by cases x; rfl; exact absurd h (by decide))) (fun h => kf (by cases x; exact absurd rfl h; rfl))
theorem k_ifneB (hx : p.tables.exec = Jvm.exec) (hb : c.code = cc) {x : Bool} {off : Int} {tgt : Nat} (hdg : decode cc pc = .ok (.ifCond .ne off, 3)) (ht : (pc : Int) + off = (tgt : Int)) (kt : x = true → W p l e R s m args below meth c H locs cells slots Q (F0 m tgt ls rest)) (kf : x = false → W p l e R s m args below meth c H locs cells slots Q (F0 m (pc + 3) ls rest)) : W p l e R s m args below meth c H locs cells slots Q (F0 m pc ls (.int (bI x) :: rest)) :=
  lv_if_ne hx hb hdg ht (fun h => kt (by cases x; exact absurd rfl h; rfl)) (fun h => kf (by cases x; rfl; exact absurd h (by decide)))
/-- cells -/
theorem k_get (hx : p.tables.exec = Jvm.exec) (hb : c.code = cc) {own ref C : String} {T : u_T} {N ci index : Nat} (hts : ∀ w ∈ lw_all, w.before args s = true) (hin : ∀ w ∈ u_ws C T N, w ∈ lw_all) (hown : s.vm.findClass own = some m.cls) (hG : gK E s) (hP : wP E w H) {fs : List Value} (he : w a = some (τ, .inr (ci, fs))) (hc : gCl[ci]? = some (C, T, N)) (k : Nat) (hk : k < N) (hlink : (Cond.fieldLink own index ref (T k).2.1 (T k).2.2.1).before args s = true) (hsame : ∀ x, s.fieldFound? (T k).1 (T k).2.1 (T k).2.2.1 = some x → s.fieldFound? ref (T k).2.1 (T k).2.2.1 = some x) {v : Value} (hv : fs[k]? = some v) (hdg : decode cc pc = .ok (.getfield index, 3))
    (kk : W p l e R s m args below meth c H locs cells slots Q (F0 m (pc + 3) ls (v :: rest))) : W p l e R s m args below meth c H locs cells slots Q (F0 m pc ls (.ref a :: rest)) :=
  va_get (ws := [(a, .inr (ci, fs))]) hx hb hts hin hown hG.1 (hP.one he) 0 rfl hc k hk hlink hsame hv hdg kk
theorem k_getN (hx : p.tables.exec = Jvm.exec) (hb : c.code = cc) {own ref C host : String} {T : u_T} {N ci index : Nat} (hts : ∀ w ∈ lw_all, w.before args s = true) (hin : ∀ w ∈ u_ws C T N, w ∈ lw_all) (hown : s.vm.findClass own = some m.cls) (hG : gK E s) (hP : wP E w H) {fs : List Value} (he : w a = some (τ, .inr (ci, fs))) (hc : gCl[ci]? = some (C, T, N)) (k : Nat) (hk : k < N) (hlink : va_Nw (Cond.fieldLinkNest own index ref (T k).2.1 (T k).2.2.1 host) s) (hsame : ∀ x, s.fieldFound? (T k).1 (T k).2.1 (T k).2.2.1 = some x → s.fieldFound? ref (T k).2.1 (T k).2.2.1 = some x) {v : Value} (hv : fs[k]? = some v) (hdg : decode cc pc = .ok (.getfield index, 3))
    (kk : W p l e R s m args below meth c H locs cells slots Q (F0 m (pc + 3) ls (v :: rest))) : W p l e R s m args below meth c H locs cells slots Q (F0 m pc ls (.ref a :: rest)) :=
  va_getN (ws := [(a, .inr (ci, fs))]) hx hb hts hin hown hG.1 (hP.one he) 0 rfl hc k hk (va_Nw.use rfl hlink) hsame hv hdg kk
theorem k_put (hx : p.tables.exec = Jvm.exec) (hb : c.code = cc) {own ref C : String} {T : u_T} {N ci index : Nat} (hts : ∀ w ∈ lw_all, w.before args s = true) (hin : ∀ w ∈ u_ws C T N, w ∈ lw_all) (ty0 : Nat → FieldType) (hty : ∀ k, k < N → parseFieldDescriptor (T k).2.2.1 = some (ty0 k)) (hnm : ∀ a, a < N → ∀ b, b < N → a ≠ b → (T a).2.1 ≠ (T b).2.1) (hown : s.vm.findClass own = some m.cls) (hG : gK E s) (hP : wP E w H) (hS0 : va_S (gA E) s.heap H locs) {fs : List Value} (he : w a = some (τ, .inr (ci, fs))) (hc : gCl[ci]? = some (C, T, N)) (k : Nat) (hk : k < N) (hlink : (Cond.fieldLink own index ref (T k).2.1 (T k).2.2.1).before args s = true) (hsame : ∀ x, s.fieldFound? (T k).1 (T k).2.1 (T k).2.2.1 = some x → s.fieldFound? ref (T k).2.1 (T k).2.2.1 = some x) (hfin : (T k).2.2.2 = false) {ty : FieldType} {v : Value} (hd : parseFieldDescriptor (T k).2.2.1 = some ty) (hn : narrow ty v = v) (hfit : fits ty v = true) (hl : k < fs.length)
    (hdg : decode cc pc = .ok (.putfield index, 3)) (kk : ∀ (H1 : Heap) (locs1 : List Loc), wP E (wu w a (τ, .inr (ci, fs.set k v))) H1 → va_S (gA E) s.heap H1 locs1 → W p l e R s m args below meth c H1 locs1 cells slots Q (F0 m (pc + 3) ls rest)) : W p l e R s m args below meth c H locs cells slots Q (F0 m pc ls (v :: .ref a :: rest)) := by
  have hK := hG.1
  have hap := va_apart (own := own) hts hin ty0 hty hnm hK hc
  obtain ⟨hE, r, h1, cell, q1, q2, q3, q4⟩ := hP a _ _ he
  have hr : r = (C, T, N) := Option.some.inj (h1.symm.trans hc)
  subst hr
  obtain ⟨hS, hfc, kC, hkC, hkind⟩ := hK.1 ci _ hc
  obtain ⟨cf, kf, fi, f, hi, hsl⟩ := hS k hk
  have hlay := hts _ (hin _ (u_in_lay hk))
  unfold u_lay at hlay
  rw [if_neg (by rw [hfin]; decide)] at hlay
  have hst := (u_facts hfc hkC (u_lays hts hin hk) hi).1
  have h6 := u_store hfc hkC hkind hlay hi hd hn hfit
  refine W.putK hx hb (f := f) ⟨hown, hlink, ⟨_, _, _, hsame _ hi⟩, hst⟩ (by rw [q2]; exact h6) q1 q3 (by rw [hsl]; exact k2_hasslot (q4 k hk)) rfl rfl hdg fun H' e1 e2 e3 => ?_
  rw [hsl] at e1 ⊢
  exact kk H' _ (hP.set he ⟨_, hc, t_OB.to (V := updV (vp_V fs) k v) ⟨_, e1, q2, q3, t_set q4 hap hk v⟩ (fun j _ => vp_updV_set hl v j)⟩ e3) (hS0.put e2 e3 hE)
theorem k_putN (hx : p.tables.exec = Jvm.exec) (hb : c.code = cc) {own ref C host : String} {T : u_T} {N ci index : Nat} (hts : ∀ w ∈ lw_all, w.before args s = true) (hin : ∀ w ∈ u_ws C T N, w ∈ lw_all) (ty0 : Nat → FieldType) (hty : ∀ k, k < N → parseFieldDescriptor (T k).2.2.1 = some (ty0 k)) (hnm : ∀ a, a < N → ∀ b, b < N → a ≠ b → (T a).2.1 ≠ (T b).2.1) (hown : s.vm.findClass own = some m.cls) (hG : gK E s) (hP : wP E w H) (hS0 : va_S (gA E) s.heap H locs) {fs : List Value} (he : w a = some (τ, .inr (ci, fs))) (hc : gCl[ci]? = some (C, T, N)) (k : Nat) (hk : k < N) (hlink : va_Nw (Cond.fieldLinkNest own index ref (T k).2.1 (T k).2.2.1 host) s) (hsame : ∀ x, s.fieldFound? (T k).1 (T k).2.1 (T k).2.2.1 = some x → s.fieldFound? ref (T k).2.1 (T k).2.2.1 = some x) (hfin : (T k).2.2.2 = false) {ty : FieldType} {v : Value} (hd : parseFieldDescriptor (T k).2.2.1 = some ty) (hn : narrow ty v = v) (hfit : fits ty v = true) (hl : k < fs.length)
    (hdg : decode cc pc = .ok (.putfield index, 3)) (kk : ∀ (H1 : Heap) (locs1 : List Loc), wP E (wu w a (τ, .inr (ci, fs.set k v))) H1 → va_S (gA E) s.heap H1 locs1 → W p l e R s m args below meth c H1 locs1 cells slots Q (F0 m (pc + 3) ls rest)) : W p l e R s m args below meth c H locs cells slots Q (F0 m pc ls (v :: .ref a :: rest)) := by
  have hK := hG.1
  have hap := va_apart (own := own) hts hin ty0 hty hnm hK hc
  obtain ⟨hE, r, h1, cell, q1, q2, q3, q4⟩ := hP a _ _ he
  have hr : r = (C, T, N) := Option.some.inj (h1.symm.trans hc)
  subst hr
  obtain ⟨hS, hfc, kC, hkC, hkind⟩ := hK.1 ci _ hc
  obtain ⟨cf, kf, fi, f, hi, hsl⟩ := hS k hk
  have hlay := hts _ (hin _ (u_in_lay hk))
  unfold u_lay at hlay
  rw [if_neg (by rw [hfin]; decide)] at hlay
  have hst := (u_facts hfc hkC (u_lays hts hin hk) hi).1
  have h6 := u_store hfc hkC hkind hlay hi hd hn hfit
  refine va_WputK hx hb (f := f) hown (va_Nw.use rfl hlink) (hsame _ hi) hst (by rw [q2]; exact h6) q1 q3 (by rw [hsl]; exact k2_hasslot (q4 k hk)) rfl rfl hdg fun H' e1 e2 e3 => ?_
  rw [hsl] at e1 ⊢
  exact kk H' _ (hP.set he ⟨_, hc, t_OB.to (V := updV (vp_V fs) k v) ⟨_, e1, q2, q3, t_set q4 hap hk v⟩ (fun j _ => vp_updV_set hl v j)⟩ e3) (hS0.put e2 e3 hE)
theorem k_iald (hx : p.tables.exec = Jvm.exec) (hb : c.code = cc) (hG : gK E s) (hP : wP E w H) {n j : Nat} {f : Nat → Int32} (ha : w a = some (τ, .inl (eT E 0, n, .inl f))) (hn : n ≤ 65536) (hj : j < n) (hdg : decode cc pc = .ok (.iaload, 1))
    (kk : W p l e R s m args below meth c H locs cells slots Q (F0 m (pc + 1) ls (.int (f j) :: rest))) : W p l e R s m args below meth c H locs cells slots Q (F0 m pc ls (.int (nI j) :: .ref a :: rest)) := by
  refine va_iald (ws := [(a, .inl (eT E 0, n, .inl f))]) hx hb hG.1 (hP.one ha) 0 0 rfl rfl (vp_in_nI hj (by omega)) hdg ?_
  rw [nI_clamp (by omega)]
  exact kk
theorem k_iast (hx : p.tables.exec = Jvm.exec) (hb : c.code = cc) (hG : gK E s) (hP : wP E w H) (hS : va_S (gA E) s.heap H locs) {n j : Nat} {f : Nat → Int32} (ha : w a = some (τ, .inl (eT E 0, n, .inl f))) (hn : n ≤ 65536) (hj : j < n) {x : Int32} (hdg : decode cc pc = .ok (.iastore, 1))
    (kk : ∀ (H1 : Heap) (locs1 : List Loc), wP E (wu w a (τ, .inl (eT E 0, n, .inl (va_up f j x)))) H1 → va_S (gA E) s.heap H1 locs1 → W p l e R s m args below meth c H1 locs1 cells slots Q (F0 m (pc + 1) ls rest)) : W p l e R s m args below meth c H locs cells slots Q (F0 m pc ls (.int x :: .int (nI j) :: .ref a :: rest)) := by
  obtain ⟨hE, h1⟩ := hP a _ _ ha
  have hin : vp_in (nI j) n := vp_in_nI hj (by omega)
  refine W.iast hx hb h1 ((hG.1.2 0 (eT E 0, .int) rfl).1 n (fun j => .int (f j))) (fun q => by cases q) (by show ¬ (nI j < 0 ∨ (arrV _ _ _).slots.size ≤ _); rw [arrV_size]; exact hin) rfl rfl hdg fun H1 e z oq => ?_
  refine kk H1 _ (hP.set ha ?_ oq) (hS.put z oq hE)
  show H1[a]? = some (vp_cell _ _)
  rw [e, nI_clamp (by omega)]
  rw [vp_cell_i, vp_cell_i, arrV_store]
  congr 2
  funext q
  by_cases hq : q = j
  · subst hq
    simp [updV, va_up]
  · simp [updV, va_up, hq]
theorem k_alen (hx : p.tables.exec = Jvm.exec) (hb : c.code = cc) (hG : gK E s) (hP : wP E w H) {n : Nat} {f : Nat → Int32} (ha : w a = some (τ, .inl (eT E 0, n, .inl f))) (hdg : decode cc pc = .ok (.arraylength, 1))
    (kk : W p l e R s m args below meth c H locs cells slots Q (F0 m (pc + 1) ls (.int (nI n) :: rest))) : W p l e R s m args below meth c H locs cells slots Q (F0 m pc ls (.ref a :: rest)) :=
  va_alen (ws := [(a, .inl (eT E 0, n, .inl f))]) (v := nI n) hx hb hG.1 (hP.one ha) 0 0 rfl rfl rfl hdg kk
theorem k_new (hx : p.tables.exec = Jvm.exec) (hb : c.code = cc) {own C : String} {T : u_T} {N ci index : Nat} (τ : Nat × Nat) (hts : ∀ w ∈ lw_all, w.before args s = true) (hin : ∀ w ∈ u_ws C T N, w ∈ lw_all) (ty : Nat → FieldType) (hty : ∀ k, k < N → parseFieldDescriptor (T k).2.2.1 = some (ty k)) (hown : s.vm.findClass own = some m.cls) (hcl : (Cond.classLink own index C).before args s = true) (hinst : (Cond.instantiable C N).before args s = true) (hini : (Cond.initialized C).before args s = true)
    (hG : gK E s) (hP : wP E w H) (hS : va_S (gA E) s.heap H locs) (hc : gCl[ci]? = some (C, T, N)) {fs : List Value} (hfs : ∀ j, j < N → defaultValue (ty j) = vp_V fs j) (hcells : cells + 1 ≤ R.cells) (hslots : slots + N ≤ R.slots) (hdg : decode cc pc = .ok (.new index, 3))
    (kk : ∀ (q : Nat) (H1 : Heap), w q = none → wP E (wu w q (τ, .inr (ci, fs))) H1 → va_S (gA E) s.heap H1 locs →
      W p l e R s m args below meth c H1 locs (cells + 1) (slots + N) Q (F0 m (pc + 3) ls (.ref q :: rest))) : W p l e R s m args below meth c H locs cells slots Q (F0 m pc ls rest) := by
  have hKn := hG.1.1 ci _ hc
  refine W.newcK hx hb hown hcl hinst hini rfl hdg hcells hslots hKn.2.1 rfl fun H1 kC hkC e1 z1 o1 => ?_
  exact kk H.size H1 hP.fresh (hP.new τ ⟨_, hc, (u_born ty hts hin hKn hkC e1 hty).to hfs⟩ (Nat.le_trans hG.2.2.1 hS.1) o1) ⟨Nat.le_trans hS.1 (by omega), fun x h1 h2 => (o1 x (Nat.lt_of_lt_of_le h1 hS.1)).trans (hS.2.1 x h1 h2), hS.2.2⟩
theorem k_newi (hx : p.tables.exec = Jvm.exec) (hb : c.code = cc) (τ : Nat × Nat) (harr : (Cond.arrayClass .int).before args s = true) (hG : gK E s) (hP : wP E w H) (hS : va_S (gA E) s.heap H locs) {n : Nat} (hn : n ≤ 65536) (hcells : cells + 1 ≤ R.cells) (hslots : slots + n ≤ R.slots) (hdg : decode cc pc = .ok (.newarray .int, 2))
    (kk : ∀ (q : Nat) (H1 : Heap), w q = none → wP E (wu w q (τ, .inl (eT E 0, n, .inl (fun _ => 0)))) H1 → va_S (gA E) s.heap H1 locs →
      W p l e R s m args below meth c H1 locs (cells + 1) (slots + n) Q (F0 m (pc + 2) ls (.ref q :: rest))) : W p l e R s m args below meth c H locs cells slots Q (F0 m pc ls (.int (nI n) :: rest)) := by
  refine va_newaK (atype := .int) hx hb harr rfl hdg rfl (nI_pos (by omega)) (nI_clamp (by omega)) (by show n * componentBytes .int ≤ _; simp [componentBytes]; omega) hcells hslots rfl fun H1 cA e1 z1 o1 hAr hNm => ?_
  have hcA : cA = eT E 0 := Option.some.inj (hNm.symm.trans (hG.1.2 0 (eT E 0, .int) rfl).2)
  subst hcA
  exact kk H.size H1 hP.fresh (hP.new τ e1 (Nat.le_trans hG.2.2.1 hS.1) o1) ⟨Nat.le_trans hS.1 (by omega), fun x h1 h2 => (o1 x (Nat.lt_of_lt_of_le h1 hS.1)).trans (hS.2.1 x h1 h2), hS.2.2⟩
end KB
