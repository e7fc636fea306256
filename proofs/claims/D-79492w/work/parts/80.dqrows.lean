/-! THE JDK, 2: a place emptied -/
set_option maxRecDepth 100000
section KDQ
variable {p : Program} {l : Launch} {e : Env} {R : Room} {s : State} {m : MethodId} {args : Array Value} {below : List Frame} {meth : Method} {c : Code} {H : Heap} {locs : List Loc} {cells slots : Nat} {Q : State → Prop}
variable {cc : ByteArray} {pc : Nat} {ls : Array Slot} {rest st0 : List Value} {a : Nat} {E : gE} {w : wd} {τ : Nat × Nat}
theorem k_aastNW (hx : p.tables.exec = Jvm.exec) (hb : c.code = cc) (hG : gK E s) (hP : wP E w H) (hS : va_S (gA E) s.heap H locs) {n j : Nat} (t : Nat) {C : String} {f : Nat → Option Nat} (ha : w a = some (τ, .inl (eT E t, n, .inr (.inr (.inr (.inr f)))))) (ht : (gTys E)[t]? = some (eT E t, .object C)) (hn : n ≤ 65536) (hj : j < n) (hdg : decode cc pc = .ok (.aastore, 1))
    (kk : ∀ (w1 : wd) (H1 : Heap) (locs1 : List Loc), w1 a = some (τ, .inl (eT E t, n, .inr (.inr (.inr (.inr (va_up f j none)))))) → fr (pO τ) w w1 → wP E w1 H1 → va_S (gA E) s.heap H1 locs1 → W p l e R s m args below meth c H1 locs1 cells slots Q (F0 m (pc + 1) ls rest)) : W p l e R s m args below meth c H locs cells slots Q (F0 m pc ls (.null :: .int (nI j) :: .ref a :: rest)) := by
  obtain ⟨hE, h1⟩ := hP a _ _ ha
  have hin : vp_in (nI j) n := vp_in_nI hj (by omega)
  refine va_WaastN (C := C) hx hb h1 ((hG.1.2 t _ ht).1 n (fun j => va_rf (f j))) (fun h => by cases h) (by show ¬ (nI j < 0 ∨ (arrV _ _ _).slots.size ≤ _); rw [arrV_size]; exact hin) rfl rfl hdg fun H1 e z oq => ?_
  refine kk _ H1 _ wu_s (fr.rf.put ha rfl) (hP.set ha ?_ oq) (hS.put z oq hE)
  show H1[a]? = some (vp_cell _ _)
  rw [e, nI_clamp (by omega)]
  rw [vp_cell_q, vp_cell_q, arrV_store]
  congr 2
  funext q
  by_cases hq : q = j
  · subst hq
    simp [updV, va_up, va_rf]
  · simp [updV, va_up, hq]
theorem k_alenq (hx : p.tables.exec = Jvm.exec) (hb : c.code = cc) (hG : gK E s) (hP : wP E w H) {n : Nat} (t : Nat) {C : String} {f : Nat → Option Nat} (ha : w a = some (τ, .inl (eT E t, n, .inr (.inr (.inr (.inr f)))))) (ht : (gTys E)[t]? = some (eT E t, .object C)) (hdg : decode cc pc = .ok (.arraylength, 1))
    (kk : W p l e R s m args below meth c H locs cells slots Q (F0 m (pc + 1) ls (.int (nI n) :: rest))) : W p l e R s m args below meth c H locs cells slots Q (F0 m pc ls (.ref a :: rest)) :=
  va_alen (ws := [(a, .inl (eT E t, n, .inr (.inr (.inr (.inr f)))))]) (v := nI n) hx hb hG.1 (hP.one ha) 0 t rfl ht rfl hdg kk
theorem k_ifnullR (hx : p.tables.exec = Jvm.exec) (hb : c.code = cc) {off : Int} (hdg : decode cc pc = .ok (.ifnull off, 3))
    (kk : W p l e R s m args below meth c H locs cells slots Q (F0 m (pc + 3) ls rest)) : W p l e R s m args below meth c H locs cells slots Q (F0 m pc ls (.ref a :: rest)) := by
  intro T hT X
  obtain ⟨t, a9, b9⟩ := kk T hT X
  refine ⟨t, ?_, b9⟩
  jvm_step X.here [X.here.top, hx, hb, hdg, ifnull.wp_sem]
  exact a9
theorem k_ifnonnullR (hx : p.tables.exec = Jvm.exec) (hb : c.code = cc) {off : Int} {tgt : Nat} (hdg : decode cc pc = .ok (.ifnonnull off, 3)) (ht : (pc : Int) + off = (tgt : Int))
    (kk : W p l e R s m args below meth c H locs cells slots Q (F0 m tgt ls rest)) : W p l e R s m args below meth c H locs cells slots Q (F0 m pc ls (.ref a :: rest)) := by
  intro T hT X
  obtain ⟨t, a9, b9⟩ := kk T hT X
  refine ⟨t, ?_, b9⟩
  jvm_step X.here [X.here.top, hx, hb, hdg, ht, ifnonnull.wp_sem]
  exact a9
def pD : Nat × Nat → Prop := fun τ => τ.1 = 95
theorem k_asg {C D : String} (h : va_Nw (Cond.castable C D) s) : ∀ comp c0 : ClassId, s.vm.findClass D = some comp → ClassAt s C c0 → s.vm.assignable c0 comp = true := by
  intro comp c0 h1 h2
  obtain ⟨a1, b1, ha, hb, hh⟩ := Cond.castable_spec (h.use (A := #[]) rfl)
  cases ha.symm.trans h2.1
  cases h1.symm.trans hb
  exact hh
end KDQ
