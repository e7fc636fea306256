/-! THE COMPONENT, 5: what a state says of itself -/
set_option maxRecDepth 100000
section KNM
variable {p : Program} {l : Launch} {e : Env} {R : Room} {s : State} {m : MethodId} {args : Array Value} {below : List Frame} {meth : Method} {c : Code} {H : Heap} {locs : List Loc} {cells slots : Nat} {Q : State → Prop}
variable {cc : ByteArray} {pc : Nat} {ls : Array Slot} {rest st0 : List Value} {E : gE} {w : wd}
theorem k_num (hx : p.tables.exec = Jvm.exec) (hb : c.code = cc) {own : String} {index count nL i k t : Nat} {v : Nat → Int32} (hml : c.maxLocals = nL) (hown : s.vm.findClass own = some m.cls) (hts : ∀ w ∈ lw_all, w.before args s = true) (hlink : Cond.methodLink own index yNum ∈ lw_all) (hst : stR w i k v t) (hG : gK E s) (hP : wP E w H) (hS : va_S (gA E) s.heap H locs) (hsize : ls.size = nL) (hdg : decode cc pc = .ok (.invokeinterface index count, 5)) (hR : 1 ≤ R.frames ∧ 20 ≤ R.locals) (hW : (rest.map fun v => v.category).sum ≤ 8) (hf : cells ≤ R.cells ∧ slots ≤ R.slots)
    (kk : ∀ (H1 : Heap) (locs1 : List Loc), wP E w H1 → va_S (gA E) s.heap H1 locs1 → W p l e R s m args below meth c H1 locs1 cells slots Q (F0 m (pc + 5) ls (.int (v 0) :: rest))) : W p l e R s m args below meth c H locs cells slots Q (F0 m pc ls (.ref t :: rest)) := by
  have hlocs : 2 * (F0 m pc ls (.ref t :: rest)).monitorRoom + (rest.map fun v => v.category).sum ≤ 8 := by show 2 * 0 + _ ≤ 8; omega
  rcases hst with ⟨e0, h1⟩ | ⟨e0, h1⟩ | ⟨e0, h1⟩ <;> rw [e0] at kk
  · refine k_cF (As := []) (rest := rest) hx hb hml hown hts (CX5_number l E w t) (va_cwF 0 hts (lw_F hlink q690 q692 q74 q694) rfl rfl rfl (hG.2.1.2.2 _ (List.mem_of_getElem? (i := 0) rfl)) (by decide) hR) hG hP hS h1 rfl rfl hsize rfl hlocs hdg hf (fun r w' H1 locs1 hp hP1 hS1 => ?_)
    obtain ⟨rfl, rfl⟩ := hp
    exact kk H1 locs1 hP1 hS1
  · refine k_cF (As := []) (rest := rest) hx hb hml hown hts (CX7_number l E w t) (va_cwF 0 hts (lw_F hlink q696 q698 q89 q700) rfl rfl rfl (hG.2.1.2.2 _ (List.mem_of_getElem? (i := 1) rfl)) (by decide) hR) hG hP hS h1 rfl rfl hsize rfl hlocs hdg hf (fun r w' H1 locs1 hp hP1 hS1 => ?_)
    obtain ⟨rfl, rfl⟩ := hp
    exact kk H1 locs1 hP1 hS1
  · refine k_cF (As := []) (rest := rest) hx hb hml hown hts (CX8_number l E w t) (va_cwF 0 hts (lw_F hlink q684 q686 q95 q688) rfl rfl rfl (hG.2.1.2.2 _ (List.mem_of_getElem? (i := 2) rfl)) (by decide) hR) hG hP hS h1 rfl rfl hsize rfl hlocs hdg hf (fun r w' H1 locs1 hp hP1 hS1 => ?_)
    obtain ⟨rfl, rfl⟩ := hp
    exact kk H1 locs1 hP1 hS1
theorem k_sgn (hx : p.tables.exec = Jvm.exec) (hb : c.code = cc) {own : String} {index count nL i k t : Nat} {v : Nat → Int32} (hml : c.maxLocals = nL) (hown : s.vm.findClass own = some m.cls) (hts : ∀ w ∈ lw_all, w.before args s = true) (hlink : Cond.methodLink own index ySig ∈ lw_all) (hst : stR w i k v t) (hG : gK E s) (hP : wP E w H) (hS : va_S (gA E) s.heap H locs) (hsize : ls.size = nL) (hdg : decode cc pc = .ok (.invokeinterface index count, 5)) (hR : 1 ≤ R.frames ∧ 20 ≤ R.locals) (hW : (rest.map fun v => v.category).sum ≤ 8) (hf : cells ≤ R.cells ∧ slots ≤ R.slots)
    (kk : ∀ (H1 : Heap) (locs1 : List Loc), wP E w H1 → va_S (gA E) s.heap H1 locs1 → W p l e R s m args below meth c H1 locs1 cells slots Q (F0 m (pc + 5) ls (.int (if v 0 = 0 then 114 else if v 0 = 1 then 117 else 99) :: rest))) : W p l e R s m args below meth c H locs cells slots Q (F0 m pc ls (.ref t :: rest)) := by
  have hlocs : 2 * (F0 m pc ls (.ref t :: rest)).monitorRoom + (rest.map fun v => v.category).sum ≤ 8 := by show 2 * 0 + _ ≤ 8; omega
  rcases hst with ⟨e0, h1⟩ | ⟨e0, h1⟩ | ⟨e0, h1⟩ <;> rw [e0] at kk
  · refine k_cF (As := []) (rest := rest) hx hb hml hown hts (CX5_sign l E w t) (va_cwF 0 hts (lw_F hlink q872 q874 q74 q876) rfl rfl rfl (hG.2.1.2.2 _ (List.mem_of_getElem? (i := 3) rfl)) (by decide) hR) hG hP hS h1 rfl rfl hsize rfl hlocs hdg hf (fun r w' H1 locs1 hp hP1 hS1 => ?_)
    obtain ⟨rfl, rfl⟩ := hp
    exact kk H1 locs1 hP1 hS1
  · refine k_cF (As := []) (rest := rest) hx hb hml hown hts (CX7_sign l E w t) (va_cwF 0 hts (lw_F hlink q877 q879 q89 q881) rfl rfl rfl (hG.2.1.2.2 _ (List.mem_of_getElem? (i := 4) rfl)) (by decide) hR) hG hP hS h1 rfl rfl hsize rfl hlocs hdg hf (fun r w' H1 locs1 hp hP1 hS1 => ?_)
    obtain ⟨rfl, rfl⟩ := hp
    exact kk H1 locs1 hP1 hS1
  · refine k_cF (As := []) (rest := rest) hx hb hml hown hts (CX8_sign l E w t) (va_cwF 0 hts (lw_F hlink q867 q869 q95 q871) rfl rfl rfl (hG.2.1.2.2 _ (List.mem_of_getElem? (i := 5) rfl)) (by decide) hR) hG hP hS h1 rfl rfl hsize rfl hlocs hdg hf (fun r w' H1 locs1 hp hP1 hS1 => ?_)
    obtain ⟨rfl, rfl⟩ := hp
    exact kk H1 locs1 hP1 hS1
end KNM
