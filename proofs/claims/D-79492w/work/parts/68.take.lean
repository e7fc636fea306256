/-! THE COMPONENT, 14: a town taken over -/
set_option maxRecDepth 100000
section KCW
variable {p : Program} {l : Launch} {e : Env} {R : Room} {s : State} {m : MethodId} {args : Array Value} {below : List Frame} {meth : Method} {c : Code} {H : Heap} {locs : List Loc} {cells slots : Nat} {Q : State → Prop}
variable {cc : ByteArray} {pc : Nat} {ls : Array Slot} {rest st0 : List Value} {a : Nat} {E : gE} {w : wd} {τ : Nat × Nat}
theorem k_copyiW (hx : p.tables.exec = Jvm.exec) (hb : c.code = cc) (hml : c.maxLocals = ls.size) {own : String} {index : Nat} (hown : s.vm.findClass own = some m.cls) (hlink : (Cond.methodLink own index arraycopyName).before args s = true) (hnat : (Cond.native arraycopyName).before args s = true) (hstat : (Cond.static arraycopyName).before args s = true) (hini : (Cond.initialized "java/lang/System").before args s = true)
    (hG : gK E s) (hP : wP E w H) (hS : va_S (gA E) s.heap H locs) {a0 : Nat} {σ : Nat × Nat} {n0 n1 sp dp n : Nat} {f g : Nat → Int32} (ha0 : w a0 = some (σ, .inl (eT E 0, n0, .inl f))) (ha1 : w a = some (τ, .inl (eT E 0, n1, .inl g))) (hn0 : n0 ≤ 65536) (hn1 : n1 ≤ 65536) (h4 : sp + n ≤ n0) (h5 : dp + n ≤ n1)
    (hframes : 1 ≤ R.frames) (hlocals : (rest.map fun v => v.category).sum + (nativeFrameWords "java/lang/System" "arraycopy" 5 + 11) ≤ R.locals) (hdg : decode cc pc = .ok (.invokestatic index, 3))
    (kk : ∀ (w1 : wd) (H1 : Heap) (locs1 : List Loc), w1 a = some (τ, .inl (eT E 0, n1, .inl (va_cpy f g sp dp n))) → fr (pO τ) w w1 → wP E w1 H1 → va_S (gA E) s.heap H1 locs1 → W p l e R s m args below meth c H1 locs1 cells slots Q (F0 m (pc + 3) ls rest)) : W p l e R s m args below meth c H locs cells slots Q (F0 m pc ls (.int (nI n) :: .int (nI dp) :: .ref a :: .int (nI sp) :: .ref a0 :: rest)) :=
  k_copyi hx hb hml hown hlink hnat hstat hini hG hP hS ha0 ha1 hn0 hn1 h4 h5 hframes hlocals hdg (fun H1 locs1 hP1 hS1 => kk _ H1 locs1 wu_s (fr.rf.put ha1 rfl) hP1 hS1)
end KCW
theorem ksR.wk {E : gE} {w : wd} {i : Nat} {A : Nat → Nat} {g g1 : Nat → Int32} {mn : Nat} (h : ksR E w i A g mn) : ksR E w i A g1 0 := by
  intro k hk
  obtain ⟨v, t, -, h1⟩ := h k hk
  exact ⟨v, t, fun z => absurd z (Nat.not_lt_zero k), h1⟩
theorem ksR.tk {E : gE} {w w1 : wd} {i z : Nat} {A : Nat → Nat} {g : Nat → Int32} {t : Nat} (h : ksR E w i A g z) (hi : i ≠ 0) (hz : z < 6) (hf : fr (pK i z) w w1) (hk : kR E w1 i (A (6 + z)) z (kv g z) t) : ksR E w1 i A g (z + 1) := by
  intro k hk6
  by_cases e : k = z
  · subst e
    exact ⟨_, t, fun _ => rfl, hk⟩
  · obtain ⟨v', t', e', h'⟩ := h k hk6
    refine ⟨v', t', fun y => e' (by omega), h'.frm hf ?_ ?_ ?_⟩
    · intro y; simp only [pK, Prod.mk.injEq] at y; omega
    · intro y; simp only [pK, Prod.mk.injEq] at y; omega
    · intro y; simp only [pK, Prod.mk.injEq] at y; omega
theorem cpy_10 {f g u : Nat → Int32} {q : Nat} (hq : q < 10) (x : Int32) (h : f q = x) : va_cpy f g 0 0 10 q = x := by
  simp only [va_cpy]
  rw [if_pos (by omega), ← h]
  congr 1
  omega
