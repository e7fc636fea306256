/-! THE COMPONENT, 10: the make's number -/
set_option maxRecDepth 100000
abbrev rmCJ0_ordinal : Room := { frames := 0, cells := 0, slots := 0, locals := 0 }
theorem CJ0_ordinal (l0 : Launch) (E : gE) (w : wd) (z : Nat) (hz : z < 3) : kC l0 yJ0_ordinal (ws_ yJ0_ordinal cJ0_ordinal 1 (some .int)) rmCJ0_ordinal 0 0 mI E w [.ref (eM E z)] (fun r w' => w' = w ∧ r = nI z) := by
  refine k_open (cc := cJ0_ordinal) (maxL := 1) (ret := (some .int)) (by decide) rfl (Nat.le_of_ble_eq_true rfl) ?_
  intro p e s m args below meth c ls Q hx hb hr hml hown hts hlocks hname hQ hG hP hl hS
  have hl : lv_has ls 1 [(0, .ref (eM E z))] := hl
  refine lv_aload_n hx hb dJ0_ordinal_0 rfl (lv_at hl 0 rfl) ?_
  refine vk_getf hx hb (hG.2.2.2.1 z hz).2.2 hS hown (hts _ q2018) (fun _ h9 => h9) dJ0_ordinal_1 ?_
  exact k_iret hx hb hr hlocks hQ hP hS (by omega) (by omega) dJ0_ordinal_4 ⟨rfl, rfl⟩
section KON
variable {p : Program} {l : Launch} {e : Env} {R : Room} {s : State} {m : MethodId} {args : Array Value} {below : List Frame} {meth : Method} {c : Code} {H : Heap} {locs : List Loc} {cells slots : Nat} {Q : State → Prop}
variable {cc : ByteArray} {pc : Nat} {ls : Array Slot} {rest st0 : List Value} {a : Nat} {E : gE} {w : wd} {τ : Nat × Nat}
theorem k_ord (hx : p.tables.exec = Jvm.exec) (hb : c.code = cc) {own : String} {index nL : Nat} (hml : c.maxLocals = nL) (hown : s.vm.findClass own = some m.cls) (hts : ∀ w ∈ lw_all, w.before args s = true) (hlink : Cond.methodLink own index ⟨"KiteRoofs$Make", "ordinal", "()I"⟩ ∈ lw_all) {x : Int32} (hx3 : x = 0 ∨ x = 1 ∨ x = 2) (hG : gK E s) (hP : wP E w H) (hS : va_S (gA E) s.heap H locs) (hsize : ls.size = nL) (hdg : decode cc pc = .ok (.invokevirtual index, 3)) (hR : 1 ≤ R.frames ∧ 20 ≤ R.locals) (hW : (rest.map fun v => v.category).sum ≤ 8) (hf : cells + 0 ≤ R.cells ∧ slots + 0 ≤ R.slots)
    (kk : ∀ (H1 : Heap) (locs1 : List Loc), wP E w H1 → va_S (gA E) s.heap H1 locs1 → W p l e R s m args below meth c H1 locs1 cells slots Q (F0 m (pc + 3) ls (.int x :: rest))) : W p l e R s m args below meth c H locs cells slots Q (F0 m pc ls (.ref (eM E x.toNatClampNeg) :: rest)) := by
  have hlocs : 2 * (F0 m pc ls (.ref (eM E x.toNatClampNeg) :: rest)).monitorRoom + (rest.map fun v => v.category).sum ≤ 8 := by show 2 * 0 + _ ≤ 8; omega
  rcases hx3 with h | h | h <;> subst h
  · refine k_cM (z := 0) (As := []) (rest := rest) hx hb hml hown hts (by decide) (CJ0_ordinal l E w 0 (by decide)) (va_cwU (x := ⟨"KiteRoofs$Make", "ordinal", "()I"⟩) (owner := "java/lang/Enum") 0 hts (lw_U hlink q787 q789 q792 q72 q793) rfl rfl rfl rfl (by decide) hR) hG hP hS rfl hsize rfl hlocs hdg hf (fun r w' H1 locs1 hp hP1 hS1 => ?_)
    obtain ⟨rfl, rfl⟩ := hp
    exact kk H1 locs1 hP1 hS1
  · refine k_cM (z := 1) (As := []) (rest := rest) hx hb hml hown hts (by decide) (CJ0_ordinal l E w 1 (by decide)) (va_cwU (x := ⟨"KiteRoofs$Make", "ordinal", "()I"⟩) (owner := "java/lang/Enum") 0 hts (lw_U hlink q787 q790 q792 q72 q793) rfl rfl rfl rfl (by decide) hR) hG hP hS rfl hsize rfl hlocs hdg hf (fun r w' H1 locs1 hp hP1 hS1 => ?_)
    obtain ⟨rfl, rfl⟩ := hp
    exact kk H1 locs1 hP1 hS1
  · refine k_cM (z := 2) (As := []) (rest := rest) hx hb hml hown hts (by decide) (CJ0_ordinal l E w 2 (by decide)) (va_cwU (x := ⟨"KiteRoofs$Make", "ordinal", "()I"⟩) (owner := "java/lang/Enum") 0 hts (lw_U hlink q787 q791 q792 q72 q793) rfl rfl rfl rfl (by decide) hR) hG hP hS rfl hsize rfl hlocs hdg hf (fun r w' H1 locs1 hp hP1 hS1 => ?_)
    obtain ⟨rfl, rfl⟩ := hp
    exact kk H1 locs1 hP1 hS1
end KON
theorem kOt_eq {g : Nat → Int32} {mn N k : Nat} (hI : gI g mn N) (hk : k < mn) : kOt (kv g k) = g (kO k 5) := by
  have h := (hI.2.2.2 k hk).2.2.2.2.2.2.1
  show (if g (kO k 0) = 1 then g (kO k 5) else 0) = _
  split
  · rfl
  · next c => exact (h c).symm
theorem kWr_eq {g : Nat → Int32} {k : Nat} : kWr (kv g k) = if tUp g k = true then g (kO k 6) else 0 := by
  show (if g (kO k 0) = 1 then g (kO k 6) else 0) = _
  unfold tUp
  simp only [decide_eq_true_eq]
theorem tin_N1 {v : Int32} {n : Nat} (hn : n < 2 ^ 31) (h : tin v 0 (nI n - 1) = true) : ∃ k, k < n ∧ v = nI k := by
  cases n with
  | zero =>
    obtain ⟨h1, h2⟩ := tin_of h
    rw [show nI 0 - 1 = -1 from rfl] at h2
    exact absurd (Int32.le_trans h1 h2) (by decide)
  | succ n =>
    rw [show nI (n + 1) - 1 = nI n from (show nI (n + 1) - nI 1 = nI (n + 1 - 1) from pk_sub (show 1 ≤ n + 1 by omega))] at h
    obtain ⟨k, hk, e⟩ := tin_N (by omega) h
    exact ⟨k, by omega, e⟩
