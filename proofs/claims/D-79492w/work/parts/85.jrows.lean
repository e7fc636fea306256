/-! THE JDK, 4: calls of inherited and private methods; numbers of bytes -/
set_option maxRecDepth 100000
theorem sel_priv {s : State} {args : Array Value} {C : String} {y y2 : MethodName} (hsel2 : (Cond.selects C y2 y2).before args s = true) (hcls : y2.cls = y.cls) (hpriv : va_Nw (.privateMethod y) s) (hinst : (Cond.instanceMethod y).before args s = true) (hy : y.cls ≠ "java/lang/invoke/MethodHandle" ∧ y.cls ≠ "java/lang/invoke/VarHandle") : (Cond.selects C y y).before args s = true := by
  obtain ⟨c, r, m2, hc, -, hm2, -, kI, hkI, hni⟩ := Cond.selects_spec hsel2
  obtain ⟨mk, methM, hnamed, hmethM, -, -⟩ := Cond.instanceMethod_spec hinst
  have hfound : s.methodFound? y.cls y.name y.desc = some mk := State.methodFound?_of_named hnamed hy
  have h9 := findClass_of_methodNamed hm2
  rw [hcls] at h9
  have hmc : mk.cls = m2.cls := Option.some.inj ((findClass_of_methodNamed hnamed).symm.trans h9)
  have hsel : selectMethod {} s.vm c mk = .method mk := selectMethod_private hmethM (Cond.privateMethod_at hpriv mk methM hnamed hmethM)
  simp only [Cond.before, Cond.holds, Cond.value, hc, hfound, hnamed, hsel, hmc, hkI]
  simp; exact hni
section KJ
variable {p : Program} {l : Launch} {e : Env} {R : Room} {s : State} {m : MethodId} {args : Array Value} {below : List Frame} {meth : Method} {c : Code} {H : Heap} {locs : List Loc} {cells slots : Nat} {Q : State → Prop}
variable {cc : ByteArray} {pc : Nat} {ls : Array Slot} {rest st0 : List Value} {a : Nat} {E : gE} {w : wd} {τ : Nat × Nat}
variable {own C : String} {index maxL mc ms n : Nat} {x y y2 : MethodName} {bytes : ByteArray} {ret : Option FieldType} {rm : Room}
/-- a private method of a superclass -/
theorem cwVp (n : Nat) (hts : ∀ w ∈ lw_all, w.before args s = true) (hG : gK E s) (h1 : Cond.methodLink own index y ∈ lw_all) (h2 : Cond.instanceMethod y ∈ lw_all) (h3 : Cond.selects C y2 y2 ∈ lw_all) (h4 : Cond.initialized y.cls ∈ lw_all) (h5 : Cond.code y bytes maxL ret ∈ lw_all) (h6 : Cond.privateMethod y ∈ lw_tbl) (h7 : y2.cls = y.cls) (hrc : rm.cells = mc) (hrs : rm.slots = ms)
    (hd : y.cls ≠ "java/lang/invoke/MethodHandle" ∧ y.cls ≠ "java/lang/invoke/VarHandle" ∧ (parseMethodDescriptor y.desc).map (fun d => d.parameters.length) = some n) (hR : rm.frames + 1 ≤ R.frames ∧ 8 + (maxL + 11) + rm.locals ≤ R.locals) : CallW R s args own C index y bytes maxL ret (ws_ y bytes maxL ret) rm mc ms n :=
  ⟨callB_of n hts (lw_meth h5) rfl hrc hrs (hts _ h4) (hts _ h1) hd hR, hts _ h2, sel_priv (hts _ h3) h7 (hG.2.1.1 _ h6 rfl) (hts _ h2) ⟨hd.1, hd.2.1⟩⟩
/-- an inherited method -/
theorem cwVi (n : Nat) (hts : ∀ w ∈ lw_all, w.before args s = true) (h1 : Cond.methodLink own index y ∈ lw_all) (h2 : Cond.instanceMethod y ∈ lw_all) (h3 : Cond.selects C y y ∈ lw_all) (h4 : Cond.initialized y.cls ∈ lw_all) (h5 : Cond.code y bytes maxL ret ∈ lw_all) (hrc : rm.cells = mc) (hrs : rm.slots = ms)
    (hd : y.cls ≠ "java/lang/invoke/MethodHandle" ∧ y.cls ≠ "java/lang/invoke/VarHandle" ∧ (parseMethodDescriptor y.desc).map (fun d => d.parameters.length) = some n) (hR : rm.frames + 1 ≤ R.frames ∧ 8 + (maxL + 11) + rm.locals ≤ R.locals) : CallW R s args own C index y bytes maxL ret (ws_ y bytes maxL ret) rm mc ms n :=
  ⟨callB_of n hts (lw_meth h5) rfl hrc hrs (hts _ h4) (hts _ h1) hd hR, hts _ h2, hts _ h3⟩
/-- 'super.y()' -/
theorem k_cSU {ρ : Type} {mk : ρ → Option Value} {post : ρ → wd → Prop} {T : u_T} {N ci nL : Nat} {As : List Value} {fs : List Value} (hx : p.tables.exec = Jvm.exec) (hb : c.code = cc) (hml : c.maxLocals = nL) (hown : s.vm.findClass own = some m.cls) (hts : ∀ w ∈ lw_all, w.before args s = true)
    (hMt : kC l y (ws_ y bytes maxL ret) rm mc ms mk E w (.ref a :: As) post) (h1 : Cond.methodLink own index y ∈ lw_all) (h2 : Cond.sameMethod y.cls y.cls y.name y.desc ∈ lw_all) (h3 : Cond.superclass own y.cls ∈ lw_all) (h4 : Cond.instanceMethod y ∈ lw_all) (h5 : Cond.initialized y.cls ∈ lw_all) (h6 : Cond.code y bytes maxL ret ∈ lw_all) (hrc : rm.cells = mc) (hrs : rm.slots = ms)
    (hd : y.name ≠ "<init>" ∧ (parseMethodDescriptor y.desc).map (fun d => d.parameters.length) = some n) (hR : rm.frames + 1 ≤ R.frames ∧ 8 + (maxL + 11) + rm.locals ≤ R.locals)
    (hG : gK E s) (hP : wP E w H) (hS : va_S (gA E) s.heap H locs) (hrv : w a = some (τ, .inr (ci, fs))) (hc : gCl[ci]? = some (C, T, N)) (hn : As.length = n) (hsize : ls.size = nL) (hst : st0 = As.reverse ++ .ref a :: rest) (hW : 2 * (F0 m pc ls st0).monitorRoom + (rest.map fun v => v.category).sum ≤ 8) (hdg : decode cc pc = .ok (.invokespecial index, 3)) (hf : cells + mc ≤ R.cells ∧ slots + ms ≤ R.slots)
    (kk : ∀ (r : ρ) (w' : wd) (H1 : Heap) (locs1 : List Loc), post r w' → wP E w' H1 → va_S (gA E) s.heap H1 locs1 → W p l e R s m args below meth c H1 locs1 (cells + mc) (slots + ms) Q (F0 m (pc + 3) ls ((mk r).toList ++ rest))) : W p l e R s m args below meth c H locs cells slots Q (F0 m pc ls st0) :=
  k_call (va_runSU (g := F0 m pc ls st0) (hG.1.1 ci _ hc).2 ⟨hx, hb, hml, hown, hts⟩ hMt
    ⟨⟨hrc, hrs, hR.1, hR.2, pay_in hts (lw_meth h6), List.mem_cons_self⟩, hts _ h1, hts _ h2, hts _ h3, hts _ h4, hts _ h5, hts _ h6, hd.1, fun sig h => by
      have h2 := hd.2
      rw [h] at h2
      exact (Option.some.inj h2).symm⟩ (k_preV hG hP hS hrv hc) rfl hn hsize hst hW hdg hf) hS kk
/-- an overridden method -/
theorem cwUo {owner : String} (n : Nat) (hts : ∀ w ∈ lw_all, w.before args s = true) (h1 : Cond.methodLink own index x ∈ lw_all) (h2 : Cond.sameMethod x.cls owner x.name x.desc ∈ lw_all) (h3 : Cond.selects C x y ∈ lw_all) (h4 : Cond.instanceMethod y ∈ lw_all) (h5 : Cond.initialized y.cls ∈ lw_all) (h6 : Cond.code y bytes maxL ret ∈ lw_all) (hdecl : va_Decl s ⟨owner, x.name, x.desc⟩) (hrc : rm.cells = mc) (hrs : rm.slots = ms)
    (hd : owner ≠ "java/lang/invoke/MethodHandle" ∧ owner ≠ "java/lang/invoke/VarHandle" ∧ (parseMethodDescriptor x.desc).map (fun d => d.parameters.length) = some n) (hR : rm.frames + 1 ≤ R.frames ∧ 8 + (maxL + 11) + rm.locals ≤ R.locals) : va_CU R s args own C owner index x y bytes maxL ret (ws_ y bytes maxL ret) rm mc ms n :=
  ⟨⟨hrc, hrs, hR.1, hR.2, pay_in hts (lw_meth h6), List.mem_cons_self⟩, hts _ h6, hts _ h5, ⟨hd.1, hd.2.1⟩, fun sig h => by
      have h2 := hd.2.2
      rw [h] at h2
      exact (Option.some.inj h2).symm, hts _ h1, hts _ h2, hdecl, hts _ h3, hts _ h4⟩
end KJ
/-! shifts by a coder, bytes, the two halves of a char -/
theorem shl0 (k : Nat) : nI k <<< ((0 : Int32) &&& 31) = nI k := sb_shl0 _
theorem shr0 (k : Nat) : nI k >>> ((0 : Int32) &&& 31) = nI k := sb_shr0 _
theorem shl1 {k : Nat} (h : k < 2 ^ 29) : nI k <<< ((1 : Int32) &&& 31) = nI (2 * k) := by
  apply Int32.toBitVec_inj.mp
  rw [Int32.toBitVec_shiftLeft]
  apply BitVec.eq_of_toNat_eq
  have e1 : (((1 : Int32) &&& 31).toBitVec.smod 32).toNat = 1 := by decide
  show ((nI k).toBitVec <<< (((1 : Int32) &&& 31).toBitVec.smod 32).toNat).toNat = _
  rw [e1, BitVec.toNat_shiftLeft]
  show ((BitVec.ofNat 32 k).toNat <<< 1) % 2 ^ 32 = (BitVec.ofNat 32 (2 * k)).toNat
  simp only [BitVec.toNat_ofNat, Nat.shiftLeft_eq]
  omega
theorem shr1 {k : Nat} (h : k < 2 ^ 31) : nI k >>> ((1 : Int32) &&& 31) = nI (k / 2) := pk_shrN h _ 1 (by decide)
theorem mx_le {a b : Nat} (h : a ≤ b) (hb : b < 2 ^ 31) : (if nI a < nI b then nI b else nI a) = nI b := by
  by_cases e : a = b
  · subst e; split <;> rfl
  · rw [if_pos (nI_lt (by omega) hb)]
theorem mn_le {a b : Nat} (h : a ≤ b) (hb : b < 2 ^ 31) : (if nI b < nI a then nI b else nI a) = nI a := if_neg (nI_nlt h hb)
theorem or_nn {a b : Nat} (ha : a < 2 ^ 31) (hb : b < 2 ^ 31) : ∃ k, k < 2 ^ 31 ∧ nI a ||| nI b = nI k := by
  refine ⟨a ||| b, Nat.or_lt_two_pow ha hb, ?_⟩
  apply Int32.toBitVec_inj.mp
  rw [Int32.toBitVec_or]
  apply BitVec.eq_of_toNat_eq
  rw [BitVec.toNat_or]
  show (BitVec.ofNat 32 a).toNat ||| (BitVec.ofNat 32 b).toNat = (BitVec.ofNat 32 (a ||| b)).toNat
  have h3 := Nat.or_lt_two_pow ha hb
  simp only [BitVec.toNat_ofNat]
  rw [Nat.mod_eq_of_lt (by omega), Nat.mod_eq_of_lt (by omega), Nat.mod_eq_of_lt (by omega)]
theorem or3_nn {a b c : Nat} (ha : a < 2 ^ 31) (hb : b < 2 ^ 31) (hc : c < 2 ^ 31) : ¬ (nI c ||| nI a) ||| nI b < 0 := by
  obtain ⟨k, hk, e⟩ := or_nn hc ha
  obtain ⟨k2, hk2, e2⟩ := or_nn hk hb
  rw [e, e2]
  exact nI_pos hk2
/-- the char of two bytes -/
def chr2 (lo hi : Int32) : Int32 := (((lo &&& 255) <<< ((0 : Int32) &&& 31) ||| (hi &&& 255) <<< ((8 : Int32) &&& 31)).toUInt32 % 65536).toInt32
theorem by8_and (x : Int32) : by8 x &&& 255 = x &&& 255 := by
  apply Int32.toBitVec_inj.mp
  apply BitVec.eq_of_getLsbD_eq
  intro i hi
  show ((BitVec.signExtend 32 (BitVec.signExtend 8 x.toBitVec)) &&& (255 : Int32).toBitVec).getLsbD i = (x.toBitVec &&& (255 : Int32).toBitVec).getLsbD i
  rw [BitVec.getLsbD_and, BitVec.getLsbD_and]
  by_cases h8 : i < 8
  · congr 1
    rw [BitVec.getLsbD_signExtend, BitVec.getLsbD_signExtend]
    simp [hi, h8, show i < 32 by omega]
  · have : (255 : Int32).toBitVec.getLsbD i = false := by
      have : ∀ j, j < 32 → 8 ≤ j → (255 : Int32).toBitVec.getLsbD j = false := by decide
      exact this i hi (by omega)
    rw [this, Bool.and_false, Bool.and_false]
theorem and255 {k : Nat} (h : k < 2 ^ 31) : nI k &&& 255 = nI (k % 256) := by
  apply Int32.toBitVec_inj.mp
  rw [Int32.toBitVec_and]
  apply BitVec.eq_of_toNat_eq
  rw [BitVec.toNat_and]
  show (BitVec.ofNat 32 k).toNat &&& (255 : Int32).toBitVec.toNat = (BitVec.ofNat 32 (k % 256)).toNat
  rw [show (255 : Int32).toBitVec.toNat = 2 ^ 8 - 1 by decide, Nat.and_two_pow_sub_one_eq_mod]
  simp only [BitVec.toNat_ofNat]
  omega
theorem i2c_n {k : Nat} (h : k < 65536) : ((nI k).toUInt32 % 65536).toInt32 = nI k := by
  have e : ((nI k).toUInt32 % 65536) = (nI k).toUInt32 := by
    apply UInt32.toNat_inj.mp
    rw [UInt32.toNat_mod]
    show (BitVec.ofNat 32 k).toNat % (65536 : UInt32).toNat = (BitVec.ofNat 32 k).toNat
    rw [show (65536 : UInt32).toNat = 65536 by decide]
    simp only [BitVec.toNat_ofNat]
    omega
  rw [e]
  rfl
theorem lo_hi {a b : Nat} (ha : a < 256) (hb : b < 256) : nI a ||| nI (256 * b) = nI (256 * b + a) := by
  apply Int32.toBitVec_inj.mp
  rw [Int32.toBitVec_or]
  apply BitVec.eq_of_toNat_eq
  rw [BitVec.toNat_or]
  show (BitVec.ofNat 32 a).toNat ||| (BitVec.ofNat 32 (256 * b)).toNat = (BitVec.ofNat 32 (256 * b + a)).toNat
  simp only [BitVec.toNat_ofNat]
  rw [Nat.mod_eq_of_lt (by omega), Nat.mod_eq_of_lt (by omega), Nat.mod_eq_of_lt (by omega), Nat.or_comm]
  exact (Nat.two_pow_add_eq_or_of_lt (i := 8) ha b).symm
theorem shl8 {k : Nat} (h : k < 256) : nI k <<< ((8 : Int32) &&& 31) = nI (256 * k) := by
  apply Int32.toBitVec_inj.mp
  rw [Int32.toBitVec_shiftLeft]
  apply BitVec.eq_of_toNat_eq
  have e1 : (((8 : Int32) &&& 31).toBitVec.smod 32).toNat = 8 := by decide
  show ((nI k).toBitVec <<< (((8 : Int32) &&& 31).toBitVec.smod 32).toNat).toNat = _
  rw [e1, BitVec.toNat_shiftLeft]
  show ((BitVec.ofNat 32 k).toNat <<< 8) % 2 ^ 32 = (BitVec.ofNat 32 (256 * k)).toNat
  simp only [BitVec.toNat_ofNat, Nat.shiftLeft_eq]
  omega
theorem shr8 {k : Nat} (h : k < 2 ^ 31) : nI k >>> ((8 : Int32) &&& 31) = nI (k / 256) := pk_shrN h _ 8 (by decide)
theorem by8_c {k : Nat} (h : k < 256) : by8 (nI k) &&& 255 = nI k := by rw [by8_and, and255 (by omega), Nat.mod_eq_of_lt h]
theorem chr2_put {k : Nat} (h : k < 65536) : chr2 (by8 (nI k >>> ((0 : Int32) &&& 31))) (by8 (nI k >>> ((8 : Int32) &&& 31))) = nI k := by
  unfold chr2
  rw [by8_and, by8_and, shr0, shr8 (by omega), and255 (by omega), and255 (by omega), shl0, shl8 (by omega), lo_hi (by omega) (by omega), show 256 * (k / 256 % 256) + k % 256 = k by omega, i2c_n h]
/-- a text's letters among Latin-1 bytes, among pairs of bytes -/
def sL (f B : Nat → Int32) (n : Nat) : Prop := ∀ j, j < n → f j &&& 255 = B j ∧ ∃ k, k < 256 ∧ B j = nI k
def sU (f B : Nat → Int32) (n : Nat) : Prop := ∀ j, j < n → chr2 (f (2 * j)) (f (2 * j + 1)) = B j
def cB (B : Nat → Int32) (n : Nat) : Prop := ∀ j, j < n → ∃ k, k < 65536 ∧ B j = nI k
def pB (τ : Nat × Nat) : Prop := τ.1 = 96
theorem sub_le0 {k m : Nat} (h1 : k < 2 ^ 30) (h2 : m < 2 ^ 30) : nI k - nI m ≤ 0 ↔ k ≤ m := by
  have e1 : (nI k - nI m).toInt = (k : Int) - m := pk_sub_toInt (by omega) (by omega)
  rw [Int32.le_iff_toInt_le, e1, Int32.toInt_zero]
  omega
theorem b8_at {f : Nat → Int32} {j : Nat} {x : Int32} : b8up f j x j = by8 x := up_s _ _ _
theorem b8_ne {f : Nat → Int32} {j k : Nat} {x : Int32} (h : k ≠ j) : b8up f j x k = f k := if_neg h
theorem sU_put {g B : Nat → Int32} {i : Nat} {x : Int32} (h : sU g B i) (hx : ∃ k, k < 65536 ∧ x = nI k) (hB : x = B i) : sU (b8up (b8up g (2 * i) (by8 (x >>> (0 &&& 31)))) (2 * i + 1) (by8 (x >>> (8 &&& 31)))) B (i + 1) := by
  intro j hj
  by_cases e : j = i
  · subst e
    rw [b8_at, b8_ne (by omega), b8_at]
    obtain ⟨k, hk, rfl⟩ := hx
    refine Eq.trans ?_ ((chr2_put hk).trans hB)
    unfold chr2
    rw [by8_and (by8 _), by8_and (by8 _)]
  · rw [b8_ne (by omega), b8_ne (by omega), b8_ne (by omega), b8_ne (by omega)]
    exact h j (by omega)
theorem sU_co {g g1 B : Nat → Int32} {n : Nat} (h : sU g B n) (he : ∀ i, i < 2 * n → g1 i = g i) : sU g1 B n := fun j hj => by rw [he _ (by omega), he _ (by omega)]; exact h j hj
theorem sL_co {g g1 B : Nat → Int32} {n : Nat} (h : sL g B n) (he : ∀ i, i < n → g1 i = g i) : sL g1 B n := fun j hj => by rw [he _ hj]; exact h j hj
theorem sL_put {g B : Nat → Int32} {i k : Nat} (h : sL g B i) (hk : k < 256) (hB : B i = nI k) : sL (b8up g i (by8 (nI k))) B (i + 1) := by
  intro j hj
  by_cases e : j = i
  · subst e
    rw [b8_at, by8_and (by8 _), by8_c hk]
    exact ⟨hB.symm, k, hk, hB⟩
  · rw [b8_ne e]
    exact h j (by omega)
theorem sL_B {g B B1 : Nat → Int32} {n : Nat} (h : sL g B n) (he : ∀ i, i < n → B1 i = B i) : sL g B1 n := fun j hj => by rw [he j hj]; exact h j hj
theorem sU_B {g B B1 : Nat → Int32} {n : Nat} (h : sU g B n) (he : ∀ i, i < n → B1 i = B i) : sU g B1 n := fun j hj => by rw [he j hj]; exact h j hj
