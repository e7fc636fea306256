/-! THE READER, 4: orders in a row -/
set_option maxRecDepth 100000
section KOA
variable {p : Program} {l : Launch} {e : Env} {R : Room} {s : State} {m : MethodId} {args : Array Value} {below : List Frame} {meth : Method} {c : Code} {H : Heap} {locs : List Loc} {cells slots : Nat} {Q : State → Prop}
variable {cc : ByteArray} {pc : Nat} {ls : Array Slot} {rest st0 : List Value} {a : Nat} {E : gE} {w : wd} {τ : Nat × Nat}
theorem k_aastO (hx : p.tables.exec = Jvm.exec) (hb : c.code = cc) (hG : gK E s) (hP : wP E w H) (hS : va_S (gA E) s.heap H locs) {n j v : Nat} {vo : Nat → Int32} {f : Nat → Option Nat} (ha : w a = some (τ, .inl (eT E 5, n, .inr (.inr (.inr (.inr f)))))) (hn : n ≤ 65536) (hj : j < n) (hv : odR w v vo) (hdg : decode cc pc = .ok (.aastore, 1))
    (kk : ∀ (w1 : wd) (H1 : Heap) (locs1 : List Loc), w1 a = some (τ, .inl (eT E 5, n, .inr (.inr (.inr (.inr (va_up f j (some v))))))) → fr (pO τ) w w1 → wP E w1 H1 → va_S (gA E) s.heap H1 locs1 → W p l e R s m args below meth c H1 locs1 cells slots Q (F0 m (pc + 1) ls rest)) : W p l e R s m args below meth c H locs cells slots Q (F0 m pc ls (.ref v :: .int (nI j) :: .ref a :: rest)) := by
  unfold odR ordE at hv
  split at hv
  · exact k_aastW hx hb hG hP hS 5 ha rfl hn hj hv rfl (k_asg (hG.2.1.1 _ q2002 rfl)) hdg kk
  · split at hv
    · exact k_aastW hx hb hG hP hS 5 ha rfl hn hj hv rfl (k_asg (hG.2.1.1 _ q2003 rfl)) hdg kk
    · split at hv
      · exact k_aastW hx hb hG hP hS 5 ha rfl hn hj hv rfl (k_asg (hG.2.1.1 _ q2004 rfl)) hdg kk
      · split at hv
        · exact k_aastW hx hb hG hP hS 5 ha rfl hn hj hv rfl (k_asg (hG.2.1.1 _ q2005 rfl)) hdg kk
        · exact k_aastW hx hb hG hP hS 5 ha rfl hn hj hv rfl (k_asg (hG.2.1.1 _ q2006 rfl)) hdg kk
end KOA
def oaR (w : wd) (fo : Nat → Option Nat) (V : Nat → Nat → Int32) (mn : Nat) : Prop := ∀ k, k < mn → ∃ y, fo k = some y ∧ odR w y (V k)
theorem oaR.fr {P : Nat × Nat → Prop} {w w1 : wd} {fo : Nat → Option Nat} {V : Nat → Nat → Int32} {mn : Nat} (h : oaR w fo V mn) (hf : fr P w w1) (h0 : ¬ P (98, 2)) : oaR w1 fo V mn := fun k hk => by
  obtain ⟨y, h1, h2⟩ := h k hk
  exact ⟨y, h1, h2.fr hf h0⟩
theorem oaR.push {w : wd} {fo : Nat → Option Nat} {V : Nat → Nat → Int32} {mn y : Nat} {v : Nat → Int32} (h : oaR w fo V mn) (h1 : odR w y v) : oaR w (va_up fo mn (some y)) (va_up V mn v) (mn + 1) := fun k hk => by
  by_cases e : k = mn
  · subst e
    exact ⟨y, up_s _ _ _, by rw [up_s]; exact h1⟩
  · obtain ⟨y', h2, h3⟩ := h k (by omega)
    exact ⟨y', by rw [up_n e]; exact h2, by rw [up_n e]; exact h3⟩
abbrev qT : Type := Bool × Nat × Nat × (Nat → Nat → Int32)
def cTx (B : Nat → Int32) (n : Nat) : Nat → Nat → Nat → (Nat → Nat → Int32) → qT
  | 0, p, m, V => (false, p, m, V)
  | q + 1, p, m, V => match cOr B n p with
    | (none, p1) => (false, p1, m, V)
    | (some v, p1) => if pHe B n p1 = 59 then cTx B n q (p1 + 1) (m + 1) (va_up V m v) else (decide (p1 = n), p1, m + 1, va_up V m v)
theorem cTx_n {B : Nat → Int32} {n q p m p1 : Nat} {V : Nat → Nat → Int32} (h : cOr B n p = (none, p1)) (hq : 0 < q) : cTx B n q p m V = (false, p1, m, V) := by
  obtain ⟨q, rfl⟩ : ∃ z, q = z + 1 := ⟨q - 1, by omega⟩
  unfold cTx
  rw [h]
theorem cTx_s {B : Nat → Int32} {n q p m p1 : Nat} {V : Nat → Nat → Int32} {v : Nat → Int32} (h : cOr B n p = (some v, p1)) (h9 : pHe B n p1 = 59) (hq : 0 < q) : cTx B n q p m V = cTx B n (q - 1) (p1 + 1) (m + 1) (va_up V m v) := by
  obtain ⟨q, rfl⟩ : ∃ z, q = z + 1 := ⟨q - 1, by omega⟩
  rw [cTx, h]
  exact if_pos h9
theorem cTx_e {B : Nat → Int32} {n q p m p1 : Nat} {V : Nat → Nat → Int32} {v : Nat → Int32} (h : cOr B n p = (some v, p1)) (h9 : ¬ pHe B n p1 = 59) (hq : 0 < q) : cTx B n q p m V = (decide (p1 = n), p1, m + 1, va_up V m v) := by
  obtain ⟨q, rfl⟩ : ∃ z, q = z + 1 := ⟨q - 1, by omega⟩
  rw [cTx, h]
  exact if_neg h9
def cTR (q : qT) : rP Unit := if q.1 = true then (some (), q.2.1) else (none, q.2.1)
theorem cWi_G {B : Nat → Int32} {n p : Nat} (hp : p ≤ n) : cG n p (cWi B n p) := by
  refine cG_b (cDg_G hp) (fun a p _ hp => cG_b (cMu_G hp (by decide)) (fun _ p _ hp => cG_b (cDg_G hp) (fun b p _ hp => ?_)))
  split
  · exact cG_b (cSi_G hp) (fun a p _ hp => cG_b (cDg_G hp) (fun b p _ hp => cSo _ hp))
  · exact cSo _ hp
theorem cKi_G {B : Nat → Int32} {n p : Nat} (hp : p ≤ n) : cG n p (cKi B n p) :=
  cG_b (cDg_G hp) (fun a p _ hp => cG_b (cMu_G hp (by decide)) (fun _ p _ hp => cG_b (cNu_G hp) (fun b p _ hp => cG_b (cMu_G hp (by decide)) (fun _ p _ hp => cG_b (cNu_G hp) (fun c p _ hp => cG_b (cMu_G hp (by decide)) (fun _ p _ hp => cG_b (cDg_G hp) (fun d p _ hp => cSo _ hp)))))))
theorem pHe_lt' {B : Nat → Int32} {n p : Nat} {x : Int32} (h : pHe B n p = x) (hx : x ≠ -1) : p + 1 ≤ n := pHe_lt (B := B) (by rw [h]; exact hx)
theorem cOr_lt {B : Nat → Int32} {n p p1 : Nat} {v : Nat → Int32} (h : cOr B n p = (some v, p1)) : p + 1 ≤ p1 ∧ p1 ≤ n := by
  unfold cOr at h
  split at h
  · next c => exact (cWi_G (pHe_lt' c (by decide))).at h
  · split at h
    · next c => exact (cKi_G (pHe_lt' c (by decide))).at h
    · split at h
      · next c => exact (cG_b (cDg_G (pHe_lt' c (by decide))) (fun a p _ hp => cSo _ hp)).at h
      · split at h
        · next c => exact (cG_b (cDg_G (pHe_lt' c (by decide))) (fun a p _ hp => cG_b (cSi_G hp) (fun b p _ hp => cG_b (cNu_G hp) (fun c p _ hp => cSo _ hp)))).at h
        · by_cases c : pHe B n p = 116
          · rw [rB_s (show cMu B n p 116 = (some (), p + 1) from if_pos c)] at h
            exact (cG_b (cNu_G (pHe_lt' c (by decide))) (fun c p _ hp => cSo _ hp)).at h
          · rw [rB_n (show cMu B n p 116 = (none, p) from if_neg c)] at h
            cases h
