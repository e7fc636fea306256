/-! THE COMPONENT, 12: sums, causes, pure -/
set_option maxRecDepth 100000
theorem tIn_nn {g : Nat → Int32} {st : Int32} : ∀ n, ∃ k, k ≤ n ∧ tIn g st n = nI k
  | 0 => ⟨0, Nat.le_refl _, rfl⟩
  | n + 1 => by
    obtain ⟨k, hk, e⟩ := tIn_nn (g := g) (st := st) n
    unfold tIn
    rw [e]
    split
    · exact ⟨k + 1, by omega, nI_add k 1⟩
    · exact ⟨k, by omega, by simp⟩
theorem nI_le0 {k : Nat} (h : k < 2 ^ 31) : nI k ≤ 0 ↔ k = 0 := by
  constructor
  · intro z
    have := (nI_leI (a := k) (b := 0) h (by decide)).mp z
    omega
  · intro z
    subst z
    decide
theorem i32_N {v : Int32} {n : Nat} (hn : n < 2 ^ 31) (h0 : 0 ≤ v) (h1 : v ≤ nI n) : ∃ k, k ≤ n ∧ v = nI k := tin_N hn (by unfold tin; rw [decide_eq_true h0, decide_eq_true h1]; rfl)
theorem tSu_nn {g : Nat → Int32} {mn N z : Nat} (hI : gI g mn N) (hz : z = 3 ∨ z = 5) : ∀ n, n ≤ mn → ∃ k, k ≤ 99 * n ∧ tSu g z n = nI k
  | 0, _ => ⟨0, Nat.le_refl _, rfl⟩
  | n + 1, hn => by
    obtain ⟨k, hk, e⟩ := tSu_nn hI hz n (by omega)
    have hk9 := hI.2.2.2 n (by omega)
    have hb : ∃ j, j ≤ 99 ∧ g (kO n z) = nI j := by
      obtain ⟨h3, h4⟩ := hk9.2.2.2.1
      obtain ⟨h5, h6⟩ := hk9.2.2.2.2.2.1
      rcases hz with rfl | rfl
      · exact i32_N (n := 99) (by decide) h3 h4
      · exact i32_N (n := 99) (by decide) h5 (Int32.le_trans h6 h4)
    obtain ⟨j, hj, e2⟩ := hb
    refine ⟨k + j, by omega, ?_⟩
    unfold tSu
    rw [e, e2]
    exact nI_add k j
theorem oI_n1 {o : Option Nat} (h : ∀ k, o = some k → k < 100) : oI o = -1 ↔ o = none := by
  cases o with
  | none => exact ⟨fun _ => rfl, fun _ => rfl⟩
  | some k =>
    constructor
    · intro z
      have h1 : nI k = -1 := z
      have h2 : (nI k).toInt = (-1 : Int32).toInt := by rw [h1]
      rw [nI_toInt (by have := h k rfl; omega)] at h2
      have h3 : ((k : Nat) : Int) = -1 := h2
      omega
    · intro z; cases z
theorem tCs_lt {z y : Int32} : ∀ (q o : Nat) (n : Int32) (k : Nat), tCs z y q o n = some k → k < o + q
  | 0, o, n, k, h => by unfold tCs at h; cases h
  | q + 1, o, n, k, h => by
    unfold tCs at h
    split at h
    · have := tCs_lt q (o + 1) n k h; omega
    · split at h
      · cases h; omega
      · have := tCs_lt q (o + 1) (n + 1) k h; omega
theorem qCau_1 {g : Nat → Int32} {y z : Int32} (h : tKt g y = false) : (qCau g y z).1 = 1 := by simp [qCau, h]
theorem qCau_n {g : Nat → Int32} {k : Nat} {z : Int32} (h : tKt g (nI k) = true) (hc : (nI k).toNatClampNeg = k) (h2 : ¬ g (kO k 0) = 2) : (qCau g (nI k) z).1 = 2 := by simp [qCau, h, hc, h2]
theorem qCau_m {g : Nat → Int32} {k : Nat} {z : Int32} (h : tKt g (nI k) = true) (hc : (nI k).toNatClampNeg = k) (h2 : z < 0) : (qCau g (nI k) z).1 = 2 := by
  unfold qCau
  rw [if_pos h, hc]
  rw [if_pos h2]
  split <;> rfl
theorem qCau_c {g : Nat → Int32} {k mn N : Nat} {z : Int32} (hI : gI g mn N) (hk : k < mn) (h : tKt g (nI k) = true) (hc : (nI k).toNatClampNeg = k) (h2 : g (kO k 0) = 2) (hz : ¬ z < 0) : (kKn (g (kO k 9)) (g (kO k 10)) (g (kO k 11)) z = -1 → (qCau g (nI k) z).1 = 2) ∧ (kKn (g (kO k 9)) (g (kO k 10)) (g (kO k 11)) z ≠ -1 → qCau g (nI k) z = (0, kKn (g (kO k 9)) (g (kO k 10)) (g (kO k 11)) z)) := by
  obtain ⟨h9, h10, -⟩ := (hI.2.2.2 k hk).2.2.2.2.2.2.2.2.1 h2
  have nn : ∀ v : Int32, 0 ≤ v → v ≠ -1 := fun v hv e => by rw [e] at hv; exact absurd hv (by decide)
  unfold qCau kKn
  rw [if_pos h, hc, if_pos h2, if_neg hz]
  by_cases h3 : z < 2
  · rw [if_pos h3, if_neg (Int32.not_le.mpr h3)]
    split
    · exact ⟨fun e => absurd e (nn _ h9), fun _ => rfl⟩
    · exact ⟨fun e => absurd e (nn _ h10), fun _ => rfl⟩
  · rw [if_neg h3, if_pos (Int32.not_lt.mp h3)]
    cases ho : tCs (g (kO k 11)) z 6 0 2 with
    | none => exact ⟨fun _ => rfl, fun e => absurd rfl e⟩
    | some b =>
      refine ⟨fun e => ?_, fun _ => rfl⟩
      have := (oI_n1 (o := some b) (fun k hk => by cases hk; have := tCs_lt _ _ _ _ ho; omega)).mp e
      cases this
def qRf (rf ro : Int32) (zb : Bool) : Int32 × Int32 := if rf = 0 then (1, 0) else if zb = true then (0, ro) else (0, rf)
theorem le0_0 {x : Int32} (h0 : 0 ≤ x) (h : x ≤ 0) : x = 0 := Int32.le_antisymm h h0
theorem tLo_s1 {g : Nat → Int32} {i b : Nat} (h : tLo g i = some b) (h2 : g (kO i 8) ≤ g (kO b 8)) : tLo g (i + 1) = some b := by
  unfold tLo
  rw [h]
  exact if_pos h2
theorem tLo_s2 {g : Nat → Int32} {i b : Nat} (h : tLo g i = some b) (h2 : ¬ g (kO i 8) ≤ g (kO b 8)) : tLo g (i + 1) = some i := by
  unfold tLo
  rw [h]
  exact if_neg h2
theorem qLea_0 {g : Nat → Int32} {mn : Nat} (h : mn = 0) : (qLea g mn).1 = 1 := by
  subst h
  unfold qLea
  rw [show oI (tLo g 0) = -1 from rfl, if_neg (by decide)]
theorem qLea_s {g : Nat → Int32} {mn b : Nat} (h : tLo g mn = some b) (hb : b < 2 ^ 31) : qLea g mn = (0, nI b) := by
  unfold qLea
  rw [h, show oI (some b) = nI b from rfl, if_pos (show (0 : Int32) ≤ nI b from nI_le (a := 0) (Nat.zero_le b) hb)]
theorem nI_z {k : Nat} (h : k < 2 ^ 31) : nI k ≤ 0 ↔ nI k = 0 :=
  ⟨fun z => by rw [(nI_le0 h).mp z]; rfl, fun z => by rw [z]; decide⟩
