/-! PURE, 11: sawing -/
set_option maxRecDepth 100000
theorem tWb_nn {g : Nat → Int32} {mn N x y : Nat} (hI : gI g mn N) (hy : y < mn) : 0 ≤ tWb g x y := by
  have h := (hI.2.2.2 y hy).2.2.1
  unfold tWb
  split
  · exact Int32.le_refl 0
  · split
    · have e9 : (9 : Int32).toInt = 9 := rfl
      rw [i_le, i_0, i_le, e9] at h
      rw [i_le, i_0, Int32.toInt_mul, show (2 : Int32).toInt = 2 from rfl, Int.bmod_eq_of_le (by omega) (by omega)]
      omega
    · exact h.1
theorem tWb_z {g : Nat → Int32} {mn N x y : Nat} (hI : gI g mn N) (hy : y < mn) (h : tWb g x y ≤ 0) : tWb g x y = 0 := Int32.le_antisymm h (tWb_nn hI hy)
theorem tWb_n0 {g : Nat → Int32} {x y : Nat} (h : ¬ tWb g x y ≤ 0) : ¬ tWb g x y = 0 := fun z => h (by rw [z]; exact Int32.le_refl 0)
theorem tWb_cr {g : Nat → Int32} {x y : Nat} (h : ¬ tWb g x y ≤ 0) : ¬ oI (tCr g x y) = -1 := fun z => h (by unfold tWb; rw [if_pos (oI_m1.mp z)]; exact Int32.le_refl 0)
theorem lo_A {g : Nat → Int32} {mn N x y : Nat} (hI : gI g mn N) (hy : y < mn) (h : tWb g x y ≤ 0) : (tFd g x y).1 = (tFd g x (y + 1)).1 := by rw [tFd_z (tWb_z hI hy h)]
theorem tFd_s1 {g : Nat → Int32} {x y : Nat} (h : ¬ tWb g x y ≤ 0) : (tFd g x (y + 1)).1 = if (tFd g x y).1 < 0 then oI (tCr g x y) else if (tFd g x y).1 ≤ oI (tCr g x y) then (tFd g x y).1 else oI (tCr g x y) := by
  show (if tWb g x y = 0 then _ else _ : Int32 × Int32 × Int32 × Int32).1 = _
  rw [if_neg (tWb_n0 h)]
theorem lo_B {g : Nat → Int32} {x y : Nat} (h : ¬ tWb g x y ≤ 0) (h1 : (tFd g x y).1 = -1) : oI (tCr g x y) = (tFd g x (y + 1)).1 := by
  rw [tFd_s1 h, if_pos (by rw [h1]; decide)]
theorem tFd_nn {g : Nat → Int32} {x y : Nat} (h1 : ¬ (tFd g x y).1 = -1) : ¬ (tFd g x y).1 < 0 := by
  rcases tFd_1 g x y with e | ⟨i, hi, e⟩
  · exact absurd e h1
  · rw [e]; have := tHt_le g x; exact nI_pos (by omega)
theorem lo_C {g : Nat → Int32} {x y : Nat} (h : ¬ tWb g x y ≤ 0) (h1 : ¬ (tFd g x y).1 = -1) (h2 : (tFd g x y).1 ≤ oI (tCr g x y)) : (tFd g x y).1 = (tFd g x (y + 1)).1 := by
  rw [tFd_s1 h, if_neg (tFd_nn h1), if_pos h2]
theorem lo_D {g : Nat → Int32} {x y : Nat} (h : ¬ tWb g x y ≤ 0) (h1 : ¬ (tFd g x y).1 = -1) (h2 : ¬ (tFd g x y).1 ≤ oI (tCr g x y)) : oI (tCr g x y) = (tFd g x (y + 1)).1 := by
  rw [tFd_s1 h, if_neg (tFd_nn h1), if_neg h2]
theorem sa_A {g : Nat → Int32} {mn N x y : Nat} (hI : gI g mn N) (hy : y < mn) (h : tWb g x y ≤ 0) : (tFd g x y).2.2.1 ||| 0 = (tFd g x (y + 1)).2.2.1 := by
  rw [tFd_z (tWb_z hI hy h), Int32.or_zero]
theorem sa_B {g : Nat → Int32} {x y : Nat} (h : ¬ tWb g x y ≤ 0) : (tFd g x y).2.2.1 ||| ((1 : Int32) <<< (nI y &&& 31)) = (tFd g x (y + 1)).2.2.1 := by
  show _ = (if tWb g x y = 0 then _ else _ : Int32 × Int32 × Int32 × Int32).2.2.1
  rw [if_neg (tWb_n0 h)]
/-- the first of those that saw the most -/
def kB (g : Nat → Int32) (x : Nat) : Nat → Nat
  | 0 => 0
  | n + 1 => if tWb g x n ≤ tWb g x (kB g x n) then kB g x n else n
theorem kB_lt {g : Nat → Int32} {x : Nat} : ∀ {n : Nat}, 0 < n → kB g x n < n
  | 0, h => absurd h (Nat.lt_irrefl 0)
  | 1, _ => by
    have e : kB g x 1 = 0 := by unfold kB; split <;> rfl
    rw [e]; exact Nat.one_pos
  | n + 2, _ => by
    have := kB_lt (g := g) (x := x) (n := n + 1) (Nat.succ_pos n)
    unfold kB
    split
    · omega
    · omega
theorem kB_tFd {g : Nat → Int32} {mn N x : Nat} (hI : gI g mn N) : ∀ {n : Nat}, n ≤ mn → ((tFd g x n).2.2.2 = 0 ∧ ∀ o, o < n → tWb g x o = 0) ∨ (0 < (tFd g x n).2.2.2 ∧ (tFd g x n).2.2.2 = tWb g x (kB g x n) ∧ (tFd g x n).2.1 = nI (kB g x n) ∧ 0 < n)
  | 0, _ => Or.inl ⟨rfl, fun o h => absurd h (Nat.not_lt_zero o)⟩
  | n + 1, hn => by
    have ih := kB_tFd (x := x) hI (n := n) (by omega)
    have nn := tWb_nn (x := x) hI (y := n) (by omega)
    by_cases hw : tWb g x n = 0
    · rw [tFd_z hw]
      rcases ih with ⟨e, ha⟩ | ⟨h1, h2, h3, h4⟩
      · exact Or.inl ⟨e, fun o ho => by by_cases z : o = n; exact z ▸ hw; exact ha o (by omega)⟩
      · refine Or.inr ?_
        have : kB g x (n + 1) = kB g x n := if_pos (by rw [hw, ← h2]; exact Int32.le_of_lt h1)
        rw [this]
        exact ⟨h1, h2, h3, by omega⟩
    · have hp : 0 < tWb g x n := Int32.lt_of_le_of_ne nn (fun z => hw z.symm)
      have e2 : (tFd g x (n + 1)).2.2.2 = if tWb g x n ≤ (tFd g x n).2.2.2 then (tFd g x n).2.2.2 else tWb g x n := by
        show (if tWb g x n = 0 then _ else _ : Int32 × Int32 × Int32 × Int32).2.2.2 = _
        rw [if_neg hw]
      have e1 : (tFd g x (n + 1)).2.1 = if tWb g x n ≤ (tFd g x n).2.2.2 then (tFd g x n).2.1 else nI n := by
        show (if tWb g x n = 0 then _ else _ : Int32 × Int32 × Int32 × Int32).2.1 = _
        rw [if_neg hw]
      rcases ih with ⟨e, ha⟩ | ⟨h1, h2, h3, h4⟩
      · refine Or.inr ?_
        rw [e1, e2, e, if_neg (Int32.not_le.mpr hp), if_neg (Int32.not_le.mpr hp)]
        have hk : kB g x (n + 1) = n := by
          unfold kB
          by_cases hn0 : n = 0
          · subst hn0; split <;> rfl
          · rw [if_neg]
            rw [ha _ (kB_lt (by omega))]
            exact Int32.not_le.mpr hp
        rw [hk]
        exact ⟨hp, rfl, rfl, by omega⟩
      · refine Or.inr ?_
        rw [e1, e2]
        by_cases hc : tWb g x n ≤ (tFd g x n).2.2.2
        · rw [if_pos hc, if_pos hc]
          have : kB g x (n + 1) = kB g x n := if_pos (by rw [← h2]; exact hc)
          rw [this]
          exact ⟨h1, h2, h3, by omega⟩
        · rw [if_neg hc, if_neg hc]
          have : kB g x (n + 1) = n := if_neg (by rw [← h2]; exact hc)
          rw [this]
          exact ⟨hp, rfl, rfl, by omega⟩
/-- all of what saws -/
def sW (g : Nat → Int32) (mn : Nat) (wn : Nat → Int32) (z u : Nat) : Prop := (∀ l, l < z → ∀ o, o < mn → wn (6 * l + o) = tWb g l o) ∧ ∀ o, o < u → wn (6 * z + o) = tWb g z o
theorem sW_0 {g : Nat → Int32} {mn : Nat} {wn : Nat → Int32} : sW g mn wn 0 0 := ⟨fun l h => absurd h (Nat.not_lt_zero l), fun o h => absurd h (Nat.not_lt_zero o)⟩
theorem sW_u {g : Nat → Int32} {mn : Nat} {wn : Nat → Int32} {z u : Nat} (h : sW g mn wn z u) (hu : u < mn) (hm : mn ≤ 6) : sW g mn (va_up wn (6 * z + u) (tWb g z u)) z (u + 1) := by
  refine ⟨fun l hl o ho => (up_n (by omega)).trans (h.1 l hl o ho), fun o ho => ?_⟩
  by_cases e : o = u
  · subst e; exact up_s _ _ _
  · exact (up_n (by omega)).trans (h.2 o (by omega))
theorem sW_z {g : Nat → Int32} {mn : Nat} {wn : Nat → Int32} {z u : Nat} (h : sW g mn wn z u) (hu : u = mn) : sW g mn wn (z + 1) 0 := by
  subst hu
  refine ⟨fun l hl o ho => ?_, fun o h => absurd h (Nat.not_lt_zero o)⟩
  by_cases e : l = z
  · subst e; exact h.2 o ho
  · exact h.1 l (by omega) o ho
/-- wear -/
def tWr (g : Nat → Int32) (k : Nat) (x : Int32) : Nat → Int32 := if g (kO k 0) = 1 then va_up g (kO k 6) (g (kO k 6) + x) else g
theorem kv_wr {g : Nat → Int32} {k : Nat} {x : Int32} : kWv (kv g k) x = kv (tWr g k x) k := by
  unfold kWv tWr
  by_cases h : g (kO k 0) = 1
  · rw [if_pos (show kv g k 0 = 1 from h), if_pos h, kv_eq (by decide)]
    rfl
  · rw [if_neg (show ¬ kv g k 0 = 1 from h), if_neg h]
theorem tWr_lo {g : Nat → Int32} {k : Nat} {x : Int32} {j : Nat} (h : j < 26) : tWr g k x j = g j := by
  unfold tWr
  split
  · exact up_n (kO_lo h)
  · rfl
theorem tWr_ne {g : Nat → Int32} {k : Nat} {x : Int32} {j : Nat} (h : j ≠ k) : kv (tWr g k x) j = kv g j := by
  unfold tWr
  split
  · exact kv_ne h (by decide)
  · rfl
theorem tWr_0 {g : Nat → Int32} {k : Nat} : tWr g k 0 = g := by
  unfold tWr
  split
  · rw [show g (kO k 6) + 0 = g (kO k 6) from by grind, up_same]
  · rfl
theorem tWr_s {g : Nat → Int32} {k : Nat} {x y : Int32} : tWr (tWr g k x) k y = tWr g k (x + y) := by
  unfold tWr
  by_cases h : g (kO k 0) = 1
  · rw [if_pos h, if_pos h, if_pos ((up_n (kO_ne (Or.inr (by decide)) (by decide) (by decide))).trans h), up_s, bx_uu]
    congr 1
    grind
  · rw [if_neg h, if_neg h, if_neg h]
def tWA (g : Nat → Int32) (mn : Nat) : Nat → Nat → Int32
  | 0 => g
  | n + 1 => tWr (tWA g mn n) n (tWn g n mn)
def kMk (g : Nat → Int32) (mn l : Nat) : Int32 := if tUp g l = true then (if g (kO l 6) < tHd g l then -1 else (tFd g l mn).1) else -1
theorem kMk_s {g : Nat → Int32} {mn z : Nat} {ly : Nat → Int32} {x : Int32} (h : ∀ l, l < z → ly l = kMk g mn l) (hx : kMk g mn z = x) : ∀ l, l < z + 1 → va_up ly z x l = kMk g mn l := by
  intro l hl
  by_cases e : l = z
  · subst e; rw [up_s, hx]
  · rw [up_n e]; exact h l (by omega)
