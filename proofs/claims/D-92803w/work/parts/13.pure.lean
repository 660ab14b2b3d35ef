/-! PURE ROWS 1: numbers -/
set_option maxRecDepth 100000
abbrev inP (v lo hi : Int64) : Prop := ¬ v < lo ∧ ¬ hi < v
abbrev hasP (x v : Int32) : Prop := (x >>> (v &&& 31)) &&& 1 = 1
/-- the place that an int names -/
def ix (c : Int32) : Nat := c.toNatClampNeg
theorem ix_nI {n N : Nat} (h : n < N) (hN : N < 2 ^ 31) : ix (nI n) = n := nI_clamp (by omega)
theorem l64 (x : Int32) : x.toInt64.toInt = x.toInt := Int32.toInt_toInt64 x
theorem inP_iff (c : Int32) (lo hi : Int64) : inP c.toInt64 lo hi ↔ lo.toInt ≤ c.toInt ∧ c.toInt ≤ hi.toInt := by
  unfold inP
  rw [Int64.lt_iff_toInt_lt, Int64.lt_iff_toInt_lt, l64]
  omega
theorem inP_of {c : Int32} (n : Nat) {hi : Int64} (hh : hi.toInt = n) (h : inP c.toInt64 0 hi) : ∃ j : Nat, j ≤ n ∧ c = nI j := by
  obtain ⟨h1, h2⟩ := (inP_iff c 0 hi).mp h
  have h1 : 0 ≤ c.toInt := h1
  obtain ⟨j, hj, e⟩ := nI_of (x := c) (by rw [Int32.lt_iff_toInt_lt, Int32.toInt_zero]; omega)
  subst e
  rw [nI_toInt hj, hh] at h2
  exact ⟨j, by omega, rfl⟩
theorem inP_nI {j n : Nat} {hi : Int64} (hh : hi.toInt = n) (h : j ≤ n) (hj : j < 2 ^ 31) : inP (nI j).toInt64 0 hi := by
  rw [inP_iff, nI_toInt hj, hh]
  exact ⟨by show (0 : Int) ≤ _; omega, by omega⟩
theorem in5 {c : Int32} (h : inP c.toInt64 0 5) : ∃ j : Nat, j < 6 ∧ c = nI j := by
  obtain ⟨j, a, b⟩ := inP_of 5 (by decide) h
  exact ⟨j, by omega, b⟩
theorem in7 {c : Int32} (h : inP c.toInt64 0 7) : ∃ j : Nat, j < 8 ∧ c = nI j := by
  obtain ⟨j, a, b⟩ := inP_of 7 (by decide) h
  exact ⟨j, by omega, b⟩
theorem in3 {c : Int32} (h : inP c.toInt64 0 3) : ∃ j : Nat, j < 4 ∧ c = nI j := by
  obtain ⟨j, a, b⟩ := inP_of 3 (by decide) h
  exact ⟨j, by omega, b⟩
theorem in255 {c : Int32} (h : inP c.toInt64 0 255) : ∃ j : Nat, j < 256 ∧ c = nI j := by
  obtain ⟨j, a, b⟩ := inP_of 255 (by decide) h
  exact ⟨j, by omega, b⟩
/-- a sort's number below how many there are -/
theorem in_sm {s : Int32} {n : Nat} (hn : n ≤ 4) (h : inP s.toInt64 0 (nI n - 1).toInt64) : ∃ i : Nat, i < n ∧ s = nI i := by
  obtain ⟨h1, h2⟩ := (inP_iff s 0 _).mp h
  have h1 : 0 ≤ s.toInt := h1
  rw [l64] at h2
  cases n with
  | zero => 
    have : ((nI 0 - 1 : Int32)).toInt = -1 := by decide
    omega
  | succ n =>
    rw [nI_pred, nI_toInt (by omega)] at h2
    obtain ⟨j, hj, e⟩ := nI_of (x := s) (by rw [Int32.lt_iff_toInt_lt, Int32.toInt_zero]; omega)
    subst e
    rw [nI_toInt hj] at h2
    exact ⟨j, by omega, rfl⟩
theorem sm_in {i n : Nat} (hn : n ≤ 4) (h : i < n) : inP (nI i).toInt64 0 (nI n - 1).toInt64 := by
  cases n with
  | zero => omega
  | succ n =>
    rw [nI_pred]
    exact inP_nI (n := n) (by rw [l64, nI_toInt (by omega)]) (by omega) (by omega)
/-- 1 .. 6 -/
theorem in16 {c : Int32} (h : inP c.toInt64 1 6) : ∃ j : Nat, 1 ≤ j ∧ j ≤ 6 ∧ c = nI j := by
  obtain ⟨h1, h2⟩ := (inP_iff c 1 6).mp h
  have h1 : 1 ≤ c.toInt := h1
  have h2 : c.toInt ≤ 6 := h2
  obtain ⟨j, hj, e⟩ := nI_of (x := c) (by rw [Int32.lt_iff_toInt_lt, Int32.toInt_zero]; omega)
  subst e
  rw [nI_toInt hj] at h1 h2
  exact ⟨j, by omega, by omega, rfl⟩
theorem in13 {c : Int32} (h : inP c.toInt64 1 3) : ∃ j : Nat, 1 ≤ j ∧ j ≤ 3 ∧ c = nI j := by
  obtain ⟨h1, h2⟩ := (inP_iff c 1 3).mp h
  have h1 : 1 ≤ c.toInt := h1
  have h2 : c.toInt ≤ 3 := h2
  obtain ⟨j, hj, e⟩ := nI_of (x := c) (by rw [Int32.lt_iff_toInt_lt, Int32.toInt_zero]; omega)
  subst e
  rw [nI_toInt hj] at h1 h2
  exact ⟨j, by omega, by omega, rfl⟩
theorem in18 {c : Int32} (h : inP c.toInt64 1 8) : ∃ j : Nat, 1 ≤ j ∧ j ≤ 8 ∧ c = nI j := by
  obtain ⟨h1, h2⟩ := (inP_iff c 1 8).mp h
  have h1 : 1 ≤ c.toInt := h1
  have h2 : c.toInt ≤ 8 := h2
  obtain ⟨j, hj, e⟩ := nI_of (x := c) (by rw [Int32.lt_iff_toInt_lt, Int32.toInt_zero]; omega)
  subst e
  rw [nI_toInt hj] at h1 h2
  exact ⟨j, by omega, by omega, rfl⟩
theorem bit_cases (x : Int32) : x &&& 1 = 0 ∨ x &&& 1 = 1 := by
  obtain ⟨j, hj, e⟩ := pk_andE x (m := 1) 1 (by decide)
  rcases (show j = 0 ∨ j = 1 by omega) with rfl | rfl
  · exact Or.inl e
  · exact Or.inr e
/-- the greatest common divisor's loop, as the machine goes it -/
theorem rem_lt (x y : Int64) (h : ¬ y = 0) : (x - x / y * y).toInt.natAbs < y.toInt.natAbs := by
  have hy : y.toInt ≠ 0 := fun q => h (Int64.toInt_inj.mp (by rw [q]; rfl))
  have e : x - x / y * y = x % y := by
    apply Int64.toInt_inj.mp
    have h1 := Int64.le_toInt (x % y)
    have h2 := Int64.toInt_lt (x % y)
    rw [Int64.toInt_sub, Int64.toInt_mul, Int64.toInt_div, Int.bmod_mul_bmod, Int.sub_bmod_bmod, Int.mul_comm (x.toInt.tdiv y.toInt), ← Int.tmod_def, ← Int64.toInt_mod]
    exact Int.bmod_eq_of_le_mul_two (by omega) (by omega)
  rw [e, Int64.toInt_mod, Int.natAbs_tmod]
  exact Nat.mod_lt _ (by omega)
def gcdW (x y : Int64) : Int64 := if h : y = 0 then x else gcdW y (x - x / y * y)
termination_by y.toInt.natAbs
decreasing_by exact rem_lt x y h
theorem gcdW_0 (x : Int64) : gcdW x 0 = x := by
  rw [gcdW]
  simp
theorem gcdW_s {x y : Int64} (h : ¬ y = 0) : gcdW x y = gcdW y (x - x / y * y) := by
  rw [gcdW, dif_neg h]
theorem gcdW_ne (n : Nat) : ∀ x y : Int64, y.toInt.natAbs < n → (¬ x = 0 ∨ ¬ y = 0) → ¬ gcdW x y = 0 := by
  induction n with
  | zero => intro x y h; omega
  | succ n ih =>
    intro x y h hh
    by_cases hy : y = 0
    · subst hy
      rw [gcdW_0]
      rcases hh with q | q
      · exact q
      · exact absurd rfl q
    · rw [gcdW_s hy]
      exact ih _ _ (by have := rem_lt x y hy; omega) (Or.inl hy)
def absW (x : Int64) : Int64 := if (0 : Int64) ≤ x then x else -x
/-- a part in lowest terms -/
def lowF (up down : Int64) (w : Int32) : Int64 := if w = 0 then up / gcdW (absW up) down else down / gcdW (absW up) down
theorem low_ne (up : Int64) {down : Int64} (h : ¬ down = 0) : ¬ gcdW (absW up) down = 0 := gcdW_ne _ _ _ (Nat.lt_succ_self _) (Or.inr h)
