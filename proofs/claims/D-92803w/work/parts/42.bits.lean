/-! PURE ROWS 2: bags by bits: what the component does with a bag is what the model does -/
set_option maxRecDepth 100000
/-- a byte: a set of things -/
abbrev byP (x : Int32) : Prop := x &&& 255 = x
theorem by_nat {x : Int32} (h : byP x) : ∃ v, v < 256 ∧ x = nI v := by
  obtain ⟨j, hj, e⟩ := pk_andE x (m := 255) 8 (by decide)
  exact ⟨j, hj, by rw [← e, h]⟩
theorem nat_by : ∀ v, v < 256 → byP (nI v) := by decide +kernel
theorem by_of {x : Int32} (h : ∃ v, v < 256 ∧ x = nI v) : byP x := by
  obtain ⟨v, hv, rfl⟩ := h
  exact nat_by v hv
theorem by_and {x : Int32} (h : byP x) (y : Int32) : byP (x &&& y) := by
  show (x &&& y) &&& 255 = x &&& y
  rw [Int32.and_assoc, Int32.and_comm y, ← Int32.and_assoc, h]
theorem by_and2 {x : Int32} (h : byP x) (y : Int32) : byP (y &&& x) := by
  rw [Int32.and_comm]; exact by_and h y
theorem by_or {x y : Int32} (h : byP x) (h2 : byP y) : byP (x ||| y) := by
  show (x ||| y) &&& 255 = x ||| y
  apply Int32.toBitVec_inj.mp
  have e1 := Int32.toBitVec_inj.mpr h
  have e2 := Int32.toBitVec_inj.mpr h2
  simp only [Int32.toBitVec_and, Int32.toBitVec_or] at *
  ext i hi
  have f1 := congrArg (fun z => z.getLsbD i) e1
  have f2 := congrArg (fun z => z.getLsbD i) e2
  simp only [BitVec.getLsbD_and, BitVec.getLsbD_or] at *
  simp only [← BitVec.getLsbD_eq_getElem, BitVec.getLsbD_and, BitVec.getLsbD_or]
  generalize x.toBitVec.getLsbD i = a at *
  generalize y.toBitVec.getLsbD i = b at *
  generalize (255 : Int32).toBitVec.getLsbD i = c at *
  revert f1 f2; revert a b c; decide
theorem not_sub (a b : Int32) : a &&& (b ^^^ (-1)) = 0 ↔ b &&& a = a := by
  rw [Int32.xor_neg_one, ← Int32.toBitVec_inj, ← Int32.toBitVec_inj]
  simp only [Int32.toBitVec_and, Int32.toBitVec_not, Int32.toBitVec_zero]
  constructor
  · intro h
    ext i hi
    have f := congrArg (fun z => z.getLsbD i) h
    simp only [BitVec.getLsbD_and, BitVec.getLsbD_not, BitVec.getLsbD_zero] at f
    simp only [← BitVec.getLsbD_eq_getElem, BitVec.getLsbD_and]
    rw [decide_eq_true hi] at f
    generalize a.toBitVec.getLsbD i = a at *
    generalize b.toBitVec.getLsbD i = b at *
    revert f; revert a b; decide
  · intro h
    ext i hi
    have f := congrArg (fun z => z.getLsbD i) h
    simp only [BitVec.getLsbD_and] at f
    simp only [← BitVec.getLsbD_eq_getElem, BitVec.getLsbD_and, BitVec.getLsbD_not, BitVec.getLsbD_zero, decide_eq_true hi]
    generalize a.toBitVec.getLsbD i = a at *
    generalize b.toBitVec.getLsbD i = b at *
    revert f; revert a b; decide
theorem fits_met (bag al on : Int32) : fitsP bag al on ↔ metP bag al on := by
  unfold fitsP metP
  rw [not_sub, Int32.and_comm on bag]
theorem usedL_or (al th : Int32) : ∀ k, (usedL al th k).1 = al ||| (usedL 0 th k).1 ∧ (usedL al th k).2 = (usedL 0 th k).2 := by
  intro k
  induction k with
  | zero => exact ⟨by show al = al ||| 0; rw [Int32.or_zero], rfl⟩
  | succ k ih =>
    rw [usedL_1, usedL_1, usedL_2, usedL_2, ih.1, ih.2]
    split
    · exact ⟨Int32.or_assoc _ _ _, rfl⟩
    · exact ⟨rfl, rfl⟩
theorem used_lob : ∀ v, v < 256 → (usedL 0 (nI v) 8).1 = nI v &&& (-(nI v)) := by decide +kernel
/-- the parts, by bits -/
def ptF (tools : Int32) : Nat → Int32
  | 0 => 0
  | k + 1 => ptF tools k ||| (if ¬ hasP tools (nI k) then (1 : Int32) <<< (nI k &&& 31) else 0)
theorem pt_nat : ∀ v, v < 256 → ptF (nI v) 8 = (nI v ^^^ (-1)) &&& 255 := by decide +kernel
theorem pt_eq {σ : St} (hI : Inv σ) : ptF σ.tools 8 = (σ.tools ^^^ (-1)) &&& 255 := by
  obtain ⟨v, hv, e⟩ := hI.tl
  rw [e]; exact pt_nat v hv
theorem lef_eq {σ : St} (hI : Inv σ) {bag : Int32} (hb : byP bag) {c s : Nat} (hc : c < 6) (hs : s < 4) (h : metP bag (σ.sorts (16 * c + 4 * s + 2)) (σ.sorts (16 * c + 4 * s + 3))) : lefW bag (σ.sorts (16 * c + 4 * s + 2)) (σ.sorts (16 * c + 4 * s + 3)) (ptF σ.tools 8) = leftF σ bag c s := by
  unfold leftF
  rw [if_pos ((fits_met _ _ _).mpr h), (usedL_or _ _ 8).1, pt_eq hI]
  unfold lefW
  obtain ⟨v, hv, e⟩ := by_nat (by_and2 hb (σ.sorts (16 * c + 4 * s + 3)))
  rw [Int32.and_comm bag (σ.sorts (16 * c + 4 * s + 3)), e, used_lob v hv]
  have h1 : byP (σ.sorts (16 * c + 4 * s + 2) ||| nI v &&& -nI v) := by_or (by_of (hI.al c s hc hs)) (by_and (nat_by v hv) _)
  generalize σ.sorts (16 * c + 4 * s + 2) ||| nI v &&& -nI v = u at *
  rw [Int32.and_comm _ 255, ← Int32.and_assoc, h1]
theorem by_nn {x : Int32} (h : byP x) : ¬ x = -1 := by
  intro e
  subst e
  exact absurd h (by decide)
theorem met_left {σ : St} {bag : Int32} (hb : byP bag) (c s : Nat) : metP bag (σ.sorts (16 * c + 4 * s + 2)) (σ.sorts (16 * c + 4 * s + 3)) ↔ ¬ leftF σ bag c s = -1 := by
  rw [← fits_met]
  unfold leftF
  constructor
  · intro h
    rw [if_pos h]
    exact by_nn (by_and hb _)
  · intro h
    by_cases q : fitsP bag (σ.sorts (16 * c + 4 * s + 2)) (σ.sorts (16 * c + 4 * s + 3))
    · exact q
    · rw [if_neg q] at h; exact absurd rfl h
theorem left_by {σ : St} {bag : Int32} (hb : byP bag) {c s : Nat} (h : ¬ leftF σ bag c s = -1) : byP (leftF σ bag c s) := by
  unfold leftF at *
  by_cases q : fitsP bag (σ.sorts (16 * c + 4 * s + 2)) (σ.sorts (16 * c + 4 * s + 3))
  · rw [if_pos q]; exact by_and hb _
  · rw [if_neg q] at h; exact absurd rfl h
theorem bag_by {b : Int32} (h : bagP b) : byP b := by_of (in255 h)
theorem sort_use {σ : St} (hI : Inv σ) {c s : Int32} (h : sortP σ c s) : useP σ c := by
  refine ⟨h.1, ?_⟩
  obtain ⟨j, hj, rfl⟩ := in5 h.1.1
  have h2 := h.2
  rw [ix_nI hj (by decide)] at *
  obtain ⟨i, hi, -⟩ := in_sm (hI.sm j hj) h2
  omega
theorem b01_iff {P Q : Prop} [Decidable P] [Decidable Q] (h : P ↔ Q) : b01 P = b01 Q := by
  by_cases hp : P
  · rw [b01_t hp, b01_t (h.mp hp)]
  · rw [b01_f hp, b01_f (fun q => hp (h.mpr q))]
theorem abs_eq (x : Int64) : (if 0 < x then x else -x) = absW x := by
  unfold absW
  by_cases h : 0 < x
  · rw [if_pos h, if_pos (Int64.le_of_lt h)]
  · rw [if_neg h]
    by_cases h2 : 0 ≤ x
    · rw [if_pos h2]
      have : x = 0 := by
        rcases Int64.lt_or_eq_of_le h2 with q | q
        · exact absurd q h
        · exact q.symm
      rw [this]; rfl
    · rw [if_neg h2]
