/-! PURE ROWS 5: what the component's walk brings -/
set_option maxRecDepth 100000
def cwW (σ : St) (row kn so : Int32) (i k : Nat) : Int64 := if nI (en row i) = kn then (if nI k = so then 1 else 0) else lkW σ row i k
def tnW (σ : St) (row kn : Int32) (i : Nat) : Nat := if en row i = 6 then 1 else if nI (en row i) = kn then 1 else toT σ (en row i)
def RnW (σ : St) (row kn : Int32) : Nat → Nat → Nat
  | 0, _ => 1
  | d + 1, i => tnW σ row kn i * RnW σ row kn d (i + 1)
theorem tn_bd {σ : St} (hI : Inv σ) {row kn : Int32} {j i : Nat} (h : okT σ row j) (hi : i < j) : 1 ≤ tnW σ row kn i ∧ tnW σ row kn i ≤ 80 := by
  unfold tnW
  rcases h i hi with h6 | ⟨hc, hT, hs⟩
  · rw [if_pos h6]; omega
  · rw [if_neg (by omega)]
    have := toT_ok hI hc
    split <;> omega
theorem bel_s {σ : St} (hI : Inv σ) {row kn : Int32} {j i : Nat} (h : okT σ row j) (hi : i < j) : belT σ row kn (i + 1) = belT σ row kn i * lN (tnW σ row kn i) := by
  rw [belT]
  unfold tnW
  rcases h i hi with h6 | ⟨hc, hT, hs⟩
  · rw [if_pos h6, if_pos h6]; rfl
  · rw [if_neg (show ¬ en row i = 6 by omega), if_neg (show ¬ en row i = 6 by omega)]
    by_cases hk : nI (en row i) = kn
    · rw [if_pos hk, if_pos hk]; rfl
    · rw [if_neg hk, if_neg hk]
      have := toT_ok hI hc
      rw [this.1, nI_l (by omega)]
theorem bel_R {σ : St} (hI : Inv σ) {row kn : Int32} {j : Nat} (h : okT σ row j) : ∀ d i, i + d ≤ j → belT σ row kn i * lN (RnW σ row kn d i) = belT σ row kn (i + d)
  | 0, i, _ => Int64.mul_one _
  | d + 1, i, hd => by
    have ih := bel_R hI h d (i + 1) (by omega) (kn := kn)
    rw [show i + 1 + d = i + (d + 1) by omega] at ih
    rw [← ih, bel_s hI h (by omega), RnW, ← lN_mul, Int64.mul_assoc]
theorem bel_j {σ : St} (hI : Inv σ) {row kn : Int32} {j : Nat} (h : okT σ row j) : belT σ row kn j = lN (RnW σ row kn j 0) := by
  have := bel_R hI h j 0 (by omega) (kn := kn)
  rw [Nat.zero_add] at this
  rw [← this]; exact Int64.one_mul _
theorem Rn_bd {σ : St} (hI : Inv σ) {row kn : Int32} {j : Nat} (h : okT σ row j) : ∀ d i, i + d ≤ j → 1 ≤ RnW σ row kn d i ∧ RnW σ row kn d i ≤ 80 ^ d
  | 0, _, _ => ⟨Nat.le_refl _, Nat.le_refl _⟩
  | d + 1, i, hd => by
    obtain ⟨a, b⟩ := Rn_bd hI h d (i + 1) (by omega) (kn := kn)
    obtain ⟨a2, b2⟩ := tn_bd hI h (kn := kn) (i := i) (by omega)
    rw [RnW, Nat.pow_succ, Nat.mul_comm (80 ^ d)]
    exact ⟨Nat.mul_pos a2 a, Nat.mul_le_mul b2 b⟩
theorem lk_l {σ : St} (hI : Inv σ) {row : Int32} {i k : Nat} (hc : en row i < 6) (hk : k < σ.sm (en row i)) : lkW σ row i k = lN (lkN σ (en row i) k) := by
  unfold lkW
  have := lk_ok hI hc hk
  rw [this.2.2, nI_l (by omega)]
theorem sum_lk {σ : St} (hI : Inv σ) {row : Int32} {i : Nat} (hc : en row i < 6) : ∀ n, n ≤ σ.sm (en row i) → sumL (lkW σ row i) n = lN (tnN σ (en row i) n)
  | 0, _ => rfl
  | n + 1, hn => by rw [sumL, tnN, sum_lk hI hc n (by omega), lk_l hI hc (by omega), lN_add]
theorem lk_le {σ : St} {c : Nat} : ∀ n k, k < n → lkN σ c k ≤ tnN σ c n
  | 0, _, h => absurd h (Nat.not_lt_zero _)
  | n + 1, k, h => by
    rw [tnN]
    by_cases e : k = n
    · subst e; omega
    · have := lk_le (σ := σ) (c := c) n k (by omega); omega
theorem sum_one {s0 : Nat} (h4 : s0 < 4) : ∀ n, n ≤ 4 → sumL (fun k => if nI k = nI s0 then (1 : Int64) else 0) n = if s0 < n then 1 else 0
  | 0, _ => rfl
  | n + 1, hn => by
    rw [sumL, sum_one h4 n (by omega)]
    by_cases e : n = s0
    · subst e
      rw [if_neg (Nat.lt_irrefl _), if_pos rfl, if_pos (Nat.lt_succ_self _)]; rfl
    · have : ¬ nI n = nI s0 := fun q => e ((nI_eq (a := n) (b := s0) (by omega) (by omega)).mp q)
      rw [if_neg this, Int64.add_zero]
      by_cases h : s0 < n
      · rw [if_pos h, if_pos (by omega)]
      · rw [if_neg h, if_neg (by omega)]
def knO (σ : St) (row kn so : Int32) (j : Nat) : Prop := ∀ i, i < j → nI (en row i) = kn → ∃ s0, s0 < σ.sm (en row i) ∧ so = nI s0
theorem sum_cw {σ : St} (hI : Inv σ) {row kn so : Int32} {j i : Nat} (hkn : knO σ row kn so j) (hi : i < j) (hc : en row i < 6) : sumL (cwW σ row kn so i) (σ.sm (en row i)) = lN (tnW σ row kn i) := by
  unfold tnW
  rw [if_neg (by omega)]
  have hsm := hI.sm _ hc
  by_cases hk : nI (en row i) = kn
  · rw [if_pos hk]
    obtain ⟨s0, h1, rfl⟩ := hkn i hi hk
    have := sum_one (s0 := s0) (by omega) (σ.sm (en row i)) hsm
    rw [if_pos h1] at this
    refine Eq.trans (sum_congr _ (fun k _ => ?_)) this
    unfold cwW
    rw [if_pos hk]
  · rw [if_neg hk]
    unfold toT
    rw [← sum_lk hI hc _ (Nat.le_refl _)]
    refine sum_congr _ (fun k _ => ?_)
    unfold cwW
    rw [if_neg hk]
theorem stepC_l {σ : St} {c : Nat} {g : GS} (h : lateP σ (arrF σ g.1 g.2.1 c) c) (k : Nat) : stepC σ c k g = stepC σ c 0 g := by
  unfold stepC leftL
  simp only [if_pos h]
theorem stepC_ad {σ : St} {c k : Nat} {g : GS} : (stepC σ c k g).2.2.2.2.2 = 0 ∨ (stepC σ c k g).2.2.2.2.2 = 1 := by
  unfold stepC
  dsimp only
  by_cases h : g.2.2.2.2.2 = 0
  · rw [if_pos h]; exact Or.inl rfl
  · rw [if_neg h]; split
    · exact Or.inr rfl
    · exact Or.inl rfl
theorem e80 : (80 : Nat) ^ 6 < 2 ^ 63 := by decide
theorem l3 (a b c : Nat) : lN (a * (b * c)) = lN (a * b * c) := by rw [Nat.mul_assoc]
section GT
variable {σ : St} {row full kn so : Int32} {j : Nat}
/-- what the claim says of one depth -/
def gtP (σ : St) (row full kn so : Int32) (j d : Nat) : Prop := ∀ (i : Nat) (g : GS) (b : Nat) (t : OT), i + d = j → b * RnW σ row kn d i ≤ 80 ^ 6 → (g.2.2.2.2.2 = 0 ∨ g.2.2.2.2.2 = 1) →
  (goT σ row full kn so d i g.1 g.2.1 g.2.2.1 g.2.2.2.1 (lN (b * RnW σ row kn d i)) g.2.2.2.2.2 t).1 = t.1 + lN b * trS σ row full (cwW σ row kn so) fB d i g
  ∧ (goT σ row full kn so d i g.1 g.2.1 g.2.2.1 g.2.2.2.1 (lN (b * RnW σ row kn d i)) g.2.2.2.2.2 t).2.1 = t.2.1 + lN b * trS σ row full (cwW σ row kn so) fD d i g
theorem gt_0 : gtP σ row full kn so j 0 := by
  intro i g b t _ _ _
  simp only [goT, RnW, trS, Nat.mul_one]
  refine ⟨trivial, ?_⟩
  unfold fD
  by_cases h : g.2.2.2.2.2 = 0
  · rw [if_pos h, if_pos h, Int64.mul_zero]
  · rw [if_neg h, if_neg h, Int64.mul_one]
/-- one sort adds its part -/
theorem gt_sort (hI : Inv σ) (hkn : knO σ row kn so j) {d i : Nat} (ih : gtP σ row full kn so j d) (hi : i + (d + 1) = j) (hc : en row i < 6) {g : GS} {b : Nat} (hb : b * RnW σ row kn (d + 1) i ≤ 80 ^ 6) (had : g.2.2.2.2.2 = 0 ∨ g.2.2.2.2.2 = 1) (hl : ¬ lateP σ (arrF σ g.1 g.2.1 (en row i)) (en row i)) {k : Nat} (hk : k < σ.sm (en row i)) (t : OT) :
    (sorT σ kn so (goT σ row full kn so d) i g.1 g.2.1 g.2.2.1 g.2.2.2.1 (lN (b * RnW σ row kn (d + 1) i)) g.2.2.2.2.2 (en row i) k t).1 = t.1 + lN b * (cwW σ row kn so i k * trS σ row full (cwW σ row kn so) fB d (i + 1) (stepC σ (en row i) k g))
    ∧ (sorT σ kn so (goT σ row full kn so d) i g.1 g.2.1 g.2.2.1 g.2.2.2.1 (lN (b * RnW σ row kn (d + 1) i)) g.2.2.2.2.2 (en row i) k t).2.1 = t.2.1 + lN b * (cwW σ row kn so i k * trS σ row full (cwW σ row kn so) fD d (i + 1) (stepC σ (en row i) k g)) := by
  have hsm := hI.sm _ hc
  have h6 : ¬ en row i = 6 := by omega
  by_cases hs : nI (en row i) = kn ∧ ¬ nI k = so
  · have e : cwW σ row kn so i k = 0 := by unfold cwW; rw [if_pos hs.1, if_neg hs.2]
    unfold sorT
    rw [if_pos hs, e, Int64.zero_mul, Int64.zero_mul, Int64.mul_zero, Int64.add_zero, Int64.add_zero]
    exact ⟨rfl, rfl⟩
  · -- the weight that goes on
    obtain ⟨b', hw, hb', hcw⟩ : ∃ b', prT σ kn (lN (b * RnW σ row kn (d + 1) i)) (en row i) k = lN (b' * RnW σ row kn d (i + 1)) ∧ b' * RnW σ row kn d (i + 1) ≤ 80 ^ 6 ∧ lN b' = lN b * cwW σ row kn so i k := by
      rw [RnW] at hb ⊢
      by_cases hkk : nI (en row i) = kn
      · have hso : nI k = so := Classical.not_not.mp (fun q => hs ⟨hkk, q⟩)
        refine ⟨b, ?_, ?_, ?_⟩
        · unfold prT tnW
          rw [if_pos hkk, if_neg h6, if_pos hkk, Nat.one_mul]
        · unfold tnW at hb
          rw [if_neg h6, if_pos hkk, Nat.one_mul] at hb
          exact hb
        · unfold cwW
          rw [if_pos hkk, if_pos hso, Int64.mul_one]
      · have ht := toT_ok hI hc
        have hlk := lk_ok hI hc hk
        have hle : lkN σ (en row i) k ≤ toT σ (en row i) := lk_le _ k hk
        have htn : tnW σ row kn i = toT σ (en row i) := by unfold tnW; rw [if_neg h6, if_neg hkk]
        rw [htn] at hb ⊢
        generalize RnW σ row kn d (i + 1) = r at *
        generalize lkN σ (en row i) k = v at *
        refine ⟨b * v, ?_, ?_, ?_⟩
        · unfold prT
          rw [if_neg hkk, ht.1, hlk.2.2, nI_l (by omega), nI_l (by omega), pk_lDiv (Nat.lt_of_le_of_lt hb e80) (by omega) (by omega), lN_mul]
          congr 1
          rw [show b * (toT σ (en row i) * r) = b * r * toT σ (en row i) by rw [Nat.mul_comm (toT σ (en row i)), Nat.mul_assoc], Nat.mul_div_cancel _ (by omega), Nat.mul_right_comm]
        · refine Nat.le_trans ?_ hb
          rw [Nat.mul_assoc]
          exact Nat.mul_le_mul_left _ (Nat.mul_le_mul_right _ hle)
        · unfold cwW lkW
          rw [if_neg hkk, hlk.2.2, nI_l (by omega), lN_mul]
    unfold sorT
    rw [if_neg hs, hw, ← Int64.mul_assoc, ← Int64.mul_assoc, ← hcw]
    have ih' := ih (i + 1) (stepC σ (en row i) k g) b' t (by omega) hb' stepC_ad
    by_cases hm : leftF σ g.2.2.1 (en row i) k = -1
    · obtain ⟨e1, e2, e3, -, e5⟩ := st_not hl hm
      rw [e1, e2, e3, e5, ← Int32.sub_eq_add_neg] at ih'
      rw [if_pos hm]
      exact ih'
    · obtain ⟨e1, e2, e3, -, e5⟩ := st_met hl hm
      have e6 : (if g.2.2.2.2.2 = 0 then (0 : Int32) else 1) = g.2.2.2.2.2 := by rcases had with q | q <;> rw [q] <;> rfl
      rw [e1, e2, e3, e5, e6] at ih'
      rw [if_neg hm]
      exact ih'
theorem gt_s (hI : Inv σ) (hoT : okT σ row j) (hkn : knO σ row kn so j) {d : Nat} (ih : gtP σ row full kn so j d) : gtP σ row full kn so j (d + 1) := by
  intro i g b t hi hb had
  rcases hoT i (by omega) with h6 | ⟨hc, hT, hs0⟩
  · have e : RnW σ row kn (d + 1) i = RnW σ row kn d (i + 1) := by
      rw [RnW]; unfold tnW; rw [if_pos h6, Nat.one_mul]
    rw [e] at hb ⊢
    rw [goT_h h6]
    simp only [trS, if_pos h6]
    exact ih (i + 1) (stepH σ full g) b t (by omega) hb had
  · have h6 : ¬ en row i = 6 := by omega
    simp only [trS, if_neg h6]
    by_cases hl : lateP σ (arrF σ g.1 g.2.1 (en row i)) (en row i)
    · rw [goT_l h6 hl]
      have es : ∀ φ, sumL (fun k => cwW σ row kn so i k * trS σ row full (cwW σ row kn so) φ d (i + 1) (stepC σ (en row i) k g)) (σ.sm (en row i)) = lN (tnW σ row kn i) * trS σ row full (cwW σ row kn so) φ d (i + 1) (stepC σ (en row i) 0 g) := by
        intro φ
        rw [← sum_cw hI hkn (show i < j by omega) hc, ← sum_mulr]
        exact sum_congr _ (fun k _ => by rw [stepC_l hl k])
      rw [es, es, ← Int64.mul_assoc, ← Int64.mul_assoc, lN_mul]
      rw [RnW, ← Nat.mul_assoc] at hb ⊢
      have ih' := ih (i + 1) (stepC σ (en row i) 0 g) (b * tnW σ row kn i) t (by omega) hb stepC_ad
      obtain ⟨e1, e2, e3, -, e5⟩ := st_late hI hc (s := 0) hl
      rw [e1, e2, e3, e5] at ih'
      exact ih'
    · rw [goT_c h6 hl]
      have : ∀ n, n ≤ σ.sm (en row i) →
          (srtT (sorT σ kn so (goT σ row full kn so d) i g.1 g.2.1 g.2.2.1 g.2.2.2.1 (lN (b * RnW σ row kn (d + 1) i)) g.2.2.2.2.2 (en row i)) n t).1 = t.1 + lN b * sumL (fun k => cwW σ row kn so i k * trS σ row full (cwW σ row kn so) fB d (i + 1) (stepC σ (en row i) k g)) n
          ∧ (srtT (sorT σ kn so (goT σ row full kn so d) i g.1 g.2.1 g.2.2.1 g.2.2.2.1 (lN (b * RnW σ row kn (d + 1) i)) g.2.2.2.2.2 (en row i)) n t).2.1 = t.2.1 + lN b * sumL (fun k => cwW σ row kn so i k * trS σ row full (cwW σ row kn so) fD d (i + 1) (stepC σ (en row i) k g)) n := by
        intro n
        induction n with
        | zero => intro _; exact ⟨by rw [sumL, Int64.mul_zero, Int64.add_zero]; rfl, by rw [sumL, Int64.mul_zero, Int64.add_zero]; rfl⟩
        | succ n ihn =>
          intro hn
          obtain ⟨a1, a2⟩ := ihn (by omega)
          obtain ⟨b1, b2⟩ := gt_sort hI hkn ih hi hc hb had hl (k := n) (by omega) (srtT (sorT σ kn so (goT σ row full kn so d) i g.1 g.2.1 g.2.2.1 g.2.2.2.1 (lN (b * RnW σ row kn (d + 1) i)) g.2.2.2.2.2 (en row i)) n t)
          rw [srtT, sumL, sumL, b1, b2, a1, a2, Int64.mul_add, Int64.mul_add, Int64.add_assoc, Int64.add_assoc]
          exact ⟨rfl, rfl⟩
      exact this _ (Nat.le_refl _)
theorem gt_all (hI : Inv σ) (hoT : okT σ row j) (hkn : knO σ row kn so j) : ∀ d, gtP σ row full kn so j d
  | 0 => gt_0
  | d + 1 => gt_s hI hoT hkn (gt_all hI hoT hkn d)
end GT
theorem br_tr {σ : St} (hI : Inv σ) {row kn so : Int32} {j : Nat} (hoT : okT σ row j) (hj : j ≤ 6) (hkn : knO σ row kn so j) (bag : Int32) :
    (brT σ row kn so j bag).1 = trS σ row bag (cwW σ row kn so) fB j 0 (g0 σ bag) ∧ (brT σ row kn so j bag).2.1 = trS σ row bag (cwW σ row kn so) fD j 0 (g0 σ bag) := by
  have hR := Rn_bd hI hoT j 0 (by omega) (kn := kn)
  have hp : (80 : Nat) ^ j ≤ 80 ^ 6 := Nat.pow_le_pow_right (by decide) hj
  have := gt_all hI hoT hkn j (full := bag) 0 (g0 σ bag) 1 (0, 0, 0) (by omega) (by rw [Nat.one_mul]; exact Nat.le_trans hR.2 hp) (Or.inr rfl)
  rw [Nat.one_mul, ← bel_j hI hoT] at this
  obtain ⟨a, b⟩ := this
  have e1 : lN 1 = (1 : Int64) := rfl
  rw [e1, Int64.one_mul] at a b
  refine ⟨?_, ?_⟩
  · unfold brT
    rw [show (goT σ row bag kn so j 0 0 σ.beg bag 0 (belT σ row kn j) 1 (0, 0, 0)).1 = _ from a]
    exact Int64.zero_add _
  · unfold brT
    rw [show (goT σ row bag kn so j 0 0 σ.beg bag 0 (belT σ row kn j) 1 (0, 0, 0)).2.1 = _ from b]
    exact Int64.zero_add _
theorem en_m1 (row : Int32) (i : Nat) : ¬ nI (en row i) = -1 := by
  have := en_lt row i
  have h : ∀ v, v < 16 → ¬ nI v = -1 := by decide +kernel
  exact h _ this
theorem kn_m1 (σ : St) (row so : Int32) (j : Nat) : knO σ row (-1) so j := fun i _ h => absurd h (en_m1 row i)
theorem cw_m1 (σ : St) (row so : Int32) : cwW σ row (-1) so = lkW σ row := by
  funext i k
  unfold cwW
  rw [if_neg (en_m1 row i)]
theorem br_1 {σ : St} (hI : Inv σ) {row : Int32} {j : Nat} (hoT : okT σ row j) (hj : j ≤ 6) (bag : Int32) : (brT σ row (-1) 0 j bag).1 = mnF σ row j bag := by
  rw [(br_tr hI hoT hj (kn_m1 σ row 0 j) bag).1, cw_m1, mn_tr]
theorem br_2 {σ : St} (hI : Inv σ) {row : Int32} {j : Nat} (hoT : okT σ row j) (hj : j ≤ 6) (bag : Int32) : (brT σ row (-1) 0 j bag).2.1 = dnF σ row j bag := by
  rw [(br_tr hI hoT hj (kn_m1 σ row 0 j) bag).2, cw_m1, dn_tr]
theorem bel_all (σ : St) (row : Int32) : ∀ k, belT σ row (-1) k = allP σ row k
  | 0 => rfl
  | k + 1 => by rw [belT, allP, bel_all σ row k, if_neg (en_m1 row k)]
