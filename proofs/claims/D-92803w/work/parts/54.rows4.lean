/-! PURE ROWS 7: bounds; the best bags; knowing -/
set_option maxRecDepth 100000
theorem i64_mul {a b : Int64} (h1 : -(2 ^ 63) ≤ a.toInt * b.toInt) (h2 : a.toInt * b.toInt < 2 ^ 63) : (a * b).toInt = a.toInt * b.toInt := by
  rw [Int64.toInt_mul]
  exact Int.bmod_eq_of_le_mul_two (by omega) (by omega)
theorem i64_add {a b : Int64} (h1 : -(2 ^ 63) ≤ a.toInt + b.toInt) (h2 : a.toInt + b.toInt < 2 ^ 63) : (a + b).toInt = a.toInt + b.toInt := by
  rw [Int64.toInt_add]
  exact Int.bmod_eq_of_le_mul_two (by omega) (by omega)
theorem i32_add {a b : Int32} (h1 : -(2 ^ 31) ≤ a.toInt + b.toInt) (h2 : a.toInt + b.toInt < 2 ^ 31) : (a + b).toInt = a.toInt + b.toInt := by
  rw [Int32.toInt_add]
  exact Int.bmod_eq_of_le_mul_two (by omega) (by omega)
def sumN (c : Nat → Nat) : Nat → Nat
  | 0 => 0
  | k + 1 => sumN c k + c k
theorem mul_bd {c : Nat} {X B : Int} (h1 : -B ≤ X) (h2 : X ≤ B) : -(c * B : Int) ≤ c * X ∧ (c : Int) * X ≤ c * B := by
  have hc : (0 : Int) ≤ c := Int.natCast_nonneg c
  have a := Int.mul_le_mul_of_nonneg_left h1 hc
  have b := Int.mul_le_mul_of_nonneg_left h2 hc
  rw [Int.mul_neg] at a
  exact ⟨a, b⟩
theorem sum_bd {X : Nat → Int64} {c : Nat → Nat} {B : Int} (hB0 : 0 ≤ B) (hB : B ≤ 594 * 80 ^ 5) : ∀ n, (∀ k, k < n → -B ≤ (X k).toInt ∧ (X k).toInt ≤ B) → sumN c n ≤ 80 → -((sumN c n : Nat) * B : Int) ≤ (sumL (fun k => lN (c k) * X k) n).toInt ∧ (sumL (fun k => lN (c k) * X k) n).toInt ≤ (sumN c n : Nat) * B
  | 0, _, _ => by
    rw [sumL, sumN]
    rw [Int64.toInt_zero]
    constructor <;> simp
  | n + 1, hX, hS => by
    rw [sumN] at hS
    obtain ⟨a1, a2⟩ := sum_bd hB0 hB n (fun k hk => hX k (by omega)) (by omega) (X := X) (c := c)
    obtain ⟨b1, b2⟩ := hX n (by omega)
    rw [sumL, sumN]
    have hc : c n ≤ 80 := by omega
    have e0 : (lN (c n)).toInt = (c n : Int) := pk_lT (by omega)
    obtain ⟨m1, m2⟩ := mul_bd (c := c n) b1 b2
    have h80 : ((c n : Nat) : Int) * B ≤ 80 * B := Int.mul_le_mul_of_nonneg_right (by omega) hB0
    have h80s : ((sumN c n : Nat) : Int) * B ≤ 80 * B := Int.mul_le_mul_of_nonneg_right (by omega) hB0
    have e1 : (lN (c n) * X n).toInt = c n * (X n).toInt := by
      rw [i64_mul (by rw [e0]; omega) (by rw [e0]; omega), e0]
    have e2 : (sumL (fun k => lN (c k) * X k) n + lN (c n) * X n).toInt = (sumL (fun k => lN (c k) * X k) n).toInt + c n * (X n).toInt := by
      rw [i64_add (by rw [e1]; omega) (by rw [e1]; omega), e1]
    rw [e2, Int.natCast_add, Int.add_mul]
    omega
def cwN (σ : St) (row kn so : Int32) (i k : Nat) : Nat := if nI (en row i) = kn then (if nI k = so then 1 else 0) else lkN σ (en row i) k
theorem cw_N {σ : St} (hI : Inv σ) {row kn so : Int32} {i k : Nat} (hc : en row i < 6) (hk : k < σ.sm (en row i)) : cwW σ row kn so i k = lN (cwN σ row kn so i k) := by
  unfold cwW cwN
  by_cases h : nI (en row i) = kn
  · rw [if_pos h, if_pos h]; split <;> rfl
  · rw [if_neg h, if_neg h, lk_l hI hc hk]
theorem sumN_one {s0 : Nat} (h4 : s0 < 4) : ∀ n, n ≤ 4 → sumN (fun k => if nI k = nI s0 then 1 else 0) n ≤ 1 ∧ (sumN (fun k => if nI k = nI s0 then 1 else 0) n = 0 ∨ s0 < n)
  | 0, _ => ⟨Nat.zero_le _, Or.inl rfl⟩
  | n + 1, hn => by
    obtain ⟨a, b⟩ := sumN_one h4 n (by omega)
    rw [sumN]
    by_cases e : n = s0
    · subst e
      rw [if_pos rfl]
      rcases b with b | b
      · exact ⟨by omega, Or.inr (by omega)⟩
      · exact absurd b (Nat.lt_irrefl _)
    · rw [if_neg (fun q => e ((nI_eq (a := n) (b := s0) (by omega) (by omega)).mp q)), Nat.add_zero]
      exact ⟨a, b.imp id (fun q => by omega)⟩
theorem sumN_cw {σ : St} (hI : Inv σ) {row kn so : Int32} {j i : Nat} (hkn : knO σ row kn so j) (hi : i < j) (hc : en row i < 6) : sumN (cwN σ row kn so i) (σ.sm (en row i)) ≤ tnW σ row kn i := by
  unfold tnW
  rw [if_neg (by omega)]
  have hsm := hI.sm _ hc
  by_cases hk : nI (en row i) = kn
  · rw [if_pos hk]
    obtain ⟨s0, h1, rfl⟩ := hkn i hi hk
    have e : cwN σ row kn (nI s0) i = fun k => if nI k = nI s0 then 1 else 0 := by
      funext k; unfold cwN; rw [if_pos hk]
    rw [e]
    exact (sumN_one (s0 := s0) (by omega) _ hsm).1
  · rw [if_neg hk]
    have e : cwN σ row kn so i = lkN σ (en row i) := by funext k; unfold cwN; rw [if_neg hk]
    rw [e]
    have : ∀ n, sumN (lkN σ (en row i)) n = tnN σ (en row i) n := by
      intro n
      induction n with
      | zero => rfl
      | succ n ih => rw [sumN, tnN, ih]
    rw [this]
    exact Nat.le_refl _
theorem gain_bd {σ : St} (hI : Inv σ) (hJ : Inv2 σ) {c k i : Nat} (hc : c < 6) (hi : i ≤ 6) {g : GS} (h1 : -(99 * i : Int) ≤ g.2.2.2.1.toInt) (h2 : g.2.2.2.1.toInt ≤ 99 * i) : -(99 * (i + 1 : Nat) : Int) ≤ (stepC σ c k g).2.2.2.1.toInt ∧ (stepC σ c k g).2.2.2.1.toInt ≤ 99 * (i + 1 : Nat) := by
  obtain ⟨v, hv, e⟩ := hJ.1 c hc
  obtain ⟨w, hw, f⟩ := hJ.2.1 c hc
  have hn : ∀ w, w < 100 → (-(nI w)).toInt = -(w : Int) := by decide +kernel
  have key : ∀ a : Int32, -(99 : Int) ≤ a.toInt → a.toInt ≤ 99 → -(99 * (i + 1 : Nat) : Int) ≤ (g.2.2.2.1 + a).toInt ∧ (g.2.2.2.1 + a).toInt ≤ 99 * (i + 1 : Nat) := by
    intro a ha hb
    rw [i32_add (by omega) (by omega)]
    omega
  unfold stepC
  dsimp only
  split
  · exact key _ (by rw [e, nI_toInt (by omega)]; omega) (by rw [e, nI_toInt (by omega)]; omega)
  · exact key _ (by rw [f, hn w hw]; omega) (by rw [f, hn w hw]; omega)
theorem tr_bd {σ : St} (hI : Inv σ) (hJ : Inv2 σ) {row full kn so : Int32} {j : Nat} (hoT : okT σ row j) (hj : j ≤ 6) (hkn : knO σ row kn so j) : ∀ d i (g : GS), i + d = j → -(99 * i : Int) ≤ g.2.2.2.1.toInt → g.2.2.2.1.toInt ≤ 99 * i →
    -(594 * (RnW σ row kn d i : Nat) : Int) ≤ (trS σ row full (cwW σ row kn so) fB d i g).toInt ∧ (trS σ row full (cwW σ row kn so) fB d i g).toInt ≤ 594 * (RnW σ row kn d i : Nat)
  | 0, i, g, hi, h1, h2 => by
    show -(594 * (1 : Nat) : Int) ≤ (g.2.2.2.1.toInt64).toInt ∧ (g.2.2.2.1.toInt64).toInt ≤ 594 * (1 : Nat)
    rw [l64]
    omega
  | d + 1, i, g, hi, h1, h2 => by
    have ih := fun g => tr_bd hI hJ hoT hj hkn d (i + 1) g (by omega) (full := full)
    have hR := Rn_bd hI hoT d (i + 1) (by omega) (kn := kn)
    have hp : (80 : Nat) ^ d ≤ 80 ^ 5 := Nat.pow_le_pow_right (by decide) (by omega)
    rcases hoT i (by omega) with h6 | ⟨hc, hT, hs0⟩
    · have e : RnW σ row kn (d + 1) i = RnW σ row kn d (i + 1) := by rw [RnW]; unfold tnW; rw [if_pos h6, Nat.one_mul]
      rw [e]
      simp only [trS, if_pos h6]
      exact ih (stepH σ full g) (by show _ ≤ g.2.2.2.1.toInt; omega) (by show g.2.2.2.1.toInt ≤ _; omega)
    · have h6 : ¬ en row i = 6 := by omega
      simp only [trS, if_neg h6]
      have hsm := hI.sm _ hc
      have e : sumL (fun k => cwW σ row kn so i k * trS σ row full (cwW σ row kn so) fB d (i + 1) (stepC σ (en row i) k g)) (σ.sm (en row i)) = sumL (fun k => lN (cwN σ row kn so i k) * trS σ row full (cwW σ row kn so) fB d (i + 1) (stepC σ (en row i) k g)) (σ.sm (en row i)) := sum_congr _ (fun k hk => by rw [cw_N hI hc hk])
      have hle := sumN_cw hI hkn (show i < j by omega) hc
      have htn := tn_bd hI hoT (kn := kn) (show i < j by omega)
      rw [e]
      obtain ⟨a, b⟩ := sum_bd (X := fun k => trS σ row full (cwW σ row kn so) fB d (i + 1) (stepC σ (en row i) k g)) (c := cwN σ row kn so i) (B := 594 * (RnW σ row kn d (i + 1) : Nat)) (by omega) (by
          have : (RnW σ row kn d (i + 1) : Int) ≤ 80 ^ 5 := by exact_mod_cast Nat.le_trans hR.2 hp
          omega) (σ.sm (en row i)) (fun k hk => by
          obtain ⟨g1, g2⟩ := gain_bd hI hJ hc (by omega) (k := k) h1 h2
          exact ih (stepC σ (en row i) k g) g1 g2) (by omega)
      have hm : ((sumN (cwN σ row kn so i) (σ.sm (en row i)) : Nat) : Int) * (594 * (RnW σ row kn d (i + 1) : Nat)) ≤ 594 * (RnW σ row kn (d + 1) i : Nat) := by
        rw [RnW, Int.natCast_mul, Int.mul_left_comm 594]
        exact Int.mul_le_mul_of_nonneg_right (by omega) (by omega)
      omega
theorem br_bd {σ : St} (hI : Inv σ) (hJ : Inv2 σ) {row kn so : Int32} {j : Nat} (hoT : okT σ row j) (hj : j ≤ 6) (hkn : knO σ row kn so j) (bag : Int32) : -(594 * 80 ^ 6 : Int) ≤ (brT σ row kn so j bag).1.toInt ∧ (brT σ row kn so j bag).1.toInt ≤ 594 * 80 ^ 6 := by
  rw [(br_tr hI hoT hj hkn bag).1]
  have h := tr_bd hI hJ hoT hj hkn j 0 (g0 σ bag) (by omega) (full := bag) (by show _ ≤ (0 : Int32).toInt; decide) (by show (0 : Int32).toInt ≤ _; decide)
  have hR := Rn_bd hI hoT j 0 (by omega) (kn := kn)
  have hp : (80 : Nat) ^ j ≤ 80 ^ 6 := Nat.pow_le_pow_right (by decide) hj
  have h2 := Nat.le_trans hR.2 hp
  have : (RnW σ row kn j 0 : Int) ≤ 80 ^ 6 := by exact_mod_cast h2
  omega
