/-! PURE ROWS 8: best bags and knowing -/
set_option maxRecDepth 100000
theorem wsum0 (w : Nat → Int32) : ∀ k, k ≤ 8 → wsum w (nI 0) k = 0
  | 0, _ => rfl
  | k + 1, h => by rw [wsum, wsum0 w k (by omega), if_neg (show ¬ hasP (nI 0) (nI k) from has0 k (by omega))]; rfl
theorem may0 {σ : St} (hJ : Inv2 σ) : mayP σ (nI 0) := by
  unfold mayP
  rw [wsum0 _ 8 (Nat.le_refl _), wsum0 _ 8 (Nat.le_refl _)]
  obtain ⟨-, -, ⟨v, hv, e⟩, w, hw, f⟩ := hJ
  rw [e, f]
  exact ⟨nI_pos (by omega), nI_pos (by omega)⟩
theorem nI_m1 : ∀ k, k < 256 → ¬ nI k = -1 := by decide +kernel
theorem bs_s (σ : St) (f : Int32 → Int64) (mb : Int64) (k : Nat) : bsG σ f mb (k + 1) = if mayP σ (nI k) then (if (bsG σ f mb k).1 = -1 then (nI k, f (nI k)) else if f (nI k) ≤ (bsG σ f mb k).2 then bsG σ f mb k else (nI k, f (nI k))) else bsG σ f mb k := rfl
theorem bs_ne {σ : St} (h0 : mayP σ (nI 0)) (f : Int32 → Int64) (mb : Int64) : ∀ k, k < 256 → ¬ (bsG σ f mb (k + 1)).1 = -1
  | 0, _ => by
    rw [bs_s, if_pos h0, if_pos (show (bsG σ f mb 0).1 = -1 from rfl)]
    exact nI_m1 0 (by decide)
  | k + 1, h => by
    have ih := bs_ne h0 f mb k (by omega)
    rw [bs_s]
    by_cases hm : mayP σ (nI (k + 1))
    · rw [if_pos hm, if_neg ih]
      by_cases h2 : f (nI (k + 1)) ≤ (bsG σ f mb (k + 1)).2
      · rw [if_pos h2]; exact ih
      · rw [if_neg h2]; exact nI_m1 _ h
    · rw [if_neg hm]; exact ih
theorem bs_mb (σ : St) (f : Int32 → Int64) (mb mb' : Int64) : ∀ k, k ≤ 256 → (bsG σ f mb k).1 = (bsG σ f mb' k).1 ∧ (¬ (bsG σ f mb k).1 = -1 → bsG σ f mb k = bsG σ f mb' k)
  | 0, _ => ⟨rfl, fun q => absurd rfl q⟩
  | k + 1, h => by
    obtain ⟨a, b⟩ := bs_mb σ f mb mb' k (by omega)
    rw [bs_s, bs_s]
    by_cases hm : mayP σ (nI k)
    · rw [if_pos hm, if_pos hm]
      by_cases h1 : (bsG σ f mb k).1 = -1
      · rw [if_pos h1, if_pos (a ▸ h1)]
        exact ⟨rfl, fun _ => rfl⟩
      · rw [← b h1, if_neg h1]
        exact ⟨rfl, fun _ => rfl⟩
    · rw [if_neg hm, if_neg hm]
      exact ⟨a, b⟩
theorem bs_bb (σ : St) (row : Int32) (j : Nat) : ∀ k, bsG σ (fun b => mnF σ row j b) 0 k = bbG σ row j k
  | 0 => rfl
  | k + 1 => by
    rw [bs_s, bs_bb σ row j k, bbG]
    by_cases hm : mayP σ (nI k)
    · rw [if_pos hm, if_pos hm]
      unfold bbI
      by_cases h1 : (bbG σ row j k).1 = -1
      · rw [if_pos h1, if_pos h1, if_neg (by decide)]
      · rw [if_neg h1, if_neg h1]
        by_cases h2 : mnF σ row j (nI k) ≤ (bbG σ row j k).2
        · rw [if_pos h2, if_pos h2, if_pos rfl]
        · rw [if_neg h2, if_neg h2, if_neg (by decide)]
    · rw [if_neg hm, if_neg hm]
theorem bb_mn (σ : St) (row : Int32) (j : Nat) : ∀ k, ¬ (bbG σ row j k).1 = -1 → (bbG σ row j k).2 = mnF σ row j (bbG σ row j k).1
  | 0, h => absurd rfl h
  | k + 1, h => by
    rw [bbG] at h ⊢
    by_cases hm : mayP σ (nI k)
    · rw [if_pos hm] at h ⊢
      by_cases h2 : bbI σ row j (bbG σ row j k).1 (bbG σ row j k).2 k = 0
      · rw [if_pos h2] at h ⊢; exact bb_mn σ row j k h
      · rw [if_neg h2]
    · rw [if_neg hm] at h ⊢; exact bb_mn σ row j k h
theorem brB_m1 {σ : St} (hI : Inv σ) {row : Int32} {j : Nat} (hoT : okT σ row j) (hj : j ≤ 6) : brB σ row (-1) 0 j = fun b => mnF σ row j b := by
  funext b; exact br_1 hI hoT hj b
theorem best_1 {σ : St} (hI : Inv σ) {row : Int32} {j : Nat} (hoT : okT σ row j) (hj : j ≤ 6) (mb : Int64) : (bsG σ (brB σ row (-1) 0 j) mb 256).1 = bbF σ row j := by
  rw [(bs_mb σ _ mb 0 256 (Nat.le_refl _)).1, brB_m1 hI hoT hj, bs_bb]; rfl
theorem best_2 {σ : St} (hI : Inv σ) (hJ : Inv2 σ) {row : Int32} {j : Nat} (hoT : okT σ row j) (hj : j ≤ 6) (mb : Int64) : (bsG σ (brB σ row (-1) 0 j) mb 256).2 = mnF σ row j (bbF σ row j) := by
  have hn := bs_ne (may0 hJ) (brB σ row (-1) 0 j) mb 255 (by decide)
  rw [(bs_mb σ _ mb 0 256 (Nat.le_refl _)).2 hn, brB_m1 hI hoT hj, bs_bb]
  refine bb_mn σ row j 256 ?_
  rw [best_1 hI hoT hj mb] at hn
  exact hn
theorem bb_ne {σ : St} (hI : Inv σ) (hJ : Inv2 σ) {row : Int32} {j : Nat} (hoT : okT σ row j) (hj : j ≤ 6) : ¬ bbF σ row j = -1 := by
  have hn := bs_ne (may0 hJ) (brB σ row (-1) 0 j) 0 255 (by decide)
  rw [best_1 hI hoT hj 0] at hn
  exact hn
/-- what the best bag brings, if the entry q is of the sort s -/
def kbF (σ : St) (row : Int32) (j q s : Nat) : Int64 := (bsG σ (brB σ row (nI (en row q)) (nI s) j) 0 256).2
theorem kb_eq {σ : St} (hJ : Inv2 σ) (row : Int32) (j q s : Nat) (mb : Int64) : (bsG σ (brB σ row (nI (en row q)) (nI s) j) mb 256).2 = kbF σ row j q s := by
  unfold kbF
  rw [(bs_mb σ _ mb 0 256 (Nat.le_refl _)).2 (bs_ne (may0 hJ) _ mb 255 (by decide))]
theorem LE_toInt : (-9000000000000000000 : Int64).toInt = -9000000000000000000 := by decide
theorem mul_ord {v : Nat} (h1 : 1 ≤ v) (h2 : v ≤ 20) {a b : Int64} (ha : -(594 * 80 ^ 6 : Int) ≤ a.toInt ∧ a.toInt ≤ 594 * 80 ^ 6) (hb : -(594 * 80 ^ 6 : Int) ≤ b.toInt ∧ b.toInt ≤ 594 * 80 ^ 6) : (lN v * a ≤ lN v * b ↔ a ≤ b) ∧ ¬ lN v * a ≤ -9000000000000000000 := by
  have e0 : (lN v).toInt = (v : Int) := pk_lT (by omega)
  have key : ∀ x : Int64, -(594 * 80 ^ 6 : Int) ≤ x.toInt ∧ x.toInt ≤ 594 * 80 ^ 6 → (lN v * x).toInt = v * x.toInt ∧ -(20 * (594 * 80 ^ 6) : Int) ≤ v * x.toInt := by
    intro x hx
    obtain ⟨m1, m2⟩ := mul_bd (c := v) (X := x.toInt) (B := 594 * 80 ^ 6) hx.1 hx.2
    have h20 : ((v : Nat) : Int) * (594 * 80 ^ 6) ≤ 20 * (594 * 80 ^ 6) := Int.mul_le_mul_of_nonneg_right (by omega) (by decide)
    exact ⟨by rw [i64_mul (by rw [e0]; omega) (by rw [e0]; omega), e0], by omega⟩
  obtain ⟨ea, ba⟩ := key a ha
  obtain ⟨eb, bb⟩ := key b hb
  constructor
  · rw [Int64.le_iff_toInt_le, Int64.le_iff_toInt_le, ea, eb]
    constructor
    · intro q; exact Int.le_of_mul_le_mul_left q (by omega)
    · intro q; exact Int.mul_le_mul_of_nonneg_left q (by omega)
  · rw [Int64.le_iff_toInt_le, ea, LE_toInt]
    omega
theorem km_eq {σ : St} (hI : Inv σ) (hJ : Inv2 σ) {row : Int32} {j q s : Nat} (hoT : okT σ row j) (hj : j ≤ 6) (hq : q < j) (h6 : ¬ en row q = 6) (hu : unQ row j q) (hs : s < σ.sm (en row q)) : ∀ k, k ≤ 256 →
    ((bsG σ (brB σ row (nI (en row q)) (nI s) j) 0 k).1 = -1 → kmG σ row j q s k = -9000000000000000000) ∧ (¬ (bsG σ (brB σ row (nI (en row q)) (nI s) j) 0 k).1 = -1 → kmG σ row j q s k = lkW σ row q s * (bsG σ (brB σ row (nI (en row q)) (nI s) j) 0 k).2 ∧ ∃ b, (bsG σ (brB σ row (nI (en row q)) (nI s) j) 0 k).2 = brB σ row (nI (en row q)) (nI s) j b)
  | 0, _ => ⟨fun _ => rfl, fun h => absurd rfl h⟩
  | k + 1, hk => by
    have hc := ((hoT q hq).resolve_left h6).1
    have hkn : knO σ row (nI (en row q)) (nI s) j := fun i hi e => by
      have := hu i hi e
      subst this
      exact ⟨s, hs, rfl⟩
    have hbd := fun b => br_bd hI hJ hoT hj hkn b
    obtain ⟨a, b⟩ := km_eq hI hJ hoT hj hq h6 hu hs k (by omega)
    have hlk := lk_ok hI hc hs
    have el : lkW σ row q s = lN (lkN σ (en row q) s) := lk_l hI hc hs
    rw [bs_s, kmG]
    by_cases hm : mayP σ (nI k)
    · rw [if_pos hm, if_pos hm, br_k hI hoT hj hq h6 hu hs]
      by_cases h1 : (bsG σ (brB σ row (nI (en row q)) (nI s) j) 0 k).1 = -1
      · rw [if_pos h1, a h1]
        refine ⟨fun z => absurd z (nI_m1 k (by omega)), fun _ => ⟨?_, nI k, rfl⟩⟩
        rw [el, if_neg (mul_ord hlk.1 hlk.2.1 (hbd (nI k)) (hbd (nI k))).2]
      · obtain ⟨b1, bg, b2⟩ := b h1
        rw [if_neg h1, b1, el]
        have ho := (mul_ord hlk.1 hlk.2.1 (hbd (nI k)) (hbd bg)).1
        rw [show (brT σ row (nI (en row q)) (nI s) j bg).1 = (bsG σ (brB σ row (nI (en row q)) (nI s) j) 0 k).2 from b2.symm] at ho
        by_cases h2 : brB σ row (nI (en row q)) (nI s) j (nI k) ≤ (bsG σ (brB σ row (nI (en row q)) (nI s) j) 0 k).2
        · rw [if_pos h2, if_pos (ho.mpr h2)]
          exact ⟨fun z => absurd z h1, fun _ => ⟨rfl, bg, b2⟩⟩
        · rw [if_neg h2, if_neg (fun z => h2 (ho.mp z))]
          exact ⟨fun z => absurd z (nI_m1 k (by omega)), fun _ => ⟨rfl, nI k, rfl⟩⟩
    · rw [if_neg hm, if_neg hm]
      have hle : (-9000000000000000000 : Int64) ≤ kmG σ row j q s k := by
        by_cases h1 : (bsG σ (brB σ row (nI (en row q)) (nI s) j) 0 k).1 = -1
        · rw [a h1]; exact Int64.le_refl _
        · obtain ⟨b1, bg, b2⟩ := b h1
          rw [b1, b2, el]
          exact Int64.le_of_lt (Int64.not_le.mp (mul_ord hlk.1 hlk.2.1 (hbd bg) (hbd bg)).2)
      rw [if_pos hle]
      exact ⟨a, b⟩
theorem ks_eq {σ : St} (hI : Inv σ) (hJ : Inv2 σ) {row : Int32} {j q : Nat} (hoT : okT σ row j) (hj : j ≤ 6) (hq : q < j) (h6 : ¬ en row q = 6) (hu : unQ row j q) : ∀ n, n ≤ σ.sm (en row q) → ksG σ row j q n = sumL (fun s => lkW σ row q s * kbF σ row j q s) n - mnF σ row j (bbF σ row j)
  | 0, _ => by rw [ksG, sumL, Int64.sub_eq_add_neg, Int64.zero_add]
  | n + 1, hn => by
    rw [ksG, sumL, ks_eq hI hJ hoT hj hq h6 hu n (by omega), ((km_eq hI hJ hoT hj hq h6 hu (s := n) (by omega) 256 (Nat.le_refl _)).2 (bs_ne (may0 hJ) _ 0 255 (by decide))).1]
    show _ - _ + _ * kbF σ row j q n = _
    rw [Int64.sub_eq_add_neg, Int64.sub_eq_add_neg, Int64.add_assoc, Int64.add_comm (-_), ← Int64.add_assoc]
theorem has_bit : ∀ e, e < 16 → hasP ((1 : Int32) <<< (nI e &&& 31)) (nI e) := by decide +kernel
theorem tw_0 {row : Int32} : ∀ n, twF row n = 0 → ∀ k, k < n → ¬ entF row k = 6 → ¬ hasP (seenF row k) (entF row k)
  | 0, _, k, hk, _ => absurd hk (Nat.not_lt_zero _)
  | n + 1, h, k, hk, h6 => by
    rw [twF] at h
    by_cases h0 : twF row n = 0
    · rw [if_pos h0] at h
      by_cases e : k = n
      · subst e
        rw [if_neg h6] at h
        intro z
        rw [if_pos z] at h
        exact absurd h (by decide)
      · exact tw_0 n h0 k (by omega) h6
    · rw [if_neg h0] at h; exact absurd h (by decide)
theorem seen_has {row : Int32} {i : Nat} (h6 : ¬ entF row i = 6) : ∀ k, i < k → hasP (seenF row k) (entF row i)
  | 0, h => absurd h (Nat.not_lt_zero _)
  | k + 1, h => by
    show hasP (seenF row k ||| _) _
    rw [has_or]
    by_cases e : i = k
    · subst e
      rw [if_neg h6]
      obtain ⟨v, hv, e⟩ := ent16 row i
      rw [e]
      exact Or.inr (has_bit v hv)
    · exact Or.inl (seen_has h6 k (by omega))
theorem tw_un {row : Int32} {j q : Nat} (h : twF row j = 0) (hq : q < j) (h6 : ¬ en row q = 6) : unQ row j q := by
  intro i hi e
  have hq6 : ¬ entF row q = 6 := fun z => h6 (by unfold en; rw [z]; rfl)
  have e2 : entF row i = entF row q := by rw [en_eq, en_eq row q]; exact e
  have hi6 : ¬ entF row i = 6 := fun z => hq6 (by rw [← e2]; exact z)
  rcases Nat.lt_trichotomy i q with z | z | z
  · have := seen_has hi6 q z
    rw [e2] at this
    exact absurd this (tw_0 j h q hq hq6)
  · exact z
  · have := seen_has hq6 i z
    rw [← e2] at this
    exact absurd this (tw_0 j h i hi hi6)
