/-! PURE ROWS 6: the end of a row; a call that is known; best bags -/
set_option maxRecDepth 100000
def mxP (S : Int32 → Prop) (e r : Int32) : Prop := e ≤ r ∧ (∀ y, S y → y ≤ r) ∧ (r = e ∨ S r)
theorem mx_uniq {S : Int32 → Prop} {e r1 r2 : Int32} (h1 : mxP S e r1) (h2 : mxP S e r2) : r1 = r2 := by
  apply Int32.le_antisymm
  · rcases h1.2.2 with q | q
    · rw [q]; exact h2.1
    · exact h2.2.1 _ q
  · rcases h2.2.2 with q | q
    · rw [q]; exact h1.1
    · exact h1.2.1 _ q
theorem mx_congr {S S' : Int32 → Prop} {e r : Int32} (h : ∀ y, S y ↔ S' y) (h1 : mxP S e r) : mxP S' e r := ⟨h1.1, fun y q => h1.2.1 y ((h y).mpr q), h1.2.2.imp id (fun q => (h r).mp q)⟩
theorem mx_union {S1 S2 : Int32 → Prop} {e r1 r2 : Int32} (h1 : mxP S1 e r1) (h2 : mxP S2 r1 r2) : mxP (fun y => S1 y ∨ S2 y) e r2 := by
  refine ⟨Int32.le_trans h1.1 h2.1, fun y q => ?_, ?_⟩
  · rcases q with q | q
    · exact Int32.le_trans (h1.2.1 y q) h2.1
    · exact h2.2.1 y q
  · rcases h2.2.2 with q | q
    · rw [q]
      rcases h1.2.2 with z | z
      · exact Or.inl z
      · exact Or.inr (Or.inl z)
    · exact Or.inr (Or.inr q)
theorem mx_one (e m : Int32) : mxP (fun y => y = m) e (if e < m then m else e) := by
  by_cases h : e < m
  · rw [if_pos h]; exact ⟨Int32.le_of_lt h, fun y q => by rw [q]; exact Int32.le_refl _, Or.inr rfl⟩
  · rw [if_neg h]; exact ⟨Int32.le_refl _, fun y q => by rw [q]; exact Int32.not_lt.mp h, Or.inl rfl⟩
theorem mx_none (e : Int32) {S : Int32 → Prop} (h : ∀ y, ¬ S y) : mxP S e e := ⟨Int32.le_refl _, fun y q => absurd q (h y), Or.inl rfl⟩
theorem ed_mx (σ : St) (row : Int32) (j : Nat) (bag : Int32) : ∀ n, mxP (fun y => ∃ v, v < n ∧ y = (goR σ row (chN σ row v) bag j).2.1) 0 (edG σ row j bag n)
  | 0 => mx_none _ (fun y ⟨v, hv, _⟩ => absurd hv (Nat.not_lt_zero _))
  | n + 1 => by
    have e : edG σ row j bag (n + 1) = if edG σ row j bag n < (goR σ row (chN σ row n) bag j).2.1 then (goR σ row (chN σ row n) bag j).2.1 else edG σ row j bag n := by
      rw [edG]
      by_cases h : (goR σ row (chN σ row n) bag j).2.1 ≤ edG σ row j bag n
      · rw [if_pos h, if_neg (Int32.not_lt.mpr h)]
      · rw [if_neg h, if_pos (Int32.not_le.mp h)]
    rw [e]
    refine mx_congr (fun y => ?_) (mx_union (ed_mx σ row j bag n) (mx_one _ _))
    constructor
    · rintro (⟨v, hv, q⟩ | q)
      · exact ⟨v, by omega, q⟩
      · exact ⟨n, by omega, q⟩
    · rintro ⟨v, hv, q⟩
      by_cases hn : v = n
      · subst hn; exact Or.inr q
      · exact Or.inl ⟨v, by omega, q⟩
section GE
variable {σ : St} {row full so : Int32} {j : Nat}
def geP (σ : St) (row full so : Int32) (j d : Nat) : Prop := ∀ (i : Nat) (g : GS) (w : Int64) (dn : Int32) (t : OT), i + d = j →
  mxP (fun y => ∃ u, u < flN σ row d i ∧ y = (flE σ row full d i g u).2.1) t.2.2 (goT σ row full (-1) so d i g.1 g.2.1 g.2.2.1 g.2.2.2.1 w dn t).2.2
theorem ge_0 : geP σ row full so j 0 := by
  intro i g w dn t _
  refine mx_congr (fun y => ?_) (mx_one t.2.2 g.2.1)
  constructor
  · intro q; exact ⟨0, Nat.zero_lt_one, q⟩
  · rintro ⟨u, _, q⟩; exact q
theorem ge_s (hI : Inv σ) (hoT : okT σ row j) {d : Nat} (ih : geP σ row full so j d) : geP σ row full so j (d + 1) := by
  intro i g w dn t hi
  rcases hoT i (by omega) with h6 | ⟨hc, hT, hs0⟩
  · rw [goT_h h6]
    refine mx_congr (fun y => ?_) (ih (i + 1) (stepH σ full g) w dn t (by omega))
    simp only [flN, flE, if_pos h6]
  · have h6 : ¬ en row i = 6 := by omega
    have hset : ∀ y, (∃ k, k < σ.sm (en row i) ∧ ∃ u, u < flN σ row d (i + 1) ∧ y = (flE σ row full d (i + 1) (stepC σ (en row i) k g) u).2.1) ↔ ∃ u, u < flN σ row (d + 1) i ∧ y = (flE σ row full (d + 1) i g u).2.1 := by
      intro y
      simp only [flN, flE, if_neg h6]
      constructor
      · rintro ⟨k, hk, u, hu, q⟩
        refine ⟨σ.sm (en row i) * u + k, ?_, ?_⟩
        · calc σ.sm (en row i) * u + k < σ.sm (en row i) * u + σ.sm (en row i) := by omega
            _ = σ.sm (en row i) * (u + 1) := (Nat.mul_succ _ _).symm
            _ ≤ σ.sm (en row i) * flN σ row d (i + 1) := Nat.mul_le_mul_left _ hu
        · rw [Nat.mul_add_mod, Nat.mod_eq_of_lt hk, Nat.mul_add_div (by omega), Nat.div_eq_of_lt hk, Nat.add_zero]; exact q
      · rintro ⟨u, hu, q⟩
        exact ⟨u % σ.sm (en row i), Nat.mod_lt _ hs0, u / σ.sm (en row i), Nat.div_lt_of_lt_mul hu, q⟩
    by_cases hl : lateP σ (arrF σ g.1 g.2.1 (en row i)) (en row i)
    · rw [goT_l h6 hl]
      obtain ⟨e1, e2, e3, -, -⟩ := st_late hI hc (s := 0) hl
      have ih' := ih (i + 1) (stepC σ (en row i) 0 g) w 0 t (by omega)
      rw [e1, e2, e3] at ih'
      refine mx_congr (fun y => ?_) ih'
      rw [← hset]
      constructor
      · rintro ⟨u, hu, q⟩; exact ⟨0, hs0, u, hu, q⟩
      · rintro ⟨k, hk, u, hu, q⟩; rw [stepC_l hl k] at q; exact ⟨u, hu, q⟩
    · rw [goT_c h6 hl]
      refine mx_congr hset ?_
      have : ∀ n, n ≤ σ.sm (en row i) → mxP (fun y => ∃ k, k < n ∧ ∃ u, u < flN σ row d (i + 1) ∧ y = (flE σ row full d (i + 1) (stepC σ (en row i) k g) u).2.1) t.2.2 (srtT (sorT σ (-1) so (goT σ row full (-1) so d) i g.1 g.2.1 g.2.2.1 g.2.2.2.1 w dn (en row i)) n t).2.2 := by
        intro n
        induction n with
        | zero => intro _; exact mx_none _ (fun y ⟨k, hk, _⟩ => absurd hk (Nat.not_lt_zero _))
        | succ n ihn =>
          intro hn
          have hone : ∀ t' : OT, mxP (fun y => ∃ u, u < flN σ row d (i + 1) ∧ y = (flE σ row full d (i + 1) (stepC σ (en row i) n g) u).2.1) t'.2.2 (sorT σ (-1) so (goT σ row full (-1) so d) i g.1 g.2.1 g.2.2.1 g.2.2.2.1 w dn (en row i) n t').2.2 := by
            intro t'
            unfold sorT
            rw [if_neg (fun q => en_m1 row i q.1)]
            by_cases hm : leftF σ g.2.2.1 (en row i) n = -1
            · obtain ⟨e1, e2, e3, -, -⟩ := st_not hl hm
              have ih' := ih (i + 1) (stepC σ (en row i) n g) (prT σ (-1) w (en row i) n) 0 t' (by omega)
              rw [e1, e2, e3, ← Int32.sub_eq_add_neg] at ih'
              rw [if_pos hm]; exact ih'
            · obtain ⟨e1, e2, e3, -, -⟩ := st_met hl hm
              have ih' := ih (i + 1) (stepC σ (en row i) n g) (prT σ (-1) w (en row i) n) dn t' (by omega)
              rw [e1, e2, e3] at ih'
              rw [if_neg hm]; exact ih'
          refine mx_congr (fun y => ?_) (mx_union (ihn (by omega)) (hone _))
          constructor
          · rintro (⟨k, hk, q⟩ | q)
            · exact ⟨k, by omega, q⟩
            · exact ⟨n, by omega, q⟩
          · rintro ⟨k, hk, q⟩
            by_cases hkn : k = n
            · subst hkn; exact Or.inr q
            · exact Or.inl ⟨k, by omega, q⟩
      exact this _ (Nat.le_refl _)
theorem ge_all (hI : Inv σ) (hoT : okT σ row j) : ∀ d, geP σ row full so j d
  | 0 => ge_0
  | d + 1 => ge_s hI hoT (ge_all hI hoT d)
end GE
theorem br_3 {σ : St} (hI : Inv σ) {row : Int32} {j : Nat} (hoT : okT σ row j) (bag : Int32) : (brT σ row (-1) 0 j bag).2.2 = edF σ row j bag := by
  have h1 := ge_all hI hoT j (full := bag) (so := 0) 0 (g0 σ bag) (belT σ row (-1) j) 1 (0, 0, 0) (by omega)
  refine mx_uniq h1 (mx_congr (fun y => ?_) (ed_mx σ row j bag (comN σ row j)))
  have e : comN σ row j = flN σ row j 0 := by
    have := com_fl σ row j 0
    rw [Nat.zero_add] at this
    rw [← this]; exact Nat.one_mul _
  have h : ∀ v, goR σ row (chN σ row v) bag j = flE σ row bag j 0 (g0 σ bag) v := by
    intro v
    have h1 := goR_fl σ row bag v j 0
    rw [Nat.zero_add] at h1
    exact h1.symm
  rw [e]
  simp only [h]
/-- a call that is known stands once in the row -/
def unQ (row : Int32) (j q : Nat) : Prop := ∀ i, i < j → nI (en row i) = nI (en row q) → i = q
theorem trQ {σ : St} {row full : Int32} {j q s : Nat} (h6 : ¬ en row q = 6) (hq : q < j) (hu : unQ row j q) (hs : s < 4) (hsm : ∀ i, i < j → ¬ en row i = 6 → σ.sm (en row i) ≤ 4) (φ : GS → Int64) : ∀ d i g, i + d = j →
    trS σ row full (lkQ σ row q s) φ d i g = (if i ≤ q then lkW σ row q s else 1) * trS σ row full (cwW σ row (nI (en row q)) (nI s)) φ d i g
  | 0, i, g, hi => by
    rw [if_neg (by omega), Int64.one_mul]; rfl
  | d + 1, i, g, hi => by
    have ih := fun g => trQ h6 hq hu hs hsm φ d (i + 1) g (by omega) (full := full)
    by_cases h : en row i = 6
    · have hne : ¬ i = q := fun e => h6 (by rw [← e]; exact h)
      simp only [trS, if_pos h]
      rw [ih]
      by_cases hle : i ≤ q
      · rw [if_pos hle, if_pos (by omega)]
      · rw [if_neg hle, if_neg (by omega)]
    · simp only [trS, if_neg h]
      by_cases e : i = q
      · subst e
        rw [if_pos (Nat.le_refl _), ← sum_mul]
        refine sum_congr _ (fun k hk => ?_)
        rw [ih, if_neg (by omega), Int64.one_mul]
        unfold lkQ cwW
        rw [if_pos rfl, if_pos rfl]
        have hk4 := hsm i (by omega) h
        by_cases hks : k = s
        · subst hks
          rw [if_pos rfl, if_pos rfl, Int64.one_mul]
        · rw [if_neg hks, if_neg (fun z => hks ((nI_eq (a := k) (b := s) (by omega) (by omega)).mp z)), Int64.zero_mul, Int64.mul_zero]
      · rw [← sum_mul]
        refine sum_congr _ (fun k _ => ?_)
        rw [ih]
        have e1 : lkQ σ row q s i k = lkW σ row i k := by unfold lkQ; rw [if_neg e]
        have e2 : cwW σ row (nI (en row q)) (nI s) i k = lkW σ row i k := by unfold cwW; rw [if_neg (fun z => e (hu i (by omega) z))]
        have e3 : (if i + 1 ≤ q then lkW σ row q s else (1 : Int64)) = if i ≤ q then lkW σ row q s else 1 := by
          by_cases hle : i ≤ q
          · rw [if_pos hle, if_pos (by omega)]
          · rw [if_neg hle, if_neg (by omega)]
        rw [e1, e2, e3, ← Int64.mul_assoc, Int64.mul_comm (lkW σ row i k), Int64.mul_assoc]
theorem br_k {σ : St} (hI : Inv σ) {row : Int32} {j q s : Nat} (hoT : okT σ row j) (hj : j ≤ 6) (hq : q < j) (h6 : ¬ en row q = 6) (hu : unQ row j q) (hs : s < σ.sm (en row q)) (bag : Int32) : mkF σ row j bag q s = lkW σ row q s * (brT σ row (nI (en row q)) (nI s) j bag).1 := by
  have hc := ((hoT q hq).resolve_left h6).1
  have hsm := hI.sm _ hc
  have hkn : knO σ row (nI (en row q)) (nI s) j := fun i hi e => by
    have := hu i hi e
    subst this
    exact ⟨s, hs, rfl⟩
  rw [(br_tr hI hoT hj hkn bag).1, mk_tr σ row hq h6, trQ h6 hq hu (by omega) (fun i hi h => hI.sm _ ((hoT i hi).resolve_left h).1) fB j 0 _ (by omega), if_pos (Nat.zero_le _)]
