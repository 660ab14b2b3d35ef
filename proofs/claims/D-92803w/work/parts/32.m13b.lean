/-! THE MODEL's METHODS 13, second half -/
set_option maxRecDepth 100000
theorem nmR_i {σ : St} {a : Nat} {lo hi : Int32} {k : Int32 → Nat → PR} {q : List Int32 × Nat} (h : nmR σ a lo hi k = .inr q) : ∃ v, rdV σ a lo hi = some v ∧ k v (tkE σ a) = .inr q := by
  cases e : rdV σ a lo hi with
  | none => rw [nmR_n e] at h; cases h
  | some v => rw [nmR_s e] at h; exact ⟨v, rfl, h⟩
theorem thR_i {σ : St} {a : Nat} {k : Int32 → Nat → PR} {q : List Int32 × Nat} (h : thR σ a k = .inr q) : ∃ v, thV σ a = some v ∧ k v (tkE σ a) = .inr q := by
  cases e : thV σ a with
  | none => rw [thR_n e] at h; cases h
  | some v => rw [thR_s e] at h; exact ⟨v, rfl, h⟩
theorem rd_nat {σ : St} {a : Nat} {lo hi v : Int32} (h : rdV σ a lo hi = some v) (l u : Nat) (hl : lo.toInt = l) (hu : hi.toInt = u) : ∃ j : Nat, l ≤ j ∧ j ≤ u ∧ v = nI j := by
  have q := (rd_in h).2.2
  obtain ⟨h1, h2⟩ := (inP_iff v _ _).mp q
  rw [l64, hl] at h1
  rw [l64, hu] at h2
  obtain ⟨j, hj, e⟩ := nI_of (x := v) (by rw [Int32.lt_iff_toInt_lt, Int32.toInt_zero]; omega)
  subst e
  rw [nI_toInt hj] at h1 h2
  exact ⟨j, by omega, by omega, rfl⟩
theorem sh1 : ∀ t, t < 8 → (1 : Int32) <<< (nI t &&& 31) = nI (2 ^ t) := by decide +kernel
theorem or_nI (a b : Nat) (ha : a < 256) (hb : b < 256) : ∃ c, c < 256 ∧ nI a ||| nI b = nI c := by
  refine ⟨a ||| b, Nat.or_lt_two_pow (n := 8) ha hb, ?_⟩
  apply Int32.toBitVec_inj.mp
  apply BitVec.eq_of_toNat_eq
  rw [Int32.toBitVec_or, BitVec.toNat_or, pk_tn (by omega), pk_tn (by omega), pk_tn]
  exact Nat.lt_of_lt_of_le (Nat.or_lt_two_pow (n := 8) ha hb) (by decide)
theorem th_lt {σ : St} {p : Nat} : ∀ k s, thG σ p k = some s → ∃ n, n < 256 ∧ s = nI n
  | 0, s, h => by cases h; exact ⟨0, by decide, rfl⟩
  | k + 1, s, h => by
    rw [thG] at h
    cases e : thG σ p k with
    | none => rw [e] at h; cases h
    | some s0 =>
      rw [e] at h
      obtain ⟨n, hn, rfl⟩ := th_lt k s0 e
      have h : (if inP (σ.txt (p + k) - 97).toInt64 0 7 ∧ ¬ hasP (nI n) (σ.txt (p + k) - 97) then some (nI n ||| ((1 : Int32) <<< ((σ.txt (p + k) - 97) &&& 31))) else none) = some s := h
      by_cases q : inP (σ.txt (p + k) - 97).toInt64 0 7 ∧ ¬ hasP (nI n) (σ.txt (p + k) - 97)
      · rw [if_pos q] at h
        cases h
        obtain ⟨t, ht, et⟩ := in7 q.1
        rw [et, sh1 t ht]
        have : 2 ^ t < 2 ^ 8 := Nat.pow_lt_pow_right (by decide) ht
        exact or_nI n (2 ^ t) hn (by omega)
      · rw [if_neg q] at h; cases h
theorem thV_lt {σ : St} {a : Nat} {v : Int32} (h : thV σ a = some v) : ∃ n, 1 ≤ n ∧ n < 256 ∧ v = nI n := by
  unfold thV at h
  cases e : thG σ (tkP σ a) (tkE σ a - tkP σ a) with
  | none => rw [e] at h; cases h
  | some s =>
    rw [e] at h
    obtain ⟨n, hn, rfl⟩ := th_lt _ _ e
    have h : (if nI n ≤ 0 then none else some (nI n)) = some v := h
    by_cases q : nI n ≤ 0
    · rw [if_pos q] at h; cases h
    · rw [if_neg q] at h
      cases h
      refine ⟨n, ?_, hn, rfl⟩
      rcases Nat.eq_zero_or_pos n with z | z
      · subst z; exact absurd (by decide) q
      · exact z
/-- a line as it may be told -/
def okV (vs : List Int32) : Prop :=
  (∃ t w p tl : Nat, vs = [0, nI t, nI w, nI p, nI tl] ∧ t < 8 ∧ 1 ≤ w ∧ w ≤ 99 ∧ p ≤ 99 ∧ tl ≤ 1) ∨ (∃ v : Nat, vs = [1, nI v] ∧ v ≤ 400) ∨ (∃ v : Nat, vs = [2, nI v] ∧ v ≤ 999) ∨ (∃ v : Nat, vs = [3, nI v] ∧ v ≤ 1439)
  ∨ (∃ x y m : Nat, vs = [4, nI x, nI y, nI m] ∧ x < 6 ∧ y < 6 ∧ x ≠ y ∧ m ≤ 200) ∨ (∃ c p o s w g l : Nat, vs = [5, nI c, nI p, nI o, nI s, nI w, nI g, nI l] ∧ c < 6 ∧ 1 ≤ p ∧ p < 6 ∧ o ≤ s ∧ s ≤ 1439 ∧ w ≤ 99 ∧ g ≤ 99 ∧ l ≤ 99)
  ∨ (∃ c n m al on : Nat, vs = [6, nI c, nI n, nI m, nI al, nI on] ∧ c < 6 ∧ 1 ≤ n ∧ n ≤ 20 ∧ m ≤ 200 ∧ al < 256 ∧ on < 256)
theorem thing_i {σ : St} {a an : Nat} {vs : List Int32} (h : thingL σ a = .inr (vs, an)) : ∃ t w p tl : Nat, vs = [0, nI t, nI w, nI p, nI tl] ∧ t < 8 ∧ 1 ≤ w ∧ w ≤ 99 ∧ p ≤ 99 ∧ tl ≤ 1 := by
  unfold thingL at h
  by_cases q : letP σ a
  · rw [if_pos q] at h
    obtain ⟨w, hw, h⟩ := nmR_i h
    obtain ⟨p, hp, h⟩ := nmR_i h
    obtain ⟨w, w1, w2, rfl⟩ := rd_nat hw 1 99 rfl rfl
    obtain ⟨p, p1, p2, rfl⟩ := rd_nat hp 0 99 rfl rfl
    obtain ⟨l1, l2⟩ := (inP_iff _ 97 104).mp q.2
    have l1 : 97 ≤ (σ.txt (tkP σ a)).toInt := l1
    have l2 : (σ.txt (tkP σ a)).toInt ≤ 104 := l2
    obtain ⟨x, hx, e⟩ := nI_of (x := σ.txt (tkP σ a)) (by rw [Int32.lt_iff_toInt_lt, Int32.toInt_zero]; omega)
    rw [e, nI_toInt hx] at l1 l2
    rw [e, show nI x - 97 = nI (x - 97) from pk_sub (a := x) (b := 97) (by omega)] at h
    split at h
    · split at h
      · cases h
      · cases h; exact ⟨x - 97, w, p, 0, rfl, by omega, w1, w2, p2, by omega⟩
    · cases h; exact ⟨x - 97, w, p, 1, rfl, by omega, w1, w2, p2, by omega⟩
  · rw [if_neg q] at h; cases h
theorem one_i {σ : St} {a an : Nat} {vs : List Int32} {w hi : Int32} {u : Nat} (hu : hi.toInt = u) (h : oneL σ a w hi = .inr (vs, an)) : ∃ v : Nat, vs = [w, nI v] ∧ v ≤ u := by
  unfold oneL at h
  obtain ⟨v, hv, h⟩ := nmR_i h
  obtain ⟨v, v1, v2, rfl⟩ := rd_nat hv 0 u rfl hu
  cases h
  exact ⟨v, rfl, v2⟩
theorem way_i {σ : St} {a an : Nat} {vs : List Int32} (h : wayL σ a = .inr (vs, an)) : ∃ x y m : Nat, vs = [4, nI x, nI y, nI m] ∧ x < 6 ∧ y < 6 ∧ x ≠ y ∧ m ≤ 200 := by
  unfold wayL at h
  obtain ⟨x, hx, h⟩ := nmR_i h
  obtain ⟨y, hy, h⟩ := nmR_i h
  obtain ⟨x, x1, x2, rfl⟩ := rd_nat hx 0 5 rfl rfl
  obtain ⟨y, y1, y2, rfl⟩ := rd_nat hy 0 5 rfl rfl
  split at h
  · cases h
  · rename_i hne
    obtain ⟨m, hm, h⟩ := nmR_i h
    obtain ⟨m, m1, m2, rfl⟩ := rd_nat hm 0 200 rfl rfl
    cases h
    exact ⟨x, y, m, rfl, by omega, by omega, fun z => hne (by rw [z]), m2⟩
theorem call_i {σ : St} {a an : Nat} {vs : List Int32} (h : callL σ a = .inr (vs, an)) : ∃ c p o s w g l : Nat, vs = [5, nI c, nI p, nI o, nI s, nI w, nI g, nI l] ∧ c < 6 ∧ 1 ≤ p ∧ p < 6 ∧ o ≤ s ∧ s ≤ 1439 ∧ w ≤ 99 ∧ g ≤ 99 ∧ l ≤ 99 := by
  unfold callL at h
  obtain ⟨c, hc, h⟩ := nmR_i h
  obtain ⟨p, hp, h⟩ := nmR_i h
  obtain ⟨o, ho, h⟩ := nmR_i h
  obtain ⟨s, hs, h⟩ := nmR_i h
  obtain ⟨w, hw, h⟩ := nmR_i h
  obtain ⟨g, hg, h⟩ := nmR_i h
  obtain ⟨l, hl, h⟩ := nmR_i h
  obtain ⟨c, c1, c2, rfl⟩ := rd_nat hc 0 5 rfl rfl
  obtain ⟨p, p1, p2, rfl⟩ := rd_nat hp 1 5 rfl rfl
  obtain ⟨o, o1, o2, rfl⟩ := rd_nat ho 0 1439 rfl rfl
  obtain ⟨s, s1, s2, rfl⟩ := rd_nat hs o 1439 (nI_toInt (by omega)) rfl
  obtain ⟨w, w1, w2, rfl⟩ := rd_nat hw 0 99 rfl rfl
  obtain ⟨g, g1, g2, rfl⟩ := rd_nat hg 0 99 rfl rfl
  obtain ⟨l, l1, l2, rfl⟩ := rd_nat hl 0 99 rfl rfl
  cases h
  exact ⟨c, p, o, s, w, g, l, rfl, by omega, p1, by omega, s1, s2, w2, g2, l2⟩
theorem or_i {σ : St} {a an : Nat} {vs : List Int32} {c n m al : Int32} (h : orL σ c n m al a = .inr (vs, an)) : ∃ on : Nat, vs = [6, c, n, m, al, nI on] ∧ on < 256 := by
  unfold orL at h
  split at h
  · cases h; exact ⟨0, rfl, by decide⟩
  · obtain ⟨v, hv, h⟩ := thR_i h
    obtain ⟨v, v1, v2, rfl⟩ := thV_lt hv
    cases h
    exact ⟨v, rfl, v2⟩
theorem sort_i {σ : St} {a an : Nat} {vs : List Int32} (h : sortL σ a = .inr (vs, an)) : ∃ c n m al on : Nat, vs = [6, nI c, nI n, nI m, nI al, nI on] ∧ c < 6 ∧ 1 ≤ n ∧ n ≤ 20 ∧ m ≤ 200 ∧ al < 256 ∧ on < 256 := by
  unfold sortL at h
  obtain ⟨c, hc, h⟩ := nmR_i h
  obtain ⟨n, hn, h⟩ := nmR_i h
  obtain ⟨m, hm, h⟩ := nmR_i h
  obtain ⟨c, c1, c2, rfl⟩ := rd_nat hc 0 5 rfl rfl
  obtain ⟨n, n1, n2, rfl⟩ := rd_nat hn 1 20 rfl rfl
  obtain ⟨m, m1, m2, rfl⟩ := rd_nat hm 0 200 rfl rfl
  split at h
  · obtain ⟨al, hal, h⟩ := thR_i h
    obtain ⟨al, a1, a2, rfl⟩ := thV_lt hal
    obtain ⟨on, e, o2⟩ := or_i h
    exact ⟨c, n, m, al, on, e, by omega, n1, n2, m2, a2, o2⟩
  · obtain ⟨on, e, o2⟩ := or_i h
    exact ⟨c, n, m, 0, on, e, by omega, n1, n2, m2, by decide, o2⟩
theorem line_ok {σ : St} {a an : Nat} {vs : List Int32} (h : lineL σ a = .inr (vs, an)) : okV vs := by
  unfold lineL at h
  split at h
  · split at h
    · split at h
      · split at h
        · split at h
          · split at h
            · split at h
              · cases h
              · exact Or.inr (Or.inr (Or.inr (Or.inr (Or.inr (Or.inr (sort_i h))))))
            · exact Or.inr (Or.inr (Or.inr (Or.inr (Or.inr (Or.inl (call_i h))))))
          · exact Or.inr (Or.inr (Or.inr (Or.inr (Or.inl (way_i h)))))
        · exact Or.inr (Or.inr (Or.inr (Or.inl (one_i (u := 1439) rfl h))))
      · exact Or.inr (Or.inr (Or.inl (one_i (u := 999) rfl h)))
    · exact Or.inr (Or.inl (one_i (u := 400) rfl h))
  · exact Or.inl (thing_i h)
theorem rd_line {f fn f0 : Nat → Int32} {r : Nat} {vs : List Int32} {w : Int32} (e : f0 = upd f (8 * r) w) (h : rdOK f0 fn r vs) (hw : vs.getD 0 0 = w) : rdLN f fn r vs := by
  refine ⟨fun j hj => ?_, fun i hi => ?_⟩
  · rcases Nat.eq_zero_or_pos j with z | z
    · subst z
      show fn (8 * r) = _
      rw [h.2 _ (Nat.le_refl _), e, hw]
      exact if_pos rfl
    · exact h.1 j z hj
  · rw [h.2 i (by omega), e]
    exact if_neg (by omega)

theorem callL_0 {σ : St} {a : Nat}  (hn : rdV σ a 0 5 = none) : callL σ a = .inl (tkP σ a) := by rw [callL, nmR_n hn]
theorem callL_1 {σ : St} {a : Nat} {v0 : Int32} (h0 : rdV σ a 0 5 = some v0) (hn : rdV σ (tkE σ a) 1 5 = none) : callL σ a = .inl (tkP σ (tkE σ a)) := by rw [callL, nmR_s h0, nmR_n hn]
theorem callL_2 {σ : St} {a : Nat} {v0 v1 : Int32} (h0 : rdV σ a 0 5 = some v0) (h1 : rdV σ (tkE σ a) 1 5 = some v1) (hn : rdV σ (tkE σ (tkE σ a)) 0 1439 = none) : callL σ a = .inl (tkP σ (tkE σ (tkE σ a))) := by rw [callL, nmR_s h0, nmR_s h1, nmR_n hn]
theorem callL_3 {σ : St} {a : Nat} {v0 v1 v2 : Int32} (h0 : rdV σ a 0 5 = some v0) (h1 : rdV σ (tkE σ a) 1 5 = some v1) (h2 : rdV σ (tkE σ (tkE σ a)) 0 1439 = some v2) (hn : rdV σ (tkE σ (tkE σ (tkE σ a))) v2 1439 = none) : callL σ a = .inl (tkP σ (tkE σ (tkE σ (tkE σ a)))) := by rw [callL, nmR_s h0, nmR_s h1, nmR_s h2, nmR_n hn]
theorem callL_4 {σ : St} {a : Nat} {v0 v1 v2 v3 : Int32} (h0 : rdV σ a 0 5 = some v0) (h1 : rdV σ (tkE σ a) 1 5 = some v1) (h2 : rdV σ (tkE σ (tkE σ a)) 0 1439 = some v2) (h3 : rdV σ (tkE σ (tkE σ (tkE σ a))) v2 1439 = some v3) (hn : rdV σ (tkE σ (tkE σ (tkE σ (tkE σ a)))) 0 99 = none) : callL σ a = .inl (tkP σ (tkE σ (tkE σ (tkE σ (tkE σ a))))) := by rw [callL, nmR_s h0, nmR_s h1, nmR_s h2, nmR_s h3, nmR_n hn]
theorem callL_5 {σ : St} {a : Nat} {v0 v1 v2 v3 v4 : Int32} (h0 : rdV σ a 0 5 = some v0) (h1 : rdV σ (tkE σ a) 1 5 = some v1) (h2 : rdV σ (tkE σ (tkE σ a)) 0 1439 = some v2) (h3 : rdV σ (tkE σ (tkE σ (tkE σ a))) v2 1439 = some v3) (h4 : rdV σ (tkE σ (tkE σ (tkE σ (tkE σ a)))) 0 99 = some v4) (hn : rdV σ (tkE σ (tkE σ (tkE σ (tkE σ (tkE σ a))))) 0 99 = none) : callL σ a = .inl (tkP σ (tkE σ (tkE σ (tkE σ (tkE σ (tkE σ a)))))) := by rw [callL, nmR_s h0, nmR_s h1, nmR_s h2, nmR_s h3, nmR_s h4, nmR_n hn]
theorem callL_6 {σ : St} {a : Nat} {v0 v1 v2 v3 v4 v5 : Int32} (h0 : rdV σ a 0 5 = some v0) (h1 : rdV σ (tkE σ a) 1 5 = some v1) (h2 : rdV σ (tkE σ (tkE σ a)) 0 1439 = some v2) (h3 : rdV σ (tkE σ (tkE σ (tkE σ a))) v2 1439 = some v3) (h4 : rdV σ (tkE σ (tkE σ (tkE σ (tkE σ a)))) 0 99 = some v4) (h5 : rdV σ (tkE σ (tkE σ (tkE σ (tkE σ (tkE σ a))))) 0 99 = some v5) (hn : rdV σ (tkE σ (tkE σ (tkE σ (tkE σ (tkE σ (tkE σ a)))))) 0 99 = none) : callL σ a = .inl (tkP σ (tkE σ (tkE σ (tkE σ (tkE σ (tkE σ (tkE σ a))))))) := by rw [callL, nmR_s h0, nmR_s h1, nmR_s h2, nmR_s h3, nmR_s h4, nmR_s h5, nmR_n hn]
theorem callL_7 {σ : St} {a : Nat} {v0 v1 v2 v3 v4 v5 v6 : Int32} (h0 : rdV σ a 0 5 = some v0) (h1 : rdV σ (tkE σ a) 1 5 = some v1) (h2 : rdV σ (tkE σ (tkE σ a)) 0 1439 = some v2) (h3 : rdV σ (tkE σ (tkE σ (tkE σ a))) v2 1439 = some v3) (h4 : rdV σ (tkE σ (tkE σ (tkE σ (tkE σ a)))) 0 99 = some v4) (h5 : rdV σ (tkE σ (tkE σ (tkE σ (tkE σ (tkE σ a))))) 0 99 = some v5) (h6 : rdV σ (tkE σ (tkE σ (tkE σ (tkE σ (tkE σ (tkE σ a)))))) 0 99 = some v6) : callL σ a = .inr ([5, v0, v1, v2, v3, v4, v5, v6], (tkE σ (tkE σ (tkE σ (tkE σ (tkE σ (tkE σ (tkE σ a)))))))) := by rw [callL, nmR_s h0, nmR_s h1, nmR_s h2, nmR_s h3, nmR_s h4, nmR_s h5, nmR_s h6]
theorem lineL_0 {σ : St} {a : Nat}  (hn : ¬ isF σ a 7808276 5 = 0) : lineL σ a = thingL σ (tkE σ a) := by rw [lineL, if_neg hn]
theorem lineL_1 {σ : St} {a : Nat} (h0 : isF σ a 7808276 5 = 0) (hn : ¬ isF σ a 132588 4 = 0) : lineL σ a = oneL σ (tkE σ a) 1 400 := by rw [lineL, if_pos h0, if_neg hn]
theorem lineL_2 {σ : St} {a : Nat} (h0 : isF σ a 7808276 5 = 0) (h1 : isF σ a 132588 4 = 0) (hn : ¬ isF σ a 5884592 5 = 0) : lineL σ a = oneL σ (tkE σ a) 2 999 := by rw [lineL, if_pos h0, if_pos h1, if_neg hn]
theorem lineL_3 {σ : St} {a : Nat} (h0 : isF σ a 7808276 5 = 0) (h1 : isF σ a 132588 4 = 0) (h2 : isF σ a 5884592 5 = 0) (hn : ¬ isF σ a 14982306 5 = 0) : lineL σ a = oneL σ (tkE σ a) 3 1439 := by rw [lineL, if_pos h0, if_pos h1, if_pos h2, if_neg hn]
theorem lineL_4 {σ : St} {a : Nat} (h0 : isF σ a 7808276 5 = 0) (h1 : isF σ a 132588 4 = 0) (h2 : isF σ a 5884592 5 = 0) (h3 : isF σ a 14982306 5 = 0) (hn : ¬ isF σ a 25655 3 = 0) : lineL σ a = wayL σ (tkE σ a) := by rw [lineL, if_pos h0, if_pos h1, if_pos h2, if_pos h3, if_neg hn]
theorem lineL_5 {σ : St} {a : Nat} (h0 : isF σ a 7808276 5 = 0) (h1 : isF σ a 132588 4 = 0) (h2 : isF σ a 5884592 5 = 0) (h3 : isF σ a 14982306 5 = 0) (h4 : isF σ a 25655 3 = 0) (hn : ¬ isF σ a 405539 4 = 0) : lineL σ a = callL σ (tkE σ a) := by rw [lineL, if_pos h0, if_pos h1, if_pos h2, if_pos h3, if_pos h4, if_neg hn]
theorem lineL_6 {σ : St} {a : Nat} (h0 : isF σ a 7808276 5 = 0) (h1 : isF σ a 132588 4 = 0) (h2 : isF σ a 5884592 5 = 0) (h3 : isF σ a 14982306 5 = 0) (h4 : isF σ a 25655 3 = 0) (h5 : isF σ a 405539 4 = 0) (hn : ¬ isF σ a 674291 4 = 0) : lineL σ a = sortL σ (tkE σ a) := by rw [lineL, if_pos h0, if_pos h1, if_pos h2, if_pos h3, if_pos h4, if_pos h5, if_neg hn]
theorem lineL_7 {σ : St} {a : Nat} (h0 : isF σ a 7808276 5 = 0) (h1 : isF σ a 132588 4 = 0) (h2 : isF σ a 5884592 5 = 0) (h3 : isF σ a 14982306 5 = 0) (h4 : isF σ a 25655 3 = 0) (h5 : isF σ a 405539 4 = 0) (h6 : isF σ a 674291 4 = 0) : lineL σ a = .inl (tkP σ a) := by rw [lineL, if_pos h0, if_pos h1, if_pos h2, if_pos h3, if_pos h4, if_pos h5, if_pos h6]
theorem oneL_s {σ : St} {a : Nat} {w hi v : Int32} (h : rdV σ a 0 hi = some v) : oneL σ a w hi = .inr ([w, v], tkE σ a) := by rw [oneL, nmR_s h]
theorem oneL_n {σ : St} {a : Nat} {w hi : Int32} (h : rdV σ a 0 hi = none) : oneL σ a w hi = .inl (tkP σ a) := by rw [oneL, nmR_n h]

theorem cw_X3_X3_readsSort {R : Room} {s : State} {args : Array Value} (hts : ∀ w ∈ lw_all, w.before args s = true) (hR : rmX3_readsSort.frames + 1 ≤ R.frames ∧ 8 + (3 + 11) + rmX3_readsSort.locals ≤ R.locals) : CallW R s args RX3 RX3 124 yX3_readsSort cX3_readsSort 3 (some .boolean) (ws_ yX3_readsSort cX3_readsSort 3 (some .boolean)) rmX3_readsSort 0 0 0 := cwV 0 hts (lw_V q1266 q1268 qs42 q83 q1269) rfl rfl rfl (by decide +kernel) hR
theorem ud11 (f_ : Nat → Int32) (r_ : Nat) (y0 y1 y2 y3 y4 y5 y6 y7 : Int32) : rdLN f_ (upd (upd (upd (upd (upd (upd (upd (upd f_ (8 * r_) y0) (8 * r_ + 1 + 0) y1) (8 * r_ + 1 + 1) y2) (8 * r_ + 1 + 2) y3) (8 * r_ + 1 + 3) y4) (8 * r_ + 1 + 4) y5) (8 * r_ + 1 + 5) y6) (8 * r_ + 1 + 6) y7) r_ [y0, y1, y2, y3, y4, y5, y6, y7] := by
  refine ⟨fun j h2 => ?_, fun i hi => ?_⟩
  · have h2 : j < 8 := h2
    rcases (show j = 0 ∨ j = 1 ∨ j = 2 ∨ j = 3 ∨ j = 4 ∨ j = 5 ∨ j = 6 ∨ j = 7 by omega) with rfl | rfl | rfl | rfl | rfl | rfl | rfl | rfl <;> simp only [upd] <;> (repeat (first | rw [if_pos (by omega)] | rw [if_neg (by omega)])) <;> rfl
  · simp only [upd]
    repeat rw [if_neg (by omega)]
theorem cw_X3_X3_readsWay {R : Room} {s : State} {args : Array Value} (hts : ∀ w ∈ lw_all, w.before args s = true) (hR : rmX3_readsWay.frames + 1 ≤ R.frames ∧ 8 + (2 + 11) + rmX3_readsWay.locals ≤ R.locals) : CallW R s args RX3 RX3 121 yX3_readsWay cX3_readsWay 2 (some .boolean) (ws_ yX3_readsWay cX3_readsWay 2 (some .boolean)) rmX3_readsWay 0 0 0 := cwV 0 hts (lw_V q1258 q1260 qs40 q83 q1261) rfl rfl rfl (by decide +kernel) hR
theorem ud12 (f_ : Nat → Int32) (r_ : Nat) (y0 y1 : Int32) : rdLN f_ (upd (upd f_ (8 * r_) y0) (8 * r_ + 1 + 0) y1) r_ [y0, y1] := by
  refine ⟨fun j h2 => ?_, fun i hi => ?_⟩
  · have h2 : j < 2 := h2
    rcases (show j = 0 ∨ j = 1 by omega) with rfl | rfl <;> simp only [upd] <;> (repeat (first | rw [if_pos (by omega)] | rw [if_neg (by omega)])) <;> rfl
  · simp only [upd]
    repeat rw [if_neg (by omega)]
theorem ud13 (f_ : Nat → Int32) (r_ : Nat) (y0 y1 : Int32) : rdLN f_ (upd (upd f_ (8 * r_) y0) (8 * r_ + 1 + 0) y1) r_ [y0, y1] := by
  refine ⟨fun j h2 => ?_, fun i hi => ?_⟩
  · have h2 : j < 2 := h2
    rcases (show j = 0 ∨ j = 1 by omega) with rfl | rfl <;> simp only [upd] <;> (repeat (first | rw [if_pos (by omega)] | rw [if_neg (by omega)])) <;> rfl
  · simp only [upd]
    repeat rw [if_neg (by omega)]
theorem ud14 (f_ : Nat → Int32) (r_ : Nat) (y0 y1 : Int32) : rdLN f_ (upd (upd f_ (8 * r_) y0) (8 * r_ + 1 + 0) y1) r_ [y0, y1] := by
  refine ⟨fun j h2 => ?_, fun i hi => ?_⟩
  · have h2 : j < 2 := h2
    rcases (show j = 0 ∨ j = 1 by omega) with rfl | rfl <;> simp only [upd] <;> (repeat (first | rw [if_pos (by omega)] | rw [if_neg (by omega)])) <;> rfl
  · simp only [upd]
    repeat rw [if_neg (by omega)]
theorem cw_X3_X3_readsThing {R : Room} {s : State} {args : Array Value} (hts : ∀ w ∈ lw_all, w.before args s = true) (hR : rmX3_readsThing.frames + 1 ≤ R.frames ∧ 8 + (2 + 11) + rmX3_readsThing.locals ≤ R.locals) : CallW R s args RX3 RX3 117 yX3_readsThing cX3_readsThing 2 (some .boolean) (ws_ yX3_readsThing cX3_readsThing 2 (some .boolean)) rmX3_readsThing 0 0 0 := cwV 0 hts (lw_V q1246 q1248 qs38 q83 q1249) rfl rfl rfl (by decide +kernel) hR
def rmX3_readsLine : Room := { frames := 4, cells := 0, slots := 0, locals := 87 }
set_option maxHeartbeats 4000000 in
theorem mt_X3_readsLine (l : Launch) (D : va_G) (dA : Nat → ClassId) (h : Nat) (ad : Nat → Nat) (σ : St) (τ : Sc) (hmD : mD h ad) (a_ : Nat) (f_ : Nat → Int32) (r_ : Nat) (hI : Inv σ) (ha : a_ ≤ σ.len) (hr10 : r_ < 10) : Met l yX3_readsLine (ws_ yX3_readsLine cX3_readsLine 4 (some .boolean)) rmX3_readsLine (va_Pc [.ref h] (mB D dA h ad σ ((f_, nI r_, nI (tkE σ a_), nI (tkP σ a_), nI (tkE σ a_), τ.ents, τ.em, τ.combos, τ.all_, τ.weight, τ.gain, τ.ad_, τ.minute, τ.ds, τ.bl, τ.chosen) : Sc))) (va_Qi (fun r (u : MS) => (r = 1 ∧ ∃ fn : Nat → Int32, ∃ vs : List Int32, ∃ an : Nat, u = (σ, ((fn, nI (r_ + 1), nI (tkE σ an), nI (tkP σ an), nI (tkE σ an), τ.ents, τ.em, τ.combos, τ.all_, τ.weight, τ.gain, τ.ad_, τ.minute, τ.ds, τ.bl, τ.chosen) : Sc)) ∧ lineL σ a_ = .inr (vs, an) ∧ rdLN f_ fn r_ vs ∧ an ≤ σ.len) ∨ (r = 0 ∧ ∃ fp : Nat, u.1 = σ ∧ u.2.place = nI fp ∧ lineL σ a_ = .inl fp)) (fun u t => mB D dA h ad u.1 u.2 t) (mA h ad)) 0 0 (mA h ad) := by
  refine w_start (by decide) (Nat.le_of_ble_eq_true rfl) ?_
  intro p e s m args below meth c Q ls hQ hx hb hr hlocks hml hown hnm hts hB hl
  have hown : s.vm.findClass RX3 = some m.cls := hown
  have hl : lv_has ls 4 [(0, .ref h)] := hl
  obtain ⟨hP, hK⟩ := hB
  have hP : va_P D vwCl (mX dA h ad σ.txt σ.len σ.wt σ.pr σ.tools σ.load σ.purse σ.beg σ.ways σ.told σ.calls σ.sm σ.sorts σ.visits σ.vm f_ (nI r_) (nI (tkE σ a_)) (nI (tkP σ a_)) (nI (tkE σ a_)) τ.ents τ.em τ.combos τ.all_ τ.weight τ.gain τ.ad_ τ.minute τ.ds τ.bl τ.chosen) s.heap := hP
  have hS : va_S (mA h ad) s.heap s.heap [] := va_S.rf
  have hlen := hI.len
  have htp := tkP_b ha
  have htb := tkE_b ha
  refine lv_bipush (v := 8) hx hb dX3_readsLine_0 rfl ?_
  refine lv_aload_n hx hb dX3_readsLine_2 rfl (lv_at hl 0 rfl) ?_
  refine va_get (D := D) (ci := 0) (v := .int (nI r_)) (C := RX3) (T := TX3) (N := 31) hx hb hts in_X3 hown hK hP 0 rfl rfl 3 (by decide) (hts _ q1117) (fun _ h9 => h9) rfl dX3_readsLine_3 ?_
  refine lv_imul hx hb dX3_readsLine_6 ?_
  refine lv_istore_n (lv' := [(1, .int (8 * (nI r_))), (0, .ref h)]) hx hb dX3_readsLine_7 rfl hl (by decide) rfl (fun ls hl => ?_)
  refine lv_aload_n hx hb dX3_readsLine_8 rfl (lv_at hl 1 rfl) ?_
  refine lv_ldc (v := 7808276) hx hb hown (hts _ q1236) dX3_readsLine_9 ?_
  refine lv_iconst (v := 5) hx hb dX3_readsLine_11 rfl ?_
  refine cVi (As := [.int 7808276, .int 5]) (rest := []) ⟨hx, hb, hml, hown, hts⟩ (mt_X3_isWord l D dA h ad σ ((f_, nI r_, nI (tkE σ a_), nI (tkP σ a_), nI (tkE σ a_), τ.ents, τ.em, τ.combos, τ.all_, τ.weight, τ.gain, τ.ad_, τ.minute, τ.ds, τ.bl, τ.chosen) : Sc) a_ 7808276 5 hI ha (by omega)) (cw_X3_X3_isWord hts ⟨Nat.le_of_ble_eq_true rfl, Nat.le_of_ble_eq_true rfl⟩) mB_bl (mB_now hK hP) (va_recv hK hP (ci := 0) (q0 := 0) rfl rfl) rfl hl.1 rfl (Nat.le_of_ble_eq_true rfl) dX3_readsLine_12 ⟨Nat.le_of_ble_eq_true rfl, Nat.le_of_ble_eq_true rfl⟩ ?_
  refine lv_if_eq (tgt := 22) hx hb dX3_readsLine_15 rfl (fun h15 => ?_) (fun h15 => ?_)
  · have h15 : (isF σ a_ 7808276 5) = 0 := h15
    refine lv_aload_n hx hb dX3_readsLine_22 rfl (lv_at hl 1 rfl) ?_
    refine lv_ldc (v := 132588) hx hb hown (hts _ q1241) dX3_readsLine_23 ?_
    refine lv_iconst (v := 4) hx hb dX3_readsLine_25 rfl ?_
    refine cVi (As := [.int 132588, .int 4]) (rest := []) ⟨hx, hb, hml, hown, hts⟩ (mt_X3_isWord l D dA h ad σ ((f_, nI r_, nI (tkE σ a_), nI (tkP σ a_), nI (tkE σ a_), τ.ents, τ.em, τ.combos, τ.all_, τ.weight, τ.gain, τ.ad_, τ.minute, τ.ds, τ.bl, τ.chosen) : Sc) a_ 132588 4 hI ha (by omega)) (cw_X3_X3_isWord hts ⟨Nat.le_of_ble_eq_true rfl, Nat.le_of_ble_eq_true rfl⟩) mB_bl (mB_now hK hP) (va_recv hK hP (ci := 0) (q0 := 0) rfl rfl) rfl hl.1 rfl (Nat.le_of_ble_eq_true rfl) dX3_readsLine_26 ⟨Nat.le_of_ble_eq_true rfl, Nat.le_of_ble_eq_true rfl⟩ ?_
    refine lv_if_eq (tgt := 36) hx hb dX3_readsLine_29 rfl (fun h29 => ?_) (fun h29 => ?_)
    · have h29 : (isF σ a_ 132588 4) = 0 := h29
      refine lv_aload_n hx hb dX3_readsLine_36 rfl (lv_at hl 1 rfl) ?_
      refine lv_ldc (v := 5884592) hx hb hown (hts _ q1242) dX3_readsLine_37 ?_
      refine lv_iconst (v := 5) hx hb dX3_readsLine_39 rfl ?_
      refine cVi (As := [.int 5884592, .int 5]) (rest := []) ⟨hx, hb, hml, hown, hts⟩ (mt_X3_isWord l D dA h ad σ ((f_, nI r_, nI (tkE σ a_), nI (tkP σ a_), nI (tkE σ a_), τ.ents, τ.em, τ.combos, τ.all_, τ.weight, τ.gain, τ.ad_, τ.minute, τ.ds, τ.bl, τ.chosen) : Sc) a_ 5884592 5 hI ha (by omega)) (cw_X3_X3_isWord hts ⟨Nat.le_of_ble_eq_true rfl, Nat.le_of_ble_eq_true rfl⟩) mB_bl (mB_now hK hP) (va_recv hK hP (ci := 0) (q0 := 0) rfl rfl) rfl hl.1 rfl (Nat.le_of_ble_eq_true rfl) dX3_readsLine_40 ⟨Nat.le_of_ble_eq_true rfl, Nat.le_of_ble_eq_true rfl⟩ ?_
      refine lv_if_eq (tgt := 50) hx hb dX3_readsLine_43 rfl (fun h43 => ?_) (fun h43 => ?_)
      · have h43 : (isF σ a_ 5884592 5) = 0 := h43
        refine lv_aload_n hx hb dX3_readsLine_50 rfl (lv_at hl 1 rfl) ?_
        refine lv_ldc (v := 14982306) hx hb hown (hts _ q1243) dX3_readsLine_51 ?_
        refine lv_iconst (v := 5) hx hb dX3_readsLine_53 rfl ?_
        refine cVi (As := [.int 14982306, .int 5]) (rest := []) ⟨hx, hb, hml, hown, hts⟩ (mt_X3_isWord l D dA h ad σ ((f_, nI r_, nI (tkE σ a_), nI (tkP σ a_), nI (tkE σ a_), τ.ents, τ.em, τ.combos, τ.all_, τ.weight, τ.gain, τ.ad_, τ.minute, τ.ds, τ.bl, τ.chosen) : Sc) a_ 14982306 5 hI ha (by omega)) (cw_X3_X3_isWord hts ⟨Nat.le_of_ble_eq_true rfl, Nat.le_of_ble_eq_true rfl⟩) mB_bl (mB_now hK hP) (va_recv hK hP (ci := 0) (q0 := 0) rfl rfl) rfl hl.1 rfl (Nat.le_of_ble_eq_true rfl) dX3_readsLine_54 ⟨Nat.le_of_ble_eq_true rfl, Nat.le_of_ble_eq_true rfl⟩ ?_
        refine lv_if_eq (tgt := 64) hx hb dX3_readsLine_57 rfl (fun h57 => ?_) (fun h57 => ?_)
        · have h57 : (isF σ a_ 14982306 5) = 0 := h57
          refine lv_aload_n hx hb dX3_readsLine_64 rfl (lv_at hl 1 rfl) ?_
          refine lv_sipush (v := 25655) hx hb dX3_readsLine_65 rfl ?_
          refine lv_iconst (v := 3) hx hb dX3_readsLine_68 rfl ?_
          refine cVi (As := [.int 25655, .int 3]) (rest := []) ⟨hx, hb, hml, hown, hts⟩ (mt_X3_isWord l D dA h ad σ ((f_, nI r_, nI (tkE σ a_), nI (tkP σ a_), nI (tkE σ a_), τ.ents, τ.em, τ.combos, τ.all_, τ.weight, τ.gain, τ.ad_, τ.minute, τ.ds, τ.bl, τ.chosen) : Sc) a_ 25655 3 hI ha (by omega)) (cw_X3_X3_isWord hts ⟨Nat.le_of_ble_eq_true rfl, Nat.le_of_ble_eq_true rfl⟩) mB_bl (mB_now hK hP) (va_recv hK hP (ci := 0) (q0 := 0) rfl rfl) rfl hl.1 rfl (Nat.le_of_ble_eq_true rfl) dX3_readsLine_69 ⟨Nat.le_of_ble_eq_true rfl, Nat.le_of_ble_eq_true rfl⟩ ?_
          refine lv_if_eq (tgt := 79) hx hb dX3_readsLine_72 rfl (fun h72 => ?_) (fun h72 => ?_)
          · have h72 : (isF σ a_ 25655 3) = 0 := h72
            refine lv_aload_n hx hb dX3_readsLine_79 rfl (lv_at hl 1 rfl) ?_
            refine lv_ldc (v := 405539) hx hb hown (hts _ q1244) dX3_readsLine_80 ?_
            refine lv_iconst (v := 4) hx hb dX3_readsLine_82 rfl ?_
            refine cVi (As := [.int 405539, .int 4]) (rest := []) ⟨hx, hb, hml, hown, hts⟩ (mt_X3_isWord l D dA h ad σ ((f_, nI r_, nI (tkE σ a_), nI (tkP σ a_), nI (tkE σ a_), τ.ents, τ.em, τ.combos, τ.all_, τ.weight, τ.gain, τ.ad_, τ.minute, τ.ds, τ.bl, τ.chosen) : Sc) a_ 405539 4 hI ha (by omega)) (cw_X3_X3_isWord hts ⟨Nat.le_of_ble_eq_true rfl, Nat.le_of_ble_eq_true rfl⟩) mB_bl (mB_now hK hP) (va_recv hK hP (ci := 0) (q0 := 0) rfl rfl) rfl hl.1 rfl (Nat.le_of_ble_eq_true rfl) dX3_readsLine_83 ⟨Nat.le_of_ble_eq_true rfl, Nat.le_of_ble_eq_true rfl⟩ ?_
            refine lv_if_eq (tgt := 93) hx hb dX3_readsLine_86 rfl (fun h86 => ?_) (fun h86 => ?_)
            · have h86 : (isF σ a_ 405539 4) = 0 := h86
              refine lv_aload_n hx hb dX3_readsLine_93 rfl (lv_at hl 1 rfl) ?_
              refine lv_ldc (v := 674291) hx hb hown (hts _ q1245) dX3_readsLine_94 ?_
              refine lv_iconst (v := 4) hx hb dX3_readsLine_96 rfl ?_
              refine cVi (As := [.int 674291, .int 4]) (rest := []) ⟨hx, hb, hml, hown, hts⟩ (mt_X3_isWord l D dA h ad σ ((f_, nI r_, nI (tkE σ a_), nI (tkP σ a_), nI (tkE σ a_), τ.ents, τ.em, τ.combos, τ.all_, τ.weight, τ.gain, τ.ad_, τ.minute, τ.ds, τ.bl, τ.chosen) : Sc) a_ 674291 4 hI ha (by omega)) (cw_X3_X3_isWord hts ⟨Nat.le_of_ble_eq_true rfl, Nat.le_of_ble_eq_true rfl⟩) mB_bl (mB_now hK hP) (va_recv hK hP (ci := 0) (q0 := 0) rfl rfl) rfl hl.1 rfl (Nat.le_of_ble_eq_true rfl) dX3_readsLine_97 ⟨Nat.le_of_ble_eq_true rfl, Nat.le_of_ble_eq_true rfl⟩ ?_
              refine lv_if_eq (tgt := 108) hx hb dX3_readsLine_100 rfl (fun h100 => ?_) (fun h100 => ?_)
              · have h100 : (isF σ a_ 674291 4) = 0 := h100
                refine lv_iconst (v := (-1)) hx hb dX3_readsLine_108 rfl ?_
                refine lv_istore_n (lv' := [(2, .int (-1)), (1, .int (8 * (nI r_))), (0, .ref h)]) hx hb dX3_readsLine_109 rfl hl (by decide) rfl (fun ls hl => ?_)
                refine lv_iload_n hx hb dX3_readsLine_110 rfl (lv_at hl 0 rfl) ?_
                refine lv_iconst (v := (-1)) hx hb dX3_readsLine_111 rfl ?_
                refine lv_icmp_ne (tgt := 117) hx hb dX3_readsLine_112 rfl (fun h9 => ?_) (fun _ => ?_)
                · exact absurd h9 (by decide)
                refine lv_iconst (v := 0) hx hb dX3_readsLine_115 rfl ?_
                exact rm_z (u := (σ, ((f_, nI r_, nI (tkE σ a_), nI (tkP σ a_), nI (tkE σ a_), τ.ents, τ.em, τ.combos, τ.all_, τ.weight, τ.gain, τ.ad_, τ.minute, τ.ds, τ.bl, τ.chosen) : Sc))) hQ hx hb hr hlocks hK hP hS (Or.inl rfl) ((Or.inr ⟨rfl, tkP σ a_, rfl, rfl, (lineL_7 h15 h29 h43 h57 h72 h86 h100)⟩)) dX3_readsLine_116
              · have h100 : ¬ ((isF σ a_ 674291 4) = 0) := h100
                refine lv_bipush (v := 6) hx hb dX3_readsLine_103 rfl ?_
                refine lv_goto (tgt := 109) hx hb dX3_readsLine_105 rfl ?_
                refine lv_istore_n (lv' := [(2, .int 6), (1, .int (8 * (nI r_))), (0, .ref h)]) hx hb dX3_readsLine_109 rfl hl (by decide) rfl (fun ls hl => ?_)
                refine lv_iload_n hx hb dX3_readsLine_110 rfl (lv_at hl 0 rfl) ?_
                refine lv_iconst (v := (-1)) hx hb dX3_readsLine_111 rfl ?_
                refine lv_icmp_ne (tgt := 117) hx hb dX3_readsLine_112 rfl (fun _ => ?_) (fun h9 => ?_)
                rotate_left
                · exact absurd h9 (by decide)
                refine lv_aload_n hx hb dX3_readsLine_117 rfl (lv_at hl 2 rfl) ?_
                refine mcVv (As := []) (rest := []) ⟨hx, hb, hml, hown, hts⟩ (mt_X3_token l D dA h ad σ ((f_, nI r_, nI (tkE σ a_), nI (tkP σ a_), nI (tkE σ a_), τ.ents, τ.em, τ.combos, τ.all_, τ.weight, τ.gain, τ.ad_, τ.minute, τ.ds, τ.bl, τ.chosen) : Sc) hmD (tkE σ a_) hI (tk2 ha)) (cw_X3_X3_token hts ⟨Nat.le_of_ble_eq_true rfl, Nat.le_of_ble_eq_true rfl⟩) (mB_now hK hP) (va_recv hK hP (ci := 0) (q0 := 0) rfl rfl) rfl hl.1 rfl (Nat.le_of_ble_eq_true rfl) dX3_readsLine_118 ⟨Nat.le_of_ble_eq_true rfl, Nat.le_of_ble_eq_true rfl⟩ hS (fun u_2 H locs hp_3 hP hS => ?_)
                subst hp_3
                have hP : va_P D vwCl (mX dA h ad σ.txt σ.len σ.wt σ.pr σ.tools σ.load σ.purse σ.beg σ.ways σ.told σ.calls σ.sm σ.sorts σ.visits σ.vm f_ (nI r_) (nI (tkE σ (tkE σ a_))) (nI (tkP σ (tkE σ a_))) (nI (tkE σ (tkE σ a_))) τ.ents τ.em τ.combos τ.all_ τ.weight τ.gain τ.ad_ τ.minute τ.ds τ.bl τ.chosen) H := hP
                obtain ⟨a_4, ea_4⟩ : ∃ x, x = tkE σ a_ := ⟨_, rfl⟩
                rw [← ea_4] at hP
                have ha_4 : a_4 ≤ σ.len := by rw [ea_4]; exact tk2 ha
                refine lv_aload_n hx hb dX3_readsLine_121 rfl (lv_at hl 2 rfl) ?_
                refine va_get (D := D) (ci := 0) (v := .ref (ad 1)) (C := RX3) (T := TX3) (N := 31) hx hb hts in_X3 hown hK hP 0 rfl rfl 2 (by decide) (hts _ q1116) (fun _ h9 => h9) rfl dX3_readsLine_122 ?_
                refine lv_iload_n hx hb dX3_readsLine_125 rfl (lv_at hl 1 rfl) ?_
                refine lv_iload_n hx hb dX3_readsLine_126 rfl (lv_at hl 0 rfl) ?_
                refine wa_iast (f := f_) hx hb hK hP (mD_va hmD dA σ ((f_, nI r_, nI (tkE σ a_4), nI (tkP σ a_4), nI (tkE σ a_4), τ.ents, τ.em, τ.combos, τ.all_, τ.weight, τ.gain, τ.ad_, τ.minute, τ.ds, τ.bl, τ.chosen) : Sc)) hS 2 0 rfl rfl (8 * r_) ((nz_mul rfl rfl)) (by omega) (by decide) dX3_readsLine_127 (fun H locs f_5 ef_5 hP hS => ?_)
                have hP : va_P D vwCl (mX dA h ad σ.txt σ.len σ.wt σ.pr σ.tools σ.load σ.purse σ.beg σ.ways σ.told σ.calls σ.sm σ.sorts σ.visits σ.vm f_5 (nI r_) (nI (tkE σ a_4)) (nI (tkP σ a_4)) (nI (tkE σ a_4)) τ.ents τ.em τ.combos τ.all_ τ.weight τ.gain τ.ad_ τ.minute τ.ds τ.bl τ.chosen) H := hP
                refine lv_iconst (v := 0) hx hb dX3_readsLine_128 rfl ?_
                refine lv_istore_n (lv' := [(3, .int 0), (2, .int 6), (1, .int (8 * (nI r_))), (0, .ref h)]) hx hb dX3_readsLine_129 rfl hl (by decide) rfl (fun ls hl => ?_)
                refine lv_iload_n hx hb dX3_readsLine_130 rfl (lv_at hl 1 rfl) ?_
                refine lv_tableOut (tgt := 317) hx hb dX3_readsLine_131 (by decide) rfl ?_
                refine lv_aload_n hx hb dX3_readsLine_317 rfl (lv_at hl 3 rfl) ?_
                refine mcVi (As := []) (rest := []) ⟨hx, hb, hml, hown, hts⟩ (mt_X3_readsSort l D dA h ad σ ((f_5, nI r_, nI (tkE σ a_4), nI (tkP σ a_4), nI (tkE σ a_4), τ.ents, τ.em, τ.combos, τ.all_, τ.weight, τ.gain, τ.ad_, τ.minute, τ.ds, τ.bl, τ.chosen) : Sc) hmD a_4 f_5 r_ hI ha_4 (by omega)) (cw_X3_X3_readsSort hts ⟨Nat.le_of_ble_eq_true rfl, Nat.le_of_ble_eq_true rfl⟩) (mB_now hK hP) (va_recv hK hP (ci := 0) (q0 := 0) rfl rfl) rfl hl.1 rfl (Nat.le_of_ble_eq_true rfl) dX3_readsLine_318 ⟨Nat.le_of_ble_eq_true rfl, Nat.le_of_ble_eq_true rfl⟩ hS (fun r_6 u_7 H locs hp_8 hP hS => ?_)
                rcases hp_8 with ⟨rfl, fn_9, vs_10, an_11, rfl, hq_12, hro_13, han_14⟩ | ⟨rfl, fp_15, hu_17, k_18, hq_16⟩
                · have hP : va_P D vwCl (mX dA h ad σ.txt σ.len σ.wt σ.pr σ.tools σ.load σ.purse σ.beg σ.ways σ.told σ.calls σ.sm σ.sorts σ.visits σ.vm fn_9 (nI r_) (nI (tkE σ an_11)) (nI (tkP σ an_11)) (nI (tkE σ an_11)) τ.ents τ.em τ.combos τ.all_ τ.weight τ.gain τ.ad_ τ.minute τ.ds τ.bl τ.chosen) H := hP
                  refine lv_istore_n (lv' := [(3, .int 1), (2, .int 6), (1, .int (8 * (nI r_))), (0, .ref h)]) hx hb dX3_readsLine_321 rfl hl (by decide) rfl (fun ls hl => ?_)
                  refine lv_aload_n hx hb dX3_readsLine_322 rfl (lv_at hl 3 rfl) ?_
                  refine lv_dup hx hb dX3_readsLine_323 rfl ?_
                  refine va_get (D := D) (ci := 0) (v := .int (nI r_)) (C := RX3) (T := TX3) (N := 31) hx hb hts in_X3 hown hK hP 0 rfl rfl 3 (by decide) (hts _ q1117) (fun _ h9 => h9) rfl dX3_readsLine_324 ?_
                  refine lv_iload_n hx hb dX3_readsLine_327 rfl (lv_at hl 0 rfl) ?_
                  refine lv_if_eq (tgt := 335) hx hb dX3_readsLine_328 rfl (fun h9 => ?_) (fun _ => ?_)
                  · exact absurd h9 (by decide)
                  refine lv_iconst (v := 1) hx hb dX3_readsLine_331 rfl ?_
                  refine lv_goto (tgt := 336) hx hb dX3_readsLine_332 rfl ?_
                  refine lv_iadd hx hb dX3_readsLine_336 ?_
                  refine w_topi (nz_add rfl rfl) ?_
                  refine va_put (D := D) (ci := 0) (v := .int (nI (r_ + 1))) (ty := .int) (C := RX3) (T := TX3) (N := 31) hx hb hts in_X3 tyX3 tyX3_ok nmX3 hown hK hP (mD_va hmD dA σ ((fn_9, nI r_, nI (tkE σ an_11), nI (tkP σ an_11), nI (tkE σ an_11), τ.ents, τ.em, τ.combos, τ.all_, τ.weight, τ.gain, τ.ad_, τ.minute, τ.ds, τ.bl, τ.chosen) : Sc)) hS 0 rfl rfl 3 (by decide) (hts _ q1117) (fun _ h9 => h9) rfl (by decide +kernel) (rfl) (rfl) (Nat.le_of_ble_eq_true rfl) dX3_readsLine_337 (fun H locs hP _ hS => ?_)
                  have hP : va_P D vwCl (mX dA h ad σ.txt σ.len σ.wt σ.pr σ.tools σ.load σ.purse σ.beg σ.ways σ.told σ.calls σ.sm σ.sorts σ.visits σ.vm fn_9 (nI (r_ + 1)) (nI (tkE σ an_11)) (nI (tkP σ an_11)) (nI (tkE σ an_11)) τ.ents τ.em τ.combos τ.all_ τ.weight τ.gain τ.ad_ τ.minute τ.ds τ.bl τ.chosen) H := hP
                  refine lv_iload_n hx hb dX3_readsLine_340 rfl (lv_at hl 0 rfl) ?_
                  exact rm_z (u := (σ, ((fn_9, nI (r_ + 1), nI (tkE σ an_11), nI (tkP σ an_11), nI (tkE σ an_11), τ.ents, τ.em, τ.combos, τ.all_, τ.weight, τ.gain, τ.ad_, τ.minute, τ.ds, τ.bl, τ.chosen) : Sc))) hQ hx hb hr hlocks hK hP hS (Or.inr rfl) ((Or.inl ⟨rfl, fn_9, vs_10, an_11, rfl, (by subst ea_4; exact (lineL_6 h15 h29 h43 h57 h72 h86 h100).trans hq_12), (rd_line (w := 6) ef_5 hro_13 (by obtain ⟨_, _, _, _, _, z9, -⟩ := sort_i hq_12; rw [z9]; rfl)), (han_14)⟩)) dX3_readsLine_341
                · have hP : va_P D vwCl (mX dA h ad u_7.1.txt u_7.1.len u_7.1.wt u_7.1.pr u_7.1.tools u_7.1.load u_7.1.purse u_7.1.beg u_7.1.ways u_7.1.told u_7.1.calls u_7.1.sm u_7.1.sorts u_7.1.visits u_7.1.vm u_7.2.read u_7.2.rm u_7.2.at_ u_7.2.place u_7.2.end_ u_7.2.ents u_7.2.em u_7.2.combos u_7.2.all_ u_7.2.weight u_7.2.gain u_7.2.ad_ u_7.2.minute u_7.2.ds u_7.2.bl u_7.2.chosen) H := hP
                  rw [hu_17, k_18] at hP
                  clear hu_17 k_18
                  have hP : va_P D vwCl (mX dA h ad σ.txt σ.len σ.wt σ.pr σ.tools σ.load σ.purse σ.beg σ.ways σ.told σ.calls σ.sm σ.sorts σ.visits σ.vm u_7.2.read u_7.2.rm u_7.2.at_ (nI fp_15) u_7.2.end_ u_7.2.ents u_7.2.em u_7.2.combos u_7.2.all_ u_7.2.weight u_7.2.gain u_7.2.ad_ u_7.2.minute u_7.2.ds u_7.2.bl u_7.2.chosen) H := hP
                  refine lv_istore_n (lv' := [(3, .int 0), (2, .int 6), (1, .int (8 * (nI r_))), (0, .ref h)]) hx hb dX3_readsLine_321 rfl hl (by decide) rfl (fun ls hl => ?_)
                  refine lv_aload_n hx hb dX3_readsLine_322 rfl (lv_at hl 3 rfl) ?_
                  refine lv_dup hx hb dX3_readsLine_323 rfl ?_
                  refine va_get (D := D) (ci := 0) (v := .int u_7.2.rm) (C := RX3) (T := TX3) (N := 31) hx hb hts in_X3 hown hK hP 0 rfl rfl 3 (by decide) (hts _ q1117) (fun _ h9 => h9) rfl dX3_readsLine_324 ?_
                  refine lv_iload_n hx hb dX3_readsLine_327 rfl (lv_at hl 0 rfl) ?_
                  refine lv_if_eq (tgt := 335) hx hb dX3_readsLine_328 rfl (fun _ => ?_) (fun h9 => ?_)
                  rotate_left
                  · exact absurd (by decide) h9
                  refine lv_iconst (v := 0) hx hb dX3_readsLine_335 rfl ?_
                  refine lv_iadd hx hb dX3_readsLine_336 ?_
                  refine va_put (D := D) (ci := 0) (v := .int (u_7.2.rm + 0)) (ty := .int) (C := RX3) (T := TX3) (N := 31) hx hb hts in_X3 tyX3 tyX3_ok nmX3 hown hK hP (mD_va hmD dA σ ((u_7.2.read, u_7.2.rm, u_7.2.at_, nI fp_15, u_7.2.end_, u_7.2.ents, u_7.2.em, u_7.2.combos, u_7.2.all_, u_7.2.weight, u_7.2.gain, u_7.2.ad_, u_7.2.minute, u_7.2.ds, u_7.2.bl, u_7.2.chosen) : Sc)) hS 0 rfl rfl 3 (by decide) (hts _ q1117) (fun _ h9 => h9) rfl (by decide +kernel) (rfl) (rfl) (Nat.le_of_ble_eq_true rfl) dX3_readsLine_337 (fun H locs hP _ hS => ?_)
                  have hP : va_P D vwCl (mX dA h ad σ.txt σ.len σ.wt σ.pr σ.tools σ.load σ.purse σ.beg σ.ways σ.told σ.calls σ.sm σ.sorts σ.visits σ.vm u_7.2.read (u_7.2.rm + 0) u_7.2.at_ (nI fp_15) u_7.2.end_ u_7.2.ents u_7.2.em u_7.2.combos u_7.2.all_ u_7.2.weight u_7.2.gain u_7.2.ad_ u_7.2.minute u_7.2.ds u_7.2.bl u_7.2.chosen) H := hP
                  refine lv_iload_n hx hb dX3_readsLine_340 rfl (lv_at hl 0 rfl) ?_
                  exact rm_z (u := (σ, ((u_7.2.read, u_7.2.rm + 0, u_7.2.at_, nI fp_15, u_7.2.end_, u_7.2.ents, u_7.2.em, u_7.2.combos, u_7.2.all_, u_7.2.weight, u_7.2.gain, u_7.2.ad_, u_7.2.minute, u_7.2.ds, u_7.2.bl, u_7.2.chosen) : Sc))) hQ hx hb hr hlocks hK hP hS (Or.inl rfl) ((Or.inr ⟨rfl, fp_15, rfl, rfl, (by subst ea_4; exact (lineL_6 h15 h29 h43 h57 h72 h86 h100).trans hq_16)⟩)) dX3_readsLine_341
            · have h86 : ¬ ((isF σ a_ 405539 4) = 0) := h86
              refine lv_iconst (v := 5) hx hb dX3_readsLine_89 rfl ?_
              refine lv_goto (tgt := 109) hx hb dX3_readsLine_90 rfl ?_
              refine lv_istore_n (lv' := [(2, .int 5), (1, .int (8 * (nI r_))), (0, .ref h)]) hx hb dX3_readsLine_109 rfl hl (by decide) rfl (fun ls hl => ?_)
              refine lv_iload_n hx hb dX3_readsLine_110 rfl (lv_at hl 0 rfl) ?_
              refine lv_iconst (v := (-1)) hx hb dX3_readsLine_111 rfl ?_
              refine lv_icmp_ne (tgt := 117) hx hb dX3_readsLine_112 rfl (fun _ => ?_) (fun h9 => ?_)
              rotate_left
              · exact absurd h9 (by decide)
              refine lv_aload_n hx hb dX3_readsLine_117 rfl (lv_at hl 2 rfl) ?_
              refine mcVv (As := []) (rest := []) ⟨hx, hb, hml, hown, hts⟩ (mt_X3_token l D dA h ad σ ((f_, nI r_, nI (tkE σ a_), nI (tkP σ a_), nI (tkE σ a_), τ.ents, τ.em, τ.combos, τ.all_, τ.weight, τ.gain, τ.ad_, τ.minute, τ.ds, τ.bl, τ.chosen) : Sc) hmD (tkE σ a_) hI (tk2 ha)) (cw_X3_X3_token hts ⟨Nat.le_of_ble_eq_true rfl, Nat.le_of_ble_eq_true rfl⟩) (mB_now hK hP) (va_recv hK hP (ci := 0) (q0 := 0) rfl rfl) rfl hl.1 rfl (Nat.le_of_ble_eq_true rfl) dX3_readsLine_118 ⟨Nat.le_of_ble_eq_true rfl, Nat.le_of_ble_eq_true rfl⟩ hS (fun u_20 H locs hp_21 hP hS => ?_)
              subst hp_21
              have hP : va_P D vwCl (mX dA h ad σ.txt σ.len σ.wt σ.pr σ.tools σ.load σ.purse σ.beg σ.ways σ.told σ.calls σ.sm σ.sorts σ.visits σ.vm f_ (nI r_) (nI (tkE σ (tkE σ a_))) (nI (tkP σ (tkE σ a_))) (nI (tkE σ (tkE σ a_))) τ.ents τ.em τ.combos τ.all_ τ.weight τ.gain τ.ad_ τ.minute τ.ds τ.bl τ.chosen) H := hP
              obtain ⟨a_22, ea_22⟩ : ∃ x, x = tkE σ a_ := ⟨_, rfl⟩
              rw [← ea_22] at hP
              have ha_22 : a_22 ≤ σ.len := by rw [ea_22]; exact tk2 ha
              refine lv_aload_n hx hb dX3_readsLine_121 rfl (lv_at hl 2 rfl) ?_
              refine va_get (D := D) (ci := 0) (v := .ref (ad 1)) (C := RX3) (T := TX3) (N := 31) hx hb hts in_X3 hown hK hP 0 rfl rfl 2 (by decide) (hts _ q1116) (fun _ h9 => h9) rfl dX3_readsLine_122 ?_
              refine lv_iload_n hx hb dX3_readsLine_125 rfl (lv_at hl 1 rfl) ?_
              refine lv_iload_n hx hb dX3_readsLine_126 rfl (lv_at hl 0 rfl) ?_
              refine wa_iast (f := f_) hx hb hK hP (mD_va hmD dA σ ((f_, nI r_, nI (tkE σ a_22), nI (tkP σ a_22), nI (tkE σ a_22), τ.ents, τ.em, τ.combos, τ.all_, τ.weight, τ.gain, τ.ad_, τ.minute, τ.ds, τ.bl, τ.chosen) : Sc)) hS 2 0 rfl rfl (8 * r_) ((nz_mul rfl rfl)) (by omega) (by decide) dX3_readsLine_127 (fun H locs f_23 ef_23 hP hS => ?_)
              have hP : va_P D vwCl (mX dA h ad σ.txt σ.len σ.wt σ.pr σ.tools σ.load σ.purse σ.beg σ.ways σ.told σ.calls σ.sm σ.sorts σ.visits σ.vm f_23 (nI r_) (nI (tkE σ a_22)) (nI (tkP σ a_22)) (nI (tkE σ a_22)) τ.ents τ.em τ.combos τ.all_ τ.weight τ.gain τ.ad_ τ.minute τ.ds τ.bl τ.chosen) H := hP
              refine lv_iconst (v := 0) hx hb dX3_readsLine_128 rfl ?_
              refine lv_istore_n (lv' := [(3, .int 0), (2, .int 5), (1, .int (8 * (nI r_))), (0, .ref h)]) hx hb dX3_readsLine_129 rfl hl (by decide) rfl (fun ls hl => ?_)
              refine lv_iload_n hx hb dX3_readsLine_130 rfl (lv_at hl 1 rfl) ?_
              refine lv_tableIn (tgt := 223) hx hb dX3_readsLine_131 (by decide) (by decide) rfl rfl ?_
              refine lv_aload_n hx hb dX3_readsLine_223 rfl (lv_at hl 3 rfl) ?_
              refine lv_iconst (v := 0) hx hb dX3_readsLine_224 rfl ?_
              refine lv_iconst (v := 0) hx hb dX3_readsLine_225 rfl ?_
              refine lv_iconst (v := 5) hx hb dX3_readsLine_226 rfl ?_
              refine mcVi (As := [.int 0, .int 0, .int 5]) (rest := []) ⟨hx, hb, hml, hown, hts⟩ (mt_X3_reads l D dA h ad σ ((f_23, nI r_, nI (tkE σ a_22), nI (tkP σ a_22), nI (tkE σ a_22), τ.ents, τ.em, τ.combos, τ.all_, τ.weight, τ.gain, τ.ad_, τ.minute, τ.ds, τ.bl, τ.chosen) : Sc) hmD a_22 f_23 r_ 0 0 5 hI ha_22 (by omega) (by omega)) (cw_X3_X3_reads hts ⟨Nat.le_of_ble_eq_true rfl, Nat.le_of_ble_eq_true rfl⟩) (mB_now hK hP) (va_recv hK hP (ci := 0) (q0 := 0) rfl rfl) rfl hl.1 rfl (Nat.le_of_ble_eq_true rfl) dX3_readsLine_227 ⟨Nat.le_of_ble_eq_true rfl, Nat.le_of_ble_eq_true rfl⟩ hS (fun r_24 u_25 H locs hp_26 hP hS => ?_)
              rcases hp_26 with ⟨rfl, v_27, rfl, hv_28⟩ | ⟨rfl, rfl, hv_29⟩
              · have hP : va_P D vwCl (mX dA h ad σ.txt σ.len σ.wt σ.pr σ.tools σ.load σ.purse σ.beg σ.ways σ.told σ.calls σ.sm σ.sorts σ.visits σ.vm (upd f_23 (8 * r_ + 1 + 0) v_27) (nI r_) (nI (tkE σ (tkE σ a_22))) (nI (tkP σ (tkE σ a_22))) (nI (tkE σ (tkE σ a_22))) τ.ents τ.em τ.combos τ.all_ τ.weight τ.gain τ.ad_ τ.minute τ.ds τ.bl τ.chosen) H := hP
                obtain ⟨g_30, eg_30⟩ : ∃ x, x = upd f_23 (8 * r_ + 1 + 0) v_27 := ⟨_, rfl⟩
                rw [← eg_30] at hP
                obtain ⟨a_31, ea_31⟩ : ∃ x, x = tkE σ a_22 := ⟨_, rfl⟩
                rw [← ea_31] at hP
                have ha_31 : a_31 ≤ σ.len := by rw [ea_31]; exact tk2 ha_22
                refine lv_if_eq (tgt := 312) hx hb dX3_readsLine_230 rfl (fun h9 => ?_) (fun _ => ?_)
                · exact absurd h9 (by decide)
                refine lv_aload_n hx hb dX3_readsLine_233 rfl (lv_at hl 3 rfl) ?_
                refine lv_iconst (v := 1) hx hb dX3_readsLine_234 rfl ?_
                refine lv_iconst (v := 1) hx hb dX3_readsLine_235 rfl ?_
                refine lv_iconst (v := 5) hx hb dX3_readsLine_236 rfl ?_
                refine mcVi (As := [.int 1, .int 1, .int 5]) (rest := []) ⟨hx, hb, hml, hown, hts⟩ (mt_X3_reads l D dA h ad σ ((g_30, nI r_, nI (tkE σ a_31), nI (tkP σ a_31), nI (tkE σ a_31), τ.ents, τ.em, τ.combos, τ.all_, τ.weight, τ.gain, τ.ad_, τ.minute, τ.ds, τ.bl, τ.chosen) : Sc) hmD a_31 g_30 r_ 1 1 5 hI ha_31 (by omega) (by omega)) (cw_X3_X3_reads hts ⟨Nat.le_of_ble_eq_true rfl, Nat.le_of_ble_eq_true rfl⟩) (mB_now hK hP) (va_recv hK hP (ci := 0) (q0 := 0) rfl rfl) rfl hl.1 rfl (Nat.le_of_ble_eq_true rfl) dX3_readsLine_237 ⟨Nat.le_of_ble_eq_true rfl, Nat.le_of_ble_eq_true rfl⟩ hS (fun r_32 u_33 H locs hp_34 hP hS => ?_)
                rcases hp_34 with ⟨rfl, v_35, rfl, hv_36⟩ | ⟨rfl, rfl, hv_37⟩
                · have hP : va_P D vwCl (mX dA h ad σ.txt σ.len σ.wt σ.pr σ.tools σ.load σ.purse σ.beg σ.ways σ.told σ.calls σ.sm σ.sorts σ.visits σ.vm (upd g_30 (8 * r_ + 1 + 1) v_35) (nI r_) (nI (tkE σ (tkE σ a_31))) (nI (tkP σ (tkE σ a_31))) (nI (tkE σ (tkE σ a_31))) τ.ents τ.em τ.combos τ.all_ τ.weight τ.gain τ.ad_ τ.minute τ.ds τ.bl τ.chosen) H := hP
                  obtain ⟨g_38, eg_38⟩ : ∃ x, x = upd g_30 (8 * r_ + 1 + 1) v_35 := ⟨_, rfl⟩
                  rw [← eg_38] at hP
                  obtain ⟨a_39, ea_39⟩ : ∃ x, x = tkE σ a_31 := ⟨_, rfl⟩
                  rw [← ea_39] at hP
                  have ha_39 : a_39 ≤ σ.len := by rw [ea_39]; exact tk2 ha_31
                  refine lv_if_eq (tgt := 312) hx hb dX3_readsLine_240 rfl (fun h9 => ?_) (fun _ => ?_)
                  · exact absurd h9 (by decide)
                  refine lv_aload_n hx hb dX3_readsLine_243 rfl (lv_at hl 3 rfl) ?_
                  refine lv_iconst (v := 2) hx hb dX3_readsLine_244 rfl ?_
                  refine lv_iconst (v := 0) hx hb dX3_readsLine_245 rfl ?_
                  refine lv_sipush (v := 1439) hx hb dX3_readsLine_246 rfl ?_
                  refine mcVi (As := [.int 2, .int 0, .int 1439]) (rest := []) ⟨hx, hb, hml, hown, hts⟩ (mt_X3_reads l D dA h ad σ ((g_38, nI r_, nI (tkE σ a_39), nI (tkP σ a_39), nI (tkE σ a_39), τ.ents, τ.em, τ.combos, τ.all_, τ.weight, τ.gain, τ.ad_, τ.minute, τ.ds, τ.bl, τ.chosen) : Sc) hmD a_39 g_38 r_ 2 0 1439 hI ha_39 (by omega) (by omega)) (cw_X3_X3_reads hts ⟨Nat.le_of_ble_eq_true rfl, Nat.le_of_ble_eq_true rfl⟩) (mB_now hK hP) (va_recv hK hP (ci := 0) (q0 := 0) rfl rfl) rfl hl.1 rfl (Nat.le_of_ble_eq_true rfl) dX3_readsLine_249 ⟨Nat.le_of_ble_eq_true rfl, Nat.le_of_ble_eq_true rfl⟩ hS (fun r_40 u_41 H locs hp_42 hP hS => ?_)
                  rcases hp_42 with ⟨rfl, v_43, rfl, hv_44⟩ | ⟨rfl, rfl, hv_45⟩
                  · have hP : va_P D vwCl (mX dA h ad σ.txt σ.len σ.wt σ.pr σ.tools σ.load σ.purse σ.beg σ.ways σ.told σ.calls σ.sm σ.sorts σ.visits σ.vm (upd g_38 (8 * r_ + 1 + 2) v_43) (nI r_) (nI (tkE σ (tkE σ a_39))) (nI (tkP σ (tkE σ a_39))) (nI (tkE σ (tkE σ a_39))) τ.ents τ.em τ.combos τ.all_ τ.weight τ.gain τ.ad_ τ.minute τ.ds τ.bl τ.chosen) H := hP
                    obtain ⟨g_46, eg_46⟩ : ∃ x, x = upd g_38 (8 * r_ + 1 + 2) v_43 := ⟨_, rfl⟩
                    rw [← eg_46] at hP
                    obtain ⟨a_47, ea_47⟩ : ∃ x, x = tkE σ a_39 := ⟨_, rfl⟩
                    rw [← ea_47] at hP
                    have ha_47 : a_47 ≤ σ.len := by rw [ea_47]; exact tk2 ha_39
                    refine lv_if_eq (tgt := 312) hx hb dX3_readsLine_252 rfl (fun h9 => ?_) (fun _ => ?_)
                    · exact absurd h9 (by decide)
                    refine lv_aload_n hx hb dX3_readsLine_255 rfl (lv_at hl 3 rfl) ?_
                    refine lv_iconst (v := 3) hx hb dX3_readsLine_256 rfl ?_
                    refine lv_aload_n hx hb dX3_readsLine_257 rfl (lv_at hl 3 rfl) ?_
                    refine va_get (D := D) (ci := 0) (v := .ref (ad 1)) (C := RX3) (T := TX3) (N := 31) hx hb hts in_X3 hown hK hP 0 rfl rfl 2 (by decide) (hts _ q1116) (fun _ h9 => h9) rfl dX3_readsLine_258 ?_
                    refine lv_iload_n hx hb dX3_readsLine_261 rfl (lv_at hl 2 rfl) ?_
                    refine lv_iconst (v := 3) hx hb dX3_readsLine_262 rfl ?_
                    refine lv_iadd hx hb dX3_readsLine_263 ?_
                    refine wa_iald (f := g_46) hx hb hK hP 2 0 rfl rfl ((8 * r_) + 3) ((nz_add (nz_mul rfl rfl) rfl)) (by omega) (by decide) dX3_readsLine_264 ?_
                    refine w_topi (y := v_43) (by rw [eg_46]; exact if_pos (by omega)) ?_
                    refine lv_sipush (v := 1439) hx hb dX3_readsLine_265 rfl ?_
                    refine mcVi (As := [.int 3, .int v_43, .int 1439]) (rest := []) ⟨hx, hb, hml, hown, hts⟩ (mt_X3_reads l D dA h ad σ ((g_46, nI r_, nI (tkE σ a_47), nI (tkP σ a_47), nI (tkE σ a_47), τ.ents, τ.em, τ.combos, τ.all_, τ.weight, τ.gain, τ.ad_, τ.minute, τ.ds, τ.bl, τ.chosen) : Sc) hmD a_47 g_46 r_ 3 v_43 1439 hI ha_47 (by omega) (by omega)) (cw_X3_X3_reads hts ⟨Nat.le_of_ble_eq_true rfl, Nat.le_of_ble_eq_true rfl⟩) (mB_now hK hP) (va_recv hK hP (ci := 0) (q0 := 0) rfl rfl) rfl hl.1 rfl (Nat.le_of_ble_eq_true rfl) dX3_readsLine_268 ⟨Nat.le_of_ble_eq_true rfl, Nat.le_of_ble_eq_true rfl⟩ hS (fun r_48 u_49 H locs hp_50 hP hS => ?_)
                    rcases hp_50 with ⟨rfl, v_51, rfl, hv_52⟩ | ⟨rfl, rfl, hv_53⟩
                    · have hP : va_P D vwCl (mX dA h ad σ.txt σ.len σ.wt σ.pr σ.tools σ.load σ.purse σ.beg σ.ways σ.told σ.calls σ.sm σ.sorts σ.visits σ.vm (upd g_46 (8 * r_ + 1 + 3) v_51) (nI r_) (nI (tkE σ (tkE σ a_47))) (nI (tkP σ (tkE σ a_47))) (nI (tkE σ (tkE σ a_47))) τ.ents τ.em τ.combos τ.all_ τ.weight τ.gain τ.ad_ τ.minute τ.ds τ.bl τ.chosen) H := hP
                      obtain ⟨g_54, eg_54⟩ : ∃ x, x = upd g_46 (8 * r_ + 1 + 3) v_51 := ⟨_, rfl⟩
                      rw [← eg_54] at hP
                      obtain ⟨a_55, ea_55⟩ : ∃ x, x = tkE σ a_47 := ⟨_, rfl⟩
                      rw [← ea_55] at hP
                      have ha_55 : a_55 ≤ σ.len := by rw [ea_55]; exact tk2 ha_47
                      refine lv_if_eq (tgt := 312) hx hb dX3_readsLine_271 rfl (fun h9 => ?_) (fun _ => ?_)
                      · exact absurd h9 (by decide)
                      refine lv_aload_n hx hb dX3_readsLine_274 rfl (lv_at hl 3 rfl) ?_
                      refine lv_iconst (v := 4) hx hb dX3_readsLine_275 rfl ?_
                      refine lv_iconst (v := 0) hx hb dX3_readsLine_276 rfl ?_
                      refine lv_bipush (v := 99) hx hb dX3_readsLine_277 rfl ?_
                      refine mcVi (As := [.int 4, .int 0, .int 99]) (rest := []) ⟨hx, hb, hml, hown, hts⟩ (mt_X3_reads l D dA h ad σ ((g_54, nI r_, nI (tkE σ a_55), nI (tkP σ a_55), nI (tkE σ a_55), τ.ents, τ.em, τ.combos, τ.all_, τ.weight, τ.gain, τ.ad_, τ.minute, τ.ds, τ.bl, τ.chosen) : Sc) hmD a_55 g_54 r_ 4 0 99 hI ha_55 (by omega) (by omega)) (cw_X3_X3_reads hts ⟨Nat.le_of_ble_eq_true rfl, Nat.le_of_ble_eq_true rfl⟩) (mB_now hK hP) (va_recv hK hP (ci := 0) (q0 := 0) rfl rfl) rfl hl.1 rfl (Nat.le_of_ble_eq_true rfl) dX3_readsLine_279 ⟨Nat.le_of_ble_eq_true rfl, Nat.le_of_ble_eq_true rfl⟩ hS (fun r_56 u_57 H locs hp_58 hP hS => ?_)
                      rcases hp_58 with ⟨rfl, v_59, rfl, hv_60⟩ | ⟨rfl, rfl, hv_61⟩
                      · have hP : va_P D vwCl (mX dA h ad σ.txt σ.len σ.wt σ.pr σ.tools σ.load σ.purse σ.beg σ.ways σ.told σ.calls σ.sm σ.sorts σ.visits σ.vm (upd g_54 (8 * r_ + 1 + 4) v_59) (nI r_) (nI (tkE σ (tkE σ a_55))) (nI (tkP σ (tkE σ a_55))) (nI (tkE σ (tkE σ a_55))) τ.ents τ.em τ.combos τ.all_ τ.weight τ.gain τ.ad_ τ.minute τ.ds τ.bl τ.chosen) H := hP
                        obtain ⟨g_62, eg_62⟩ : ∃ x, x = upd g_54 (8 * r_ + 1 + 4) v_59 := ⟨_, rfl⟩
                        rw [← eg_62] at hP
                        obtain ⟨a_63, ea_63⟩ : ∃ x, x = tkE σ a_55 := ⟨_, rfl⟩
                        rw [← ea_63] at hP
                        have ha_63 : a_63 ≤ σ.len := by rw [ea_63]; exact tk2 ha_55
                        refine lv_if_eq (tgt := 312) hx hb dX3_readsLine_282 rfl (fun h9 => ?_) (fun _ => ?_)
                        · exact absurd h9 (by decide)
                        refine lv_aload_n hx hb dX3_readsLine_285 rfl (lv_at hl 3 rfl) ?_
                        refine lv_iconst (v := 5) hx hb dX3_readsLine_286 rfl ?_
                        refine lv_iconst (v := 0) hx hb dX3_readsLine_287 rfl ?_
                        refine lv_bipush (v := 99) hx hb dX3_readsLine_288 rfl ?_
                        refine mcVi (As := [.int 5, .int 0, .int 99]) (rest := []) ⟨hx, hb, hml, hown, hts⟩ (mt_X3_reads l D dA h ad σ ((g_62, nI r_, nI (tkE σ a_63), nI (tkP σ a_63), nI (tkE σ a_63), τ.ents, τ.em, τ.combos, τ.all_, τ.weight, τ.gain, τ.ad_, τ.minute, τ.ds, τ.bl, τ.chosen) : Sc) hmD a_63 g_62 r_ 5 0 99 hI ha_63 (by omega) (by omega)) (cw_X3_X3_reads hts ⟨Nat.le_of_ble_eq_true rfl, Nat.le_of_ble_eq_true rfl⟩) (mB_now hK hP) (va_recv hK hP (ci := 0) (q0 := 0) rfl rfl) rfl hl.1 rfl (Nat.le_of_ble_eq_true rfl) dX3_readsLine_290 ⟨Nat.le_of_ble_eq_true rfl, Nat.le_of_ble_eq_true rfl⟩ hS (fun r_64 u_65 H locs hp_66 hP hS => ?_)
                        rcases hp_66 with ⟨rfl, v_67, rfl, hv_68⟩ | ⟨rfl, rfl, hv_69⟩
                        · have hP : va_P D vwCl (mX dA h ad σ.txt σ.len σ.wt σ.pr σ.tools σ.load σ.purse σ.beg σ.ways σ.told σ.calls σ.sm σ.sorts σ.visits σ.vm (upd g_62 (8 * r_ + 1 + 5) v_67) (nI r_) (nI (tkE σ (tkE σ a_63))) (nI (tkP σ (tkE σ a_63))) (nI (tkE σ (tkE σ a_63))) τ.ents τ.em τ.combos τ.all_ τ.weight τ.gain τ.ad_ τ.minute τ.ds τ.bl τ.chosen) H := hP
                          obtain ⟨g_70, eg_70⟩ : ∃ x, x = upd g_62 (8 * r_ + 1 + 5) v_67 := ⟨_, rfl⟩
                          rw [← eg_70] at hP
                          obtain ⟨a_71, ea_71⟩ : ∃ x, x = tkE σ a_63 := ⟨_, rfl⟩
                          rw [← ea_71] at hP
                          have ha_71 : a_71 ≤ σ.len := by rw [ea_71]; exact tk2 ha_63
                          refine lv_if_eq (tgt := 312) hx hb dX3_readsLine_293 rfl (fun h9 => ?_) (fun _ => ?_)
                          · exact absurd h9 (by decide)
                          refine lv_aload_n hx hb dX3_readsLine_296 rfl (lv_at hl 3 rfl) ?_
                          refine lv_bipush (v := 6) hx hb dX3_readsLine_297 rfl ?_
                          refine lv_iconst (v := 0) hx hb dX3_readsLine_299 rfl ?_
                          refine lv_bipush (v := 99) hx hb dX3_readsLine_300 rfl ?_
                          refine mcVi (As := [.int 6, .int 0, .int 99]) (rest := []) ⟨hx, hb, hml, hown, hts⟩ (mt_X3_reads l D dA h ad σ ((g_70, nI r_, nI (tkE σ a_71), nI (tkP σ a_71), nI (tkE σ a_71), τ.ents, τ.em, τ.combos, τ.all_, τ.weight, τ.gain, τ.ad_, τ.minute, τ.ds, τ.bl, τ.chosen) : Sc) hmD a_71 g_70 r_ 6 0 99 hI ha_71 (by omega) (by omega)) (cw_X3_X3_reads hts ⟨Nat.le_of_ble_eq_true rfl, Nat.le_of_ble_eq_true rfl⟩) (mB_now hK hP) (va_recv hK hP (ci := 0) (q0 := 0) rfl rfl) rfl hl.1 rfl (Nat.le_of_ble_eq_true rfl) dX3_readsLine_302 ⟨Nat.le_of_ble_eq_true rfl, Nat.le_of_ble_eq_true rfl⟩ hS (fun r_72 u_73 H locs hp_74 hP hS => ?_)
                          rcases hp_74 with ⟨rfl, v_75, rfl, hv_76⟩ | ⟨rfl, rfl, hv_77⟩
                          · have hP : va_P D vwCl (mX dA h ad σ.txt σ.len σ.wt σ.pr σ.tools σ.load σ.purse σ.beg σ.ways σ.told σ.calls σ.sm σ.sorts σ.visits σ.vm (upd g_70 (8 * r_ + 1 + 6) v_75) (nI r_) (nI (tkE σ (tkE σ a_71))) (nI (tkP σ (tkE σ a_71))) (nI (tkE σ (tkE σ a_71))) τ.ents τ.em τ.combos τ.all_ τ.weight τ.gain τ.ad_ τ.minute τ.ds τ.bl τ.chosen) H := hP
                            obtain ⟨g_78, eg_78⟩ : ∃ x, x = upd g_70 (8 * r_ + 1 + 6) v_75 := ⟨_, rfl⟩
                            rw [← eg_78] at hP
                            obtain ⟨a_79, ea_79⟩ : ∃ x, x = tkE σ a_71 := ⟨_, rfl⟩
                            rw [← ea_79] at hP
                            have ha_79 : a_79 ≤ σ.len := by rw [ea_79]; exact tk2 ha_71
                            refine lv_if_eq (tgt := 312) hx hb dX3_readsLine_305 rfl (fun h9 => ?_) (fun _ => ?_)
                            · exact absurd h9 (by decide)
                            refine lv_iconst (v := 1) hx hb dX3_readsLine_308 rfl ?_
                            refine lv_goto (tgt := 313) hx hb dX3_readsLine_309 rfl ?_
                            refine lv_istore_n (lv' := [(3, .int 1), (2, .int 5), (1, .int (8 * (nI r_))), (0, .ref h)]) hx hb dX3_readsLine_313 rfl hl (by decide) rfl (fun ls hl => ?_)
                            refine lv_goto (tgt := 322) hx hb dX3_readsLine_314 rfl ?_
                            refine lv_aload_n hx hb dX3_readsLine_322 rfl (lv_at hl 3 rfl) ?_
                            refine lv_dup hx hb dX3_readsLine_323 rfl ?_
                            refine va_get (D := D) (ci := 0) (v := .int (nI r_)) (C := RX3) (T := TX3) (N := 31) hx hb hts in_X3 hown hK hP 0 rfl rfl 3 (by decide) (hts _ q1117) (fun _ h9 => h9) rfl dX3_readsLine_324 ?_
                            refine lv_iload_n hx hb dX3_readsLine_327 rfl (lv_at hl 0 rfl) ?_
                            refine lv_if_eq (tgt := 335) hx hb dX3_readsLine_328 rfl (fun h9 => ?_) (fun _ => ?_)
                            · exact absurd h9 (by decide)
                            refine lv_iconst (v := 1) hx hb dX3_readsLine_331 rfl ?_
                            refine lv_goto (tgt := 336) hx hb dX3_readsLine_332 rfl ?_
                            refine lv_iadd hx hb dX3_readsLine_336 ?_
                            refine w_topi (nz_add rfl rfl) ?_
                            refine va_put (D := D) (ci := 0) (v := .int (nI (r_ + 1))) (ty := .int) (C := RX3) (T := TX3) (N := 31) hx hb hts in_X3 tyX3 tyX3_ok nmX3 hown hK hP (mD_va hmD dA σ ((g_78, nI r_, nI (tkE σ a_79), nI (tkP σ a_79), nI (tkE σ a_79), τ.ents, τ.em, τ.combos, τ.all_, τ.weight, τ.gain, τ.ad_, τ.minute, τ.ds, τ.bl, τ.chosen) : Sc)) hS 0 rfl rfl 3 (by decide) (hts _ q1117) (fun _ h9 => h9) rfl (by decide +kernel) (rfl) (rfl) (Nat.le_of_ble_eq_true rfl) dX3_readsLine_337 (fun H locs hP _ hS => ?_)
                            have hP : va_P D vwCl (mX dA h ad σ.txt σ.len σ.wt σ.pr σ.tools σ.load σ.purse σ.beg σ.ways σ.told σ.calls σ.sm σ.sorts σ.visits σ.vm g_78 (nI (r_ + 1)) (nI (tkE σ a_79)) (nI (tkP σ a_79)) (nI (tkE σ a_79)) τ.ents τ.em τ.combos τ.all_ τ.weight τ.gain τ.ad_ τ.minute τ.ds τ.bl τ.chosen) H := hP
                            refine lv_iload_n hx hb dX3_readsLine_340 rfl (lv_at hl 0 rfl) ?_
                            exact rm_z (u := (σ, ((g_78, nI (r_ + 1), nI (tkE σ a_79), nI (tkP σ a_79), nI (tkE σ a_79), τ.ents, τ.em, τ.combos, τ.all_, τ.weight, τ.gain, τ.ad_, τ.minute, τ.ds, τ.bl, τ.chosen) : Sc))) hQ hx hb hr hlocks hK hP hS (Or.inr rfl) ((Or.inl ⟨rfl, g_78, [5, v_27, v_35, v_43, v_51, v_59, v_67, v_75], a_79, rfl, (by subst ea_22 ea_31 ea_39 ea_47 ea_55 ea_63 ea_71 ea_79; exact (lineL_5 h15 h29 h43 h57 h72 h86).trans (callL_7 hv_28 hv_36 hv_44 hv_52 hv_60 hv_68 hv_76)), (by rw [eg_78, eg_70, eg_62, eg_54, eg_46, eg_38, eg_30, ef_23]; exact ud11 f_ r_ 5 v_27 v_35 v_43 v_51 v_59 v_67 v_75), (ha_79)⟩)) dX3_readsLine_341
                          · have hP : va_P D vwCl (mX dA h ad σ.txt σ.len σ.wt σ.pr σ.tools σ.load σ.purse σ.beg σ.ways σ.told σ.calls σ.sm σ.sorts σ.visits σ.vm g_70 (nI r_) (nI (tkE σ a_71)) (nI (tkP σ a_71)) (nI (tkE σ a_71)) τ.ents τ.em τ.combos τ.all_ τ.weight τ.gain τ.ad_ τ.minute τ.ds τ.bl τ.chosen) H := hP
                            refine lv_if_eq (tgt := 312) hx hb dX3_readsLine_305 rfl (fun _ => ?_) (fun h9 => ?_)
                            rotate_left
                            · exact absurd (by decide) h9
                            refine lv_iconst (v := 0) hx hb dX3_readsLine_312 rfl ?_
                            refine lv_istore_n (lv' := [(3, .int 0), (2, .int 5), (1, .int (8 * (nI r_))), (0, .ref h)]) hx hb dX3_readsLine_313 rfl hl (by decide) rfl (fun ls hl => ?_)
                            refine lv_goto (tgt := 322) hx hb dX3_readsLine_314 rfl ?_
                            refine lv_aload_n hx hb dX3_readsLine_322 rfl (lv_at hl 3 rfl) ?_
                            refine lv_dup hx hb dX3_readsLine_323 rfl ?_
                            refine va_get (D := D) (ci := 0) (v := .int (nI r_)) (C := RX3) (T := TX3) (N := 31) hx hb hts in_X3 hown hK hP 0 rfl rfl 3 (by decide) (hts _ q1117) (fun _ h9 => h9) rfl dX3_readsLine_324 ?_
                            refine lv_iload_n hx hb dX3_readsLine_327 rfl (lv_at hl 0 rfl) ?_
                            refine lv_if_eq (tgt := 335) hx hb dX3_readsLine_328 rfl (fun _ => ?_) (fun h9 => ?_)
                            rotate_left
                            · exact absurd (by decide) h9
                            refine lv_iconst (v := 0) hx hb dX3_readsLine_335 rfl ?_
                            refine lv_iadd hx hb dX3_readsLine_336 ?_
                            refine w_topi (nz_add rfl rfl) ?_
                            refine va_put (D := D) (ci := 0) (v := .int (nI (r_ + 0))) (ty := .int) (C := RX3) (T := TX3) (N := 31) hx hb hts in_X3 tyX3 tyX3_ok nmX3 hown hK hP (mD_va hmD dA σ ((g_70, nI r_, nI (tkE σ a_71), nI (tkP σ a_71), nI (tkE σ a_71), τ.ents, τ.em, τ.combos, τ.all_, τ.weight, τ.gain, τ.ad_, τ.minute, τ.ds, τ.bl, τ.chosen) : Sc)) hS 0 rfl rfl 3 (by decide) (hts _ q1117) (fun _ h9 => h9) rfl (by decide +kernel) (rfl) (rfl) (Nat.le_of_ble_eq_true rfl) dX3_readsLine_337 (fun H locs hP _ hS => ?_)
                            have hP : va_P D vwCl (mX dA h ad σ.txt σ.len σ.wt σ.pr σ.tools σ.load σ.purse σ.beg σ.ways σ.told σ.calls σ.sm σ.sorts σ.visits σ.vm g_70 (nI (r_ + 0)) (nI (tkE σ a_71)) (nI (tkP σ a_71)) (nI (tkE σ a_71)) τ.ents τ.em τ.combos τ.all_ τ.weight τ.gain τ.ad_ τ.minute τ.ds τ.bl τ.chosen) H := hP
                            refine lv_iload_n hx hb dX3_readsLine_340 rfl (lv_at hl 0 rfl) ?_
                            exact rm_z (u := (σ, ((g_70, nI (r_ + 0), nI (tkE σ a_71), nI (tkP σ a_71), nI (tkE σ a_71), τ.ents, τ.em, τ.combos, τ.all_, τ.weight, τ.gain, τ.ad_, τ.minute, τ.ds, τ.bl, τ.chosen) : Sc))) hQ hx hb hr hlocks hK hP hS (Or.inl rfl) ((Or.inr ⟨rfl, tkP σ a_71, rfl, rfl, (by subst ea_22 ea_31 ea_39 ea_47 ea_55 ea_63 ea_71; exact (lineL_5 h15 h29 h43 h57 h72 h86).trans (callL_6 hv_28 hv_36 hv_44 hv_52 hv_60 hv_68 hv_77))⟩)) dX3_readsLine_341
                        · have hP : va_P D vwCl (mX dA h ad σ.txt σ.len σ.wt σ.pr σ.tools σ.load σ.purse σ.beg σ.ways σ.told σ.calls σ.sm σ.sorts σ.visits σ.vm g_62 (nI r_) (nI (tkE σ a_63)) (nI (tkP σ a_63)) (nI (tkE σ a_63)) τ.ents τ.em τ.combos τ.all_ τ.weight τ.gain τ.ad_ τ.minute τ.ds τ.bl τ.chosen) H := hP
                          refine lv_if_eq (tgt := 312) hx hb dX3_readsLine_293 rfl (fun _ => ?_) (fun h9 => ?_)
                          rotate_left
                          · exact absurd (by decide) h9
                          refine lv_iconst (v := 0) hx hb dX3_readsLine_312 rfl ?_
                          refine lv_istore_n (lv' := [(3, .int 0), (2, .int 5), (1, .int (8 * (nI r_))), (0, .ref h)]) hx hb dX3_readsLine_313 rfl hl (by decide) rfl (fun ls hl => ?_)
                          refine lv_goto (tgt := 322) hx hb dX3_readsLine_314 rfl ?_
                          refine lv_aload_n hx hb dX3_readsLine_322 rfl (lv_at hl 3 rfl) ?_
                          refine lv_dup hx hb dX3_readsLine_323 rfl ?_
                          refine va_get (D := D) (ci := 0) (v := .int (nI r_)) (C := RX3) (T := TX3) (N := 31) hx hb hts in_X3 hown hK hP 0 rfl rfl 3 (by decide) (hts _ q1117) (fun _ h9 => h9) rfl dX3_readsLine_324 ?_
                          refine lv_iload_n hx hb dX3_readsLine_327 rfl (lv_at hl 0 rfl) ?_
                          refine lv_if_eq (tgt := 335) hx hb dX3_readsLine_328 rfl (fun _ => ?_) (fun h9 => ?_)
                          rotate_left
                          · exact absurd (by decide) h9
                          refine lv_iconst (v := 0) hx hb dX3_readsLine_335 rfl ?_
                          refine lv_iadd hx hb dX3_readsLine_336 ?_
                          refine w_topi (nz_add rfl rfl) ?_
                          refine va_put (D := D) (ci := 0) (v := .int (nI (r_ + 0))) (ty := .int) (C := RX3) (T := TX3) (N := 31) hx hb hts in_X3 tyX3 tyX3_ok nmX3 hown hK hP (mD_va hmD dA σ ((g_62, nI r_, nI (tkE σ a_63), nI (tkP σ a_63), nI (tkE σ a_63), τ.ents, τ.em, τ.combos, τ.all_, τ.weight, τ.gain, τ.ad_, τ.minute, τ.ds, τ.bl, τ.chosen) : Sc)) hS 0 rfl rfl 3 (by decide) (hts _ q1117) (fun _ h9 => h9) rfl (by decide +kernel) (rfl) (rfl) (Nat.le_of_ble_eq_true rfl) dX3_readsLine_337 (fun H locs hP _ hS => ?_)
                          have hP : va_P D vwCl (mX dA h ad σ.txt σ.len σ.wt σ.pr σ.tools σ.load σ.purse σ.beg σ.ways σ.told σ.calls σ.sm σ.sorts σ.visits σ.vm g_62 (nI (r_ + 0)) (nI (tkE σ a_63)) (nI (tkP σ a_63)) (nI (tkE σ a_63)) τ.ents τ.em τ.combos τ.all_ τ.weight τ.gain τ.ad_ τ.minute τ.ds τ.bl τ.chosen) H := hP
                          refine lv_iload_n hx hb dX3_readsLine_340 rfl (lv_at hl 0 rfl) ?_
                          exact rm_z (u := (σ, ((g_62, nI (r_ + 0), nI (tkE σ a_63), nI (tkP σ a_63), nI (tkE σ a_63), τ.ents, τ.em, τ.combos, τ.all_, τ.weight, τ.gain, τ.ad_, τ.minute, τ.ds, τ.bl, τ.chosen) : Sc))) hQ hx hb hr hlocks hK hP hS (Or.inl rfl) ((Or.inr ⟨rfl, tkP σ a_63, rfl, rfl, (by subst ea_22 ea_31 ea_39 ea_47 ea_55 ea_63; exact (lineL_5 h15 h29 h43 h57 h72 h86).trans (callL_5 hv_28 hv_36 hv_44 hv_52 hv_60 hv_69))⟩)) dX3_readsLine_341
                      · have hP : va_P D vwCl (mX dA h ad σ.txt σ.len σ.wt σ.pr σ.tools σ.load σ.purse σ.beg σ.ways σ.told σ.calls σ.sm σ.sorts σ.visits σ.vm g_54 (nI r_) (nI (tkE σ a_55)) (nI (tkP σ a_55)) (nI (tkE σ a_55)) τ.ents τ.em τ.combos τ.all_ τ.weight τ.gain τ.ad_ τ.minute τ.ds τ.bl τ.chosen) H := hP
                        refine lv_if_eq (tgt := 312) hx hb dX3_readsLine_282 rfl (fun _ => ?_) (fun h9 => ?_)
                        rotate_left
                        · exact absurd (by decide) h9
                        refine lv_iconst (v := 0) hx hb dX3_readsLine_312 rfl ?_
                        refine lv_istore_n (lv' := [(3, .int 0), (2, .int 5), (1, .int (8 * (nI r_))), (0, .ref h)]) hx hb dX3_readsLine_313 rfl hl (by decide) rfl (fun ls hl => ?_)
                        refine lv_goto (tgt := 322) hx hb dX3_readsLine_314 rfl ?_
                        refine lv_aload_n hx hb dX3_readsLine_322 rfl (lv_at hl 3 rfl) ?_
                        refine lv_dup hx hb dX3_readsLine_323 rfl ?_
                        refine va_get (D := D) (ci := 0) (v := .int (nI r_)) (C := RX3) (T := TX3) (N := 31) hx hb hts in_X3 hown hK hP 0 rfl rfl 3 (by decide) (hts _ q1117) (fun _ h9 => h9) rfl dX3_readsLine_324 ?_
                        refine lv_iload_n hx hb dX3_readsLine_327 rfl (lv_at hl 0 rfl) ?_
                        refine lv_if_eq (tgt := 335) hx hb dX3_readsLine_328 rfl (fun _ => ?_) (fun h9 => ?_)
                        rotate_left
                        · exact absurd (by decide) h9
                        refine lv_iconst (v := 0) hx hb dX3_readsLine_335 rfl ?_
                        refine lv_iadd hx hb dX3_readsLine_336 ?_
                        refine w_topi (nz_add rfl rfl) ?_
                        refine va_put (D := D) (ci := 0) (v := .int (nI (r_ + 0))) (ty := .int) (C := RX3) (T := TX3) (N := 31) hx hb hts in_X3 tyX3 tyX3_ok nmX3 hown hK hP (mD_va hmD dA σ ((g_54, nI r_, nI (tkE σ a_55), nI (tkP σ a_55), nI (tkE σ a_55), τ.ents, τ.em, τ.combos, τ.all_, τ.weight, τ.gain, τ.ad_, τ.minute, τ.ds, τ.bl, τ.chosen) : Sc)) hS 0 rfl rfl 3 (by decide) (hts _ q1117) (fun _ h9 => h9) rfl (by decide +kernel) (rfl) (rfl) (Nat.le_of_ble_eq_true rfl) dX3_readsLine_337 (fun H locs hP _ hS => ?_)
                        have hP : va_P D vwCl (mX dA h ad σ.txt σ.len σ.wt σ.pr σ.tools σ.load σ.purse σ.beg σ.ways σ.told σ.calls σ.sm σ.sorts σ.visits σ.vm g_54 (nI (r_ + 0)) (nI (tkE σ a_55)) (nI (tkP σ a_55)) (nI (tkE σ a_55)) τ.ents τ.em τ.combos τ.all_ τ.weight τ.gain τ.ad_ τ.minute τ.ds τ.bl τ.chosen) H := hP
                        refine lv_iload_n hx hb dX3_readsLine_340 rfl (lv_at hl 0 rfl) ?_
                        exact rm_z (u := (σ, ((g_54, nI (r_ + 0), nI (tkE σ a_55), nI (tkP σ a_55), nI (tkE σ a_55), τ.ents, τ.em, τ.combos, τ.all_, τ.weight, τ.gain, τ.ad_, τ.minute, τ.ds, τ.bl, τ.chosen) : Sc))) hQ hx hb hr hlocks hK hP hS (Or.inl rfl) ((Or.inr ⟨rfl, tkP σ a_55, rfl, rfl, (by subst ea_22 ea_31 ea_39 ea_47 ea_55; exact (lineL_5 h15 h29 h43 h57 h72 h86).trans (callL_4 hv_28 hv_36 hv_44 hv_52 hv_61))⟩)) dX3_readsLine_341
                    · have hP : va_P D vwCl (mX dA h ad σ.txt σ.len σ.wt σ.pr σ.tools σ.load σ.purse σ.beg σ.ways σ.told σ.calls σ.sm σ.sorts σ.visits σ.vm g_46 (nI r_) (nI (tkE σ a_47)) (nI (tkP σ a_47)) (nI (tkE σ a_47)) τ.ents τ.em τ.combos τ.all_ τ.weight τ.gain τ.ad_ τ.minute τ.ds τ.bl τ.chosen) H := hP
                      refine lv_if_eq (tgt := 312) hx hb dX3_readsLine_271 rfl (fun _ => ?_) (fun h9 => ?_)
                      rotate_left
                      · exact absurd (by decide) h9
                      refine lv_iconst (v := 0) hx hb dX3_readsLine_312 rfl ?_
                      refine lv_istore_n (lv' := [(3, .int 0), (2, .int 5), (1, .int (8 * (nI r_))), (0, .ref h)]) hx hb dX3_readsLine_313 rfl hl (by decide) rfl (fun ls hl => ?_)
                      refine lv_goto (tgt := 322) hx hb dX3_readsLine_314 rfl ?_
                      refine lv_aload_n hx hb dX3_readsLine_322 rfl (lv_at hl 3 rfl) ?_
                      refine lv_dup hx hb dX3_readsLine_323 rfl ?_
                      refine va_get (D := D) (ci := 0) (v := .int (nI r_)) (C := RX3) (T := TX3) (N := 31) hx hb hts in_X3 hown hK hP 0 rfl rfl 3 (by decide) (hts _ q1117) (fun _ h9 => h9) rfl dX3_readsLine_324 ?_
                      refine lv_iload_n hx hb dX3_readsLine_327 rfl (lv_at hl 0 rfl) ?_
                      refine lv_if_eq (tgt := 335) hx hb dX3_readsLine_328 rfl (fun _ => ?_) (fun h9 => ?_)
                      rotate_left
                      · exact absurd (by decide) h9
                      refine lv_iconst (v := 0) hx hb dX3_readsLine_335 rfl ?_
                      refine lv_iadd hx hb dX3_readsLine_336 ?_
                      refine w_topi (nz_add rfl rfl) ?_
                      refine va_put (D := D) (ci := 0) (v := .int (nI (r_ + 0))) (ty := .int) (C := RX3) (T := TX3) (N := 31) hx hb hts in_X3 tyX3 tyX3_ok nmX3 hown hK hP (mD_va hmD dA σ ((g_46, nI r_, nI (tkE σ a_47), nI (tkP σ a_47), nI (tkE σ a_47), τ.ents, τ.em, τ.combos, τ.all_, τ.weight, τ.gain, τ.ad_, τ.minute, τ.ds, τ.bl, τ.chosen) : Sc)) hS 0 rfl rfl 3 (by decide) (hts _ q1117) (fun _ h9 => h9) rfl (by decide +kernel) (rfl) (rfl) (Nat.le_of_ble_eq_true rfl) dX3_readsLine_337 (fun H locs hP _ hS => ?_)
                      have hP : va_P D vwCl (mX dA h ad σ.txt σ.len σ.wt σ.pr σ.tools σ.load σ.purse σ.beg σ.ways σ.told σ.calls σ.sm σ.sorts σ.visits σ.vm g_46 (nI (r_ + 0)) (nI (tkE σ a_47)) (nI (tkP σ a_47)) (nI (tkE σ a_47)) τ.ents τ.em τ.combos τ.all_ τ.weight τ.gain τ.ad_ τ.minute τ.ds τ.bl τ.chosen) H := hP
                      refine lv_iload_n hx hb dX3_readsLine_340 rfl (lv_at hl 0 rfl) ?_
                      exact rm_z (u := (σ, ((g_46, nI (r_ + 0), nI (tkE σ a_47), nI (tkP σ a_47), nI (tkE σ a_47), τ.ents, τ.em, τ.combos, τ.all_, τ.weight, τ.gain, τ.ad_, τ.minute, τ.ds, τ.bl, τ.chosen) : Sc))) hQ hx hb hr hlocks hK hP hS (Or.inl rfl) ((Or.inr ⟨rfl, tkP σ a_47, rfl, rfl, (by subst ea_22 ea_31 ea_39 ea_47; exact (lineL_5 h15 h29 h43 h57 h72 h86).trans (callL_3 hv_28 hv_36 hv_44 hv_53))⟩)) dX3_readsLine_341
                  · have hP : va_P D vwCl (mX dA h ad σ.txt σ.len σ.wt σ.pr σ.tools σ.load σ.purse σ.beg σ.ways σ.told σ.calls σ.sm σ.sorts σ.visits σ.vm g_38 (nI r_) (nI (tkE σ a_39)) (nI (tkP σ a_39)) (nI (tkE σ a_39)) τ.ents τ.em τ.combos τ.all_ τ.weight τ.gain τ.ad_ τ.minute τ.ds τ.bl τ.chosen) H := hP
                    refine lv_if_eq (tgt := 312) hx hb dX3_readsLine_252 rfl (fun _ => ?_) (fun h9 => ?_)
                    rotate_left
                    · exact absurd (by decide) h9
                    refine lv_iconst (v := 0) hx hb dX3_readsLine_312 rfl ?_
                    refine lv_istore_n (lv' := [(3, .int 0), (2, .int 5), (1, .int (8 * (nI r_))), (0, .ref h)]) hx hb dX3_readsLine_313 rfl hl (by decide) rfl (fun ls hl => ?_)
                    refine lv_goto (tgt := 322) hx hb dX3_readsLine_314 rfl ?_
                    refine lv_aload_n hx hb dX3_readsLine_322 rfl (lv_at hl 3 rfl) ?_
                    refine lv_dup hx hb dX3_readsLine_323 rfl ?_
                    refine va_get (D := D) (ci := 0) (v := .int (nI r_)) (C := RX3) (T := TX3) (N := 31) hx hb hts in_X3 hown hK hP 0 rfl rfl 3 (by decide) (hts _ q1117) (fun _ h9 => h9) rfl dX3_readsLine_324 ?_
                    refine lv_iload_n hx hb dX3_readsLine_327 rfl (lv_at hl 0 rfl) ?_
                    refine lv_if_eq (tgt := 335) hx hb dX3_readsLine_328 rfl (fun _ => ?_) (fun h9 => ?_)
                    rotate_left
                    · exact absurd (by decide) h9
                    refine lv_iconst (v := 0) hx hb dX3_readsLine_335 rfl ?_
                    refine lv_iadd hx hb dX3_readsLine_336 ?_
                    refine w_topi (nz_add rfl rfl) ?_
                    refine va_put (D := D) (ci := 0) (v := .int (nI (r_ + 0))) (ty := .int) (C := RX3) (T := TX3) (N := 31) hx hb hts in_X3 tyX3 tyX3_ok nmX3 hown hK hP (mD_va hmD dA σ ((g_38, nI r_, nI (tkE σ a_39), nI (tkP σ a_39), nI (tkE σ a_39), τ.ents, τ.em, τ.combos, τ.all_, τ.weight, τ.gain, τ.ad_, τ.minute, τ.ds, τ.bl, τ.chosen) : Sc)) hS 0 rfl rfl 3 (by decide) (hts _ q1117) (fun _ h9 => h9) rfl (by decide +kernel) (rfl) (rfl) (Nat.le_of_ble_eq_true rfl) dX3_readsLine_337 (fun H locs hP _ hS => ?_)
                    have hP : va_P D vwCl (mX dA h ad σ.txt σ.len σ.wt σ.pr σ.tools σ.load σ.purse σ.beg σ.ways σ.told σ.calls σ.sm σ.sorts σ.visits σ.vm g_38 (nI (r_ + 0)) (nI (tkE σ a_39)) (nI (tkP σ a_39)) (nI (tkE σ a_39)) τ.ents τ.em τ.combos τ.all_ τ.weight τ.gain τ.ad_ τ.minute τ.ds τ.bl τ.chosen) H := hP
                    refine lv_iload_n hx hb dX3_readsLine_340 rfl (lv_at hl 0 rfl) ?_
                    exact rm_z (u := (σ, ((g_38, nI (r_ + 0), nI (tkE σ a_39), nI (tkP σ a_39), nI (tkE σ a_39), τ.ents, τ.em, τ.combos, τ.all_, τ.weight, τ.gain, τ.ad_, τ.minute, τ.ds, τ.bl, τ.chosen) : Sc))) hQ hx hb hr hlocks hK hP hS (Or.inl rfl) ((Or.inr ⟨rfl, tkP σ a_39, rfl, rfl, (by subst ea_22 ea_31 ea_39; exact (lineL_5 h15 h29 h43 h57 h72 h86).trans (callL_2 hv_28 hv_36 hv_45))⟩)) dX3_readsLine_341
                · have hP : va_P D vwCl (mX dA h ad σ.txt σ.len σ.wt σ.pr σ.tools σ.load σ.purse σ.beg σ.ways σ.told σ.calls σ.sm σ.sorts σ.visits σ.vm g_30 (nI r_) (nI (tkE σ a_31)) (nI (tkP σ a_31)) (nI (tkE σ a_31)) τ.ents τ.em τ.combos τ.all_ τ.weight τ.gain τ.ad_ τ.minute τ.ds τ.bl τ.chosen) H := hP
                  refine lv_if_eq (tgt := 312) hx hb dX3_readsLine_240 rfl (fun _ => ?_) (fun h9 => ?_)
                  rotate_left
                  · exact absurd (by decide) h9
                  refine lv_iconst (v := 0) hx hb dX3_readsLine_312 rfl ?_
                  refine lv_istore_n (lv' := [(3, .int 0), (2, .int 5), (1, .int (8 * (nI r_))), (0, .ref h)]) hx hb dX3_readsLine_313 rfl hl (by decide) rfl (fun ls hl => ?_)
                  refine lv_goto (tgt := 322) hx hb dX3_readsLine_314 rfl ?_
                  refine lv_aload_n hx hb dX3_readsLine_322 rfl (lv_at hl 3 rfl) ?_
                  refine lv_dup hx hb dX3_readsLine_323 rfl ?_
                  refine va_get (D := D) (ci := 0) (v := .int (nI r_)) (C := RX3) (T := TX3) (N := 31) hx hb hts in_X3 hown hK hP 0 rfl rfl 3 (by decide) (hts _ q1117) (fun _ h9 => h9) rfl dX3_readsLine_324 ?_
                  refine lv_iload_n hx hb dX3_readsLine_327 rfl (lv_at hl 0 rfl) ?_
                  refine lv_if_eq (tgt := 335) hx hb dX3_readsLine_328 rfl (fun _ => ?_) (fun h9 => ?_)
                  rotate_left
                  · exact absurd (by decide) h9
                  refine lv_iconst (v := 0) hx hb dX3_readsLine_335 rfl ?_
                  refine lv_iadd hx hb dX3_readsLine_336 ?_
                  refine w_topi (nz_add rfl rfl) ?_
                  refine va_put (D := D) (ci := 0) (v := .int (nI (r_ + 0))) (ty := .int) (C := RX3) (T := TX3) (N := 31) hx hb hts in_X3 tyX3 tyX3_ok nmX3 hown hK hP (mD_va hmD dA σ ((g_30, nI r_, nI (tkE σ a_31), nI (tkP σ a_31), nI (tkE σ a_31), τ.ents, τ.em, τ.combos, τ.all_, τ.weight, τ.gain, τ.ad_, τ.minute, τ.ds, τ.bl, τ.chosen) : Sc)) hS 0 rfl rfl 3 (by decide) (hts _ q1117) (fun _ h9 => h9) rfl (by decide +kernel) (rfl) (rfl) (Nat.le_of_ble_eq_true rfl) dX3_readsLine_337 (fun H locs hP _ hS => ?_)
                  have hP : va_P D vwCl (mX dA h ad σ.txt σ.len σ.wt σ.pr σ.tools σ.load σ.purse σ.beg σ.ways σ.told σ.calls σ.sm σ.sorts σ.visits σ.vm g_30 (nI (r_ + 0)) (nI (tkE σ a_31)) (nI (tkP σ a_31)) (nI (tkE σ a_31)) τ.ents τ.em τ.combos τ.all_ τ.weight τ.gain τ.ad_ τ.minute τ.ds τ.bl τ.chosen) H := hP
                  refine lv_iload_n hx hb dX3_readsLine_340 rfl (lv_at hl 0 rfl) ?_
                  exact rm_z (u := (σ, ((g_30, nI (r_ + 0), nI (tkE σ a_31), nI (tkP σ a_31), nI (tkE σ a_31), τ.ents, τ.em, τ.combos, τ.all_, τ.weight, τ.gain, τ.ad_, τ.minute, τ.ds, τ.bl, τ.chosen) : Sc))) hQ hx hb hr hlocks hK hP hS (Or.inl rfl) ((Or.inr ⟨rfl, tkP σ a_31, rfl, rfl, (by subst ea_22 ea_31; exact (lineL_5 h15 h29 h43 h57 h72 h86).trans (callL_1 hv_28 hv_37))⟩)) dX3_readsLine_341
              · have hP : va_P D vwCl (mX dA h ad σ.txt σ.len σ.wt σ.pr σ.tools σ.load σ.purse σ.beg σ.ways σ.told σ.calls σ.sm σ.sorts σ.visits σ.vm f_23 (nI r_) (nI (tkE σ a_22)) (nI (tkP σ a_22)) (nI (tkE σ a_22)) τ.ents τ.em τ.combos τ.all_ τ.weight τ.gain τ.ad_ τ.minute τ.ds τ.bl τ.chosen) H := hP
                refine lv_if_eq (tgt := 312) hx hb dX3_readsLine_230 rfl (fun _ => ?_) (fun h9 => ?_)
                rotate_left
                · exact absurd (by decide) h9
                refine lv_iconst (v := 0) hx hb dX3_readsLine_312 rfl ?_
                refine lv_istore_n (lv' := [(3, .int 0), (2, .int 5), (1, .int (8 * (nI r_))), (0, .ref h)]) hx hb dX3_readsLine_313 rfl hl (by decide) rfl (fun ls hl => ?_)
                refine lv_goto (tgt := 322) hx hb dX3_readsLine_314 rfl ?_
                refine lv_aload_n hx hb dX3_readsLine_322 rfl (lv_at hl 3 rfl) ?_
                refine lv_dup hx hb dX3_readsLine_323 rfl ?_
                refine va_get (D := D) (ci := 0) (v := .int (nI r_)) (C := RX3) (T := TX3) (N := 31) hx hb hts in_X3 hown hK hP 0 rfl rfl 3 (by decide) (hts _ q1117) (fun _ h9 => h9) rfl dX3_readsLine_324 ?_
                refine lv_iload_n hx hb dX3_readsLine_327 rfl (lv_at hl 0 rfl) ?_
                refine lv_if_eq (tgt := 335) hx hb dX3_readsLine_328 rfl (fun _ => ?_) (fun h9 => ?_)
                rotate_left
                · exact absurd (by decide) h9
                refine lv_iconst (v := 0) hx hb dX3_readsLine_335 rfl ?_
                refine lv_iadd hx hb dX3_readsLine_336 ?_
                refine w_topi (nz_add rfl rfl) ?_
                refine va_put (D := D) (ci := 0) (v := .int (nI (r_ + 0))) (ty := .int) (C := RX3) (T := TX3) (N := 31) hx hb hts in_X3 tyX3 tyX3_ok nmX3 hown hK hP (mD_va hmD dA σ ((f_23, nI r_, nI (tkE σ a_22), nI (tkP σ a_22), nI (tkE σ a_22), τ.ents, τ.em, τ.combos, τ.all_, τ.weight, τ.gain, τ.ad_, τ.minute, τ.ds, τ.bl, τ.chosen) : Sc)) hS 0 rfl rfl 3 (by decide) (hts _ q1117) (fun _ h9 => h9) rfl (by decide +kernel) (rfl) (rfl) (Nat.le_of_ble_eq_true rfl) dX3_readsLine_337 (fun H locs hP _ hS => ?_)
                have hP : va_P D vwCl (mX dA h ad σ.txt σ.len σ.wt σ.pr σ.tools σ.load σ.purse σ.beg σ.ways σ.told σ.calls σ.sm σ.sorts σ.visits σ.vm f_23 (nI (r_ + 0)) (nI (tkE σ a_22)) (nI (tkP σ a_22)) (nI (tkE σ a_22)) τ.ents τ.em τ.combos τ.all_ τ.weight τ.gain τ.ad_ τ.minute τ.ds τ.bl τ.chosen) H := hP
                refine lv_iload_n hx hb dX3_readsLine_340 rfl (lv_at hl 0 rfl) ?_
                exact rm_z (u := (σ, ((f_23, nI (r_ + 0), nI (tkE σ a_22), nI (tkP σ a_22), nI (tkE σ a_22), τ.ents, τ.em, τ.combos, τ.all_, τ.weight, τ.gain, τ.ad_, τ.minute, τ.ds, τ.bl, τ.chosen) : Sc))) hQ hx hb hr hlocks hK hP hS (Or.inl rfl) ((Or.inr ⟨rfl, tkP σ a_22, rfl, rfl, (by subst ea_22; exact (lineL_5 h15 h29 h43 h57 h72 h86).trans (callL_0 hv_29))⟩)) dX3_readsLine_341
          · have h72 : ¬ ((isF σ a_ 25655 3) = 0) := h72
            refine lv_iconst (v := 4) hx hb dX3_readsLine_75 rfl ?_
            refine lv_goto (tgt := 109) hx hb dX3_readsLine_76 rfl ?_
            refine lv_istore_n (lv' := [(2, .int 4), (1, .int (8 * (nI r_))), (0, .ref h)]) hx hb dX3_readsLine_109 rfl hl (by decide) rfl (fun ls hl => ?_)
            refine lv_iload_n hx hb dX3_readsLine_110 rfl (lv_at hl 0 rfl) ?_
            refine lv_iconst (v := (-1)) hx hb dX3_readsLine_111 rfl ?_
            refine lv_icmp_ne (tgt := 117) hx hb dX3_readsLine_112 rfl (fun _ => ?_) (fun h9 => ?_)
            rotate_left
            · exact absurd h9 (by decide)
            refine lv_aload_n hx hb dX3_readsLine_117 rfl (lv_at hl 2 rfl) ?_
            refine mcVv (As := []) (rest := []) ⟨hx, hb, hml, hown, hts⟩ (mt_X3_token l D dA h ad σ ((f_, nI r_, nI (tkE σ a_), nI (tkP σ a_), nI (tkE σ a_), τ.ents, τ.em, τ.combos, τ.all_, τ.weight, τ.gain, τ.ad_, τ.minute, τ.ds, τ.bl, τ.chosen) : Sc) hmD (tkE σ a_) hI (tk2 ha)) (cw_X3_X3_token hts ⟨Nat.le_of_ble_eq_true rfl, Nat.le_of_ble_eq_true rfl⟩) (mB_now hK hP) (va_recv hK hP (ci := 0) (q0 := 0) rfl rfl) rfl hl.1 rfl (Nat.le_of_ble_eq_true rfl) dX3_readsLine_118 ⟨Nat.le_of_ble_eq_true rfl, Nat.le_of_ble_eq_true rfl⟩ hS (fun u_81 H locs hp_82 hP hS => ?_)
            subst hp_82
            have hP : va_P D vwCl (mX dA h ad σ.txt σ.len σ.wt σ.pr σ.tools σ.load σ.purse σ.beg σ.ways σ.told σ.calls σ.sm σ.sorts σ.visits σ.vm f_ (nI r_) (nI (tkE σ (tkE σ a_))) (nI (tkP σ (tkE σ a_))) (nI (tkE σ (tkE σ a_))) τ.ents τ.em τ.combos τ.all_ τ.weight τ.gain τ.ad_ τ.minute τ.ds τ.bl τ.chosen) H := hP
            obtain ⟨a_83, ea_83⟩ : ∃ x, x = tkE σ a_ := ⟨_, rfl⟩
            rw [← ea_83] at hP
            have ha_83 : a_83 ≤ σ.len := by rw [ea_83]; exact tk2 ha
            refine lv_aload_n hx hb dX3_readsLine_121 rfl (lv_at hl 2 rfl) ?_
            refine va_get (D := D) (ci := 0) (v := .ref (ad 1)) (C := RX3) (T := TX3) (N := 31) hx hb hts in_X3 hown hK hP 0 rfl rfl 2 (by decide) (hts _ q1116) (fun _ h9 => h9) rfl dX3_readsLine_122 ?_
            refine lv_iload_n hx hb dX3_readsLine_125 rfl (lv_at hl 1 rfl) ?_
            refine lv_iload_n hx hb dX3_readsLine_126 rfl (lv_at hl 0 rfl) ?_
            refine wa_iast (f := f_) hx hb hK hP (mD_va hmD dA σ ((f_, nI r_, nI (tkE σ a_83), nI (tkP σ a_83), nI (tkE σ a_83), τ.ents, τ.em, τ.combos, τ.all_, τ.weight, τ.gain, τ.ad_, τ.minute, τ.ds, τ.bl, τ.chosen) : Sc)) hS 2 0 rfl rfl (8 * r_) ((nz_mul rfl rfl)) (by omega) (by decide) dX3_readsLine_127 (fun H locs f_84 ef_84 hP hS => ?_)
            have hP : va_P D vwCl (mX dA h ad σ.txt σ.len σ.wt σ.pr σ.tools σ.load σ.purse σ.beg σ.ways σ.told σ.calls σ.sm σ.sorts σ.visits σ.vm f_84 (nI r_) (nI (tkE σ a_83)) (nI (tkP σ a_83)) (nI (tkE σ a_83)) τ.ents τ.em τ.combos τ.all_ τ.weight τ.gain τ.ad_ τ.minute τ.ds τ.bl τ.chosen) H := hP
            refine lv_iconst (v := 0) hx hb dX3_readsLine_128 rfl ?_
            refine lv_istore_n (lv' := [(3, .int 0), (2, .int 4), (1, .int (8 * (nI r_))), (0, .ref h)]) hx hb dX3_readsLine_129 rfl hl (by decide) rfl (fun ls hl => ?_)
            refine lv_iload_n hx hb dX3_readsLine_130 rfl (lv_at hl 1 rfl) ?_
            refine lv_tableIn (tgt := 215) hx hb dX3_readsLine_131 (by decide) (by decide) rfl rfl ?_
            refine lv_aload_n hx hb dX3_readsLine_215 rfl (lv_at hl 3 rfl) ?_
            refine mcVi (As := []) (rest := []) ⟨hx, hb, hml, hown, hts⟩ (mt_X3_readsWay l D dA h ad σ ((f_84, nI r_, nI (tkE σ a_83), nI (tkP σ a_83), nI (tkE σ a_83), τ.ents, τ.em, τ.combos, τ.all_, τ.weight, τ.gain, τ.ad_, τ.minute, τ.ds, τ.bl, τ.chosen) : Sc) hmD a_83 f_84 r_ hI ha_83 (by omega)) (cw_X3_X3_readsWay hts ⟨Nat.le_of_ble_eq_true rfl, Nat.le_of_ble_eq_true rfl⟩) (mB_now hK hP) (va_recv hK hP (ci := 0) (q0 := 0) rfl rfl) rfl hl.1 rfl (Nat.le_of_ble_eq_true rfl) dX3_readsLine_216 ⟨Nat.le_of_ble_eq_true rfl, Nat.le_of_ble_eq_true rfl⟩ hS (fun r_85 u_86 H locs hp_87 hP hS => ?_)
            rcases hp_87 with ⟨rfl, fn_88, vs_89, an_90, rfl, hq_91, hro_92, han_93⟩ | ⟨rfl, fp_94, hu_96, k_97, hq_95⟩
            · have hP : va_P D vwCl (mX dA h ad σ.txt σ.len σ.wt σ.pr σ.tools σ.load σ.purse σ.beg σ.ways σ.told σ.calls σ.sm σ.sorts σ.visits σ.vm fn_88 (nI r_) (nI (tkE σ an_90)) (nI (tkP σ an_90)) (nI (tkE σ an_90)) τ.ents τ.em τ.combos τ.all_ τ.weight τ.gain τ.ad_ τ.minute τ.ds τ.bl τ.chosen) H := hP
              refine lv_istore_n (lv' := [(3, .int 1), (2, .int 4), (1, .int (8 * (nI r_))), (0, .ref h)]) hx hb dX3_readsLine_219 rfl hl (by decide) rfl (fun ls hl => ?_)
              refine lv_goto (tgt := 322) hx hb dX3_readsLine_220 rfl ?_
              refine lv_aload_n hx hb dX3_readsLine_322 rfl (lv_at hl 3 rfl) ?_
              refine lv_dup hx hb dX3_readsLine_323 rfl ?_
              refine va_get (D := D) (ci := 0) (v := .int (nI r_)) (C := RX3) (T := TX3) (N := 31) hx hb hts in_X3 hown hK hP 0 rfl rfl 3 (by decide) (hts _ q1117) (fun _ h9 => h9) rfl dX3_readsLine_324 ?_
              refine lv_iload_n hx hb dX3_readsLine_327 rfl (lv_at hl 0 rfl) ?_
              refine lv_if_eq (tgt := 335) hx hb dX3_readsLine_328 rfl (fun h9 => ?_) (fun _ => ?_)
              · exact absurd h9 (by decide)
              refine lv_iconst (v := 1) hx hb dX3_readsLine_331 rfl ?_
              refine lv_goto (tgt := 336) hx hb dX3_readsLine_332 rfl ?_
              refine lv_iadd hx hb dX3_readsLine_336 ?_
              refine w_topi (nz_add rfl rfl) ?_
              refine va_put (D := D) (ci := 0) (v := .int (nI (r_ + 1))) (ty := .int) (C := RX3) (T := TX3) (N := 31) hx hb hts in_X3 tyX3 tyX3_ok nmX3 hown hK hP (mD_va hmD dA σ ((fn_88, nI r_, nI (tkE σ an_90), nI (tkP σ an_90), nI (tkE σ an_90), τ.ents, τ.em, τ.combos, τ.all_, τ.weight, τ.gain, τ.ad_, τ.minute, τ.ds, τ.bl, τ.chosen) : Sc)) hS 0 rfl rfl 3 (by decide) (hts _ q1117) (fun _ h9 => h9) rfl (by decide +kernel) (rfl) (rfl) (Nat.le_of_ble_eq_true rfl) dX3_readsLine_337 (fun H locs hP _ hS => ?_)
              have hP : va_P D vwCl (mX dA h ad σ.txt σ.len σ.wt σ.pr σ.tools σ.load σ.purse σ.beg σ.ways σ.told σ.calls σ.sm σ.sorts σ.visits σ.vm fn_88 (nI (r_ + 1)) (nI (tkE σ an_90)) (nI (tkP σ an_90)) (nI (tkE σ an_90)) τ.ents τ.em τ.combos τ.all_ τ.weight τ.gain τ.ad_ τ.minute τ.ds τ.bl τ.chosen) H := hP
              refine lv_iload_n hx hb dX3_readsLine_340 rfl (lv_at hl 0 rfl) ?_
              exact rm_z (u := (σ, ((fn_88, nI (r_ + 1), nI (tkE σ an_90), nI (tkP σ an_90), nI (tkE σ an_90), τ.ents, τ.em, τ.combos, τ.all_, τ.weight, τ.gain, τ.ad_, τ.minute, τ.ds, τ.bl, τ.chosen) : Sc))) hQ hx hb hr hlocks hK hP hS (Or.inr rfl) ((Or.inl ⟨rfl, fn_88, vs_89, an_90, rfl, (by subst ea_83; exact (lineL_4 h15 h29 h43 h57 h72).trans hq_91), (rd_line (w := 4) ef_84 hro_92 (by obtain ⟨_, _, _, z9, -⟩ := way_i hq_91; rw [z9]; rfl)), (han_93)⟩)) dX3_readsLine_341
            · have hP : va_P D vwCl (mX dA h ad u_86.1.txt u_86.1.len u_86.1.wt u_86.1.pr u_86.1.tools u_86.1.load u_86.1.purse u_86.1.beg u_86.1.ways u_86.1.told u_86.1.calls u_86.1.sm u_86.1.sorts u_86.1.visits u_86.1.vm u_86.2.read u_86.2.rm u_86.2.at_ u_86.2.place u_86.2.end_ u_86.2.ents u_86.2.em u_86.2.combos u_86.2.all_ u_86.2.weight u_86.2.gain u_86.2.ad_ u_86.2.minute u_86.2.ds u_86.2.bl u_86.2.chosen) H := hP
              rw [hu_96, k_97] at hP
              clear hu_96 k_97
              have hP : va_P D vwCl (mX dA h ad σ.txt σ.len σ.wt σ.pr σ.tools σ.load σ.purse σ.beg σ.ways σ.told σ.calls σ.sm σ.sorts σ.visits σ.vm u_86.2.read u_86.2.rm u_86.2.at_ (nI fp_94) u_86.2.end_ u_86.2.ents u_86.2.em u_86.2.combos u_86.2.all_ u_86.2.weight u_86.2.gain u_86.2.ad_ u_86.2.minute u_86.2.ds u_86.2.bl u_86.2.chosen) H := hP
              refine lv_istore_n (lv' := [(3, .int 0), (2, .int 4), (1, .int (8 * (nI r_))), (0, .ref h)]) hx hb dX3_readsLine_219 rfl hl (by decide) rfl (fun ls hl => ?_)
              refine lv_goto (tgt := 322) hx hb dX3_readsLine_220 rfl ?_
              refine lv_aload_n hx hb dX3_readsLine_322 rfl (lv_at hl 3 rfl) ?_
              refine lv_dup hx hb dX3_readsLine_323 rfl ?_
              refine va_get (D := D) (ci := 0) (v := .int u_86.2.rm) (C := RX3) (T := TX3) (N := 31) hx hb hts in_X3 hown hK hP 0 rfl rfl 3 (by decide) (hts _ q1117) (fun _ h9 => h9) rfl dX3_readsLine_324 ?_
              refine lv_iload_n hx hb dX3_readsLine_327 rfl (lv_at hl 0 rfl) ?_
              refine lv_if_eq (tgt := 335) hx hb dX3_readsLine_328 rfl (fun _ => ?_) (fun h9 => ?_)
              rotate_left
              · exact absurd (by decide) h9
              refine lv_iconst (v := 0) hx hb dX3_readsLine_335 rfl ?_
              refine lv_iadd hx hb dX3_readsLine_336 ?_
              refine va_put (D := D) (ci := 0) (v := .int (u_86.2.rm + 0)) (ty := .int) (C := RX3) (T := TX3) (N := 31) hx hb hts in_X3 tyX3 tyX3_ok nmX3 hown hK hP (mD_va hmD dA σ ((u_86.2.read, u_86.2.rm, u_86.2.at_, nI fp_94, u_86.2.end_, u_86.2.ents, u_86.2.em, u_86.2.combos, u_86.2.all_, u_86.2.weight, u_86.2.gain, u_86.2.ad_, u_86.2.minute, u_86.2.ds, u_86.2.bl, u_86.2.chosen) : Sc)) hS 0 rfl rfl 3 (by decide) (hts _ q1117) (fun _ h9 => h9) rfl (by decide +kernel) (rfl) (rfl) (Nat.le_of_ble_eq_true rfl) dX3_readsLine_337 (fun H locs hP _ hS => ?_)
              have hP : va_P D vwCl (mX dA h ad σ.txt σ.len σ.wt σ.pr σ.tools σ.load σ.purse σ.beg σ.ways σ.told σ.calls σ.sm σ.sorts σ.visits σ.vm u_86.2.read (u_86.2.rm + 0) u_86.2.at_ (nI fp_94) u_86.2.end_ u_86.2.ents u_86.2.em u_86.2.combos u_86.2.all_ u_86.2.weight u_86.2.gain u_86.2.ad_ u_86.2.minute u_86.2.ds u_86.2.bl u_86.2.chosen) H := hP
              refine lv_iload_n hx hb dX3_readsLine_340 rfl (lv_at hl 0 rfl) ?_
              exact rm_z (u := (σ, ((u_86.2.read, u_86.2.rm + 0, u_86.2.at_, nI fp_94, u_86.2.end_, u_86.2.ents, u_86.2.em, u_86.2.combos, u_86.2.all_, u_86.2.weight, u_86.2.gain, u_86.2.ad_, u_86.2.minute, u_86.2.ds, u_86.2.bl, u_86.2.chosen) : Sc))) hQ hx hb hr hlocks hK hP hS (Or.inl rfl) ((Or.inr ⟨rfl, fp_94, rfl, rfl, (by subst ea_83; exact (lineL_4 h15 h29 h43 h57 h72).trans hq_95)⟩)) dX3_readsLine_341
        · have h57 : ¬ ((isF σ a_ 14982306 5) = 0) := h57
          refine lv_iconst (v := 3) hx hb dX3_readsLine_60 rfl ?_
          refine lv_goto (tgt := 109) hx hb dX3_readsLine_61 rfl ?_
          refine lv_istore_n (lv' := [(2, .int 3), (1, .int (8 * (nI r_))), (0, .ref h)]) hx hb dX3_readsLine_109 rfl hl (by decide) rfl (fun ls hl => ?_)
          refine lv_iload_n hx hb dX3_readsLine_110 rfl (lv_at hl 0 rfl) ?_
          refine lv_iconst (v := (-1)) hx hb dX3_readsLine_111 rfl ?_
          refine lv_icmp_ne (tgt := 117) hx hb dX3_readsLine_112 rfl (fun _ => ?_) (fun h9 => ?_)
          rotate_left
          · exact absurd h9 (by decide)
          refine lv_aload_n hx hb dX3_readsLine_117 rfl (lv_at hl 2 rfl) ?_
          refine mcVv (As := []) (rest := []) ⟨hx, hb, hml, hown, hts⟩ (mt_X3_token l D dA h ad σ ((f_, nI r_, nI (tkE σ a_), nI (tkP σ a_), nI (tkE σ a_), τ.ents, τ.em, τ.combos, τ.all_, τ.weight, τ.gain, τ.ad_, τ.minute, τ.ds, τ.bl, τ.chosen) : Sc) hmD (tkE σ a_) hI (tk2 ha)) (cw_X3_X3_token hts ⟨Nat.le_of_ble_eq_true rfl, Nat.le_of_ble_eq_true rfl⟩) (mB_now hK hP) (va_recv hK hP (ci := 0) (q0 := 0) rfl rfl) rfl hl.1 rfl (Nat.le_of_ble_eq_true rfl) dX3_readsLine_118 ⟨Nat.le_of_ble_eq_true rfl, Nat.le_of_ble_eq_true rfl⟩ hS (fun u_99 H locs hp_100 hP hS => ?_)
          subst hp_100
          have hP : va_P D vwCl (mX dA h ad σ.txt σ.len σ.wt σ.pr σ.tools σ.load σ.purse σ.beg σ.ways σ.told σ.calls σ.sm σ.sorts σ.visits σ.vm f_ (nI r_) (nI (tkE σ (tkE σ a_))) (nI (tkP σ (tkE σ a_))) (nI (tkE σ (tkE σ a_))) τ.ents τ.em τ.combos τ.all_ τ.weight τ.gain τ.ad_ τ.minute τ.ds τ.bl τ.chosen) H := hP
          obtain ⟨a_101, ea_101⟩ : ∃ x, x = tkE σ a_ := ⟨_, rfl⟩
          rw [← ea_101] at hP
          have ha_101 : a_101 ≤ σ.len := by rw [ea_101]; exact tk2 ha
          refine lv_aload_n hx hb dX3_readsLine_121 rfl (lv_at hl 2 rfl) ?_
          refine va_get (D := D) (ci := 0) (v := .ref (ad 1)) (C := RX3) (T := TX3) (N := 31) hx hb hts in_X3 hown hK hP 0 rfl rfl 2 (by decide) (hts _ q1116) (fun _ h9 => h9) rfl dX3_readsLine_122 ?_
          refine lv_iload_n hx hb dX3_readsLine_125 rfl (lv_at hl 1 rfl) ?_
          refine lv_iload_n hx hb dX3_readsLine_126 rfl (lv_at hl 0 rfl) ?_
          refine wa_iast (f := f_) hx hb hK hP (mD_va hmD dA σ ((f_, nI r_, nI (tkE σ a_101), nI (tkP σ a_101), nI (tkE σ a_101), τ.ents, τ.em, τ.combos, τ.all_, τ.weight, τ.gain, τ.ad_, τ.minute, τ.ds, τ.bl, τ.chosen) : Sc)) hS 2 0 rfl rfl (8 * r_) ((nz_mul rfl rfl)) (by omega) (by decide) dX3_readsLine_127 (fun H locs f_102 ef_102 hP hS => ?_)
          have hP : va_P D vwCl (mX dA h ad σ.txt σ.len σ.wt σ.pr σ.tools σ.load σ.purse σ.beg σ.ways σ.told σ.calls σ.sm σ.sorts σ.visits σ.vm f_102 (nI r_) (nI (tkE σ a_101)) (nI (tkP σ a_101)) (nI (tkE σ a_101)) τ.ents τ.em τ.combos τ.all_ τ.weight τ.gain τ.ad_ τ.minute τ.ds τ.bl τ.chosen) H := hP
          refine lv_iconst (v := 0) hx hb dX3_readsLine_128 rfl ?_
          refine lv_istore_n (lv' := [(3, .int 0), (2, .int 3), (1, .int (8 * (nI r_))), (0, .ref h)]) hx hb dX3_readsLine_129 rfl hl (by decide) rfl (fun ls hl => ?_)
          refine lv_iload_n hx hb dX3_readsLine_130 rfl (lv_at hl 1 rfl) ?_
          refine lv_tableIn (tgt := 202) hx hb dX3_readsLine_131 (by decide) (by decide) rfl rfl ?_
          refine lv_aload_n hx hb dX3_readsLine_202 rfl (lv_at hl 3 rfl) ?_
          refine lv_iconst (v := 0) hx hb dX3_readsLine_203 rfl ?_
          refine lv_iconst (v := 0) hx hb dX3_readsLine_204 rfl ?_
          refine lv_sipush (v := 1439) hx hb dX3_readsLine_205 rfl ?_
          refine mcVi (As := [.int 0, .int 0, .int 1439]) (rest := []) ⟨hx, hb, hml, hown, hts⟩ (mt_X3_reads l D dA h ad σ ((f_102, nI r_, nI (tkE σ a_101), nI (tkP σ a_101), nI (tkE σ a_101), τ.ents, τ.em, τ.combos, τ.all_, τ.weight, τ.gain, τ.ad_, τ.minute, τ.ds, τ.bl, τ.chosen) : Sc) hmD a_101 f_102 r_ 0 0 1439 hI ha_101 (by omega) (by omega)) (cw_X3_X3_reads hts ⟨Nat.le_of_ble_eq_true rfl, Nat.le_of_ble_eq_true rfl⟩) (mB_now hK hP) (va_recv hK hP (ci := 0) (q0 := 0) rfl rfl) rfl hl.1 rfl (Nat.le_of_ble_eq_true rfl) dX3_readsLine_208 ⟨Nat.le_of_ble_eq_true rfl, Nat.le_of_ble_eq_true rfl⟩ hS (fun r_103 u_104 H locs hp_105 hP hS => ?_)
          rcases hp_105 with ⟨rfl, v_106, rfl, hv_107⟩ | ⟨rfl, rfl, hv_108⟩
          · have hP : va_P D vwCl (mX dA h ad σ.txt σ.len σ.wt σ.pr σ.tools σ.load σ.purse σ.beg σ.ways σ.told σ.calls σ.sm σ.sorts σ.visits σ.vm (upd f_102 (8 * r_ + 1 + 0) v_106) (nI r_) (nI (tkE σ (tkE σ a_101))) (nI (tkP σ (tkE σ a_101))) (nI (tkE σ (tkE σ a_101))) τ.ents τ.em τ.combos τ.all_ τ.weight τ.gain τ.ad_ τ.minute τ.ds τ.bl τ.chosen) H := hP
            obtain ⟨g_109, eg_109⟩ : ∃ x, x = upd f_102 (8 * r_ + 1 + 0) v_106 := ⟨_, rfl⟩
            rw [← eg_109] at hP
            obtain ⟨a_110, ea_110⟩ : ∃ x, x = tkE σ a_101 := ⟨_, rfl⟩
            rw [← ea_110] at hP
            have ha_110 : a_110 ≤ σ.len := by rw [ea_110]; exact tk2 ha_101
            refine lv_istore_n (lv' := [(3, .int 1), (2, .int 3), (1, .int (8 * (nI r_))), (0, .ref h)]) hx hb dX3_readsLine_211 rfl hl (by decide) rfl (fun ls hl => ?_)
            refine lv_goto (tgt := 322) hx hb dX3_readsLine_212 rfl ?_
            refine lv_aload_n hx hb dX3_readsLine_322 rfl (lv_at hl 3 rfl) ?_
            refine lv_dup hx hb dX3_readsLine_323 rfl ?_
            refine va_get (D := D) (ci := 0) (v := .int (nI r_)) (C := RX3) (T := TX3) (N := 31) hx hb hts in_X3 hown hK hP 0 rfl rfl 3 (by decide) (hts _ q1117) (fun _ h9 => h9) rfl dX3_readsLine_324 ?_
            refine lv_iload_n hx hb dX3_readsLine_327 rfl (lv_at hl 0 rfl) ?_
            refine lv_if_eq (tgt := 335) hx hb dX3_readsLine_328 rfl (fun h9 => ?_) (fun _ => ?_)
            · exact absurd h9 (by decide)
            refine lv_iconst (v := 1) hx hb dX3_readsLine_331 rfl ?_
            refine lv_goto (tgt := 336) hx hb dX3_readsLine_332 rfl ?_
            refine lv_iadd hx hb dX3_readsLine_336 ?_
            refine w_topi (nz_add rfl rfl) ?_
            refine va_put (D := D) (ci := 0) (v := .int (nI (r_ + 1))) (ty := .int) (C := RX3) (T := TX3) (N := 31) hx hb hts in_X3 tyX3 tyX3_ok nmX3 hown hK hP (mD_va hmD dA σ ((g_109, nI r_, nI (tkE σ a_110), nI (tkP σ a_110), nI (tkE σ a_110), τ.ents, τ.em, τ.combos, τ.all_, τ.weight, τ.gain, τ.ad_, τ.minute, τ.ds, τ.bl, τ.chosen) : Sc)) hS 0 rfl rfl 3 (by decide) (hts _ q1117) (fun _ h9 => h9) rfl (by decide +kernel) (rfl) (rfl) (Nat.le_of_ble_eq_true rfl) dX3_readsLine_337 (fun H locs hP _ hS => ?_)
            have hP : va_P D vwCl (mX dA h ad σ.txt σ.len σ.wt σ.pr σ.tools σ.load σ.purse σ.beg σ.ways σ.told σ.calls σ.sm σ.sorts σ.visits σ.vm g_109 (nI (r_ + 1)) (nI (tkE σ a_110)) (nI (tkP σ a_110)) (nI (tkE σ a_110)) τ.ents τ.em τ.combos τ.all_ τ.weight τ.gain τ.ad_ τ.minute τ.ds τ.bl τ.chosen) H := hP
            refine lv_iload_n hx hb dX3_readsLine_340 rfl (lv_at hl 0 rfl) ?_
            exact rm_z (u := (σ, ((g_109, nI (r_ + 1), nI (tkE σ a_110), nI (tkP σ a_110), nI (tkE σ a_110), τ.ents, τ.em, τ.combos, τ.all_, τ.weight, τ.gain, τ.ad_, τ.minute, τ.ds, τ.bl, τ.chosen) : Sc))) hQ hx hb hr hlocks hK hP hS (Or.inr rfl) ((Or.inl ⟨rfl, g_109, [3, v_106], a_110, rfl, (by subst ea_101 ea_110; exact (lineL_3 h15 h29 h43 h57).trans (oneL_s hv_107)), (by rw [eg_109, ef_102]; exact ud12 f_ r_ 3 v_106), (ha_110)⟩)) dX3_readsLine_341
          · have hP : va_P D vwCl (mX dA h ad σ.txt σ.len σ.wt σ.pr σ.tools σ.load σ.purse σ.beg σ.ways σ.told σ.calls σ.sm σ.sorts σ.visits σ.vm f_102 (nI r_) (nI (tkE σ a_101)) (nI (tkP σ a_101)) (nI (tkE σ a_101)) τ.ents τ.em τ.combos τ.all_ τ.weight τ.gain τ.ad_ τ.minute τ.ds τ.bl τ.chosen) H := hP
            refine lv_istore_n (lv' := [(3, .int 0), (2, .int 3), (1, .int (8 * (nI r_))), (0, .ref h)]) hx hb dX3_readsLine_211 rfl hl (by decide) rfl (fun ls hl => ?_)
            refine lv_goto (tgt := 322) hx hb dX3_readsLine_212 rfl ?_
            refine lv_aload_n hx hb dX3_readsLine_322 rfl (lv_at hl 3 rfl) ?_
            refine lv_dup hx hb dX3_readsLine_323 rfl ?_
            refine va_get (D := D) (ci := 0) (v := .int (nI r_)) (C := RX3) (T := TX3) (N := 31) hx hb hts in_X3 hown hK hP 0 rfl rfl 3 (by decide) (hts _ q1117) (fun _ h9 => h9) rfl dX3_readsLine_324 ?_
            refine lv_iload_n hx hb dX3_readsLine_327 rfl (lv_at hl 0 rfl) ?_
            refine lv_if_eq (tgt := 335) hx hb dX3_readsLine_328 rfl (fun _ => ?_) (fun h9 => ?_)
            rotate_left
            · exact absurd (by decide) h9
            refine lv_iconst (v := 0) hx hb dX3_readsLine_335 rfl ?_
            refine lv_iadd hx hb dX3_readsLine_336 ?_
            refine w_topi (nz_add rfl rfl) ?_
            refine va_put (D := D) (ci := 0) (v := .int (nI (r_ + 0))) (ty := .int) (C := RX3) (T := TX3) (N := 31) hx hb hts in_X3 tyX3 tyX3_ok nmX3 hown hK hP (mD_va hmD dA σ ((f_102, nI r_, nI (tkE σ a_101), nI (tkP σ a_101), nI (tkE σ a_101), τ.ents, τ.em, τ.combos, τ.all_, τ.weight, τ.gain, τ.ad_, τ.minute, τ.ds, τ.bl, τ.chosen) : Sc)) hS 0 rfl rfl 3 (by decide) (hts _ q1117) (fun _ h9 => h9) rfl (by decide +kernel) (rfl) (rfl) (Nat.le_of_ble_eq_true rfl) dX3_readsLine_337 (fun H locs hP _ hS => ?_)
            have hP : va_P D vwCl (mX dA h ad σ.txt σ.len σ.wt σ.pr σ.tools σ.load σ.purse σ.beg σ.ways σ.told σ.calls σ.sm σ.sorts σ.visits σ.vm f_102 (nI (r_ + 0)) (nI (tkE σ a_101)) (nI (tkP σ a_101)) (nI (tkE σ a_101)) τ.ents τ.em τ.combos τ.all_ τ.weight τ.gain τ.ad_ τ.minute τ.ds τ.bl τ.chosen) H := hP
            refine lv_iload_n hx hb dX3_readsLine_340 rfl (lv_at hl 0 rfl) ?_
            exact rm_z (u := (σ, ((f_102, nI (r_ + 0), nI (tkE σ a_101), nI (tkP σ a_101), nI (tkE σ a_101), τ.ents, τ.em, τ.combos, τ.all_, τ.weight, τ.gain, τ.ad_, τ.minute, τ.ds, τ.bl, τ.chosen) : Sc))) hQ hx hb hr hlocks hK hP hS (Or.inl rfl) ((Or.inr ⟨rfl, tkP σ a_101, rfl, rfl, (by subst ea_101; exact (lineL_3 h15 h29 h43 h57).trans (oneL_n hv_108))⟩)) dX3_readsLine_341
      · have h43 : ¬ ((isF σ a_ 5884592 5) = 0) := h43
        refine lv_iconst (v := 2) hx hb dX3_readsLine_46 rfl ?_
        refine lv_goto (tgt := 109) hx hb dX3_readsLine_47 rfl ?_
        refine lv_istore_n (lv' := [(2, .int 2), (1, .int (8 * (nI r_))), (0, .ref h)]) hx hb dX3_readsLine_109 rfl hl (by decide) rfl (fun ls hl => ?_)
        refine lv_iload_n hx hb dX3_readsLine_110 rfl (lv_at hl 0 rfl) ?_
        refine lv_iconst (v := (-1)) hx hb dX3_readsLine_111 rfl ?_
        refine lv_icmp_ne (tgt := 117) hx hb dX3_readsLine_112 rfl (fun _ => ?_) (fun h9 => ?_)
        rotate_left
        · exact absurd h9 (by decide)
        refine lv_aload_n hx hb dX3_readsLine_117 rfl (lv_at hl 2 rfl) ?_
        refine mcVv (As := []) (rest := []) ⟨hx, hb, hml, hown, hts⟩ (mt_X3_token l D dA h ad σ ((f_, nI r_, nI (tkE σ a_), nI (tkP σ a_), nI (tkE σ a_), τ.ents, τ.em, τ.combos, τ.all_, τ.weight, τ.gain, τ.ad_, τ.minute, τ.ds, τ.bl, τ.chosen) : Sc) hmD (tkE σ a_) hI (tk2 ha)) (cw_X3_X3_token hts ⟨Nat.le_of_ble_eq_true rfl, Nat.le_of_ble_eq_true rfl⟩) (mB_now hK hP) (va_recv hK hP (ci := 0) (q0 := 0) rfl rfl) rfl hl.1 rfl (Nat.le_of_ble_eq_true rfl) dX3_readsLine_118 ⟨Nat.le_of_ble_eq_true rfl, Nat.le_of_ble_eq_true rfl⟩ hS (fun u_112 H locs hp_113 hP hS => ?_)
        subst hp_113
        have hP : va_P D vwCl (mX dA h ad σ.txt σ.len σ.wt σ.pr σ.tools σ.load σ.purse σ.beg σ.ways σ.told σ.calls σ.sm σ.sorts σ.visits σ.vm f_ (nI r_) (nI (tkE σ (tkE σ a_))) (nI (tkP σ (tkE σ a_))) (nI (tkE σ (tkE σ a_))) τ.ents τ.em τ.combos τ.all_ τ.weight τ.gain τ.ad_ τ.minute τ.ds τ.bl τ.chosen) H := hP
        obtain ⟨a_114, ea_114⟩ : ∃ x, x = tkE σ a_ := ⟨_, rfl⟩
        rw [← ea_114] at hP
        have ha_114 : a_114 ≤ σ.len := by rw [ea_114]; exact tk2 ha
        refine lv_aload_n hx hb dX3_readsLine_121 rfl (lv_at hl 2 rfl) ?_
        refine va_get (D := D) (ci := 0) (v := .ref (ad 1)) (C := RX3) (T := TX3) (N := 31) hx hb hts in_X3 hown hK hP 0 rfl rfl 2 (by decide) (hts _ q1116) (fun _ h9 => h9) rfl dX3_readsLine_122 ?_
        refine lv_iload_n hx hb dX3_readsLine_125 rfl (lv_at hl 1 rfl) ?_
        refine lv_iload_n hx hb dX3_readsLine_126 rfl (lv_at hl 0 rfl) ?_
        refine wa_iast (f := f_) hx hb hK hP (mD_va hmD dA σ ((f_, nI r_, nI (tkE σ a_114), nI (tkP σ a_114), nI (tkE σ a_114), τ.ents, τ.em, τ.combos, τ.all_, τ.weight, τ.gain, τ.ad_, τ.minute, τ.ds, τ.bl, τ.chosen) : Sc)) hS 2 0 rfl rfl (8 * r_) ((nz_mul rfl rfl)) (by omega) (by decide) dX3_readsLine_127 (fun H locs f_115 ef_115 hP hS => ?_)
        have hP : va_P D vwCl (mX dA h ad σ.txt σ.len σ.wt σ.pr σ.tools σ.load σ.purse σ.beg σ.ways σ.told σ.calls σ.sm σ.sorts σ.visits σ.vm f_115 (nI r_) (nI (tkE σ a_114)) (nI (tkP σ a_114)) (nI (tkE σ a_114)) τ.ents τ.em τ.combos τ.all_ τ.weight τ.gain τ.ad_ τ.minute τ.ds τ.bl τ.chosen) H := hP
        refine lv_iconst (v := 0) hx hb dX3_readsLine_128 rfl ?_
        refine lv_istore_n (lv' := [(3, .int 0), (2, .int 2), (1, .int (8 * (nI r_))), (0, .ref h)]) hx hb dX3_readsLine_129 rfl hl (by decide) rfl (fun ls hl => ?_)
        refine lv_iload_n hx hb dX3_readsLine_130 rfl (lv_at hl 1 rfl) ?_
        refine lv_tableIn (tgt := 189) hx hb dX3_readsLine_131 (by decide) (by decide) rfl rfl ?_
        refine lv_aload_n hx hb dX3_readsLine_189 rfl (lv_at hl 3 rfl) ?_
        refine lv_iconst (v := 0) hx hb dX3_readsLine_190 rfl ?_
        refine lv_iconst (v := 0) hx hb dX3_readsLine_191 rfl ?_
        refine lv_sipush (v := 999) hx hb dX3_readsLine_192 rfl ?_
        refine mcVi (As := [.int 0, .int 0, .int 999]) (rest := []) ⟨hx, hb, hml, hown, hts⟩ (mt_X3_reads l D dA h ad σ ((f_115, nI r_, nI (tkE σ a_114), nI (tkP σ a_114), nI (tkE σ a_114), τ.ents, τ.em, τ.combos, τ.all_, τ.weight, τ.gain, τ.ad_, τ.minute, τ.ds, τ.bl, τ.chosen) : Sc) hmD a_114 f_115 r_ 0 0 999 hI ha_114 (by omega) (by omega)) (cw_X3_X3_reads hts ⟨Nat.le_of_ble_eq_true rfl, Nat.le_of_ble_eq_true rfl⟩) (mB_now hK hP) (va_recv hK hP (ci := 0) (q0 := 0) rfl rfl) rfl hl.1 rfl (Nat.le_of_ble_eq_true rfl) dX3_readsLine_195 ⟨Nat.le_of_ble_eq_true rfl, Nat.le_of_ble_eq_true rfl⟩ hS (fun r_116 u_117 H locs hp_118 hP hS => ?_)
        rcases hp_118 with ⟨rfl, v_119, rfl, hv_120⟩ | ⟨rfl, rfl, hv_121⟩
        · have hP : va_P D vwCl (mX dA h ad σ.txt σ.len σ.wt σ.pr σ.tools σ.load σ.purse σ.beg σ.ways σ.told σ.calls σ.sm σ.sorts σ.visits σ.vm (upd f_115 (8 * r_ + 1 + 0) v_119) (nI r_) (nI (tkE σ (tkE σ a_114))) (nI (tkP σ (tkE σ a_114))) (nI (tkE σ (tkE σ a_114))) τ.ents τ.em τ.combos τ.all_ τ.weight τ.gain τ.ad_ τ.minute τ.ds τ.bl τ.chosen) H := hP
          obtain ⟨g_122, eg_122⟩ : ∃ x, x = upd f_115 (8 * r_ + 1 + 0) v_119 := ⟨_, rfl⟩
          rw [← eg_122] at hP
          obtain ⟨a_123, ea_123⟩ : ∃ x, x = tkE σ a_114 := ⟨_, rfl⟩
          rw [← ea_123] at hP
          have ha_123 : a_123 ≤ σ.len := by rw [ea_123]; exact tk2 ha_114
          refine lv_istore_n (lv' := [(3, .int 1), (2, .int 2), (1, .int (8 * (nI r_))), (0, .ref h)]) hx hb dX3_readsLine_198 rfl hl (by decide) rfl (fun ls hl => ?_)
          refine lv_goto (tgt := 322) hx hb dX3_readsLine_199 rfl ?_
          refine lv_aload_n hx hb dX3_readsLine_322 rfl (lv_at hl 3 rfl) ?_
          refine lv_dup hx hb dX3_readsLine_323 rfl ?_
          refine va_get (D := D) (ci := 0) (v := .int (nI r_)) (C := RX3) (T := TX3) (N := 31) hx hb hts in_X3 hown hK hP 0 rfl rfl 3 (by decide) (hts _ q1117) (fun _ h9 => h9) rfl dX3_readsLine_324 ?_
          refine lv_iload_n hx hb dX3_readsLine_327 rfl (lv_at hl 0 rfl) ?_
          refine lv_if_eq (tgt := 335) hx hb dX3_readsLine_328 rfl (fun h9 => ?_) (fun _ => ?_)
          · exact absurd h9 (by decide)
          refine lv_iconst (v := 1) hx hb dX3_readsLine_331 rfl ?_
          refine lv_goto (tgt := 336) hx hb dX3_readsLine_332 rfl ?_
          refine lv_iadd hx hb dX3_readsLine_336 ?_
          refine w_topi (nz_add rfl rfl) ?_
          refine va_put (D := D) (ci := 0) (v := .int (nI (r_ + 1))) (ty := .int) (C := RX3) (T := TX3) (N := 31) hx hb hts in_X3 tyX3 tyX3_ok nmX3 hown hK hP (mD_va hmD dA σ ((g_122, nI r_, nI (tkE σ a_123), nI (tkP σ a_123), nI (tkE σ a_123), τ.ents, τ.em, τ.combos, τ.all_, τ.weight, τ.gain, τ.ad_, τ.minute, τ.ds, τ.bl, τ.chosen) : Sc)) hS 0 rfl rfl 3 (by decide) (hts _ q1117) (fun _ h9 => h9) rfl (by decide +kernel) (rfl) (rfl) (Nat.le_of_ble_eq_true rfl) dX3_readsLine_337 (fun H locs hP _ hS => ?_)
          have hP : va_P D vwCl (mX dA h ad σ.txt σ.len σ.wt σ.pr σ.tools σ.load σ.purse σ.beg σ.ways σ.told σ.calls σ.sm σ.sorts σ.visits σ.vm g_122 (nI (r_ + 1)) (nI (tkE σ a_123)) (nI (tkP σ a_123)) (nI (tkE σ a_123)) τ.ents τ.em τ.combos τ.all_ τ.weight τ.gain τ.ad_ τ.minute τ.ds τ.bl τ.chosen) H := hP
          refine lv_iload_n hx hb dX3_readsLine_340 rfl (lv_at hl 0 rfl) ?_
          exact rm_z (u := (σ, ((g_122, nI (r_ + 1), nI (tkE σ a_123), nI (tkP σ a_123), nI (tkE σ a_123), τ.ents, τ.em, τ.combos, τ.all_, τ.weight, τ.gain, τ.ad_, τ.minute, τ.ds, τ.bl, τ.chosen) : Sc))) hQ hx hb hr hlocks hK hP hS (Or.inr rfl) ((Or.inl ⟨rfl, g_122, [2, v_119], a_123, rfl, (by subst ea_114 ea_123; exact (lineL_2 h15 h29 h43).trans (oneL_s hv_120)), (by rw [eg_122, ef_115]; exact ud13 f_ r_ 2 v_119), (ha_123)⟩)) dX3_readsLine_341
        · have hP : va_P D vwCl (mX dA h ad σ.txt σ.len σ.wt σ.pr σ.tools σ.load σ.purse σ.beg σ.ways σ.told σ.calls σ.sm σ.sorts σ.visits σ.vm f_115 (nI r_) (nI (tkE σ a_114)) (nI (tkP σ a_114)) (nI (tkE σ a_114)) τ.ents τ.em τ.combos τ.all_ τ.weight τ.gain τ.ad_ τ.minute τ.ds τ.bl τ.chosen) H := hP
          refine lv_istore_n (lv' := [(3, .int 0), (2, .int 2), (1, .int (8 * (nI r_))), (0, .ref h)]) hx hb dX3_readsLine_198 rfl hl (by decide) rfl (fun ls hl => ?_)
          refine lv_goto (tgt := 322) hx hb dX3_readsLine_199 rfl ?_
          refine lv_aload_n hx hb dX3_readsLine_322 rfl (lv_at hl 3 rfl) ?_
          refine lv_dup hx hb dX3_readsLine_323 rfl ?_
          refine va_get (D := D) (ci := 0) (v := .int (nI r_)) (C := RX3) (T := TX3) (N := 31) hx hb hts in_X3 hown hK hP 0 rfl rfl 3 (by decide) (hts _ q1117) (fun _ h9 => h9) rfl dX3_readsLine_324 ?_
          refine lv_iload_n hx hb dX3_readsLine_327 rfl (lv_at hl 0 rfl) ?_
          refine lv_if_eq (tgt := 335) hx hb dX3_readsLine_328 rfl (fun _ => ?_) (fun h9 => ?_)
          rotate_left
          · exact absurd (by decide) h9
          refine lv_iconst (v := 0) hx hb dX3_readsLine_335 rfl ?_
          refine lv_iadd hx hb dX3_readsLine_336 ?_
          refine w_topi (nz_add rfl rfl) ?_
          refine va_put (D := D) (ci := 0) (v := .int (nI (r_ + 0))) (ty := .int) (C := RX3) (T := TX3) (N := 31) hx hb hts in_X3 tyX3 tyX3_ok nmX3 hown hK hP (mD_va hmD dA σ ((f_115, nI r_, nI (tkE σ a_114), nI (tkP σ a_114), nI (tkE σ a_114), τ.ents, τ.em, τ.combos, τ.all_, τ.weight, τ.gain, τ.ad_, τ.minute, τ.ds, τ.bl, τ.chosen) : Sc)) hS 0 rfl rfl 3 (by decide) (hts _ q1117) (fun _ h9 => h9) rfl (by decide +kernel) (rfl) (rfl) (Nat.le_of_ble_eq_true rfl) dX3_readsLine_337 (fun H locs hP _ hS => ?_)
          have hP : va_P D vwCl (mX dA h ad σ.txt σ.len σ.wt σ.pr σ.tools σ.load σ.purse σ.beg σ.ways σ.told σ.calls σ.sm σ.sorts σ.visits σ.vm f_115 (nI (r_ + 0)) (nI (tkE σ a_114)) (nI (tkP σ a_114)) (nI (tkE σ a_114)) τ.ents τ.em τ.combos τ.all_ τ.weight τ.gain τ.ad_ τ.minute τ.ds τ.bl τ.chosen) H := hP
          refine lv_iload_n hx hb dX3_readsLine_340 rfl (lv_at hl 0 rfl) ?_
          exact rm_z (u := (σ, ((f_115, nI (r_ + 0), nI (tkE σ a_114), nI (tkP σ a_114), nI (tkE σ a_114), τ.ents, τ.em, τ.combos, τ.all_, τ.weight, τ.gain, τ.ad_, τ.minute, τ.ds, τ.bl, τ.chosen) : Sc))) hQ hx hb hr hlocks hK hP hS (Or.inl rfl) ((Or.inr ⟨rfl, tkP σ a_114, rfl, rfl, (by subst ea_114; exact (lineL_2 h15 h29 h43).trans (oneL_n hv_121))⟩)) dX3_readsLine_341
    · have h29 : ¬ ((isF σ a_ 132588 4) = 0) := h29
      refine lv_iconst (v := 1) hx hb dX3_readsLine_32 rfl ?_
      refine lv_goto (tgt := 109) hx hb dX3_readsLine_33 rfl ?_
      refine lv_istore_n (lv' := [(2, .int 1), (1, .int (8 * (nI r_))), (0, .ref h)]) hx hb dX3_readsLine_109 rfl hl (by decide) rfl (fun ls hl => ?_)
      refine lv_iload_n hx hb dX3_readsLine_110 rfl (lv_at hl 0 rfl) ?_
      refine lv_iconst (v := (-1)) hx hb dX3_readsLine_111 rfl ?_
      refine lv_icmp_ne (tgt := 117) hx hb dX3_readsLine_112 rfl (fun _ => ?_) (fun h9 => ?_)
      rotate_left
      · exact absurd h9 (by decide)
      refine lv_aload_n hx hb dX3_readsLine_117 rfl (lv_at hl 2 rfl) ?_
      refine mcVv (As := []) (rest := []) ⟨hx, hb, hml, hown, hts⟩ (mt_X3_token l D dA h ad σ ((f_, nI r_, nI (tkE σ a_), nI (tkP σ a_), nI (tkE σ a_), τ.ents, τ.em, τ.combos, τ.all_, τ.weight, τ.gain, τ.ad_, τ.minute, τ.ds, τ.bl, τ.chosen) : Sc) hmD (tkE σ a_) hI (tk2 ha)) (cw_X3_X3_token hts ⟨Nat.le_of_ble_eq_true rfl, Nat.le_of_ble_eq_true rfl⟩) (mB_now hK hP) (va_recv hK hP (ci := 0) (q0 := 0) rfl rfl) rfl hl.1 rfl (Nat.le_of_ble_eq_true rfl) dX3_readsLine_118 ⟨Nat.le_of_ble_eq_true rfl, Nat.le_of_ble_eq_true rfl⟩ hS (fun u_125 H locs hp_126 hP hS => ?_)
      subst hp_126
      have hP : va_P D vwCl (mX dA h ad σ.txt σ.len σ.wt σ.pr σ.tools σ.load σ.purse σ.beg σ.ways σ.told σ.calls σ.sm σ.sorts σ.visits σ.vm f_ (nI r_) (nI (tkE σ (tkE σ a_))) (nI (tkP σ (tkE σ a_))) (nI (tkE σ (tkE σ a_))) τ.ents τ.em τ.combos τ.all_ τ.weight τ.gain τ.ad_ τ.minute τ.ds τ.bl τ.chosen) H := hP
      obtain ⟨a_127, ea_127⟩ : ∃ x, x = tkE σ a_ := ⟨_, rfl⟩
      rw [← ea_127] at hP
      have ha_127 : a_127 ≤ σ.len := by rw [ea_127]; exact tk2 ha
      refine lv_aload_n hx hb dX3_readsLine_121 rfl (lv_at hl 2 rfl) ?_
      refine va_get (D := D) (ci := 0) (v := .ref (ad 1)) (C := RX3) (T := TX3) (N := 31) hx hb hts in_X3 hown hK hP 0 rfl rfl 2 (by decide) (hts _ q1116) (fun _ h9 => h9) rfl dX3_readsLine_122 ?_
      refine lv_iload_n hx hb dX3_readsLine_125 rfl (lv_at hl 1 rfl) ?_
      refine lv_iload_n hx hb dX3_readsLine_126 rfl (lv_at hl 0 rfl) ?_
      refine wa_iast (f := f_) hx hb hK hP (mD_va hmD dA σ ((f_, nI r_, nI (tkE σ a_127), nI (tkP σ a_127), nI (tkE σ a_127), τ.ents, τ.em, τ.combos, τ.all_, τ.weight, τ.gain, τ.ad_, τ.minute, τ.ds, τ.bl, τ.chosen) : Sc)) hS 2 0 rfl rfl (8 * r_) ((nz_mul rfl rfl)) (by omega) (by decide) dX3_readsLine_127 (fun H locs f_128 ef_128 hP hS => ?_)
      have hP : va_P D vwCl (mX dA h ad σ.txt σ.len σ.wt σ.pr σ.tools σ.load σ.purse σ.beg σ.ways σ.told σ.calls σ.sm σ.sorts σ.visits σ.vm f_128 (nI r_) (nI (tkE σ a_127)) (nI (tkP σ a_127)) (nI (tkE σ a_127)) τ.ents τ.em τ.combos τ.all_ τ.weight τ.gain τ.ad_ τ.minute τ.ds τ.bl τ.chosen) H := hP
      refine lv_iconst (v := 0) hx hb dX3_readsLine_128 rfl ?_
      refine lv_istore_n (lv' := [(3, .int 0), (2, .int 1), (1, .int (8 * (nI r_))), (0, .ref h)]) hx hb dX3_readsLine_129 rfl hl (by decide) rfl (fun ls hl => ?_)
      refine lv_iload_n hx hb dX3_readsLine_130 rfl (lv_at hl 1 rfl) ?_
      refine lv_tableIn (tgt := 176) hx hb dX3_readsLine_131 (by decide) (by decide) rfl rfl ?_
      refine lv_aload_n hx hb dX3_readsLine_176 rfl (lv_at hl 3 rfl) ?_
      refine lv_iconst (v := 0) hx hb dX3_readsLine_177 rfl ?_
      refine lv_iconst (v := 0) hx hb dX3_readsLine_178 rfl ?_
      refine lv_sipush (v := 400) hx hb dX3_readsLine_179 rfl ?_
      refine mcVi (As := [.int 0, .int 0, .int 400]) (rest := []) ⟨hx, hb, hml, hown, hts⟩ (mt_X3_reads l D dA h ad σ ((f_128, nI r_, nI (tkE σ a_127), nI (tkP σ a_127), nI (tkE σ a_127), τ.ents, τ.em, τ.combos, τ.all_, τ.weight, τ.gain, τ.ad_, τ.minute, τ.ds, τ.bl, τ.chosen) : Sc) hmD a_127 f_128 r_ 0 0 400 hI ha_127 (by omega) (by omega)) (cw_X3_X3_reads hts ⟨Nat.le_of_ble_eq_true rfl, Nat.le_of_ble_eq_true rfl⟩) (mB_now hK hP) (va_recv hK hP (ci := 0) (q0 := 0) rfl rfl) rfl hl.1 rfl (Nat.le_of_ble_eq_true rfl) dX3_readsLine_182 ⟨Nat.le_of_ble_eq_true rfl, Nat.le_of_ble_eq_true rfl⟩ hS (fun r_129 u_130 H locs hp_131 hP hS => ?_)
      rcases hp_131 with ⟨rfl, v_132, rfl, hv_133⟩ | ⟨rfl, rfl, hv_134⟩
      · have hP : va_P D vwCl (mX dA h ad σ.txt σ.len σ.wt σ.pr σ.tools σ.load σ.purse σ.beg σ.ways σ.told σ.calls σ.sm σ.sorts σ.visits σ.vm (upd f_128 (8 * r_ + 1 + 0) v_132) (nI r_) (nI (tkE σ (tkE σ a_127))) (nI (tkP σ (tkE σ a_127))) (nI (tkE σ (tkE σ a_127))) τ.ents τ.em τ.combos τ.all_ τ.weight τ.gain τ.ad_ τ.minute τ.ds τ.bl τ.chosen) H := hP
        obtain ⟨g_135, eg_135⟩ : ∃ x, x = upd f_128 (8 * r_ + 1 + 0) v_132 := ⟨_, rfl⟩
        rw [← eg_135] at hP
        obtain ⟨a_136, ea_136⟩ : ∃ x, x = tkE σ a_127 := ⟨_, rfl⟩
        rw [← ea_136] at hP
        have ha_136 : a_136 ≤ σ.len := by rw [ea_136]; exact tk2 ha_127
        refine lv_istore_n (lv' := [(3, .int 1), (2, .int 1), (1, .int (8 * (nI r_))), (0, .ref h)]) hx hb dX3_readsLine_185 rfl hl (by decide) rfl (fun ls hl => ?_)
        refine lv_goto (tgt := 322) hx hb dX3_readsLine_186 rfl ?_
        refine lv_aload_n hx hb dX3_readsLine_322 rfl (lv_at hl 3 rfl) ?_
        refine lv_dup hx hb dX3_readsLine_323 rfl ?_
        refine va_get (D := D) (ci := 0) (v := .int (nI r_)) (C := RX3) (T := TX3) (N := 31) hx hb hts in_X3 hown hK hP 0 rfl rfl 3 (by decide) (hts _ q1117) (fun _ h9 => h9) rfl dX3_readsLine_324 ?_
        refine lv_iload_n hx hb dX3_readsLine_327 rfl (lv_at hl 0 rfl) ?_
        refine lv_if_eq (tgt := 335) hx hb dX3_readsLine_328 rfl (fun h9 => ?_) (fun _ => ?_)
        · exact absurd h9 (by decide)
        refine lv_iconst (v := 1) hx hb dX3_readsLine_331 rfl ?_
        refine lv_goto (tgt := 336) hx hb dX3_readsLine_332 rfl ?_
        refine lv_iadd hx hb dX3_readsLine_336 ?_
        refine w_topi (nz_add rfl rfl) ?_
        refine va_put (D := D) (ci := 0) (v := .int (nI (r_ + 1))) (ty := .int) (C := RX3) (T := TX3) (N := 31) hx hb hts in_X3 tyX3 tyX3_ok nmX3 hown hK hP (mD_va hmD dA σ ((g_135, nI r_, nI (tkE σ a_136), nI (tkP σ a_136), nI (tkE σ a_136), τ.ents, τ.em, τ.combos, τ.all_, τ.weight, τ.gain, τ.ad_, τ.minute, τ.ds, τ.bl, τ.chosen) : Sc)) hS 0 rfl rfl 3 (by decide) (hts _ q1117) (fun _ h9 => h9) rfl (by decide +kernel) (rfl) (rfl) (Nat.le_of_ble_eq_true rfl) dX3_readsLine_337 (fun H locs hP _ hS => ?_)
        have hP : va_P D vwCl (mX dA h ad σ.txt σ.len σ.wt σ.pr σ.tools σ.load σ.purse σ.beg σ.ways σ.told σ.calls σ.sm σ.sorts σ.visits σ.vm g_135 (nI (r_ + 1)) (nI (tkE σ a_136)) (nI (tkP σ a_136)) (nI (tkE σ a_136)) τ.ents τ.em τ.combos τ.all_ τ.weight τ.gain τ.ad_ τ.minute τ.ds τ.bl τ.chosen) H := hP
        refine lv_iload_n hx hb dX3_readsLine_340 rfl (lv_at hl 0 rfl) ?_
        exact rm_z (u := (σ, ((g_135, nI (r_ + 1), nI (tkE σ a_136), nI (tkP σ a_136), nI (tkE σ a_136), τ.ents, τ.em, τ.combos, τ.all_, τ.weight, τ.gain, τ.ad_, τ.minute, τ.ds, τ.bl, τ.chosen) : Sc))) hQ hx hb hr hlocks hK hP hS (Or.inr rfl) ((Or.inl ⟨rfl, g_135, [1, v_132], a_136, rfl, (by subst ea_127 ea_136; exact (lineL_1 h15 h29).trans (oneL_s hv_133)), (by rw [eg_135, ef_128]; exact ud14 f_ r_ 1 v_132), (ha_136)⟩)) dX3_readsLine_341
      · have hP : va_P D vwCl (mX dA h ad σ.txt σ.len σ.wt σ.pr σ.tools σ.load σ.purse σ.beg σ.ways σ.told σ.calls σ.sm σ.sorts σ.visits σ.vm f_128 (nI r_) (nI (tkE σ a_127)) (nI (tkP σ a_127)) (nI (tkE σ a_127)) τ.ents τ.em τ.combos τ.all_ τ.weight τ.gain τ.ad_ τ.minute τ.ds τ.bl τ.chosen) H := hP
        refine lv_istore_n (lv' := [(3, .int 0), (2, .int 1), (1, .int (8 * (nI r_))), (0, .ref h)]) hx hb dX3_readsLine_185 rfl hl (by decide) rfl (fun ls hl => ?_)
        refine lv_goto (tgt := 322) hx hb dX3_readsLine_186 rfl ?_
        refine lv_aload_n hx hb dX3_readsLine_322 rfl (lv_at hl 3 rfl) ?_
        refine lv_dup hx hb dX3_readsLine_323 rfl ?_
        refine va_get (D := D) (ci := 0) (v := .int (nI r_)) (C := RX3) (T := TX3) (N := 31) hx hb hts in_X3 hown hK hP 0 rfl rfl 3 (by decide) (hts _ q1117) (fun _ h9 => h9) rfl dX3_readsLine_324 ?_
        refine lv_iload_n hx hb dX3_readsLine_327 rfl (lv_at hl 0 rfl) ?_
        refine lv_if_eq (tgt := 335) hx hb dX3_readsLine_328 rfl (fun _ => ?_) (fun h9 => ?_)
        rotate_left
        · exact absurd (by decide) h9
        refine lv_iconst (v := 0) hx hb dX3_readsLine_335 rfl ?_
        refine lv_iadd hx hb dX3_readsLine_336 ?_
        refine w_topi (nz_add rfl rfl) ?_
        refine va_put (D := D) (ci := 0) (v := .int (nI (r_ + 0))) (ty := .int) (C := RX3) (T := TX3) (N := 31) hx hb hts in_X3 tyX3 tyX3_ok nmX3 hown hK hP (mD_va hmD dA σ ((f_128, nI r_, nI (tkE σ a_127), nI (tkP σ a_127), nI (tkE σ a_127), τ.ents, τ.em, τ.combos, τ.all_, τ.weight, τ.gain, τ.ad_, τ.minute, τ.ds, τ.bl, τ.chosen) : Sc)) hS 0 rfl rfl 3 (by decide) (hts _ q1117) (fun _ h9 => h9) rfl (by decide +kernel) (rfl) (rfl) (Nat.le_of_ble_eq_true rfl) dX3_readsLine_337 (fun H locs hP _ hS => ?_)
        have hP : va_P D vwCl (mX dA h ad σ.txt σ.len σ.wt σ.pr σ.tools σ.load σ.purse σ.beg σ.ways σ.told σ.calls σ.sm σ.sorts σ.visits σ.vm f_128 (nI (r_ + 0)) (nI (tkE σ a_127)) (nI (tkP σ a_127)) (nI (tkE σ a_127)) τ.ents τ.em τ.combos τ.all_ τ.weight τ.gain τ.ad_ τ.minute τ.ds τ.bl τ.chosen) H := hP
        refine lv_iload_n hx hb dX3_readsLine_340 rfl (lv_at hl 0 rfl) ?_
        exact rm_z (u := (σ, ((f_128, nI (r_ + 0), nI (tkE σ a_127), nI (tkP σ a_127), nI (tkE σ a_127), τ.ents, τ.em, τ.combos, τ.all_, τ.weight, τ.gain, τ.ad_, τ.minute, τ.ds, τ.bl, τ.chosen) : Sc))) hQ hx hb hr hlocks hK hP hS (Or.inl rfl) ((Or.inr ⟨rfl, tkP σ a_127, rfl, rfl, (by subst ea_127; exact (lineL_1 h15 h29).trans (oneL_n hv_134))⟩)) dX3_readsLine_341
  · have h15 : ¬ ((isF σ a_ 7808276 5) = 0) := h15
    refine lv_iconst (v := 0) hx hb dX3_readsLine_18 rfl ?_
    refine lv_goto (tgt := 109) hx hb dX3_readsLine_19 rfl ?_
    refine lv_istore_n (lv' := [(2, .int 0), (1, .int (8 * (nI r_))), (0, .ref h)]) hx hb dX3_readsLine_109 rfl hl (by decide) rfl (fun ls hl => ?_)
    refine lv_iload_n hx hb dX3_readsLine_110 rfl (lv_at hl 0 rfl) ?_
    refine lv_iconst (v := (-1)) hx hb dX3_readsLine_111 rfl ?_
    refine lv_icmp_ne (tgt := 117) hx hb dX3_readsLine_112 rfl (fun _ => ?_) (fun h9 => ?_)
    rotate_left
    · exact absurd h9 (by decide)
    refine lv_aload_n hx hb dX3_readsLine_117 rfl (lv_at hl 2 rfl) ?_
    refine mcVv (As := []) (rest := []) ⟨hx, hb, hml, hown, hts⟩ (mt_X3_token l D dA h ad σ ((f_, nI r_, nI (tkE σ a_), nI (tkP σ a_), nI (tkE σ a_), τ.ents, τ.em, τ.combos, τ.all_, τ.weight, τ.gain, τ.ad_, τ.minute, τ.ds, τ.bl, τ.chosen) : Sc) hmD (tkE σ a_) hI (tk2 ha)) (cw_X3_X3_token hts ⟨Nat.le_of_ble_eq_true rfl, Nat.le_of_ble_eq_true rfl⟩) (mB_now hK hP) (va_recv hK hP (ci := 0) (q0 := 0) rfl rfl) rfl hl.1 rfl (Nat.le_of_ble_eq_true rfl) dX3_readsLine_118 ⟨Nat.le_of_ble_eq_true rfl, Nat.le_of_ble_eq_true rfl⟩ hS (fun u_138 H locs hp_139 hP hS => ?_)
    subst hp_139
    have hP : va_P D vwCl (mX dA h ad σ.txt σ.len σ.wt σ.pr σ.tools σ.load σ.purse σ.beg σ.ways σ.told σ.calls σ.sm σ.sorts σ.visits σ.vm f_ (nI r_) (nI (tkE σ (tkE σ a_))) (nI (tkP σ (tkE σ a_))) (nI (tkE σ (tkE σ a_))) τ.ents τ.em τ.combos τ.all_ τ.weight τ.gain τ.ad_ τ.minute τ.ds τ.bl τ.chosen) H := hP
    obtain ⟨a_140, ea_140⟩ : ∃ x, x = tkE σ a_ := ⟨_, rfl⟩
    rw [← ea_140] at hP
    have ha_140 : a_140 ≤ σ.len := by rw [ea_140]; exact tk2 ha
    refine lv_aload_n hx hb dX3_readsLine_121 rfl (lv_at hl 2 rfl) ?_
    refine va_get (D := D) (ci := 0) (v := .ref (ad 1)) (C := RX3) (T := TX3) (N := 31) hx hb hts in_X3 hown hK hP 0 rfl rfl 2 (by decide) (hts _ q1116) (fun _ h9 => h9) rfl dX3_readsLine_122 ?_
    refine lv_iload_n hx hb dX3_readsLine_125 rfl (lv_at hl 1 rfl) ?_
    refine lv_iload_n hx hb dX3_readsLine_126 rfl (lv_at hl 0 rfl) ?_
    refine wa_iast (f := f_) hx hb hK hP (mD_va hmD dA σ ((f_, nI r_, nI (tkE σ a_140), nI (tkP σ a_140), nI (tkE σ a_140), τ.ents, τ.em, τ.combos, τ.all_, τ.weight, τ.gain, τ.ad_, τ.minute, τ.ds, τ.bl, τ.chosen) : Sc)) hS 2 0 rfl rfl (8 * r_) ((nz_mul rfl rfl)) (by omega) (by decide) dX3_readsLine_127 (fun H locs f_141 ef_141 hP hS => ?_)
    have hP : va_P D vwCl (mX dA h ad σ.txt σ.len σ.wt σ.pr σ.tools σ.load σ.purse σ.beg σ.ways σ.told σ.calls σ.sm σ.sorts σ.visits σ.vm f_141 (nI r_) (nI (tkE σ a_140)) (nI (tkP σ a_140)) (nI (tkE σ a_140)) τ.ents τ.em τ.combos τ.all_ τ.weight τ.gain τ.ad_ τ.minute τ.ds τ.bl τ.chosen) H := hP
    refine lv_iconst (v := 0) hx hb dX3_readsLine_128 rfl ?_
    refine lv_istore_n (lv' := [(3, .int 0), (2, .int 0), (1, .int (8 * (nI r_))), (0, .ref h)]) hx hb dX3_readsLine_129 rfl hl (by decide) rfl (fun ls hl => ?_)
    refine lv_iload_n hx hb dX3_readsLine_130 rfl (lv_at hl 1 rfl) ?_
    refine lv_tableIn (tgt := 168) hx hb dX3_readsLine_131 (by decide) (by decide) rfl rfl ?_
    refine lv_aload_n hx hb dX3_readsLine_168 rfl (lv_at hl 3 rfl) ?_
    refine mcVi (As := []) (rest := []) ⟨hx, hb, hml, hown, hts⟩ (mt_X3_readsThing l D dA h ad σ ((f_141, nI r_, nI (tkE σ a_140), nI (tkP σ a_140), nI (tkE σ a_140), τ.ents, τ.em, τ.combos, τ.all_, τ.weight, τ.gain, τ.ad_, τ.minute, τ.ds, τ.bl, τ.chosen) : Sc) hmD a_140 f_141 r_ hI ha_140 (by omega)) (cw_X3_X3_readsThing hts ⟨Nat.le_of_ble_eq_true rfl, Nat.le_of_ble_eq_true rfl⟩) (mB_now hK hP) (va_recv hK hP (ci := 0) (q0 := 0) rfl rfl) rfl hl.1 rfl (Nat.le_of_ble_eq_true rfl) dX3_readsLine_169 ⟨Nat.le_of_ble_eq_true rfl, Nat.le_of_ble_eq_true rfl⟩ hS (fun r_142 u_143 H locs hp_144 hP hS => ?_)
    rcases hp_144 with ⟨rfl, fn_145, vs_146, an_147, rfl, hq_148, hro_149, han_150⟩ | ⟨rfl, fp_151, hu_153, k_154, hq_152⟩
    · have hP : va_P D vwCl (mX dA h ad σ.txt σ.len σ.wt σ.pr σ.tools σ.load σ.purse σ.beg σ.ways σ.told σ.calls σ.sm σ.sorts σ.visits σ.vm fn_145 (nI r_) (nI (tkE σ an_147)) (nI (tkP σ an_147)) (nI (tkE σ an_147)) τ.ents τ.em τ.combos τ.all_ τ.weight τ.gain τ.ad_ τ.minute τ.ds τ.bl τ.chosen) H := hP
      refine lv_istore_n (lv' := [(3, .int 1), (2, .int 0), (1, .int (8 * (nI r_))), (0, .ref h)]) hx hb dX3_readsLine_172 rfl hl (by decide) rfl (fun ls hl => ?_)
      refine lv_goto (tgt := 322) hx hb dX3_readsLine_173 rfl ?_
      refine lv_aload_n hx hb dX3_readsLine_322 rfl (lv_at hl 3 rfl) ?_
      refine lv_dup hx hb dX3_readsLine_323 rfl ?_
      refine va_get (D := D) (ci := 0) (v := .int (nI r_)) (C := RX3) (T := TX3) (N := 31) hx hb hts in_X3 hown hK hP 0 rfl rfl 3 (by decide) (hts _ q1117) (fun _ h9 => h9) rfl dX3_readsLine_324 ?_
      refine lv_iload_n hx hb dX3_readsLine_327 rfl (lv_at hl 0 rfl) ?_
      refine lv_if_eq (tgt := 335) hx hb dX3_readsLine_328 rfl (fun h9 => ?_) (fun _ => ?_)
      · exact absurd h9 (by decide)
      refine lv_iconst (v := 1) hx hb dX3_readsLine_331 rfl ?_
      refine lv_goto (tgt := 336) hx hb dX3_readsLine_332 rfl ?_
      refine lv_iadd hx hb dX3_readsLine_336 ?_
      refine w_topi (nz_add rfl rfl) ?_
      refine va_put (D := D) (ci := 0) (v := .int (nI (r_ + 1))) (ty := .int) (C := RX3) (T := TX3) (N := 31) hx hb hts in_X3 tyX3 tyX3_ok nmX3 hown hK hP (mD_va hmD dA σ ((fn_145, nI r_, nI (tkE σ an_147), nI (tkP σ an_147), nI (tkE σ an_147), τ.ents, τ.em, τ.combos, τ.all_, τ.weight, τ.gain, τ.ad_, τ.minute, τ.ds, τ.bl, τ.chosen) : Sc)) hS 0 rfl rfl 3 (by decide) (hts _ q1117) (fun _ h9 => h9) rfl (by decide +kernel) (rfl) (rfl) (Nat.le_of_ble_eq_true rfl) dX3_readsLine_337 (fun H locs hP _ hS => ?_)
      have hP : va_P D vwCl (mX dA h ad σ.txt σ.len σ.wt σ.pr σ.tools σ.load σ.purse σ.beg σ.ways σ.told σ.calls σ.sm σ.sorts σ.visits σ.vm fn_145 (nI (r_ + 1)) (nI (tkE σ an_147)) (nI (tkP σ an_147)) (nI (tkE σ an_147)) τ.ents τ.em τ.combos τ.all_ τ.weight τ.gain τ.ad_ τ.minute τ.ds τ.bl τ.chosen) H := hP
      refine lv_iload_n hx hb dX3_readsLine_340 rfl (lv_at hl 0 rfl) ?_
      exact rm_z (u := (σ, ((fn_145, nI (r_ + 1), nI (tkE σ an_147), nI (tkP σ an_147), nI (tkE σ an_147), τ.ents, τ.em, τ.combos, τ.all_, τ.weight, τ.gain, τ.ad_, τ.minute, τ.ds, τ.bl, τ.chosen) : Sc))) hQ hx hb hr hlocks hK hP hS (Or.inr rfl) ((Or.inl ⟨rfl, fn_145, vs_146, an_147, rfl, (by subst ea_140; exact (lineL_0 h15).trans hq_148), (rd_line (w := 0) ef_141 hro_149 (by obtain ⟨_, _, _, _, z9, -⟩ := thing_i hq_148; rw [z9]; rfl)), (han_150)⟩)) dX3_readsLine_341
    · have hP : va_P D vwCl (mX dA h ad u_143.1.txt u_143.1.len u_143.1.wt u_143.1.pr u_143.1.tools u_143.1.load u_143.1.purse u_143.1.beg u_143.1.ways u_143.1.told u_143.1.calls u_143.1.sm u_143.1.sorts u_143.1.visits u_143.1.vm u_143.2.read u_143.2.rm u_143.2.at_ u_143.2.place u_143.2.end_ u_143.2.ents u_143.2.em u_143.2.combos u_143.2.all_ u_143.2.weight u_143.2.gain u_143.2.ad_ u_143.2.minute u_143.2.ds u_143.2.bl u_143.2.chosen) H := hP
      rw [hu_153, k_154] at hP
      clear hu_153 k_154
      have hP : va_P D vwCl (mX dA h ad σ.txt σ.len σ.wt σ.pr σ.tools σ.load σ.purse σ.beg σ.ways σ.told σ.calls σ.sm σ.sorts σ.visits σ.vm u_143.2.read u_143.2.rm u_143.2.at_ (nI fp_151) u_143.2.end_ u_143.2.ents u_143.2.em u_143.2.combos u_143.2.all_ u_143.2.weight u_143.2.gain u_143.2.ad_ u_143.2.minute u_143.2.ds u_143.2.bl u_143.2.chosen) H := hP
      refine lv_istore_n (lv' := [(3, .int 0), (2, .int 0), (1, .int (8 * (nI r_))), (0, .ref h)]) hx hb dX3_readsLine_172 rfl hl (by decide) rfl (fun ls hl => ?_)
      refine lv_goto (tgt := 322) hx hb dX3_readsLine_173 rfl ?_
      refine lv_aload_n hx hb dX3_readsLine_322 rfl (lv_at hl 3 rfl) ?_
      refine lv_dup hx hb dX3_readsLine_323 rfl ?_
      refine va_get (D := D) (ci := 0) (v := .int u_143.2.rm) (C := RX3) (T := TX3) (N := 31) hx hb hts in_X3 hown hK hP 0 rfl rfl 3 (by decide) (hts _ q1117) (fun _ h9 => h9) rfl dX3_readsLine_324 ?_
      refine lv_iload_n hx hb dX3_readsLine_327 rfl (lv_at hl 0 rfl) ?_
      refine lv_if_eq (tgt := 335) hx hb dX3_readsLine_328 rfl (fun _ => ?_) (fun h9 => ?_)
      rotate_left
      · exact absurd (by decide) h9
      refine lv_iconst (v := 0) hx hb dX3_readsLine_335 rfl ?_
      refine lv_iadd hx hb dX3_readsLine_336 ?_
      refine va_put (D := D) (ci := 0) (v := .int (u_143.2.rm + 0)) (ty := .int) (C := RX3) (T := TX3) (N := 31) hx hb hts in_X3 tyX3 tyX3_ok nmX3 hown hK hP (mD_va hmD dA σ ((u_143.2.read, u_143.2.rm, u_143.2.at_, nI fp_151, u_143.2.end_, u_143.2.ents, u_143.2.em, u_143.2.combos, u_143.2.all_, u_143.2.weight, u_143.2.gain, u_143.2.ad_, u_143.2.minute, u_143.2.ds, u_143.2.bl, u_143.2.chosen) : Sc)) hS 0 rfl rfl 3 (by decide) (hts _ q1117) (fun _ h9 => h9) rfl (by decide +kernel) (rfl) (rfl) (Nat.le_of_ble_eq_true rfl) dX3_readsLine_337 (fun H locs hP _ hS => ?_)
      have hP : va_P D vwCl (mX dA h ad σ.txt σ.len σ.wt σ.pr σ.tools σ.load σ.purse σ.beg σ.ways σ.told σ.calls σ.sm σ.sorts σ.visits σ.vm u_143.2.read (u_143.2.rm + 0) u_143.2.at_ (nI fp_151) u_143.2.end_ u_143.2.ents u_143.2.em u_143.2.combos u_143.2.all_ u_143.2.weight u_143.2.gain u_143.2.ad_ u_143.2.minute u_143.2.ds u_143.2.bl u_143.2.chosen) H := hP
      refine lv_iload_n hx hb dX3_readsLine_340 rfl (lv_at hl 0 rfl) ?_
      exact rm_z (u := (σ, ((u_143.2.read, u_143.2.rm + 0, u_143.2.at_, nI fp_151, u_143.2.end_, u_143.2.ents, u_143.2.em, u_143.2.combos, u_143.2.all_, u_143.2.weight, u_143.2.gain, u_143.2.ad_, u_143.2.minute, u_143.2.ds, u_143.2.bl, u_143.2.chosen) : Sc))) hQ hx hb hr hlocks hK hP hS (Or.inl rfl) ((Or.inr ⟨rfl, fp_151, rfl, rfl, (by subst ea_140; exact (lineL_0 h15).trans hq_152)⟩)) dX3_readsLine_341
