/-! PURE ROWS 3: the value of now: the component's recursion is the model's chain -/
set_option maxRecDepth 100000
/-- what holds all through besides Inv -/
def Inv2 (σ : St) : Prop := (∀ c, c < 6 → ∃ v, v < 100 ∧ σ.calls (6 * c + 3) = nI v) ∧ (∀ c, c < 6 → ∃ v, v < 100 ∧ σ.calls (6 * c + 4) = nI v) ∧ (∃ v, v ≤ 400 ∧ σ.load = nI v) ∧ ∃ v, v ≤ 999 ∧ σ.purse = nI v
def setU (σ : St) (set : Int32) : Prop := ∀ c, c < 6 → hasP set (nI c) → hasP σ.told (nI c) ∧ 0 < σ.sm c
def cnN (set : Int32) : Nat → Nat
  | 0 => 0
  | k + 1 => cnN set k + (if hasP set (nI k) then 1 else 0)
theorem cn_nat (set : Int32) : ∀ k, cnF set k = nI (cnN set k) := by
  intro k
  induction k with
  | zero => rfl
  | succ k ih =>
    rw [cnF, cnN, ih]
    split
    · exact nI_1 _
    · exact Int32.add_zero _
theorem cn_le (set : Int32) : ∀ k, cnN set k ≤ k := by
  intro k
  induction k with
  | zero => exact Nat.le_refl _
  | succ k ih => rw [cnN]; split <;> omega
def setN (set : Int32) (n : Nat) : Prop := (∃ v, v < 64 ∧ set = nI v) ∧ cnN set 6 ≤ n
theorem rest_all : ∀ v, v < 64 → ∀ c, c < 6 → hasP (nI v) (nI c) → restF (nI v) c &&& 63 = restF (nI v) c ∧ cnN (restF (nI v) c) 6 + 1 = cnN (nI v) 6 ∧ ∀ d, d < 6 → hasP (restF (nI v) c) (nI d) → hasP (nI v) (nI d) := by decide +kernel
theorem rest_N {set : Int32} {n c : Nat} (h : setN set (n + 1)) (hc : c < 6) (hh : hasP set (nI c)) : setN (restF set c) n := by
  obtain ⟨⟨v, hv, rfl⟩, h2⟩ := h
  obtain ⟨a, b, d⟩ := rest_all v hv c hc hh
  obtain ⟨j, hj, e⟩ := pk_andE (restF (nI v) c) (m := 63) 6 (by decide)
  exact ⟨⟨j, hj, by rw [← e, a]⟩, by omega⟩
theorem rest_U {σ : St} {set : Int32} {n c : Nat} (h : setN set n) (hU : setU σ set) (hc : c < 6) (hh : hasP set (nI c)) : setU σ (restF set c) := by
  obtain ⟨⟨v, hv, rfl⟩, h2⟩ := h
  exact fun d hd q => hU d hd ((rest_all v hv c hc hh).2.2 d hd q)
theorem set0 {set : Int32} {c : Nat} (h : setN set 0) (hc : c < 6) : ¬ hasP set (nI c) := by
  intro q
  obtain ⟨⟨v, hv, rfl⟩, h2⟩ := h
  have := (rest_all v hv c hc q).2.1
  omega
theorem rest1 : ∀ v, v < 64 → ∀ c, c < 6 → hasP (nI v) (nI c) → cnN (nI v) 6 ≤ 1 → restF (nI v) c = 0 := by decide +kernel
/-- when he may begin; -1: late -/
def bgF (σ : St) (x : Nat) (m : Int32) (c : Nat) : Int32 := if lateP σ (arrF σ x m c) c then -1 else arrF σ x m c
theorem beg_eq {σ : St} (hI : Inv σ) {x c : Nat} (hc : c < 6) (m : Int32) : begW (fun k => σ.calls (6 * c + k)) (m + σ.ways (6 * x + plF σ c)) = bgF σ x m c := by
  obtain ⟨h0, h12⟩ := hI.op c hc
  unfold begW bgF arrF lateP
  show (if _ ≤ σ.calls (6 * c + 2) then (if _ < σ.calls (6 * c + 1) then σ.calls (6 * c + 1) else _) else -1) = _
  generalize m + σ.ways (6 * x + plF σ c) = t
  generalize σ.calls (6 * c + 1) = a at *
  generalize σ.calls (6 * c + 2) = b at *
  by_cases h1 : a ≤ t
  · have h2 : ¬ t < a := Int32.not_lt.mpr h1
    rw [if_pos h1]
    by_cases h3 : t ≤ b
    · rw [if_pos h3, if_neg h2, if_neg (fun z => z h3)]
    · rw [if_neg h3, if_pos h3]
  · have h2 : t < a := Int32.not_le.mp h1
    rw [if_neg h1, if_neg (show ¬ ¬ a ≤ b from fun z => z h12), if_pos h2]
    by_cases h3 : t ≤ b
    · rw [if_pos h3]
    · exact absurd (Int32.le_of_lt (Int32.lt_of_lt_of_le h2 h12)) h3
theorem arr_nn {σ : St} (hI : Inv σ) {x c : Nat} (hc : c < 6) (m : Int32) : ¬ arrF σ x m c = -1 := by
  obtain ⟨h0, h12⟩ := hI.op c hc
  unfold arrF
  intro e
  by_cases h1 : σ.calls (6 * c + 1) ≤ m + σ.ways (6 * x + plF σ c)
  · rw [if_pos h1] at e
    rw [e] at h1
    exact absurd (Int32.le_trans h0 h1) (by decide)
  · rw [if_neg h1] at e
    rw [e] at h0
    exact absurd h0 (by decide)
theorem bg_late {σ : St} (hI : Inv σ) {x c : Nat} (hc : c < 6) {m : Int32} : bgF σ x m c = -1 ↔ lateP σ (arrF σ x m c) c := by
  unfold bgF
  by_cases h : lateP σ (arrF σ x m c) c
  · rw [if_pos h]; exact ⟨fun _ => h, fun _ => rfl⟩
  · rw [if_neg h]; exact ⟨fun q => absurd q (arr_nn hI hc m), fun q => absurd q h⟩
theorem bg_n {σ : St} (hI : Inv σ) {x c : Nat} (hc : c < 6) {m : Int32} (h : ¬ bgF σ x m c = -1) : ¬ lateP σ (arrF σ x m c) c ∧ bgF σ x m c = arrF σ x m c := by
  have hn : ¬ lateP σ (arrF σ x m c) c := fun q => h ((bg_late hI hc).mpr q)
  exact ⟨hn, by unfold bgF; rw [if_neg hn]⟩
theorem late_arr {σ : St} (hI : Inv σ) {x c : Nat} (hc : c < 6) {m : Int32} (h : lateP σ (arrF σ x m c) c) : arrF σ x m c = m + σ.ways (6 * x + plF σ c) := by
  obtain ⟨h0, h12⟩ := hI.op c hc
  unfold lateP at h
  unfold arrF at h ⊢
  by_cases h1 : σ.calls (6 * c + 1) ≤ m + σ.ways (6 * x + plF σ c)
  · rw [if_pos h1]
  · rw [if_neg h1] at h; exact absurd h12 h
theorem neg_l : ∀ v, v < 100 → (-(nI v)).toInt64 = -((nI v).toInt64) := by decide +kernel
theorem got_n {σ : St} (hJ : Inv2 σ) {c : Nat} (hc : c < 6) : gotF σ c (-1) = -((σ.calls (6 * c + 4)).toInt64) := by
  unfold gotF
  obtain ⟨v, hv, e⟩ := hJ.2.1 c hc
  rw [if_pos rfl, e, neg_l v hv]
theorem late_eq {σ : St} (hI : Inv σ) (hJ : Inv2 σ) {V : ValT} {x c : Nat} (hc : c < 6) {m bag set : Int32} (h : lateP σ (arrF σ x m c) c) :
    (total σ c).toInt64 * (V (plF σ c) (m + σ.ways (6 * x + plF σ c)) bag (restF set c) - (σ.calls (6 * c + 4)).toInt64 * tosF σ (restF set c) 6) = goV σ V x m bag set c := by
  unfold goV
  rw [if_pos h, late_arr hI hc h, got_n hJ hc, Int64.sub_eq_add_neg, Int64.neg_mul, Int64.add_comm]
theorem gos_s {σ : St} (hJ : Inv2 σ) {V : ValT} {c : Nat} (hc : c < 6) (t bag rest : Int32) (B : Int64) (k : Nat) :
    gosS σ V t bag rest B c (k + 1) = gosS σ V t bag rest B c k + (σ.sorts (16 * c + 4 * k)).toInt64 * (if ¬ leftF σ bag c k = -1 then (σ.calls (6 * c + 3)).toInt64 * B + V (plF σ c) (t + σ.sorts (16 * c + 4 * k + 1)) (leftF σ bag c k) rest else V (plF σ c) (t + σ.calls (6 * c + 5)) bag rest - (σ.calls (6 * c + 4)).toInt64 * B) := by
  rw [gosS]
  by_cases h : leftF σ bag c k = -1
  · rw [if_neg (show ¬ ¬ leftF σ bag c k = -1 from fun z => z h), if_pos h, h, got_n hJ hc, thenF, if_pos rfl, Int64.sub_eq_add_neg, Int64.neg_mul, Int64.add_comm (-_)]
  · rw [if_pos (show ¬ leftF σ bag c k = -1 from h), if_neg h, thenF, if_neg h, gotF, if_neg h]
theorem mx0 (σ : St) (V : ValT) (x : Nat) (m bag set : Int32) : ∀ k, 0 ≤ maxG σ V x m bag set k := by
  intro k
  induction k with
  | zero => exact Int64.le_refl _
  | succ k ih =>
    rw [maxG]
    generalize (if hasP set (nI k) then goV σ V x m bag set k else 0) = g
    by_cases h : g ≤ maxG σ V x m bag set k
    · rw [if_pos h]; exact ih
    · rw [if_neg h]
      exact Int64.le_trans ih (Int64.le_of_lt (Int64.not_le.mp h))
theorem max_s (σ : St) (V : ValT) (x : Nat) (m bag set : Int32) (k : Nat) : maxG σ V x m bag set (k + 1) = if hasP set (nI k) then (if goV σ V x m bag set k < maxG σ V x m bag set k then maxG σ V x m bag set k else goV σ V x m bag set k) else maxG σ V x m bag set k := by
  rw [maxG]
  by_cases h : hasP set (nI k)
  · rw [if_pos h, if_pos h]
    by_cases h1 : goV σ V x m bag set k ≤ maxG σ V x m bag set k
    · rw [if_pos h1]
      by_cases h2 : goV σ V x m bag set k < maxG σ V x m bag set k
      · rw [if_pos h2]
      · rw [if_neg h2]; exact Int64.le_antisymm (Int64.not_lt.mp h2) h1
    · rw [if_neg h1, if_neg (fun q => h1 (Int64.le_of_lt q))]
  · rw [if_neg h, if_neg h, if_pos (mx0 σ V x m bag set k)]
/-- n calls deep -/
def mV (σ : St) : Nat → ValT
  | 0 => fun _ _ _ _ => 0
  | n + 1 => maxV σ (mV σ n)
def agV (n : Nat) (V V' : ValT) : Prop := ∀ x m bag set, setN set n → V x m bag set = V' x m bag set
theorem gos_ag {σ : St} {V V' : ValT} {n : Nat} (h : agV n V V') {rest : Int32} (hr : setN rest n) (t bag : Int32) (B : Int64) (c : Nat) : ∀ k, gosS σ V t bag rest B c k = gosS σ V' t bag rest B c k := by
  intro k
  induction k with
  | zero => rfl
  | succ k ih => rw [gosS, gosS, ih, h _ _ _ _ hr]
theorem go_ag {σ : St} {V V' : ValT} {n : Nat} (h : agV n V V') {x c : Nat} {m bag set : Int32} (hs : setN set (n + 1)) (hc : c < 6) (hh : hasP set (nI c)) : goV σ V x m bag set c = goV σ V' x m bag set c := by
  have hr := rest_N hs hc hh
  unfold goV
  rw [h _ _ _ _ hr, gos_ag h hr]
theorem max_ag {σ : St} {V V' : ValT} {n : Nat} (h : agV n V V') : agV (n + 1) (maxV σ V) (maxV σ V') := by
  intro x m bag set hs
  have : ∀ k, k ≤ 6 → maxG σ V x m bag set k = maxG σ V' x m bag set k := by
    intro k
    induction k with
    | zero => intro _; rfl
    | succ k ih =>
      intro hk
      rw [max_s, max_s, ih (by omega)]
      by_cases hh : hasP set (nI k)
      · rw [if_pos hh, if_pos hh, go_ag h hs (by omega) hh]
      · rw [if_neg hh, if_neg hh]
  exact this 6 (Nat.le_refl _)
theorem tos0 (σ : St) : tosF σ 0 6 = 1 := by
  have : ∀ k, k ≤ 6 → tosF σ 0 k = 1 := by
    intro k
    induction k with
    | zero => intro _; rfl
    | succ k ih =>
      intro hk
      rw [tosF, ih (by omega), if_neg (has0 k (by omega))]
      decide
  exact this 6 (Nat.le_refl _)
theorem gos1 (σ : St) (t bag rest : Int32) (c : Nat) : ∀ k, gosS σ (mV σ 0) t bag rest 1 c k = oneS σ bag c k := by
  intro k
  induction k with
  | zero => rfl
  | succ k ih =>
    rw [gosS, oneS, ih]
    show _ + _ * (_ * 1 + 0) = _
    rw [Int64.mul_one, Int64.add_zero]
theorem one_ag (σ : St) : agV 1 (mV σ 1) (oneF σ) := by
  intro x m bag set hs
  have hg : ∀ c, c < 6 → hasP set (nI c) → goV σ (mV σ 0) x m bag set c = oneC σ x m bag c := by
    intro c hc hh
    obtain ⟨⟨v, hv, rfl⟩, h2⟩ := hs
    unfold goV oneC
    rw [rest1 v hv c hc hh h2, tos0, gos1]
    show (if lateP σ (arrF σ x m c) c then (total σ c).toInt64 * (gotF σ c (-1) * 1 + 0) else _) = _
    rw [Int64.mul_one, Int64.add_zero]
  have : ∀ k, k ≤ 6 → maxG σ (mV σ 0) x m bag set k = oneG σ x m bag set k := by
    intro k
    induction k with
    | zero => intro _; rfl
    | succ k ih =>
      intro hk
      rw [maxG, oneG]
      by_cases hh : hasP set (nI k)
      · rw [if_pos hh, if_pos hh, hg k (by omega) hh, ih (by omega)]
      · rw [if_neg hh, if_neg hh, if_pos (mx0 _ _ _ _ _ _ _), ih (by omega)]
  exact this 6 (Nat.le_refl _)
theorem val3 (σ : St) : agV 3 (mV σ 3) (maxV σ (maxV σ (oneF σ))) := max_ag (max_ag (one_ag σ))
theorem val4 (σ : St) : agV 4 (mV σ 4) (maxV σ (maxV σ (maxV σ (oneF σ)))) := max_ag (val3 σ)
theorem kn_le {σ : St} {set : Int32} {k : Nat} (h : knF σ set k = 0) : ∀ d, knF σ set (k + d) = 0
  | 0 => h
  | d + 1 => by show (if knF σ set (k + d) = 0 then _ else _) = _; rw [if_pos (kn_le h d)]
theorem now_N {set : Int32} (h1 : inP set.toInt64 0 63) (h2 : cnF set 6 ≤ 4) : setN set 4 := by
  obtain ⟨j, hj, e⟩ := inP_of 63 (by decide) h1
  refine ⟨⟨j, by omega, e⟩, ?_⟩
  rw [cn_nat] at h2
  have := cn_le set 6
  exact (nI_leI (a := cnN set 6) (b := 4) (by omega) (by decide)).mp h2
theorem now_U {σ : St} {set : Int32} (h : ¬ knF σ set 6 = 0) : setU σ set := by
  intro c hc hh
  have := kn_use 6 h c hc hh
  refine ⟨this.1.2, ?_⟩
  have h2 := this.2
  rw [ix_nI hc (by decide)] at h2
  omega
theorem refNow_c {σ : St} {x m bag set : Int32} (h : ¬ refNowF σ x m bag set = 0) : refNowF σ x m bag set = -2 ∨ refNowF σ x m bag set = -3 := by
  unfold refNowF at *
  by_cases h1 : inP x.toInt64 0 5
  · by_cases h2 : inP set.toInt64 0 63
    · by_cases h3 : knF σ set 6 = 0
      · rw [if_pos h1, if_pos h2, if_pos h3]; exact Or.inl rfl
      · by_cases h4 : inP m.toInt64 0 1439
        · by_cases h5 : bagP bag
          · by_cases h6 : cnF set 6 ≤ 4
            · rw [if_pos h1, if_pos h2, if_neg h3, if_pos h4, if_pos h5, if_pos h6] at h; exact absurd rfl h
            · rw [if_pos h1, if_pos h2, if_neg h3, if_pos h4, if_pos h5, if_neg h6]; exact Or.inr rfl
          · rw [if_pos h1, if_pos h2, if_neg h3, if_pos h4, if_neg h5]; exact Or.inr rfl
        · rw [if_pos h1, if_pos h2, if_neg h3, if_neg h4]; exact Or.inr rfl
    · rw [if_pos h1, if_neg h2]; exact Or.inr rfl
  · rw [if_neg h1]; exact Or.inl rfl
