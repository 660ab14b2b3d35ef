/-! THE MODEL's METHODS 6: rows -/
set_option maxRecDepth 100000
/-- the entry i of a row as a natural number -/
def en (row : Int32) (i : Nat) : Nat := ix (entF row i)
theorem en_eq (row : Int32) (i : Nat) : entF row i = nI (en row i) := by
  obtain ⟨j, hj, e⟩ := pk_andE (row >>> ((4 * nI i) &&& 31)) (m := 15) 4 (by decide)
  unfold en
  have e2 : entF row i = nI j := e
  rw [e2, ix_nI hj (by decide)]
theorem en_lt (row : Int32) (i : Nat) : en row i < 16 := by
  obtain ⟨j, hj, e⟩ := pk_andE (row >>> ((4 * nI i) &&& 31)) (m := 15) 4 (by decide)
  unfold en
  have e2 : entF row i = nI j := e
  rw [e2, ix_nI hj (by decide)]
  exact hj
/-- a row that isn't refused: HOME, or calls that are told and have sorts -/
def okR (σ : St) (row : Int32) (n : Nat) : Prop := n ≤ 6 ∧ ∀ i, i < n → en row i = 6 ∨ (en row i < 6 ∧ 0 < σ.sm (en row i))
theorem bad_ok {σ : St} {row : Int32} : ∀ n, badU σ row n = false → ∀ i, i < n → en row i = 6 ∨ (en row i < 6 ∧ 0 < σ.sm (en row i))
  | 0, _, i, hi => absurd hi (Nat.not_lt_zero _)
  | n + 1, h, i, hi => by
    rw [badU, Bool.or_eq_false_iff] at h
    by_cases e : i = n
    · subst e
      have h2 := of_decide_eq_false h.2
      by_cases h6 : entF row i = 6
      · rw [en_eq] at h6
        exact Or.inl ((nI_eq (a := en row i) (b := 6) (by have := en_lt row i; omega) (by decide)).mp h6)
      · have hu : useP σ (entF row i) := Decidable.byContradiction fun q => h2 ⟨h6, q⟩
        obtain ⟨j, hj, e⟩ := in5 hu.1.1
        have e2 : en row i = j := by unfold en; rw [e]; exact ix_nI hj (by decide)
        have h3 := hu.2
        have e3 : ix (entF row i) = j := e2
        rw [e3] at h3
        exact Or.inr ⟨by omega, by rw [e2]; omega⟩
    · exact bad_ok n h.1 i (by omega)
theorem ref_ok {σ : St} {row n : Int32} (h : refF σ row n = 0) : ∃ j, 1 ≤ j ∧ j ≤ 6 ∧ n = nI j ∧ okR σ row j ∧ twF row j = 0 := by
  unfold refF at h
  by_cases h1 : inP n.toInt64 1 6
  · obtain ⟨j, a, b, rfl⟩ := in16 h1
    rw [if_pos h1, ix_nI (n := j) (N := 7) (by omega) (by decide)] at h
    cases hb : badU σ row j with
    | true => rw [if_pos hb] at h; exact absurd h (by decide)
    | false =>
      rw [if_neg (by rw [hb]; decide)] at h
      by_cases h2 : twF row j = 0
      · exact ⟨j, a, b, rfl, ⟨b, bad_ok j hb⟩, h2⟩
      · rw [if_neg h2] at h; exact absurd h (by decide)
  · rw [if_neg h1] at h; exact absurd h (by decide)
def entU (row : Int32) (f : Nat → Int32) : Nat → Nat → Int32
  | 0 => f
  | k + 1 => upd (entU row f k) k (nI (en row k))
theorem entU_at {row : Int32} {f : Nat → Int32} : ∀ n i, i < n → entU row f n i = nI (en row i)
  | 0, i, h => absurd h (Nat.not_lt_zero _)
  | n + 1, i, h => by
    show upd (entU row f n) n (nI (en row n)) i = _
    unfold upd
    by_cases e : i = n
    · rw [if_pos e, e]
    · rw [if_neg e]; exact entU_at n i (by omega)
/-- how many ways to be -/
def comN (σ : St) (row : Int32) : Nat → Nat
  | 0 => 1
  | k + 1 => comN σ row k * (if en row k = 6 then 1 else σ.sm (en row k))
theorem com_s (σ : St) (row : Int32) (k : Nat) : nI (comN σ row k) * (if en row k = 6 then 1 else nI (σ.sm (en row k))) = nI (comN σ row (k + 1)) := by
  rw [comN]
  by_cases h : en row k = 6
  · rw [if_pos h, if_pos h]; exact pk_mul _ 1
  · rw [if_neg h, if_neg h]; exact pk_mul _ _
theorem com_le {σ : St} (hI : Inv σ) {row : Int32} : ∀ n, (∀ i, i < n → en row i = 6 ∨ (en row i < 6 ∧ 0 < σ.sm (en row i))) → 1 ≤ comN σ row n ∧ comN σ row n ≤ 4 ^ n
  | 0, _ => ⟨Nat.le_refl _, Nat.le_refl _⟩
  | n + 1, h => by
    obtain ⟨a, b⟩ := com_le hI n (fun i hi => h i (by omega))
    rw [comN, Nat.pow_succ]
    by_cases e : en row n = 6
    · rw [if_pos e]; omega
    · rw [if_neg e]
      obtain ⟨c, d⟩ := (h n (by omega)).resolve_left e
      have := hI.sm _ c
      exact ⟨Nat.mul_pos a d, Nat.mul_le_mul b this⟩
theorem com_bd {σ : St} (hI : Inv σ) {row : Int32} {n : Nat} (h : okR σ row n) : 1 ≤ comN σ row n ∧ comN σ row n ≤ 4096 := by
  obtain ⟨a, b⟩ := com_le hI n h.2
  have : 4 ^ n ≤ 4 ^ 6 := Nat.pow_le_pow_right (by decide) h.1
  exact ⟨a, Nat.le_trans b this⟩
/-- the totals together -/
def allP (σ : St) (row : Int32) : Nat → Int64
  | 0 => 1
  | k + 1 => allP σ row k * (if en row k = 6 then 1 else (total σ (en row k)).toInt64)
theorem all_nat {σ : St} (hI : Inv σ) {row : Int32} : ∀ n, (∀ i, i < n → en row i = 6 ∨ (en row i < 6 ∧ 0 < σ.sm (en row i))) → ∃ v, 1 ≤ v ∧ v ≤ 80 ^ n ∧ allP σ row n = lN v
  | 0, _ => ⟨1, by decide, by decide, rfl⟩
  | n + 1, h => by
    obtain ⟨v, h1, h2, h3⟩ := all_nat hI n (fun i hi => h i (by omega))
    rw [allP, h3]
    by_cases e : en row n = 6
    · rw [if_pos e]
      exact ⟨v, h1, Nat.le_trans h2 (Nat.pow_le_pow_right (by decide) (by omega)), Int64.mul_one _⟩
    · rw [if_neg e]
      obtain ⟨c, d⟩ := (h n (by omega)).resolve_left e
      obtain ⟨w, g1, g2, g3⟩ := total_nat hI c
      rw [g3, nI_l (by omega), lN_mul]
      refine ⟨v * w, Nat.mul_pos h1 (by omega), ?_, rfl⟩
      rw [Nat.pow_succ]
      exact Nat.mul_le_mul h2 g2
theorem all_ne {σ : St} (hI : Inv σ) {row : Int32} {n : Nat} (h : okR σ row n) : ¬ allP σ row n = 0 := by
  obtain ⟨v, h1, h2, h3⟩ := all_nat hI n h.2
  rw [h3]
  exact lN_ne0 h1 (Nat.le_trans h2 (Nat.pow_le_pow_right (by decide) h.1))

def rmX3_layRow : Room := { frames := 1, cells := 0, slots := 0, locals := 23 }
set_option maxHeartbeats 1000000 in
theorem mt_X3_layRow (l : Launch) (D : va_G) (dA : Nat → ClassId) (h : Nat) (ad : Nat → Nat) (σ : St) (τ : Sc) (hmD : mD h ad) (row : Int32) (j : Nat) (hI : Inv σ) (hR : okR σ row j) : Met l yX3_layRow (ws_ yX3_layRow cX3_layRow 5 none) rmX3_layRow (va_Pc [.ref h, .int row, .int (nI j)] (mB D dA h ad σ τ)) (va_Qv (fun (u : MS) => u = (σ, ((τ.read, τ.rm, τ.at_, τ.place, τ.end_, entU row τ.ents j, nI j, nI (comN σ row j), allP σ row j, τ.weight, τ.gain, τ.ad_, τ.minute, τ.ds, τ.bl, τ.chosen) : Sc))) (fun u t => mB D dA h ad u.1 u.2 t) (mA h ad)) 0 0 (mA h ad) := by
  refine w_start (by decide) (Nat.le_of_ble_eq_true rfl) ?_
  intro p e s m args below meth c Q ls hQ hx hb hr hlocks hml hown hnm hts hB hl
  have hown : s.vm.findClass RX3 = some m.cls := hown
  have hl : lv_has ls 5 [(0, .ref h), (1, .int row), (2, .int (nI j))] := hl
  obtain ⟨hP, hK⟩ := hB
  have hP : va_P D vwCl (mX dA h ad σ.txt σ.len σ.wt σ.pr σ.tools σ.load σ.purse σ.beg σ.ways σ.told σ.calls σ.sm σ.sorts σ.visits σ.vm τ.read τ.rm τ.at_ τ.place τ.end_ τ.ents τ.em τ.combos τ.all_ τ.weight τ.gain τ.ad_ τ.minute τ.ds τ.bl τ.chosen) s.heap := hP
  have hS : va_S (mA h ad) s.heap s.heap [] := va_S.rf
  have hj := hR.1
  refine lv_aload_n hx hb dX3_layRow_0 rfl (lv_at hl 0 rfl) ?_
  refine lv_iload_n hx hb dX3_layRow_1 rfl (lv_at hl 2 rfl) ?_
  refine va_put (D := D) (ci := 0) (v := .int (nI j)) (ty := .int) (C := RX3) (T := TX3) (N := 31) hx hb hts in_X3 tyX3 tyX3_ok nmX3 hown hK hP (mD_va hmD dA σ τ) hS 0 rfl rfl 21 (by decide) (hts _ q1135) (fun _ h9 => h9) rfl (by decide +kernel) (rfl) (rfl) (Nat.le_of_ble_eq_true rfl) dX3_layRow_2 (fun H locs hP _ hS => ?_)
  have hP : va_P D vwCl (mX dA h ad σ.txt σ.len σ.wt σ.pr σ.tools σ.load σ.purse σ.beg σ.ways σ.told σ.calls σ.sm σ.sorts σ.visits σ.vm τ.read τ.rm τ.at_ τ.place τ.end_ τ.ents (nI j) τ.combos τ.all_ τ.weight τ.gain τ.ad_ τ.minute τ.ds τ.bl τ.chosen) H := hP
  refine lv_aload_n hx hb dX3_layRow_5 rfl (lv_at hl 0 rfl) ?_
  refine lv_iconst (v := 1) hx hb dX3_layRow_6 rfl ?_
  refine va_put (D := D) (ci := 0) (v := .int 1) (ty := .int) (C := RX3) (T := TX3) (N := 31) hx hb hts in_X3 tyX3 tyX3_ok nmX3 hown hK hP (mD_va hmD dA σ ((τ.read, τ.rm, τ.at_, τ.place, τ.end_, τ.ents, nI j, τ.combos, τ.all_, τ.weight, τ.gain, τ.ad_, τ.minute, τ.ds, τ.bl, τ.chosen) : Sc)) hS 0 rfl rfl 22 (by decide) (hts _ q1136) (fun _ h9 => h9) rfl (by decide +kernel) (rfl) (rfl) (Nat.le_of_ble_eq_true rfl) dX3_layRow_7 (fun H locs hP _ hS => ?_)
  have hP : va_P D vwCl (mX dA h ad σ.txt σ.len σ.wt σ.pr σ.tools σ.load σ.purse σ.beg σ.ways σ.told σ.calls σ.sm σ.sorts σ.visits σ.vm τ.read τ.rm τ.at_ τ.place τ.end_ τ.ents (nI j) 1 τ.all_ τ.weight τ.gain τ.ad_ τ.minute τ.ds τ.bl τ.chosen) H := hP
  refine lv_aload_n hx hb dX3_layRow_10 rfl (lv_at hl 0 rfl) ?_
  refine lv_lconst (v := 1) hx hb dX3_layRow_11 rfl ?_
  refine va_put (D := D) (ci := 0) (v := .long 1) (ty := .long) (C := RX3) (T := TX3) (N := 31) hx hb hts in_X3 tyX3 tyX3_ok nmX3 hown hK hP (mD_va hmD dA σ ((τ.read, τ.rm, τ.at_, τ.place, τ.end_, τ.ents, nI j, 1, τ.all_, τ.weight, τ.gain, τ.ad_, τ.minute, τ.ds, τ.bl, τ.chosen) : Sc)) hS 0 rfl rfl 23 (by decide) (hts _ q1137) (fun _ h9 => h9) rfl (by decide +kernel) (rfl) (rfl) (Nat.le_of_ble_eq_true rfl) dX3_layRow_12 (fun H locs hP _ hS => ?_)
  have hP : va_P D vwCl (mX dA h ad σ.txt σ.len σ.wt σ.pr σ.tools σ.load σ.purse σ.beg σ.ways σ.told σ.calls σ.sm σ.sorts σ.visits σ.vm τ.read τ.rm τ.at_ τ.place τ.end_ τ.ents (nI j) 1 1 τ.weight τ.gain τ.ad_ τ.minute τ.ds τ.bl τ.chosen) H := hP
  refine lv_iconst (v := 0) hx hb dX3_layRow_15 rfl ?_
  refine lv_istore_n (lv' := [(3, .int 0), (0, .ref h), (1, .int row), (2, .int (nI j))]) hx hb dX3_layRow_16 rfl hl (by decide) rfl (fun ls hl => ?_)
  have hL17_1 : ∀ (n_2 : Nat) (k : Nat) (x3 : Int32) (ls : Array Slot) (H : Heap) (locs : List Loc), (6 - k) < n_2 → (k ≤ j) → x3 = (nI k) → lv_has ls 5 [(3, .int x3), (0, .ref h), (1, .int row), (2, .int (nI j))] → va_P D vwCl (mX dA h ad σ.txt σ.len σ.wt σ.pr σ.tools σ.load σ.purse σ.beg σ.ways σ.told σ.calls σ.sm σ.sorts σ.visits σ.vm τ.read τ.rm τ.at_ τ.place τ.end_ (entU row τ.ents k) (nI j) (nI (comN σ row k)) (allP σ row k) τ.weight τ.gain τ.ad_ τ.minute τ.ds τ.bl τ.chosen) H → va_S (mA h ad) s.heap H locs → W p l e rmX3_layRow s m args below meth c H locs 0 0 Q (F0 m 17 ls []) := by
    intro n_2
    induction n_2 with
    | zero => intro k x3 ls H locs hm_4; exact absurd hm_4 (Nat.not_lt_zero _)
    | succ n_2 ih_3 =>
      intro k x3 ls H locs hm_4 hk ex3 hl hP hS
      subst ex3
      refine lv_iload_n hx hb dX3_layRow_17 rfl (lv_at hl 0 rfl) ?_
      refine lv_iload_n hx hb dX3_layRow_18 rfl (lv_at hl 3 rfl) ?_
      refine lv_icmp_ge (tgt := 100) hx hb dX3_layRow_19 rfl (fun h19 => ?_) (fun h19 => ?_)
      · have h19 : j ≤ k := (nz_le (a := j) (b := k) rfl rfl (by omega) (by omega)).mp h19
        obtain rfl : k = j := by omega
        exact rm_v (u := (σ, ((τ.read, τ.rm, τ.at_, τ.place, τ.end_, entU row τ.ents k, nI k, nI (comN σ row k), allP σ row k, τ.weight, τ.gain, τ.ad_, τ.minute, τ.ds, τ.bl, τ.chosen) : Sc))) hQ hx hb hr hlocks hK hP hS (rfl) dX3_layRow_100
      · have h19 : ¬ (j ≤ k) := fun z9 => h19 ((nz_le (a := j) (b := k) rfl rfl (by omega) (by omega)).mpr z9)
        refine lv_iload_n hx hb dX3_layRow_22 rfl (lv_at hl 2 rfl) ?_
        refine lv_iconst (v := 4) hx hb dX3_layRow_23 rfl ?_
        refine lv_iload_n hx hb dX3_layRow_24 rfl (lv_at hl 0 rfl) ?_
        refine lv_imul hx hb dX3_layRow_25 ?_
        refine lv_ishr hx hb dX3_layRow_26 ?_
        refine lv_bipush (v := 15) hx hb dX3_layRow_27 rfl ?_
        refine lv_iand hx hb dX3_layRow_29 ?_
        refine w_topi (y := nI (en row k)) (en_eq row k) ?_
        have hen := en_lt row k
        refine lv_istore (lv' := [(4, .int (nI (en row k))), (3, .int (nI k)), (0, .ref h), (1, .int row), (2, .int (nI j))]) hx hb dX3_layRow_30 hl (by decide) rfl (fun ls hl => ?_)
        refine lv_aload_n hx hb dX3_layRow_32 rfl (lv_at hl 2 rfl) ?_
        refine va_get (D := D) (ci := 0) (v := .ref (ad 9)) (C := RX3) (T := TX3) (N := 31) hx hb hts in_X3 hown hK hP 0 rfl rfl 20 (by decide) (hts _ q1134) (fun _ h9 => h9) rfl dX3_layRow_33 ?_
        refine lv_iload_n hx hb dX3_layRow_36 rfl (lv_at hl 1 rfl) ?_
        refine lv_iload hx hb dX3_layRow_37 (lv_at hl 0 rfl) ?_
        refine wa_iast (f := entU row τ.ents k) hx hb hK hP (mD_va hmD dA σ ((τ.read, τ.rm, τ.at_, τ.place, τ.end_, entU row τ.ents k, nI j, nI (comN σ row k), allP σ row k, τ.weight, τ.gain, τ.ad_, τ.minute, τ.ds, τ.bl, τ.chosen) : Sc)) hS 10 0 rfl rfl (k) (rfl) (by omega) (by decide) dX3_layRow_39 (fun H locs f_5 ef_5 hP hS => ?_)
        have hP : va_P D vwCl (mX dA h ad σ.txt σ.len σ.wt σ.pr σ.tools σ.load σ.purse σ.beg σ.ways σ.told σ.calls σ.sm σ.sorts σ.visits σ.vm τ.read τ.rm τ.at_ τ.place τ.end_ f_5 (nI j) (nI (comN σ row k)) (allP σ row k) τ.weight τ.gain τ.ad_ τ.minute τ.ds τ.bl τ.chosen) H := hP
        refine lv_aload_n hx hb dX3_layRow_40 rfl (lv_at hl 2 rfl) ?_
        refine lv_dup hx hb dX3_layRow_41 rfl ?_
        refine va_get (D := D) (ci := 0) (v := .int (nI (comN σ row k))) (C := RX3) (T := TX3) (N := 31) hx hb hts in_X3 hown hK hP 0 rfl rfl 22 (by decide) (hts _ q1136) (fun _ h9 => h9) rfl dX3_layRow_42 ?_
        refine lv_iload hx hb dX3_layRow_45 (lv_at hl 0 rfl) ?_
        refine lv_bipush (v := 6) hx hb dX3_layRow_47 rfl ?_
        have hJ63_6 : ∀ (v_7 : Int32) (ls : Array Slot), v_7 = (if (en row k) = 6 then 1 else nI (σ.sm (en row k))) → lv_has ls 5 [(4, .int (nI (en row k))), (3, .int (nI k)), (0, .ref h), (1, .int row), (2, .int (nI j))] → W p l e rmX3_layRow s m args below meth c H locs 0 0 Q (F0 m 63 ls [.int v_7, .int (nI (comN σ row k)), .ref h]) := by
          intro v_7 ls ev_7 hl
          refine lv_imul hx hb dX3_layRow_63 ?_
          refine lv_topi (fun g_8 eg_8 => ?_)
          refine va_put (D := D) (ci := 0) (v := .int g_8) (ty := .int) (C := RX3) (T := TX3) (N := 31) hx hb hts in_X3 tyX3 tyX3_ok nmX3 hown hK hP (mD_va hmD dA σ ((τ.read, τ.rm, τ.at_, τ.place, τ.end_, f_5, nI j, nI (comN σ row k), allP σ row k, τ.weight, τ.gain, τ.ad_, τ.minute, τ.ds, τ.bl, τ.chosen) : Sc)) hS 0 rfl rfl 22 (by decide) (hts _ q1136) (fun _ h9 => h9) rfl (by decide +kernel) (rfl) (rfl) (Nat.le_of_ble_eq_true rfl) dX3_layRow_64 (fun H locs hP _ hS => ?_)
          have hP : va_P D vwCl (mX dA h ad σ.txt σ.len σ.wt σ.pr σ.tools σ.load σ.purse σ.beg σ.ways σ.told σ.calls σ.sm σ.sorts σ.visits σ.vm τ.read τ.rm τ.at_ τ.place τ.end_ f_5 (nI j) g_8 (allP σ row k) τ.weight τ.gain τ.ad_ τ.minute τ.ds τ.bl τ.chosen) H := hP
          refine lv_aload_n hx hb dX3_layRow_67 rfl (lv_at hl 2 rfl) ?_
          refine lv_dup hx hb dX3_layRow_68 rfl ?_
          refine va_get (D := D) (ci := 0) (v := .long (allP σ row k)) (C := RX3) (T := TX3) (N := 31) hx hb hts in_X3 hown hK hP 0 rfl rfl 23 (by decide) (hts _ q1137) (fun _ h9 => h9) rfl dX3_layRow_69 ?_
          refine lv_iload hx hb dX3_layRow_72 (lv_at hl 0 rfl) ?_
          refine lv_bipush (v := 6) hx hb dX3_layRow_74 rfl ?_
          have hJ90_9 : ∀ (v_10 : Int64) (ls : Array Slot), v_10 = (if (en row k) = 6 then 1 else (total σ (en row k) : Int32).toInt64) → lv_has ls 5 [(4, .int (nI (en row k))), (3, .int (nI k)), (0, .ref h), (1, .int row), (2, .int (nI j))] → W p l e rmX3_layRow s m args below meth c H locs 0 0 Q (F0 m 90 ls [.long v_10, .long (allP σ row k), .ref h]) := by
            intro v_10 ls ev_10 hl
            refine lv_lmul hx hb dX3_layRow_90 ?_
            refine lv_topl (fun g_11 eg_11 => ?_)
            refine va_put (D := D) (ci := 0) (v := .long g_11) (ty := .long) (C := RX3) (T := TX3) (N := 31) hx hb hts in_X3 tyX3 tyX3_ok nmX3 hown hK hP (mD_va hmD dA σ ((τ.read, τ.rm, τ.at_, τ.place, τ.end_, f_5, nI j, g_8, allP σ row k, τ.weight, τ.gain, τ.ad_, τ.minute, τ.ds, τ.bl, τ.chosen) : Sc)) hS 0 rfl rfl 23 (by decide) (hts _ q1137) (fun _ h9 => h9) rfl (by decide +kernel) (rfl) (rfl) (Nat.le_of_ble_eq_true rfl) dX3_layRow_91 (fun H locs hP _ hS => ?_)
            have hP : va_P D vwCl (mX dA h ad σ.txt σ.len σ.wt σ.pr σ.tools σ.load σ.purse σ.beg σ.ways σ.told σ.calls σ.sm σ.sorts σ.visits σ.vm τ.read τ.rm τ.at_ τ.place τ.end_ f_5 (nI j) g_8 g_11 τ.weight τ.gain τ.ad_ τ.minute τ.ds τ.bl τ.chosen) H := hP
            refine lv_iinc (v := nI (k + 1)) (lv' := [(3, .int (nI (k + 1))), (4, .int (nI (en row k))), (0, .ref h), (1, .int row), (2, .int (nI j))]) hx hb dX3_layRow_94 hl (k := 1) rfl (nI_1 k) (by decide) rfl (fun ls hl => ?_)
            refine lv_goto (tgt := 17) hx hb dX3_layRow_97 rfl ?_
            have eh_12 : f_5 = entU row τ.ents (k + 1) := (by subst_vars; rw [entU])
            have eh_13 : g_8 = nI (comN σ row (k + 1)) := (by subst_vars; exact com_s σ row k)
            have eh_14 : g_11 = allP σ row (k + 1) := (by subst_vars; rw [allP])
            have hP : va_P D vwCl (mX dA h ad σ.txt σ.len σ.wt σ.pr σ.tools σ.load σ.purse σ.beg σ.ways σ.told σ.calls σ.sm σ.sorts σ.visits σ.vm τ.read τ.rm τ.at_ τ.place τ.end_ (entU row τ.ents (k + 1)) (nI j) (nI (comN σ row (k + 1))) (allP σ row (k + 1)) τ.weight τ.gain τ.ad_ τ.minute τ.ds τ.bl τ.chosen) H := by rw [← eh_12, ← eh_13, ← eh_14]; exact hP
            exact ih_3 (k + 1) (nI (k + 1)) ls _ _ (by omega) (by omega) rfl (lv_sub hl [0, 2, 3, 4] rfl) hP hS
          refine lv_icmp_ne (tgt := 83) hx hb dX3_layRow_76 rfl (fun h76 => ?_) (fun h76 => ?_)
          · have h76 : ¬ ((en row k) = 6) := fun z9 => h76 ((nz_eq (a := en row k) (b := 6) rfl rfl (by omega) (by omega)).mpr z9)
            have hlt : en row k < 6 := ((hR.2 k (by omega)).resolve_left h76).1
            refine lv_aload_n hx hb dX3_layRow_83 rfl (lv_at hl 2 rfl) ?_
            refine lv_iload hx hb dX3_layRow_84 (lv_at hl 0 rfl) ?_
            refine cVi (As := [.int (nI (en row k))]) (rest := [.long (allP σ row k), .ref h]) ⟨hx, hb, hml, hown, hts⟩ (mt_X3_totalOf l D dA h ad σ ((τ.read, τ.rm, τ.at_, τ.place, τ.end_, f_5, nI j, g_8, allP σ row k, τ.weight, τ.gain, τ.ad_, τ.minute, τ.ds, τ.bl, τ.chosen) : Sc) (en row k) hI (by omega)) (cw_X3_X3_totalOf hts ⟨Nat.le_of_ble_eq_true rfl, Nat.le_of_ble_eq_true rfl⟩) mB_bl (mB_now hK hP) (va_recv hK hP (ci := 0) (q0 := 0) rfl rfl) rfl hl.1 rfl (Nat.le_of_ble_eq_true rfl) dX3_layRow_86 ⟨Nat.le_of_ble_eq_true rfl, Nat.le_of_ble_eq_true rfl⟩ ?_
            refine lv_i2l (v := (total σ (en row k) : Int32).toInt64) hx hb dX3_layRow_89 rfl ?_
            exact hJ90_9 ((total σ (en row k) : Int32).toInt64) ls (by rw [if_neg h76]) (lv_sub hl [0, 1, 2, 3, 4] rfl)
          · have h76 : (en row k) = 6 := (nz_eq (a := en row k) (b := 6) rfl rfl (by omega) (by omega)).mp h76
            refine lv_lconst (v := 1) hx hb dX3_layRow_79 rfl ?_
            refine lv_goto (tgt := 90) hx hb dX3_layRow_80 rfl ?_
            exact hJ90_9 (1) ls (by rw [if_pos h76]) (lv_sub hl [0, 1, 2, 3, 4] rfl)
        refine lv_icmp_ne (tgt := 56) hx hb dX3_layRow_49 rfl (fun h49 => ?_) (fun h49 => ?_)
        · have h49 : ¬ ((en row k) = 6) := fun z9 => h49 ((nz_eq (a := en row k) (b := 6) rfl rfl (by omega) (by omega)).mpr z9)
          have hlt : en row k < 6 := ((hR.2 k (by omega)).resolve_left h49).1
          have hsm := hI.sm _ hlt
          refine lv_aload_n hx hb dX3_layRow_56 rfl (lv_at hl 2 rfl) ?_
          refine va_get (D := D) (ci := 0) (v := .ref (ad 6)) (C := RX3) (T := TX3) (N := 31) hx hb hts in_X3 hown hK hP 0 rfl rfl 13 (by decide) (hts _ q1127) (fun _ h9 => h9) rfl dX3_layRow_57 ?_
          refine lv_iload hx hb dX3_layRow_60 (lv_at hl 0 rfl) ?_
          refine wa_iald (f := fun c => nI (σ.sm c)) hx hb hK hP 7 0 rfl rfl (en row k) (rfl) (by omega) (by decide) dX3_layRow_62 ?_
          refine w_topi (y := nI (σ.sm (en row k))) rfl ?_
          exact hJ63_6 (nI (σ.sm (en row k))) ls (by rw [if_neg h49]) (lv_sub hl [0, 1, 2, 3, 4] rfl)
        · have h49 : (en row k) = 6 := (nz_eq (a := en row k) (b := 6) rfl rfl (by omega) (by omega)).mp h49
          refine lv_iconst (v := 1) hx hb dX3_layRow_52 rfl ?_
          refine lv_goto (tgt := 63) hx hb dX3_layRow_53 rfl ?_
          exact hJ63_6 (1) ls (by rw [if_pos h49]) (lv_sub hl [0, 1, 2, 3, 4] rfl)
  exact hL17_1 _ 0 0 ls _ _ (Nat.lt_succ_self _) (by omega) rfl (lv_sub hl [0, 1, 2, 3] rfl) hP hS

/-- which sorts all are, by a number: what is left of it at an entry -/
def rsN (σ : St) (row : Int32) (v : Nat) : Nat → Nat
  | 0 => v
  | k + 1 => if en row k = 6 then rsN σ row v k else rsN σ row v k / σ.sm (en row k)
theorem rs_le (σ : St) (row : Int32) (v : Nat) : ∀ k, rsN σ row v k ≤ v
  | 0 => Nat.le_refl _
  | k + 1 => by
    rw [rsN]
    split
    · exact rs_le σ row v k
    · exact Nat.le_trans (Nat.div_le_self _ _) (rs_le σ row v k)
def chN (σ : St) (row : Int32) (v i : Nat) : Nat := rsN σ row v i % σ.sm (en row i)
def choU (σ : St) (row : Int32) (v : Nat) (f : Nat → Int32) : Nat → Nat → Int32
  | 0 => f
  | k + 1 => if en row k = 6 then choU σ row v f k else upd (choU σ row v f k) k (nI (chN σ row v k))
theorem choU_at {σ : St} {row : Int32} {v : Nat} {f : Nat → Int32} : ∀ n i, i < n → ¬ en row i = 6 → choU σ row v f n i = nI (chN σ row v i)
  | 0, i, h, _ => absurd h (Nat.not_lt_zero _)
  | n + 1, i, h, h6 => by
    rw [choU]
    by_cases e : i = n
    · subst e
      rw [if_neg h6]
      exact if_pos rfl
    · by_cases g : en row n = 6
      · rw [if_pos g]; exact choU_at n i (by omega) h6
      · rw [if_neg g]
        unfold upd
        rw [if_neg e]
        exact choU_at n i (by omega) h6
def weiF (σ : St) (row : Int32) (v : Nat) : Nat → Int64
  | 0 => 1
  | k + 1 => if en row k = 6 then weiF σ row v k else weiF σ row v k * (σ.sorts (16 * en row k + 4 * chN σ row v k)).toInt64

def rmX3_layChosen : Room := { frames := 0, cells := 0, slots := 0, locals := 0 }
set_option maxHeartbeats 1000000 in
theorem mt_X3_layChosen (l : Launch) (D : va_G) (dA : Nat → ClassId) (h : Nat) (ad : Nat → Nat) (σ : St) (τ : Sc) (hmD : mD h ad) (row : Int32) (j : Nat) (v : Nat) (hI : Inv σ) (hR : okR σ row j) (hem : τ.em = nI j) (he : ∀ i, i < j → τ.ents i = nI (en row i)) (hv : v ≤ 4096) : Met l yX3_layChosen (ws_ yX3_layChosen cX3_layChosen 5 none) rmX3_layChosen (va_Pc [.ref h, .int (nI v)] (mB D dA h ad σ τ)) (va_Qv (fun (u : MS) => u = (σ, ((τ.read, τ.rm, τ.at_, τ.place, τ.end_, τ.ents, τ.em, τ.combos, τ.all_, weiF σ row v j, τ.gain, τ.ad_, τ.minute, τ.ds, τ.bl, choU σ row v τ.chosen j) : Sc))) (fun u t => mB D dA h ad u.1 u.2 t) (mA h ad)) 0 0 (mA h ad) := by
  refine w_start (by decide) (Nat.le_of_ble_eq_true rfl) ?_
  intro p e s m args below meth c Q ls hQ hx hb hr hlocks hml hown hnm hts hB hl
  have hown : s.vm.findClass RX3 = some m.cls := hown
  have hl : lv_has ls 5 [(0, .ref h), (1, .int (nI v))] := hl
  obtain ⟨hP, hK⟩ := hB
  have hP : va_P D vwCl (mX dA h ad σ.txt σ.len σ.wt σ.pr σ.tools σ.load σ.purse σ.beg σ.ways σ.told σ.calls σ.sm σ.sorts σ.visits σ.vm τ.read τ.rm τ.at_ τ.place τ.end_ τ.ents τ.em τ.combos τ.all_ τ.weight τ.gain τ.ad_ τ.minute τ.ds τ.bl τ.chosen) s.heap := hP
  have hS : va_S (mA h ad) s.heap s.heap [] := va_S.rf
  have hj := hR.1
  refine lv_iload_n hx hb dX3_layChosen_0 rfl (lv_at hl 1 rfl) ?_
  refine lv_istore_n (lv' := [(2, .int (nI v)), (0, .ref h), (1, .int (nI v))]) hx hb dX3_layChosen_1 rfl hl (by decide) rfl (fun ls hl => ?_)
  refine lv_aload_n hx hb dX3_layChosen_2 rfl (lv_at hl 1 rfl) ?_
  refine lv_lconst (v := 1) hx hb dX3_layChosen_3 rfl ?_
  refine va_put (D := D) (ci := 0) (v := .long 1) (ty := .long) (C := RX3) (T := TX3) (N := 31) hx hb hts in_X3 tyX3 tyX3_ok nmX3 hown hK hP (mD_va hmD dA σ τ) hS 0 rfl rfl 24 (by decide) (hts _ q1138) (fun _ h9 => h9) rfl (by decide +kernel) (rfl) (rfl) (Nat.le_of_ble_eq_true rfl) dX3_layChosen_4 (fun H locs hP _ hS => ?_)
  have hP : va_P D vwCl (mX dA h ad σ.txt σ.len σ.wt σ.pr σ.tools σ.load σ.purse σ.beg σ.ways σ.told σ.calls σ.sm σ.sorts σ.visits σ.vm τ.read τ.rm τ.at_ τ.place τ.end_ τ.ents τ.em τ.combos τ.all_ 1 τ.gain τ.ad_ τ.minute τ.ds τ.bl τ.chosen) H := hP
  refine lv_iconst (v := 0) hx hb dX3_layChosen_7 rfl ?_
  refine lv_istore_n (lv' := [(3, .int 0), (2, .int (nI v)), (0, .ref h), (1, .int (nI v))]) hx hb dX3_layChosen_8 rfl hl (by decide) rfl (fun ls hl => ?_)
  have hL9_1 : ∀ (n_2 : Nat) (k : Nat) (x3 : Int32) (x2 : Int32) (ls : Array Slot) (H : Heap) (locs : List Loc), (6 - k) < n_2 → (k ≤ j) → x3 = (nI k) → x2 = (nI (rsN σ row v k)) → lv_has ls 5 [(3, .int x3), (2, .int x2), (0, .ref h), (1, .int (nI v))] → va_P D vwCl (mX dA h ad σ.txt σ.len σ.wt σ.pr σ.tools σ.load σ.purse σ.beg σ.ways σ.told σ.calls σ.sm σ.sorts σ.visits σ.vm τ.read τ.rm τ.at_ τ.place τ.end_ τ.ents τ.em τ.combos τ.all_ (weiF σ row v k) τ.gain τ.ad_ τ.minute τ.ds τ.bl (choU σ row v τ.chosen k)) H → va_S (mA h ad) s.heap H locs → W p l e rmX3_layChosen s m args below meth c H locs 0 0 Q (F0 m 9 ls []) := by
    intro n_2
    induction n_2 with
    | zero => intro k x3 x2 ls H locs hm_4; exact absurd hm_4 (Nat.not_lt_zero _)
    | succ n_2 ih_3 =>
      intro k x3 x2 ls H locs hm_4 hk ex3 ex2 hl hP hS
      subst ex3 ex2
      refine lv_iload_n hx hb dX3_layChosen_9 rfl (lv_at hl 0 rfl) ?_
      refine lv_aload_n hx hb dX3_layChosen_10 rfl (lv_at hl 2 rfl) ?_
      refine va_get (D := D) (ci := 0) (v := .int τ.em) (C := RX3) (T := TX3) (N := 31) hx hb hts in_X3 hown hK hP 0 rfl rfl 21 (by decide) (hts _ q1135) (fun _ h9 => h9) rfl dX3_layChosen_11 ?_
      refine lv_icmp_ge (tgt := 92) hx hb dX3_layChosen_14 rfl (fun h14 => ?_) (fun h14 => ?_)
      · have h14 : j ≤ k := (nz_le (a := j) (b := k) hem rfl (by omega) (by omega)).mp h14
        obtain rfl : k = j := by omega
        exact rm_v (u := (σ, ((τ.read, τ.rm, τ.at_, τ.place, τ.end_, τ.ents, τ.em, τ.combos, τ.all_, weiF σ row v k, τ.gain, τ.ad_, τ.minute, τ.ds, τ.bl, choU σ row v τ.chosen k) : Sc))) hQ hx hb hr hlocks hK hP hS (rfl) dX3_layChosen_92
      · have h14 : ¬ (j ≤ k) := fun z9 => h14 ((nz_le (a := j) (b := k) hem rfl (by omega) (by omega)).mpr z9)
        refine lv_aload_n hx hb dX3_layChosen_17 rfl (lv_at hl 2 rfl) ?_
        refine va_get (D := D) (ci := 0) (v := .ref (ad 9)) (C := RX3) (T := TX3) (N := 31) hx hb hts in_X3 hown hK hP 0 rfl rfl 20 (by decide) (hts _ q1134) (fun _ h9 => h9) rfl dX3_layChosen_18 ?_
        refine lv_iload_n hx hb dX3_layChosen_21 rfl (lv_at hl 0 rfl) ?_
        refine wa_iald (f := τ.ents) hx hb hK hP 10 0 rfl rfl (k) (rfl) (by omega) (by decide) dX3_layChosen_22 ?_
        refine w_topi (he k (by omega)) ?_
        have hen := en_lt row k
        refine lv_istore (lv' := [(4, .int (nI (en row k))), (3, .int (nI k)), (2, .int (nI (rsN σ row v k))), (0, .ref h), (1, .int (nI v))]) hx hb dX3_layChosen_23 hl (by decide) rfl (fun ls hl => ?_)
        refine lv_iload hx hb dX3_layChosen_25 (lv_at hl 0 rfl) ?_
        refine lv_bipush (v := 6) hx hb dX3_layChosen_27 rfl ?_
        refine lv_icmp_eq (tgt := 86) hx hb dX3_layChosen_29 rfl (fun h29 => ?_) (fun h29 => ?_)
        · have h29 : (en row k) = 6 := (nz_eq (a := en row k) (b := 6) rfl rfl (by omega) (by omega)).mp h29
          refine lv_iinc (v := nI (k + 1)) (lv' := [(3, .int (nI (k + 1))), (4, .int (nI (en row k))), (2, .int (nI (rsN σ row v k))), (0, .ref h), (1, .int (nI v))]) hx hb dX3_layChosen_86 hl (k := 1) rfl (nI_1 k) (by decide) rfl (fun ls hl => ?_)
          refine lv_goto (tgt := 9) hx hb dX3_layChosen_89 rfl ?_
          have eh_5 : choU σ row v τ.chosen k = choU σ row v τ.chosen (k + 1) := (by subst_vars; rw [choU, if_pos h29] <;> rfl)
          have eh_6 : weiF σ row v k = weiF σ row v (k + 1) := (by subst_vars; rw [weiF, if_pos h29] <;> rfl)
          have hP : va_P D vwCl (mX dA h ad σ.txt σ.len σ.wt σ.pr σ.tools σ.load σ.purse σ.beg σ.ways σ.told σ.calls σ.sm σ.sorts σ.visits σ.vm τ.read τ.rm τ.at_ τ.place τ.end_ τ.ents τ.em τ.combos τ.all_ (weiF σ row v (k + 1)) τ.gain τ.ad_ τ.minute τ.ds τ.bl (choU σ row v τ.chosen (k + 1))) H := by rw [← eh_5, ← eh_6]; exact hP
          exact ih_3 (k + 1) (nI (k + 1)) (nI (rsN σ row v k)) ls _ _ (by omega) (by omega) rfl (by subst_vars; rw [rsN, if_pos h29] <;> rfl) (lv_sub hl [0, 2, 3, 4] rfl) hP hS
        · have h29 : ¬ ((en row k) = 6) := fun z9 => h29 ((nz_eq (a := en row k) (b := 6) rfl rfl (by omega) (by omega)).mpr z9)
          have hlt := ((hR.2 k (by omega)).resolve_left h29)
          have hsm := hI.sm _ hlt.1
          have hrs := rs_le σ row v k
          have hcn : rsN σ row v k % σ.sm (en row k) < σ.sm (en row k) := Nat.mod_lt _ hlt.2
          have hnz : ¬ nI (σ.sm (en row k)) = 0 := nI_ne0 hlt.2 (by omega)
          refine lv_aload_n hx hb dX3_layChosen_32 rfl (lv_at hl 3 rfl) ?_
          refine va_get (D := D) (ci := 0) (v := .ref (ad 10)) (C := RX3) (T := TX3) (N := 31) hx hb hts in_X3 hown hK hP 0 rfl rfl 30 (by decide) (hts _ q1144) (fun _ h9 => h9) rfl dX3_layChosen_33 ?_
          refine lv_iload_n hx hb dX3_layChosen_36 rfl (lv_at hl 1 rfl) ?_
          refine lv_iload_n hx hb dX3_layChosen_37 rfl (lv_at hl 2 rfl) ?_
          refine lv_aload_n hx hb dX3_layChosen_38 rfl (lv_at hl 3 rfl) ?_
          refine va_get (D := D) (ci := 0) (v := .ref (ad 6)) (C := RX3) (T := TX3) (N := 31) hx hb hts in_X3 hown hK hP 0 rfl rfl 13 (by decide) (hts _ q1127) (fun _ h9 => h9) rfl dX3_layChosen_39 ?_
          refine lv_iload hx hb dX3_layChosen_42 (lv_at hl 0 rfl) ?_
          refine wa_iald (f := fun c => nI (σ.sm c)) hx hb hK hP 7 0 rfl rfl (en row k) (rfl) (by omega) (by decide) dX3_layChosen_44 ?_
          refine w_topi (y := nI (σ.sm (en row k))) rfl ?_
          refine lv_irem hx hb dX3_layChosen_45 (hnz) ?_
          refine w_topi (nz_rem (a := rsN σ row v k) (d := σ.sm (en row k)) rfl rfl (by omega) (by omega) (by omega)) ?_
          refine wa_iast (f := choU σ row v τ.chosen k) hx hb hK hP (mD_va hmD dA σ ((τ.read, τ.rm, τ.at_, τ.place, τ.end_, τ.ents, τ.em, τ.combos, τ.all_, weiF σ row v k, τ.gain, τ.ad_, τ.minute, τ.ds, τ.bl, choU σ row v τ.chosen k) : Sc)) hS 11 0 rfl rfl (k) (rfl) (by omega) (by decide) dX3_layChosen_46 (fun H locs f_7 ef_7 hP hS => ?_)
          have hP : va_P D vwCl (mX dA h ad σ.txt σ.len σ.wt σ.pr σ.tools σ.load σ.purse σ.beg σ.ways σ.told σ.calls σ.sm σ.sorts σ.visits σ.vm τ.read τ.rm τ.at_ τ.place τ.end_ τ.ents τ.em τ.combos τ.all_ (weiF σ row v k) τ.gain τ.ad_ τ.minute τ.ds τ.bl f_7) H := hP
          refine lv_iload_n hx hb dX3_layChosen_47 rfl (lv_at hl 2 rfl) ?_
          refine lv_aload_n hx hb dX3_layChosen_48 rfl (lv_at hl 3 rfl) ?_
          refine va_get (D := D) (ci := 0) (v := .ref (ad 6)) (C := RX3) (T := TX3) (N := 31) hx hb hts in_X3 hown hK hP 0 rfl rfl 13 (by decide) (hts _ q1127) (fun _ h9 => h9) rfl dX3_layChosen_49 ?_
          refine lv_iload hx hb dX3_layChosen_52 (lv_at hl 0 rfl) ?_
          refine wa_iald (f := fun c => nI (σ.sm c)) hx hb hK hP 7 0 rfl rfl (en row k) (rfl) (by omega) (by decide) dX3_layChosen_54 ?_
          refine w_topi (y := nI (σ.sm (en row k))) rfl ?_
          refine lv_idiv hx hb dX3_layChosen_55 (hnz) ?_
          refine w_topi (nz_div (a := rsN σ row v k) (d := σ.sm (en row k)) rfl rfl (by omega) (by omega) (by omega)) ?_
          refine lv_istore_n (lv' := [(2, .int (nI ((rsN σ row v k) / (σ.sm (en row k))))), (4, .int (nI (en row k))), (3, .int (nI k)), (0, .ref h), (1, .int (nI v))]) hx hb dX3_layChosen_56 rfl hl (by decide) rfl (fun ls hl => ?_)
          refine lv_aload_n hx hb dX3_layChosen_57 rfl (lv_at hl 3 rfl) ?_
          refine lv_dup hx hb dX3_layChosen_58 rfl ?_
          refine va_get (D := D) (ci := 0) (v := .long (weiF σ row v k)) (C := RX3) (T := TX3) (N := 31) hx hb hts in_X3 hown hK hP 0 rfl rfl 24 (by decide) (hts _ q1138) (fun _ h9 => h9) rfl dX3_layChosen_59 ?_
          refine lv_aload_n hx hb dX3_layChosen_62 rfl (lv_at hl 3 rfl) ?_
          refine va_get (D := D) (ci := 0) (v := .ref (ad 7)) (C := RX3) (T := TX3) (N := 31) hx hb hts in_X3 hown hK hP 0 rfl rfl 14 (by decide) (hts _ q1128) (fun _ h9 => h9) rfl dX3_layChosen_63 ?_
          refine lv_bipush (v := 16) hx hb dX3_layChosen_66 rfl ?_
          refine lv_iload hx hb dX3_layChosen_68 (lv_at hl 1 rfl) ?_
          refine lv_imul hx hb dX3_layChosen_70 ?_
          refine lv_iconst (v := 4) hx hb dX3_layChosen_71 rfl ?_
          refine lv_aload_n hx hb dX3_layChosen_72 rfl (lv_at hl 3 rfl) ?_
          refine va_get (D := D) (ci := 0) (v := .ref (ad 10)) (C := RX3) (T := TX3) (N := 31) hx hb hts in_X3 hown hK hP 0 rfl rfl 30 (by decide) (hts _ q1144) (fun _ h9 => h9) rfl dX3_layChosen_73 ?_
          refine lv_iload_n hx hb dX3_layChosen_76 rfl (lv_at hl 2 rfl) ?_
          refine wa_iald (f := f_7) hx hb hK hP 11 0 rfl rfl (k) (rfl) (by omega) (by decide) dX3_layChosen_77 ?_
          refine w_topi (y := nI (chN σ row v k)) (by rw [ef_7]; exact if_pos rfl) ?_
          refine lv_imul hx hb dX3_layChosen_78 ?_
          refine lv_iadd hx hb dX3_layChosen_79 ?_
          refine wa_iald (f := σ.sorts) hx hb hK hP 8 0 rfl rfl (16 * en row k + 4 * chN σ row v k) ((nz_add (nz_mul rfl rfl) (nz_mul rfl rfl))) (by have q : chN σ row v k < σ.sm (en row k) := hcn; omega) (by decide) dX3_layChosen_80 ?_
          refine lv_i2l (v := (σ.sorts (16 * en row k + 4 * chN σ row v k) : Int32).toInt64) hx hb dX3_layChosen_81 rfl ?_
          refine lv_lmul hx hb dX3_layChosen_82 ?_
          refine lv_topl (fun g_8 eg_8 => ?_)
          refine va_put (D := D) (ci := 0) (v := .long g_8) (ty := .long) (C := RX3) (T := TX3) (N := 31) hx hb hts in_X3 tyX3 tyX3_ok nmX3 hown hK hP (mD_va hmD dA σ ((τ.read, τ.rm, τ.at_, τ.place, τ.end_, τ.ents, τ.em, τ.combos, τ.all_, weiF σ row v k, τ.gain, τ.ad_, τ.minute, τ.ds, τ.bl, f_7) : Sc)) hS 0 rfl rfl 24 (by decide) (hts _ q1138) (fun _ h9 => h9) rfl (by decide +kernel) (rfl) (rfl) (Nat.le_of_ble_eq_true rfl) dX3_layChosen_83 (fun H locs hP _ hS => ?_)
          have hP : va_P D vwCl (mX dA h ad σ.txt σ.len σ.wt σ.pr σ.tools σ.load σ.purse σ.beg σ.ways σ.told σ.calls σ.sm σ.sorts σ.visits σ.vm τ.read τ.rm τ.at_ τ.place τ.end_ τ.ents τ.em τ.combos τ.all_ g_8 τ.gain τ.ad_ τ.minute τ.ds τ.bl f_7) H := hP
          refine lv_iinc (v := nI (k + 1)) (lv' := [(3, .int (nI (k + 1))), (2, .int (nI ((rsN σ row v k) / (σ.sm (en row k))))), (4, .int (nI (en row k))), (0, .ref h), (1, .int (nI v))]) hx hb dX3_layChosen_86 hl (k := 2) rfl (nI_1 k) (by decide) rfl (fun ls hl => ?_)
          refine lv_goto (tgt := 9) hx hb dX3_layChosen_89 rfl ?_
          have eh_9 : f_7 = choU σ row v τ.chosen (k + 1) := (by subst_vars; rw [choU, if_neg h29] <;> rfl)
          have eh_10 : g_8 = weiF σ row v (k + 1) := (by subst_vars; rw [weiF, if_neg h29] <;> rfl)
          have hP : va_P D vwCl (mX dA h ad σ.txt σ.len σ.wt σ.pr σ.tools σ.load σ.purse σ.beg σ.ways σ.told σ.calls σ.sm σ.sorts σ.visits σ.vm τ.read τ.rm τ.at_ τ.place τ.end_ τ.ents τ.em τ.combos τ.all_ (weiF σ row v (k + 1)) τ.gain τ.ad_ τ.minute τ.ds τ.bl (choU σ row v τ.chosen (k + 1))) H := by rw [← eh_9, ← eh_10]; exact hP
          exact ih_3 (k + 1) (nI (k + 1)) (nI ((rsN σ row v k) / (σ.sm (en row k)))) ls _ _ (by omega) (by omega) rfl (by subst_vars; rw [rsN, if_neg h29] <;> rfl) (lv_sub hl [0, 1, 3, 4] rfl) hP hS
  exact hL9_1 _ 0 0 (nI v) ls _ _ (Nat.lt_succ_self _) (by omega) rfl rfl (lv_sub hl [0, 1, 2, 3] rfl) hP hS
