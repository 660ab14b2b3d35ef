/-! THE MODEL's METHODS 5: value, next, the book, counts, the text -/
set_option maxRecDepth 100000
theorem kn_use {σ : St} {set : Int32} : ∀ n, ¬ knF σ set n = 0 → ∀ k, k < n → hasP set (nI k) → useP σ (nI k)
  | 0, _, k, hk, _ => absurd hk (Nat.not_lt_zero _)
  | n + 1, h, k, hk, hs => by
    rw [knF] at h
    by_cases h0 : knF σ set n = 0
    · rw [if_pos h0] at h; exact absurd rfl h
    · rw [if_neg h0] at h
      by_cases e : k = n
      · subst e
        by_cases hu : useP σ (nI k)
        · exact hu
        · rw [if_pos hs, if_neg hu] at h; exact absurd rfl h
      · exact kn_use n h0 k (by omega) hs
/-- the totals of a set's calls together: a natural number that isn't 0 -/
theorem tos_nat {σ : St} (hI : Inv σ) {set : Int32} (hu : ∀ k, k < 6 → hasP set (nI k) → useP σ (nI k)) : ∀ n, n ≤ 6 → ∃ v, 1 ≤ v ∧ v ≤ 80 ^ n ∧ tosF σ set n = lN v := by
  intro n
  induction n with
  | zero => intro _; exact ⟨1, by decide, by decide, rfl⟩
  | succ n ih =>
    intro hn
    obtain ⟨v, h1, h2, h3⟩ := ih (by omega)
    rw [tosF, h3]
    by_cases hs : hasP set (nI n)
    · rw [if_pos hs]
      have hz := (hu n (by omega) hs).2
      rw [ix_nI (N := 6) (by omega) (by decide)] at hz
      obtain ⟨w, g1, g2, g3⟩ := total_nat hI (c := n) (by omega)
      rw [g3, nI_l (by omega), lN_mul]
      refine ⟨v * w, Nat.mul_pos h1 (by omega), ?_, rfl⟩
      rw [Nat.pow_succ]
      exact Nat.mul_le_mul h2 g2
    · rw [if_neg hs]
      refine ⟨v, h1, Nat.le_trans h2 (Nat.pow_le_pow_right (by decide) (by omega)), ?_⟩
      exact (Int64.mul_one _)
theorem lN_ne0 {v : Nat} (h : 1 ≤ v) (h2 : v ≤ 80 ^ 6) : ¬ lN v = 0 := fun q => by
  have := (pk_lEQ (a := v) (b := 0) (by omega) (by decide)).mp q
  omega
theorem tos_ne {σ : St} (hI : Inv σ) {set : Int32} (hu : ¬ knF σ set 6 = 0) : ¬ tosF σ set 6 = 0 := by
  obtain ⟨v, h1, h2, h3⟩ := tos_nat hI (kn_use 6 hu) 6 (Nat.le_refl _)
  rw [h3]
  exact lN_ne0 h1 h2
def valueF (σ : St) (x m bag set w : Int32) : Int64 := if refNowF σ x m bag set = 0 then (if partP w then lowF (maxV σ (maxV σ (maxV σ (oneF σ))) (ix x) m bag set) (tosF σ set 6) w else -8999999999999999997) else if refNowF σ x m bag set = -2 then -8999999999999999998 else -8999999999999999997
def nxF (σ : St) (V : ValT) (x : Nat) (m bag set : Int32) (v : Int64) : Nat → Nat → Int32
  | 0, _ => -1
  | n + 1, k => if hasP set (nI k) then (if goV σ V x m bag set k = v then nI k else nxF σ V x m bag set v n (k + 1)) else nxF σ V x m bag set v n (k + 1)
def nextG (σ : St) (x : Nat) (m bag set : Int32) (v : Int64) : Int32 := if v ≤ 0 then -1 else nxF σ (maxV σ (maxV σ (oneF σ))) x m bag set v 6 0
def nextF (σ : St) (x m bag set : Int32) : Int32 := if refNowF σ x m bag set = 0 then nextG σ (ix x) m bag set (maxV σ (maxV σ (maxV σ (oneF σ))) (ix x) m bag set) else refNowF σ x m bag set

theorem cw_X3_X3_refusesNow {R : Room} {s : State} {args : Array Value} (hts : ∀ w ∈ lw_all, w.before args s = true) (hR : rmX3_refusesNow.frames + 1 ≤ R.frames ∧ 8 + (8 + 11) + rmX3_refusesNow.locals ≤ R.locals) : CallW R s args RX3 RX3 304 yX3_refusesNow cX3_refusesNow 8 (some .int) (ws_ yX3_refusesNow cX3_refusesNow 8 (some .int)) rmX3_refusesNow 0 0 4 := cwV 4 hts (lw_V q1440 q1442 qs61 q83 q1443) rfl rfl rfl (by decide +kernel) hR
theorem cw_X3_X3_valueOf {R : Room} {s : State} {args : Array Value} (hts : ∀ w ∈ lw_all, w.before args s = true) (hR : rmX3_valueOf.frames + 1 ≤ R.frames ∧ 8 + (10 + 11) + rmX3_valueOf.locals ≤ R.locals) : CallW R s args RX3 RX3 307 yX3_valueOf cX3_valueOf 10 (some .long) (ws_ yX3_valueOf cX3_valueOf 10 (some .long)) rmX3_valueOf 0 0 4 := cwV 4 hts (lw_V q1446 q1448 qs62 q83 q1449) rfl rfl rfl (by decide +kernel) hR
def rmX3_value : Room := { frames := 9, cells := 0, slots := 0, locals := 267 }
set_option maxHeartbeats 1000000 in
theorem mt_X3_value (l : Launch) (D : va_G) (dA : Nat → ClassId) (h : Nat) (ad : Nat → Nat) (σ : St) (τ : Sc) (x_ : Int32) (m_ : Int32) (bag : Int32) (set_ : Int32) (w : Int32) (hI : Inv σ) : Met l yX3_value (ws_ yX3_value cX3_value 7 (some .long)) rmX3_value (va_Pc [.ref h, .int x_, .int m_, .int bag, .int set_, .int w] (mB D dA h ad σ τ)) (vp_Sl (fun r => r = valueF σ x_ m_ bag set_ w)) 0 0 (fun _ => False) := by
  refine w_start (by decide) (Nat.le_of_ble_eq_true rfl) ?_
  intro p e s m args below meth c Q ls hQ hx hb hr hlocks hml hown hnm hts hB hl
  have hown : s.vm.findClass RX3 = some m.cls := hown
  have hl : lv_has ls 7 [(0, .ref h), (1, .int x_), (2, .int m_), (3, .int bag), (4, .int set_), (5, .int w)] := hl
  obtain ⟨hP, hK⟩ := hB
  refine lv_aload_n hx hb dX3_value_0 rfl (lv_at hl 0 rfl) ?_
  refine lv_iload_n hx hb dX3_value_1 rfl (lv_at hl 1 rfl) ?_
  refine lv_iload_n hx hb dX3_value_2 rfl (lv_at hl 2 rfl) ?_
  refine lv_iload_n hx hb dX3_value_3 rfl (lv_at hl 3 rfl) ?_
  refine lv_iload hx hb dX3_value_4 (lv_at hl 4 rfl) ?_
  refine cVi (As := [.int x_, .int m_, .int bag, .int set_]) (rest := []) ⟨hx, hb, hml, hown, hts⟩ (mt_X3_refusesNow l D dA h ad σ τ x_ m_ bag set_ hI) (cw_X3_X3_refusesNow hts ⟨Nat.le_of_ble_eq_true rfl, Nat.le_of_ble_eq_true rfl⟩) mB_bl (mB_now hK hP) (va_recv hK hP (ci := 0) (q0 := 0) rfl rfl) rfl hl.1 rfl (Nat.le_of_ble_eq_true rfl) dX3_value_6 ⟨Nat.le_of_ble_eq_true rfl, Nat.le_of_ble_eq_true rfl⟩ ?_
  refine lv_istore (lv' := [(6, .int (refNowF σ x_ m_ bag set_)), (0, .ref h), (1, .int x_), (2, .int m_), (3, .int bag), (4, .int set_), (5, .int w)]) hx hb dX3_value_9 hl (by decide) rfl (fun ls hl => ?_)
  refine lv_iload hx hb dX3_value_11 (lv_at hl 0 rfl) ?_
  refine lv_if_ne (tgt := 24) hx hb dX3_value_13 rfl (fun h13 => ?_) (fun h13 => ?_)
  · have h13 : ¬ ((refNowF σ x_ m_ bag set_) = 0) := h13
    refine lv_iload hx hb dX3_value_24 (lv_at hl 0 rfl) ?_
    refine lv_bipush (v := (-2)) hx hb dX3_value_26 rfl ?_
    refine lv_icmp_ne (tgt := 37) hx hb dX3_value_28 rfl (fun h28 => ?_) (fun h28 => ?_)
    · have h28 : ¬ ((refNowF σ x_ m_ bag set_) = (-2)) := h28
      refine lv_ldc2 (v := (-8999999999999999997)) hx hb hown (hts _ q1378) dX3_value_37 ?_
      exact r_l hQ hx hb hr hlocks rfl (by simp only [valueF, eq_false h13, eq_false h28, if_true, if_false, ite_true, ite_false, not_true_eq_false, not_false_eq_true, and_true, true_and, and_false, false_and, or_true, true_or, or_false, false_or, and_self, or_self, eq_self]) dX3_value_40
    · have h28 : (refNowF σ x_ m_ bag set_) = (-2) := h28
      refine lv_ldc2 (v := (-8999999999999999998)) hx hb hown (hts _ q1377) dX3_value_31 ?_
      refine lv_goto (tgt := 40) hx hb dX3_value_34 rfl ?_
      exact r_l hQ hx hb hr hlocks rfl (by simp only [valueF, eq_false h13, eq_true h28, if_true, if_false, ite_true, ite_false, not_true_eq_false, not_false_eq_true, and_true, true_and, and_false, false_and, or_true, true_or, or_false, false_or, and_self, or_self, eq_self]) dX3_value_40
  · have h13 : (refNowF σ x_ m_ bag set_) = 0 := h13
    obtain ⟨hk1, hk2, hk3, -⟩ := refNow_ok h13
    obtain ⟨j, hj, rfl⟩ := in5 hk1
    have hix : ix (nI j) = j := ix_nI hj (by decide)
    refine lv_iload hx hb dX3_value_16 (lv_at hl 6 rfl) ?_
    refine cSi (As := [.int w]) (rest := []) ⟨hx, hb, hml, hown, hts⟩ (mt_X3_isPart l w) (cw_X3_X3_isPart hts ⟨Nat.le_of_ble_eq_true rfl, Nat.le_of_ble_eq_true rfl⟩) w_blT (fun _ _ _ => trivial) rfl hl.1 rfl (Nat.le_of_ble_eq_true rfl) dX3_value_18 ⟨Nat.le_of_ble_eq_true rfl, Nat.le_of_ble_eq_true rfl⟩ ?_
    refine lv_if_ne (tgt := 41) hx hb dX3_value_21 rfl (fun h21 => ?_) (fun h21 => ?_)
    · have h21 : partP w := b01_n h21
      refine lv_aload_n hx hb dX3_value_41 rfl (lv_at hl 1 rfl) ?_
      refine lv_iload_n hx hb dX3_value_42 rfl (lv_at hl 2 rfl) ?_
      refine lv_iload_n hx hb dX3_value_43 rfl (lv_at hl 3 rfl) ?_
      refine lv_iload_n hx hb dX3_value_44 rfl (lv_at hl 4 rfl) ?_
      refine lv_iload hx hb dX3_value_45 (lv_at hl 5 rfl) ?_
      refine cVl (As := [.int (nI j), .int m_, .int bag, .int set_]) (rest := []) ⟨hx, hb, hml, hown, hts⟩ (mt_X3_valueOf l D dA h ad σ τ j m_ bag set_ hI (by omega)) (cw_X3_X3_valueOf hts ⟨Nat.le_of_ble_eq_true rfl, Nat.le_of_ble_eq_true rfl⟩) mB_bl (mB_now hK hP) (va_recv hK hP (ci := 0) (q0 := 0) rfl rfl) rfl hl.1 rfl (Nat.le_of_ble_eq_true rfl) dX3_value_47 ⟨Nat.le_of_ble_eq_true rfl, Nat.le_of_ble_eq_true rfl⟩ ?_
      refine lv_aload_n hx hb dX3_value_50 rfl (lv_at hl 1 rfl) ?_
      refine lv_iload hx hb dX3_value_51 (lv_at hl 5 rfl) ?_
      refine cVl (As := [.int set_]) (rest := [.long (maxV σ (maxV σ (maxV σ (oneF σ))) j m_ bag set_)]) ⟨hx, hb, hml, hown, hts⟩ (mt_X3_totals l D dA h ad σ τ set_ hI) (cw_X3_X3_totals hts ⟨Nat.le_of_ble_eq_true rfl, Nat.le_of_ble_eq_true rfl⟩) mB_bl (mB_now hK hP) (va_recv hK hP (ci := 0) (q0 := 0) rfl rfl) rfl hl.1 rfl (Nat.le_of_ble_eq_true rfl) dX3_value_53 ⟨Nat.le_of_ble_eq_true rfl, Nat.le_of_ble_eq_true rfl⟩ ?_
      refine lv_iload hx hb dX3_value_56 (lv_at hl 6 rfl) ?_
      refine cSl (As := [.long (maxV σ (maxV σ (maxV σ (oneF σ))) j m_ bag set_), .long (tosF σ set_ 6), .int w]) (rest := []) ⟨hx, hb, hml, hown, hts⟩ (mt_X3_lowest l (maxV σ (maxV σ (maxV σ (oneF σ))) j m_ bag set_) (tosF σ set_ 6) w (tos_ne hI hk3)) (cw_X3_X3_lowest hts ⟨Nat.le_of_ble_eq_true rfl, Nat.le_of_ble_eq_true rfl⟩) w_blT (fun _ _ _ => trivial) rfl hl.1 rfl (Nat.le_of_ble_eq_true rfl) dX3_value_58 ⟨Nat.le_of_ble_eq_true rfl, Nat.le_of_ble_eq_true rfl⟩ ?_
      exact r_l hQ hx hb hr hlocks rfl (by simp only [valueF, eq_true h13, eq_true h21, hix, if_true, if_false, ite_true, ite_false, not_true_eq_false, not_false_eq_true, and_true, true_and, and_false, false_and, or_true, true_or, or_false, false_or, and_self, or_self, eq_self]) dX3_value_61
    · have h21 : ¬ (partP w) := b01_0.mp h21
      refine lv_iload hx hb dX3_value_24 (lv_at hl 0 rfl) ?_
      refine lv_bipush (v := (-2)) hx hb dX3_value_26 rfl ?_
      refine lv_icmp_ne (tgt := 37) hx hb dX3_value_28 rfl (fun h28 => ?_) (fun h28 => ?_)
      · have h28 : ¬ ((refNowF σ (nI j) m_ bag set_) = (-2)) := h28
        refine lv_ldc2 (v := (-8999999999999999997)) hx hb hown (hts _ q1378) dX3_value_37 ?_
        exact r_l hQ hx hb hr hlocks rfl (by simp only [valueF, eq_true h13, eq_false h21, eq_false h28, hix, if_true, if_false, ite_true, ite_false, not_true_eq_false, not_false_eq_true, and_true, true_and, and_false, false_and, or_true, true_or, or_false, false_or, and_self, or_self, eq_self]) dX3_value_40
      · have h28 : (refNowF σ (nI j) m_ bag set_) = (-2) := h28
        refine lv_ldc2 (v := (-8999999999999999998)) hx hb hown (hts _ q1377) dX3_value_31 ?_
        refine lv_goto (tgt := 40) hx hb dX3_value_34 rfl ?_
        exact r_l hQ hx hb hr hlocks rfl (absurd (h13.symm.trans h28) (by decide)) dX3_value_40

def rmX3_next : Room := { frames := 9, cells := 0, slots := 0, locals := 267 }
set_option maxHeartbeats 1000000 in
theorem mt_X3_next (l : Launch) (D : va_G) (dA : Nat → ClassId) (h : Nat) (ad : Nat → Nat) (σ : St) (τ : Sc) (x_ : Int32) (m_ : Int32) (bag : Int32) (set_ : Int32) (hI : Inv σ) : Met l yX3_next (ws_ yX3_next cX3_next 9 (some .int)) rmX3_next (va_Pc [.ref h, .int x_, .int m_, .int bag, .int set_] (mB D dA h ad σ τ)) (vp_Si (fun r => r = nextF σ x_ m_ bag set_)) 0 0 (fun _ => False) := by
  refine w_start (by decide) (Nat.le_of_ble_eq_true rfl) ?_
  intro p e s m args below meth c Q ls hQ hx hb hr hlocks hml hown hnm hts hB hl
  have hown : s.vm.findClass RX3 = some m.cls := hown
  have hl : lv_has ls 9 [(0, .ref h), (1, .int x_), (2, .int m_), (3, .int bag), (4, .int set_)] := hl
  obtain ⟨hP, hK⟩ := hB
  refine lv_aload_n hx hb dX3_next_0 rfl (lv_at hl 0 rfl) ?_
  refine lv_iload_n hx hb dX3_next_1 rfl (lv_at hl 1 rfl) ?_
  refine lv_iload_n hx hb dX3_next_2 rfl (lv_at hl 2 rfl) ?_
  refine lv_iload_n hx hb dX3_next_3 rfl (lv_at hl 3 rfl) ?_
  refine lv_iload hx hb dX3_next_4 (lv_at hl 4 rfl) ?_
  refine cVi (As := [.int x_, .int m_, .int bag, .int set_]) (rest := []) ⟨hx, hb, hml, hown, hts⟩ (mt_X3_refusesNow l D dA h ad σ τ x_ m_ bag set_ hI) (cw_X3_X3_refusesNow hts ⟨Nat.le_of_ble_eq_true rfl, Nat.le_of_ble_eq_true rfl⟩) mB_bl (mB_now hK hP) (va_recv hK hP (ci := 0) (q0 := 0) rfl rfl) rfl hl.1 rfl (Nat.le_of_ble_eq_true rfl) dX3_next_6 ⟨Nat.le_of_ble_eq_true rfl, Nat.le_of_ble_eq_true rfl⟩ ?_
  refine lv_istore (lv' := [(5, .int (refNowF σ x_ m_ bag set_)), (0, .ref h), (1, .int x_), (2, .int m_), (3, .int bag), (4, .int set_)]) hx hb dX3_next_9 hl (by decide) rfl (fun ls hl => ?_)
  refine lv_iload hx hb dX3_next_11 (lv_at hl 0 rfl) ?_
  refine lv_if_eq (tgt := 19) hx hb dX3_next_13 rfl (fun h13 => ?_) (fun h13 => ?_)
  · have h13 : (refNowF σ x_ m_ bag set_) = 0 := h13
    obtain ⟨hk1, hk2, hk3, -⟩ := refNow_ok h13
    obtain ⟨j, hj, rfl⟩ := in5 hk1
    have hix : ix (nI j) = j := ix_nI hj (by decide)
    refine lv_aload_n hx hb dX3_next_19 rfl (lv_at hl 1 rfl) ?_
    refine lv_iload_n hx hb dX3_next_20 rfl (lv_at hl 2 rfl) ?_
    refine lv_iload_n hx hb dX3_next_21 rfl (lv_at hl 3 rfl) ?_
    refine lv_iload_n hx hb dX3_next_22 rfl (lv_at hl 4 rfl) ?_
    refine lv_iload hx hb dX3_next_23 (lv_at hl 5 rfl) ?_
    refine cVl (As := [.int (nI j), .int m_, .int bag, .int set_]) (rest := []) ⟨hx, hb, hml, hown, hts⟩ (mt_X3_valueOf l D dA h ad σ τ j m_ bag set_ hI (by omega)) (cw_X3_X3_valueOf hts ⟨Nat.le_of_ble_eq_true rfl, Nat.le_of_ble_eq_true rfl⟩) mB_bl (mB_now hK hP) (va_recv hK hP (ci := 0) (q0 := 0) rfl rfl) rfl hl.1 rfl (Nat.le_of_ble_eq_true rfl) dX3_next_25 ⟨Nat.le_of_ble_eq_true rfl, Nat.le_of_ble_eq_true rfl⟩ ?_
    refine lv_lstore (lv' := [(6, .long (maxV σ (maxV σ (maxV σ (oneF σ))) j m_ bag set_)), (5, .int (refNowF σ (nI j) m_ bag set_)), (0, .ref h), (1, .int (nI j)), (2, .int m_), (3, .int bag), (4, .int set_)]) hx hb dX3_next_28 hl (by decide) rfl (fun ls hl => ?_)
    refine lv_iconst (v := 0) hx hb dX3_next_30 rfl ?_
    refine lv_istore (lv' := [(8, .int 0), (6, .long (maxV σ (maxV σ (maxV σ (oneF σ))) j m_ bag set_)), (5, .int (refNowF σ (nI j) m_ bag set_)), (0, .ref h), (1, .int (nI j)), (2, .int m_), (3, .int bag), (4, .int set_)]) hx hb dX3_next_31 hl (by decide) rfl (fun ls hl => ?_)
    have hL33_1 : ∀ (n_2 : Nat) (k : Nat) (x8 : Int32) (ls : Array Slot), (6 - k) < n_2 → (k ≤ 6) → (nxF σ (maxV σ (maxV σ (oneF σ))) j m_ bag set_ (maxV σ (maxV σ (maxV σ (oneF σ))) j m_ bag set_) 6 0 = nxF σ (maxV σ (maxV σ (oneF σ))) j m_ bag set_ (maxV σ (maxV σ (maxV σ (oneF σ))) j m_ bag set_) (6 - k) k) → (0 < k → ¬ (maxV σ (maxV σ (maxV σ (oneF σ))) j m_ bag set_) ≤ 0) → x8 = (nI k) → lv_has ls 9 [(8, .int x8), (6, .long (maxV σ (maxV σ (maxV σ (oneF σ))) j m_ bag set_)), (5, .int (refNowF σ (nI j) m_ bag set_)), (0, .ref h), (1, .int (nI j)), (2, .int m_), (3, .int bag), (4, .int set_)] → W p l e rmX3_next s m args below meth c s.heap [] 0 0 Q (F0 m 33 ls []) := by
      intro n_2
      induction n_2 with
      | zero => intro k x8 ls hm_4; exact absurd hm_4 (Nat.not_lt_zero _)
      | succ n_2 ih_3 =>
        intro k x8 ls hm_4 hk hnx hps ex8 hl
        subst ex8
        refine lv_iload hx hb dX3_next_33 (lv_at hl 0 rfl) ?_
        refine lv_bipush (v := 6) hx hb dX3_next_35 rfl ?_
        refine lv_icmp_ge (tgt := 83) hx hb dX3_next_37 rfl (fun h37 => ?_) (fun h37 => ?_)
        · have h37 : 6 ≤ k := (nz_le (a := 6) (b := k) rfl rfl (by omega) (by omega)).mp h37
          obtain rfl : k = 6 := by omega
          refine lv_iconst (v := (-1)) hx hb dX3_next_83 rfl ?_
          exact r_i hQ hx hb hr hlocks rfl (by rw [nextF, if_pos h13, hix, nextG, if_neg (hps (by decide)), hnx]; rfl) dX3_next_84
        · have h37 : ¬ (6 ≤ k) := fun z9 => h37 ((nz_le (a := 6) (b := k) rfl rfl (by omega) (by omega)).mpr z9)
          refine lv_lload hx hb dX3_next_40 (lv_at hl 1 rfl) ?_
          refine lv_lconst (v := 0) hx hb dX3_next_42 rfl ?_
          refine W.lcmp hx hb dX3_next_43 ?_
          refine lv_if_le (tgt := 83) hx hb dX3_next_44 rfl (fun h44 => ?_) (fun h44 => ?_)
          · have h44 : (maxV σ (maxV σ (maxV σ (oneF σ))) j m_ bag set_) ≤ 0 := (lg_cmp_le (maxV σ (maxV σ (maxV σ (oneF σ))) j m_ bag set_) 0).mp h44
            refine lv_iconst (v := (-1)) hx hb dX3_next_83 rfl ?_
            exact r_i hQ hx hb hr hlocks rfl (by rw [nextF, if_pos h13, hix, nextG, if_pos h44]) dX3_next_84
          · have h44 : ¬ ((maxV σ (maxV σ (maxV σ (oneF σ))) j m_ bag set_) ≤ 0) := fun z9 => h44 ((lg_cmp_le (maxV σ (maxV σ (maxV σ (oneF σ))) j m_ bag set_) 0).mpr z9)
            refine lv_iload hx hb dX3_next_47 (lv_at hl 7 rfl) ?_
            refine lv_iload hx hb dX3_next_49 (lv_at hl 0 rfl) ?_
            refine cSi (As := [.int set_, .int (nI k)]) (rest := []) ⟨hx, hb, hml, hown, hts⟩ (mt_X3_has l set_ (nI k)) (cw_X3_X3_has hts ⟨Nat.le_of_ble_eq_true rfl, Nat.le_of_ble_eq_true rfl⟩) w_blT (fun _ _ _ => trivial) rfl hl.1 rfl (Nat.le_of_ble_eq_true rfl) dX3_next_51 ⟨Nat.le_of_ble_eq_true rfl, Nat.le_of_ble_eq_true rfl⟩ ?_
            refine lv_if_eq (tgt := 77) hx hb dX3_next_54 rfl (fun h54 => ?_) (fun h54 => ?_)
            · have h54 : ¬ (hasP set_ (nI k)) := b01_0.mp h54
              refine lv_iinc (v := nI (k + 1)) (lv' := [(8, .int (nI (k + 1))), (6, .long (maxV σ (maxV σ (maxV σ (oneF σ))) j m_ bag set_)), (5, .int (refNowF σ (nI j) m_ bag set_)), (0, .ref h), (1, .int (nI j)), (2, .int m_), (3, .int bag), (4, .int set_)]) hx hb dX3_next_77 hl (k := 0) rfl (nI_1 k) (by decide) rfl (fun ls hl => ?_)
              refine lv_goto (tgt := 33) hx hb dX3_next_80 rfl ?_
              exact ih_3 (k + 1) (nI (k + 1)) ls (by omega) (by omega) (by rw [hnx, show 6 - k = (6 - (k + 1)) + 1 by omega, nxF]; simp only [eq_false h54, if_false]) (fun _ => h44) rfl (lv_sub hl [0, 1, 2, 3, 4, 5, 6, 7] rfl)
            · have h54 : hasP set_ (nI k) := b01_n h54
              refine lv_aload_n hx hb dX3_next_57 rfl (lv_at hl 3 rfl) ?_
              refine lv_iload_n hx hb dX3_next_58 rfl (lv_at hl 4 rfl) ?_
              refine lv_iload_n hx hb dX3_next_59 rfl (lv_at hl 5 rfl) ?_
              refine lv_iload_n hx hb dX3_next_60 rfl (lv_at hl 6 rfl) ?_
              refine lv_iload hx hb dX3_next_61 (lv_at hl 7 rfl) ?_
              refine lv_iload hx hb dX3_next_63 (lv_at hl 0 rfl) ?_
              refine cVl (As := [.int (nI j), .int m_, .int bag, .int set_, .int (nI k)]) (rest := []) ⟨hx, hb, hml, hown, hts⟩ (mt_X3_going l D dA h ad σ τ j m_ bag set_ k hI (by omega) (by omega)) (cw_X3_X3_going hts ⟨Nat.le_of_ble_eq_true rfl, Nat.le_of_ble_eq_true rfl⟩) mB_bl (mB_now hK hP) (va_recv hK hP (ci := 0) (q0 := 0) rfl rfl) rfl hl.1 rfl (Nat.le_of_ble_eq_true rfl) dX3_next_65 ⟨Nat.le_of_ble_eq_true rfl, Nat.le_of_ble_eq_true rfl⟩ ?_
              refine lv_lload hx hb dX3_next_68 (lv_at hl 1 rfl) ?_
              refine W.lcmp hx hb dX3_next_70 ?_
              refine lv_if_ne (tgt := 77) hx hb dX3_next_71 rfl (fun h71 => ?_) (fun h71 => ?_)
              · have h71 : ¬ ((goV σ (maxV σ (maxV σ (oneF σ))) j m_ bag set_ k) = (maxV σ (maxV σ (maxV σ (oneF σ))) j m_ bag set_)) := fun z9 => h71 ((lg_cmp_eq (goV σ (maxV σ (maxV σ (oneF σ))) j m_ bag set_ k) (maxV σ (maxV σ (maxV σ (oneF σ))) j m_ bag set_)).mpr z9)
                refine lv_iinc (v := nI (k + 1)) (lv' := [(8, .int (nI (k + 1))), (6, .long (maxV σ (maxV σ (maxV σ (oneF σ))) j m_ bag set_)), (5, .int (refNowF σ (nI j) m_ bag set_)), (0, .ref h), (1, .int (nI j)), (2, .int m_), (3, .int bag), (4, .int set_)]) hx hb dX3_next_77 hl (k := 0) rfl (nI_1 k) (by decide) rfl (fun ls hl => ?_)
                refine lv_goto (tgt := 33) hx hb dX3_next_80 rfl ?_
                exact ih_3 (k + 1) (nI (k + 1)) ls (by omega) (by omega) (by rw [hnx, show 6 - k = (6 - (k + 1)) + 1 by omega, nxF]; simp only [eq_true h54, eq_false h71, if_true, if_false]) (fun _ => h44) rfl (lv_sub hl [0, 1, 2, 3, 4, 5, 6, 7] rfl)
              · have h71 : (goV σ (maxV σ (maxV σ (oneF σ))) j m_ bag set_ k) = (maxV σ (maxV σ (maxV σ (oneF σ))) j m_ bag set_) := (lg_cmp_eq (goV σ (maxV σ (maxV σ (oneF σ))) j m_ bag set_ k) (maxV σ (maxV σ (maxV σ (oneF σ))) j m_ bag set_)).mp h71
                refine lv_iload hx hb dX3_next_74 (lv_at hl 0 rfl) ?_
                exact r_i hQ hx hb hr hlocks rfl (by rw [nextF, if_pos h13, hix, nextG, if_neg h44, hnx, show 6 - k = (6 - (k + 1)) + 1 by omega, nxF, if_pos h54, if_pos h71]) dX3_next_76
    exact hL33_1 _ 0 0 ls (Nat.lt_succ_self _) (by omega) rfl (fun q => absurd q (by decide)) rfl (lv_sub hl [0, 1, 2, 3, 4, 5, 6, 7] rfl)
  · have h13 : ¬ ((refNowF σ x_ m_ bag set_) = 0) := h13
    refine lv_iload hx hb dX3_next_16 (lv_at hl 0 rfl) ?_
    exact r_i hQ hx hb hr hlocks rfl (by simp only [nextF, eq_false h13, if_true, if_false, ite_true, ite_false, not_true_eq_false, not_false_eq_true, and_true, true_and, and_false, false_and, or_true, true_or, or_false, false_or, and_self, or_self, eq_self]) dX3_next_18

def standsB (σ : St) (t o : Int32) : Nat → Int32
  | 0 => 1
  | k + 1 => if sortP σ (nI (k / 4)) (nI (k % 4)) then (if standsB σ t o k = 0 then 0 else if hasP (σ.sorts (4 * k + 2)) o then 0 else if hasP (σ.sorts (4 * k + 3)) o then (if hasP (σ.sorts (4 * k + 3)) t then 1 else 0) else 1) else standsB σ t o k
def standsF (σ : St) (t o : Int32) : Int32 := if thingP t then (if thingP o then (if t = o then -2 else if standsB σ t o 24 = 0 then 0 else 1) else -2) else -2
def wantF (σ : St) : Nat → Int32
  | 0 => 0
  | k + 1 => wantF σ k ||| (if sortP σ (nI (k / 4)) (nI (k % 4)) then σ.sorts (4 * k + 2) ||| σ.sorts (4 * k + 3) else 0)
def idleF (σ : St) : Int32 := 255 &&& (wantF σ 24 ^^^ (-1))
def svF (σ : St) (set : Int32) : Nat → Int32
  | 0 => 0
  | k + 1 => svF σ set k + (if fitsP (σ.visits (3 * k + 2)) (σ.visits (3 * k)) (σ.visits (3 * k + 1)) then 0 else if fitsP (σ.visits (3 * k + 2) ||| set) (σ.visits (3 * k)) (σ.visits (3 * k + 1)) then 1 else 0)
def savF (σ : St) (set : Int32) : Int32 := svF σ set σ.vm
def savedF (σ : St) (set : Int32) : Int32 := if bagP set then savF σ set else -3
def manyF (set : Int32) : Nat → Int32
  | 0 => 0
  | k + 1 => manyF set k + ((set >>> (nI k &&& 31)) &&& 1)
def mostG (σ : St) (w : Int32) : Nat → Int32
  | 0 => -1
  | k + 1 => if (if manyF (nI k) 8 = w then (if mostG σ w k = -1 then 1 else if savF σ (nI k) ≤ savF σ (mostG σ w k) then 0 else 1) else (0 : Int32)) = 0 then mostG σ w k else nI k
def mostF (σ : St) (w : Int32) : Int32 := if inP w.toInt64 1 3 then mostG σ w 256 else -3
def dfG (σ : St) (bag : Int32) : Nat → Int32
  | 0 => 0
  | k + 1 => dfG σ bag k + (if fitsP bag (σ.visits (3 * k)) (σ.visits (3 * k + 1)) then 1 else 0)
def dfF (σ : St) (bag : Int32) : Int32 := dfG σ bag σ.vm
def boxG (σ : St) : Nat → Int32
  | 0 => 0
  | k + 1 => if mayP σ (nI (k + 1)) then (if 0 < dfF σ (nI (k + 1)) - dfF σ (boxG σ k) then nI (k + 1) else if dfF σ (nI (k + 1)) - dfF σ (boxG σ k) = 0 then (if wsum σ.wt (boxG σ k) 8 ≤ wsum σ.wt (nI (k + 1)) 8 then boxG σ k else nI (k + 1)) else boxG σ k) else boxG σ k
def boxF (σ : St) (w : Int32) : Int32 := if inP w.toInt64 0 1 then (if w = 0 then boxG σ 255 else dfF σ (boxG σ 255)) else -3
def toldN (σ : St) : Nat → Int32
  | 0 => 0
  | k + 1 => toldN σ k + ((σ.told >>> (nI k &&& 31)) &&& 1)
def countF (σ : St) (w : Int32) : Int32 := if w = 0 then toldN σ 6 else if w = 1 then nI σ.len else if w = 2 then nI σ.vm else if w = 3 then σ.load else if w = 4 then σ.purse else if w = 5 then σ.beg else -3

def rmX3_stands : Room := { frames := 3, cells := 0, slots := 0, locals := 68 }
set_option maxHeartbeats 1000000 in
theorem mt_X3_stands (l : Launch) (D : va_G) (dA : Nat → ClassId) (h : Nat) (ad : Nat → Nat) (σ : St) (τ : Sc) (t_ : Int32) (o_ : Int32) (hI : Inv σ) : Met l yX3_stands (ws_ yX3_stands cX3_stands 6 (some .int)) rmX3_stands (va_Pc [.ref h, .int t_, .int o_] (mB D dA h ad σ τ)) (vp_Si (fun r => r = standsF σ t_ o_)) 0 0 (fun _ => False) := by
  refine w_start (by decide) (Nat.le_of_ble_eq_true rfl) ?_
  intro p e s m args below meth c Q ls hQ hx hb hr hlocks hml hown hnm hts hB hl
  have hown : s.vm.findClass RX3 = some m.cls := hown
  have hl : lv_has ls 6 [(0, .ref h), (1, .int t_), (2, .int o_)] := hl
  obtain ⟨hP, hK⟩ := hB
  refine lv_iload_n hx hb dX3_stands_0 rfl (lv_at hl 1 rfl) ?_
  refine cSi (As := [.int t_]) (rest := []) ⟨hx, hb, hml, hown, hts⟩ (mt_X3_isThing l t_) (cw_X3_X3_isThing hts ⟨Nat.le_of_ble_eq_true rfl, Nat.le_of_ble_eq_true rfl⟩) w_blT (fun _ _ _ => trivial) rfl hl.1 rfl (Nat.le_of_ble_eq_true rfl) dX3_stands_1 ⟨Nat.le_of_ble_eq_true rfl, Nat.le_of_ble_eq_true rfl⟩ ?_
  refine lv_if_eq (tgt := 19) hx hb dX3_stands_4 rfl (fun h4 => ?_) (fun h4 => ?_)
  · have h4 : ¬ (thingP t_) := b01_0.mp h4
    refine lv_bipush (v := (-2)) hx hb dX3_stands_19 rfl ?_
    exact r_i hQ hx hb hr hlocks rfl (by simp only [standsF, eq_false h4, if_true, if_false, ite_true, ite_false, not_true_eq_false, not_false_eq_true, and_true, true_and, and_false, false_and, or_true, true_or, or_false, false_or, and_self, or_self, eq_self]) dX3_stands_21
  · have h4 : thingP t_ := b01_n h4
    refine lv_iload_n hx hb dX3_stands_7 rfl (lv_at hl 2 rfl) ?_
    refine cSi (As := [.int o_]) (rest := []) ⟨hx, hb, hml, hown, hts⟩ (mt_X3_isThing l o_) (cw_X3_X3_isThing hts ⟨Nat.le_of_ble_eq_true rfl, Nat.le_of_ble_eq_true rfl⟩) w_blT (fun _ _ _ => trivial) rfl hl.1 rfl (Nat.le_of_ble_eq_true rfl) dX3_stands_8 ⟨Nat.le_of_ble_eq_true rfl, Nat.le_of_ble_eq_true rfl⟩ ?_
    refine lv_if_eq (tgt := 19) hx hb dX3_stands_11 rfl (fun h11 => ?_) (fun h11 => ?_)
    · have h11 : ¬ (thingP o_) := b01_0.mp h11
      refine lv_bipush (v := (-2)) hx hb dX3_stands_19 rfl ?_
      exact r_i hQ hx hb hr hlocks rfl (by simp only [standsF, eq_true h4, eq_false h11, if_true, if_false, ite_true, ite_false, not_true_eq_false, not_false_eq_true, and_true, true_and, and_false, false_and, or_true, true_or, or_false, false_or, and_self, or_self, eq_self]) dX3_stands_21
    · have h11 : thingP o_ := b01_n h11
      refine lv_iload_n hx hb dX3_stands_14 rfl (lv_at hl 1 rfl) ?_
      refine lv_iload_n hx hb dX3_stands_15 rfl (lv_at hl 2 rfl) ?_
      refine lv_icmp_ne (tgt := 22) hx hb dX3_stands_16 rfl (fun h16 => ?_) (fun h16 => ?_)
      · have h16 : ¬ (t_ = o_) := h16
        refine lv_iconst (v := 1) hx hb dX3_stands_22 rfl ?_
        refine lv_istore_n (lv' := [(3, .int 1), (0, .ref h), (1, .int t_), (2, .int o_)]) hx hb dX3_stands_23 rfl hl (by decide) rfl (fun ls hl => ?_)
        refine lv_iconst (v := 0) hx hb dX3_stands_24 rfl ?_
        refine lv_istore (lv' := [(4, .int 0), (3, .int 1), (0, .ref h), (1, .int t_), (2, .int o_)]) hx hb dX3_stands_25 hl (by decide) rfl (fun ls hl => ?_)
        have hL27_1 : ∀ (n_2 : Nat) (k : Nat) (x4 : Int32) (x3 : Int32) (ls : Array Slot), (24 - k) < n_2 → (k ≤ 24) → x4 = (nI k) → x3 = (standsB σ t_ o_ k) → lv_has ls 6 [(4, .int x4), (3, .int x3), (0, .ref h), (1, .int t_), (2, .int o_)] → W p l e rmX3_stands s m args below meth c s.heap [] 0 0 Q (F0 m 27 ls []) := by
          intro n_2
          induction n_2 with
          | zero => intro k x4 x3 ls hm_4; exact absurd hm_4 (Nat.not_lt_zero _)
          | succ n_2 ih_3 =>
            intro k x4 x3 ls hm_4 hk ex4 ex3 hl
            subst ex4 ex3
            refine lv_iload hx hb dX3_stands_27 (lv_at hl 0 rfl) ?_
            refine lv_bipush (v := 24) hx hb dX3_stands_29 rfl ?_
            refine lv_icmp_ge (tgt := 114) hx hb dX3_stands_31 rfl (fun h31 => ?_) (fun h31 => ?_)
            · have h31 : 24 ≤ k := (nz_le (a := 24) (b := k) rfl rfl (by omega) (by omega)).mp h31
              have hk_ : k = 24 := by omega
              subst hk_
              refine lv_iload_n hx hb dX3_stands_114 rfl (lv_at hl 1 rfl) ?_
              refine lv_if_eq (tgt := 122) hx hb dX3_stands_115 rfl (fun h115 => ?_) (fun h115 => ?_)
              · have h115 : (standsB σ t_ o_ 24) = 0 := h115
                refine lv_iconst (v := 0) hx hb dX3_stands_122 rfl ?_
                exact r_i hQ hx hb hr hlocks rfl (by simp only [standsF, eq_true h4, eq_true h11, eq_false h16, eq_true h31, eq_true h115, if_true, if_false, ite_true, ite_false, not_true_eq_false, not_false_eq_true, and_true, true_and, and_false, false_and, or_true, true_or, or_false, false_or, and_self, or_self, eq_self]) dX3_stands_123
              · have h115 : ¬ ((standsB σ t_ o_ 24) = 0) := h115
                refine lv_iconst (v := 1) hx hb dX3_stands_118 rfl ?_
                refine lv_goto (tgt := 123) hx hb dX3_stands_119 rfl ?_
                exact r_i hQ hx hb hr hlocks rfl (by simp only [standsF, eq_true h4, eq_true h11, eq_false h16, eq_true h31, eq_false h115, if_true, if_false, ite_true, ite_false, not_true_eq_false, not_false_eq_true, and_true, true_and, and_false, false_and, or_true, true_or, or_false, false_or, and_self, or_self, eq_self]) dX3_stands_123
            · have h31 : ¬ (24 ≤ k) := fun z9 => h31 ((nz_le (a := 24) (b := k) rfl rfl (by omega) (by omega)).mpr z9)
              refine lv_aload_n hx hb dX3_stands_34 rfl (lv_at hl 2 rfl) ?_
              refine lv_iload hx hb dX3_stands_35 (lv_at hl 0 rfl) ?_
              refine lv_iconst (v := 4) hx hb dX3_stands_37 rfl ?_
              refine lv_idiv hx hb dX3_stands_38 (by decide) ?_
              refine w_topi (nz_div (d := 4) rfl rfl (by omega) (by decide) (by decide)) ?_
              refine lv_iload hx hb dX3_stands_39 (lv_at hl 0 rfl) ?_
              refine lv_iconst (v := 4) hx hb dX3_stands_41 rfl ?_
              refine lv_irem hx hb dX3_stands_42 (by decide) ?_
              refine w_topi (nz_rem (d := 4) rfl rfl (by omega) (by decide) (by decide)) ?_
              refine cVi (As := [.int (nI (k / 4)), .int (nI (k % 4))]) (rest := []) ⟨hx, hb, hml, hown, hts⟩ (mt_X3_isSort l D dA h ad σ τ (nI (k / 4)) (nI (k % 4)) hI) (cw_X3_X3_isSort hts ⟨Nat.le_of_ble_eq_true rfl, Nat.le_of_ble_eq_true rfl⟩) mB_bl (mB_now hK hP) (va_recv hK hP (ci := 0) (q0 := 0) rfl rfl) rfl hl.1 rfl (Nat.le_of_ble_eq_true rfl) dX3_stands_43 ⟨Nat.le_of_ble_eq_true rfl, Nat.le_of_ble_eq_true rfl⟩ ?_
              have hJ108_5 : ∀ (v_6 : Int32) (ls : Array Slot), v_6 = (if sortP σ (nI (k / 4)) (nI (k % 4)) then if (standsB σ t_ o_ k) = 0 then 0 else if hasP (σ.sorts ((4 * k) + 2)) o_ then 0 else if hasP (σ.sorts ((4 * k) + 3)) o_ then if hasP (σ.sorts ((4 * k) + 3)) t_ then 1 else 0 else 1 else standsB σ t_ o_ k) → lv_has ls 6 [(4, .int (nI k)), (3, .int v_6), (0, .ref h), (1, .int t_), (2, .int o_)] → W p l e rmX3_stands s m args below meth c s.heap [] 0 0 Q (F0 m 108 ls []) := by
                intro v_6 ls ev_6 hl
                refine lv_iinc (v := nI (k + 1)) (lv' := [(4, .int (nI (k + 1))), (3, .int v_6), (0, .ref h), (1, .int t_), (2, .int o_)]) hx hb dX3_stands_108 hl (k := 0) rfl (nI_1 k) (by decide) rfl (fun ls hl => ?_)
                refine lv_goto (tgt := 27) hx hb dX3_stands_111 rfl ?_
                exact ih_3 (k + 1) (nI (k + 1)) v_6 ls (by omega) (by omega) rfl (by subst_vars; rw [standsB]) (lv_sub hl [0, 1, 2, 3, 4] rfl)
              refine lv_if_eq (tgt := 108) hx hb dX3_stands_46 rfl (fun h46 => ?_) (fun h46 => ?_)
              · have h46 : ¬ (sortP σ (nI (k / 4)) (nI (k % 4))) := b01_0.mp h46
                exact hJ108_5 (standsB σ t_ o_ k) ls (by rw [if_neg h46]) (lv_sub hl [0, 1, 2, 3, 4] rfl)
              · have h46 : sortP σ (nI (k / 4)) (nI (k % 4)) := b01_n h46
                refine lv_aload_n hx hb dX3_stands_49 rfl (lv_at hl 2 rfl) ?_
                refine va_get (D := D) (ci := 0) (v := .ref (ad 7)) (C := RX3) (T := TX3) (N := 31) hx hb hts in_X3 hown hK hP 0 rfl rfl 14 (by decide) (hts _ q1128) (fun _ h9 => h9) rfl dX3_stands_50 ?_
                refine lv_iconst (v := 4) hx hb dX3_stands_53 rfl ?_
                refine lv_iload hx hb dX3_stands_54 (lv_at hl 0 rfl) ?_
                refine lv_imul hx hb dX3_stands_56 ?_
                refine lv_iconst (v := 3) hx hb dX3_stands_57 rfl ?_
                refine lv_iadd hx hb dX3_stands_58 ?_
                refine wa_iald (f := σ.sorts) hx hb hK hP 8 0 rfl rfl ((4 * k) + 3) ((nz_add (nz_mul rfl rfl) rfl)) (by omega) (by decide) dX3_stands_59 ?_
                refine lv_istore (lv' := [(5, .int (σ.sorts ((4 * k) + 3))), (4, .int (nI k)), (3, .int (standsB σ t_ o_ k)), (0, .ref h), (1, .int t_), (2, .int o_)]) hx hb dX3_stands_60 hl (by decide) rfl (fun ls hl => ?_)
                refine lv_iload_n hx hb dX3_stands_62 rfl (lv_at hl 2 rfl) ?_
                have hJ107_7 : ∀ (v_8 : Int32) (ls : Array Slot), v_8 = (if (standsB σ t_ o_ k) = 0 then 0 else if hasP (σ.sorts ((4 * k) + 2)) o_ then 0 else if hasP (σ.sorts ((4 * k) + 3)) o_ then if hasP (σ.sorts ((4 * k) + 3)) t_ then 1 else 0 else 1) → lv_has ls 6 [(5, .int (σ.sorts ((4 * k) + 3))), (4, .int (nI k)), (3, .int (standsB σ t_ o_ k)), (0, .ref h), (1, .int t_), (2, .int o_)] → W p l e rmX3_stands s m args below meth c s.heap [] 0 0 Q (F0 m 107 ls [.int v_8]) := by
                  intro v_8 ls ev_8 hl
                  refine lv_istore_n (lv' := [(3, .int v_8), (5, .int (σ.sorts ((4 * k) + 3))), (4, .int (nI k)), (0, .ref h), (1, .int t_), (2, .int o_)]) hx hb dX3_stands_107 rfl hl (by decide) rfl (fun ls hl => ?_)
                  exact hJ108_5 (v_8) ls (by subst_vars; rw [if_pos h46]) (lv_sub hl [2, 0, 3, 4, 5] rfl)
                refine lv_if_eq (tgt := 106) hx hb dX3_stands_63 rfl (fun h63 => ?_) (fun h63 => ?_)
                · have h63 : (standsB σ t_ o_ k) = 0 := h63
                  refine lv_iconst (v := 0) hx hb dX3_stands_106 rfl ?_
                  exact hJ107_7 (0) ls (by rw [if_pos h63]) (lv_sub hl [0, 1, 2, 3, 4, 5] rfl)
                · have h63 : ¬ ((standsB σ t_ o_ k) = 0) := h63
                  refine lv_aload_n hx hb dX3_stands_66 rfl (lv_at hl 3 rfl) ?_
                  refine va_get (D := D) (ci := 0) (v := .ref (ad 7)) (C := RX3) (T := TX3) (N := 31) hx hb hts in_X3 hown hK hP 0 rfl rfl 14 (by decide) (hts _ q1128) (fun _ h9 => h9) rfl dX3_stands_67 ?_
                  refine lv_iconst (v := 4) hx hb dX3_stands_70 rfl ?_
                  refine lv_iload hx hb dX3_stands_71 (lv_at hl 1 rfl) ?_
                  refine lv_imul hx hb dX3_stands_73 ?_
                  refine lv_iconst (v := 2) hx hb dX3_stands_74 rfl ?_
                  refine lv_iadd hx hb dX3_stands_75 ?_
                  refine wa_iald (f := σ.sorts) hx hb hK hP 8 0 rfl rfl ((4 * k) + 2) ((nz_add (nz_mul rfl rfl) rfl)) (by omega) (by decide) dX3_stands_76 ?_
                  refine lv_iload_n hx hb dX3_stands_77 rfl (lv_at hl 5 rfl) ?_
                  refine cSi (As := [.int (σ.sorts ((4 * k) + 2)), .int o_]) (rest := []) ⟨hx, hb, hml, hown, hts⟩ (mt_X3_has l (σ.sorts ((4 * k) + 2)) o_) (cw_X3_X3_has hts ⟨Nat.le_of_ble_eq_true rfl, Nat.le_of_ble_eq_true rfl⟩) w_blT (fun _ _ _ => trivial) rfl hl.1 rfl (Nat.le_of_ble_eq_true rfl) dX3_stands_78 ⟨Nat.le_of_ble_eq_true rfl, Nat.le_of_ble_eq_true rfl⟩ ?_
                  refine lv_if_ne (tgt := 106) hx hb dX3_stands_81 rfl (fun h81 => ?_) (fun h81 => ?_)
                  · have h81 : hasP (σ.sorts ((4 * k) + 2)) o_ := b01_n h81
                    refine lv_iconst (v := 0) hx hb dX3_stands_106 rfl ?_
                    exact hJ107_7 (0) ls (by rw [if_neg h63, if_pos h81]) (lv_sub hl [0, 1, 2, 3, 4, 5] rfl)
                  · have h81 : ¬ (hasP (σ.sorts ((4 * k) + 2)) o_) := b01_0.mp h81
                    refine lv_iload hx hb dX3_stands_84 (lv_at hl 0 rfl) ?_
                    refine lv_iload_n hx hb dX3_stands_86 rfl (lv_at hl 5 rfl) ?_
                    refine cSi (As := [.int (σ.sorts ((4 * k) + 3)), .int o_]) (rest := []) ⟨hx, hb, hml, hown, hts⟩ (mt_X3_has l (σ.sorts ((4 * k) + 3)) o_) (cw_X3_X3_has hts ⟨Nat.le_of_ble_eq_true rfl, Nat.le_of_ble_eq_true rfl⟩) w_blT (fun _ _ _ => trivial) rfl hl.1 rfl (Nat.le_of_ble_eq_true rfl) dX3_stands_87 ⟨Nat.le_of_ble_eq_true rfl, Nat.le_of_ble_eq_true rfl⟩ ?_
                    refine lv_if_eq (tgt := 102) hx hb dX3_stands_90 rfl (fun h90 => ?_) (fun h90 => ?_)
                    · have h90 : ¬ (hasP (σ.sorts ((4 * k) + 3)) o_) := b01_0.mp h90
                      refine lv_iconst (v := 1) hx hb dX3_stands_102 rfl ?_
                      refine lv_goto (tgt := 107) hx hb dX3_stands_103 rfl ?_
                      exact hJ107_7 (1) ls (by rw [if_neg h63, if_neg h81, if_neg h90]) (lv_sub hl [0, 1, 2, 3, 4, 5] rfl)
                    · have h90 : hasP (σ.sorts ((4 * k) + 3)) o_ := b01_n h90
                      refine lv_iload hx hb dX3_stands_93 (lv_at hl 0 rfl) ?_
                      refine lv_iload_n hx hb dX3_stands_95 rfl (lv_at hl 4 rfl) ?_
                      refine cSi (As := [.int (σ.sorts ((4 * k) + 3)), .int t_]) (rest := []) ⟨hx, hb, hml, hown, hts⟩ (mt_X3_has l (σ.sorts ((4 * k) + 3)) t_) (cw_X3_X3_has hts ⟨Nat.le_of_ble_eq_true rfl, Nat.le_of_ble_eq_true rfl⟩) w_blT (fun _ _ _ => trivial) rfl hl.1 rfl (Nat.le_of_ble_eq_true rfl) dX3_stands_96 ⟨Nat.le_of_ble_eq_true rfl, Nat.le_of_ble_eq_true rfl⟩ ?_
                      refine lv_if_eq (tgt := 106) hx hb dX3_stands_99 rfl (fun h99 => ?_) (fun h99 => ?_)
                      · have h99 : ¬ (hasP (σ.sorts ((4 * k) + 3)) t_) := b01_0.mp h99
                        refine lv_iconst (v := 0) hx hb dX3_stands_106 rfl ?_
                        exact hJ107_7 (0) ls (by rw [if_neg h63, if_neg h81, if_pos h90, if_neg h99]) (lv_sub hl [0, 1, 2, 3, 4, 5] rfl)
                      · have h99 : hasP (σ.sorts ((4 * k) + 3)) t_ := b01_n h99
                        refine lv_iconst (v := 1) hx hb dX3_stands_102 rfl ?_
                        refine lv_goto (tgt := 107) hx hb dX3_stands_103 rfl ?_
                        exact hJ107_7 (1) ls (by rw [if_neg h63, if_neg h81, if_pos h90, if_pos h99]) (lv_sub hl [0, 1, 2, 3, 4, 5] rfl)
        exact hL27_1 _ 0 0 1 ls (Nat.lt_succ_self _) (by omega) rfl (by subst_vars; rw [standsB]) (lv_sub hl [0, 1, 2, 3, 4] rfl)
      · have h16 : t_ = o_ := h16
        refine lv_bipush (v := (-2)) hx hb dX3_stands_19 rfl ?_
        exact r_i hQ hx hb hr hlocks rfl (by simp only [standsF, eq_true h4, eq_true h11, eq_true h16, if_true, if_false, ite_true, ite_false, not_true_eq_false, not_false_eq_true, and_true, true_and, and_false, false_and, or_true, true_or, or_false, false_or, and_self, or_self, eq_self]) dX3_stands_21

def rmX3_idle : Room := { frames := 3, cells := 0, slots := 0, locals := 68 }
set_option maxHeartbeats 1000000 in
theorem mt_X3_idle (l : Launch) (D : va_G) (dA : Nat → ClassId) (h : Nat) (ad : Nat → Nat) (σ : St) (τ : Sc) (hI : Inv σ) : Met l yX3_idle (ws_ yX3_idle cX3_idle 3 (some .int)) rmX3_idle (va_Pc [.ref h] (mB D dA h ad σ τ)) (vp_Si (fun r => r = idleF σ)) 0 0 (fun _ => False) := by
  refine w_start (by decide) (Nat.le_of_ble_eq_true rfl) ?_
  intro p e s m args below meth c Q ls hQ hx hb hr hlocks hml hown hnm hts hB hl
  have hown : s.vm.findClass RX3 = some m.cls := hown
  have hl : lv_has ls 3 [(0, .ref h)] := hl
  obtain ⟨hP, hK⟩ := hB
  refine lv_iconst (v := 0) hx hb dX3_idle_0 rfl ?_
  refine lv_istore_n (lv' := [(1, .int 0), (0, .ref h)]) hx hb dX3_idle_1 rfl hl (by decide) rfl (fun ls hl => ?_)
  refine lv_iconst (v := 0) hx hb dX3_idle_2 rfl ?_
  refine lv_istore_n (lv' := [(2, .int 0), (1, .int 0), (0, .ref h)]) hx hb dX3_idle_3 rfl hl (by decide) rfl (fun ls hl => ?_)
  have hL4_1 : ∀ (n_2 : Nat) (k : Nat) (x2 : Int32) (x1 : Int32) (ls : Array Slot), (24 - k) < n_2 → (k ≤ 24) → x2 = (nI k) → x1 = (wantF σ k) → lv_has ls 3 [(2, .int x2), (1, .int x1), (0, .ref h)] → W p l e rmX3_idle s m args below meth c s.heap [] 0 0 Q (F0 m 4 ls []) := by
    intro n_2
    induction n_2 with
    | zero => intro k x2 x1 ls hm_4; exact absurd hm_4 (Nat.not_lt_zero _)
    | succ n_2 ih_3 =>
      intro k x2 x1 ls hm_4 hk ex2 ex1 hl
      subst ex2 ex1
      refine lv_iload_n hx hb dX3_idle_4 rfl (lv_at hl 0 rfl) ?_
      refine lv_bipush (v := 24) hx hb dX3_idle_5 rfl ?_
      refine lv_icmp_ge (tgt := 57) hx hb dX3_idle_7 rfl (fun h7 => ?_) (fun h7 => ?_)
      · have h7 : 24 ≤ k := (nz_le (a := 24) (b := k) rfl rfl (by omega) (by omega)).mp h7
        have hk_ : k = 24 := by omega
        subst hk_
        refine lv_sipush (v := 255) hx hb dX3_idle_57 rfl ?_
        refine lv_iload_n hx hb dX3_idle_60 rfl (lv_at hl 1 rfl) ?_
        refine lv_iconst (v := (-1)) hx hb dX3_idle_61 rfl ?_
        refine lv_ixor hx hb dX3_idle_62 ?_
        refine lv_iand hx hb dX3_idle_63 ?_
        exact r_i hQ hx hb hr hlocks rfl (rfl) dX3_idle_64
      · have h7 : ¬ (24 ≤ k) := fun z9 => h7 ((nz_le (a := 24) (b := k) rfl rfl (by omega) (by omega)).mpr z9)
        refine lv_iload_n hx hb dX3_idle_10 rfl (lv_at hl 1 rfl) ?_
        refine lv_aload_n hx hb dX3_idle_11 rfl (lv_at hl 2 rfl) ?_
        refine lv_iload_n hx hb dX3_idle_12 rfl (lv_at hl 0 rfl) ?_
        refine lv_iconst (v := 4) hx hb dX3_idle_13 rfl ?_
        refine lv_idiv hx hb dX3_idle_14 (by decide) ?_
        refine w_topi (nz_div (d := 4) rfl rfl (by omega) (by decide) (by decide)) ?_
        refine lv_iload_n hx hb dX3_idle_15 rfl (lv_at hl 0 rfl) ?_
        refine lv_iconst (v := 4) hx hb dX3_idle_16 rfl ?_
        refine lv_irem hx hb dX3_idle_17 (by decide) ?_
        refine w_topi (nz_rem (d := 4) rfl rfl (by omega) (by decide) (by decide)) ?_
        refine cVi (As := [.int (nI (k / 4)), .int (nI (k % 4))]) (rest := [.int (wantF σ k)]) ⟨hx, hb, hml, hown, hts⟩ (mt_X3_isSort l D dA h ad σ τ (nI (k / 4)) (nI (k % 4)) hI) (cw_X3_X3_isSort hts ⟨Nat.le_of_ble_eq_true rfl, Nat.le_of_ble_eq_true rfl⟩) mB_bl (mB_now hK hP) (va_recv hK hP (ci := 0) (q0 := 0) rfl rfl) rfl hl.1 rfl (Nat.le_of_ble_eq_true rfl) dX3_idle_18 ⟨Nat.le_of_ble_eq_true rfl, Nat.le_of_ble_eq_true rfl⟩ ?_
        have hJ49_5 : ∀ (v_6 : Int32) (ls : Array Slot), v_6 = (if sortP σ (nI (k / 4)) (nI (k % 4)) then (σ.sorts ((4 * k) + 2)) ||| (σ.sorts ((4 * k) + 3)) else 0) → lv_has ls 3 [(2, .int (nI k)), (1, .int (wantF σ k)), (0, .ref h)] → W p l e rmX3_idle s m args below meth c s.heap [] 0 0 Q (F0 m 49 ls [.int v_6, .int (wantF σ k)]) := by
          intro v_6 ls ev_6 hl
          refine lv_ior hx hb dX3_idle_49 ?_
          refine lv_istore_n (lv' := [(1, .int ((wantF σ k) ||| v_6)), (2, .int (nI k)), (0, .ref h)]) hx hb dX3_idle_50 rfl hl (by decide) rfl (fun ls hl => ?_)
          refine lv_iinc (v := nI (k + 1)) (lv' := [(2, .int (nI (k + 1))), (1, .int ((wantF σ k) ||| v_6)), (0, .ref h)]) hx hb dX3_idle_51 hl (k := 1) rfl (nI_1 k) (by decide) rfl (fun ls hl => ?_)
          refine lv_goto (tgt := 4) hx hb dX3_idle_54 rfl ?_
          exact ih_3 (k + 1) (nI (k + 1)) ((wantF σ k) ||| v_6) ls (by omega) (by omega) rfl (by subst_vars; rw [wantF]) (lv_sub hl [0, 1, 2] rfl)
        refine lv_if_eq (tgt := 48) hx hb dX3_idle_21 rfl (fun h21 => ?_) (fun h21 => ?_)
        · have h21 : ¬ (sortP σ (nI (k / 4)) (nI (k % 4))) := b01_0.mp h21
          refine lv_iconst (v := 0) hx hb dX3_idle_48 rfl ?_
          exact hJ49_5 (0) ls (by rw [if_neg h21]) (lv_sub hl [0, 1, 2] rfl)
        · have h21 : sortP σ (nI (k / 4)) (nI (k % 4)) := b01_n h21
          refine lv_aload_n hx hb dX3_idle_24 rfl (lv_at hl 2 rfl) ?_
          refine va_get (D := D) (ci := 0) (v := .ref (ad 7)) (C := RX3) (T := TX3) (N := 31) hx hb hts in_X3 hown hK hP 0 rfl rfl 14 (by decide) (hts _ q1128) (fun _ h9 => h9) rfl dX3_idle_25 ?_
          refine lv_iconst (v := 4) hx hb dX3_idle_28 rfl ?_
          refine lv_iload_n hx hb dX3_idle_29 rfl (lv_at hl 0 rfl) ?_
          refine lv_imul hx hb dX3_idle_30 ?_
          refine lv_iconst (v := 2) hx hb dX3_idle_31 rfl ?_
          refine lv_iadd hx hb dX3_idle_32 ?_
          refine wa_iald (f := σ.sorts) hx hb hK hP 8 0 rfl rfl ((4 * k) + 2) ((nz_add (nz_mul rfl rfl) rfl)) (by omega) (by decide) dX3_idle_33 ?_
          refine lv_aload_n hx hb dX3_idle_34 rfl (lv_at hl 2 rfl) ?_
          refine va_get (D := D) (ci := 0) (v := .ref (ad 7)) (C := RX3) (T := TX3) (N := 31) hx hb hts in_X3 hown hK hP 0 rfl rfl 14 (by decide) (hts _ q1128) (fun _ h9 => h9) rfl dX3_idle_35 ?_
          refine lv_iconst (v := 4) hx hb dX3_idle_38 rfl ?_
          refine lv_iload_n hx hb dX3_idle_39 rfl (lv_at hl 0 rfl) ?_
          refine lv_imul hx hb dX3_idle_40 ?_
          refine lv_iconst (v := 3) hx hb dX3_idle_41 rfl ?_
          refine lv_iadd hx hb dX3_idle_42 ?_
          refine wa_iald (f := σ.sorts) hx hb hK hP 8 0 rfl rfl ((4 * k) + 3) ((nz_add (nz_mul rfl rfl) rfl)) (by omega) (by decide) dX3_idle_43 ?_
          refine lv_ior hx hb dX3_idle_44 ?_
          refine lv_goto (tgt := 49) hx hb dX3_idle_45 rfl ?_
          exact hJ49_5 ((σ.sorts ((4 * k) + 2)) ||| (σ.sorts ((4 * k) + 3))) ls (by rw [if_pos h21]) (lv_sub hl [0, 1, 2] rfl)
  exact hL4_1 _ 0 0 0 ls (Nat.lt_succ_self _) (by omega) rfl (by subst_vars; rw [wantF]) (lv_sub hl [0, 1, 2] rfl)

def rmX3_savedBy : Room := { frames := 1, cells := 0, slots := 0, locals := 22 }
set_option maxHeartbeats 1000000 in
theorem mt_X3_savedBy (l : Launch) (D : va_G) (dA : Nat → ClassId) (h : Nat) (ad : Nat → Nat) (σ : St) (τ : Sc) (set_ : Int32) (hI : Inv σ) : Met l yX3_savedBy (ws_ yX3_savedBy cX3_savedBy 5 (some .int)) rmX3_savedBy (va_Pc [.ref h, .int set_] (mB D dA h ad σ τ)) (vp_Si (fun r => r = savF σ set_)) 0 0 (fun _ => False) := by
  refine w_start (by decide) (Nat.le_of_ble_eq_true rfl) ?_
  intro p e s m args below meth c Q ls hQ hx hb hr hlocks hml hown hnm hts hB hl
  have hown : s.vm.findClass RX3 = some m.cls := hown
  have hl : lv_has ls 5 [(0, .ref h), (1, .int set_)] := hl
  obtain ⟨hP, hK⟩ := hB
  have hvm := hI.vm
  refine lv_iconst (v := 0) hx hb dX3_savedBy_0 rfl ?_
  refine lv_istore_n (lv' := [(2, .int 0), (0, .ref h), (1, .int set_)]) hx hb dX3_savedBy_1 rfl hl (by decide) rfl (fun ls hl => ?_)
  refine lv_iconst (v := 0) hx hb dX3_savedBy_2 rfl ?_
  refine lv_istore_n (lv' := [(3, .int 0), (2, .int 0), (0, .ref h), (1, .int set_)]) hx hb dX3_savedBy_3 rfl hl (by decide) rfl (fun ls hl => ?_)
  have hL4_1 : ∀ (n_2 : Nat) (k : Nat) (x3 : Int32) (x2 : Int32) (ls : Array Slot), (16 - k) < n_2 → (k ≤ σ.vm) → x3 = (nI (3 * k)) → x2 = (svF σ set_ k) → lv_has ls 5 [(3, .int x3), (2, .int x2), (0, .ref h), (1, .int set_)] → W p l e rmX3_savedBy s m args below meth c s.heap [] 0 0 Q (F0 m 4 ls []) := by
    intro n_2
    induction n_2 with
    | zero => intro k x3 x2 ls hm_4; exact absurd hm_4 (Nat.not_lt_zero _)
    | succ n_2 ih_3 =>
      intro k x3 x2 ls hm_4 hk ex3 ex2 hl
      subst ex3 ex2
      refine lv_iload_n hx hb dX3_savedBy_4 rfl (lv_at hl 0 rfl) ?_
      refine lv_iconst (v := 3) hx hb dX3_savedBy_5 rfl ?_
      refine lv_aload_n hx hb dX3_savedBy_6 rfl (lv_at hl 2 rfl) ?_
      refine va_get (D := D) (ci := 0) (v := .int (nI σ.vm)) (C := RX3) (T := TX3) (N := 31) hx hb hts in_X3 hown hK hP 0 rfl rfl 16 (by decide) (hts _ q1130) (fun _ h9 => h9) rfl dX3_savedBy_7 ?_
      refine lv_imul hx hb dX3_savedBy_10 ?_
      refine lv_icmp_ge (tgt := 84) hx hb dX3_savedBy_11 rfl (fun h11 => ?_) (fun h11 => ?_)
      · have h11 : (3 * σ.vm) ≤ (3 * k) := (nz_le (a := 3 * σ.vm) (b := 3 * k) (nz_mul rfl rfl) rfl (by omega) (by omega)).mp h11
        have hk_ : k = σ.vm := by omega
        subst hk_
        refine lv_iload_n hx hb dX3_savedBy_84 rfl (lv_at hl 1 rfl) ?_
        exact r_i hQ hx hb hr hlocks rfl (rfl) dX3_savedBy_85
      · have h11 : ¬ ((3 * σ.vm) ≤ (3 * k)) := fun z9 => h11 ((nz_le (a := 3 * σ.vm) (b := 3 * k) (nz_mul rfl rfl) rfl (by omega) (by omega)).mpr z9)
        refine lv_aload_n hx hb dX3_savedBy_14 rfl (lv_at hl 2 rfl) ?_
        refine va_get (D := D) (ci := 0) (v := .ref (ad 8)) (C := RX3) (T := TX3) (N := 31) hx hb hts in_X3 hown hK hP 0 rfl rfl 15 (by decide) (hts _ q1129) (fun _ h9 => h9) rfl dX3_savedBy_15 ?_
        refine lv_iload_n hx hb dX3_savedBy_18 rfl (lv_at hl 0 rfl) ?_
        refine lv_iconst (v := 2) hx hb dX3_savedBy_19 rfl ?_
        refine lv_iadd hx hb dX3_savedBy_20 ?_
        refine wa_iald (f := σ.visits) hx hb hK hP 9 0 rfl rfl ((3 * k) + 2) ((nz_add rfl rfl)) (by omega) (by decide) dX3_savedBy_21 ?_
        refine lv_istore (lv' := [(4, .int (σ.visits ((3 * k) + 2))), (3, .int (nI (3 * k))), (2, .int (svF σ set_ k)), (0, .ref h), (1, .int set_)]) hx hb dX3_savedBy_22 hl (by decide) rfl (fun ls hl => ?_)
        refine lv_iload_n hx hb dX3_savedBy_24 rfl (lv_at hl 2 rfl) ?_
        refine lv_iload hx hb dX3_savedBy_25 (lv_at hl 0 rfl) ?_
        refine lv_aload_n hx hb dX3_savedBy_27 rfl (lv_at hl 3 rfl) ?_
        refine va_get (D := D) (ci := 0) (v := .ref (ad 8)) (C := RX3) (T := TX3) (N := 31) hx hb hts in_X3 hown hK hP 0 rfl rfl 15 (by decide) (hts _ q1129) (fun _ h9 => h9) rfl dX3_savedBy_28 ?_
        refine lv_iload_n hx hb dX3_savedBy_31 rfl (lv_at hl 1 rfl) ?_
        refine wa_iald (f := σ.visits) hx hb hK hP 9 0 rfl rfl (3 * k) (rfl) (by omega) (by decide) dX3_savedBy_32 ?_
        refine lv_aload_n hx hb dX3_savedBy_33 rfl (lv_at hl 3 rfl) ?_
        refine va_get (D := D) (ci := 0) (v := .ref (ad 8)) (C := RX3) (T := TX3) (N := 31) hx hb hts in_X3 hown hK hP 0 rfl rfl 15 (by decide) (hts _ q1129) (fun _ h9 => h9) rfl dX3_savedBy_34 ?_
        refine lv_iload_n hx hb dX3_savedBy_37 rfl (lv_at hl 1 rfl) ?_
        refine lv_iconst (v := 1) hx hb dX3_savedBy_38 rfl ?_
        refine lv_iadd hx hb dX3_savedBy_39 ?_
        refine wa_iald (f := σ.visits) hx hb hK hP 9 0 rfl rfl ((3 * k) + 1) ((nz_add rfl rfl)) (by omega) (by decide) dX3_savedBy_40 ?_
        refine cSi (As := [.int (σ.visits ((3 * k) + 2)), .int (σ.visits (3 * k)), .int (σ.visits ((3 * k) + 1))]) (rest := [.int (svF σ set_ k)]) ⟨hx, hb, hml, hown, hts⟩ (mt_X3_fits l (σ.visits ((3 * k) + 2)) (σ.visits (3 * k)) (σ.visits ((3 * k) + 1))) (cw_X3_X3_fits hts ⟨Nat.le_of_ble_eq_true rfl, Nat.le_of_ble_eq_true rfl⟩) w_blT (fun _ _ _ => trivial) rfl hl.1 rfl (Nat.le_of_ble_eq_true rfl) dX3_savedBy_41 ⟨Nat.le_of_ble_eq_true rfl, Nat.le_of_ble_eq_true rfl⟩ ?_
        have hJ76_5 : ∀ (v_6 : Int32) (ls : Array Slot), v_6 = (if fitsP (σ.visits ((3 * k) + 2)) (σ.visits (3 * k)) (σ.visits ((3 * k) + 1)) then 0 else if fitsP ((σ.visits ((3 * k) + 2)) ||| set_) (σ.visits (3 * k)) (σ.visits ((3 * k) + 1)) then 1 else 0) → lv_has ls 5 [(4, .int (σ.visits ((3 * k) + 2))), (3, .int (nI (3 * k))), (2, .int (svF σ set_ k)), (0, .ref h), (1, .int set_)] → W p l e rmX3_savedBy s m args below meth c s.heap [] 0 0 Q (F0 m 76 ls [.int v_6, .int (svF σ set_ k)]) := by
          intro v_6 ls ev_6 hl
          refine lv_iadd hx hb dX3_savedBy_76 ?_
          refine lv_istore_n (lv' := [(2, .int ((svF σ set_ k) + v_6)), (4, .int (σ.visits ((3 * k) + 2))), (3, .int (nI (3 * k))), (0, .ref h), (1, .int set_)]) hx hb dX3_savedBy_77 rfl hl (by decide) rfl (fun ls hl => ?_)
          refine lv_iinc (v := nI (3 * k + 3)) (lv' := [(3, .int (nI (3 * k + 3))), (2, .int ((svF σ set_ k) + v_6)), (4, .int (σ.visits ((3 * k) + 2))), (0, .ref h), (1, .int set_)]) hx hb dX3_savedBy_78 hl (k := 2) rfl (nI_add (3 * k) 3) (by decide) rfl (fun ls hl => ?_)
          refine lv_goto (tgt := 4) hx hb dX3_savedBy_81 rfl ?_
          exact ih_3 (k + 1) (nI (3 * k + 3)) ((svF σ set_ k) + v_6) ls (by omega) (by omega) rfl (by subst_vars; rw [svF]) (lv_sub hl [0, 1, 3, 4] rfl)
        refine lv_if_ne (tgt := 75) hx hb dX3_savedBy_44 rfl (fun h44 => ?_) (fun h44 => ?_)
        · have h44 : fitsP (σ.visits ((3 * k) + 2)) (σ.visits (3 * k)) (σ.visits ((3 * k) + 1)) := b01_n h44
          refine lv_iconst (v := 0) hx hb dX3_savedBy_75 rfl ?_
          exact hJ76_5 (0) ls (by rw [if_pos h44]) (lv_sub hl [0, 1, 2, 3, 4] rfl)
        · have h44 : ¬ (fitsP (σ.visits ((3 * k) + 2)) (σ.visits (3 * k)) (σ.visits ((3 * k) + 1))) := b01_0.mp h44
          refine lv_iload hx hb dX3_savedBy_47 (lv_at hl 0 rfl) ?_
          refine lv_iload_n hx hb dX3_savedBy_49 rfl (lv_at hl 4 rfl) ?_
          refine lv_ior hx hb dX3_savedBy_50 ?_
          refine lv_aload_n hx hb dX3_savedBy_51 rfl (lv_at hl 3 rfl) ?_
          refine va_get (D := D) (ci := 0) (v := .ref (ad 8)) (C := RX3) (T := TX3) (N := 31) hx hb hts in_X3 hown hK hP 0 rfl rfl 15 (by decide) (hts _ q1129) (fun _ h9 => h9) rfl dX3_savedBy_52 ?_
          refine lv_iload_n hx hb dX3_savedBy_55 rfl (lv_at hl 1 rfl) ?_
          refine wa_iald (f := σ.visits) hx hb hK hP 9 0 rfl rfl (3 * k) (rfl) (by omega) (by decide) dX3_savedBy_56 ?_
          refine lv_aload_n hx hb dX3_savedBy_57 rfl (lv_at hl 3 rfl) ?_
          refine va_get (D := D) (ci := 0) (v := .ref (ad 8)) (C := RX3) (T := TX3) (N := 31) hx hb hts in_X3 hown hK hP 0 rfl rfl 15 (by decide) (hts _ q1129) (fun _ h9 => h9) rfl dX3_savedBy_58 ?_
          refine lv_iload_n hx hb dX3_savedBy_61 rfl (lv_at hl 1 rfl) ?_
          refine lv_iconst (v := 1) hx hb dX3_savedBy_62 rfl ?_
          refine lv_iadd hx hb dX3_savedBy_63 ?_
          refine wa_iald (f := σ.visits) hx hb hK hP 9 0 rfl rfl ((3 * k) + 1) ((nz_add rfl rfl)) (by omega) (by decide) dX3_savedBy_64 ?_
          refine cSi (As := [.int ((σ.visits ((3 * k) + 2)) ||| set_), .int (σ.visits (3 * k)), .int (σ.visits ((3 * k) + 1))]) (rest := [.int (svF σ set_ k)]) ⟨hx, hb, hml, hown, hts⟩ (mt_X3_fits l ((σ.visits ((3 * k) + 2)) ||| set_) (σ.visits (3 * k)) (σ.visits ((3 * k) + 1))) (cw_X3_X3_fits hts ⟨Nat.le_of_ble_eq_true rfl, Nat.le_of_ble_eq_true rfl⟩) w_blT (fun _ _ _ => trivial) rfl hl.1 rfl (Nat.le_of_ble_eq_true rfl) dX3_savedBy_65 ⟨Nat.le_of_ble_eq_true rfl, Nat.le_of_ble_eq_true rfl⟩ ?_
          refine lv_if_eq (tgt := 75) hx hb dX3_savedBy_68 rfl (fun h68 => ?_) (fun h68 => ?_)
          · have h68 : ¬ (fitsP ((σ.visits ((3 * k) + 2)) ||| set_) (σ.visits (3 * k)) (σ.visits ((3 * k) + 1))) := b01_0.mp h68
            refine lv_iconst (v := 0) hx hb dX3_savedBy_75 rfl ?_
            exact hJ76_5 (0) ls (by rw [if_neg h44, if_neg h68]) (lv_sub hl [0, 1, 2, 3, 4] rfl)
          · have h68 : fitsP ((σ.visits ((3 * k) + 2)) ||| set_) (σ.visits (3 * k)) (σ.visits ((3 * k) + 1)) := b01_n h68
            refine lv_iconst (v := 1) hx hb dX3_savedBy_71 rfl ?_
            refine lv_goto (tgt := 76) hx hb dX3_savedBy_72 rfl ?_
            exact hJ76_5 (1) ls (by rw [if_neg h44, if_pos h68]) (lv_sub hl [0, 1, 2, 3, 4] rfl)
  exact hL4_1 _ 0 0 0 ls (Nat.lt_succ_self _) (by omega) rfl (by subst_vars; rw [svF]) (lv_sub hl [0, 1, 2, 3] rfl)

theorem cw_X3_X3_savedBy {R : Room} {s : State} {args : Array Value} (hts : ∀ w ∈ lw_all, w.before args s = true) (hR : rmX3_savedBy.frames + 1 ≤ R.frames ∧ 8 + (5 + 11) + rmX3_savedBy.locals ≤ R.locals) : CallW R s args RX3 RX3 313 yX3_savedBy cX3_savedBy 5 (some .int) (ws_ yX3_savedBy cX3_savedBy 5 (some .int)) rmX3_savedBy 0 0 1 := cwV 1 hts (lw_V q1514 q1516 qs74 q83 q1517) rfl rfl rfl (by decide +kernel) hR
def rmX3_saved : Room := { frames := 2, cells := 0, slots := 0, locals := 46 }
set_option maxHeartbeats 1000000 in
theorem mt_X3_saved (l : Launch) (D : va_G) (dA : Nat → ClassId) (h : Nat) (ad : Nat → Nat) (σ : St) (τ : Sc) (set_ : Int32) (hI : Inv σ) : Met l yX3_saved (ws_ yX3_saved cX3_saved 2 (some .int)) rmX3_saved (va_Pc [.ref h, .int set_] (mB D dA h ad σ τ)) (vp_Si (fun r => r = savedF σ set_)) 0 0 (fun _ => False) := by
  refine w_start (by decide) (Nat.le_of_ble_eq_true rfl) ?_
  intro p e s m args below meth c Q ls hQ hx hb hr hlocks hml hown hnm hts hB hl
  have hown : s.vm.findClass RX3 = some m.cls := hown
  have hl : lv_has ls 2 [(0, .ref h), (1, .int set_)] := hl
  obtain ⟨hP, hK⟩ := hB
  refine lv_iload_n hx hb dX3_saved_0 rfl (lv_at hl 1 rfl) ?_
  refine cSi (As := [.int set_]) (rest := []) ⟨hx, hb, hml, hown, hts⟩ (mt_X3_isBag l set_) (cw_X3_X3_isBag hts ⟨Nat.le_of_ble_eq_true rfl, Nat.le_of_ble_eq_true rfl⟩) w_blT (fun _ _ _ => trivial) rfl hl.1 rfl (Nat.le_of_ble_eq_true rfl) dX3_saved_1 ⟨Nat.le_of_ble_eq_true rfl, Nat.le_of_ble_eq_true rfl⟩ ?_
  refine lv_if_eq (tgt := 15) hx hb dX3_saved_4 rfl (fun h4 => ?_) (fun h4 => ?_)
  · have h4 : ¬ (bagP set_) := b01_0.mp h4
    refine lv_bipush (v := (-3)) hx hb dX3_saved_15 rfl ?_
    exact r_i hQ hx hb hr hlocks rfl (by simp only [savedF, eq_false h4, if_true, if_false, ite_true, ite_false, not_true_eq_false, not_false_eq_true, and_true, true_and, and_false, false_and, or_true, true_or, or_false, false_or, and_self, or_self, eq_self]) dX3_saved_17
  · have h4 : bagP set_ := b01_n h4
    refine lv_aload_n hx hb dX3_saved_7 rfl (lv_at hl 0 rfl) ?_
    refine lv_iload_n hx hb dX3_saved_8 rfl (lv_at hl 1 rfl) ?_
    refine cVi (As := [.int set_]) (rest := []) ⟨hx, hb, hml, hown, hts⟩ (mt_X3_savedBy l D dA h ad σ τ set_ hI) (cw_X3_X3_savedBy hts ⟨Nat.le_of_ble_eq_true rfl, Nat.le_of_ble_eq_true rfl⟩) mB_bl (mB_now hK hP) (va_recv hK hP (ci := 0) (q0 := 0) rfl rfl) rfl hl.1 rfl (Nat.le_of_ble_eq_true rfl) dX3_saved_9 ⟨Nat.le_of_ble_eq_true rfl, Nat.le_of_ble_eq_true rfl⟩ ?_
    refine lv_goto (tgt := 17) hx hb dX3_saved_12 rfl ?_
    exact r_i hQ hx hb hr hlocks rfl (by simp only [savedF, eq_true h4, if_true, if_false, ite_true, ite_false, not_true_eq_false, not_false_eq_true, and_true, true_and, and_false, false_and, or_true, true_or, or_false, false_or, and_self, or_self, eq_self]) dX3_saved_17

def rmX3_many : Room := { frames := 0, cells := 0, slots := 0, locals := 0 }
set_option maxHeartbeats 1000000 in
theorem mt_X3_many (l : Launch) (set_ : Int32) : Met l yX3_many (ws_ yX3_many cX3_many 3 (some .int)) rmX3_many (va_Pc [.int set_] (fun _ => True)) (vp_Si (fun r => r = manyF set_ 8)) 0 0 (fun _ => False) := by
  refine w_start (by decide) (Nat.le_of_ble_eq_true rfl) ?_
  intro p e s m args below meth c Q ls hQ hx hb hr hlocks hml hown hnm hts hB hl
  have hown : s.vm.findClass RX3 = some m.cls := hown
  have hl : lv_has ls 3 [(0, .int set_)] := hl
  refine lv_iconst (v := 0) hx hb dX3_many_0 rfl ?_
  refine lv_istore_n (lv' := [(1, .int 0), (0, .int set_)]) hx hb dX3_many_1 rfl hl (by decide) rfl (fun ls hl => ?_)
  refine lv_iconst (v := 0) hx hb dX3_many_2 rfl ?_
  refine lv_istore_n (lv' := [(2, .int 0), (1, .int 0), (0, .int set_)]) hx hb dX3_many_3 rfl hl (by decide) rfl (fun ls hl => ?_)
  have hL4_1 : ∀ (n_2 : Nat) (k : Nat) (x2 : Int32) (x1 : Int32) (ls : Array Slot), (8 - k) < n_2 → (k ≤ 8) → x2 = (nI k) → x1 = (manyF set_ k) → lv_has ls 3 [(2, .int x2), (1, .int x1), (0, .int set_)] → W p l e rmX3_many s m args below meth c s.heap [] 0 0 Q (F0 m 4 ls []) := by
    intro n_2
    induction n_2 with
    | zero => intro k x2 x1 ls hm_4; exact absurd hm_4 (Nat.not_lt_zero _)
    | succ n_2 ih_3 =>
      intro k x2 x1 ls hm_4 hk ex2 ex1 hl
      subst ex2 ex1
      refine lv_iload_n hx hb dX3_many_4 rfl (lv_at hl 0 rfl) ?_
      refine lv_bipush (v := 8) hx hb dX3_many_5 rfl ?_
      refine lv_icmp_ge (tgt := 24) hx hb dX3_many_7 rfl (fun h7 => ?_) (fun h7 => ?_)
      · have h7 : 8 ≤ k := (nz_le (a := 8) (b := k) rfl rfl (by omega) (by omega)).mp h7
        have hk_ : k = 8 := by omega
        subst hk_
        refine lv_iload_n hx hb dX3_many_24 rfl (lv_at hl 1 rfl) ?_
        exact r_i hQ hx hb hr hlocks rfl (rfl) dX3_many_25
      · have h7 : ¬ (8 ≤ k) := fun z9 => h7 ((nz_le (a := 8) (b := k) rfl rfl (by omega) (by omega)).mpr z9)
        refine lv_iload_n hx hb dX3_many_10 rfl (lv_at hl 1 rfl) ?_
        refine lv_iload_n hx hb dX3_many_11 rfl (lv_at hl 2 rfl) ?_
        refine lv_iload_n hx hb dX3_many_12 rfl (lv_at hl 0 rfl) ?_
        refine lv_ishr hx hb dX3_many_13 ?_
        refine lv_iconst (v := 1) hx hb dX3_many_14 rfl ?_
        refine lv_iand hx hb dX3_many_15 ?_
        refine lv_iadd hx hb dX3_many_16 ?_
        refine lv_istore_n (lv' := [(1, .int ((manyF set_ k) + ((set_ >>> ((nI k) &&& 31)) &&& 1))), (2, .int (nI k)), (0, .int set_)]) hx hb dX3_many_17 rfl hl (by decide) rfl (fun ls hl => ?_)
        refine lv_iinc (v := nI (k + 1)) (lv' := [(2, .int (nI (k + 1))), (1, .int ((manyF set_ k) + ((set_ >>> ((nI k) &&& 31)) &&& 1))), (0, .int set_)]) hx hb dX3_many_18 hl (k := 1) rfl (nI_1 k) (by decide) rfl (fun ls hl => ?_)
        refine lv_goto (tgt := 4) hx hb dX3_many_21 rfl ?_
        exact ih_3 (k + 1) (nI (k + 1)) ((manyF set_ k) + ((set_ >>> ((nI k) &&& 31)) &&& 1)) ls (by omega) (by omega) rfl (by subst_vars; rw [manyF]) (lv_sub hl [0, 1, 2] rfl)
  exact hL4_1 _ 0 0 0 ls (Nat.lt_succ_self _) (by omega) rfl (by subst_vars; rw [manyF]) (lv_sub hl [0, 1, 2] rfl)

theorem cw_X3_X3_many {R : Room} {s : State} {args : Array Value} (hts : ∀ w ∈ lw_all, w.before args s = true) (hR : rmX3_many.frames + 1 ≤ R.frames ∧ 8 + (3 + 11) + rmX3_many.locals ≤ R.locals) : CallB R s args RX3 316 yX3_many cX3_many 3 (some .int) (ws_ yX3_many cX3_many 3 (some .int)) rmX3_many 0 0 1 ∧ (Cond.static yX3_many).before args s = true := va_cwS 1 hts (lw_S q1522 q1523 q83 q1524) rfl rfl rfl (by decide +kernel) hR
def rmX3_most : Room := { frames := 2, cells := 0, slots := 0, locals := 46 }
set_option maxHeartbeats 1000000 in
theorem mt_X3_most (l : Launch) (D : va_G) (dA : Nat → ClassId) (h : Nat) (ad : Nat → Nat) (σ : St) (τ : Sc) (w : Int32) (hI : Inv σ) : Met l yX3_most (ws_ yX3_most cX3_most 5 (some .int)) rmX3_most (va_Pc [.ref h, .int w] (mB D dA h ad σ τ)) (vp_Si (fun r => r = mostF σ w)) 0 0 (fun _ => False) := by
  refine w_start (by decide) (Nat.le_of_ble_eq_true rfl) ?_
  intro p e s m args below meth c Q ls hQ hx hb hr hlocks hml hown hnm hts hB hl
  have hown : s.vm.findClass RX3 = some m.cls := hown
  have hl : lv_has ls 5 [(0, .ref h), (1, .int w)] := hl
  obtain ⟨hP, hK⟩ := hB
  refine lv_iload_n hx hb dX3_most_0 rfl (lv_at hl 1 rfl) ?_
  refine lv_i2l (v := (w : Int32).toInt64) hx hb dX3_most_1 rfl ?_
  refine lv_lconst (v := 1) hx hb dX3_most_2 rfl ?_
  refine lv_ldc2 (v := 3) hx hb hown (hts _ q1312) dX3_most_3 ?_
  refine cSi (As := [.long ((w : Int32).toInt64), .long 1, .long 3]) (rest := []) ⟨hx, hb, hml, hown, hts⟩ (mt_X3_in l ((w : Int32).toInt64) 1 3) (cw_X3_X3_in hts ⟨Nat.le_of_ble_eq_true rfl, Nat.le_of_ble_eq_true rfl⟩) w_blT (fun _ _ _ => trivial) rfl hl.1 rfl (Nat.le_of_ble_eq_true rfl) dX3_most_6 ⟨Nat.le_of_ble_eq_true rfl, Nat.le_of_ble_eq_true rfl⟩ ?_
  refine lv_if_ne (tgt := 15) hx hb dX3_most_9 rfl (fun h9 => ?_) (fun h9 => ?_)
  · have h9 : inP ((w : Int32).toInt64) 1 3 := b01_n h9
    refine lv_iconst (v := (-1)) hx hb dX3_most_15 rfl ?_
    refine lv_istore_n (lv' := [(2, .int (-1)), (0, .ref h), (1, .int w)]) hx hb dX3_most_16 rfl hl (by decide) rfl (fun ls hl => ?_)
    refine lv_iconst (v := 0) hx hb dX3_most_17 rfl ?_
    refine lv_istore_n (lv' := [(3, .int 0), (2, .int (-1)), (0, .ref h), (1, .int w)]) hx hb dX3_most_18 rfl hl (by decide) rfl (fun ls hl => ?_)
    have hL19_1 : ∀ (n_2 : Nat) (k : Nat) (x3 : Int32) (x2 : Int32) (ls : Array Slot), (256 - k) < n_2 → (k ≤ 256) → x3 = (nI k) → x2 = (mostG σ w k) → lv_has ls 5 [(3, .int x3), (2, .int x2), (0, .ref h), (1, .int w)] → W p l e rmX3_most s m args below meth c s.heap [] 0 0 Q (F0 m 19 ls []) := by
      intro n_2
      induction n_2 with
      | zero => intro k x3 x2 ls hm_4; exact absurd hm_4 (Nat.not_lt_zero _)
      | succ n_2 ih_3 =>
        intro k x3 x2 ls hm_4 hk ex3 ex2 hl
        subst ex3 ex2
        refine lv_iload_n hx hb dX3_most_19 rfl (lv_at hl 0 rfl) ?_
        refine lv_sipush (v := 256) hx hb dX3_most_20 rfl ?_
        refine lv_icmp_ge (tgt := 76) hx hb dX3_most_23 rfl (fun h23 => ?_) (fun h23 => ?_)
        · have h23 : 256 ≤ k := (nz_le (a := 256) (b := k) rfl rfl (by omega) (by omega)).mp h23
          have hk_ : k = 256 := by omega
          subst hk_
          refine lv_iload_n hx hb dX3_most_76 rfl (lv_at hl 1 rfl) ?_
          exact r_i hQ hx hb hr hlocks rfl (by simp only [mostF, eq_true h9, eq_true h23, if_true, if_false, ite_true, ite_false, not_true_eq_false, not_false_eq_true, and_true, true_and, and_false, false_and, or_true, true_or, or_false, false_or, and_self, or_self, eq_self]) dX3_most_77
        · have h23 : ¬ (256 ≤ k) := fun z9 => h23 ((nz_le (a := 256) (b := k) rfl rfl (by omega) (by omega)).mpr z9)
          refine lv_iload_n hx hb dX3_most_26 rfl (lv_at hl 0 rfl) ?_
          refine cSi (As := [.int (nI k)]) (rest := []) ⟨hx, hb, hml, hown, hts⟩ (mt_X3_many l (nI k)) (cw_X3_X3_many hts ⟨Nat.le_of_ble_eq_true rfl, Nat.le_of_ble_eq_true rfl⟩) w_blT (fun _ _ _ => trivial) rfl hl.1 rfl (Nat.le_of_ble_eq_true rfl) dX3_most_27 ⟨Nat.le_of_ble_eq_true rfl, Nat.le_of_ble_eq_true rfl⟩ ?_
          refine lv_iload_n hx hb dX3_most_30 rfl (lv_at hl 3 rfl) ?_
          have hJ57_5 : ∀ (v_6 : Int32) (ls : Array Slot), v_6 = (if (manyF (nI k) 8) = w then if (mostG σ w k) = (-1) then 1 else if (savF σ (nI k)) ≤ (savF σ (mostG σ w k)) then 0 else 1 else 0) → lv_has ls 5 [(3, .int (nI k)), (2, .int (mostG σ w k)), (0, .ref h), (1, .int w)] → W p l e rmX3_most s m args below meth c s.heap [] 0 0 Q (F0 m 57 ls [.int v_6]) := by
            intro v_6 ls ev_6 hl
            refine lv_istore (lv' := [(4, .int v_6), (3, .int (nI k)), (2, .int (mostG σ w k)), (0, .ref h), (1, .int w)]) hx hb dX3_most_57 hl (by decide) rfl (fun ls hl => ?_)
            refine lv_iload hx hb dX3_most_59 (lv_at hl 0 rfl) ?_
            have hJ69_7 : ∀ (v_8 : Int32) (ls : Array Slot), v_8 = (if v_6 = 0 then mostG σ w k else nI k) → lv_has ls 5 [(4, .int v_6), (3, .int (nI k)), (2, .int (mostG σ w k)), (0, .ref h), (1, .int w)] → W p l e rmX3_most s m args below meth c s.heap [] 0 0 Q (F0 m 69 ls [.int v_8]) := by
              intro v_8 ls ev_8 hl
              refine lv_istore_n (lv' := [(2, .int v_8), (4, .int v_6), (3, .int (nI k)), (0, .ref h), (1, .int w)]) hx hb dX3_most_69 rfl hl (by decide) rfl (fun ls hl => ?_)
              refine lv_iinc (v := nI (k + 1)) (lv' := [(3, .int (nI (k + 1))), (2, .int v_8), (4, .int v_6), (0, .ref h), (1, .int w)]) hx hb dX3_most_70 hl (k := 2) rfl (nI_1 k) (by decide) rfl (fun ls hl => ?_)
              refine lv_goto (tgt := 19) hx hb dX3_most_73 rfl ?_
              exact ih_3 (k + 1) (nI (k + 1)) v_8 ls (by omega) (by omega) rfl (by subst_vars; rw [mostG]) (lv_sub hl [0, 1, 3, 4] rfl)
            refine lv_if_eq (tgt := 68) hx hb dX3_most_61 rfl (fun h61 => ?_) (fun h61 => ?_)
            · have h61 : v_6 = 0 := h61
              refine lv_iload_n hx hb dX3_most_68 rfl (lv_at hl 2 rfl) ?_
              exact hJ69_7 (mostG σ w k) ls (by rw [if_pos h61]) (lv_sub hl [0, 1, 2, 3, 4] rfl)
            · have h61 : ¬ (v_6 = 0) := h61
              refine lv_iload_n hx hb dX3_most_64 rfl (lv_at hl 1 rfl) ?_
              refine lv_goto (tgt := 69) hx hb dX3_most_65 rfl ?_
              exact hJ69_7 (nI k) ls (by rw [if_neg h61]) (lv_sub hl [0, 1, 2, 3, 4] rfl)
          refine lv_icmp_ne (tgt := 56) hx hb dX3_most_31 rfl (fun h31 => ?_) (fun h31 => ?_)
          · have h31 : ¬ ((manyF (nI k) 8) = w) := h31
            refine lv_iconst (v := 0) hx hb dX3_most_56 rfl ?_
            exact hJ57_5 (0) ls (by rw [if_neg h31]) (lv_sub hl [0, 1, 2, 3] rfl)
          · have h31 : (manyF (nI k) 8) = w := h31
            refine lv_iload_n hx hb dX3_most_34 rfl (lv_at hl 1 rfl) ?_
            refine lv_iconst (v := (-1)) hx hb dX3_most_35 rfl ?_
            refine lv_icmp_eq (tgt := 52) hx hb dX3_most_36 rfl (fun h36 => ?_) (fun h36 => ?_)
            · have h36 : (mostG σ w k) = (-1) := h36
              refine lv_iconst (v := 1) hx hb dX3_most_52 rfl ?_
              refine lv_goto (tgt := 57) hx hb dX3_most_53 rfl ?_
              exact hJ57_5 (1) ls (by rw [if_pos h31, if_pos h36]) (lv_sub hl [0, 1, 2, 3] rfl)
            · have h36 : ¬ ((mostG σ w k) = (-1)) := h36
              refine lv_aload_n hx hb dX3_most_39 rfl (lv_at hl 2 rfl) ?_
              refine lv_iload_n hx hb dX3_most_40 rfl (lv_at hl 0 rfl) ?_
              refine cVi (As := [.int (nI k)]) (rest := []) ⟨hx, hb, hml, hown, hts⟩ (mt_X3_savedBy l D dA h ad σ τ (nI k) hI) (cw_X3_X3_savedBy hts ⟨Nat.le_of_ble_eq_true rfl, Nat.le_of_ble_eq_true rfl⟩) mB_bl (mB_now hK hP) (va_recv hK hP (ci := 0) (q0 := 0) rfl rfl) rfl hl.1 rfl (Nat.le_of_ble_eq_true rfl) dX3_most_41 ⟨Nat.le_of_ble_eq_true rfl, Nat.le_of_ble_eq_true rfl⟩ ?_
              refine lv_aload_n hx hb dX3_most_44 rfl (lv_at hl 2 rfl) ?_
              refine lv_iload_n hx hb dX3_most_45 rfl (lv_at hl 1 rfl) ?_
              refine cVi (As := [.int (mostG σ w k)]) (rest := [.int (savF σ (nI k))]) ⟨hx, hb, hml, hown, hts⟩ (mt_X3_savedBy l D dA h ad σ τ (mostG σ w k) hI) (cw_X3_X3_savedBy hts ⟨Nat.le_of_ble_eq_true rfl, Nat.le_of_ble_eq_true rfl⟩) mB_bl (mB_now hK hP) (va_recv hK hP (ci := 0) (q0 := 0) rfl rfl) rfl hl.1 rfl (Nat.le_of_ble_eq_true rfl) dX3_most_46 ⟨Nat.le_of_ble_eq_true rfl, Nat.le_of_ble_eq_true rfl⟩ ?_
              refine lv_icmp_le (tgt := 56) hx hb dX3_most_49 rfl (fun h49 => ?_) (fun h49 => ?_)
              · have h49 : (savF σ (nI k)) ≤ (savF σ (mostG σ w k)) := h49
                refine lv_iconst (v := 0) hx hb dX3_most_56 rfl ?_
                exact hJ57_5 (0) ls (by rw [if_pos h31, if_neg h36, if_pos h49]) (lv_sub hl [0, 1, 2, 3] rfl)
              · have h49 : ¬ ((savF σ (nI k)) ≤ (savF σ (mostG σ w k))) := h49
                refine lv_iconst (v := 1) hx hb dX3_most_52 rfl ?_
                refine lv_goto (tgt := 57) hx hb dX3_most_53 rfl ?_
                exact hJ57_5 (1) ls (by rw [if_pos h31, if_neg h36, if_neg h49]) (lv_sub hl [0, 1, 2, 3] rfl)
    exact hL19_1 _ 0 0 (-1) ls (Nat.lt_succ_self _) (by omega) rfl (by subst_vars; rw [mostG]) (lv_sub hl [0, 1, 2, 3] rfl)
  · have h9 : ¬ (inP ((w : Int32).toInt64) 1 3) := b01_0.mp h9
    refine lv_bipush (v := (-3)) hx hb dX3_most_12 rfl ?_
    exact r_i hQ hx hb hr hlocks rfl (by simp only [mostF, eq_false h9, if_true, if_false, ite_true, ite_false, not_true_eq_false, not_false_eq_true, and_true, true_and, and_false, false_and, or_true, true_or, or_false, false_or, and_self, or_self, eq_self]) dX3_most_14

def rmX3_doesFor : Room := { frames := 1, cells := 0, slots := 0, locals := 22 }
set_option maxHeartbeats 1000000 in
theorem mt_X3_doesFor (l : Launch) (D : va_G) (dA : Nat → ClassId) (h : Nat) (ad : Nat → Nat) (σ : St) (τ : Sc) (bag : Int32) (hI : Inv σ) : Met l yX3_doesFor (ws_ yX3_doesFor cX3_doesFor 4 (some .int)) rmX3_doesFor (va_Pc [.ref h, .int bag] (mB D dA h ad σ τ)) (vp_Si (fun r => r = dfF σ bag)) 0 0 (fun _ => False) := by
  refine w_start (by decide) (Nat.le_of_ble_eq_true rfl) ?_
  intro p e s m args below meth c Q ls hQ hx hb hr hlocks hml hown hnm hts hB hl
  have hown : s.vm.findClass RX3 = some m.cls := hown
  have hl : lv_has ls 4 [(0, .ref h), (1, .int bag)] := hl
  obtain ⟨hP, hK⟩ := hB
  have hvm := hI.vm
  refine lv_iconst (v := 0) hx hb dX3_doesFor_0 rfl ?_
  refine lv_istore_n (lv' := [(2, .int 0), (0, .ref h), (1, .int bag)]) hx hb dX3_doesFor_1 rfl hl (by decide) rfl (fun ls hl => ?_)
  refine lv_iconst (v := 0) hx hb dX3_doesFor_2 rfl ?_
  refine lv_istore_n (lv' := [(3, .int 0), (2, .int 0), (0, .ref h), (1, .int bag)]) hx hb dX3_doesFor_3 rfl hl (by decide) rfl (fun ls hl => ?_)
  have hL4_1 : ∀ (n_2 : Nat) (k : Nat) (x3 : Int32) (x2 : Int32) (ls : Array Slot), (16 - k) < n_2 → (k ≤ σ.vm) → x3 = (nI (3 * k)) → x2 = (dfG σ bag k) → lv_has ls 4 [(3, .int x3), (2, .int x2), (0, .ref h), (1, .int bag)] → W p l e rmX3_doesFor s m args below meth c s.heap [] 0 0 Q (F0 m 4 ls []) := by
    intro n_2
    induction n_2 with
    | zero => intro k x3 x2 ls hm_4; exact absurd hm_4 (Nat.not_lt_zero _)
    | succ n_2 ih_3 =>
      intro k x3 x2 ls hm_4 hk ex3 ex2 hl
      subst ex3 ex2
      refine lv_iload_n hx hb dX3_doesFor_4 rfl (lv_at hl 0 rfl) ?_
      refine lv_iconst (v := 3) hx hb dX3_doesFor_5 rfl ?_
      refine lv_aload_n hx hb dX3_doesFor_6 rfl (lv_at hl 2 rfl) ?_
      refine va_get (D := D) (ci := 0) (v := .int (nI σ.vm)) (C := RX3) (T := TX3) (N := 31) hx hb hts in_X3 hown hK hP 0 rfl rfl 16 (by decide) (hts _ q1130) (fun _ h9 => h9) rfl dX3_doesFor_7 ?_
      refine lv_imul hx hb dX3_doesFor_10 ?_
      refine lv_icmp_ge (tgt := 49) hx hb dX3_doesFor_11 rfl (fun h11 => ?_) (fun h11 => ?_)
      · have h11 : (3 * σ.vm) ≤ (3 * k) := (nz_le (a := 3 * σ.vm) (b := 3 * k) (nz_mul rfl rfl) rfl (by omega) (by omega)).mp h11
        have hk_ : k = σ.vm := by omega
        subst hk_
        refine lv_iload_n hx hb dX3_doesFor_49 rfl (lv_at hl 1 rfl) ?_
        exact r_i hQ hx hb hr hlocks rfl (rfl) dX3_doesFor_50
      · have h11 : ¬ ((3 * σ.vm) ≤ (3 * k)) := fun z9 => h11 ((nz_le (a := 3 * σ.vm) (b := 3 * k) (nz_mul rfl rfl) rfl (by omega) (by omega)).mpr z9)
        refine lv_iload_n hx hb dX3_doesFor_14 rfl (lv_at hl 1 rfl) ?_
        refine lv_iload_n hx hb dX3_doesFor_15 rfl (lv_at hl 3 rfl) ?_
        refine lv_aload_n hx hb dX3_doesFor_16 rfl (lv_at hl 2 rfl) ?_
        refine va_get (D := D) (ci := 0) (v := .ref (ad 8)) (C := RX3) (T := TX3) (N := 31) hx hb hts in_X3 hown hK hP 0 rfl rfl 15 (by decide) (hts _ q1129) (fun _ h9 => h9) rfl dX3_doesFor_17 ?_
        refine lv_iload_n hx hb dX3_doesFor_20 rfl (lv_at hl 0 rfl) ?_
        refine wa_iald (f := σ.visits) hx hb hK hP 9 0 rfl rfl (3 * k) (rfl) (by omega) (by decide) dX3_doesFor_21 ?_
        refine lv_aload_n hx hb dX3_doesFor_22 rfl (lv_at hl 2 rfl) ?_
        refine va_get (D := D) (ci := 0) (v := .ref (ad 8)) (C := RX3) (T := TX3) (N := 31) hx hb hts in_X3 hown hK hP 0 rfl rfl 15 (by decide) (hts _ q1129) (fun _ h9 => h9) rfl dX3_doesFor_23 ?_
        refine lv_iload_n hx hb dX3_doesFor_26 rfl (lv_at hl 0 rfl) ?_
        refine lv_iconst (v := 1) hx hb dX3_doesFor_27 rfl ?_
        refine lv_iadd hx hb dX3_doesFor_28 ?_
        refine wa_iald (f := σ.visits) hx hb hK hP 9 0 rfl rfl ((3 * k) + 1) ((nz_add rfl rfl)) (by omega) (by decide) dX3_doesFor_29 ?_
        refine cSi (As := [.int bag, .int (σ.visits (3 * k)), .int (σ.visits ((3 * k) + 1))]) (rest := [.int (dfG σ bag k)]) ⟨hx, hb, hml, hown, hts⟩ (mt_X3_fits l bag (σ.visits (3 * k)) (σ.visits ((3 * k) + 1))) (cw_X3_X3_fits hts ⟨Nat.le_of_ble_eq_true rfl, Nat.le_of_ble_eq_true rfl⟩) w_blT (fun _ _ _ => trivial) rfl hl.1 rfl (Nat.le_of_ble_eq_true rfl) dX3_doesFor_30 ⟨Nat.le_of_ble_eq_true rfl, Nat.le_of_ble_eq_true rfl⟩ ?_
        have hJ41_5 : ∀ (v_6 : Int32) (ls : Array Slot), v_6 = (if fitsP bag (σ.visits (3 * k)) (σ.visits ((3 * k) + 1)) then 1 else 0) → lv_has ls 4 [(3, .int (nI (3 * k))), (2, .int (dfG σ bag k)), (0, .ref h), (1, .int bag)] → W p l e rmX3_doesFor s m args below meth c s.heap [] 0 0 Q (F0 m 41 ls [.int v_6, .int (dfG σ bag k)]) := by
          intro v_6 ls ev_6 hl
          refine lv_iadd hx hb dX3_doesFor_41 ?_
          refine lv_istore_n (lv' := [(2, .int ((dfG σ bag k) + v_6)), (3, .int (nI (3 * k))), (0, .ref h), (1, .int bag)]) hx hb dX3_doesFor_42 rfl hl (by decide) rfl (fun ls hl => ?_)
          refine lv_iinc (v := nI (3 * k + 3)) (lv' := [(3, .int (nI (3 * k + 3))), (2, .int ((dfG σ bag k) + v_6)), (0, .ref h), (1, .int bag)]) hx hb dX3_doesFor_43 hl (k := 1) rfl (nI_add (3 * k) 3) (by decide) rfl (fun ls hl => ?_)
          refine lv_goto (tgt := 4) hx hb dX3_doesFor_46 rfl ?_
          exact ih_3 (k + 1) (nI (3 * k + 3)) ((dfG σ bag k) + v_6) ls (by omega) (by omega) rfl (by subst_vars; rw [dfG]) (lv_sub hl [0, 1, 2, 3] rfl)
        refine lv_if_eq (tgt := 40) hx hb dX3_doesFor_33 rfl (fun h33 => ?_) (fun h33 => ?_)
        · have h33 : ¬ (fitsP bag (σ.visits (3 * k)) (σ.visits ((3 * k) + 1))) := b01_0.mp h33
          refine lv_iconst (v := 0) hx hb dX3_doesFor_40 rfl ?_
          exact hJ41_5 (0) ls (by rw [if_neg h33]) (lv_sub hl [0, 1, 2, 3] rfl)
        · have h33 : fitsP bag (σ.visits (3 * k)) (σ.visits ((3 * k) + 1)) := b01_n h33
          refine lv_iconst (v := 1) hx hb dX3_doesFor_36 rfl ?_
          refine lv_goto (tgt := 41) hx hb dX3_doesFor_37 rfl ?_
          exact hJ41_5 (1) ls (by rw [if_pos h33]) (lv_sub hl [0, 1, 2, 3] rfl)
  exact hL4_1 _ 0 0 0 ls (Nat.lt_succ_self _) (by omega) rfl (by subst_vars; rw [dfG]) (lv_sub hl [0, 1, 2, 3] rfl)

theorem cw_X3_X3_doesFor {R : Room} {s : State} {args : Array Value} (hts : ∀ w ∈ lw_all, w.before args s = true) (hR : rmX3_doesFor.frames + 1 ≤ R.frames ∧ 8 + (4 + 11) + rmX3_doesFor.locals ≤ R.locals) : CallW R s args RX3 RX3 319 yX3_doesFor cX3_doesFor 4 (some .int) (ws_ yX3_doesFor cX3_doesFor 4 (some .int)) rmX3_doesFor 0 0 1 := cwV 1 hts (lw_V q1529 q1531 qs75 q83 q1532) rfl rfl rfl (by decide +kernel) hR
def rmX3_box : Room := { frames := 3, cells := 0, slots := 0, locals := 67 }
set_option maxHeartbeats 1000000 in
theorem mt_X3_box (l : Launch) (D : va_G) (dA : Nat → ClassId) (h : Nat) (ad : Nat → Nat) (σ : St) (τ : Sc) (w : Int32) (hI : Inv σ) : Met l yX3_box (ws_ yX3_box cX3_box 5 (some .int)) rmX3_box (va_Pc [.ref h, .int w] (mB D dA h ad σ τ)) (vp_Si (fun r => r = boxF σ w)) 0 0 (fun _ => False) := by
  refine w_start (by decide) (Nat.le_of_ble_eq_true rfl) ?_
  intro p e s m args below meth c Q ls hQ hx hb hr hlocks hml hown hnm hts hB hl
  have hown : s.vm.findClass RX3 = some m.cls := hown
  have hl : lv_has ls 5 [(0, .ref h), (1, .int w)] := hl
  obtain ⟨hP, hK⟩ := hB
  refine lv_iload_n hx hb dX3_box_0 rfl (lv_at hl 1 rfl) ?_
  refine lv_i2l (v := (w : Int32).toInt64) hx hb dX3_box_1 rfl ?_
  refine lv_lconst (v := 0) hx hb dX3_box_2 rfl ?_
  refine lv_lconst (v := 1) hx hb dX3_box_3 rfl ?_
  refine cSi (As := [.long ((w : Int32).toInt64), .long 0, .long 1]) (rest := []) ⟨hx, hb, hml, hown, hts⟩ (mt_X3_in l ((w : Int32).toInt64) 0 1) (cw_X3_X3_in hts ⟨Nat.le_of_ble_eq_true rfl, Nat.le_of_ble_eq_true rfl⟩) w_blT (fun _ _ _ => trivial) rfl hl.1 rfl (Nat.le_of_ble_eq_true rfl) dX3_box_4 ⟨Nat.le_of_ble_eq_true rfl, Nat.le_of_ble_eq_true rfl⟩ ?_
  refine lv_if_ne (tgt := 13) hx hb dX3_box_7 rfl (fun h7 => ?_) (fun h7 => ?_)
  · have h7 : inP ((w : Int32).toInt64) 0 1 := b01_n h7
    refine lv_iconst (v := 0) hx hb dX3_box_13 rfl ?_
    refine lv_istore_n (lv' := [(2, .int 0), (0, .ref h), (1, .int w)]) hx hb dX3_box_14 rfl hl (by decide) rfl (fun ls hl => ?_)
    refine lv_iconst (v := 1) hx hb dX3_box_15 rfl ?_
    refine lv_istore_n (lv' := [(3, .int 1), (2, .int 0), (0, .ref h), (1, .int w)]) hx hb dX3_box_16 rfl hl (by decide) rfl (fun ls hl => ?_)
    have hL17_1 : ∀ (n_2 : Nat) (k : Nat) (x3 : Int32) (x2 : Int32) (ls : Array Slot), (255 - k) < n_2 → (k ≤ 255) → x3 = (nI (k + 1)) → x2 = (boxG σ k) → lv_has ls 5 [(3, .int x3), (2, .int x2), (0, .ref h), (1, .int w)] → W p l e rmX3_box s m args below meth c s.heap [] 0 0 Q (F0 m 17 ls []) := by
      intro n_2
      induction n_2 with
      | zero => intro k x3 x2 ls hm_4; exact absurd hm_4 (Nat.not_lt_zero _)
      | succ n_2 ih_3 =>
        intro k x3 x2 ls hm_4 hk ex3 ex2 hl
        subst ex3 ex2
        refine lv_iload_n hx hb dX3_box_17 rfl (lv_at hl 0 rfl) ?_
        refine lv_sipush (v := 256) hx hb dX3_box_18 rfl ?_
        refine lv_icmp_ge (tgt := 80) hx hb dX3_box_21 rfl (fun h21 => ?_) (fun h21 => ?_)
        · have h21 : 256 ≤ (k + 1) := (nz_le (a := 256) (b := k + 1) rfl rfl (by omega) (by omega)).mp h21
          have hk_ : k = 255 := by omega
          subst hk_
          refine lv_iload_n hx hb dX3_box_80 rfl (lv_at hl 3 rfl) ?_
          refine lv_if_ne (tgt := 88) hx hb dX3_box_81 rfl (fun h81 => ?_) (fun h81 => ?_)
          · have h81 : ¬ (w = 0) := h81
            refine lv_aload_n hx hb dX3_box_88 rfl (lv_at hl 2 rfl) ?_
            refine lv_iload_n hx hb dX3_box_89 rfl (lv_at hl 1 rfl) ?_
            refine cVi (As := [.int (boxG σ 255)]) (rest := []) ⟨hx, hb, hml, hown, hts⟩ (mt_X3_doesFor l D dA h ad σ τ (boxG σ 255) hI) (cw_X3_X3_doesFor hts ⟨Nat.le_of_ble_eq_true rfl, Nat.le_of_ble_eq_true rfl⟩) mB_bl (mB_now hK hP) (va_recv hK hP (ci := 0) (q0 := 0) rfl rfl) rfl hl.1 rfl (Nat.le_of_ble_eq_true rfl) dX3_box_90 ⟨Nat.le_of_ble_eq_true rfl, Nat.le_of_ble_eq_true rfl⟩ ?_
            exact r_i hQ hx hb hr hlocks rfl (by simp only [boxF, eq_true h7, eq_true h21, eq_false h81, if_true, if_false, ite_true, ite_false, not_true_eq_false, not_false_eq_true, and_true, true_and, and_false, false_and, or_true, true_or, or_false, false_or, and_self, or_self, eq_self]) dX3_box_93
          · have h81 : w = 0 := h81
            refine lv_iload_n hx hb dX3_box_84 rfl (lv_at hl 1 rfl) ?_
            refine lv_goto (tgt := 93) hx hb dX3_box_85 rfl ?_
            exact r_i hQ hx hb hr hlocks rfl (by simp only [boxF, eq_true h7, eq_true h21, eq_true h81, if_true, if_false, ite_true, ite_false, not_true_eq_false, not_false_eq_true, and_true, true_and, and_false, false_and, or_true, true_or, or_false, false_or, and_self, or_self, eq_self]) dX3_box_93
        · have h21 : ¬ (256 ≤ (k + 1)) := fun z9 => h21 ((nz_le (a := 256) (b := k + 1) rfl rfl (by omega) (by omega)).mpr z9)
          refine lv_aload_n hx hb dX3_box_24 rfl (lv_at hl 2 rfl) ?_
          refine lv_iload_n hx hb dX3_box_25 rfl (lv_at hl 0 rfl) ?_
          refine cVi (As := [.int (nI (k + 1))]) (rest := []) ⟨hx, hb, hml, hown, hts⟩ (mt_X3_mayBe l D dA h ad σ τ (nI (k + 1))) (cw_X3_X3_mayBe hts ⟨Nat.le_of_ble_eq_true rfl, Nat.le_of_ble_eq_true rfl⟩) mB_bl (mB_now hK hP) (va_recv hK hP (ci := 0) (q0 := 0) rfl rfl) rfl hl.1 rfl (Nat.le_of_ble_eq_true rfl) dX3_box_26 ⟨Nat.le_of_ble_eq_true rfl, Nat.le_of_ble_eq_true rfl⟩ ?_
          have hJ74_5 : ∀ (v_6 : Int32) (ls : Array Slot), v_6 = (if mayP σ (nI (k + 1)) then if (0 : Int32) < ((dfF σ (nI (k + 1))) - (dfF σ (boxG σ k))) then nI (k + 1) else if ((dfF σ (nI (k + 1))) - (dfF σ (boxG σ k))) = 0 then if (wsum σ.wt (boxG σ k) 8) ≤ (wsum σ.wt (nI (k + 1)) 8) then boxG σ k else nI (k + 1) else boxG σ k else boxG σ k) → lv_has ls 5 [(3, .int (nI (k + 1))), (2, .int v_6), (0, .ref h), (1, .int w)] → W p l e rmX3_box s m args below meth c s.heap [] 0 0 Q (F0 m 74 ls []) := by
            intro v_6 ls ev_6 hl
            refine lv_iinc (v := nI (k + 1 + 1)) (lv' := [(3, .int (nI (k + 1 + 1))), (2, .int v_6), (0, .ref h), (1, .int w)]) hx hb dX3_box_74 hl (k := 0) rfl (nI_1 (k + 1)) (by decide) rfl (fun ls hl => ?_)
            refine lv_goto (tgt := 17) hx hb dX3_box_77 rfl ?_
            exact ih_3 (k + 1) (nI (k + 1 + 1)) v_6 ls (by omega) (by omega) rfl (by subst_vars; rw [boxG]) (lv_sub hl [0, 1, 2, 3] rfl)
          refine lv_if_eq (tgt := 74) hx hb dX3_box_29 rfl (fun h29 => ?_) (fun h29 => ?_)
          · have h29 : ¬ (mayP σ (nI (k + 1))) := b01_0.mp h29
            exact hJ74_5 (boxG σ k) ls (by rw [if_neg h29]) (lv_sub hl [0, 1, 2, 3] rfl)
          · have h29 : mayP σ (nI (k + 1)) := b01_n h29
            refine lv_aload_n hx hb dX3_box_32 rfl (lv_at hl 2 rfl) ?_
            refine lv_iload_n hx hb dX3_box_33 rfl (lv_at hl 0 rfl) ?_
            refine cVi (As := [.int (nI (k + 1))]) (rest := []) ⟨hx, hb, hml, hown, hts⟩ (mt_X3_doesFor l D dA h ad σ τ (nI (k + 1)) hI) (cw_X3_X3_doesFor hts ⟨Nat.le_of_ble_eq_true rfl, Nat.le_of_ble_eq_true rfl⟩) mB_bl (mB_now hK hP) (va_recv hK hP (ci := 0) (q0 := 0) rfl rfl) rfl hl.1 rfl (Nat.le_of_ble_eq_true rfl) dX3_box_34 ⟨Nat.le_of_ble_eq_true rfl, Nat.le_of_ble_eq_true rfl⟩ ?_
            refine lv_aload_n hx hb dX3_box_37 rfl (lv_at hl 2 rfl) ?_
            refine lv_iload_n hx hb dX3_box_38 rfl (lv_at hl 1 rfl) ?_
            refine cVi (As := [.int (boxG σ k)]) (rest := [.int (dfF σ (nI (k + 1)))]) ⟨hx, hb, hml, hown, hts⟩ (mt_X3_doesFor l D dA h ad σ τ (boxG σ k) hI) (cw_X3_X3_doesFor hts ⟨Nat.le_of_ble_eq_true rfl, Nat.le_of_ble_eq_true rfl⟩) mB_bl (mB_now hK hP) (va_recv hK hP (ci := 0) (q0 := 0) rfl rfl) rfl hl.1 rfl (Nat.le_of_ble_eq_true rfl) dX3_box_39 ⟨Nat.le_of_ble_eq_true rfl, Nat.le_of_ble_eq_true rfl⟩ ?_
            refine lv_isub hx hb dX3_box_42 ?_
            refine lv_istore (lv' := [(4, .int ((dfF σ (nI (k + 1))) - (dfF σ (boxG σ k)))), (3, .int (nI (k + 1))), (2, .int (boxG σ k)), (0, .ref h), (1, .int w)]) hx hb dX3_box_43 hl (by decide) rfl (fun ls hl => ?_)
            refine lv_iload hx hb dX3_box_45 (lv_at hl 0 rfl) ?_
            have hJ73_7 : ∀ (v_8 : Int32) (ls : Array Slot), v_8 = (if (0 : Int32) < ((dfF σ (nI (k + 1))) - (dfF σ (boxG σ k))) then nI (k + 1) else if ((dfF σ (nI (k + 1))) - (dfF σ (boxG σ k))) = 0 then if (wsum σ.wt (boxG σ k) 8) ≤ (wsum σ.wt (nI (k + 1)) 8) then boxG σ k else nI (k + 1) else boxG σ k) → lv_has ls 5 [(4, .int ((dfF σ (nI (k + 1))) - (dfF σ (boxG σ k)))), (3, .int (nI (k + 1))), (2, .int (boxG σ k)), (0, .ref h), (1, .int w)] → W p l e rmX3_box s m args below meth c s.heap [] 0 0 Q (F0 m 73 ls [.int v_8]) := by
              intro v_8 ls ev_8 hl
              refine lv_istore_n (lv' := [(2, .int v_8), (4, .int ((dfF σ (nI (k + 1))) - (dfF σ (boxG σ k)))), (3, .int (nI (k + 1))), (0, .ref h), (1, .int w)]) hx hb dX3_box_73 rfl hl (by decide) rfl (fun ls hl => ?_)
              exact hJ74_5 (v_8) ls (by subst_vars; rw [if_pos h29]) (lv_sub hl [2, 0, 3, 4] rfl)
            refine lv_if_gt (tgt := 68) hx hb dX3_box_47 rfl (fun h47 => ?_) (fun h47 => ?_)
            · have h47 : (0 : Int32) < ((dfF σ (nI (k + 1))) - (dfF σ (boxG σ k))) := h47
              refine lv_iload_n hx hb dX3_box_68 rfl (lv_at hl 1 rfl) ?_
              refine lv_goto (tgt := 73) hx hb dX3_box_69 rfl ?_
              exact hJ73_7 (nI (k + 1)) ls (by rw [if_pos h47]) (lv_sub hl [0, 1, 2, 3, 4] rfl)
            · have h47 : ¬ ((0 : Int32) < ((dfF σ (nI (k + 1))) - (dfF σ (boxG σ k)))) := h47
              refine lv_iload hx hb dX3_box_50 (lv_at hl 0 rfl) ?_
              refine lv_if_ne (tgt := 72) hx hb dX3_box_52 rfl (fun h52 => ?_) (fun h52 => ?_)
              · have h52 : ¬ (((dfF σ (nI (k + 1))) - (dfF σ (boxG σ k))) = 0) := h52
                refine lv_iload_n hx hb dX3_box_72 rfl (lv_at hl 2 rfl) ?_
                exact hJ73_7 (boxG σ k) ls (by rw [if_neg h47, if_neg h52]) (lv_sub hl [0, 1, 2, 3, 4] rfl)
              · have h52 : ((dfF σ (nI (k + 1))) - (dfF σ (boxG σ k))) = 0 := h52
                refine lv_aload_n hx hb dX3_box_55 rfl (lv_at hl 3 rfl) ?_
                refine lv_iload_n hx hb dX3_box_56 rfl (lv_at hl 1 rfl) ?_
                refine cVi (As := [.int (nI (k + 1))]) (rest := []) ⟨hx, hb, hml, hown, hts⟩ (mt_X3_weight l D dA h ad σ τ (nI (k + 1))) (cw_X3_X3_weight hts ⟨Nat.le_of_ble_eq_true rfl, Nat.le_of_ble_eq_true rfl⟩) mB_bl (mB_now hK hP) (va_recv hK hP (ci := 0) (q0 := 0) rfl rfl) rfl hl.1 rfl (Nat.le_of_ble_eq_true rfl) dX3_box_57 ⟨Nat.le_of_ble_eq_true rfl, Nat.le_of_ble_eq_true rfl⟩ ?_
                refine lv_aload_n hx hb dX3_box_60 rfl (lv_at hl 3 rfl) ?_
                refine lv_iload_n hx hb dX3_box_61 rfl (lv_at hl 2 rfl) ?_
                refine cVi (As := [.int (boxG σ k)]) (rest := [.int (wsum σ.wt (nI (k + 1)) 8)]) ⟨hx, hb, hml, hown, hts⟩ (mt_X3_weight l D dA h ad σ τ (boxG σ k)) (cw_X3_X3_weight hts ⟨Nat.le_of_ble_eq_true rfl, Nat.le_of_ble_eq_true rfl⟩) mB_bl (mB_now hK hP) (va_recv hK hP (ci := 0) (q0 := 0) rfl rfl) rfl hl.1 rfl (Nat.le_of_ble_eq_true rfl) dX3_box_62 ⟨Nat.le_of_ble_eq_true rfl, Nat.le_of_ble_eq_true rfl⟩ ?_
                refine lv_icmp_ge (tgt := 72) hx hb dX3_box_65 rfl (fun h65 => ?_) (fun h65 => ?_)
                · have h65 : (wsum σ.wt (boxG σ k) 8) ≤ (wsum σ.wt (nI (k + 1)) 8) := h65
                  refine lv_iload_n hx hb dX3_box_72 rfl (lv_at hl 2 rfl) ?_
                  exact hJ73_7 (boxG σ k) ls (by rw [if_neg h47, if_pos h52, if_pos h65]) (lv_sub hl [0, 1, 2, 3, 4] rfl)
                · have h65 : ¬ ((wsum σ.wt (boxG σ k) 8) ≤ (wsum σ.wt (nI (k + 1)) 8)) := h65
                  refine lv_iload_n hx hb dX3_box_68 rfl (lv_at hl 1 rfl) ?_
                  refine lv_goto (tgt := 73) hx hb dX3_box_69 rfl ?_
                  exact hJ73_7 (nI (k + 1)) ls (by rw [if_neg h47, if_pos h52, if_neg h65]) (lv_sub hl [0, 1, 2, 3, 4] rfl)
    exact hL17_1 _ 0 1 0 ls (Nat.lt_succ_self _) (by omega) rfl (by subst_vars; rw [boxG]) (lv_sub hl [0, 1, 2, 3] rfl)
  · have h7 : ¬ (inP ((w : Int32).toInt64) 0 1) := b01_0.mp h7
    refine lv_bipush (v := (-3)) hx hb dX3_box_10 rfl ?_
    exact r_i hQ hx hb hr hlocks rfl (by simp only [boxF, eq_false h7, if_true, if_false, ite_true, ite_false, not_true_eq_false, not_false_eq_true, and_true, true_and, and_false, false_and, or_true, true_or, or_false, false_or, and_self, or_self, eq_self]) dX3_box_12

def rmX3_count : Room := { frames := 0, cells := 0, slots := 0, locals := 0 }
set_option maxHeartbeats 1000000 in
theorem mt_X3_count (l : Launch) (D : va_G) (dA : Nat → ClassId) (h : Nat) (ad : Nat → Nat) (σ : St) (τ : Sc) (w : Int32) : Met l yX3_count (ws_ yX3_count cX3_count 4 (some .int)) rmX3_count (va_Pc [.ref h, .int w] (mB D dA h ad σ τ)) (vp_Si (fun r => r = countF σ w)) 0 0 (fun _ => False) := by
  refine w_start (by decide) (Nat.le_of_ble_eq_true rfl) ?_
  intro p e s m args below meth c Q ls hQ hx hb hr hlocks hml hown hnm hts hB hl
  have hown : s.vm.findClass RX3 = some m.cls := hown
  have hl : lv_has ls 4 [(0, .ref h), (1, .int w)] := hl
  obtain ⟨hP, hK⟩ := hB
  refine lv_iconst (v := 0) hx hb dX3_count_0 rfl ?_
  refine lv_istore_n (lv' := [(2, .int 0), (0, .ref h), (1, .int w)]) hx hb dX3_count_1 rfl hl (by decide) rfl (fun ls hl => ?_)
  refine lv_iconst (v := 0) hx hb dX3_count_2 rfl ?_
  refine lv_istore_n (lv' := [(3, .int 0), (2, .int 0), (0, .ref h), (1, .int w)]) hx hb dX3_count_3 rfl hl (by decide) rfl (fun ls hl => ?_)
  have hL4_1 : ∀ (n_2 : Nat) (k : Nat) (x3 : Int32) (x2 : Int32) (ls : Array Slot), (6 - k) < n_2 → (k ≤ 6) → x3 = (nI k) → x2 = (toldN σ k) → lv_has ls 4 [(3, .int x3), (2, .int x2), (0, .ref h), (1, .int w)] → W p l e rmX3_count s m args below meth c s.heap [] 0 0 Q (F0 m 4 ls []) := by
    intro n_2
    induction n_2 with
    | zero => intro k x3 x2 ls hm_4; exact absurd hm_4 (Nat.not_lt_zero _)
    | succ n_2 ih_3 =>
      intro k x3 x2 ls hm_4 hk ex3 ex2 hl
      subst ex3 ex2
      refine lv_iload_n hx hb dX3_count_4 rfl (lv_at hl 0 rfl) ?_
      refine lv_bipush (v := 6) hx hb dX3_count_5 rfl ?_
      refine lv_icmp_ge (tgt := 27) hx hb dX3_count_7 rfl (fun h7 => ?_) (fun h7 => ?_)
      · have h7 : 6 ≤ k := (nz_le (a := 6) (b := k) rfl rfl (by omega) (by omega)).mp h7
        have hk_ : k = 6 := by omega
        subst hk_
        refine lv_iload_n hx hb dX3_count_27 rfl (lv_at hl 3 rfl) ?_
        by_cases h28_0 : w = 0
        · refine lv_tableIn (tgt := 68) hx hb dX3_count_28 (by rw [h28_0]; decide) (by rw [h28_0]; decide) (by rw [h28_0]; rfl) rfl ?_
          refine lv_iload_n hx hb dX3_count_68 rfl (lv_at hl 1 rfl) ?_
          exact r_i hQ hx hb hr hlocks rfl (by simp only [countF, eq_true h7, eq_true h28_0, if_true, if_false, ite_true, ite_false, not_true_eq_false, not_false_eq_true, and_true, true_and, and_false, false_and, or_true, true_or, or_false, false_or, and_self, or_self, eq_self]) dX3_count_69
        by_cases h28_1 : w = 1
        · refine lv_tableIn (tgt := 70) hx hb dX3_count_28 (by rw [h28_1]; decide) (by rw [h28_1]; decide) (by rw [h28_1]; rfl) rfl ?_
          refine lv_aload_n hx hb dX3_count_70 rfl (lv_at hl 2 rfl) ?_
          refine va_get (D := D) (ci := 0) (v := .int (nI σ.len)) (C := RX3) (T := TX3) (N := 31) hx hb hts in_X3 hown hK hP 0 rfl rfl 1 (by decide) (hts _ q1115) (fun _ h9 => h9) rfl dX3_count_71 ?_
          exact r_i hQ hx hb hr hlocks rfl (by simp only [countF, eq_true h7, eq_false h28_0, eq_true h28_1, if_true, if_false, ite_true, ite_false, not_true_eq_false, not_false_eq_true, and_true, true_and, and_false, false_and, or_true, true_or, or_false, false_or, and_self, or_self, eq_self]) dX3_count_74
        by_cases h28_2 : w = 2
        · refine lv_tableIn (tgt := 75) hx hb dX3_count_28 (by rw [h28_2]; decide) (by rw [h28_2]; decide) (by rw [h28_2]; rfl) rfl ?_
          refine lv_aload_n hx hb dX3_count_75 rfl (lv_at hl 2 rfl) ?_
          refine va_get (D := D) (ci := 0) (v := .int (nI σ.vm)) (C := RX3) (T := TX3) (N := 31) hx hb hts in_X3 hown hK hP 0 rfl rfl 16 (by decide) (hts _ q1130) (fun _ h9 => h9) rfl dX3_count_76 ?_
          exact r_i hQ hx hb hr hlocks rfl (by simp only [countF, eq_true h7, eq_false h28_0, eq_false h28_1, eq_true h28_2, if_true, if_false, ite_true, ite_false, not_true_eq_false, not_false_eq_true, and_true, true_and, and_false, false_and, or_true, true_or, or_false, false_or, and_self, or_self, eq_self]) dX3_count_79
        by_cases h28_3 : w = 3
        · refine lv_tableIn (tgt := 80) hx hb dX3_count_28 (by rw [h28_3]; decide) (by rw [h28_3]; decide) (by rw [h28_3]; rfl) rfl ?_
          refine lv_aload_n hx hb dX3_count_80 rfl (lv_at hl 2 rfl) ?_
          refine va_get (D := D) (ci := 0) (v := .int σ.load) (C := RX3) (T := TX3) (N := 31) hx hb hts in_X3 hown hK hP 0 rfl rfl 7 (by decide) (hts _ q1121) (fun _ h9 => h9) rfl dX3_count_81 ?_
          exact r_i hQ hx hb hr hlocks rfl (by simp only [countF, eq_true h7, eq_false h28_0, eq_false h28_1, eq_false h28_2, eq_true h28_3, if_true, if_false, ite_true, ite_false, not_true_eq_false, not_false_eq_true, and_true, true_and, and_false, false_and, or_true, true_or, or_false, false_or, and_self, or_self, eq_self]) dX3_count_84
        by_cases h28_4 : w = 4
        · refine lv_tableIn (tgt := 85) hx hb dX3_count_28 (by rw [h28_4]; decide) (by rw [h28_4]; decide) (by rw [h28_4]; rfl) rfl ?_
          refine lv_aload_n hx hb dX3_count_85 rfl (lv_at hl 2 rfl) ?_
          refine va_get (D := D) (ci := 0) (v := .int σ.purse) (C := RX3) (T := TX3) (N := 31) hx hb hts in_X3 hown hK hP 0 rfl rfl 8 (by decide) (hts _ q1122) (fun _ h9 => h9) rfl dX3_count_86 ?_
          exact r_i hQ hx hb hr hlocks rfl (by simp only [countF, eq_true h7, eq_false h28_0, eq_false h28_1, eq_false h28_2, eq_false h28_3, eq_true h28_4, if_true, if_false, ite_true, ite_false, not_true_eq_false, not_false_eq_true, and_true, true_and, and_false, false_and, or_true, true_or, or_false, false_or, and_self, or_self, eq_self]) dX3_count_89
        by_cases h28_5 : w = 5
        · refine lv_tableIn (tgt := 90) hx hb dX3_count_28 (by rw [h28_5]; decide) (by rw [h28_5]; decide) (by rw [h28_5]; rfl) rfl ?_
          refine lv_aload_n hx hb dX3_count_90 rfl (lv_at hl 2 rfl) ?_
          refine va_get (D := D) (ci := 0) (v := .int σ.beg) (C := RX3) (T := TX3) (N := 31) hx hb hts in_X3 hown hK hP 0 rfl rfl 9 (by decide) (hts _ q1123) (fun _ h9 => h9) rfl dX3_count_91 ?_
          exact r_i hQ hx hb hr hlocks rfl (by simp only [countF, eq_true h7, eq_false h28_0, eq_false h28_1, eq_false h28_2, eq_false h28_3, eq_false h28_4, eq_true h28_5, if_true, if_false, ite_true, ite_false, not_true_eq_false, not_false_eq_true, and_true, true_and, and_false, false_and, or_true, true_or, or_false, false_or, and_self, or_self, eq_self]) dX3_count_94
        refine lv_tableOut (tgt := 95) hx hb dX3_count_28 (w_tout6 h28_0 h28_1 h28_2 h28_3 h28_4 h28_5) rfl ?_
        refine lv_bipush (v := (-3)) hx hb dX3_count_95 rfl ?_
        exact r_i hQ hx hb hr hlocks rfl (by simp only [countF, eq_true h7, eq_false h28_0, eq_false h28_1, eq_false h28_2, eq_false h28_3, eq_false h28_4, eq_false h28_5, if_true, if_false, ite_true, ite_false, not_true_eq_false, not_false_eq_true, and_true, true_and, and_false, false_and, or_true, true_or, or_false, false_or, and_self, or_self, eq_self]) dX3_count_97
      · have h7 : ¬ (6 ≤ k) := fun z9 => h7 ((nz_le (a := 6) (b := k) rfl rfl (by omega) (by omega)).mpr z9)
        refine lv_iload_n hx hb dX3_count_10 rfl (lv_at hl 1 rfl) ?_
        refine lv_aload_n hx hb dX3_count_11 rfl (lv_at hl 2 rfl) ?_
        refine va_get (D := D) (ci := 0) (v := .int σ.told) (C := RX3) (T := TX3) (N := 31) hx hb hts in_X3 hown hK hP 0 rfl rfl 11 (by decide) (hts _ q1125) (fun _ h9 => h9) rfl dX3_count_12 ?_
        refine lv_iload_n hx hb dX3_count_15 rfl (lv_at hl 0 rfl) ?_
        refine lv_ishr hx hb dX3_count_16 ?_
        refine lv_iconst (v := 1) hx hb dX3_count_17 rfl ?_
        refine lv_iand hx hb dX3_count_18 ?_
        refine lv_iadd hx hb dX3_count_19 ?_
        refine lv_istore_n (lv' := [(2, .int ((toldN σ k) + ((σ.told >>> ((nI k) &&& 31)) &&& 1))), (3, .int (nI k)), (0, .ref h), (1, .int w)]) hx hb dX3_count_20 rfl hl (by decide) rfl (fun ls hl => ?_)
        refine lv_iinc (v := nI (k + 1)) (lv' := [(3, .int (nI (k + 1))), (2, .int ((toldN σ k) + ((σ.told >>> ((nI k) &&& 31)) &&& 1))), (0, .ref h), (1, .int w)]) hx hb dX3_count_21 hl (k := 1) rfl (nI_1 k) (by decide) rfl (fun ls hl => ?_)
        refine lv_goto (tgt := 4) hx hb dX3_count_24 rfl ?_
        exact ih_3 (k + 1) (nI (k + 1)) ((toldN σ k) + ((σ.told >>> ((nI k) &&& 31)) &&& 1)) ls (by omega) (by omega) rfl (by subst_vars; rw [toldN]) (lv_sub hl [0, 1, 2, 3] rfl)
  exact hL4_1 _ 0 0 0 ls (Nat.lt_succ_self _) (by omega) rfl (by subst_vars; rw [toldN]) (lv_sub hl [0, 1, 2, 3] rfl)

/-- n bytes more of the text -/
def wrT (σ : St) (b : Int64) : Nat → Nat → Int32
  | 0 => σ.txt
  | k + 1 => upd (wrT σ b k) (σ.len + k) ((b >>> (((8 * nI k : Int32)).toInt64 &&& 63)) &&& 255).toInt32
def wrF (σ : St) (n : Int32) : Int32 := if inP n.toInt64 1 8 then (if σ.len + ix n ≤ 200 then nI (σ.len + ix n) else -5) else -3
def wrS (σ : St) (b : Int64) (n : Int32) : St := if inP n.toInt64 1 8 then (if σ.len + ix n ≤ 200 then (σ.s_txt (wrT σ b (ix n))).s_len (σ.len + ix n) else σ) else σ
def erS (σ : St) : St := σ.s_len 0
abbrev visP (σ : St) (c s bag : Int32) : Prop := sortP σ c s ∧ bagP bag ∧ ¬ σ.vm = 16
def visF (σ : St) (c s bag : Int32) : Int32 := if sortP σ c s then (if bagP bag then (if σ.vm = 16 then -5 else nI (σ.vm + 1)) else -3) else -2
def visS (σ : St) (c s bag : Int32) : St := if sortP σ c s then (if bagP bag then (if σ.vm = 16 then σ else (σ.s_visits (upd (upd (upd σ.visits (3 * σ.vm) (σ.sorts (16 * ix c + 4 * ix s + 2))) (3 * σ.vm + 1) (σ.sorts (16 * ix c + 4 * ix s + 3))) (3 * σ.vm + 2) bag)).s_vm (σ.vm + 1)) else σ) else σ

def rmX3_write : Room := { frames := 1, cells := 0, slots := 0, locals := 25 }
set_option maxHeartbeats 1000000 in
theorem mt_X3_write (l : Launch) (D : va_G) (dA : Nat → ClassId) (h : Nat) (ad : Nat → Nat) (σ : St) (τ : Sc) (hmD : mD h ad) (b_ : Int64) (n_ : Int32) (hI : Inv σ) : Met l yX3_write (ws_ yX3_write cX3_write 5 (some .int)) rmX3_write (va_Pc [.ref h, .long b_, .int n_] (mB D dA h ad σ τ)) (va_Qi (fun r (u : MS) => r = wrF σ n_ ∧ u = (wrS σ b_ n_, τ)) (fun u t => mB D dA h ad u.1 u.2 t) (mA h ad)) 0 0 (mA h ad) := by
  refine w_start (by decide) (Nat.le_of_ble_eq_true rfl) ?_
  intro p e s m args below meth c Q ls hQ hx hb hr hlocks hml hown hnm hts hB hl
  have hown : s.vm.findClass RX3 = some m.cls := hown
  have hl : lv_has ls 5 [(0, .ref h), (1, .long b_), (3, .int n_)] := hl
  obtain ⟨hP, hK⟩ := hB
  have hP : va_P D vwCl (mX dA h ad σ.txt σ.len σ.wt σ.pr σ.tools σ.load σ.purse σ.beg σ.ways σ.told σ.calls σ.sm σ.sorts σ.visits σ.vm τ.read τ.rm τ.at_ τ.place τ.end_ τ.ents τ.em τ.combos τ.all_ τ.weight τ.gain τ.ad_ τ.minute τ.ds τ.bl τ.chosen) s.heap := hP
  have hS : va_S (mA h ad) s.heap s.heap [] := va_S.rf
  have hlen := hI.len
  refine lv_iload_n hx hb dX3_write_0 rfl (lv_at hl 2 rfl) ?_
  refine lv_i2l (v := (n_ : Int32).toInt64) hx hb dX3_write_1 rfl ?_
  refine lv_lconst (v := 1) hx hb dX3_write_2 rfl ?_
  refine lv_ldc2 (v := 8) hx hb hown (hts _ q1212) dX3_write_3 ?_
  refine cSi (As := [.long ((n_ : Int32).toInt64), .long 1, .long 8]) (rest := []) ⟨hx, hb, hml, hown, hts⟩ (mt_X3_in l ((n_ : Int32).toInt64) 1 8) (cw_X3_X3_in hts ⟨Nat.le_of_ble_eq_true rfl, Nat.le_of_ble_eq_true rfl⟩) w_blT (fun _ _ _ => trivial) rfl hl.1 rfl (Nat.le_of_ble_eq_true rfl) dX3_write_6 ⟨Nat.le_of_ble_eq_true rfl, Nat.le_of_ble_eq_true rfl⟩ ?_
  refine lv_if_ne (tgt := 15) hx hb dX3_write_9 rfl (fun h9 => ?_) (fun h9 => ?_)
  · have h9 : inP ((n_ : Int32).toInt64) 1 8 := b01_n h9
    obtain ⟨j, hj1, hj, rfl⟩ := in18 h9
    have hix : ix (nI j) = j := ix_nI (Nat.lt_succ_of_le hj) (by decide)
    refine lv_aload_n hx hb dX3_write_15 rfl (lv_at hl 0 rfl) ?_
    refine va_get (D := D) (ci := 0) (v := .int (nI σ.len)) (C := RX3) (T := TX3) (N := 31) hx hb hts in_X3 hown hK hP 0 rfl rfl 1 (by decide) (hts _ q1115) (fun _ h9 => h9) rfl dX3_write_16 ?_
    refine lv_iload_n hx hb dX3_write_19 rfl (lv_at hl 2 rfl) ?_
    refine lv_iadd hx hb dX3_write_20 ?_
    refine lv_sipush (v := 200) hx hb dX3_write_21 rfl ?_
    refine lv_icmp_le (tgt := 30) hx hb dX3_write_24 rfl (fun h24 => ?_) (fun h24 => ?_)
    · have h24 : (σ.len + j) ≤ 200 := (nz_le (a := σ.len + j) (b := 200) (nz_add rfl rfl) rfl (by omega) (by omega)).mp h24
      refine lv_iconst (v := 0) hx hb dX3_write_30 rfl ?_
      refine lv_istore (lv' := [(4, .int 0), (0, .ref h), (1, .long b_), (3, .int (nI j))]) hx hb dX3_write_31 hl (by decide) rfl (fun ls hl => ?_)
      have hL33_1 : ∀ (n_2 : Nat) (k : Nat) (x4 : Int32) (ls : Array Slot) (H : Heap) (locs : List Loc), (8 - k) < n_2 → (k ≤ j) → x4 = (nI k) → lv_has ls 5 [(4, .int x4), (0, .ref h), (1, .long b_), (3, .int (nI j))] → va_P D vwCl (mX dA h ad (wrT σ b_ k) (σ.len + k) σ.wt σ.pr σ.tools σ.load σ.purse σ.beg σ.ways σ.told σ.calls σ.sm σ.sorts σ.visits σ.vm τ.read τ.rm τ.at_ τ.place τ.end_ τ.ents τ.em τ.combos τ.all_ τ.weight τ.gain τ.ad_ τ.minute τ.ds τ.bl τ.chosen) H → va_S (mA h ad) s.heap H locs → W p l e rmX3_write s m args below meth c H locs 0 0 Q (F0 m 33 ls []) := by
        intro n_2
        induction n_2 with
        | zero => intro k x4 ls H locs hm_4; exact absurd hm_4 (Nat.not_lt_zero _)
        | succ n_2 ih_3 =>
          intro k x4 ls H locs hm_4 hk ex4 hl hP hS
          subst ex4
          refine lv_iload hx hb dX3_write_33 (lv_at hl 0 rfl) ?_
          refine lv_iload_n hx hb dX3_write_35 rfl (lv_at hl 3 rfl) ?_
          refine lv_icmp_ge (tgt := 76) hx hb dX3_write_36 rfl (fun h36 => ?_) (fun h36 => ?_)
          · have h36 : j ≤ k := (nz_le (a := j) (b := k) rfl rfl (by omega) (by omega)).mp h36
            obtain rfl : k = j := by omega
            refine lv_aload_n hx hb dX3_write_76 rfl (lv_at hl 1 rfl) ?_
            refine va_get (D := D) (ci := 0) (v := .int (nI (σ.len + k))) (C := RX3) (T := TX3) (N := 31) hx hb hts in_X3 hown hK hP 0 rfl rfl 1 (by decide) (hts _ q1115) (fun _ h9 => h9) rfl dX3_write_77 ?_
            exact rm_i (u := (((wrT σ b_ k, σ.len + k, σ.wt, σ.pr, σ.tools, σ.load, σ.purse, σ.beg, σ.ways, σ.told, σ.calls, σ.sm, σ.sorts, σ.visits, σ.vm) : St), τ)) hQ hx hb hr hlocks hK hP hS (⟨by simp only [wrF, eq_true h9, eq_true h24, eq_true h36, hix, if_true, if_false, ite_true, ite_false, not_true_eq_false, not_false_eq_true, and_true, true_and, and_false, false_and, or_true, true_or, or_false, false_or, and_self, or_self, eq_self], by subst_vars; simp only [wrS, eq_true h9, eq_true h24, eq_true h36, hix, if_true, if_false, ite_true, ite_false, not_true_eq_false, not_false_eq_true, and_true, true_and, and_false, false_and, or_true, true_or, or_false, false_or, and_self, or_self, eq_self] <;> rfl⟩) dX3_write_80
          · have h36 : ¬ (j ≤ k) := fun z9 => h36 ((nz_le (a := j) (b := k) rfl rfl (by omega) (by omega)).mpr z9)
            refine lv_aload_n hx hb dX3_write_39 rfl (lv_at hl 1 rfl) ?_
            refine va_get (D := D) (ci := 0) (v := .ref (ad 0)) (C := RX3) (T := TX3) (N := 31) hx hb hts in_X3 hown hK hP 0 rfl rfl 0 (by decide) (hts _ q1114) (fun _ h9 => h9) rfl dX3_write_40 ?_
            refine lv_aload_n hx hb dX3_write_43 rfl (lv_at hl 1 rfl) ?_
            refine va_get (D := D) (ci := 0) (v := .int (nI (σ.len + k))) (C := RX3) (T := TX3) (N := 31) hx hb hts in_X3 hown hK hP 0 rfl rfl 1 (by decide) (hts _ q1115) (fun _ h9 => h9) rfl dX3_write_44 ?_
            refine lv_lload_n hx hb dX3_write_47 rfl (lv_at hl 2 rfl) ?_
            refine lv_bipush (v := 8) hx hb dX3_write_48 rfl ?_
            refine lv_iload hx hb dX3_write_50 (lv_at hl 0 rfl) ?_
            refine lv_imul hx hb dX3_write_52 ?_
            refine lv_lshr (v := b_ >>> ((8 * (nI k) : Int32).toInt64 &&& 63)) hx hb dX3_write_53 rfl ?_
            refine lv_ldc2 (v := 255) hx hb hown (hts _ q1216) dX3_write_54 ?_
            refine lv_land hx hb dX3_write_57 ?_
            refine lv_l2i (v := ((b_ >>> ((8 * (nI k) : Int32).toInt64 &&& 63)) &&& 255 : Int64).toInt32) hx hb dX3_write_58 rfl ?_
            refine wa_iast (f := wrT σ b_ k) hx hb hK hP (mD_va hmD dA ((wrT σ b_ k, σ.len + k, σ.wt, σ.pr, σ.tools, σ.load, σ.purse, σ.beg, σ.ways, σ.told, σ.calls, σ.sm, σ.sorts, σ.visits, σ.vm) : St) τ) hS 1 0 rfl rfl (σ.len + k) (rfl) (by omega) (by decide) dX3_write_59 (fun H locs f_5 ef_5 hP hS => ?_)
            have hP : va_P D vwCl (mX dA h ad f_5 (σ.len + k) σ.wt σ.pr σ.tools σ.load σ.purse σ.beg σ.ways σ.told σ.calls σ.sm σ.sorts σ.visits σ.vm τ.read τ.rm τ.at_ τ.place τ.end_ τ.ents τ.em τ.combos τ.all_ τ.weight τ.gain τ.ad_ τ.minute τ.ds τ.bl τ.chosen) H := hP
            refine lv_aload_n hx hb dX3_write_60 rfl (lv_at hl 1 rfl) ?_
            refine lv_dup hx hb dX3_write_61 rfl ?_
            refine va_get (D := D) (ci := 0) (v := .int (nI (σ.len + k))) (C := RX3) (T := TX3) (N := 31) hx hb hts in_X3 hown hK hP 0 rfl rfl 1 (by decide) (hts _ q1115) (fun _ h9 => h9) rfl dX3_write_62 ?_
            refine lv_iconst (v := 1) hx hb dX3_write_65 rfl ?_
            refine lv_iadd hx hb dX3_write_66 ?_
            refine w_topi (nz_add rfl rfl) ?_
            refine va_put (D := D) (ci := 0) (v := .int (nI ((σ.len + k) + 1))) (ty := .int) (C := RX3) (T := TX3) (N := 31) hx hb hts in_X3 tyX3 tyX3_ok nmX3 hown hK hP (mD_va hmD dA ((f_5, σ.len + k, σ.wt, σ.pr, σ.tools, σ.load, σ.purse, σ.beg, σ.ways, σ.told, σ.calls, σ.sm, σ.sorts, σ.visits, σ.vm) : St) τ) hS 0 rfl rfl 1 (by decide) (hts _ q1115) (fun _ h9 => h9) rfl (by decide +kernel) (rfl) (rfl) (Nat.le_of_ble_eq_true rfl) dX3_write_67 (fun H locs hP _ hS => ?_)
            have hP : va_P D vwCl (mX dA h ad f_5 ((σ.len + k) + 1) σ.wt σ.pr σ.tools σ.load σ.purse σ.beg σ.ways σ.told σ.calls σ.sm σ.sorts σ.visits σ.vm τ.read τ.rm τ.at_ τ.place τ.end_ τ.ents τ.em τ.combos τ.all_ τ.weight τ.gain τ.ad_ τ.minute τ.ds τ.bl τ.chosen) H := hP
            refine lv_iinc (v := nI (k + 1)) (lv' := [(4, .int (nI (k + 1))), (0, .ref h), (1, .long b_), (3, .int (nI j))]) hx hb dX3_write_70 hl (k := 0) rfl (nI_1 k) (by decide) rfl (fun ls hl => ?_)
            refine lv_goto (tgt := 33) hx hb dX3_write_73 rfl ?_
            have eh_6 : f_5 = wrT σ b_ (k + 1) := (by subst_vars; rw [wrT])
            have hP : va_P D vwCl (mX dA h ad (wrT σ b_ (k + 1)) ((σ.len + k) + 1) σ.wt σ.pr σ.tools σ.load σ.purse σ.beg σ.ways σ.told σ.calls σ.sm σ.sorts σ.visits σ.vm τ.read τ.rm τ.at_ τ.place τ.end_ τ.ents τ.em τ.combos τ.all_ τ.weight τ.gain τ.ad_ τ.minute τ.ds τ.bl τ.chosen) H := by rw [← eh_6]; exact hP
            exact ih_3 (k + 1) (nI (k + 1)) ls _ _ (by omega) (by omega) rfl (lv_sub hl [0, 1, 2, 3] rfl) hP hS
      exact hL33_1 _ 0 0 ls _ _ (Nat.lt_succ_self _) (by omega) rfl (lv_sub hl [0, 1, 2, 3] rfl) hP hS
    · have h24 : ¬ ((σ.len + j) ≤ 200) := fun z9 => h24 ((nz_le (a := σ.len + j) (b := 200) (nz_add rfl rfl) rfl (by omega) (by omega)).mpr z9)
      refine lv_bipush (v := (-5)) hx hb dX3_write_27 rfl ?_
      exact rm_i (u := (σ, τ)) hQ hx hb hr hlocks hK hP hS (⟨by simp only [wrF, eq_true h9, eq_false h24, hix, if_true, if_false, ite_true, ite_false, not_true_eq_false, not_false_eq_true, and_true, true_and, and_false, false_and, or_true, true_or, or_false, false_or, and_self, or_self, eq_self], by subst_vars; simp only [wrS, eq_true h9, eq_false h24, hix, if_true, if_false, ite_true, ite_false, not_true_eq_false, not_false_eq_true, and_true, true_and, and_false, false_and, or_true, true_or, or_false, false_or, and_self, or_self, eq_self] <;> rfl⟩) dX3_write_29
  · have h9 : ¬ (inP ((n_ : Int32).toInt64) 1 8) := b01_0.mp h9
    refine lv_bipush (v := (-3)) hx hb dX3_write_12 rfl ?_
    exact rm_i (u := (σ, τ)) hQ hx hb hr hlocks hK hP hS (⟨by simp only [wrF, eq_false h9, if_true, if_false, ite_true, ite_false, not_true_eq_false, not_false_eq_true, and_true, true_and, and_false, false_and, or_true, true_or, or_false, false_or, and_self, or_self, eq_self], by subst_vars; simp only [wrS, eq_false h9, if_true, if_false, ite_true, ite_false, not_true_eq_false, not_false_eq_true, and_true, true_and, and_false, false_and, or_true, true_or, or_false, false_or, and_self, or_self, eq_self] <;> rfl⟩) dX3_write_14

def rmX3_erase : Room := { frames := 0, cells := 0, slots := 0, locals := 0 }
set_option maxHeartbeats 1000000 in
theorem mt_X3_erase (l : Launch) (D : va_G) (dA : Nat → ClassId) (h : Nat) (ad : Nat → Nat) (σ : St) (τ : Sc) (hmD : mD h ad) : Met l yX3_erase (ws_ yX3_erase cX3_erase 2 (some .int)) rmX3_erase (va_Pc [.ref h] (mB D dA h ad σ τ)) (va_Qi (fun r (u : MS) => r = nI σ.len ∧ u = (erS σ, τ)) (fun u t => mB D dA h ad u.1 u.2 t) (mA h ad)) 0 0 (mA h ad) := by
  refine w_start (by decide) (Nat.le_of_ble_eq_true rfl) ?_
  intro p e s m args below meth c Q ls hQ hx hb hr hlocks hml hown hnm hts hB hl
  have hown : s.vm.findClass RX3 = some m.cls := hown
  have hl : lv_has ls 2 [(0, .ref h)] := hl
  obtain ⟨hP, hK⟩ := hB
  have hP : va_P D vwCl (mX dA h ad σ.txt σ.len σ.wt σ.pr σ.tools σ.load σ.purse σ.beg σ.ways σ.told σ.calls σ.sm σ.sorts σ.visits σ.vm τ.read τ.rm τ.at_ τ.place τ.end_ τ.ents τ.em τ.combos τ.all_ τ.weight τ.gain τ.ad_ τ.minute τ.ds τ.bl τ.chosen) s.heap := hP
  have hS : va_S (mA h ad) s.heap s.heap [] := va_S.rf
  refine lv_aload_n hx hb dX3_erase_0 rfl (lv_at hl 0 rfl) ?_
  refine va_get (D := D) (ci := 0) (v := .int (nI σ.len)) (C := RX3) (T := TX3) (N := 31) hx hb hts in_X3 hown hK hP 0 rfl rfl 1 (by decide) (hts _ q1115) (fun _ h9 => h9) rfl dX3_erase_1 ?_
  refine lv_istore_n (lv' := [(1, .int (nI σ.len)), (0, .ref h)]) hx hb dX3_erase_4 rfl hl (by decide) rfl (fun ls hl => ?_)
  refine lv_aload_n hx hb dX3_erase_5 rfl (lv_at hl 1 rfl) ?_
  refine lv_iconst (v := 0) hx hb dX3_erase_6 rfl ?_
  refine va_put (D := D) (ci := 0) (v := .int (nI 0)) (ty := .int) (C := RX3) (T := TX3) (N := 31) hx hb hts in_X3 tyX3 tyX3_ok nmX3 hown hK hP (mD_va hmD dA σ τ) hS 0 rfl rfl 1 (by decide) (hts _ q1115) (fun _ h9 => h9) rfl (by decide +kernel) (rfl) (rfl) (Nat.le_of_ble_eq_true rfl) dX3_erase_7 (fun H locs hP _ hS => ?_)
  have hP : va_P D vwCl (mX dA h ad σ.txt 0 σ.wt σ.pr σ.tools σ.load σ.purse σ.beg σ.ways σ.told σ.calls σ.sm σ.sorts σ.visits σ.vm τ.read τ.rm τ.at_ τ.place τ.end_ τ.ents τ.em τ.combos τ.all_ τ.weight τ.gain τ.ad_ τ.minute τ.ds τ.bl τ.chosen) H := hP
  refine lv_iload_n hx hb dX3_erase_10 rfl (lv_at hl 0 rfl) ?_
  exact rm_i (u := (((σ.txt, 0, σ.wt, σ.pr, σ.tools, σ.load, σ.purse, σ.beg, σ.ways, σ.told, σ.calls, σ.sm, σ.sorts, σ.visits, σ.vm) : St), τ)) hQ hx hb hr hlocks hK hP hS (⟨rfl, rfl⟩) dX3_erase_11

def rmX3_visit : Room := { frames := 3, cells := 0, slots := 0, locals := 68 }
set_option maxHeartbeats 1000000 in
theorem mt_X3_visit (l : Launch) (D : va_G) (dA : Nat → ClassId) (h : Nat) (ad : Nat → Nat) (σ : St) (τ : Sc) (hmD : mD h ad) (c_ : Int32) (s_ : Int32) (bag : Int32) (hI : Inv σ) : Met l yX3_visit (ws_ yX3_visit cX3_visit 4 (some .int)) rmX3_visit (va_Pc [.ref h, .int c_, .int s_, .int bag] (mB D dA h ad σ τ)) (va_Qi (fun r (u : MS) => r = visF σ c_ s_ bag ∧ u = (visS σ c_ s_ bag, τ)) (fun u t => mB D dA h ad u.1 u.2 t) (mA h ad)) 0 0 (mA h ad) := by
  refine w_start (by decide) (Nat.le_of_ble_eq_true rfl) ?_
  intro p e s m args below meth c Q ls hQ hx hb hr hlocks hml hown hnm hts hB hl
  have hown : s.vm.findClass RX3 = some m.cls := hown
  have hl : lv_has ls 4 [(0, .ref h), (1, .int c_), (2, .int s_), (3, .int bag)] := hl
  obtain ⟨hP, hK⟩ := hB
  have hP : va_P D vwCl (mX dA h ad σ.txt σ.len σ.wt σ.pr σ.tools σ.load σ.purse σ.beg σ.ways σ.told σ.calls σ.sm σ.sorts σ.visits σ.vm τ.read τ.rm τ.at_ τ.place τ.end_ τ.ents τ.em τ.combos τ.all_ τ.weight τ.gain τ.ad_ τ.minute τ.ds τ.bl τ.chosen) s.heap := hP
  have hS : va_S (mA h ad) s.heap s.heap [] := va_S.rf
  have hvm := hI.vm
  refine lv_aload_n hx hb dX3_visit_0 rfl (lv_at hl 0 rfl) ?_
  refine lv_iload_n hx hb dX3_visit_1 rfl (lv_at hl 1 rfl) ?_
  refine lv_iload_n hx hb dX3_visit_2 rfl (lv_at hl 2 rfl) ?_
  refine cVi (As := [.int c_, .int s_]) (rest := []) ⟨hx, hb, hml, hown, hts⟩ (mt_X3_isSort l D dA h ad σ τ c_ s_ hI) (cw_X3_X3_isSort hts ⟨Nat.le_of_ble_eq_true rfl, Nat.le_of_ble_eq_true rfl⟩) mB_bl (mB_now hK hP) (va_recv hK hP (ci := 0) (q0 := 0) rfl rfl) rfl hl.1 rfl (Nat.le_of_ble_eq_true rfl) dX3_visit_3 ⟨Nat.le_of_ble_eq_true rfl, Nat.le_of_ble_eq_true rfl⟩ ?_
  refine lv_if_ne (tgt := 12) hx hb dX3_visit_6 rfl (fun h6 => ?_) (fun h6 => ?_)
  · have h6 : sortP σ c_ s_ := b01_n h6
    obtain ⟨j, hj, rfl⟩ := in5 h6.1.1
    have hix_j : ix (nI j) = j := ix_nI hj (by decide)
    have hsm := hI.sm j hj
    obtain ⟨i, hi, rfl⟩ := in_sm hsm (by have q := h6.2; rw [hix_j] at q; exact q)
    have his : ix (nI i) = i := ix_nI hi (by omega)
    refine lv_iload_n hx hb dX3_visit_12 rfl (lv_at hl 3 rfl) ?_
    refine cSi (As := [.int bag]) (rest := []) ⟨hx, hb, hml, hown, hts⟩ (mt_X3_isBag l bag) (cw_X3_X3_isBag hts ⟨Nat.le_of_ble_eq_true rfl, Nat.le_of_ble_eq_true rfl⟩) w_blT (fun _ _ _ => trivial) rfl hl.1 rfl (Nat.le_of_ble_eq_true rfl) dX3_visit_13 ⟨Nat.le_of_ble_eq_true rfl, Nat.le_of_ble_eq_true rfl⟩ ?_
    refine lv_if_ne (tgt := 22) hx hb dX3_visit_16 rfl (fun h16 => ?_) (fun h16 => ?_)
    · have h16 : bagP bag := b01_n h16
      refine lv_aload_n hx hb dX3_visit_22 rfl (lv_at hl 0 rfl) ?_
      refine va_get (D := D) (ci := 0) (v := .int (nI σ.vm)) (C := RX3) (T := TX3) (N := 31) hx hb hts in_X3 hown hK hP 0 rfl rfl 16 (by decide) (hts _ q1130) (fun _ h9 => h9) rfl dX3_visit_23 ?_
      refine lv_bipush (v := 16) hx hb dX3_visit_26 rfl ?_
      refine lv_icmp_ne (tgt := 34) hx hb dX3_visit_28 rfl (fun h28 => ?_) (fun h28 => ?_)
      · have h28 : ¬ (σ.vm = 16) := fun z9 => h28 ((nz_eq (a := σ.vm) (b := 16) rfl rfl (by omega) (by omega)).mpr z9)
        refine lv_aload_n hx hb dX3_visit_34 rfl (lv_at hl 0 rfl) ?_
        refine va_get (D := D) (ci := 0) (v := .ref (ad 8)) (C := RX3) (T := TX3) (N := 31) hx hb hts in_X3 hown hK hP 0 rfl rfl 15 (by decide) (hts _ q1129) (fun _ h9 => h9) rfl dX3_visit_35 ?_
        refine lv_iconst (v := 3) hx hb dX3_visit_38 rfl ?_
        refine lv_aload_n hx hb dX3_visit_39 rfl (lv_at hl 0 rfl) ?_
        refine va_get (D := D) (ci := 0) (v := .int (nI σ.vm)) (C := RX3) (T := TX3) (N := 31) hx hb hts in_X3 hown hK hP 0 rfl rfl 16 (by decide) (hts _ q1130) (fun _ h9 => h9) rfl dX3_visit_40 ?_
        refine lv_imul hx hb dX3_visit_43 ?_
        refine lv_aload_n hx hb dX3_visit_44 rfl (lv_at hl 0 rfl) ?_
        refine va_get (D := D) (ci := 0) (v := .ref (ad 7)) (C := RX3) (T := TX3) (N := 31) hx hb hts in_X3 hown hK hP 0 rfl rfl 14 (by decide) (hts _ q1128) (fun _ h9 => h9) rfl dX3_visit_45 ?_
        refine lv_bipush (v := 16) hx hb dX3_visit_48 rfl ?_
        refine lv_iload_n hx hb dX3_visit_50 rfl (lv_at hl 1 rfl) ?_
        refine lv_imul hx hb dX3_visit_51 ?_
        refine lv_iconst (v := 4) hx hb dX3_visit_52 rfl ?_
        refine lv_iload_n hx hb dX3_visit_53 rfl (lv_at hl 2 rfl) ?_
        refine lv_imul hx hb dX3_visit_54 ?_
        refine lv_iadd hx hb dX3_visit_55 ?_
        refine lv_iconst (v := 2) hx hb dX3_visit_56 rfl ?_
        refine lv_iadd hx hb dX3_visit_57 ?_
        refine wa_iald (f := σ.sorts) hx hb hK hP 8 0 rfl rfl (((16 * j) + (4 * i)) + 2) ((nz_add (nz_add (nz_mul rfl rfl) (nz_mul rfl rfl)) rfl)) (by omega) (by decide) dX3_visit_58 ?_
        refine wa_iast (f := σ.visits) hx hb hK hP (mD_va hmD dA σ τ) hS 9 0 rfl rfl (3 * σ.vm) ((nz_mul rfl rfl)) (by omega) (by decide) dX3_visit_59 (fun H locs f_1 ef_1 hP hS => ?_)
        have hP : va_P D vwCl (mX dA h ad σ.txt σ.len σ.wt σ.pr σ.tools σ.load σ.purse σ.beg σ.ways σ.told σ.calls σ.sm σ.sorts f_1 σ.vm τ.read τ.rm τ.at_ τ.place τ.end_ τ.ents τ.em τ.combos τ.all_ τ.weight τ.gain τ.ad_ τ.minute τ.ds τ.bl τ.chosen) H := hP
        refine lv_aload_n hx hb dX3_visit_60 rfl (lv_at hl 0 rfl) ?_
        refine va_get (D := D) (ci := 0) (v := .ref (ad 8)) (C := RX3) (T := TX3) (N := 31) hx hb hts in_X3 hown hK hP 0 rfl rfl 15 (by decide) (hts _ q1129) (fun _ h9 => h9) rfl dX3_visit_61 ?_
        refine lv_iconst (v := 3) hx hb dX3_visit_64 rfl ?_
        refine lv_aload_n hx hb dX3_visit_65 rfl (lv_at hl 0 rfl) ?_
        refine va_get (D := D) (ci := 0) (v := .int (nI σ.vm)) (C := RX3) (T := TX3) (N := 31) hx hb hts in_X3 hown hK hP 0 rfl rfl 16 (by decide) (hts _ q1130) (fun _ h9 => h9) rfl dX3_visit_66 ?_
        refine lv_imul hx hb dX3_visit_69 ?_
        refine lv_iconst (v := 1) hx hb dX3_visit_70 rfl ?_
        refine lv_iadd hx hb dX3_visit_71 ?_
        refine lv_aload_n hx hb dX3_visit_72 rfl (lv_at hl 0 rfl) ?_
        refine va_get (D := D) (ci := 0) (v := .ref (ad 7)) (C := RX3) (T := TX3) (N := 31) hx hb hts in_X3 hown hK hP 0 rfl rfl 14 (by decide) (hts _ q1128) (fun _ h9 => h9) rfl dX3_visit_73 ?_
        refine lv_bipush (v := 16) hx hb dX3_visit_76 rfl ?_
        refine lv_iload_n hx hb dX3_visit_78 rfl (lv_at hl 1 rfl) ?_
        refine lv_imul hx hb dX3_visit_79 ?_
        refine lv_iconst (v := 4) hx hb dX3_visit_80 rfl ?_
        refine lv_iload_n hx hb dX3_visit_81 rfl (lv_at hl 2 rfl) ?_
        refine lv_imul hx hb dX3_visit_82 ?_
        refine lv_iadd hx hb dX3_visit_83 ?_
        refine lv_iconst (v := 3) hx hb dX3_visit_84 rfl ?_
        refine lv_iadd hx hb dX3_visit_85 ?_
        refine wa_iald (f := σ.sorts) hx hb hK hP 8 0 rfl rfl (((16 * j) + (4 * i)) + 3) ((nz_add (nz_add (nz_mul rfl rfl) (nz_mul rfl rfl)) rfl)) (by omega) (by decide) dX3_visit_86 ?_
        refine wa_iast (f := f_1) hx hb hK hP (mD_va hmD dA ((σ.txt, σ.len, σ.wt, σ.pr, σ.tools, σ.load, σ.purse, σ.beg, σ.ways, σ.told, σ.calls, σ.sm, σ.sorts, f_1, σ.vm) : St) τ) hS 9 0 rfl rfl ((3 * σ.vm) + 1) ((nz_add (nz_mul rfl rfl) rfl)) (by omega) (by decide) dX3_visit_87 (fun H locs f_2 ef_2 hP hS => ?_)
        have hP : va_P D vwCl (mX dA h ad σ.txt σ.len σ.wt σ.pr σ.tools σ.load σ.purse σ.beg σ.ways σ.told σ.calls σ.sm σ.sorts f_2 σ.vm τ.read τ.rm τ.at_ τ.place τ.end_ τ.ents τ.em τ.combos τ.all_ τ.weight τ.gain τ.ad_ τ.minute τ.ds τ.bl τ.chosen) H := hP
        refine lv_aload_n hx hb dX3_visit_88 rfl (lv_at hl 0 rfl) ?_
        refine va_get (D := D) (ci := 0) (v := .ref (ad 8)) (C := RX3) (T := TX3) (N := 31) hx hb hts in_X3 hown hK hP 0 rfl rfl 15 (by decide) (hts _ q1129) (fun _ h9 => h9) rfl dX3_visit_89 ?_
        refine lv_iconst (v := 3) hx hb dX3_visit_92 rfl ?_
        refine lv_aload_n hx hb dX3_visit_93 rfl (lv_at hl 0 rfl) ?_
        refine va_get (D := D) (ci := 0) (v := .int (nI σ.vm)) (C := RX3) (T := TX3) (N := 31) hx hb hts in_X3 hown hK hP 0 rfl rfl 16 (by decide) (hts _ q1130) (fun _ h9 => h9) rfl dX3_visit_94 ?_
        refine lv_imul hx hb dX3_visit_97 ?_
        refine lv_iconst (v := 2) hx hb dX3_visit_98 rfl ?_
        refine lv_iadd hx hb dX3_visit_99 ?_
        refine lv_iload_n hx hb dX3_visit_100 rfl (lv_at hl 3 rfl) ?_
        refine wa_iast (f := f_2) hx hb hK hP (mD_va hmD dA ((σ.txt, σ.len, σ.wt, σ.pr, σ.tools, σ.load, σ.purse, σ.beg, σ.ways, σ.told, σ.calls, σ.sm, σ.sorts, f_2, σ.vm) : St) τ) hS 9 0 rfl rfl ((3 * σ.vm) + 2) ((nz_add (nz_mul rfl rfl) rfl)) (by omega) (by decide) dX3_visit_101 (fun H locs f_3 ef_3 hP hS => ?_)
        have hP : va_P D vwCl (mX dA h ad σ.txt σ.len σ.wt σ.pr σ.tools σ.load σ.purse σ.beg σ.ways σ.told σ.calls σ.sm σ.sorts f_3 σ.vm τ.read τ.rm τ.at_ τ.place τ.end_ τ.ents τ.em τ.combos τ.all_ τ.weight τ.gain τ.ad_ τ.minute τ.ds τ.bl τ.chosen) H := hP
        refine lv_aload_n hx hb dX3_visit_102 rfl (lv_at hl 0 rfl) ?_
        refine lv_dup hx hb dX3_visit_103 rfl ?_
        refine va_get (D := D) (ci := 0) (v := .int (nI σ.vm)) (C := RX3) (T := TX3) (N := 31) hx hb hts in_X3 hown hK hP 0 rfl rfl 16 (by decide) (hts _ q1130) (fun _ h9 => h9) rfl dX3_visit_104 ?_
        refine lv_iconst (v := 1) hx hb dX3_visit_107 rfl ?_
        refine lv_iadd hx hb dX3_visit_108 ?_
        refine w_topi (nz_add rfl rfl) ?_
        refine va_put (D := D) (ci := 0) (v := .int (nI (σ.vm + 1))) (ty := .int) (C := RX3) (T := TX3) (N := 31) hx hb hts in_X3 tyX3 tyX3_ok nmX3 hown hK hP (mD_va hmD dA ((σ.txt, σ.len, σ.wt, σ.pr, σ.tools, σ.load, σ.purse, σ.beg, σ.ways, σ.told, σ.calls, σ.sm, σ.sorts, f_3, σ.vm) : St) τ) hS 0 rfl rfl 16 (by decide) (hts _ q1130) (fun _ h9 => h9) rfl (by decide +kernel) (rfl) (rfl) (Nat.le_of_ble_eq_true rfl) dX3_visit_109 (fun H locs hP _ hS => ?_)
        have hP : va_P D vwCl (mX dA h ad σ.txt σ.len σ.wt σ.pr σ.tools σ.load σ.purse σ.beg σ.ways σ.told σ.calls σ.sm σ.sorts f_3 (σ.vm + 1) τ.read τ.rm τ.at_ τ.place τ.end_ τ.ents τ.em τ.combos τ.all_ τ.weight τ.gain τ.ad_ τ.minute τ.ds τ.bl τ.chosen) H := hP
        refine lv_aload_n hx hb dX3_visit_112 rfl (lv_at hl 0 rfl) ?_
        refine va_get (D := D) (ci := 0) (v := .int (nI (σ.vm + 1))) (C := RX3) (T := TX3) (N := 31) hx hb hts in_X3 hown hK hP 0 rfl rfl 16 (by decide) (hts _ q1130) (fun _ h9 => h9) rfl dX3_visit_113 ?_
        exact rm_i (u := (((σ.txt, σ.len, σ.wt, σ.pr, σ.tools, σ.load, σ.purse, σ.beg, σ.ways, σ.told, σ.calls, σ.sm, σ.sorts, f_3, σ.vm + 1) : St), τ)) hQ hx hb hr hlocks hK hP hS (⟨by simp only [visF, eq_true h6, eq_true h16, eq_false h28, hix_j, his, if_true, if_false, ite_true, ite_false, not_true_eq_false, not_false_eq_true, and_true, true_and, and_false, false_and, or_true, true_or, or_false, false_or, and_self, or_self, eq_self], by subst_vars; simp only [visS, eq_true h6, eq_true h16, eq_false h28, hix_j, his, if_true, if_false, ite_true, ite_false, not_true_eq_false, not_false_eq_true, and_true, true_and, and_false, false_and, or_true, true_or, or_false, false_or, and_self, or_self, eq_self] <;> rfl⟩) dX3_visit_116
      · have h28 : σ.vm = 16 := (nz_eq (a := σ.vm) (b := 16) rfl rfl (by omega) (by omega)).mp h28
        refine lv_bipush (v := (-5)) hx hb dX3_visit_31 rfl ?_
        exact rm_i (u := (σ, τ)) hQ hx hb hr hlocks hK hP hS (⟨by simp only [visF, eq_true h6, eq_true h16, eq_true h28, hix_j, his, if_true, if_false, ite_true, ite_false, not_true_eq_false, not_false_eq_true, and_true, true_and, and_false, false_and, or_true, true_or, or_false, false_or, and_self, or_self, eq_self], by subst_vars; simp only [visS, eq_true h6, eq_true h16, eq_true h28, hix_j, his, if_true, if_false, ite_true, ite_false, not_true_eq_false, not_false_eq_true, and_true, true_and, and_false, false_and, or_true, true_or, or_false, false_or, and_self, or_self, eq_self] <;> rfl⟩) dX3_visit_33
    · have h16 : ¬ (bagP bag) := b01_0.mp h16
      refine lv_bipush (v := (-3)) hx hb dX3_visit_19 rfl ?_
      exact rm_i (u := (σ, τ)) hQ hx hb hr hlocks hK hP hS (⟨by simp only [visF, eq_true h6, eq_false h16, hix_j, his, if_true, if_false, ite_true, ite_false, not_true_eq_false, not_false_eq_true, and_true, true_and, and_false, false_and, or_true, true_or, or_false, false_or, and_self, or_self, eq_self], by subst_vars; simp only [visS, eq_true h6, eq_false h16, hix_j, his, if_true, if_false, ite_true, ite_false, not_true_eq_false, not_false_eq_true, and_true, true_and, and_false, false_and, or_true, true_or, or_false, false_or, and_self, or_self, eq_self] <;> rfl⟩) dX3_visit_21
  · have h6 : ¬ (sortP σ c_ s_) := b01_0.mp h6
    refine lv_bipush (v := (-2)) hx hb dX3_visit_9 rfl ?_
    exact rm_i (u := (σ, τ)) hQ hx hb hr hlocks hK hP hS (⟨by simp only [visF, eq_false h6, if_true, if_false, ite_true, ite_false, not_true_eq_false, not_false_eq_true, and_true, true_and, and_false, false_and, or_true, true_or, or_false, false_or, and_self, or_self, eq_self], by subst_vars; simp only [visS, eq_false h6, if_true, if_false, ite_true, ite_false, not_true_eq_false, not_false_eq_true, and_true, true_and, and_false, false_and, or_true, true_or, or_false, false_or, and_self, or_self, eq_self] <;> rfl⟩) dX3_visit_11
