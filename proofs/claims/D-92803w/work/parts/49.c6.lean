/-! THE COMPONENT's METHODS 6: a row gone through -/
set_option maxRecDepth 100000
/-- what was brought, what is done, the end -/
abbrev OT : Type := Int64 × Int64 × Int32
def srtT (f : Nat → OT → OT) : Nat → OT → OT
  | 0, t => t
  | k + 1, t => f k (srtT f k t)
def prT (σ : St) (kn : Int32) (w : Int64) (c k : Nat) : Int64 := if nI c = kn then w else w / (total σ c).toInt64 * (σ.sorts (16 * c + 4 * k)).toInt64
abbrev GoT : Type := Nat → Nat → Int32 → Int32 → Int32 → Int64 → Int32 → OT → OT
/-- one sort of a call -/
def sorT (σ : St) (kn so : Int32) (G : GoT) (i x : Nat) (m bag sum : Int32) (w : Int64) (dn : Int32) (c k : Nat) (t : OT) : OT :=
  if nI c = kn ∧ ¬ nI k = so then t
  else if leftF σ bag c k = -1 then G (i + 1) (plF σ c) (arrF σ x m c + σ.calls (6 * c + 5)) bag (sum - σ.calls (6 * c + 4)) (prT σ kn w c k) 0 t
  else G (i + 1) (plF σ c) (arrF σ x m c + σ.sorts (16 * c + 4 * k + 1)) (leftF σ bag c k) (sum + σ.calls (6 * c + 3)) (prT σ kn w c k) dn t
def stpT (σ : St) (row full kn so : Int32) (G : GoT) : GoT := fun i x m bag sum w dn t =>
  if en row i = 6 then G (i + 1) 0 (m + σ.ways (6 * x + 0)) full sum w dn t
  else if lateP σ (arrF σ x m (en row i)) (en row i) then G (i + 1) (plF σ (en row i)) (m + σ.ways (6 * x + plF σ (en row i))) bag (sum - σ.calls (6 * en row i + 4)) w 0 t
  else srtT (sorT σ kn so G i x m bag sum w dn (en row i)) (σ.sm (en row i)) t
def goT (σ : St) (row full kn so : Int32) : Nat → GoT
  | 0 => fun _ _ m _ sum w dn t => (t.1 + w * sum.toInt64, t.2.1 + (if dn = 0 then 0 else w), if t.2.2 < m then m else t.2.2)
  | d + 1 => stpT σ row full kn so (goT σ row full kn so d)
theorem goT_h {σ : St} {row full kn so : Int32} {d i x : Nat} {m bag sum : Int32} {w : Int64} {dn : Int32} {t : OT} (h : en row i = 6) : goT σ row full kn so (d + 1) i x m bag sum w dn t = goT σ row full kn so d (i + 1) 0 (m + σ.ways (6 * x + 0)) full sum w dn t := by
  show stpT _ _ _ _ _ _ _ _ _ _ _ _ _ _ = _
  unfold stpT; rw [if_pos h]
theorem goT_l {σ : St} {row full kn so : Int32} {d i x : Nat} {m bag sum : Int32} {w : Int64} {dn : Int32} {t : OT} (h : ¬ en row i = 6) (hl : lateP σ (arrF σ x m (en row i)) (en row i)) : goT σ row full kn so (d + 1) i x m bag sum w dn t = goT σ row full kn so d (i + 1) (plF σ (en row i)) (m + σ.ways (6 * x + plF σ (en row i))) bag (sum - σ.calls (6 * en row i + 4)) w 0 t := by
  show stpT _ _ _ _ _ _ _ _ _ _ _ _ _ _ = _
  unfold stpT; rw [if_neg h, if_pos hl]
theorem goT_c {σ : St} {row full kn so : Int32} {d i x : Nat} {m bag sum : Int32} {w : Int64} {dn : Int32} {t : OT} (h : ¬ en row i = 6) (hl : ¬ lateP σ (arrF σ x m (en row i)) (en row i)) : goT σ row full kn so (d + 1) i x m bag sum w dn t = srtT (sorT σ kn so (goT σ row full kn so d) i x m bag sum w dn (en row i)) (σ.sm (en row i)) t := by
  show stpT _ _ _ _ _ _ _ _ _ _ _ _ _ _ = _
  unfold stpT; rw [if_neg h, if_neg hl]
theorem sor_skip {σ : St} {kn so : Int32} {G : GoT} {i x : Nat} {m bag sum : Int32} {w : Int64} {dn : Int32} {c k : Nat} {t : OT} (h1 : nI c = kn) (h2 : ¬ nI k = so) : t = sorT σ kn so G i x m bag sum w dn c k t := by
  unfold sorT; rw [if_pos ⟨h1, h2⟩]
theorem sor_not {σ : St} {kn so : Int32} {G : GoT} {i x : Nat} {m bag sum : Int32} {w : Int64} {dn : Int32} {c k : Nat} {t : OT} (h : ¬ (nI c = kn ∧ ¬ nI k = so)) (hm : leftF σ bag c k = -1) : G (i + 1) (plF σ c) (arrF σ x m c + σ.calls (6 * c + 5)) bag (sum - σ.calls (6 * c + 4)) (prT σ kn w c k) 0 t = sorT σ kn so G i x m bag sum w dn c k t := by
  unfold sorT; rw [if_neg h, if_pos hm]
theorem sor_met {σ : St} {kn so : Int32} {G : GoT} {i x : Nat} {m bag sum : Int32} {w : Int64} {dn : Int32} {c k : Nat} {t : OT} (h : ¬ (nI c = kn ∧ ¬ nI k = so)) (hm : ¬ leftF σ bag c k = -1) : G (i + 1) (plF σ c) (arrF σ x m c + σ.sorts (16 * c + 4 * k + 1)) (leftF σ bag c k) (sum + σ.calls (6 * c + 3)) (prT σ kn w c k) dn t = sorT σ kn so G i x m bag sum w dn c k t := by
  unfold sorT; rw [if_neg h, if_neg hm]
/-- the product of likely ones of a row, but for the call that is known -/
def belT (σ : St) (row kn : Int32) : Nat → Int64
  | 0 => 1
  | k + 1 => belT σ row kn k * (if en row k = 6 then 1 else if nI (en row k) = kn then 1 else (total σ (en row k)).toInt64)

def rmX1_at : Room := { frames := 0, cells := 0, slots := 0, locals := 0 }
set_option maxHeartbeats 1000000 in
theorem mt_X1_at (l : Launch) (D : va_G) (dA : Nat → ClassId) (x : Nat) (ad : Nat → Nat) (μ : Lay) (σ : St) (ω : Om) (row : Int32) (i_ : Nat) (hI : Inv σ) (hR : Rel dA μ σ) : Met l yX1_at (ws_ yX1_at cX1_at 2 (some .int)) rmX1_at (va_Pc [.ref (ad 4), .int (nI i_)] (cB D dA x ad μ σ ((ω.full, row, ω.many, ω.parts, ω.known, ω.sort, ω.brings, ω.done, ω.below, ω.end_, ω.mb) : Om))) (roQ (.int (entF row i_))) 0 0 (fun _ => False) := by
  refine w_start (by decide) (Nat.le_of_ble_eq_true rfl) ?_
  intro p e s m args below meth c Q ls hQ hx hb hr hlocks hml hown hnm hts hB hl
  have hown : s.vm.findClass RX1 = some m.cls := hown
  have hl : lv_has ls 2 [(0, .ref (ad 4)), (1, .int (nI i_))] := hl
  obtain ⟨hP, hK, hN⟩ := hB
  have hP : va_P D vwCl (cW dA x ad μ σ ((ω.full, row, ω.many, ω.parts, ω.known, ω.sort, ω.brings, ω.done, ω.below, ω.end_, ω.mb) : Om)) s.heap := hP
  refine lv_aload_n hx hb dX1_at_0 rfl (lv_at hl 0 rfl) ?_
  refine va_get (D := D) (ci := 2) (v := .int row) (C := RX1) (T := TX1) (N := 11) hx hb hts in_X1 hown hK hP 5 rfl rfl 1 (by decide) (hts _ q130) (fun _ h9 => h9) rfl dX1_at_1 ?_
  refine lv_iconst (v := 4) hx hb dX1_at_4 rfl ?_
  refine lv_iload_n hx hb dX1_at_5 rfl (lv_at hl 1 rfl) ?_
  refine lv_imul hx hb dX1_at_6 ?_
  refine lv_ishr hx hb dX1_at_7 ?_
  refine lv_bipush (v := 15) hx hb dX1_at_8 rfl ?_
  refine lv_iand hx hb dX1_at_10 ?_
  refine w_topi (y := entF row i_) (rfl) ?_
  exact q_i hQ hx hb hr hlocks rfl (rfl) dX1_at_11

def rmX1_lay : Room := { frames := 3, cells := 0, slots := 0, locals := 62 }
set_option maxHeartbeats 1000000 in
theorem mt_X1_lay (l : Launch) (D : va_G) (dA : Nat → ClassId) (x : Nat) (ad : Nat → Nat) (μ : Lay) (σ : St) (ω : Om) (hcD : cD x ad μ) (row : Int32) (j : Nat) (kn : Int32) (so : Int32) (hI : Inv σ) (hR : Rel dA μ σ) : Met l yX1_lay (ws_ yX1_lay cX1_lay 5 (some (.object "CarryUp$Walk"))) rmX1_lay (va_Pc [.ref (ad 4), .int row, .int (nI j), .int kn, .int so] (cB D dA x ad μ σ ω)) (cQ (some (.ref (ad 4))) D dA x ad μ σ ((ω.full, row, nI j, ptF σ.tools 8, kn, so, ω.brings, ω.done, ω.below, ω.end_, ω.mb) : Om)) 0 0 (cA x ad μ) := by
  refine w_start (by decide) (Nat.le_of_ble_eq_true rfl) ?_
  intro p e s m args below meth c Q ls hQ hx hb hr hlocks hml hown hnm hts hB hl
  have hown : s.vm.findClass RX1 = some m.cls := hown
  have hl : lv_has ls 5 [(0, .ref (ad 4)), (1, .int row), (2, .int (nI j)), (3, .int kn), (4, .int so)] := hl
  obtain ⟨hP, hK, hN⟩ := hB
  have hP : va_P D vwCl (cW dA x ad μ σ ω) s.heap := hP
  have hS : va_S (cA x ad μ) s.heap s.heap [] := va_S.rf
  refine lv_aload_n hx hb dX1_lay_0 rfl (lv_at hl 0 rfl) ?_
  refine lv_iload_n hx hb dX1_lay_1 rfl (lv_at hl 1 rfl) ?_
  refine va_put (D := D) (ci := 2) (v := .int row) (ty := .int) (C := RX1) (T := TX1) (N := 11) hx hb hts in_X1 tyX1 tyX1_ok nmX1 hown hK hP (cD_va hcD dA σ ω) hS 5 rfl rfl 1 (by decide) (hts _ q130) (fun _ h9 => h9) rfl (by decide +kernel) rfl rfl (Nat.le_of_ble_eq_true rfl) dX1_lay_2 (fun H locs hP _ hS => ?_)
  have hP : va_P D vwCl (cW dA x ad μ σ ((ω.full, row, ω.many, ω.parts, ω.known, ω.sort, ω.brings, ω.done, ω.below, ω.end_, ω.mb) : Om)) H := hP
  refine lv_aload_n hx hb dX1_lay_5 rfl (lv_at hl 0 rfl) ?_
  refine lv_iload_n hx hb dX1_lay_6 rfl (lv_at hl 2 rfl) ?_
  refine va_put (D := D) (ci := 2) (v := .int (nI j)) (ty := .int) (C := RX1) (T := TX1) (N := 11) hx hb hts in_X1 tyX1 tyX1_ok nmX1 hown hK hP (cD_va hcD dA σ ((ω.full, row, ω.many, ω.parts, ω.known, ω.sort, ω.brings, ω.done, ω.below, ω.end_, ω.mb) : Om)) hS 5 rfl rfl 2 (by decide) (hts _ q131) (fun _ h9 => h9) rfl (by decide +kernel) rfl rfl (Nat.le_of_ble_eq_true rfl) dX1_lay_7 (fun H locs hP _ hS => ?_)
  have hP : va_P D vwCl (cW dA x ad μ σ ((ω.full, row, nI j, ω.parts, ω.known, ω.sort, ω.brings, ω.done, ω.below, ω.end_, ω.mb) : Om)) H := hP
  refine lv_aload_n hx hb dX1_lay_10 rfl (lv_at hl 0 rfl) ?_
  refine lv_iload_n hx hb dX1_lay_11 rfl (lv_at hl 3 rfl) ?_
  refine va_put (D := D) (ci := 2) (v := .int kn) (ty := .int) (C := RX1) (T := TX1) (N := 11) hx hb hts in_X1 tyX1 tyX1_ok nmX1 hown hK hP (cD_va hcD dA σ ((ω.full, row, nI j, ω.parts, ω.known, ω.sort, ω.brings, ω.done, ω.below, ω.end_, ω.mb) : Om)) hS 5 rfl rfl 4 (by decide) (hts _ q133) (fun _ h9 => h9) rfl (by decide +kernel) rfl rfl (Nat.le_of_ble_eq_true rfl) dX1_lay_12 (fun H locs hP _ hS => ?_)
  have hP : va_P D vwCl (cW dA x ad μ σ ((ω.full, row, nI j, ω.parts, kn, ω.sort, ω.brings, ω.done, ω.below, ω.end_, ω.mb) : Om)) H := hP
  refine lv_aload_n hx hb dX1_lay_15 rfl (lv_at hl 0 rfl) ?_
  refine lv_iload hx hb dX1_lay_16 (lv_at hl 4 rfl) ?_
  refine va_put (D := D) (ci := 2) (v := .int so) (ty := .int) (C := RX1) (T := TX1) (N := 11) hx hb hts in_X1 tyX1 tyX1_ok nmX1 hown hK hP (cD_va hcD dA σ ((ω.full, row, nI j, ω.parts, kn, ω.sort, ω.brings, ω.done, ω.below, ω.end_, ω.mb) : Om)) hS 5 rfl rfl 5 (by decide) (hts _ q134) (fun _ h9 => h9) rfl (by decide +kernel) rfl rfl (Nat.le_of_ble_eq_true rfl) dX1_lay_18 (fun H locs hP _ hS => ?_)
  have hP : va_P D vwCl (cW dA x ad μ σ ((ω.full, row, nI j, ω.parts, kn, so, ω.brings, ω.done, ω.below, ω.end_, ω.mb) : Om)) H := hP
  refine lv_aload_n hx hb dX1_lay_21 rfl (lv_at hl 0 rfl) ?_
  refine lv_aload_n hx hb dX1_lay_22 rfl (lv_at hl 0 rfl) ?_
  refine va_get (D := D) (ci := 2) (v := .ref x) (C := RX1) (T := TX1) (N := 11) hx hb hts in_X1 hown hK hP 5 rfl rfl 10 (by decide) (hts _ q143) (fun _ h9 => h9) rfl dX1_lay_23 ?_
  refine dVN (v := .int (ptF σ.tools 8)) (As := []) (rest := [.ref (ad 4)]) ⟨hx, hb, hml, hown, hts⟩ (mt_X0_parts l D dA x ad μ σ ((ω.full, row, nI j, ω.parts, kn, so, ω.brings, ω.done, ω.below, ω.end_, ω.mb) : Om) hI hR) (⟨va_cnB 0 hts (lw_meth q891) rfl rfl rfl hN.2.2.2.2.1 (hts _ q77) (by decide +kernel) ⟨Nat.le_of_ble_eq_true rfl, Nat.le_of_ble_eq_true rfl⟩, hts _ q890, hts _ qs21⟩) cB_bw (cB_now hK hN hP) (va_recv hK hP (ci := 1) (q0 := 0) rfl rfl) rfl hl.1 rfl (Nat.le_of_ble_eq_true rfl) dX1_lay_26 ⟨Nat.le_of_ble_eq_true rfl, Nat.le_of_ble_eq_true rfl⟩ ?_
  refine lv_topi (fun g_1 eg_1 => ?_)
  refine va_put (D := D) (ci := 2) (v := .int g_1) (ty := .int) (C := RX1) (T := TX1) (N := 11) hx hb hts in_X1 tyX1 tyX1_ok nmX1 hown hK hP (cD_va hcD dA σ ((ω.full, row, nI j, ω.parts, kn, so, ω.brings, ω.done, ω.below, ω.end_, ω.mb) : Om)) hS 5 rfl rfl 3 (by decide) (hts _ q132) (fun _ h9 => h9) rfl (by decide +kernel) rfl rfl (Nat.le_of_ble_eq_true rfl) dX1_lay_29 (fun H locs hP _ hS => ?_)
  have hP : va_P D vwCl (cW dA x ad μ σ ((ω.full, row, nI j, g_1, kn, so, ω.brings, ω.done, ω.below, ω.end_, ω.mb) : Om)) H := hP
  refine lv_aload_n hx hb dX1_lay_32 rfl (lv_at hl 0 rfl) ?_
  exact cm_a hQ hx hb hr (Or.inl ⟨_, rfl⟩) hlocks hK hN hP hS (rfl) (rfl) (by subst_vars; rfl) dX1_lay_33

def rmX1_goOn_0 : Room := { frames := 1, cells := 0, slots := 0, locals := 29 }
set_option maxHeartbeats 1000000 in
theorem mt_X1_goOn_0 (l : Launch) (D : va_G) (dA : Nat → ClassId) (x : Nat) (ad : Nat → Nat) (μ : Lay) (σ : St) (ω : Om) (hcD : cD x ad μ) (full : Int32) (row : Int32) (j : Nat) (kn : Int32) (so : Int32) (i_ : Nat) (x_ : Nat) (m_ : Int32) (bag : Int32) (sm_ : Int32) (w_ : Int64) (dn_ : Int32) (hI : Inv σ) (hR : Rel dA μ σ) (hx6 : x_ < 6) (hy : byP bag) (hf : byP full) (hoT : okT σ row j) (hij : i_ + 0 = j) (hj : j ≤ 6) : Met l yX1_goOn (ws_ yX1_goOn cX1_goOn 16 none) rmX1_goOn_0 (va_Pc [.ref (ad 4), .int (nI i_), .int (nI x_), .int m_, .int bag, .int sm_, .long w_, .int dn_] (cB D dA x ad μ σ ((full, row, nI j, ptF σ.tools 8, kn, so, ω.brings, ω.done, ω.below, ω.end_, ω.mb) : Om))) (cQ none D dA x ad μ σ ((full, row, nI j, ptF σ.tools 8, kn, so, (goT σ row full kn so 0 i_ x_ m_ bag sm_ w_ dn_ (ω.brings, ω.done, ω.end_)).1, (goT σ row full kn so 0 i_ x_ m_ bag sm_ w_ dn_ (ω.brings, ω.done, ω.end_)).2.1, ω.below, (goT σ row full kn so 0 i_ x_ m_ bag sm_ w_ dn_ (ω.brings, ω.done, ω.end_)).2.2, ω.mb) : Om)) 0 0 (cA x ad μ) := by
  refine w_start (by decide) (Nat.le_of_ble_eq_true rfl) ?_
  intro p e s m args below meth c Q ls hQ hx hb hr hlocks hml hown hnm hts hB hl
  have hown : s.vm.findClass RX1 = some m.cls := hown
  have hl : lv_has ls 16 [(0, .ref (ad 4)), (1, .int (nI i_)), (2, .int (nI x_)), (3, .int m_), (4, .int bag), (5, .int sm_), (6, .long w_), (8, .int dn_)] := hl
  obtain ⟨hP, hK, hN⟩ := hB
  have hP : va_P D vwCl (cW dA x ad μ σ ((full, row, nI j, ptF σ.tools 8, kn, so, ω.brings, ω.done, ω.below, ω.end_, ω.mb) : Om)) s.heap := hP
  have hS : va_S (cA x ad μ) s.heap s.heap [] := va_S.rf
  refine lv_iload_n hx hb dX1_goOn_0 rfl (lv_at hl 1 rfl) ?_
  refine lv_aload_n hx hb dX1_goOn_1 rfl (lv_at hl 0 rfl) ?_
  refine va_get (D := D) (ci := 2) (v := .int (nI j)) (C := RX1) (T := TX1) (N := 11) hx hb hts in_X1 hown hK hP 5 rfl rfl 2 (by decide) (hts _ q131) (fun _ h9 => h9) rfl dX1_goOn_2 ?_
  refine lv_icmp_ne (tgt := 56) hx hb dX1_goOn_5 rfl (fun h5 => ?_) (fun h5 => ?_)
  · have h5 : ¬ (i_ = j) := fun z9 => h5 ((nz_eq (a := i_) (b := j) rfl rfl (by omega) (by omega)).mpr z9)
    exact absurd (by omega) h5
  · have h5 : i_ = j := (nz_eq (a := i_) (b := j) rfl rfl (by omega) (by omega)).mp h5
    refine lv_aload_n hx hb dX1_goOn_8 rfl (lv_at hl 0 rfl) ?_
    refine lv_dup hx hb dX1_goOn_9 rfl ?_
    refine va_get (D := D) (ci := 2) (v := .long ω.brings) (C := RX1) (T := TX1) (N := 11) hx hb hts in_X1 hown hK hP 5 rfl rfl 6 (by decide) (hts _ q135) (fun _ h9 => h9) rfl dX1_goOn_10 ?_
    refine lv_lload hx hb dX1_goOn_13 (lv_at hl 6 rfl) ?_
    refine lv_iload hx hb dX1_goOn_15 (lv_at hl 5 rfl) ?_
    refine lv_i2l (v := (sm_ : Int32).toInt64) hx hb dX1_goOn_17 rfl ?_
    refine lv_lmul hx hb dX1_goOn_18 ?_
    refine lv_ladd hx hb dX1_goOn_19 ?_
    refine va_put (D := D) (ci := 2) (v := .long (ω.brings + (w_ * ((sm_ : Int32).toInt64)))) (ty := .long) (C := RX1) (T := TX1) (N := 11) hx hb hts in_X1 tyX1 tyX1_ok nmX1 hown hK hP (cD_va hcD dA σ ((full, row, nI j, ptF σ.tools 8, kn, so, ω.brings, ω.done, ω.below, ω.end_, ω.mb) : Om)) hS 5 rfl rfl 6 (by decide) (hts _ q135) (fun _ h9 => h9) rfl (by decide +kernel) rfl rfl (Nat.le_of_ble_eq_true rfl) dX1_goOn_20 (fun H locs hP _ hS => ?_)
    have hP : va_P D vwCl (cW dA x ad μ σ ((full, row, nI j, ptF σ.tools 8, kn, so, ω.brings + (w_ * ((sm_ : Int32).toInt64)), ω.done, ω.below, ω.end_, ω.mb) : Om)) H := hP
    refine lv_aload_n hx hb dX1_goOn_23 rfl (lv_at hl 0 rfl) ?_
    refine lv_dup hx hb dX1_goOn_24 rfl ?_
    refine va_get (D := D) (ci := 2) (v := .long ω.done) (C := RX1) (T := TX1) (N := 11) hx hb hts in_X1 hown hK hP 5 rfl rfl 7 (by decide) (hts _ q137) (fun _ h9 => h9) rfl dX1_goOn_25 ?_
    refine lv_iload hx hb dX1_goOn_28 (lv_at hl 7 rfl) ?_
    have hJ39_1 : ∀ (v_2 : Int64) (ls : Array Slot), v_2 = (if dn_ = 0 then 0 else w_) → lv_has ls 16 [(0, .ref (ad 4)), (1, .int (nI i_)), (2, .int (nI x_)), (3, .int m_), (4, .int bag), (5, .int sm_), (6, .long w_), (8, .int dn_)] → W p l e rmX1_goOn_0 s m args below meth c H locs 0 0 Q (F0 m 39 ls [.long v_2, .long ω.done, .ref (ad 4)]) := by
      intro v_2 ls ev_2 hl
      refine lv_ladd hx hb dX1_goOn_39 ?_
      refine va_put (D := D) (ci := 2) (v := .long (ω.done + v_2)) (ty := .long) (C := RX1) (T := TX1) (N := 11) hx hb hts in_X1 tyX1 tyX1_ok nmX1 hown hK hP (cD_va hcD dA σ ((full, row, nI j, ptF σ.tools 8, kn, so, ω.brings + (w_ * ((sm_ : Int32).toInt64)), ω.done, ω.below, ω.end_, ω.mb) : Om)) hS 5 rfl rfl 7 (by decide) (hts _ q137) (fun _ h9 => h9) rfl (by decide +kernel) rfl rfl (Nat.le_of_ble_eq_true rfl) dX1_goOn_40 (fun H locs hP _ hS => ?_)
      have hP : va_P D vwCl (cW dA x ad μ σ ((full, row, nI j, ptF σ.tools 8, kn, so, ω.brings + (w_ * ((sm_ : Int32).toInt64)), ω.done + v_2, ω.below, ω.end_, ω.mb) : Om)) H := hP
      refine lv_aload_n hx hb dX1_goOn_43 rfl (lv_at hl 0 rfl) ?_
      refine lv_aload_n hx hb dX1_goOn_44 rfl (lv_at hl 0 rfl) ?_
      refine va_get (D := D) (ci := 2) (v := .int ω.end_) (C := RX1) (T := TX1) (N := 11) hx hb hts in_X1 hown hK hP 5 rfl rfl 9 (by decide) (hts _ q141) (fun _ h9 => h9) rfl dX1_goOn_45 ?_
      refine lv_iload_n hx hb dX1_goOn_48 rfl (lv_at hl 3 rfl) ?_
      refine va_mmax hx hb (hml.trans hl.1.symm) hown (hts _ q948) (hts _ q367) (hts _ q90) (hts _ q368) (Nat.le_of_ble_eq_true rfl) (Nat.le_of_ble_eq_true rfl) (Nat.le_of_ble_eq_true rfl) (Nat.le_of_ble_eq_true rfl) dX1_goOn_49 ?_
      refine va_put (D := D) (ci := 2) (v := .int (if ω.end_ < m_ then m_ else ω.end_)) (ty := .int) (C := RX1) (T := TX1) (N := 11) hx hb hts in_X1 tyX1 tyX1_ok nmX1 hown hK hP (cD_va hcD dA σ ((full, row, nI j, ptF σ.tools 8, kn, so, ω.brings + (w_ * ((sm_ : Int32).toInt64)), ω.done + v_2, ω.below, ω.end_, ω.mb) : Om)) hS 5 rfl rfl 9 (by decide) (hts _ q141) (fun _ h9 => h9) rfl (by decide +kernel) rfl rfl (Nat.le_of_ble_eq_true rfl) dX1_goOn_52 (fun H locs hP _ hS => ?_)
      have hP : va_P D vwCl (cW dA x ad μ σ ((full, row, nI j, ptF σ.tools 8, kn, so, ω.brings + (w_ * ((sm_ : Int32).toInt64)), ω.done + v_2, ω.below, if ω.end_ < m_ then m_ else ω.end_, ω.mb) : Om)) H := hP
      exact cm_v hQ hx hb hr hlocks hK hN hP hS (rfl) (by subst_vars; rfl) dX1_goOn_55
    refine lv_if_eq (tgt := 38) hx hb dX1_goOn_30 rfl (fun h30 => ?_) (fun h30 => ?_)
    · have h30 : dn_ = 0 := h30
      refine lv_lconst (v := 0) hx hb dX1_goOn_38 rfl ?_
      exact hJ39_1 (0) ls (by rw [if_pos h30]) (lv_sub hl [0, 1, 2, 3, 4, 5, 6, 7] rfl)
    · have h30 : ¬ (dn_ = 0) := h30
      refine lv_lload hx hb dX1_goOn_33 (lv_at hl 6 rfl) ?_
      refine lv_goto (tgt := 39) hx hb dX1_goOn_35 rfl ?_
      exact hJ39_1 (w_) ls (by rw [if_neg h30]) (lv_sub hl [0, 1, 2, 3, 4, 5, 6, 7] rfl)

theorem cw_X1_X1_at {R : Room} {s : State} {args : Array Value} (hts : ∀ w ∈ lw_all, w.before args s = true) (hR : rmX1_at.frames + 1 ≤ R.frames ∧ 8 + (2 + 11) + rmX1_at.locals ≤ R.locals) : CallW R s args RX1 RX1 50 yX1_at cX1_at 2 (some .int) (ws_ yX1_at cX1_at 2 (some .int)) rmX1_at 0 0 1 := cwV 1 hts (lw_V q940 q942 qs25 q78 q943) rfl rfl rfl (by decide +kernel) hR
theorem cw_X1_X7_place {R : Room} {s : State} {args : Array Value} (hts : ∀ w ∈ lw_all, w.before args s = true) (hR : rmX7_place.frames + 1 ≤ R.frames ∧ 8 + (1 + 11) + rmX7_place.locals ≤ R.locals) : CallW R s args RX1 RX7 80 yX7_place cX7_place 1 (some .int) (ws_ yX7_place cX7_place 1 (some .int)) rmX7_place 0 0 0 := cwV 0 hts (lw_V q949 q950 q951 q104 q952) rfl rfl rfl (by decide +kernel) hR
theorem cw_X1_X7_begins {R : Room} {s : State} {args : Array Value} (hts : ∀ w ∈ lw_all, w.before args s = true) (hR : rmX7_begins.frames + 1 ≤ R.frames ∧ 8 + (2 + 11) + rmX7_begins.locals ≤ R.locals) : CallW R s args RX1 RX7 83 yX7_begins cX7_begins 2 (some .int) (ws_ yX7_begins cX7_begins 2 (some .int)) rmX7_begins 0 0 1 := cwV 1 hts (lw_V q953 q954 q955 q104 q956) rfl rfl rfl (by decide +kernel) hR
theorem cw_X1_J2_size {R : Room} {s : State} {args : Array Value} (hts : ∀ w ∈ lw_all, w.before args s = true) (hR : rmJ2_size.frames + 1 ≤ R.frames ∧ 8 + (1 + 11) + rmJ2_size.locals ≤ R.locals) : CallW R s args RX1 RJ2 93 yJ2_size cJ2_size 1 (some .int) (ws_ yJ2_size cJ2_size 1 (some .int)) rmJ2_size 0 0 0 := cwV 0 hts (lw_V q962 q755 q756 q81 q757) rfl rfl rfl (by decide +kernel) hR
theorem cw_X1_J2_get {R : Room} {s : State} {args : Array Value} (hts : ∀ w ∈ lw_all, w.before args s = true) (hR : rmJ2_get.frames + 1 ≤ R.frames ∧ 8 + (2 + 11) + rmJ2_get.locals ≤ R.locals) : CallW R s args RX1 RJ2 98 yJ2_get cJ2_get 2 (some (.object "java/lang/Object")) (ws_ yJ2_get cJ2_get 2 (some (.object "java/lang/Object"))) rmJ2_get 0 0 1 := cwV 1 hts (lw_V q963 q847 q848 q81 q849) rfl rfl rfl (by decide +kernel) hR
theorem cw_X1_X8_isMet_S_X9 {R : Room} {s : State} {args : Array Value} (hts : ∀ w ∈ lw_all, w.before args s = true) (hR : rmX8_isMet_S.frames + 1 ≤ R.frames ∧ 8 + (2 + 11) + rmX8_isMet_S.locals ≤ R.locals) : va_CU R s args RX1 RX9 "CarryUp$Want" 105 ⟨"CarryUp$Sort", "isMet", "(I)Z"⟩ yX8_isMet cX8_isMet 2 (some .boolean) (ws_ yX8_isMet cX8_isMet 2 (some .boolean)) rmX8_isMet_S 0 0 1 := va_cwU 1 hts (lw_app (lwm5 q965 q883 q885 q886 q105) (lw_meth q887)) rfl rfl rfl rfl (by decide +kernel) hR
theorem cw_X1_X7_again {R : Room} {s : State} {args : Array Value} (hts : ∀ w ∈ lw_all, w.before args s = true) (hR : rmX7_again.frames + 1 ≤ R.frames ∧ 8 + (1 + 11) + rmX7_again.locals ≤ R.locals) : CallW R s args RX1 RX7 86 yX7_again cX7_again 1 (some .int) (ws_ yX7_again cX7_again 1 (some .int)) rmX7_again 0 0 0 := cwV 0 hts (lw_V q958 q959 q960 q104 q961) rfl rfl rfl (by decide +kernel) hR
theorem cw_X1_X1_goOn_0 {R : Room} {s : State} {args : Array Value} (hts : ∀ w ∈ lw_all, w.before args s = true) (hR : rmX1_goOn_0.frames + 1 ≤ R.frames ∧ 8 + (16 + 11) + rmX1_goOn_0.locals ≤ R.locals) : CallW R s args RX1 RX1 66 yX1_goOn cX1_goOn 16 none (ws_ yX1_goOn cX1_goOn 16 none) rmX1_goOn_0 0 0 7 := cwV 7 hts (lw_V q944 q946 qs26 q78 q947) rfl rfl rfl (by decide +kernel) hR
theorem cw_X1_X8_left_S_X9 {R : Room} {s : State} {args : Array Value} (hts : ∀ w ∈ lw_all, w.before args s = true) (hR : rmX8_left_S.frames + 1 ≤ R.frames ∧ 8 + (4 + 11) + rmX8_left_S.locals ≤ R.locals) : va_CU R s args RX1 RX9 "CarryUp$Want" 112 ⟨"CarryUp$Sort", "left", "(II)I"⟩ yX8_left cX8_left 4 (some .int) (ws_ yX8_left cX8_left 4 (some .int)) rmX8_left_S 0 0 2 := va_cwU 2 hts (lw_app (lwm5 q966 q893 q895 q896 q105) (lw_meth q897)) rfl rfl rfl rfl (by decide +kernel) hR
theorem cw_X1_X7_worth {R : Room} {s : State} {args : Array Value} (hts : ∀ w ∈ lw_all, w.before args s = true) (hR : rmX7_worth.frames + 1 ≤ R.frames ∧ 8 + (1 + 11) + rmX7_worth.locals ≤ R.locals) : CallW R s args RX1 RX7 115 yX7_worth cX7_worth 1 (some .int) (ws_ yX7_worth cX7_worth 1 (some .int)) rmX7_worth 0 0 0 := cwV 0 hts (lw_V q967 q968 q969 q104 q970) rfl rfl rfl (by decide +kernel) hR
def rmX1_goOn_1 : Room := { frames := 3, cells := 0, slots := 0, locals := 64 }
set_option maxHeartbeats 1000000 in
theorem mt_X1_goOn_1 (l : Launch) (D : va_G) (dA : Nat → ClassId) (x : Nat) (ad : Nat → Nat) (μ : Lay) (σ : St) (ω : Om) (hcD : cD x ad μ) (full : Int32) (row : Int32) (j : Nat) (kn : Int32) (so : Int32) (i_ : Nat) (x_ : Nat) (m_ : Int32) (bag : Int32) (sm_ : Int32) (w_ : Int64) (dn_ : Int32) (hI : Inv σ) (hR : Rel dA μ σ) (hx6 : x_ < 6) (hy : byP bag) (hf : byP full) (hoT : okT σ row j) (hij : i_ + 1 = j) (hj : j ≤ 6) : Met l yX1_goOn (ws_ yX1_goOn cX1_goOn 16 none) rmX1_goOn_1 (va_Pc [.ref (ad 4), .int (nI i_), .int (nI x_), .int m_, .int bag, .int sm_, .long w_, .int dn_] (cB D dA x ad μ σ ((full, row, nI j, ptF σ.tools 8, kn, so, ω.brings, ω.done, ω.below, ω.end_, ω.mb) : Om))) (cQ none D dA x ad μ σ ((full, row, nI j, ptF σ.tools 8, kn, so, (goT σ row full kn so 1 i_ x_ m_ bag sm_ w_ dn_ (ω.brings, ω.done, ω.end_)).1, (goT σ row full kn so 1 i_ x_ m_ bag sm_ w_ dn_ (ω.brings, ω.done, ω.end_)).2.1, ω.below, (goT σ row full kn so 1 i_ x_ m_ bag sm_ w_ dn_ (ω.brings, ω.done, ω.end_)).2.2, ω.mb) : Om)) 0 0 (cA x ad μ) := by
  refine w_start (by decide) (Nat.le_of_ble_eq_true rfl) ?_
  intro p e s m args below meth c Q ls hQ hx hb hr hlocks hml hown hnm hts hB hl
  have hown : s.vm.findClass RX1 = some m.cls := hown
  have hl : lv_has ls 16 [(0, .ref (ad 4)), (1, .int (nI i_)), (2, .int (nI x_)), (3, .int m_), (4, .int bag), (5, .int sm_), (6, .long w_), (8, .int dn_)] := hl
  obtain ⟨hP, hK, hN⟩ := hB
  have hP : va_P D vwCl (cW dA x ad μ σ ((full, row, nI j, ptF σ.tools 8, kn, so, ω.brings, ω.done, ω.below, ω.end_, ω.mb) : Om)) s.heap := hP
  have hS : va_S (cA x ad μ) s.heap s.heap [] := va_S.rf
  refine lv_iload_n hx hb dX1_goOn_0 rfl (lv_at hl 1 rfl) ?_
  refine lv_aload_n hx hb dX1_goOn_1 rfl (lv_at hl 0 rfl) ?_
  refine va_get (D := D) (ci := 2) (v := .int (nI j)) (C := RX1) (T := TX1) (N := 11) hx hb hts in_X1 hown hK hP 5 rfl rfl 2 (by decide) (hts _ q131) (fun _ h9 => h9) rfl dX1_goOn_2 ?_
  refine lv_icmp_ne (tgt := 56) hx hb dX1_goOn_5 rfl (fun h5 => ?_) (fun h5 => ?_)
  · have h5 : ¬ (i_ = j) := fun z9 => h5 ((nz_eq (a := i_) (b := j) rfl rfl (by omega) (by omega)).mpr z9)
    have hen := en_lt row i_
    refine lv_aload_n hx hb dX1_goOn_56 rfl (lv_at hl 0 rfl) ?_
    refine lv_iload_n hx hb dX1_goOn_57 rfl (lv_at hl 1 rfl) ?_
    refine dV (v := .int (entF row i_)) (As := [.int (nI i_)]) (rest := []) ⟨hx, hb, hml, hown, hts⟩ (mt_X1_at l D dA x ad μ σ ((full, row, nI j, ptF σ.tools 8, kn, so, ω.brings, ω.done, ω.below, ω.end_, ω.mb) : Om) row i_ hI hR) (cw_X1_X1_at hts ⟨Nat.le_of_ble_eq_true rfl, Nat.le_of_ble_eq_true rfl⟩) cB_bw (cB_now hK hN hP) (va_recv hK hP (ci := 2) (q0 := 5) rfl rfl) rfl hl.1 rfl (Nat.le_of_ble_eq_true rfl) dX1_goOn_58 ⟨Nat.le_of_ble_eq_true rfl, Nat.le_of_ble_eq_true rfl⟩ ?_
    refine w_topi (y := nI (en row i_)) (en_eq row i_) ?_
    refine lv_bipush (v := 6) hx hb dX1_goOn_61 rfl ?_
    refine lv_icmp_ne (tgt := 98) hx hb dX1_goOn_63 rfl (fun h63 => ?_) (fun h63 => ?_)
    · have h63 : ¬ ((en row i_) = 6) := fun z9 => h63 ((nz_eq (a := en row i_) (b := 6) rfl rfl (by omega) (by omega)).mpr z9)
      obtain ⟨hc6, hTc, hs0⟩ := (hoT i_ (by omega)).resolve_left h63
      have hsm := hI.sm (en row i_) hc6
      have hpl := (hI.pl2 (en row i_) hc6).1
      refine lv_aload_n hx hb dX1_goOn_98 rfl (lv_at hl 0 rfl) ?_
      refine va_get (D := D) (ci := 2) (v := .ref x) (C := RX1) (T := TX1) (N := 11) hx hb hts in_X1 hown hK hP 5 rfl rfl 10 (by decide) (hts _ q143) (fun _ h9 => h9) rfl dX1_goOn_99 ?_
      refine va_getN (D := D) (ci := 1) (v := .ref (ad 2)) (C := RX0) (T := TX0) (N := 11) hx hb hts in_X0 hown hK hP 0 rfl rfl 5 (by decide) (va_Nw.use rfl hN.2.2.2.1) (fun _ h9 => h9) rfl dX1_goOn_102 ?_
      refine lv_aload_n hx hb dX1_goOn_105 rfl (lv_at hl 0 rfl) ?_
      refine lv_iload_n hx hb dX1_goOn_106 rfl (lv_at hl 1 rfl) ?_
      refine dV (v := .int (entF row i_)) (As := [.int (nI i_)]) (rest := [.ref (ad 2)]) ⟨hx, hb, hml, hown, hts⟩ (mt_X1_at l D dA x ad μ σ ((full, row, nI j, ptF σ.tools 8, kn, so, ω.brings, ω.done, ω.below, ω.end_, ω.mb) : Om) row i_ hI hR) (cw_X1_X1_at hts ⟨Nat.le_of_ble_eq_true rfl, Nat.le_of_ble_eq_true rfl⟩) cB_bw (cB_now hK hN hP) (va_recv hK hP (ci := 2) (q0 := 5) rfl rfl) rfl hl.1 rfl (Nat.le_of_ble_eq_true rfl) dX1_goOn_107 ⟨Nat.le_of_ble_eq_true rfl, Nat.le_of_ble_eq_true rfl⟩ ?_
      refine w_topi (y := nI (en row i_)) (en_eq row i_) ?_
      refine wa_aald (v := .ref (μ.cA (en row i_))) hx hb hK hP 3 5 rfl rfl rfl (en row i_) (rfl) (by omega) (by decide) (cO_t hTc) dX1_goOn_110 ?_
      refine lv_astore (lv' := [(9, .ref (μ.cA (en row i_))), (0, .ref (ad 4)), (1, .int (nI i_)), (2, .int (nI x_)), (3, .int m_), (4, .int bag), (5, .int sm_), (6, .long w_), (8, .int dn_)]) hx hb dX1_goOn_111 hl (by decide) rfl (fun ls hl => ?_)
      refine lv_iload_n hx hb dX1_goOn_113 rfl (lv_at hl 4 rfl) ?_
      refine lv_aload_n hx hb dX1_goOn_114 rfl (lv_at hl 1 rfl) ?_
      refine va_get (D := D) (ci := 2) (v := .ref x) (C := RX1) (T := TX1) (N := 11) hx hb hts in_X1 hown hK hP 5 rfl rfl 10 (by decide) (hts _ q143) (fun _ h9 => h9) rfl dX1_goOn_115 ?_
      refine va_getN (D := D) (ci := 1) (v := .ref (ad 1)) (C := RX0) (T := TX0) (N := 11) hx hb hts in_X0 hown hK hP 0 rfl rfl 4 (by decide) (va_Nw.use rfl hN.2.2.1) (fun _ h9 => h9) rfl dX1_goOn_118 ?_
      refine lv_iload_n hx hb dX1_goOn_121 rfl (lv_at hl 3 rfl) ?_
      refine wa_aald (v := .ref (ad (6 + x_))) hx hb hK hP 2 4 rfl rfl rfl (x_) (rfl) (by omega) (by decide) (rfl) dX1_goOn_122 ?_
      refine lv_aload hx hb dX1_goOn_123 (lv_at hl 0 rfl) ?_
      refine dV (v := .int ((fun k0_ => σ.calls (6 * (en row i_) + k0_)) 0)) (As := []) (rest := [.ref (ad (6 + x_)), .int m_]) ⟨hx, hb, hml, hown, hts⟩ (mt_X7_place l D dA (μ.cA (en row i_)) (μ.kA (en row i_)) (μ.lA (en row i_)) (total σ (en row i_)) (fun k0_ => σ.calls (6 * (en row i_) + k0_))) (cw_X1_X7_place hts ⟨Nat.le_of_ble_eq_true rfl, Nat.le_of_ble_eq_true rfl⟩) pB_bw (pB_now hK (pl2 (pl1 hP (hR.2.1 (en row i_) hc6 hTc).1.1 (hR.2.1 (en row i_) hc6 hTc).1.2) (pl1 hP (hR.2.1 (en row i_) hc6 hTc).2.1.1 (hR.2.1 (en row i_) hc6 hTc).2.1.2))) (va_recv hK (pl1 hP (hR.2.1 (en row i_) hc6 hTc).1.1 (hR.2.1 (en row i_) hc6 hTc).1.2) (ci := 5) (q0 := 0) rfl rfl) rfl hl.1 rfl (Nat.le_of_ble_eq_true rfl) dX1_goOn_125 ⟨Nat.le_of_ble_eq_true rfl, Nat.le_of_ble_eq_true rfl⟩ ?_
      refine w_topi (y := nI (plF σ (en row i_))) ((hI.pl2 (en row i_) hc6).2) ?_
      refine wa_sald (v := σ.ways (6 * x_ + (plF σ (en row i_)))) hx hb hK (way_row hP (i := x_) (by omega)) 0 2 rfl rfl (plF σ (en row i_)) (rfl) (by omega) (by decide) (rfl) dX1_goOn_128 ?_
      refine lv_iadd hx hb dX1_goOn_129 ?_
      refine lv_istore (lv' := [(10, .int (m_ + (σ.ways (6 * x_ + (plF σ (en row i_)))))), (9, .ref (μ.cA (en row i_))), (0, .ref (ad 4)), (1, .int (nI i_)), (2, .int (nI x_)), (3, .int m_), (4, .int bag), (5, .int sm_), (6, .long w_), (8, .int dn_)]) hx hb dX1_goOn_130 hl (by decide) rfl (fun ls hl => ?_)
      refine lv_aload hx hb dX1_goOn_132 (lv_at hl 1 rfl) ?_
      refine lv_iload hx hb dX1_goOn_134 (lv_at hl 0 rfl) ?_
      refine dV (v := .int (begW (fun k0_ => σ.calls (6 * (en row i_) + k0_)) (m_ + (σ.ways (6 * x_ + (plF σ (en row i_))))))) (As := [.int (m_ + (σ.ways (6 * x_ + (plF σ (en row i_)))))]) (rest := []) ⟨hx, hb, hml, hown, hts⟩ (mt_X7_begins l D dA (μ.cA (en row i_)) (μ.kA (en row i_)) (μ.lA (en row i_)) (total σ (en row i_)) (fun k0_ => σ.calls (6 * (en row i_) + k0_)) (m_ + (σ.ways (6 * x_ + (plF σ (en row i_)))))) (cw_X1_X7_begins hts ⟨Nat.le_of_ble_eq_true rfl, Nat.le_of_ble_eq_true rfl⟩) pB_bw (pB_now hK (pl2 (pl1 hP (hR.2.1 (en row i_) hc6 hTc).1.1 (hR.2.1 (en row i_) hc6 hTc).1.2) (pl1 hP (hR.2.1 (en row i_) hc6 hTc).2.1.1 (hR.2.1 (en row i_) hc6 hTc).2.1.2))) (va_recv hK (pl1 hP (hR.2.1 (en row i_) hc6 hTc).1.1 (hR.2.1 (en row i_) hc6 hTc).1.2) (ci := 5) (q0 := 0) rfl rfl) rfl hl.1 rfl (Nat.le_of_ble_eq_true rfl) dX1_goOn_136 ⟨Nat.le_of_ble_eq_true rfl, Nat.le_of_ble_eq_true rfl⟩ ?_
      refine w_topi (y := bgF σ x_ m_ (en row i_)) (beg_eq hI hc6 m_) ?_
      refine lv_istore (lv' := [(11, .int (bgF σ x_ m_ (en row i_))), (10, .int (m_ + (σ.ways (6 * x_ + (plF σ (en row i_)))))), (9, .ref (μ.cA (en row i_))), (0, .ref (ad 4)), (1, .int (nI i_)), (2, .int (nI x_)), (3, .int m_), (4, .int bag), (5, .int sm_), (6, .long w_), (8, .int dn_)]) hx hb dX1_goOn_139 hl (by decide) rfl (fun ls hl => ?_)
      refine lv_iload hx hb dX1_goOn_141 (lv_at hl 0 rfl) ?_
      refine lv_iconst (v := (-1)) hx hb dX1_goOn_143 rfl ?_
      refine lv_icmp_ne (tgt := 175) hx hb dX1_goOn_144 rfl (fun h144 => ?_) (fun h144 => ?_)
      · have h144 : ¬ ((bgF σ x_ m_ (en row i_)) = (-1)) := h144
        obtain ⟨hnl, hbg⟩ := bg_n hI hc6 h144
        rw [hbg] at hl
        refine lv_iconst (v := 0) hx hb dX1_goOn_175 rfl ?_
        refine lv_istore (lv' := [(12, .int 0), (11, .int (arrF σ x_ m_ (en row i_))), (10, .int (m_ + (σ.ways (6 * x_ + (plF σ (en row i_)))))), (9, .ref (μ.cA (en row i_))), (0, .ref (ad 4)), (1, .int (nI i_)), (2, .int (nI x_)), (3, .int m_), (4, .int bag), (5, .int sm_), (6, .long w_), (8, .int dn_)]) hx hb dX1_goOn_176 hl (by decide) rfl (fun ls hl => ?_)
        have hL178_1 : ∀ (n_2 : Nat) (k : Nat) (t : OT) (x12 : Int32) (ls : Array Slot) (H : Heap) (locs : List Loc), (4 - k) < n_2 → (k ≤ σ.sm (en row i_)) → (t = srtT (sorT σ kn so (goT σ row full kn so 0) i_ x_ m_ bag sm_ w_ dn_ (en row i_)) k (ω.brings, ω.done, ω.end_)) → x12 = (nI k) → lv_has ls 16 [(12, .int x12), (11, .int (arrF σ x_ m_ (en row i_))), (10, .int (m_ + (σ.ways (6 * x_ + (plF σ (en row i_)))))), (9, .ref (μ.cA (en row i_))), (0, .ref (ad 4)), (1, .int (nI i_)), (2, .int (nI x_)), (3, .int m_), (4, .int bag), (5, .int sm_), (6, .long w_), (8, .int dn_)] → va_P D vwCl (cW dA x ad μ σ ((full, row, nI j, ptF σ.tools 8, kn, so, t.1, t.2.1, ω.below, t.2.2, ω.mb) : Om)) H → va_S (cA x ad μ) s.heap H locs → W p l e rmX1_goOn_1 s m args below meth c H locs 0 0 Q (F0 m 178 ls []) := by
          intro n_2
          induction n_2 with
          | zero => intro k t x12 ls H locs hm_4; exact absurd hm_4 (Nat.not_lt_zero _)
          | succ n_2 ih_3 =>
            intro k t x12 ls H locs hm_4 hk ht ex12 hl hP hS
            subst ex12
            refine lv_iload hx hb dX1_goOn_178 (lv_at hl 0 rfl) ?_
            refine lv_aload hx hb dX1_goOn_180 (lv_at hl 3 rfl) ?_
            refine va_get (D := D) (ci := 5) (v := .ref (μ.lA (en row i_))) (C := RX7) (T := TX7) (N := 3) hx hb hts in_X7 hown hK (pl1 hP (hR.2.1 (en row i_) hc6 hTc).1.1 (hR.2.1 (en row i_) hc6 hTc).1.2) 0 rfl rfl 1 (by decide) (hts _ q700) (fun _ h9 => h9) rfl dX1_goOn_182 ?_
            refine dV (v := .int (nI (σ.sm (en row i_)))) (As := []) (rest := [.int (nI k)]) ⟨hx, hb, hml, hown, hts⟩ (mt_J2_size l D dA (μ.lA (en row i_)) (μ.eA (en row i_)) (μ.mA (en row i_)) (σ.sm (en row i_))) (cw_X1_J2_size hts ⟨Nat.le_of_ble_eq_true rfl, Nat.le_of_ble_eq_true rfl⟩) pB_bw (pB_now hK (pl1 hP (hR.2.1 (en row i_) hc6 hTc).2.2.1.1 (hR.2.1 (en row i_) hc6 hTc).2.2.1.2)) (va_recv hK (pl1 hP (hR.2.1 (en row i_) hc6 hTc).2.2.1.1 (hR.2.1 (en row i_) hc6 hTc).2.2.1.2) (ci := 8) (q0 := 0) rfl rfl) rfl hl.1 rfl (Nat.le_of_ble_eq_true rfl) dX1_goOn_185 ⟨Nat.le_of_ble_eq_true rfl, Nat.le_of_ble_eq_true rfl⟩ ?_
            refine lv_icmp_ge (tgt := 362) hx hb dX1_goOn_188 rfl (fun h188 => ?_) (fun h188 => ?_)
            · have h188 : (σ.sm (en row i_)) ≤ k := (nz_le (a := (σ.sm (en row i_))) (b := k) rfl rfl (by omega) (by omega)).mp h188
              have hk_ : k = σ.sm (en row i_) := by omega
              subst hk_
              exact cm_v hQ hx hb hr hlocks hK hN hP hS (rfl) (by rw [goT_c h63 hnl, ← ht]) dX1_goOn_362
            · have h188 : ¬ ((σ.sm (en row i_)) ≤ k) := fun z9 => h188 ((nz_le (a := (σ.sm (en row i_))) (b := k) rfl rfl (by omega) (by omega)).mpr z9)
              refine lv_aload hx hb dX1_goOn_191 (lv_at hl 3 rfl) ?_
              refine va_get (D := D) (ci := 5) (v := .ref (μ.lA (en row i_))) (C := RX7) (T := TX7) (N := 3) hx hb hts in_X7 hown hK (pl1 hP (hR.2.1 (en row i_) hc6 hTc).1.1 (hR.2.1 (en row i_) hc6 hTc).1.2) 0 rfl rfl 1 (by decide) (hts _ q700) (fun _ h9 => h9) rfl dX1_goOn_193 ?_
              refine lv_iload hx hb dX1_goOn_196 (lv_at hl 0 rfl) ?_
              refine g_sort (rest := []) ⟨hx, hb, hml, hown, hts⟩ (cw_X1_J2_get hts ⟨Nat.le_of_ble_eq_true rfl, Nat.le_of_ble_eq_true rfl⟩) hK hP (hR.2.1 (en row i_) hc6 hTc) (hI.sm (en row i_) hc6) (show k < σ.sm (en row i_) by omega) hl.1 rfl (Nat.le_of_ble_eq_true rfl) dX1_goOn_198 ⟨Nat.le_of_ble_eq_true rfl, Nat.le_of_ble_eq_true rfl⟩ ?_
              refine va_castS hx hb hown (hts _ q964) (hK.1 6 _ rfl).2 (va_recv hK (pl1 hP ((hR.2.1 (en row i_) hc6 hTc).2.2.2.2 k (show k < σ.sm (en row i_) by omega)).1 ((hR.2.1 (en row i_) hc6 hTc).2.2.2.2 k (show k < σ.sm (en row i_) by omega)).2) (ci := 6) (q0 := 0) rfl rfl) dX1_goOn_201 ?_
              refine lv_astore (lv' := [(13, .ref (μ.sA (en row i_) k)), (12, .int (nI k)), (11, .int (arrF σ x_ m_ (en row i_))), (10, .int (m_ + (σ.ways (6 * x_ + (plF σ (en row i_)))))), (9, .ref (μ.cA (en row i_))), (0, .ref (ad 4)), (1, .int (nI i_)), (2, .int (nI x_)), (3, .int m_), (4, .int bag), (5, .int sm_), (6, .long w_), (8, .int dn_)]) hx hb dX1_goOn_204 hl (by decide) rfl (fun ls hl => ?_)
              refine lv_aload_n hx hb dX1_goOn_206 rfl (lv_at hl 5 rfl) ?_
              refine lv_iload_n hx hb dX1_goOn_207 rfl (lv_at hl 6 rfl) ?_
              refine dV (v := .int (entF row i_)) (As := [.int (nI i_)]) (rest := []) ⟨hx, hb, hml, hown, hts⟩ (mt_X1_at l D dA x ad μ σ ((full, row, nI j, ptF σ.tools 8, kn, so, t.1, t.2.1, ω.below, t.2.2, ω.mb) : Om) row i_ hI hR) (cw_X1_X1_at hts ⟨Nat.le_of_ble_eq_true rfl, Nat.le_of_ble_eq_true rfl⟩) cB_bw (cB_now hK hN hP) (va_recv hK hP (ci := 2) (q0 := 5) rfl rfl) rfl hl.1 rfl (Nat.le_of_ble_eq_true rfl) dX1_goOn_208 ⟨Nat.le_of_ble_eq_true rfl, Nat.le_of_ble_eq_true rfl⟩ ?_
              refine w_topi (y := nI (en row i_)) (en_eq row i_) ?_
              refine lv_aload_n hx hb dX1_goOn_211 rfl (lv_at hl 5 rfl) ?_
              refine va_get (D := D) (ci := 2) (v := .int kn) (C := RX1) (T := TX1) (N := 11) hx hb hts in_X1 hown hK hP 5 rfl rfl 4 (by decide) (hts _ q133) (fun _ h9 => h9) rfl dX1_goOn_212 ?_
              refine lv_icmp_ne (tgt := 230) hx hb dX1_goOn_215 rfl (fun h215 => ?_) (fun h215 => ?_)
              · have h215 : ¬ ((nI (en row i_)) = kn) := h215
                refine lv_aload_n hx hb dX1_goOn_230 rfl (lv_at hl 5 rfl) ?_
                refine lv_iload_n hx hb dX1_goOn_231 rfl (lv_at hl 6 rfl) ?_
                refine dV (v := .int (entF row i_)) (As := [.int (nI i_)]) (rest := []) ⟨hx, hb, hml, hown, hts⟩ (mt_X1_at l D dA x ad μ σ ((full, row, nI j, ptF σ.tools 8, kn, so, t.1, t.2.1, ω.below, t.2.2, ω.mb) : Om) row i_ hI hR) (cw_X1_X1_at hts ⟨Nat.le_of_ble_eq_true rfl, Nat.le_of_ble_eq_true rfl⟩) cB_bw (cB_now hK hN hP) (va_recv hK hP (ci := 2) (q0 := 5) rfl rfl) rfl hl.1 rfl (Nat.le_of_ble_eq_true rfl) dX1_goOn_232 ⟨Nat.le_of_ble_eq_true rfl, Nat.le_of_ble_eq_true rfl⟩ ?_
                refine w_topi (y := nI (en row i_)) (en_eq row i_) ?_
                refine lv_aload_n hx hb dX1_goOn_235 rfl (lv_at hl 5 rfl) ?_
                refine va_get (D := D) (ci := 2) (v := .int kn) (C := RX1) (T := TX1) (N := 11) hx hb hts in_X1 hown hK hP 5 rfl rfl 4 (by decide) (hts _ q133) (fun _ h9 => h9) rfl dX1_goOn_236 ?_
                refine lv_icmp_ne (tgt := 247) hx hb dX1_goOn_239 rfl (fun h239 => ?_) (fun h239 => ?_)
                · have h239 : ¬ ((nI (en row i_)) = kn) := h239
                  refine lv_lload hx hb dX1_goOn_247 (lv_at hl 11 rfl) ?_
                  refine lv_aload hx hb dX1_goOn_249 (lv_at hl 4 rfl) ?_
                  refine va_get (D := D) (ci := 5) (v := .int (total σ (en row i_))) (C := RX7) (T := TX7) (N := 3) hx hb hts in_X7 hown hK (pl1 hP (hR.2.1 (en row i_) hc6 hTc).1.1 (hR.2.1 (en row i_) hc6 hTc).1.2) 0 rfl rfl 2 (by decide) (hts _ q702) (fun _ h9 => h9) rfl dX1_goOn_251 ?_
                  refine lv_i2l (v := (total σ (en row i_) : Int32).toInt64) hx hb dX1_goOn_254 rfl ?_
                  refine lv_ldiv hx hb dX1_goOn_255 (total_ne hI hc6 (by omega)) ?_
                  refine lv_aload hx hb dX1_goOn_256 (lv_at hl 0 rfl) ?_
                  refine va_get (D := D) (ci := 6) (v := .int (σ.sorts (16 * (en row i_) + 4 * k))) (C := RX9) (T := TX9) (N := 4) hx hb hts in_X9 hown hK (pl1 hP ((hR.2.1 (en row i_) hc6 hTc).2.2.2.2 k (show k < σ.sm (en row i_) by omega)).1 ((hR.2.1 (en row i_) hc6 hTc).2.2.2.2 k (show k < σ.sm (en row i_) by omega)).2) 0 rfl rfl 2 (by decide) (hts _ q727) (fun _ h9 => h9) rfl dX1_goOn_258 ?_
                  refine lv_i2l (v := (σ.sorts (16 * (en row i_) + 4 * k) : Int32).toInt64) hx hb dX1_goOn_261 rfl ?_
                  refine lv_lmul hx hb dX1_goOn_262 ?_
                  refine w_topl (y := prT σ kn w_ (en row i_) k) ((by unfold prT; rw [if_neg h215])) ?_
                  refine lv_lstore (lv' := [(14, .long (prT σ kn w_ (en row i_) k)), (13, .ref (μ.sA (en row i_) k)), (12, .int (nI k)), (11, .int (arrF σ x_ m_ (en row i_))), (10, .int (m_ + (σ.ways (6 * x_ + (plF σ (en row i_)))))), (9, .ref (μ.cA (en row i_))), (0, .ref (ad 4)), (1, .int (nI i_)), (2, .int (nI x_)), (3, .int m_), (4, .int bag), (5, .int sm_), (6, .long w_), (8, .int dn_)]) hx hb dX1_goOn_263 hl (by decide) rfl (fun ls hl => ?_)
                  refine lv_aload hx hb dX1_goOn_265 (lv_at hl 1 rfl) ?_
                  refine lv_iload hx hb dX1_goOn_267 (lv_at hl 10 rfl) ?_
                  refine dU (v := .int (b01 (metP bag (σ.sorts (16 * (en row i_) + 4 * k + 2)) (σ.sorts (16 * (en row i_) + 4 * k + 3))))) (As := [.int bag]) (rest := []) ⟨hx, hb, hml, hown, hts⟩ (mt_X8_isMet_S l D dA (μ.sA (en row i_) k) (σ.sorts (16 * (en row i_) + 4 * k + 2)) (σ.sorts (16 * (en row i_) + 4 * k + 3)) (σ.sorts (16 * (en row i_) + 4 * k)) (σ.sorts (16 * (en row i_) + 4 * k + 1)) bag) (cw_X1_X8_isMet_S_X9 hts ⟨Nat.le_of_ble_eq_true rfl, Nat.le_of_ble_eq_true rfl⟩) pB_bw (pB_now hK (pl1 hP ((hR.2.1 (en row i_) hc6 hTc).2.2.2.2 k (show k < σ.sm (en row i_) by omega)).1 ((hR.2.1 (en row i_) hc6 hTc).2.2.2.2 k (show k < σ.sm (en row i_) by omega)).2)) (va_recv hK (pl1 hP ((hR.2.1 (en row i_) hc6 hTc).2.2.2.2 k (show k < σ.sm (en row i_) by omega)).1 ((hR.2.1 (en row i_) hc6 hTc).2.2.2.2 k (show k < σ.sm (en row i_) by omega)).2) (ci := 6) (q0 := 0) rfl rfl) rfl hl.1 rfl (Nat.le_of_ble_eq_true rfl) dX1_goOn_269 ⟨Nat.le_of_ble_eq_true rfl, Nat.le_of_ble_eq_true rfl⟩ ?_
                  refine w_topi (y := b01 (¬ leftF σ bag (en row i_) k = -1)) (b01_iff (met_left hy (en row i_) k)) ?_
                  refine lv_if_eq (tgt := 321) hx hb dX1_goOn_272 rfl (fun h272 => ?_) (fun h272 => ?_)
                  · have h272 : ¬ (¬ leftF σ bag (en row i_) k = -1) := b01_0.mp h272
                    refine lv_aload_n hx hb dX1_goOn_321 rfl (lv_at hl 6 rfl) ?_
                    refine lv_iload_n hx hb dX1_goOn_322 rfl (lv_at hl 7 rfl) ?_
                    refine lv_iconst (v := 1) hx hb dX1_goOn_323 rfl ?_
                    refine lv_iadd hx hb dX1_goOn_324 ?_
                    refine w_topi (nz_add rfl rfl) ?_
                    refine lv_aload hx hb dX1_goOn_325 (lv_at hl 5 rfl) ?_
                    refine dV (v := .int ((fun k0_ => σ.calls (6 * (en row i_) + k0_)) 0)) (As := []) (rest := [.int (nI (i_ + 1)), .ref (ad 4)]) ⟨hx, hb, hml, hown, hts⟩ (mt_X7_place l D dA (μ.cA (en row i_)) (μ.kA (en row i_)) (μ.lA (en row i_)) (total σ (en row i_)) (fun k0_ => σ.calls (6 * (en row i_) + k0_))) (cw_X1_X7_place hts ⟨Nat.le_of_ble_eq_true rfl, Nat.le_of_ble_eq_true rfl⟩) pB_bw (pB_now hK (pl2 (pl1 hP (hR.2.1 (en row i_) hc6 hTc).1.1 (hR.2.1 (en row i_) hc6 hTc).1.2) (pl1 hP (hR.2.1 (en row i_) hc6 hTc).2.1.1 (hR.2.1 (en row i_) hc6 hTc).2.1.2))) (va_recv hK (pl1 hP (hR.2.1 (en row i_) hc6 hTc).1.1 (hR.2.1 (en row i_) hc6 hTc).1.2) (ci := 5) (q0 := 0) rfl rfl) rfl hl.1 rfl (Nat.le_of_ble_eq_true rfl) dX1_goOn_327 ⟨Nat.le_of_ble_eq_true rfl, Nat.le_of_ble_eq_true rfl⟩ ?_
                    refine w_topi (y := nI (plF σ (en row i_))) ((hI.pl2 (en row i_) hc6).2) ?_
                    refine lv_iload hx hb dX1_goOn_330 (lv_at hl 3 rfl) ?_
                    refine lv_aload hx hb dX1_goOn_332 (lv_at hl 5 rfl) ?_
                    refine va_get (D := D) (ci := 5) (v := .ref (μ.kA (en row i_))) (C := RX7) (T := TX7) (N := 3) hx hb hts in_X7 hown hK (pl1 hP (hR.2.1 (en row i_) hc6 hTc).1.1 (hR.2.1 (en row i_) hc6 hTc).1.2) 0 rfl rfl 0 (by decide) (hts _ q697) (fun _ h9 => h9) rfl dX1_goOn_334 ?_
                    refine lv_iconst (v := 5) hx hb dX1_goOn_337 rfl ?_
                    refine wa_iald1 (v := σ.calls (6 * (en row i_) + 5)) hx hb hK (pl1 hP (hR.2.1 (en row i_) hc6 hTc).2.1.1 (hR.2.1 (en row i_) hc6 hTc).2.1.2) 0 0 rfl rfl (5) (rfl) (by omega) (by decide) (rfl) dX1_goOn_338 ?_
                    refine lv_iadd hx hb dX1_goOn_339 ?_
                    refine lv_iload hx hb dX1_goOn_340 (lv_at hl 10 rfl) ?_
                    refine lv_iload hx hb dX1_goOn_342 (lv_at hl 11 rfl) ?_
                    refine lv_aload hx hb dX1_goOn_344 (lv_at hl 5 rfl) ?_
                    refine dV (v := .int ((fun k0_ => σ.calls (6 * (en row i_) + k0_)) 4)) (As := []) (rest := [.int sm_, .int bag, .int ((arrF σ x_ m_ (en row i_)) + (σ.calls (6 * (en row i_) + 5))), .int (nI (plF σ (en row i_))), .int (nI (i_ + 1)), .ref (ad 4)]) ⟨hx, hb, hml, hown, hts⟩ (mt_X7_again l D dA (μ.cA (en row i_)) (μ.kA (en row i_)) (μ.lA (en row i_)) (total σ (en row i_)) (fun k0_ => σ.calls (6 * (en row i_) + k0_))) (cw_X1_X7_again hts ⟨Nat.le_of_ble_eq_true rfl, Nat.le_of_ble_eq_true rfl⟩) pB_bw (pB_now hK (pl2 (pl1 hP (hR.2.1 (en row i_) hc6 hTc).1.1 (hR.2.1 (en row i_) hc6 hTc).1.2) (pl1 hP (hR.2.1 (en row i_) hc6 hTc).2.1.1 (hR.2.1 (en row i_) hc6 hTc).2.1.2))) (va_recv hK (pl1 hP (hR.2.1 (en row i_) hc6 hTc).1.1 (hR.2.1 (en row i_) hc6 hTc).1.2) (ci := 5) (q0 := 0) rfl rfl) rfl hl.1 rfl (Nat.le_of_ble_eq_true rfl) dX1_goOn_346 ⟨Nat.le_of_ble_eq_true rfl, Nat.le_of_ble_eq_true rfl⟩ ?_
                    refine w_topi (y := σ.calls (6 * (en row i_) + 4)) (rfl) ?_
                    refine lv_isub hx hb dX1_goOn_349 ?_
                    refine lv_lload hx hb dX1_goOn_350 (lv_at hl 0 rfl) ?_
                    refine lv_iconst (v := 0) hx hb dX1_goOn_352 rfl ?_
                    refine dM (v := none) (σ' := σ) (ω' := ((full, row, nI j, ptF σ.tools 8, kn, so, (goT σ row full kn so 0 (i_ + 1) (plF σ (en row i_)) ((arrF σ x_ m_ (en row i_)) + (σ.calls (6 * (en row i_) + 5))) bag (sm_ - (σ.calls (6 * (en row i_) + 4))) (prT σ kn w_ (en row i_) k) 0 (t.1, t.2.1, t.2.2)).1, (goT σ row full kn so 0 (i_ + 1) (plF σ (en row i_)) ((arrF σ x_ m_ (en row i_)) + (σ.calls (6 * (en row i_) + 5))) bag (sm_ - (σ.calls (6 * (en row i_) + 4))) (prT σ kn w_ (en row i_) k) 0 (t.1, t.2.1, t.2.2)).2.1, ω.below, (goT σ row full kn so 0 (i_ + 1) (plF σ (en row i_)) ((arrF σ x_ m_ (en row i_)) + (σ.calls (6 * (en row i_) + 5))) bag (sm_ - (σ.calls (6 * (en row i_) + 4))) (prT σ kn w_ (en row i_) k) 0 (t.1, t.2.1, t.2.2)).2.2, ω.mb) : Om)) (As := [.int (nI (i_ + 1)), .int (nI (plF σ (en row i_))), .int ((arrF σ x_ m_ (en row i_)) + (σ.calls (6 * (en row i_) + 5))), .int bag, .int (sm_ - (σ.calls (6 * (en row i_) + 4))), .long (prT σ kn w_ (en row i_) k), .int 0]) (rest := []) ⟨hx, hb, hml, hown, hts⟩ (mt_X1_goOn_0 l D dA x ad μ σ ((full, row, nI j, ptF σ.tools 8, kn, so, t.1, t.2.1, ω.below, t.2.2, ω.mb) : Om) hcD full row j kn so (i_ + 1) (plF σ (en row i_)) ((arrF σ x_ m_ (en row i_)) + (σ.calls (6 * (en row i_) + 5))) bag (sm_ - (σ.calls (6 * (en row i_) + 4))) (prT σ kn w_ (en row i_) k) 0 hI hR hpl hy hf hoT (by omega) hj) (cw_X1_X1_goOn_0 hts ⟨Nat.le_of_ble_eq_true rfl, Nat.le_of_ble_eq_true rfl⟩) (cB_now hK hN hP) (va_recv hK hP (ci := 2) (q0 := 5) rfl rfl) rfl hl.1 rfl (Nat.le_of_ble_eq_true rfl) dX1_goOn_353 ⟨Nat.le_of_ble_eq_true rfl, Nat.le_of_ble_eq_true rfl⟩ hS (fun H locs hP hS => ?_)
                    change W p l e rmX1_goOn_1 s m args below meth c H locs 0 0 Q (F0 m 356 ls [])
                    refine lv_iinc (v := nI (k + 1)) (lv' := [(12, .int (nI (k + 1))), (14, .long (prT σ kn w_ (en row i_) k)), (13, .ref (μ.sA (en row i_) k)), (11, .int (arrF σ x_ m_ (en row i_))), (10, .int (m_ + (σ.ways (6 * x_ + (plF σ (en row i_)))))), (9, .ref (μ.cA (en row i_))), (0, .ref (ad 4)), (1, .int (nI i_)), (2, .int (nI x_)), (3, .int m_), (4, .int bag), (5, .int sm_), (6, .long w_), (8, .int dn_)]) hx hb dX1_goOn_356 hl (k := 2) rfl (nI_1 k) (by decide) rfl (fun ls hl => ?_)
                    refine lv_goto (tgt := 178) hx hb dX1_goOn_359 rfl ?_
                    exact ih_3 (k + 1) (goT σ row full kn so 0 (i_ + 1) (plF σ (en row i_)) (arrF σ x_ m_ (en row i_) + σ.calls (6 * (en row i_) + 5)) bag (sm_ - σ.calls (6 * (en row i_) + 4)) (prT σ kn w_ (en row i_) k) 0 t) (nI (k + 1)) ls _ _ (by omega) (by omega) (by rw [srtT, ← ht]; exact sor_not (fun q => h215 q.1) (Classical.not_not.mp h272)) rfl (lv_sub hl [0, 3, 4, 5, 6, 7, 8, 9, 10, 11, 12, 13] rfl) hP hS
                  · have h272 : ¬ leftF σ bag (en row i_) k = -1 := b01_n h272
                    refine lv_aload_n hx hb dX1_goOn_275 rfl (lv_at hl 6 rfl) ?_
                    refine lv_iload_n hx hb dX1_goOn_276 rfl (lv_at hl 7 rfl) ?_
                    refine lv_iconst (v := 1) hx hb dX1_goOn_277 rfl ?_
                    refine lv_iadd hx hb dX1_goOn_278 ?_
                    refine w_topi (nz_add rfl rfl) ?_
                    refine lv_aload hx hb dX1_goOn_279 (lv_at hl 5 rfl) ?_
                    refine dV (v := .int ((fun k0_ => σ.calls (6 * (en row i_) + k0_)) 0)) (As := []) (rest := [.int (nI (i_ + 1)), .ref (ad 4)]) ⟨hx, hb, hml, hown, hts⟩ (mt_X7_place l D dA (μ.cA (en row i_)) (μ.kA (en row i_)) (μ.lA (en row i_)) (total σ (en row i_)) (fun k0_ => σ.calls (6 * (en row i_) + k0_))) (cw_X1_X7_place hts ⟨Nat.le_of_ble_eq_true rfl, Nat.le_of_ble_eq_true rfl⟩) pB_bw (pB_now hK (pl2 (pl1 hP (hR.2.1 (en row i_) hc6 hTc).1.1 (hR.2.1 (en row i_) hc6 hTc).1.2) (pl1 hP (hR.2.1 (en row i_) hc6 hTc).2.1.1 (hR.2.1 (en row i_) hc6 hTc).2.1.2))) (va_recv hK (pl1 hP (hR.2.1 (en row i_) hc6 hTc).1.1 (hR.2.1 (en row i_) hc6 hTc).1.2) (ci := 5) (q0 := 0) rfl rfl) rfl hl.1 rfl (Nat.le_of_ble_eq_true rfl) dX1_goOn_281 ⟨Nat.le_of_ble_eq_true rfl, Nat.le_of_ble_eq_true rfl⟩ ?_
                    refine w_topi (y := nI (plF σ (en row i_))) ((hI.pl2 (en row i_) hc6).2) ?_
                    refine lv_iload hx hb dX1_goOn_284 (lv_at hl 3 rfl) ?_
                    refine lv_aload hx hb dX1_goOn_286 (lv_at hl 1 rfl) ?_
                    refine va_get (D := D) (ci := 6) (v := .int (σ.sorts (16 * (en row i_) + 4 * k + 1))) (C := RX9) (T := TX9) (N := 4) hx hb hts in_X9 hown hK (pl1 hP ((hR.2.1 (en row i_) hc6 hTc).2.2.2.2 k (show k < σ.sm (en row i_) by omega)).1 ((hR.2.1 (en row i_) hc6 hTc).2.2.2.2 k (show k < σ.sm (en row i_) by omega)).2) 0 rfl rfl 3 (by decide) (hts _ q731) (fun _ h9 => h9) rfl dX1_goOn_288 ?_
                    refine lv_iadd hx hb dX1_goOn_291 ?_
                    refine lv_aload hx hb dX1_goOn_292 (lv_at hl 1 rfl) ?_
                    refine lv_iload hx hb dX1_goOn_294 (lv_at hl 10 rfl) ?_
                    refine lv_aload_n hx hb dX1_goOn_296 rfl (lv_at hl 6 rfl) ?_
                    refine va_get (D := D) (ci := 2) (v := .int (ptF σ.tools 8)) (C := RX1) (T := TX1) (N := 11) hx hb hts in_X1 hown hK hP 5 rfl rfl 3 (by decide) (hts _ q132) (fun _ h9 => h9) rfl dX1_goOn_297 ?_
                    refine dU (v := .int (lefW bag (σ.sorts (16 * (en row i_) + 4 * k + 2)) (σ.sorts (16 * (en row i_) + 4 * k + 3)) (ptF σ.tools 8))) (As := [.int bag, .int (ptF σ.tools 8)]) (rest := [.int ((arrF σ x_ m_ (en row i_)) + (σ.sorts (16 * (en row i_) + 4 * k + 1))), .int (nI (plF σ (en row i_))), .int (nI (i_ + 1)), .ref (ad 4)]) ⟨hx, hb, hml, hown, hts⟩ (mt_X8_left_S l D dA (μ.sA (en row i_) k) (σ.sorts (16 * (en row i_) + 4 * k + 2)) (σ.sorts (16 * (en row i_) + 4 * k + 3)) (σ.sorts (16 * (en row i_) + 4 * k)) (σ.sorts (16 * (en row i_) + 4 * k + 1)) bag (ptF σ.tools 8)) (cw_X1_X8_left_S_X9 hts ⟨Nat.le_of_ble_eq_true rfl, Nat.le_of_ble_eq_true rfl⟩) pB_bw (pB_now hK (pl1 hP ((hR.2.1 (en row i_) hc6 hTc).2.2.2.2 k (show k < σ.sm (en row i_) by omega)).1 ((hR.2.1 (en row i_) hc6 hTc).2.2.2.2 k (show k < σ.sm (en row i_) by omega)).2)) (va_recv hK (pl1 hP ((hR.2.1 (en row i_) hc6 hTc).2.2.2.2 k (show k < σ.sm (en row i_) by omega)).1 ((hR.2.1 (en row i_) hc6 hTc).2.2.2.2 k (show k < σ.sm (en row i_) by omega)).2) (ci := 6) (q0 := 0) rfl rfl) rfl hl.1 rfl (Nat.le_of_ble_eq_true rfl) dX1_goOn_300 ⟨Nat.le_of_ble_eq_true rfl, Nat.le_of_ble_eq_true rfl⟩ ?_
                    refine w_topi (y := leftF σ bag (en row i_) k) (lef_eq hI hy hc6 (by omega) ((met_left hy (en row i_) k).mpr h272)) ?_
                    refine lv_iload hx hb dX1_goOn_303 (lv_at hl 11 rfl) ?_
                    refine lv_aload hx hb dX1_goOn_305 (lv_at hl 5 rfl) ?_
                    refine dV (v := .int ((fun k0_ => σ.calls (6 * (en row i_) + k0_)) 3)) (As := []) (rest := [.int sm_, .int (leftF σ bag (en row i_) k), .int ((arrF σ x_ m_ (en row i_)) + (σ.sorts (16 * (en row i_) + 4 * k + 1))), .int (nI (plF σ (en row i_))), .int (nI (i_ + 1)), .ref (ad 4)]) ⟨hx, hb, hml, hown, hts⟩ (mt_X7_worth l D dA (μ.cA (en row i_)) (μ.kA (en row i_)) (μ.lA (en row i_)) (total σ (en row i_)) (fun k0_ => σ.calls (6 * (en row i_) + k0_))) (cw_X1_X7_worth hts ⟨Nat.le_of_ble_eq_true rfl, Nat.le_of_ble_eq_true rfl⟩) pB_bw (pB_now hK (pl2 (pl1 hP (hR.2.1 (en row i_) hc6 hTc).1.1 (hR.2.1 (en row i_) hc6 hTc).1.2) (pl1 hP (hR.2.1 (en row i_) hc6 hTc).2.1.1 (hR.2.1 (en row i_) hc6 hTc).2.1.2))) (va_recv hK (pl1 hP (hR.2.1 (en row i_) hc6 hTc).1.1 (hR.2.1 (en row i_) hc6 hTc).1.2) (ci := 5) (q0 := 0) rfl rfl) rfl hl.1 rfl (Nat.le_of_ble_eq_true rfl) dX1_goOn_307 ⟨Nat.le_of_ble_eq_true rfl, Nat.le_of_ble_eq_true rfl⟩ ?_
                    refine w_topi (y := σ.calls (6 * (en row i_) + 3)) (rfl) ?_
                    refine lv_iadd hx hb dX1_goOn_310 ?_
                    refine lv_lload hx hb dX1_goOn_311 (lv_at hl 0 rfl) ?_
                    refine lv_iload hx hb dX1_goOn_313 (lv_at hl 13 rfl) ?_
                    refine dM (v := none) (σ' := σ) (ω' := ((full, row, nI j, ptF σ.tools 8, kn, so, (goT σ row full kn so 0 (i_ + 1) (plF σ (en row i_)) ((arrF σ x_ m_ (en row i_)) + (σ.sorts (16 * (en row i_) + 4 * k + 1))) (leftF σ bag (en row i_) k) (sm_ + (σ.calls (6 * (en row i_) + 3))) (prT σ kn w_ (en row i_) k) dn_ (t.1, t.2.1, t.2.2)).1, (goT σ row full kn so 0 (i_ + 1) (plF σ (en row i_)) ((arrF σ x_ m_ (en row i_)) + (σ.sorts (16 * (en row i_) + 4 * k + 1))) (leftF σ bag (en row i_) k) (sm_ + (σ.calls (6 * (en row i_) + 3))) (prT σ kn w_ (en row i_) k) dn_ (t.1, t.2.1, t.2.2)).2.1, ω.below, (goT σ row full kn so 0 (i_ + 1) (plF σ (en row i_)) ((arrF σ x_ m_ (en row i_)) + (σ.sorts (16 * (en row i_) + 4 * k + 1))) (leftF σ bag (en row i_) k) (sm_ + (σ.calls (6 * (en row i_) + 3))) (prT σ kn w_ (en row i_) k) dn_ (t.1, t.2.1, t.2.2)).2.2, ω.mb) : Om)) (As := [.int (nI (i_ + 1)), .int (nI (plF σ (en row i_))), .int ((arrF σ x_ m_ (en row i_)) + (σ.sorts (16 * (en row i_) + 4 * k + 1))), .int (leftF σ bag (en row i_) k), .int (sm_ + (σ.calls (6 * (en row i_) + 3))), .long (prT σ kn w_ (en row i_) k), .int dn_]) (rest := []) ⟨hx, hb, hml, hown, hts⟩ (mt_X1_goOn_0 l D dA x ad μ σ ((full, row, nI j, ptF σ.tools 8, kn, so, t.1, t.2.1, ω.below, t.2.2, ω.mb) : Om) hcD full row j kn so (i_ + 1) (plF σ (en row i_)) ((arrF σ x_ m_ (en row i_)) + (σ.sorts (16 * (en row i_) + 4 * k + 1))) (leftF σ bag (en row i_) k) (sm_ + (σ.calls (6 * (en row i_) + 3))) (prT σ kn w_ (en row i_) k) dn_ hI hR hpl (left_by hy h272) hf hoT (by omega) hj) (cw_X1_X1_goOn_0 hts ⟨Nat.le_of_ble_eq_true rfl, Nat.le_of_ble_eq_true rfl⟩) (cB_now hK hN hP) (va_recv hK hP (ci := 2) (q0 := 5) rfl rfl) rfl hl.1 rfl (Nat.le_of_ble_eq_true rfl) dX1_goOn_315 ⟨Nat.le_of_ble_eq_true rfl, Nat.le_of_ble_eq_true rfl⟩ hS (fun H locs hP hS => ?_)
                    change W p l e rmX1_goOn_1 s m args below meth c H locs 0 0 Q (F0 m 318 ls [])
                    refine lv_goto (tgt := 356) hx hb dX1_goOn_318 rfl ?_
                    refine lv_iinc (v := nI (k + 1)) (lv' := [(12, .int (nI (k + 1))), (14, .long (prT σ kn w_ (en row i_) k)), (13, .ref (μ.sA (en row i_) k)), (11, .int (arrF σ x_ m_ (en row i_))), (10, .int (m_ + (σ.ways (6 * x_ + (plF σ (en row i_)))))), (9, .ref (μ.cA (en row i_))), (0, .ref (ad 4)), (1, .int (nI i_)), (2, .int (nI x_)), (3, .int m_), (4, .int bag), (5, .int sm_), (6, .long w_), (8, .int dn_)]) hx hb dX1_goOn_356 hl (k := 2) rfl (nI_1 k) (by decide) rfl (fun ls hl => ?_)
                    refine lv_goto (tgt := 178) hx hb dX1_goOn_359 rfl ?_
                    exact ih_3 (k + 1) (goT σ row full kn so 0 (i_ + 1) (plF σ (en row i_)) (arrF σ x_ m_ (en row i_) + σ.sorts (16 * (en row i_) + 4 * k + 1)) (leftF σ bag (en row i_) k) (sm_ + σ.calls (6 * (en row i_) + 3)) (prT σ kn w_ (en row i_) k) dn_ t) (nI (k + 1)) ls _ _ (by omega) (by omega) (by rw [srtT, ← ht]; exact sor_met (fun q => h215 q.1) h272) rfl (lv_sub hl [0, 3, 4, 5, 6, 7, 8, 9, 10, 11, 12, 13] rfl) hP hS
                · have h239 : (nI (en row i_)) = kn := h239
                  exact absurd h239 h215
              · have h215 : (nI (en row i_)) = kn := h215
                refine lv_iload hx hb dX1_goOn_218 (lv_at hl 1 rfl) ?_
                refine lv_aload_n hx hb dX1_goOn_220 rfl (lv_at hl 5 rfl) ?_
                refine va_get (D := D) (ci := 2) (v := .int so) (C := RX1) (T := TX1) (N := 11) hx hb hts in_X1 hown hK hP 5 rfl rfl 5 (by decide) (hts _ q134) (fun _ h9 => h9) rfl dX1_goOn_221 ?_
                refine lv_icmp_eq (tgt := 230) hx hb dX1_goOn_224 rfl (fun h224 => ?_) (fun h224 => ?_)
                · have h224 : (nI k) = so := h224
                  refine lv_aload_n hx hb dX1_goOn_230 rfl (lv_at hl 5 rfl) ?_
                  refine lv_iload_n hx hb dX1_goOn_231 rfl (lv_at hl 6 rfl) ?_
                  refine dV (v := .int (entF row i_)) (As := [.int (nI i_)]) (rest := []) ⟨hx, hb, hml, hown, hts⟩ (mt_X1_at l D dA x ad μ σ ((full, row, nI j, ptF σ.tools 8, kn, so, t.1, t.2.1, ω.below, t.2.2, ω.mb) : Om) row i_ hI hR) (cw_X1_X1_at hts ⟨Nat.le_of_ble_eq_true rfl, Nat.le_of_ble_eq_true rfl⟩) cB_bw (cB_now hK hN hP) (va_recv hK hP (ci := 2) (q0 := 5) rfl rfl) rfl hl.1 rfl (Nat.le_of_ble_eq_true rfl) dX1_goOn_232 ⟨Nat.le_of_ble_eq_true rfl, Nat.le_of_ble_eq_true rfl⟩ ?_
                  refine w_topi (y := nI (en row i_)) (en_eq row i_) ?_
                  refine lv_aload_n hx hb dX1_goOn_235 rfl (lv_at hl 5 rfl) ?_
                  refine va_get (D := D) (ci := 2) (v := .int kn) (C := RX1) (T := TX1) (N := 11) hx hb hts in_X1 hown hK hP 5 rfl rfl 4 (by decide) (hts _ q133) (fun _ h9 => h9) rfl dX1_goOn_236 ?_
                  refine lv_icmp_ne (tgt := 247) hx hb dX1_goOn_239 rfl (fun h239 => ?_) (fun h239 => ?_)
                  · have h239 : ¬ ((nI (en row i_)) = kn) := h239
                    exact absurd h215 h239
                  · have h239 : (nI (en row i_)) = kn := h239
                    refine lv_lload hx hb dX1_goOn_242 (lv_at hl 11 rfl) ?_
                    refine w_topl (y := prT σ kn w_ (en row i_) k) ((by unfold prT; rw [if_pos h215])) ?_
                    refine lv_goto (tgt := 263) hx hb dX1_goOn_244 rfl ?_
                    refine lv_lstore (lv' := [(14, .long (prT σ kn w_ (en row i_) k)), (13, .ref (μ.sA (en row i_) k)), (12, .int (nI k)), (11, .int (arrF σ x_ m_ (en row i_))), (10, .int (m_ + (σ.ways (6 * x_ + (plF σ (en row i_)))))), (9, .ref (μ.cA (en row i_))), (0, .ref (ad 4)), (1, .int (nI i_)), (2, .int (nI x_)), (3, .int m_), (4, .int bag), (5, .int sm_), (6, .long w_), (8, .int dn_)]) hx hb dX1_goOn_263 hl (by decide) rfl (fun ls hl => ?_)
                    refine lv_aload hx hb dX1_goOn_265 (lv_at hl 1 rfl) ?_
                    refine lv_iload hx hb dX1_goOn_267 (lv_at hl 10 rfl) ?_
                    refine dU (v := .int (b01 (metP bag (σ.sorts (16 * (en row i_) + 4 * k + 2)) (σ.sorts (16 * (en row i_) + 4 * k + 3))))) (As := [.int bag]) (rest := []) ⟨hx, hb, hml, hown, hts⟩ (mt_X8_isMet_S l D dA (μ.sA (en row i_) k) (σ.sorts (16 * (en row i_) + 4 * k + 2)) (σ.sorts (16 * (en row i_) + 4 * k + 3)) (σ.sorts (16 * (en row i_) + 4 * k)) (σ.sorts (16 * (en row i_) + 4 * k + 1)) bag) (cw_X1_X8_isMet_S_X9 hts ⟨Nat.le_of_ble_eq_true rfl, Nat.le_of_ble_eq_true rfl⟩) pB_bw (pB_now hK (pl1 hP ((hR.2.1 (en row i_) hc6 hTc).2.2.2.2 k (show k < σ.sm (en row i_) by omega)).1 ((hR.2.1 (en row i_) hc6 hTc).2.2.2.2 k (show k < σ.sm (en row i_) by omega)).2)) (va_recv hK (pl1 hP ((hR.2.1 (en row i_) hc6 hTc).2.2.2.2 k (show k < σ.sm (en row i_) by omega)).1 ((hR.2.1 (en row i_) hc6 hTc).2.2.2.2 k (show k < σ.sm (en row i_) by omega)).2) (ci := 6) (q0 := 0) rfl rfl) rfl hl.1 rfl (Nat.le_of_ble_eq_true rfl) dX1_goOn_269 ⟨Nat.le_of_ble_eq_true rfl, Nat.le_of_ble_eq_true rfl⟩ ?_
                    refine w_topi (y := b01 (¬ leftF σ bag (en row i_) k = -1)) (b01_iff (met_left hy (en row i_) k)) ?_
                    refine lv_if_eq (tgt := 321) hx hb dX1_goOn_272 rfl (fun h272 => ?_) (fun h272 => ?_)
                    · have h272 : ¬ (¬ leftF σ bag (en row i_) k = -1) := b01_0.mp h272
                      refine lv_aload_n hx hb dX1_goOn_321 rfl (lv_at hl 6 rfl) ?_
                      refine lv_iload_n hx hb dX1_goOn_322 rfl (lv_at hl 7 rfl) ?_
                      refine lv_iconst (v := 1) hx hb dX1_goOn_323 rfl ?_
                      refine lv_iadd hx hb dX1_goOn_324 ?_
                      refine w_topi (nz_add rfl rfl) ?_
                      refine lv_aload hx hb dX1_goOn_325 (lv_at hl 5 rfl) ?_
                      refine dV (v := .int ((fun k0_ => σ.calls (6 * (en row i_) + k0_)) 0)) (As := []) (rest := [.int (nI (i_ + 1)), .ref (ad 4)]) ⟨hx, hb, hml, hown, hts⟩ (mt_X7_place l D dA (μ.cA (en row i_)) (μ.kA (en row i_)) (μ.lA (en row i_)) (total σ (en row i_)) (fun k0_ => σ.calls (6 * (en row i_) + k0_))) (cw_X1_X7_place hts ⟨Nat.le_of_ble_eq_true rfl, Nat.le_of_ble_eq_true rfl⟩) pB_bw (pB_now hK (pl2 (pl1 hP (hR.2.1 (en row i_) hc6 hTc).1.1 (hR.2.1 (en row i_) hc6 hTc).1.2) (pl1 hP (hR.2.1 (en row i_) hc6 hTc).2.1.1 (hR.2.1 (en row i_) hc6 hTc).2.1.2))) (va_recv hK (pl1 hP (hR.2.1 (en row i_) hc6 hTc).1.1 (hR.2.1 (en row i_) hc6 hTc).1.2) (ci := 5) (q0 := 0) rfl rfl) rfl hl.1 rfl (Nat.le_of_ble_eq_true rfl) dX1_goOn_327 ⟨Nat.le_of_ble_eq_true rfl, Nat.le_of_ble_eq_true rfl⟩ ?_
                      refine w_topi (y := nI (plF σ (en row i_))) ((hI.pl2 (en row i_) hc6).2) ?_
                      refine lv_iload hx hb dX1_goOn_330 (lv_at hl 3 rfl) ?_
                      refine lv_aload hx hb dX1_goOn_332 (lv_at hl 5 rfl) ?_
                      refine va_get (D := D) (ci := 5) (v := .ref (μ.kA (en row i_))) (C := RX7) (T := TX7) (N := 3) hx hb hts in_X7 hown hK (pl1 hP (hR.2.1 (en row i_) hc6 hTc).1.1 (hR.2.1 (en row i_) hc6 hTc).1.2) 0 rfl rfl 0 (by decide) (hts _ q697) (fun _ h9 => h9) rfl dX1_goOn_334 ?_
                      refine lv_iconst (v := 5) hx hb dX1_goOn_337 rfl ?_
                      refine wa_iald1 (v := σ.calls (6 * (en row i_) + 5)) hx hb hK (pl1 hP (hR.2.1 (en row i_) hc6 hTc).2.1.1 (hR.2.1 (en row i_) hc6 hTc).2.1.2) 0 0 rfl rfl (5) (rfl) (by omega) (by decide) (rfl) dX1_goOn_338 ?_
                      refine lv_iadd hx hb dX1_goOn_339 ?_
                      refine lv_iload hx hb dX1_goOn_340 (lv_at hl 10 rfl) ?_
                      refine lv_iload hx hb dX1_goOn_342 (lv_at hl 11 rfl) ?_
                      refine lv_aload hx hb dX1_goOn_344 (lv_at hl 5 rfl) ?_
                      refine dV (v := .int ((fun k0_ => σ.calls (6 * (en row i_) + k0_)) 4)) (As := []) (rest := [.int sm_, .int bag, .int ((arrF σ x_ m_ (en row i_)) + (σ.calls (6 * (en row i_) + 5))), .int (nI (plF σ (en row i_))), .int (nI (i_ + 1)), .ref (ad 4)]) ⟨hx, hb, hml, hown, hts⟩ (mt_X7_again l D dA (μ.cA (en row i_)) (μ.kA (en row i_)) (μ.lA (en row i_)) (total σ (en row i_)) (fun k0_ => σ.calls (6 * (en row i_) + k0_))) (cw_X1_X7_again hts ⟨Nat.le_of_ble_eq_true rfl, Nat.le_of_ble_eq_true rfl⟩) pB_bw (pB_now hK (pl2 (pl1 hP (hR.2.1 (en row i_) hc6 hTc).1.1 (hR.2.1 (en row i_) hc6 hTc).1.2) (pl1 hP (hR.2.1 (en row i_) hc6 hTc).2.1.1 (hR.2.1 (en row i_) hc6 hTc).2.1.2))) (va_recv hK (pl1 hP (hR.2.1 (en row i_) hc6 hTc).1.1 (hR.2.1 (en row i_) hc6 hTc).1.2) (ci := 5) (q0 := 0) rfl rfl) rfl hl.1 rfl (Nat.le_of_ble_eq_true rfl) dX1_goOn_346 ⟨Nat.le_of_ble_eq_true rfl, Nat.le_of_ble_eq_true rfl⟩ ?_
                      refine w_topi (y := σ.calls (6 * (en row i_) + 4)) (rfl) ?_
                      refine lv_isub hx hb dX1_goOn_349 ?_
                      refine lv_lload hx hb dX1_goOn_350 (lv_at hl 0 rfl) ?_
                      refine lv_iconst (v := 0) hx hb dX1_goOn_352 rfl ?_
                      refine dM (v := none) (σ' := σ) (ω' := ((full, row, nI j, ptF σ.tools 8, kn, so, (goT σ row full kn so 0 (i_ + 1) (plF σ (en row i_)) ((arrF σ x_ m_ (en row i_)) + (σ.calls (6 * (en row i_) + 5))) bag (sm_ - (σ.calls (6 * (en row i_) + 4))) (prT σ kn w_ (en row i_) k) 0 (t.1, t.2.1, t.2.2)).1, (goT σ row full kn so 0 (i_ + 1) (plF σ (en row i_)) ((arrF σ x_ m_ (en row i_)) + (σ.calls (6 * (en row i_) + 5))) bag (sm_ - (σ.calls (6 * (en row i_) + 4))) (prT σ kn w_ (en row i_) k) 0 (t.1, t.2.1, t.2.2)).2.1, ω.below, (goT σ row full kn so 0 (i_ + 1) (plF σ (en row i_)) ((arrF σ x_ m_ (en row i_)) + (σ.calls (6 * (en row i_) + 5))) bag (sm_ - (σ.calls (6 * (en row i_) + 4))) (prT σ kn w_ (en row i_) k) 0 (t.1, t.2.1, t.2.2)).2.2, ω.mb) : Om)) (As := [.int (nI (i_ + 1)), .int (nI (plF σ (en row i_))), .int ((arrF σ x_ m_ (en row i_)) + (σ.calls (6 * (en row i_) + 5))), .int bag, .int (sm_ - (σ.calls (6 * (en row i_) + 4))), .long (prT σ kn w_ (en row i_) k), .int 0]) (rest := []) ⟨hx, hb, hml, hown, hts⟩ (mt_X1_goOn_0 l D dA x ad μ σ ((full, row, nI j, ptF σ.tools 8, kn, so, t.1, t.2.1, ω.below, t.2.2, ω.mb) : Om) hcD full row j kn so (i_ + 1) (plF σ (en row i_)) ((arrF σ x_ m_ (en row i_)) + (σ.calls (6 * (en row i_) + 5))) bag (sm_ - (σ.calls (6 * (en row i_) + 4))) (prT σ kn w_ (en row i_) k) 0 hI hR hpl hy hf hoT (by omega) hj) (cw_X1_X1_goOn_0 hts ⟨Nat.le_of_ble_eq_true rfl, Nat.le_of_ble_eq_true rfl⟩) (cB_now hK hN hP) (va_recv hK hP (ci := 2) (q0 := 5) rfl rfl) rfl hl.1 rfl (Nat.le_of_ble_eq_true rfl) dX1_goOn_353 ⟨Nat.le_of_ble_eq_true rfl, Nat.le_of_ble_eq_true rfl⟩ hS (fun H locs hP hS => ?_)
                      change W p l e rmX1_goOn_1 s m args below meth c H locs 0 0 Q (F0 m 356 ls [])
                      refine lv_iinc (v := nI (k + 1)) (lv' := [(12, .int (nI (k + 1))), (14, .long (prT σ kn w_ (en row i_) k)), (13, .ref (μ.sA (en row i_) k)), (11, .int (arrF σ x_ m_ (en row i_))), (10, .int (m_ + (σ.ways (6 * x_ + (plF σ (en row i_)))))), (9, .ref (μ.cA (en row i_))), (0, .ref (ad 4)), (1, .int (nI i_)), (2, .int (nI x_)), (3, .int m_), (4, .int bag), (5, .int sm_), (6, .long w_), (8, .int dn_)]) hx hb dX1_goOn_356 hl (k := 2) rfl (nI_1 k) (by decide) rfl (fun ls hl => ?_)
                      refine lv_goto (tgt := 178) hx hb dX1_goOn_359 rfl ?_
                      exact ih_3 (k + 1) (goT σ row full kn so 0 (i_ + 1) (plF σ (en row i_)) (arrF σ x_ m_ (en row i_) + σ.calls (6 * (en row i_) + 5)) bag (sm_ - σ.calls (6 * (en row i_) + 4)) (prT σ kn w_ (en row i_) k) 0 t) (nI (k + 1)) ls _ _ (by omega) (by omega) (by rw [srtT, ← ht]; exact sor_not (fun q => q.2 h224) (Classical.not_not.mp h272)) rfl (lv_sub hl [0, 3, 4, 5, 6, 7, 8, 9, 10, 11, 12, 13] rfl) hP hS
                    · have h272 : ¬ leftF σ bag (en row i_) k = -1 := b01_n h272
                      refine lv_aload_n hx hb dX1_goOn_275 rfl (lv_at hl 6 rfl) ?_
                      refine lv_iload_n hx hb dX1_goOn_276 rfl (lv_at hl 7 rfl) ?_
                      refine lv_iconst (v := 1) hx hb dX1_goOn_277 rfl ?_
                      refine lv_iadd hx hb dX1_goOn_278 ?_
                      refine w_topi (nz_add rfl rfl) ?_
                      refine lv_aload hx hb dX1_goOn_279 (lv_at hl 5 rfl) ?_
                      refine dV (v := .int ((fun k0_ => σ.calls (6 * (en row i_) + k0_)) 0)) (As := []) (rest := [.int (nI (i_ + 1)), .ref (ad 4)]) ⟨hx, hb, hml, hown, hts⟩ (mt_X7_place l D dA (μ.cA (en row i_)) (μ.kA (en row i_)) (μ.lA (en row i_)) (total σ (en row i_)) (fun k0_ => σ.calls (6 * (en row i_) + k0_))) (cw_X1_X7_place hts ⟨Nat.le_of_ble_eq_true rfl, Nat.le_of_ble_eq_true rfl⟩) pB_bw (pB_now hK (pl2 (pl1 hP (hR.2.1 (en row i_) hc6 hTc).1.1 (hR.2.1 (en row i_) hc6 hTc).1.2) (pl1 hP (hR.2.1 (en row i_) hc6 hTc).2.1.1 (hR.2.1 (en row i_) hc6 hTc).2.1.2))) (va_recv hK (pl1 hP (hR.2.1 (en row i_) hc6 hTc).1.1 (hR.2.1 (en row i_) hc6 hTc).1.2) (ci := 5) (q0 := 0) rfl rfl) rfl hl.1 rfl (Nat.le_of_ble_eq_true rfl) dX1_goOn_281 ⟨Nat.le_of_ble_eq_true rfl, Nat.le_of_ble_eq_true rfl⟩ ?_
                      refine w_topi (y := nI (plF σ (en row i_))) ((hI.pl2 (en row i_) hc6).2) ?_
                      refine lv_iload hx hb dX1_goOn_284 (lv_at hl 3 rfl) ?_
                      refine lv_aload hx hb dX1_goOn_286 (lv_at hl 1 rfl) ?_
                      refine va_get (D := D) (ci := 6) (v := .int (σ.sorts (16 * (en row i_) + 4 * k + 1))) (C := RX9) (T := TX9) (N := 4) hx hb hts in_X9 hown hK (pl1 hP ((hR.2.1 (en row i_) hc6 hTc).2.2.2.2 k (show k < σ.sm (en row i_) by omega)).1 ((hR.2.1 (en row i_) hc6 hTc).2.2.2.2 k (show k < σ.sm (en row i_) by omega)).2) 0 rfl rfl 3 (by decide) (hts _ q731) (fun _ h9 => h9) rfl dX1_goOn_288 ?_
                      refine lv_iadd hx hb dX1_goOn_291 ?_
                      refine lv_aload hx hb dX1_goOn_292 (lv_at hl 1 rfl) ?_
                      refine lv_iload hx hb dX1_goOn_294 (lv_at hl 10 rfl) ?_
                      refine lv_aload_n hx hb dX1_goOn_296 rfl (lv_at hl 6 rfl) ?_
                      refine va_get (D := D) (ci := 2) (v := .int (ptF σ.tools 8)) (C := RX1) (T := TX1) (N := 11) hx hb hts in_X1 hown hK hP 5 rfl rfl 3 (by decide) (hts _ q132) (fun _ h9 => h9) rfl dX1_goOn_297 ?_
                      refine dU (v := .int (lefW bag (σ.sorts (16 * (en row i_) + 4 * k + 2)) (σ.sorts (16 * (en row i_) + 4 * k + 3)) (ptF σ.tools 8))) (As := [.int bag, .int (ptF σ.tools 8)]) (rest := [.int ((arrF σ x_ m_ (en row i_)) + (σ.sorts (16 * (en row i_) + 4 * k + 1))), .int (nI (plF σ (en row i_))), .int (nI (i_ + 1)), .ref (ad 4)]) ⟨hx, hb, hml, hown, hts⟩ (mt_X8_left_S l D dA (μ.sA (en row i_) k) (σ.sorts (16 * (en row i_) + 4 * k + 2)) (σ.sorts (16 * (en row i_) + 4 * k + 3)) (σ.sorts (16 * (en row i_) + 4 * k)) (σ.sorts (16 * (en row i_) + 4 * k + 1)) bag (ptF σ.tools 8)) (cw_X1_X8_left_S_X9 hts ⟨Nat.le_of_ble_eq_true rfl, Nat.le_of_ble_eq_true rfl⟩) pB_bw (pB_now hK (pl1 hP ((hR.2.1 (en row i_) hc6 hTc).2.2.2.2 k (show k < σ.sm (en row i_) by omega)).1 ((hR.2.1 (en row i_) hc6 hTc).2.2.2.2 k (show k < σ.sm (en row i_) by omega)).2)) (va_recv hK (pl1 hP ((hR.2.1 (en row i_) hc6 hTc).2.2.2.2 k (show k < σ.sm (en row i_) by omega)).1 ((hR.2.1 (en row i_) hc6 hTc).2.2.2.2 k (show k < σ.sm (en row i_) by omega)).2) (ci := 6) (q0 := 0) rfl rfl) rfl hl.1 rfl (Nat.le_of_ble_eq_true rfl) dX1_goOn_300 ⟨Nat.le_of_ble_eq_true rfl, Nat.le_of_ble_eq_true rfl⟩ ?_
                      refine w_topi (y := leftF σ bag (en row i_) k) (lef_eq hI hy hc6 (by omega) ((met_left hy (en row i_) k).mpr h272)) ?_
                      refine lv_iload hx hb dX1_goOn_303 (lv_at hl 11 rfl) ?_
                      refine lv_aload hx hb dX1_goOn_305 (lv_at hl 5 rfl) ?_
                      refine dV (v := .int ((fun k0_ => σ.calls (6 * (en row i_) + k0_)) 3)) (As := []) (rest := [.int sm_, .int (leftF σ bag (en row i_) k), .int ((arrF σ x_ m_ (en row i_)) + (σ.sorts (16 * (en row i_) + 4 * k + 1))), .int (nI (plF σ (en row i_))), .int (nI (i_ + 1)), .ref (ad 4)]) ⟨hx, hb, hml, hown, hts⟩ (mt_X7_worth l D dA (μ.cA (en row i_)) (μ.kA (en row i_)) (μ.lA (en row i_)) (total σ (en row i_)) (fun k0_ => σ.calls (6 * (en row i_) + k0_))) (cw_X1_X7_worth hts ⟨Nat.le_of_ble_eq_true rfl, Nat.le_of_ble_eq_true rfl⟩) pB_bw (pB_now hK (pl2 (pl1 hP (hR.2.1 (en row i_) hc6 hTc).1.1 (hR.2.1 (en row i_) hc6 hTc).1.2) (pl1 hP (hR.2.1 (en row i_) hc6 hTc).2.1.1 (hR.2.1 (en row i_) hc6 hTc).2.1.2))) (va_recv hK (pl1 hP (hR.2.1 (en row i_) hc6 hTc).1.1 (hR.2.1 (en row i_) hc6 hTc).1.2) (ci := 5) (q0 := 0) rfl rfl) rfl hl.1 rfl (Nat.le_of_ble_eq_true rfl) dX1_goOn_307 ⟨Nat.le_of_ble_eq_true rfl, Nat.le_of_ble_eq_true rfl⟩ ?_
                      refine w_topi (y := σ.calls (6 * (en row i_) + 3)) (rfl) ?_
                      refine lv_iadd hx hb dX1_goOn_310 ?_
                      refine lv_lload hx hb dX1_goOn_311 (lv_at hl 0 rfl) ?_
                      refine lv_iload hx hb dX1_goOn_313 (lv_at hl 13 rfl) ?_
                      refine dM (v := none) (σ' := σ) (ω' := ((full, row, nI j, ptF σ.tools 8, kn, so, (goT σ row full kn so 0 (i_ + 1) (plF σ (en row i_)) ((arrF σ x_ m_ (en row i_)) + (σ.sorts (16 * (en row i_) + 4 * k + 1))) (leftF σ bag (en row i_) k) (sm_ + (σ.calls (6 * (en row i_) + 3))) (prT σ kn w_ (en row i_) k) dn_ (t.1, t.2.1, t.2.2)).1, (goT σ row full kn so 0 (i_ + 1) (plF σ (en row i_)) ((arrF σ x_ m_ (en row i_)) + (σ.sorts (16 * (en row i_) + 4 * k + 1))) (leftF σ bag (en row i_) k) (sm_ + (σ.calls (6 * (en row i_) + 3))) (prT σ kn w_ (en row i_) k) dn_ (t.1, t.2.1, t.2.2)).2.1, ω.below, (goT σ row full kn so 0 (i_ + 1) (plF σ (en row i_)) ((arrF σ x_ m_ (en row i_)) + (σ.sorts (16 * (en row i_) + 4 * k + 1))) (leftF σ bag (en row i_) k) (sm_ + (σ.calls (6 * (en row i_) + 3))) (prT σ kn w_ (en row i_) k) dn_ (t.1, t.2.1, t.2.2)).2.2, ω.mb) : Om)) (As := [.int (nI (i_ + 1)), .int (nI (plF σ (en row i_))), .int ((arrF σ x_ m_ (en row i_)) + (σ.sorts (16 * (en row i_) + 4 * k + 1))), .int (leftF σ bag (en row i_) k), .int (sm_ + (σ.calls (6 * (en row i_) + 3))), .long (prT σ kn w_ (en row i_) k), .int dn_]) (rest := []) ⟨hx, hb, hml, hown, hts⟩ (mt_X1_goOn_0 l D dA x ad μ σ ((full, row, nI j, ptF σ.tools 8, kn, so, t.1, t.2.1, ω.below, t.2.2, ω.mb) : Om) hcD full row j kn so (i_ + 1) (plF σ (en row i_)) ((arrF σ x_ m_ (en row i_)) + (σ.sorts (16 * (en row i_) + 4 * k + 1))) (leftF σ bag (en row i_) k) (sm_ + (σ.calls (6 * (en row i_) + 3))) (prT σ kn w_ (en row i_) k) dn_ hI hR hpl (left_by hy h272) hf hoT (by omega) hj) (cw_X1_X1_goOn_0 hts ⟨Nat.le_of_ble_eq_true rfl, Nat.le_of_ble_eq_true rfl⟩) (cB_now hK hN hP) (va_recv hK hP (ci := 2) (q0 := 5) rfl rfl) rfl hl.1 rfl (Nat.le_of_ble_eq_true rfl) dX1_goOn_315 ⟨Nat.le_of_ble_eq_true rfl, Nat.le_of_ble_eq_true rfl⟩ hS (fun H locs hP hS => ?_)
                      change W p l e rmX1_goOn_1 s m args below meth c H locs 0 0 Q (F0 m 318 ls [])
                      refine lv_goto (tgt := 356) hx hb dX1_goOn_318 rfl ?_
                      refine lv_iinc (v := nI (k + 1)) (lv' := [(12, .int (nI (k + 1))), (14, .long (prT σ kn w_ (en row i_) k)), (13, .ref (μ.sA (en row i_) k)), (11, .int (arrF σ x_ m_ (en row i_))), (10, .int (m_ + (σ.ways (6 * x_ + (plF σ (en row i_)))))), (9, .ref (μ.cA (en row i_))), (0, .ref (ad 4)), (1, .int (nI i_)), (2, .int (nI x_)), (3, .int m_), (4, .int bag), (5, .int sm_), (6, .long w_), (8, .int dn_)]) hx hb dX1_goOn_356 hl (k := 2) rfl (nI_1 k) (by decide) rfl (fun ls hl => ?_)
                      refine lv_goto (tgt := 178) hx hb dX1_goOn_359 rfl ?_
                      exact ih_3 (k + 1) (goT σ row full kn so 0 (i_ + 1) (plF σ (en row i_)) (arrF σ x_ m_ (en row i_) + σ.sorts (16 * (en row i_) + 4 * k + 1)) (leftF σ bag (en row i_) k) (sm_ + σ.calls (6 * (en row i_) + 3)) (prT σ kn w_ (en row i_) k) dn_ t) (nI (k + 1)) ls _ _ (by omega) (by omega) (by rw [srtT, ← ht]; exact sor_met (fun q => q.2 h224) h272) rfl (lv_sub hl [0, 3, 4, 5, 6, 7, 8, 9, 10, 11, 12, 13] rfl) hP hS
                · have h224 : ¬ ((nI k) = so) := h224
                  refine lv_goto (tgt := 356) hx hb dX1_goOn_227 rfl ?_
                  refine lv_iinc (v := nI (k + 1)) (lv' := [(12, .int (nI (k + 1))), (13, .ref (μ.sA (en row i_) k)), (11, .int (arrF σ x_ m_ (en row i_))), (10, .int (m_ + (σ.ways (6 * x_ + (plF σ (en row i_)))))), (9, .ref (μ.cA (en row i_))), (0, .ref (ad 4)), (1, .int (nI i_)), (2, .int (nI x_)), (3, .int m_), (4, .int bag), (5, .int sm_), (6, .long w_), (8, .int dn_)]) hx hb dX1_goOn_356 hl (k := 1) rfl (nI_1 k) (by decide) rfl (fun ls hl => ?_)
                  refine lv_goto (tgt := 178) hx hb dX1_goOn_359 rfl ?_
                  exact ih_3 (k + 1) t (nI (k + 1)) ls _ _ (by omega) (by omega) (by rw [srtT, ← ht]; exact sor_skip h215 h224) rfl (lv_sub hl [0, 2, 3, 4, 5, 6, 7, 8, 9, 10, 11, 12] rfl) hP hS
        exact hL178_1 _ 0 (ω.brings, ω.done, ω.end_) 0 ls _ _ (Nat.lt_succ_self _) (by omega) rfl rfl (lv_sub hl [0, 1, 2, 3, 4, 5, 6, 7, 8, 9, 10, 11] rfl) hP hS
      · have h144 : (bgF σ x_ m_ (en row i_)) = (-1) := h144
        have hlt := (bg_late hI hc6).mp h144
        refine lv_aload_n hx hb dX1_goOn_147 rfl (lv_at hl 3 rfl) ?_
        refine lv_iload_n hx hb dX1_goOn_148 rfl (lv_at hl 4 rfl) ?_
        refine lv_iconst (v := 1) hx hb dX1_goOn_149 rfl ?_
        refine lv_iadd hx hb dX1_goOn_150 ?_
        refine w_topi (nz_add rfl rfl) ?_
        refine lv_aload hx hb dX1_goOn_151 (lv_at hl 2 rfl) ?_
        refine dV (v := .int ((fun k0_ => σ.calls (6 * (en row i_) + k0_)) 0)) (As := []) (rest := [.int (nI (i_ + 1)), .ref (ad 4)]) ⟨hx, hb, hml, hown, hts⟩ (mt_X7_place l D dA (μ.cA (en row i_)) (μ.kA (en row i_)) (μ.lA (en row i_)) (total σ (en row i_)) (fun k0_ => σ.calls (6 * (en row i_) + k0_))) (cw_X1_X7_place hts ⟨Nat.le_of_ble_eq_true rfl, Nat.le_of_ble_eq_true rfl⟩) pB_bw (pB_now hK (pl2 (pl1 hP (hR.2.1 (en row i_) hc6 hTc).1.1 (hR.2.1 (en row i_) hc6 hTc).1.2) (pl1 hP (hR.2.1 (en row i_) hc6 hTc).2.1.1 (hR.2.1 (en row i_) hc6 hTc).2.1.2))) (va_recv hK (pl1 hP (hR.2.1 (en row i_) hc6 hTc).1.1 (hR.2.1 (en row i_) hc6 hTc).1.2) (ci := 5) (q0 := 0) rfl rfl) rfl hl.1 rfl (Nat.le_of_ble_eq_true rfl) dX1_goOn_153 ⟨Nat.le_of_ble_eq_true rfl, Nat.le_of_ble_eq_true rfl⟩ ?_
        refine w_topi (y := nI (plF σ (en row i_))) ((hI.pl2 (en row i_) hc6).2) ?_
        refine lv_iload hx hb dX1_goOn_156 (lv_at hl 1 rfl) ?_
        refine lv_iload hx hb dX1_goOn_158 (lv_at hl 7 rfl) ?_
        refine lv_iload hx hb dX1_goOn_160 (lv_at hl 8 rfl) ?_
        refine lv_aload hx hb dX1_goOn_162 (lv_at hl 2 rfl) ?_
        refine dV (v := .int ((fun k0_ => σ.calls (6 * (en row i_) + k0_)) 4)) (As := []) (rest := [.int sm_, .int bag, .int (m_ + (σ.ways (6 * x_ + (plF σ (en row i_))))), .int (nI (plF σ (en row i_))), .int (nI (i_ + 1)), .ref (ad 4)]) ⟨hx, hb, hml, hown, hts⟩ (mt_X7_again l D dA (μ.cA (en row i_)) (μ.kA (en row i_)) (μ.lA (en row i_)) (total σ (en row i_)) (fun k0_ => σ.calls (6 * (en row i_) + k0_))) (cw_X1_X7_again hts ⟨Nat.le_of_ble_eq_true rfl, Nat.le_of_ble_eq_true rfl⟩) pB_bw (pB_now hK (pl2 (pl1 hP (hR.2.1 (en row i_) hc6 hTc).1.1 (hR.2.1 (en row i_) hc6 hTc).1.2) (pl1 hP (hR.2.1 (en row i_) hc6 hTc).2.1.1 (hR.2.1 (en row i_) hc6 hTc).2.1.2))) (va_recv hK (pl1 hP (hR.2.1 (en row i_) hc6 hTc).1.1 (hR.2.1 (en row i_) hc6 hTc).1.2) (ci := 5) (q0 := 0) rfl rfl) rfl hl.1 rfl (Nat.le_of_ble_eq_true rfl) dX1_goOn_164 ⟨Nat.le_of_ble_eq_true rfl, Nat.le_of_ble_eq_true rfl⟩ ?_
        refine w_topi (y := σ.calls (6 * (en row i_) + 4)) (rfl) ?_
        refine lv_isub hx hb dX1_goOn_167 ?_
        refine lv_lload hx hb dX1_goOn_168 (lv_at hl 9 rfl) ?_
        refine lv_iconst (v := 0) hx hb dX1_goOn_170 rfl ?_
        refine dM (v := none) (σ' := σ) (ω' := ((full, row, nI j, ptF σ.tools 8, kn, so, (goT σ row full kn so 0 (i_ + 1) (plF σ (en row i_)) (m_ + (σ.ways (6 * x_ + (plF σ (en row i_))))) bag (sm_ - (σ.calls (6 * (en row i_) + 4))) w_ 0 (ω.brings, ω.done, ω.end_)).1, (goT σ row full kn so 0 (i_ + 1) (plF σ (en row i_)) (m_ + (σ.ways (6 * x_ + (plF σ (en row i_))))) bag (sm_ - (σ.calls (6 * (en row i_) + 4))) w_ 0 (ω.brings, ω.done, ω.end_)).2.1, ω.below, (goT σ row full kn so 0 (i_ + 1) (plF σ (en row i_)) (m_ + (σ.ways (6 * x_ + (plF σ (en row i_))))) bag (sm_ - (σ.calls (6 * (en row i_) + 4))) w_ 0 (ω.brings, ω.done, ω.end_)).2.2, ω.mb) : Om)) (As := [.int (nI (i_ + 1)), .int (nI (plF σ (en row i_))), .int (m_ + (σ.ways (6 * x_ + (plF σ (en row i_))))), .int bag, .int (sm_ - (σ.calls (6 * (en row i_) + 4))), .long w_, .int 0]) (rest := []) ⟨hx, hb, hml, hown, hts⟩ (mt_X1_goOn_0 l D dA x ad μ σ ((full, row, nI j, ptF σ.tools 8, kn, so, ω.brings, ω.done, ω.below, ω.end_, ω.mb) : Om) hcD full row j kn so (i_ + 1) (plF σ (en row i_)) (m_ + (σ.ways (6 * x_ + (plF σ (en row i_))))) bag (sm_ - (σ.calls (6 * (en row i_) + 4))) w_ 0 hI hR hpl hy hf hoT (by omega) hj) (cw_X1_X1_goOn_0 hts ⟨Nat.le_of_ble_eq_true rfl, Nat.le_of_ble_eq_true rfl⟩) (cB_now hK hN hP) (va_recv hK hP (ci := 2) (q0 := 5) rfl rfl) rfl hl.1 rfl (Nat.le_of_ble_eq_true rfl) dX1_goOn_171 ⟨Nat.le_of_ble_eq_true rfl, Nat.le_of_ble_eq_true rfl⟩ hS (fun H locs hP hS => ?_)
        change W p l e rmX1_goOn_1 s m args below meth c H locs 0 0 Q (F0 m 174 ls [])
        exact cm_v hQ hx hb hr hlocks hK hN hP hS (rfl) (by rw [goT_l h63 hlt]) dX1_goOn_174
    · have h63 : (en row i_) = 6 := (nz_eq (a := en row i_) (b := 6) rfl rfl (by omega) (by omega)).mp h63
      refine lv_aload_n hx hb dX1_goOn_66 rfl (lv_at hl 0 rfl) ?_
      refine lv_iload_n hx hb dX1_goOn_67 rfl (lv_at hl 1 rfl) ?_
      refine lv_iconst (v := 1) hx hb dX1_goOn_68 rfl ?_
      refine lv_iadd hx hb dX1_goOn_69 ?_
      refine w_topi (nz_add rfl rfl) ?_
      refine lv_iconst (v := 0) hx hb dX1_goOn_70 rfl ?_
      refine lv_iload_n hx hb dX1_goOn_71 rfl (lv_at hl 3 rfl) ?_
      refine lv_aload_n hx hb dX1_goOn_72 rfl (lv_at hl 0 rfl) ?_
      refine va_get (D := D) (ci := 2) (v := .ref x) (C := RX1) (T := TX1) (N := 11) hx hb hts in_X1 hown hK hP 5 rfl rfl 10 (by decide) (hts _ q143) (fun _ h9 => h9) rfl dX1_goOn_73 ?_
      refine va_getN (D := D) (ci := 1) (v := .ref (ad 1)) (C := RX0) (T := TX0) (N := 11) hx hb hts in_X0 hown hK hP 0 rfl rfl 4 (by decide) (va_Nw.use rfl hN.2.2.1) (fun _ h9 => h9) rfl dX1_goOn_76 ?_
      refine lv_iload_n hx hb dX1_goOn_79 rfl (lv_at hl 2 rfl) ?_
      refine wa_aald (v := .ref (ad (6 + x_))) hx hb hK hP 2 4 rfl rfl rfl (x_) (rfl) (by omega) (by decide) (rfl) dX1_goOn_80 ?_
      refine lv_iconst (v := 0) hx hb dX1_goOn_81 rfl ?_
      refine wa_sald (v := σ.ways (6 * x_ + 0)) hx hb hK (way_row hP (i := x_) (by omega)) 0 2 rfl rfl (0) (rfl) (by omega) (by decide) (rfl) dX1_goOn_82 ?_
      refine lv_iadd hx hb dX1_goOn_83 ?_
      refine lv_aload_n hx hb dX1_goOn_84 rfl (lv_at hl 0 rfl) ?_
      refine va_get (D := D) (ci := 2) (v := .int full) (C := RX1) (T := TX1) (N := 11) hx hb hts in_X1 hown hK hP 5 rfl rfl 0 (by decide) (hts _ q129) (fun _ h9 => h9) rfl dX1_goOn_85 ?_
      refine lv_iload hx hb dX1_goOn_88 (lv_at hl 5 rfl) ?_
      refine lv_lload hx hb dX1_goOn_90 (lv_at hl 6 rfl) ?_
      refine lv_iload hx hb dX1_goOn_92 (lv_at hl 7 rfl) ?_
      refine dM (v := none) (σ' := σ) (ω' := ((full, row, nI j, ptF σ.tools 8, kn, so, (goT σ row full kn so 0 (i_ + 1) 0 (m_ + (σ.ways (6 * x_ + 0))) full sm_ w_ dn_ (ω.brings, ω.done, ω.end_)).1, (goT σ row full kn so 0 (i_ + 1) 0 (m_ + (σ.ways (6 * x_ + 0))) full sm_ w_ dn_ (ω.brings, ω.done, ω.end_)).2.1, ω.below, (goT σ row full kn so 0 (i_ + 1) 0 (m_ + (σ.ways (6 * x_ + 0))) full sm_ w_ dn_ (ω.brings, ω.done, ω.end_)).2.2, ω.mb) : Om)) (As := [.int (nI (i_ + 1)), .int 0, .int (m_ + (σ.ways (6 * x_ + 0))), .int full, .int sm_, .long w_, .int dn_]) (rest := []) ⟨hx, hb, hml, hown, hts⟩ (mt_X1_goOn_0 l D dA x ad μ σ ((full, row, nI j, ptF σ.tools 8, kn, so, ω.brings, ω.done, ω.below, ω.end_, ω.mb) : Om) hcD full row j kn so (i_ + 1) 0 (m_ + (σ.ways (6 * x_ + 0))) full sm_ w_ dn_ hI hR (by decide) hf hf hoT (by omega) hj) (cw_X1_X1_goOn_0 hts ⟨Nat.le_of_ble_eq_true rfl, Nat.le_of_ble_eq_true rfl⟩) (cB_now hK hN hP) (va_recv hK hP (ci := 2) (q0 := 5) rfl rfl) rfl hl.1 rfl (Nat.le_of_ble_eq_true rfl) dX1_goOn_94 ⟨Nat.le_of_ble_eq_true rfl, Nat.le_of_ble_eq_true rfl⟩ hS (fun H locs hP hS => ?_)
      change W p l e rmX1_goOn_1 s m args below meth c H locs 0 0 Q (F0 m 97 ls [])
      exact cm_v hQ hx hb hr hlocks hK hN hP hS (rfl) (by rw [goT_h h63]) dX1_goOn_97
  · have h5 : i_ = j := (nz_eq (a := i_) (b := j) rfl rfl (by omega) (by omega)).mp h5
    exact absurd h5 (by omega)

theorem cw_X1_X1_goOn_1 {R : Room} {s : State} {args : Array Value} (hts : ∀ w ∈ lw_all, w.before args s = true) (hR : rmX1_goOn_1.frames + 1 ≤ R.frames ∧ 8 + (16 + 11) + rmX1_goOn_1.locals ≤ R.locals) : CallW R s args RX1 RX1 66 yX1_goOn cX1_goOn 16 none (ws_ yX1_goOn cX1_goOn 16 none) rmX1_goOn_1 0 0 7 := cwV 7 hts (lw_V q944 q946 qs26 q78 q947) rfl rfl rfl (by decide +kernel) hR
def rmX1_goOn_2 : Room := { frames := 4, cells := 0, slots := 0, locals := 99 }
set_option maxHeartbeats 1000000 in
theorem mt_X1_goOn_2 (l : Launch) (D : va_G) (dA : Nat → ClassId) (x : Nat) (ad : Nat → Nat) (μ : Lay) (σ : St) (ω : Om) (hcD : cD x ad μ) (full : Int32) (row : Int32) (j : Nat) (kn : Int32) (so : Int32) (i_ : Nat) (x_ : Nat) (m_ : Int32) (bag : Int32) (sm_ : Int32) (w_ : Int64) (dn_ : Int32) (hI : Inv σ) (hR : Rel dA μ σ) (hx6 : x_ < 6) (hy : byP bag) (hf : byP full) (hoT : okT σ row j) (hij : i_ + 2 = j) (hj : j ≤ 6) : Met l yX1_goOn (ws_ yX1_goOn cX1_goOn 16 none) rmX1_goOn_2 (va_Pc [.ref (ad 4), .int (nI i_), .int (nI x_), .int m_, .int bag, .int sm_, .long w_, .int dn_] (cB D dA x ad μ σ ((full, row, nI j, ptF σ.tools 8, kn, so, ω.brings, ω.done, ω.below, ω.end_, ω.mb) : Om))) (cQ none D dA x ad μ σ ((full, row, nI j, ptF σ.tools 8, kn, so, (goT σ row full kn so 2 i_ x_ m_ bag sm_ w_ dn_ (ω.brings, ω.done, ω.end_)).1, (goT σ row full kn so 2 i_ x_ m_ bag sm_ w_ dn_ (ω.brings, ω.done, ω.end_)).2.1, ω.below, (goT σ row full kn so 2 i_ x_ m_ bag sm_ w_ dn_ (ω.brings, ω.done, ω.end_)).2.2, ω.mb) : Om)) 0 0 (cA x ad μ) := by
  refine w_start (by decide) (Nat.le_of_ble_eq_true rfl) ?_
  intro p e s m args below meth c Q ls hQ hx hb hr hlocks hml hown hnm hts hB hl
  have hown : s.vm.findClass RX1 = some m.cls := hown
  have hl : lv_has ls 16 [(0, .ref (ad 4)), (1, .int (nI i_)), (2, .int (nI x_)), (3, .int m_), (4, .int bag), (5, .int sm_), (6, .long w_), (8, .int dn_)] := hl
  obtain ⟨hP, hK, hN⟩ := hB
  have hP : va_P D vwCl (cW dA x ad μ σ ((full, row, nI j, ptF σ.tools 8, kn, so, ω.brings, ω.done, ω.below, ω.end_, ω.mb) : Om)) s.heap := hP
  have hS : va_S (cA x ad μ) s.heap s.heap [] := va_S.rf
  refine lv_iload_n hx hb dX1_goOn_0 rfl (lv_at hl 1 rfl) ?_
  refine lv_aload_n hx hb dX1_goOn_1 rfl (lv_at hl 0 rfl) ?_
  refine va_get (D := D) (ci := 2) (v := .int (nI j)) (C := RX1) (T := TX1) (N := 11) hx hb hts in_X1 hown hK hP 5 rfl rfl 2 (by decide) (hts _ q131) (fun _ h9 => h9) rfl dX1_goOn_2 ?_
  refine lv_icmp_ne (tgt := 56) hx hb dX1_goOn_5 rfl (fun h5 => ?_) (fun h5 => ?_)
  · have h5 : ¬ (i_ = j) := fun z9 => h5 ((nz_eq (a := i_) (b := j) rfl rfl (by omega) (by omega)).mpr z9)
    have hen := en_lt row i_
    refine lv_aload_n hx hb dX1_goOn_56 rfl (lv_at hl 0 rfl) ?_
    refine lv_iload_n hx hb dX1_goOn_57 rfl (lv_at hl 1 rfl) ?_
    refine dV (v := .int (entF row i_)) (As := [.int (nI i_)]) (rest := []) ⟨hx, hb, hml, hown, hts⟩ (mt_X1_at l D dA x ad μ σ ((full, row, nI j, ptF σ.tools 8, kn, so, ω.brings, ω.done, ω.below, ω.end_, ω.mb) : Om) row i_ hI hR) (cw_X1_X1_at hts ⟨Nat.le_of_ble_eq_true rfl, Nat.le_of_ble_eq_true rfl⟩) cB_bw (cB_now hK hN hP) (va_recv hK hP (ci := 2) (q0 := 5) rfl rfl) rfl hl.1 rfl (Nat.le_of_ble_eq_true rfl) dX1_goOn_58 ⟨Nat.le_of_ble_eq_true rfl, Nat.le_of_ble_eq_true rfl⟩ ?_
    refine w_topi (y := nI (en row i_)) (en_eq row i_) ?_
    refine lv_bipush (v := 6) hx hb dX1_goOn_61 rfl ?_
    refine lv_icmp_ne (tgt := 98) hx hb dX1_goOn_63 rfl (fun h63 => ?_) (fun h63 => ?_)
    · have h63 : ¬ ((en row i_) = 6) := fun z9 => h63 ((nz_eq (a := en row i_) (b := 6) rfl rfl (by omega) (by omega)).mpr z9)
      obtain ⟨hc6, hTc, hs0⟩ := (hoT i_ (by omega)).resolve_left h63
      have hsm := hI.sm (en row i_) hc6
      have hpl := (hI.pl2 (en row i_) hc6).1
      refine lv_aload_n hx hb dX1_goOn_98 rfl (lv_at hl 0 rfl) ?_
      refine va_get (D := D) (ci := 2) (v := .ref x) (C := RX1) (T := TX1) (N := 11) hx hb hts in_X1 hown hK hP 5 rfl rfl 10 (by decide) (hts _ q143) (fun _ h9 => h9) rfl dX1_goOn_99 ?_
      refine va_getN (D := D) (ci := 1) (v := .ref (ad 2)) (C := RX0) (T := TX0) (N := 11) hx hb hts in_X0 hown hK hP 0 rfl rfl 5 (by decide) (va_Nw.use rfl hN.2.2.2.1) (fun _ h9 => h9) rfl dX1_goOn_102 ?_
      refine lv_aload_n hx hb dX1_goOn_105 rfl (lv_at hl 0 rfl) ?_
      refine lv_iload_n hx hb dX1_goOn_106 rfl (lv_at hl 1 rfl) ?_
      refine dV (v := .int (entF row i_)) (As := [.int (nI i_)]) (rest := [.ref (ad 2)]) ⟨hx, hb, hml, hown, hts⟩ (mt_X1_at l D dA x ad μ σ ((full, row, nI j, ptF σ.tools 8, kn, so, ω.brings, ω.done, ω.below, ω.end_, ω.mb) : Om) row i_ hI hR) (cw_X1_X1_at hts ⟨Nat.le_of_ble_eq_true rfl, Nat.le_of_ble_eq_true rfl⟩) cB_bw (cB_now hK hN hP) (va_recv hK hP (ci := 2) (q0 := 5) rfl rfl) rfl hl.1 rfl (Nat.le_of_ble_eq_true rfl) dX1_goOn_107 ⟨Nat.le_of_ble_eq_true rfl, Nat.le_of_ble_eq_true rfl⟩ ?_
      refine w_topi (y := nI (en row i_)) (en_eq row i_) ?_
      refine wa_aald (v := .ref (μ.cA (en row i_))) hx hb hK hP 3 5 rfl rfl rfl (en row i_) (rfl) (by omega) (by decide) (cO_t hTc) dX1_goOn_110 ?_
      refine lv_astore (lv' := [(9, .ref (μ.cA (en row i_))), (0, .ref (ad 4)), (1, .int (nI i_)), (2, .int (nI x_)), (3, .int m_), (4, .int bag), (5, .int sm_), (6, .long w_), (8, .int dn_)]) hx hb dX1_goOn_111 hl (by decide) rfl (fun ls hl => ?_)
      refine lv_iload_n hx hb dX1_goOn_113 rfl (lv_at hl 4 rfl) ?_
      refine lv_aload_n hx hb dX1_goOn_114 rfl (lv_at hl 1 rfl) ?_
      refine va_get (D := D) (ci := 2) (v := .ref x) (C := RX1) (T := TX1) (N := 11) hx hb hts in_X1 hown hK hP 5 rfl rfl 10 (by decide) (hts _ q143) (fun _ h9 => h9) rfl dX1_goOn_115 ?_
      refine va_getN (D := D) (ci := 1) (v := .ref (ad 1)) (C := RX0) (T := TX0) (N := 11) hx hb hts in_X0 hown hK hP 0 rfl rfl 4 (by decide) (va_Nw.use rfl hN.2.2.1) (fun _ h9 => h9) rfl dX1_goOn_118 ?_
      refine lv_iload_n hx hb dX1_goOn_121 rfl (lv_at hl 3 rfl) ?_
      refine wa_aald (v := .ref (ad (6 + x_))) hx hb hK hP 2 4 rfl rfl rfl (x_) (rfl) (by omega) (by decide) (rfl) dX1_goOn_122 ?_
      refine lv_aload hx hb dX1_goOn_123 (lv_at hl 0 rfl) ?_
      refine dV (v := .int ((fun k0_ => σ.calls (6 * (en row i_) + k0_)) 0)) (As := []) (rest := [.ref (ad (6 + x_)), .int m_]) ⟨hx, hb, hml, hown, hts⟩ (mt_X7_place l D dA (μ.cA (en row i_)) (μ.kA (en row i_)) (μ.lA (en row i_)) (total σ (en row i_)) (fun k0_ => σ.calls (6 * (en row i_) + k0_))) (cw_X1_X7_place hts ⟨Nat.le_of_ble_eq_true rfl, Nat.le_of_ble_eq_true rfl⟩) pB_bw (pB_now hK (pl2 (pl1 hP (hR.2.1 (en row i_) hc6 hTc).1.1 (hR.2.1 (en row i_) hc6 hTc).1.2) (pl1 hP (hR.2.1 (en row i_) hc6 hTc).2.1.1 (hR.2.1 (en row i_) hc6 hTc).2.1.2))) (va_recv hK (pl1 hP (hR.2.1 (en row i_) hc6 hTc).1.1 (hR.2.1 (en row i_) hc6 hTc).1.2) (ci := 5) (q0 := 0) rfl rfl) rfl hl.1 rfl (Nat.le_of_ble_eq_true rfl) dX1_goOn_125 ⟨Nat.le_of_ble_eq_true rfl, Nat.le_of_ble_eq_true rfl⟩ ?_
      refine w_topi (y := nI (plF σ (en row i_))) ((hI.pl2 (en row i_) hc6).2) ?_
      refine wa_sald (v := σ.ways (6 * x_ + (plF σ (en row i_)))) hx hb hK (way_row hP (i := x_) (by omega)) 0 2 rfl rfl (plF σ (en row i_)) (rfl) (by omega) (by decide) (rfl) dX1_goOn_128 ?_
      refine lv_iadd hx hb dX1_goOn_129 ?_
      refine lv_istore (lv' := [(10, .int (m_ + (σ.ways (6 * x_ + (plF σ (en row i_)))))), (9, .ref (μ.cA (en row i_))), (0, .ref (ad 4)), (1, .int (nI i_)), (2, .int (nI x_)), (3, .int m_), (4, .int bag), (5, .int sm_), (6, .long w_), (8, .int dn_)]) hx hb dX1_goOn_130 hl (by decide) rfl (fun ls hl => ?_)
      refine lv_aload hx hb dX1_goOn_132 (lv_at hl 1 rfl) ?_
      refine lv_iload hx hb dX1_goOn_134 (lv_at hl 0 rfl) ?_
      refine dV (v := .int (begW (fun k0_ => σ.calls (6 * (en row i_) + k0_)) (m_ + (σ.ways (6 * x_ + (plF σ (en row i_))))))) (As := [.int (m_ + (σ.ways (6 * x_ + (plF σ (en row i_)))))]) (rest := []) ⟨hx, hb, hml, hown, hts⟩ (mt_X7_begins l D dA (μ.cA (en row i_)) (μ.kA (en row i_)) (μ.lA (en row i_)) (total σ (en row i_)) (fun k0_ => σ.calls (6 * (en row i_) + k0_)) (m_ + (σ.ways (6 * x_ + (plF σ (en row i_)))))) (cw_X1_X7_begins hts ⟨Nat.le_of_ble_eq_true rfl, Nat.le_of_ble_eq_true rfl⟩) pB_bw (pB_now hK (pl2 (pl1 hP (hR.2.1 (en row i_) hc6 hTc).1.1 (hR.2.1 (en row i_) hc6 hTc).1.2) (pl1 hP (hR.2.1 (en row i_) hc6 hTc).2.1.1 (hR.2.1 (en row i_) hc6 hTc).2.1.2))) (va_recv hK (pl1 hP (hR.2.1 (en row i_) hc6 hTc).1.1 (hR.2.1 (en row i_) hc6 hTc).1.2) (ci := 5) (q0 := 0) rfl rfl) rfl hl.1 rfl (Nat.le_of_ble_eq_true rfl) dX1_goOn_136 ⟨Nat.le_of_ble_eq_true rfl, Nat.le_of_ble_eq_true rfl⟩ ?_
      refine w_topi (y := bgF σ x_ m_ (en row i_)) (beg_eq hI hc6 m_) ?_
      refine lv_istore (lv' := [(11, .int (bgF σ x_ m_ (en row i_))), (10, .int (m_ + (σ.ways (6 * x_ + (plF σ (en row i_)))))), (9, .ref (μ.cA (en row i_))), (0, .ref (ad 4)), (1, .int (nI i_)), (2, .int (nI x_)), (3, .int m_), (4, .int bag), (5, .int sm_), (6, .long w_), (8, .int dn_)]) hx hb dX1_goOn_139 hl (by decide) rfl (fun ls hl => ?_)
      refine lv_iload hx hb dX1_goOn_141 (lv_at hl 0 rfl) ?_
      refine lv_iconst (v := (-1)) hx hb dX1_goOn_143 rfl ?_
      refine lv_icmp_ne (tgt := 175) hx hb dX1_goOn_144 rfl (fun h144 => ?_) (fun h144 => ?_)
      · have h144 : ¬ ((bgF σ x_ m_ (en row i_)) = (-1)) := h144
        obtain ⟨hnl, hbg⟩ := bg_n hI hc6 h144
        rw [hbg] at hl
        refine lv_iconst (v := 0) hx hb dX1_goOn_175 rfl ?_
        refine lv_istore (lv' := [(12, .int 0), (11, .int (arrF σ x_ m_ (en row i_))), (10, .int (m_ + (σ.ways (6 * x_ + (plF σ (en row i_)))))), (9, .ref (μ.cA (en row i_))), (0, .ref (ad 4)), (1, .int (nI i_)), (2, .int (nI x_)), (3, .int m_), (4, .int bag), (5, .int sm_), (6, .long w_), (8, .int dn_)]) hx hb dX1_goOn_176 hl (by decide) rfl (fun ls hl => ?_)
        have hL178_1 : ∀ (n_2 : Nat) (k : Nat) (t : OT) (x12 : Int32) (ls : Array Slot) (H : Heap) (locs : List Loc), (4 - k) < n_2 → (k ≤ σ.sm (en row i_)) → (t = srtT (sorT σ kn so (goT σ row full kn so 1) i_ x_ m_ bag sm_ w_ dn_ (en row i_)) k (ω.brings, ω.done, ω.end_)) → x12 = (nI k) → lv_has ls 16 [(12, .int x12), (11, .int (arrF σ x_ m_ (en row i_))), (10, .int (m_ + (σ.ways (6 * x_ + (plF σ (en row i_)))))), (9, .ref (μ.cA (en row i_))), (0, .ref (ad 4)), (1, .int (nI i_)), (2, .int (nI x_)), (3, .int m_), (4, .int bag), (5, .int sm_), (6, .long w_), (8, .int dn_)] → va_P D vwCl (cW dA x ad μ σ ((full, row, nI j, ptF σ.tools 8, kn, so, t.1, t.2.1, ω.below, t.2.2, ω.mb) : Om)) H → va_S (cA x ad μ) s.heap H locs → W p l e rmX1_goOn_2 s m args below meth c H locs 0 0 Q (F0 m 178 ls []) := by
          intro n_2
          induction n_2 with
          | zero => intro k t x12 ls H locs hm_4; exact absurd hm_4 (Nat.not_lt_zero _)
          | succ n_2 ih_3 =>
            intro k t x12 ls H locs hm_4 hk ht ex12 hl hP hS
            subst ex12
            refine lv_iload hx hb dX1_goOn_178 (lv_at hl 0 rfl) ?_
            refine lv_aload hx hb dX1_goOn_180 (lv_at hl 3 rfl) ?_
            refine va_get (D := D) (ci := 5) (v := .ref (μ.lA (en row i_))) (C := RX7) (T := TX7) (N := 3) hx hb hts in_X7 hown hK (pl1 hP (hR.2.1 (en row i_) hc6 hTc).1.1 (hR.2.1 (en row i_) hc6 hTc).1.2) 0 rfl rfl 1 (by decide) (hts _ q700) (fun _ h9 => h9) rfl dX1_goOn_182 ?_
            refine dV (v := .int (nI (σ.sm (en row i_)))) (As := []) (rest := [.int (nI k)]) ⟨hx, hb, hml, hown, hts⟩ (mt_J2_size l D dA (μ.lA (en row i_)) (μ.eA (en row i_)) (μ.mA (en row i_)) (σ.sm (en row i_))) (cw_X1_J2_size hts ⟨Nat.le_of_ble_eq_true rfl, Nat.le_of_ble_eq_true rfl⟩) pB_bw (pB_now hK (pl1 hP (hR.2.1 (en row i_) hc6 hTc).2.2.1.1 (hR.2.1 (en row i_) hc6 hTc).2.2.1.2)) (va_recv hK (pl1 hP (hR.2.1 (en row i_) hc6 hTc).2.2.1.1 (hR.2.1 (en row i_) hc6 hTc).2.2.1.2) (ci := 8) (q0 := 0) rfl rfl) rfl hl.1 rfl (Nat.le_of_ble_eq_true rfl) dX1_goOn_185 ⟨Nat.le_of_ble_eq_true rfl, Nat.le_of_ble_eq_true rfl⟩ ?_
            refine lv_icmp_ge (tgt := 362) hx hb dX1_goOn_188 rfl (fun h188 => ?_) (fun h188 => ?_)
            · have h188 : (σ.sm (en row i_)) ≤ k := (nz_le (a := (σ.sm (en row i_))) (b := k) rfl rfl (by omega) (by omega)).mp h188
              have hk_ : k = σ.sm (en row i_) := by omega
              subst hk_
              exact cm_v hQ hx hb hr hlocks hK hN hP hS (rfl) (by rw [goT_c h63 hnl, ← ht]) dX1_goOn_362
            · have h188 : ¬ ((σ.sm (en row i_)) ≤ k) := fun z9 => h188 ((nz_le (a := (σ.sm (en row i_))) (b := k) rfl rfl (by omega) (by omega)).mpr z9)
              refine lv_aload hx hb dX1_goOn_191 (lv_at hl 3 rfl) ?_
              refine va_get (D := D) (ci := 5) (v := .ref (μ.lA (en row i_))) (C := RX7) (T := TX7) (N := 3) hx hb hts in_X7 hown hK (pl1 hP (hR.2.1 (en row i_) hc6 hTc).1.1 (hR.2.1 (en row i_) hc6 hTc).1.2) 0 rfl rfl 1 (by decide) (hts _ q700) (fun _ h9 => h9) rfl dX1_goOn_193 ?_
              refine lv_iload hx hb dX1_goOn_196 (lv_at hl 0 rfl) ?_
              refine g_sort (rest := []) ⟨hx, hb, hml, hown, hts⟩ (cw_X1_J2_get hts ⟨Nat.le_of_ble_eq_true rfl, Nat.le_of_ble_eq_true rfl⟩) hK hP (hR.2.1 (en row i_) hc6 hTc) (hI.sm (en row i_) hc6) (show k < σ.sm (en row i_) by omega) hl.1 rfl (Nat.le_of_ble_eq_true rfl) dX1_goOn_198 ⟨Nat.le_of_ble_eq_true rfl, Nat.le_of_ble_eq_true rfl⟩ ?_
              refine va_castS hx hb hown (hts _ q964) (hK.1 6 _ rfl).2 (va_recv hK (pl1 hP ((hR.2.1 (en row i_) hc6 hTc).2.2.2.2 k (show k < σ.sm (en row i_) by omega)).1 ((hR.2.1 (en row i_) hc6 hTc).2.2.2.2 k (show k < σ.sm (en row i_) by omega)).2) (ci := 6) (q0 := 0) rfl rfl) dX1_goOn_201 ?_
              refine lv_astore (lv' := [(13, .ref (μ.sA (en row i_) k)), (12, .int (nI k)), (11, .int (arrF σ x_ m_ (en row i_))), (10, .int (m_ + (σ.ways (6 * x_ + (plF σ (en row i_)))))), (9, .ref (μ.cA (en row i_))), (0, .ref (ad 4)), (1, .int (nI i_)), (2, .int (nI x_)), (3, .int m_), (4, .int bag), (5, .int sm_), (6, .long w_), (8, .int dn_)]) hx hb dX1_goOn_204 hl (by decide) rfl (fun ls hl => ?_)
              refine lv_aload_n hx hb dX1_goOn_206 rfl (lv_at hl 5 rfl) ?_
              refine lv_iload_n hx hb dX1_goOn_207 rfl (lv_at hl 6 rfl) ?_
              refine dV (v := .int (entF row i_)) (As := [.int (nI i_)]) (rest := []) ⟨hx, hb, hml, hown, hts⟩ (mt_X1_at l D dA x ad μ σ ((full, row, nI j, ptF σ.tools 8, kn, so, t.1, t.2.1, ω.below, t.2.2, ω.mb) : Om) row i_ hI hR) (cw_X1_X1_at hts ⟨Nat.le_of_ble_eq_true rfl, Nat.le_of_ble_eq_true rfl⟩) cB_bw (cB_now hK hN hP) (va_recv hK hP (ci := 2) (q0 := 5) rfl rfl) rfl hl.1 rfl (Nat.le_of_ble_eq_true rfl) dX1_goOn_208 ⟨Nat.le_of_ble_eq_true rfl, Nat.le_of_ble_eq_true rfl⟩ ?_
              refine w_topi (y := nI (en row i_)) (en_eq row i_) ?_
              refine lv_aload_n hx hb dX1_goOn_211 rfl (lv_at hl 5 rfl) ?_
              refine va_get (D := D) (ci := 2) (v := .int kn) (C := RX1) (T := TX1) (N := 11) hx hb hts in_X1 hown hK hP 5 rfl rfl 4 (by decide) (hts _ q133) (fun _ h9 => h9) rfl dX1_goOn_212 ?_
              refine lv_icmp_ne (tgt := 230) hx hb dX1_goOn_215 rfl (fun h215 => ?_) (fun h215 => ?_)
              · have h215 : ¬ ((nI (en row i_)) = kn) := h215
                refine lv_aload_n hx hb dX1_goOn_230 rfl (lv_at hl 5 rfl) ?_
                refine lv_iload_n hx hb dX1_goOn_231 rfl (lv_at hl 6 rfl) ?_
                refine dV (v := .int (entF row i_)) (As := [.int (nI i_)]) (rest := []) ⟨hx, hb, hml, hown, hts⟩ (mt_X1_at l D dA x ad μ σ ((full, row, nI j, ptF σ.tools 8, kn, so, t.1, t.2.1, ω.below, t.2.2, ω.mb) : Om) row i_ hI hR) (cw_X1_X1_at hts ⟨Nat.le_of_ble_eq_true rfl, Nat.le_of_ble_eq_true rfl⟩) cB_bw (cB_now hK hN hP) (va_recv hK hP (ci := 2) (q0 := 5) rfl rfl) rfl hl.1 rfl (Nat.le_of_ble_eq_true rfl) dX1_goOn_232 ⟨Nat.le_of_ble_eq_true rfl, Nat.le_of_ble_eq_true rfl⟩ ?_
                refine w_topi (y := nI (en row i_)) (en_eq row i_) ?_
                refine lv_aload_n hx hb dX1_goOn_235 rfl (lv_at hl 5 rfl) ?_
                refine va_get (D := D) (ci := 2) (v := .int kn) (C := RX1) (T := TX1) (N := 11) hx hb hts in_X1 hown hK hP 5 rfl rfl 4 (by decide) (hts _ q133) (fun _ h9 => h9) rfl dX1_goOn_236 ?_
                refine lv_icmp_ne (tgt := 247) hx hb dX1_goOn_239 rfl (fun h239 => ?_) (fun h239 => ?_)
                · have h239 : ¬ ((nI (en row i_)) = kn) := h239
                  refine lv_lload hx hb dX1_goOn_247 (lv_at hl 11 rfl) ?_
                  refine lv_aload hx hb dX1_goOn_249 (lv_at hl 4 rfl) ?_
                  refine va_get (D := D) (ci := 5) (v := .int (total σ (en row i_))) (C := RX7) (T := TX7) (N := 3) hx hb hts in_X7 hown hK (pl1 hP (hR.2.1 (en row i_) hc6 hTc).1.1 (hR.2.1 (en row i_) hc6 hTc).1.2) 0 rfl rfl 2 (by decide) (hts _ q702) (fun _ h9 => h9) rfl dX1_goOn_251 ?_
                  refine lv_i2l (v := (total σ (en row i_) : Int32).toInt64) hx hb dX1_goOn_254 rfl ?_
                  refine lv_ldiv hx hb dX1_goOn_255 (total_ne hI hc6 (by omega)) ?_
                  refine lv_aload hx hb dX1_goOn_256 (lv_at hl 0 rfl) ?_
                  refine va_get (D := D) (ci := 6) (v := .int (σ.sorts (16 * (en row i_) + 4 * k))) (C := RX9) (T := TX9) (N := 4) hx hb hts in_X9 hown hK (pl1 hP ((hR.2.1 (en row i_) hc6 hTc).2.2.2.2 k (show k < σ.sm (en row i_) by omega)).1 ((hR.2.1 (en row i_) hc6 hTc).2.2.2.2 k (show k < σ.sm (en row i_) by omega)).2) 0 rfl rfl 2 (by decide) (hts _ q727) (fun _ h9 => h9) rfl dX1_goOn_258 ?_
                  refine lv_i2l (v := (σ.sorts (16 * (en row i_) + 4 * k) : Int32).toInt64) hx hb dX1_goOn_261 rfl ?_
                  refine lv_lmul hx hb dX1_goOn_262 ?_
                  refine w_topl (y := prT σ kn w_ (en row i_) k) ((by unfold prT; rw [if_neg h215])) ?_
                  refine lv_lstore (lv' := [(14, .long (prT σ kn w_ (en row i_) k)), (13, .ref (μ.sA (en row i_) k)), (12, .int (nI k)), (11, .int (arrF σ x_ m_ (en row i_))), (10, .int (m_ + (σ.ways (6 * x_ + (plF σ (en row i_)))))), (9, .ref (μ.cA (en row i_))), (0, .ref (ad 4)), (1, .int (nI i_)), (2, .int (nI x_)), (3, .int m_), (4, .int bag), (5, .int sm_), (6, .long w_), (8, .int dn_)]) hx hb dX1_goOn_263 hl (by decide) rfl (fun ls hl => ?_)
                  refine lv_aload hx hb dX1_goOn_265 (lv_at hl 1 rfl) ?_
                  refine lv_iload hx hb dX1_goOn_267 (lv_at hl 10 rfl) ?_
                  refine dU (v := .int (b01 (metP bag (σ.sorts (16 * (en row i_) + 4 * k + 2)) (σ.sorts (16 * (en row i_) + 4 * k + 3))))) (As := [.int bag]) (rest := []) ⟨hx, hb, hml, hown, hts⟩ (mt_X8_isMet_S l D dA (μ.sA (en row i_) k) (σ.sorts (16 * (en row i_) + 4 * k + 2)) (σ.sorts (16 * (en row i_) + 4 * k + 3)) (σ.sorts (16 * (en row i_) + 4 * k)) (σ.sorts (16 * (en row i_) + 4 * k + 1)) bag) (cw_X1_X8_isMet_S_X9 hts ⟨Nat.le_of_ble_eq_true rfl, Nat.le_of_ble_eq_true rfl⟩) pB_bw (pB_now hK (pl1 hP ((hR.2.1 (en row i_) hc6 hTc).2.2.2.2 k (show k < σ.sm (en row i_) by omega)).1 ((hR.2.1 (en row i_) hc6 hTc).2.2.2.2 k (show k < σ.sm (en row i_) by omega)).2)) (va_recv hK (pl1 hP ((hR.2.1 (en row i_) hc6 hTc).2.2.2.2 k (show k < σ.sm (en row i_) by omega)).1 ((hR.2.1 (en row i_) hc6 hTc).2.2.2.2 k (show k < σ.sm (en row i_) by omega)).2) (ci := 6) (q0 := 0) rfl rfl) rfl hl.1 rfl (Nat.le_of_ble_eq_true rfl) dX1_goOn_269 ⟨Nat.le_of_ble_eq_true rfl, Nat.le_of_ble_eq_true rfl⟩ ?_
                  refine w_topi (y := b01 (¬ leftF σ bag (en row i_) k = -1)) (b01_iff (met_left hy (en row i_) k)) ?_
                  refine lv_if_eq (tgt := 321) hx hb dX1_goOn_272 rfl (fun h272 => ?_) (fun h272 => ?_)
                  · have h272 : ¬ (¬ leftF σ bag (en row i_) k = -1) := b01_0.mp h272
                    refine lv_aload_n hx hb dX1_goOn_321 rfl (lv_at hl 6 rfl) ?_
                    refine lv_iload_n hx hb dX1_goOn_322 rfl (lv_at hl 7 rfl) ?_
                    refine lv_iconst (v := 1) hx hb dX1_goOn_323 rfl ?_
                    refine lv_iadd hx hb dX1_goOn_324 ?_
                    refine w_topi (nz_add rfl rfl) ?_
                    refine lv_aload hx hb dX1_goOn_325 (lv_at hl 5 rfl) ?_
                    refine dV (v := .int ((fun k0_ => σ.calls (6 * (en row i_) + k0_)) 0)) (As := []) (rest := [.int (nI (i_ + 1)), .ref (ad 4)]) ⟨hx, hb, hml, hown, hts⟩ (mt_X7_place l D dA (μ.cA (en row i_)) (μ.kA (en row i_)) (μ.lA (en row i_)) (total σ (en row i_)) (fun k0_ => σ.calls (6 * (en row i_) + k0_))) (cw_X1_X7_place hts ⟨Nat.le_of_ble_eq_true rfl, Nat.le_of_ble_eq_true rfl⟩) pB_bw (pB_now hK (pl2 (pl1 hP (hR.2.1 (en row i_) hc6 hTc).1.1 (hR.2.1 (en row i_) hc6 hTc).1.2) (pl1 hP (hR.2.1 (en row i_) hc6 hTc).2.1.1 (hR.2.1 (en row i_) hc6 hTc).2.1.2))) (va_recv hK (pl1 hP (hR.2.1 (en row i_) hc6 hTc).1.1 (hR.2.1 (en row i_) hc6 hTc).1.2) (ci := 5) (q0 := 0) rfl rfl) rfl hl.1 rfl (Nat.le_of_ble_eq_true rfl) dX1_goOn_327 ⟨Nat.le_of_ble_eq_true rfl, Nat.le_of_ble_eq_true rfl⟩ ?_
                    refine w_topi (y := nI (plF σ (en row i_))) ((hI.pl2 (en row i_) hc6).2) ?_
                    refine lv_iload hx hb dX1_goOn_330 (lv_at hl 3 rfl) ?_
                    refine lv_aload hx hb dX1_goOn_332 (lv_at hl 5 rfl) ?_
                    refine va_get (D := D) (ci := 5) (v := .ref (μ.kA (en row i_))) (C := RX7) (T := TX7) (N := 3) hx hb hts in_X7 hown hK (pl1 hP (hR.2.1 (en row i_) hc6 hTc).1.1 (hR.2.1 (en row i_) hc6 hTc).1.2) 0 rfl rfl 0 (by decide) (hts _ q697) (fun _ h9 => h9) rfl dX1_goOn_334 ?_
                    refine lv_iconst (v := 5) hx hb dX1_goOn_337 rfl ?_
                    refine wa_iald1 (v := σ.calls (6 * (en row i_) + 5)) hx hb hK (pl1 hP (hR.2.1 (en row i_) hc6 hTc).2.1.1 (hR.2.1 (en row i_) hc6 hTc).2.1.2) 0 0 rfl rfl (5) (rfl) (by omega) (by decide) (rfl) dX1_goOn_338 ?_
                    refine lv_iadd hx hb dX1_goOn_339 ?_
                    refine lv_iload hx hb dX1_goOn_340 (lv_at hl 10 rfl) ?_
                    refine lv_iload hx hb dX1_goOn_342 (lv_at hl 11 rfl) ?_
                    refine lv_aload hx hb dX1_goOn_344 (lv_at hl 5 rfl) ?_
                    refine dV (v := .int ((fun k0_ => σ.calls (6 * (en row i_) + k0_)) 4)) (As := []) (rest := [.int sm_, .int bag, .int ((arrF σ x_ m_ (en row i_)) + (σ.calls (6 * (en row i_) + 5))), .int (nI (plF σ (en row i_))), .int (nI (i_ + 1)), .ref (ad 4)]) ⟨hx, hb, hml, hown, hts⟩ (mt_X7_again l D dA (μ.cA (en row i_)) (μ.kA (en row i_)) (μ.lA (en row i_)) (total σ (en row i_)) (fun k0_ => σ.calls (6 * (en row i_) + k0_))) (cw_X1_X7_again hts ⟨Nat.le_of_ble_eq_true rfl, Nat.le_of_ble_eq_true rfl⟩) pB_bw (pB_now hK (pl2 (pl1 hP (hR.2.1 (en row i_) hc6 hTc).1.1 (hR.2.1 (en row i_) hc6 hTc).1.2) (pl1 hP (hR.2.1 (en row i_) hc6 hTc).2.1.1 (hR.2.1 (en row i_) hc6 hTc).2.1.2))) (va_recv hK (pl1 hP (hR.2.1 (en row i_) hc6 hTc).1.1 (hR.2.1 (en row i_) hc6 hTc).1.2) (ci := 5) (q0 := 0) rfl rfl) rfl hl.1 rfl (Nat.le_of_ble_eq_true rfl) dX1_goOn_346 ⟨Nat.le_of_ble_eq_true rfl, Nat.le_of_ble_eq_true rfl⟩ ?_
                    refine w_topi (y := σ.calls (6 * (en row i_) + 4)) (rfl) ?_
                    refine lv_isub hx hb dX1_goOn_349 ?_
                    refine lv_lload hx hb dX1_goOn_350 (lv_at hl 0 rfl) ?_
                    refine lv_iconst (v := 0) hx hb dX1_goOn_352 rfl ?_
                    refine dM (v := none) (σ' := σ) (ω' := ((full, row, nI j, ptF σ.tools 8, kn, so, (goT σ row full kn so 1 (i_ + 1) (plF σ (en row i_)) ((arrF σ x_ m_ (en row i_)) + (σ.calls (6 * (en row i_) + 5))) bag (sm_ - (σ.calls (6 * (en row i_) + 4))) (prT σ kn w_ (en row i_) k) 0 (t.1, t.2.1, t.2.2)).1, (goT σ row full kn so 1 (i_ + 1) (plF σ (en row i_)) ((arrF σ x_ m_ (en row i_)) + (σ.calls (6 * (en row i_) + 5))) bag (sm_ - (σ.calls (6 * (en row i_) + 4))) (prT σ kn w_ (en row i_) k) 0 (t.1, t.2.1, t.2.2)).2.1, ω.below, (goT σ row full kn so 1 (i_ + 1) (plF σ (en row i_)) ((arrF σ x_ m_ (en row i_)) + (σ.calls (6 * (en row i_) + 5))) bag (sm_ - (σ.calls (6 * (en row i_) + 4))) (prT σ kn w_ (en row i_) k) 0 (t.1, t.2.1, t.2.2)).2.2, ω.mb) : Om)) (As := [.int (nI (i_ + 1)), .int (nI (plF σ (en row i_))), .int ((arrF σ x_ m_ (en row i_)) + (σ.calls (6 * (en row i_) + 5))), .int bag, .int (sm_ - (σ.calls (6 * (en row i_) + 4))), .long (prT σ kn w_ (en row i_) k), .int 0]) (rest := []) ⟨hx, hb, hml, hown, hts⟩ (mt_X1_goOn_1 l D dA x ad μ σ ((full, row, nI j, ptF σ.tools 8, kn, so, t.1, t.2.1, ω.below, t.2.2, ω.mb) : Om) hcD full row j kn so (i_ + 1) (plF σ (en row i_)) ((arrF σ x_ m_ (en row i_)) + (σ.calls (6 * (en row i_) + 5))) bag (sm_ - (σ.calls (6 * (en row i_) + 4))) (prT σ kn w_ (en row i_) k) 0 hI hR hpl hy hf hoT (by omega) hj) (cw_X1_X1_goOn_1 hts ⟨Nat.le_of_ble_eq_true rfl, Nat.le_of_ble_eq_true rfl⟩) (cB_now hK hN hP) (va_recv hK hP (ci := 2) (q0 := 5) rfl rfl) rfl hl.1 rfl (Nat.le_of_ble_eq_true rfl) dX1_goOn_353 ⟨Nat.le_of_ble_eq_true rfl, Nat.le_of_ble_eq_true rfl⟩ hS (fun H locs hP hS => ?_)
                    change W p l e rmX1_goOn_2 s m args below meth c H locs 0 0 Q (F0 m 356 ls [])
                    refine lv_iinc (v := nI (k + 1)) (lv' := [(12, .int (nI (k + 1))), (14, .long (prT σ kn w_ (en row i_) k)), (13, .ref (μ.sA (en row i_) k)), (11, .int (arrF σ x_ m_ (en row i_))), (10, .int (m_ + (σ.ways (6 * x_ + (plF σ (en row i_)))))), (9, .ref (μ.cA (en row i_))), (0, .ref (ad 4)), (1, .int (nI i_)), (2, .int (nI x_)), (3, .int m_), (4, .int bag), (5, .int sm_), (6, .long w_), (8, .int dn_)]) hx hb dX1_goOn_356 hl (k := 2) rfl (nI_1 k) (by decide) rfl (fun ls hl => ?_)
                    refine lv_goto (tgt := 178) hx hb dX1_goOn_359 rfl ?_
                    exact ih_3 (k + 1) (goT σ row full kn so 1 (i_ + 1) (plF σ (en row i_)) (arrF σ x_ m_ (en row i_) + σ.calls (6 * (en row i_) + 5)) bag (sm_ - σ.calls (6 * (en row i_) + 4)) (prT σ kn w_ (en row i_) k) 0 t) (nI (k + 1)) ls _ _ (by omega) (by omega) (by rw [srtT, ← ht]; exact sor_not (fun q => h215 q.1) (Classical.not_not.mp h272)) rfl (lv_sub hl [0, 3, 4, 5, 6, 7, 8, 9, 10, 11, 12, 13] rfl) hP hS
                  · have h272 : ¬ leftF σ bag (en row i_) k = -1 := b01_n h272
                    refine lv_aload_n hx hb dX1_goOn_275 rfl (lv_at hl 6 rfl) ?_
                    refine lv_iload_n hx hb dX1_goOn_276 rfl (lv_at hl 7 rfl) ?_
                    refine lv_iconst (v := 1) hx hb dX1_goOn_277 rfl ?_
                    refine lv_iadd hx hb dX1_goOn_278 ?_
                    refine w_topi (nz_add rfl rfl) ?_
                    refine lv_aload hx hb dX1_goOn_279 (lv_at hl 5 rfl) ?_
                    refine dV (v := .int ((fun k0_ => σ.calls (6 * (en row i_) + k0_)) 0)) (As := []) (rest := [.int (nI (i_ + 1)), .ref (ad 4)]) ⟨hx, hb, hml, hown, hts⟩ (mt_X7_place l D dA (μ.cA (en row i_)) (μ.kA (en row i_)) (μ.lA (en row i_)) (total σ (en row i_)) (fun k0_ => σ.calls (6 * (en row i_) + k0_))) (cw_X1_X7_place hts ⟨Nat.le_of_ble_eq_true rfl, Nat.le_of_ble_eq_true rfl⟩) pB_bw (pB_now hK (pl2 (pl1 hP (hR.2.1 (en row i_) hc6 hTc).1.1 (hR.2.1 (en row i_) hc6 hTc).1.2) (pl1 hP (hR.2.1 (en row i_) hc6 hTc).2.1.1 (hR.2.1 (en row i_) hc6 hTc).2.1.2))) (va_recv hK (pl1 hP (hR.2.1 (en row i_) hc6 hTc).1.1 (hR.2.1 (en row i_) hc6 hTc).1.2) (ci := 5) (q0 := 0) rfl rfl) rfl hl.1 rfl (Nat.le_of_ble_eq_true rfl) dX1_goOn_281 ⟨Nat.le_of_ble_eq_true rfl, Nat.le_of_ble_eq_true rfl⟩ ?_
                    refine w_topi (y := nI (plF σ (en row i_))) ((hI.pl2 (en row i_) hc6).2) ?_
                    refine lv_iload hx hb dX1_goOn_284 (lv_at hl 3 rfl) ?_
                    refine lv_aload hx hb dX1_goOn_286 (lv_at hl 1 rfl) ?_
                    refine va_get (D := D) (ci := 6) (v := .int (σ.sorts (16 * (en row i_) + 4 * k + 1))) (C := RX9) (T := TX9) (N := 4) hx hb hts in_X9 hown hK (pl1 hP ((hR.2.1 (en row i_) hc6 hTc).2.2.2.2 k (show k < σ.sm (en row i_) by omega)).1 ((hR.2.1 (en row i_) hc6 hTc).2.2.2.2 k (show k < σ.sm (en row i_) by omega)).2) 0 rfl rfl 3 (by decide) (hts _ q731) (fun _ h9 => h9) rfl dX1_goOn_288 ?_
                    refine lv_iadd hx hb dX1_goOn_291 ?_
                    refine lv_aload hx hb dX1_goOn_292 (lv_at hl 1 rfl) ?_
                    refine lv_iload hx hb dX1_goOn_294 (lv_at hl 10 rfl) ?_
                    refine lv_aload_n hx hb dX1_goOn_296 rfl (lv_at hl 6 rfl) ?_
                    refine va_get (D := D) (ci := 2) (v := .int (ptF σ.tools 8)) (C := RX1) (T := TX1) (N := 11) hx hb hts in_X1 hown hK hP 5 rfl rfl 3 (by decide) (hts _ q132) (fun _ h9 => h9) rfl dX1_goOn_297 ?_
                    refine dU (v := .int (lefW bag (σ.sorts (16 * (en row i_) + 4 * k + 2)) (σ.sorts (16 * (en row i_) + 4 * k + 3)) (ptF σ.tools 8))) (As := [.int bag, .int (ptF σ.tools 8)]) (rest := [.int ((arrF σ x_ m_ (en row i_)) + (σ.sorts (16 * (en row i_) + 4 * k + 1))), .int (nI (plF σ (en row i_))), .int (nI (i_ + 1)), .ref (ad 4)]) ⟨hx, hb, hml, hown, hts⟩ (mt_X8_left_S l D dA (μ.sA (en row i_) k) (σ.sorts (16 * (en row i_) + 4 * k + 2)) (σ.sorts (16 * (en row i_) + 4 * k + 3)) (σ.sorts (16 * (en row i_) + 4 * k)) (σ.sorts (16 * (en row i_) + 4 * k + 1)) bag (ptF σ.tools 8)) (cw_X1_X8_left_S_X9 hts ⟨Nat.le_of_ble_eq_true rfl, Nat.le_of_ble_eq_true rfl⟩) pB_bw (pB_now hK (pl1 hP ((hR.2.1 (en row i_) hc6 hTc).2.2.2.2 k (show k < σ.sm (en row i_) by omega)).1 ((hR.2.1 (en row i_) hc6 hTc).2.2.2.2 k (show k < σ.sm (en row i_) by omega)).2)) (va_recv hK (pl1 hP ((hR.2.1 (en row i_) hc6 hTc).2.2.2.2 k (show k < σ.sm (en row i_) by omega)).1 ((hR.2.1 (en row i_) hc6 hTc).2.2.2.2 k (show k < σ.sm (en row i_) by omega)).2) (ci := 6) (q0 := 0) rfl rfl) rfl hl.1 rfl (Nat.le_of_ble_eq_true rfl) dX1_goOn_300 ⟨Nat.le_of_ble_eq_true rfl, Nat.le_of_ble_eq_true rfl⟩ ?_
                    refine w_topi (y := leftF σ bag (en row i_) k) (lef_eq hI hy hc6 (by omega) ((met_left hy (en row i_) k).mpr h272)) ?_
                    refine lv_iload hx hb dX1_goOn_303 (lv_at hl 11 rfl) ?_
                    refine lv_aload hx hb dX1_goOn_305 (lv_at hl 5 rfl) ?_
                    refine dV (v := .int ((fun k0_ => σ.calls (6 * (en row i_) + k0_)) 3)) (As := []) (rest := [.int sm_, .int (leftF σ bag (en row i_) k), .int ((arrF σ x_ m_ (en row i_)) + (σ.sorts (16 * (en row i_) + 4 * k + 1))), .int (nI (plF σ (en row i_))), .int (nI (i_ + 1)), .ref (ad 4)]) ⟨hx, hb, hml, hown, hts⟩ (mt_X7_worth l D dA (μ.cA (en row i_)) (μ.kA (en row i_)) (μ.lA (en row i_)) (total σ (en row i_)) (fun k0_ => σ.calls (6 * (en row i_) + k0_))) (cw_X1_X7_worth hts ⟨Nat.le_of_ble_eq_true rfl, Nat.le_of_ble_eq_true rfl⟩) pB_bw (pB_now hK (pl2 (pl1 hP (hR.2.1 (en row i_) hc6 hTc).1.1 (hR.2.1 (en row i_) hc6 hTc).1.2) (pl1 hP (hR.2.1 (en row i_) hc6 hTc).2.1.1 (hR.2.1 (en row i_) hc6 hTc).2.1.2))) (va_recv hK (pl1 hP (hR.2.1 (en row i_) hc6 hTc).1.1 (hR.2.1 (en row i_) hc6 hTc).1.2) (ci := 5) (q0 := 0) rfl rfl) rfl hl.1 rfl (Nat.le_of_ble_eq_true rfl) dX1_goOn_307 ⟨Nat.le_of_ble_eq_true rfl, Nat.le_of_ble_eq_true rfl⟩ ?_
                    refine w_topi (y := σ.calls (6 * (en row i_) + 3)) (rfl) ?_
                    refine lv_iadd hx hb dX1_goOn_310 ?_
                    refine lv_lload hx hb dX1_goOn_311 (lv_at hl 0 rfl) ?_
                    refine lv_iload hx hb dX1_goOn_313 (lv_at hl 13 rfl) ?_
                    refine dM (v := none) (σ' := σ) (ω' := ((full, row, nI j, ptF σ.tools 8, kn, so, (goT σ row full kn so 1 (i_ + 1) (plF σ (en row i_)) ((arrF σ x_ m_ (en row i_)) + (σ.sorts (16 * (en row i_) + 4 * k + 1))) (leftF σ bag (en row i_) k) (sm_ + (σ.calls (6 * (en row i_) + 3))) (prT σ kn w_ (en row i_) k) dn_ (t.1, t.2.1, t.2.2)).1, (goT σ row full kn so 1 (i_ + 1) (plF σ (en row i_)) ((arrF σ x_ m_ (en row i_)) + (σ.sorts (16 * (en row i_) + 4 * k + 1))) (leftF σ bag (en row i_) k) (sm_ + (σ.calls (6 * (en row i_) + 3))) (prT σ kn w_ (en row i_) k) dn_ (t.1, t.2.1, t.2.2)).2.1, ω.below, (goT σ row full kn so 1 (i_ + 1) (plF σ (en row i_)) ((arrF σ x_ m_ (en row i_)) + (σ.sorts (16 * (en row i_) + 4 * k + 1))) (leftF σ bag (en row i_) k) (sm_ + (σ.calls (6 * (en row i_) + 3))) (prT σ kn w_ (en row i_) k) dn_ (t.1, t.2.1, t.2.2)).2.2, ω.mb) : Om)) (As := [.int (nI (i_ + 1)), .int (nI (plF σ (en row i_))), .int ((arrF σ x_ m_ (en row i_)) + (σ.sorts (16 * (en row i_) + 4 * k + 1))), .int (leftF σ bag (en row i_) k), .int (sm_ + (σ.calls (6 * (en row i_) + 3))), .long (prT σ kn w_ (en row i_) k), .int dn_]) (rest := []) ⟨hx, hb, hml, hown, hts⟩ (mt_X1_goOn_1 l D dA x ad μ σ ((full, row, nI j, ptF σ.tools 8, kn, so, t.1, t.2.1, ω.below, t.2.2, ω.mb) : Om) hcD full row j kn so (i_ + 1) (plF σ (en row i_)) ((arrF σ x_ m_ (en row i_)) + (σ.sorts (16 * (en row i_) + 4 * k + 1))) (leftF σ bag (en row i_) k) (sm_ + (σ.calls (6 * (en row i_) + 3))) (prT σ kn w_ (en row i_) k) dn_ hI hR hpl (left_by hy h272) hf hoT (by omega) hj) (cw_X1_X1_goOn_1 hts ⟨Nat.le_of_ble_eq_true rfl, Nat.le_of_ble_eq_true rfl⟩) (cB_now hK hN hP) (va_recv hK hP (ci := 2) (q0 := 5) rfl rfl) rfl hl.1 rfl (Nat.le_of_ble_eq_true rfl) dX1_goOn_315 ⟨Nat.le_of_ble_eq_true rfl, Nat.le_of_ble_eq_true rfl⟩ hS (fun H locs hP hS => ?_)
                    change W p l e rmX1_goOn_2 s m args below meth c H locs 0 0 Q (F0 m 318 ls [])
                    refine lv_goto (tgt := 356) hx hb dX1_goOn_318 rfl ?_
                    refine lv_iinc (v := nI (k + 1)) (lv' := [(12, .int (nI (k + 1))), (14, .long (prT σ kn w_ (en row i_) k)), (13, .ref (μ.sA (en row i_) k)), (11, .int (arrF σ x_ m_ (en row i_))), (10, .int (m_ + (σ.ways (6 * x_ + (plF σ (en row i_)))))), (9, .ref (μ.cA (en row i_))), (0, .ref (ad 4)), (1, .int (nI i_)), (2, .int (nI x_)), (3, .int m_), (4, .int bag), (5, .int sm_), (6, .long w_), (8, .int dn_)]) hx hb dX1_goOn_356 hl (k := 2) rfl (nI_1 k) (by decide) rfl (fun ls hl => ?_)
                    refine lv_goto (tgt := 178) hx hb dX1_goOn_359 rfl ?_
                    exact ih_3 (k + 1) (goT σ row full kn so 1 (i_ + 1) (plF σ (en row i_)) (arrF σ x_ m_ (en row i_) + σ.sorts (16 * (en row i_) + 4 * k + 1)) (leftF σ bag (en row i_) k) (sm_ + σ.calls (6 * (en row i_) + 3)) (prT σ kn w_ (en row i_) k) dn_ t) (nI (k + 1)) ls _ _ (by omega) (by omega) (by rw [srtT, ← ht]; exact sor_met (fun q => h215 q.1) h272) rfl (lv_sub hl [0, 3, 4, 5, 6, 7, 8, 9, 10, 11, 12, 13] rfl) hP hS
                · have h239 : (nI (en row i_)) = kn := h239
                  exact absurd h239 h215
              · have h215 : (nI (en row i_)) = kn := h215
                refine lv_iload hx hb dX1_goOn_218 (lv_at hl 1 rfl) ?_
                refine lv_aload_n hx hb dX1_goOn_220 rfl (lv_at hl 5 rfl) ?_
                refine va_get (D := D) (ci := 2) (v := .int so) (C := RX1) (T := TX1) (N := 11) hx hb hts in_X1 hown hK hP 5 rfl rfl 5 (by decide) (hts _ q134) (fun _ h9 => h9) rfl dX1_goOn_221 ?_
                refine lv_icmp_eq (tgt := 230) hx hb dX1_goOn_224 rfl (fun h224 => ?_) (fun h224 => ?_)
                · have h224 : (nI k) = so := h224
                  refine lv_aload_n hx hb dX1_goOn_230 rfl (lv_at hl 5 rfl) ?_
                  refine lv_iload_n hx hb dX1_goOn_231 rfl (lv_at hl 6 rfl) ?_
                  refine dV (v := .int (entF row i_)) (As := [.int (nI i_)]) (rest := []) ⟨hx, hb, hml, hown, hts⟩ (mt_X1_at l D dA x ad μ σ ((full, row, nI j, ptF σ.tools 8, kn, so, t.1, t.2.1, ω.below, t.2.2, ω.mb) : Om) row i_ hI hR) (cw_X1_X1_at hts ⟨Nat.le_of_ble_eq_true rfl, Nat.le_of_ble_eq_true rfl⟩) cB_bw (cB_now hK hN hP) (va_recv hK hP (ci := 2) (q0 := 5) rfl rfl) rfl hl.1 rfl (Nat.le_of_ble_eq_true rfl) dX1_goOn_232 ⟨Nat.le_of_ble_eq_true rfl, Nat.le_of_ble_eq_true rfl⟩ ?_
                  refine w_topi (y := nI (en row i_)) (en_eq row i_) ?_
                  refine lv_aload_n hx hb dX1_goOn_235 rfl (lv_at hl 5 rfl) ?_
                  refine va_get (D := D) (ci := 2) (v := .int kn) (C := RX1) (T := TX1) (N := 11) hx hb hts in_X1 hown hK hP 5 rfl rfl 4 (by decide) (hts _ q133) (fun _ h9 => h9) rfl dX1_goOn_236 ?_
                  refine lv_icmp_ne (tgt := 247) hx hb dX1_goOn_239 rfl (fun h239 => ?_) (fun h239 => ?_)
                  · have h239 : ¬ ((nI (en row i_)) = kn) := h239
                    exact absurd h215 h239
                  · have h239 : (nI (en row i_)) = kn := h239
                    refine lv_lload hx hb dX1_goOn_242 (lv_at hl 11 rfl) ?_
                    refine w_topl (y := prT σ kn w_ (en row i_) k) ((by unfold prT; rw [if_pos h215])) ?_
                    refine lv_goto (tgt := 263) hx hb dX1_goOn_244 rfl ?_
                    refine lv_lstore (lv' := [(14, .long (prT σ kn w_ (en row i_) k)), (13, .ref (μ.sA (en row i_) k)), (12, .int (nI k)), (11, .int (arrF σ x_ m_ (en row i_))), (10, .int (m_ + (σ.ways (6 * x_ + (plF σ (en row i_)))))), (9, .ref (μ.cA (en row i_))), (0, .ref (ad 4)), (1, .int (nI i_)), (2, .int (nI x_)), (3, .int m_), (4, .int bag), (5, .int sm_), (6, .long w_), (8, .int dn_)]) hx hb dX1_goOn_263 hl (by decide) rfl (fun ls hl => ?_)
                    refine lv_aload hx hb dX1_goOn_265 (lv_at hl 1 rfl) ?_
                    refine lv_iload hx hb dX1_goOn_267 (lv_at hl 10 rfl) ?_
                    refine dU (v := .int (b01 (metP bag (σ.sorts (16 * (en row i_) + 4 * k + 2)) (σ.sorts (16 * (en row i_) + 4 * k + 3))))) (As := [.int bag]) (rest := []) ⟨hx, hb, hml, hown, hts⟩ (mt_X8_isMet_S l D dA (μ.sA (en row i_) k) (σ.sorts (16 * (en row i_) + 4 * k + 2)) (σ.sorts (16 * (en row i_) + 4 * k + 3)) (σ.sorts (16 * (en row i_) + 4 * k)) (σ.sorts (16 * (en row i_) + 4 * k + 1)) bag) (cw_X1_X8_isMet_S_X9 hts ⟨Nat.le_of_ble_eq_true rfl, Nat.le_of_ble_eq_true rfl⟩) pB_bw (pB_now hK (pl1 hP ((hR.2.1 (en row i_) hc6 hTc).2.2.2.2 k (show k < σ.sm (en row i_) by omega)).1 ((hR.2.1 (en row i_) hc6 hTc).2.2.2.2 k (show k < σ.sm (en row i_) by omega)).2)) (va_recv hK (pl1 hP ((hR.2.1 (en row i_) hc6 hTc).2.2.2.2 k (show k < σ.sm (en row i_) by omega)).1 ((hR.2.1 (en row i_) hc6 hTc).2.2.2.2 k (show k < σ.sm (en row i_) by omega)).2) (ci := 6) (q0 := 0) rfl rfl) rfl hl.1 rfl (Nat.le_of_ble_eq_true rfl) dX1_goOn_269 ⟨Nat.le_of_ble_eq_true rfl, Nat.le_of_ble_eq_true rfl⟩ ?_
                    refine w_topi (y := b01 (¬ leftF σ bag (en row i_) k = -1)) (b01_iff (met_left hy (en row i_) k)) ?_
                    refine lv_if_eq (tgt := 321) hx hb dX1_goOn_272 rfl (fun h272 => ?_) (fun h272 => ?_)
                    · have h272 : ¬ (¬ leftF σ bag (en row i_) k = -1) := b01_0.mp h272
                      refine lv_aload_n hx hb dX1_goOn_321 rfl (lv_at hl 6 rfl) ?_
                      refine lv_iload_n hx hb dX1_goOn_322 rfl (lv_at hl 7 rfl) ?_
                      refine lv_iconst (v := 1) hx hb dX1_goOn_323 rfl ?_
                      refine lv_iadd hx hb dX1_goOn_324 ?_
                      refine w_topi (nz_add rfl rfl) ?_
                      refine lv_aload hx hb dX1_goOn_325 (lv_at hl 5 rfl) ?_
                      refine dV (v := .int ((fun k0_ => σ.calls (6 * (en row i_) + k0_)) 0)) (As := []) (rest := [.int (nI (i_ + 1)), .ref (ad 4)]) ⟨hx, hb, hml, hown, hts⟩ (mt_X7_place l D dA (μ.cA (en row i_)) (μ.kA (en row i_)) (μ.lA (en row i_)) (total σ (en row i_)) (fun k0_ => σ.calls (6 * (en row i_) + k0_))) (cw_X1_X7_place hts ⟨Nat.le_of_ble_eq_true rfl, Nat.le_of_ble_eq_true rfl⟩) pB_bw (pB_now hK (pl2 (pl1 hP (hR.2.1 (en row i_) hc6 hTc).1.1 (hR.2.1 (en row i_) hc6 hTc).1.2) (pl1 hP (hR.2.1 (en row i_) hc6 hTc).2.1.1 (hR.2.1 (en row i_) hc6 hTc).2.1.2))) (va_recv hK (pl1 hP (hR.2.1 (en row i_) hc6 hTc).1.1 (hR.2.1 (en row i_) hc6 hTc).1.2) (ci := 5) (q0 := 0) rfl rfl) rfl hl.1 rfl (Nat.le_of_ble_eq_true rfl) dX1_goOn_327 ⟨Nat.le_of_ble_eq_true rfl, Nat.le_of_ble_eq_true rfl⟩ ?_
                      refine w_topi (y := nI (plF σ (en row i_))) ((hI.pl2 (en row i_) hc6).2) ?_
                      refine lv_iload hx hb dX1_goOn_330 (lv_at hl 3 rfl) ?_
                      refine lv_aload hx hb dX1_goOn_332 (lv_at hl 5 rfl) ?_
                      refine va_get (D := D) (ci := 5) (v := .ref (μ.kA (en row i_))) (C := RX7) (T := TX7) (N := 3) hx hb hts in_X7 hown hK (pl1 hP (hR.2.1 (en row i_) hc6 hTc).1.1 (hR.2.1 (en row i_) hc6 hTc).1.2) 0 rfl rfl 0 (by decide) (hts _ q697) (fun _ h9 => h9) rfl dX1_goOn_334 ?_
                      refine lv_iconst (v := 5) hx hb dX1_goOn_337 rfl ?_
                      refine wa_iald1 (v := σ.calls (6 * (en row i_) + 5)) hx hb hK (pl1 hP (hR.2.1 (en row i_) hc6 hTc).2.1.1 (hR.2.1 (en row i_) hc6 hTc).2.1.2) 0 0 rfl rfl (5) (rfl) (by omega) (by decide) (rfl) dX1_goOn_338 ?_
                      refine lv_iadd hx hb dX1_goOn_339 ?_
                      refine lv_iload hx hb dX1_goOn_340 (lv_at hl 10 rfl) ?_
                      refine lv_iload hx hb dX1_goOn_342 (lv_at hl 11 rfl) ?_
                      refine lv_aload hx hb dX1_goOn_344 (lv_at hl 5 rfl) ?_
                      refine dV (v := .int ((fun k0_ => σ.calls (6 * (en row i_) + k0_)) 4)) (As := []) (rest := [.int sm_, .int bag, .int ((arrF σ x_ m_ (en row i_)) + (σ.calls (6 * (en row i_) + 5))), .int (nI (plF σ (en row i_))), .int (nI (i_ + 1)), .ref (ad 4)]) ⟨hx, hb, hml, hown, hts⟩ (mt_X7_again l D dA (μ.cA (en row i_)) (μ.kA (en row i_)) (μ.lA (en row i_)) (total σ (en row i_)) (fun k0_ => σ.calls (6 * (en row i_) + k0_))) (cw_X1_X7_again hts ⟨Nat.le_of_ble_eq_true rfl, Nat.le_of_ble_eq_true rfl⟩) pB_bw (pB_now hK (pl2 (pl1 hP (hR.2.1 (en row i_) hc6 hTc).1.1 (hR.2.1 (en row i_) hc6 hTc).1.2) (pl1 hP (hR.2.1 (en row i_) hc6 hTc).2.1.1 (hR.2.1 (en row i_) hc6 hTc).2.1.2))) (va_recv hK (pl1 hP (hR.2.1 (en row i_) hc6 hTc).1.1 (hR.2.1 (en row i_) hc6 hTc).1.2) (ci := 5) (q0 := 0) rfl rfl) rfl hl.1 rfl (Nat.le_of_ble_eq_true rfl) dX1_goOn_346 ⟨Nat.le_of_ble_eq_true rfl, Nat.le_of_ble_eq_true rfl⟩ ?_
                      refine w_topi (y := σ.calls (6 * (en row i_) + 4)) (rfl) ?_
                      refine lv_isub hx hb dX1_goOn_349 ?_
                      refine lv_lload hx hb dX1_goOn_350 (lv_at hl 0 rfl) ?_
                      refine lv_iconst (v := 0) hx hb dX1_goOn_352 rfl ?_
                      refine dM (v := none) (σ' := σ) (ω' := ((full, row, nI j, ptF σ.tools 8, kn, so, (goT σ row full kn so 1 (i_ + 1) (plF σ (en row i_)) ((arrF σ x_ m_ (en row i_)) + (σ.calls (6 * (en row i_) + 5))) bag (sm_ - (σ.calls (6 * (en row i_) + 4))) (prT σ kn w_ (en row i_) k) 0 (t.1, t.2.1, t.2.2)).1, (goT σ row full kn so 1 (i_ + 1) (plF σ (en row i_)) ((arrF σ x_ m_ (en row i_)) + (σ.calls (6 * (en row i_) + 5))) bag (sm_ - (σ.calls (6 * (en row i_) + 4))) (prT σ kn w_ (en row i_) k) 0 (t.1, t.2.1, t.2.2)).2.1, ω.below, (goT σ row full kn so 1 (i_ + 1) (plF σ (en row i_)) ((arrF σ x_ m_ (en row i_)) + (σ.calls (6 * (en row i_) + 5))) bag (sm_ - (σ.calls (6 * (en row i_) + 4))) (prT σ kn w_ (en row i_) k) 0 (t.1, t.2.1, t.2.2)).2.2, ω.mb) : Om)) (As := [.int (nI (i_ + 1)), .int (nI (plF σ (en row i_))), .int ((arrF σ x_ m_ (en row i_)) + (σ.calls (6 * (en row i_) + 5))), .int bag, .int (sm_ - (σ.calls (6 * (en row i_) + 4))), .long (prT σ kn w_ (en row i_) k), .int 0]) (rest := []) ⟨hx, hb, hml, hown, hts⟩ (mt_X1_goOn_1 l D dA x ad μ σ ((full, row, nI j, ptF σ.tools 8, kn, so, t.1, t.2.1, ω.below, t.2.2, ω.mb) : Om) hcD full row j kn so (i_ + 1) (plF σ (en row i_)) ((arrF σ x_ m_ (en row i_)) + (σ.calls (6 * (en row i_) + 5))) bag (sm_ - (σ.calls (6 * (en row i_) + 4))) (prT σ kn w_ (en row i_) k) 0 hI hR hpl hy hf hoT (by omega) hj) (cw_X1_X1_goOn_1 hts ⟨Nat.le_of_ble_eq_true rfl, Nat.le_of_ble_eq_true rfl⟩) (cB_now hK hN hP) (va_recv hK hP (ci := 2) (q0 := 5) rfl rfl) rfl hl.1 rfl (Nat.le_of_ble_eq_true rfl) dX1_goOn_353 ⟨Nat.le_of_ble_eq_true rfl, Nat.le_of_ble_eq_true rfl⟩ hS (fun H locs hP hS => ?_)
                      change W p l e rmX1_goOn_2 s m args below meth c H locs 0 0 Q (F0 m 356 ls [])
                      refine lv_iinc (v := nI (k + 1)) (lv' := [(12, .int (nI (k + 1))), (14, .long (prT σ kn w_ (en row i_) k)), (13, .ref (μ.sA (en row i_) k)), (11, .int (arrF σ x_ m_ (en row i_))), (10, .int (m_ + (σ.ways (6 * x_ + (plF σ (en row i_)))))), (9, .ref (μ.cA (en row i_))), (0, .ref (ad 4)), (1, .int (nI i_)), (2, .int (nI x_)), (3, .int m_), (4, .int bag), (5, .int sm_), (6, .long w_), (8, .int dn_)]) hx hb dX1_goOn_356 hl (k := 2) rfl (nI_1 k) (by decide) rfl (fun ls hl => ?_)
                      refine lv_goto (tgt := 178) hx hb dX1_goOn_359 rfl ?_
                      exact ih_3 (k + 1) (goT σ row full kn so 1 (i_ + 1) (plF σ (en row i_)) (arrF σ x_ m_ (en row i_) + σ.calls (6 * (en row i_) + 5)) bag (sm_ - σ.calls (6 * (en row i_) + 4)) (prT σ kn w_ (en row i_) k) 0 t) (nI (k + 1)) ls _ _ (by omega) (by omega) (by rw [srtT, ← ht]; exact sor_not (fun q => q.2 h224) (Classical.not_not.mp h272)) rfl (lv_sub hl [0, 3, 4, 5, 6, 7, 8, 9, 10, 11, 12, 13] rfl) hP hS
                    · have h272 : ¬ leftF σ bag (en row i_) k = -1 := b01_n h272
                      refine lv_aload_n hx hb dX1_goOn_275 rfl (lv_at hl 6 rfl) ?_
                      refine lv_iload_n hx hb dX1_goOn_276 rfl (lv_at hl 7 rfl) ?_
                      refine lv_iconst (v := 1) hx hb dX1_goOn_277 rfl ?_
                      refine lv_iadd hx hb dX1_goOn_278 ?_
                      refine w_topi (nz_add rfl rfl) ?_
                      refine lv_aload hx hb dX1_goOn_279 (lv_at hl 5 rfl) ?_
                      refine dV (v := .int ((fun k0_ => σ.calls (6 * (en row i_) + k0_)) 0)) (As := []) (rest := [.int (nI (i_ + 1)), .ref (ad 4)]) ⟨hx, hb, hml, hown, hts⟩ (mt_X7_place l D dA (μ.cA (en row i_)) (μ.kA (en row i_)) (μ.lA (en row i_)) (total σ (en row i_)) (fun k0_ => σ.calls (6 * (en row i_) + k0_))) (cw_X1_X7_place hts ⟨Nat.le_of_ble_eq_true rfl, Nat.le_of_ble_eq_true rfl⟩) pB_bw (pB_now hK (pl2 (pl1 hP (hR.2.1 (en row i_) hc6 hTc).1.1 (hR.2.1 (en row i_) hc6 hTc).1.2) (pl1 hP (hR.2.1 (en row i_) hc6 hTc).2.1.1 (hR.2.1 (en row i_) hc6 hTc).2.1.2))) (va_recv hK (pl1 hP (hR.2.1 (en row i_) hc6 hTc).1.1 (hR.2.1 (en row i_) hc6 hTc).1.2) (ci := 5) (q0 := 0) rfl rfl) rfl hl.1 rfl (Nat.le_of_ble_eq_true rfl) dX1_goOn_281 ⟨Nat.le_of_ble_eq_true rfl, Nat.le_of_ble_eq_true rfl⟩ ?_
                      refine w_topi (y := nI (plF σ (en row i_))) ((hI.pl2 (en row i_) hc6).2) ?_
                      refine lv_iload hx hb dX1_goOn_284 (lv_at hl 3 rfl) ?_
                      refine lv_aload hx hb dX1_goOn_286 (lv_at hl 1 rfl) ?_
                      refine va_get (D := D) (ci := 6) (v := .int (σ.sorts (16 * (en row i_) + 4 * k + 1))) (C := RX9) (T := TX9) (N := 4) hx hb hts in_X9 hown hK (pl1 hP ((hR.2.1 (en row i_) hc6 hTc).2.2.2.2 k (show k < σ.sm (en row i_) by omega)).1 ((hR.2.1 (en row i_) hc6 hTc).2.2.2.2 k (show k < σ.sm (en row i_) by omega)).2) 0 rfl rfl 3 (by decide) (hts _ q731) (fun _ h9 => h9) rfl dX1_goOn_288 ?_
                      refine lv_iadd hx hb dX1_goOn_291 ?_
                      refine lv_aload hx hb dX1_goOn_292 (lv_at hl 1 rfl) ?_
                      refine lv_iload hx hb dX1_goOn_294 (lv_at hl 10 rfl) ?_
                      refine lv_aload_n hx hb dX1_goOn_296 rfl (lv_at hl 6 rfl) ?_
                      refine va_get (D := D) (ci := 2) (v := .int (ptF σ.tools 8)) (C := RX1) (T := TX1) (N := 11) hx hb hts in_X1 hown hK hP 5 rfl rfl 3 (by decide) (hts _ q132) (fun _ h9 => h9) rfl dX1_goOn_297 ?_
                      refine dU (v := .int (lefW bag (σ.sorts (16 * (en row i_) + 4 * k + 2)) (σ.sorts (16 * (en row i_) + 4 * k + 3)) (ptF σ.tools 8))) (As := [.int bag, .int (ptF σ.tools 8)]) (rest := [.int ((arrF σ x_ m_ (en row i_)) + (σ.sorts (16 * (en row i_) + 4 * k + 1))), .int (nI (plF σ (en row i_))), .int (nI (i_ + 1)), .ref (ad 4)]) ⟨hx, hb, hml, hown, hts⟩ (mt_X8_left_S l D dA (μ.sA (en row i_) k) (σ.sorts (16 * (en row i_) + 4 * k + 2)) (σ.sorts (16 * (en row i_) + 4 * k + 3)) (σ.sorts (16 * (en row i_) + 4 * k)) (σ.sorts (16 * (en row i_) + 4 * k + 1)) bag (ptF σ.tools 8)) (cw_X1_X8_left_S_X9 hts ⟨Nat.le_of_ble_eq_true rfl, Nat.le_of_ble_eq_true rfl⟩) pB_bw (pB_now hK (pl1 hP ((hR.2.1 (en row i_) hc6 hTc).2.2.2.2 k (show k < σ.sm (en row i_) by omega)).1 ((hR.2.1 (en row i_) hc6 hTc).2.2.2.2 k (show k < σ.sm (en row i_) by omega)).2)) (va_recv hK (pl1 hP ((hR.2.1 (en row i_) hc6 hTc).2.2.2.2 k (show k < σ.sm (en row i_) by omega)).1 ((hR.2.1 (en row i_) hc6 hTc).2.2.2.2 k (show k < σ.sm (en row i_) by omega)).2) (ci := 6) (q0 := 0) rfl rfl) rfl hl.1 rfl (Nat.le_of_ble_eq_true rfl) dX1_goOn_300 ⟨Nat.le_of_ble_eq_true rfl, Nat.le_of_ble_eq_true rfl⟩ ?_
                      refine w_topi (y := leftF σ bag (en row i_) k) (lef_eq hI hy hc6 (by omega) ((met_left hy (en row i_) k).mpr h272)) ?_
                      refine lv_iload hx hb dX1_goOn_303 (lv_at hl 11 rfl) ?_
                      refine lv_aload hx hb dX1_goOn_305 (lv_at hl 5 rfl) ?_
                      refine dV (v := .int ((fun k0_ => σ.calls (6 * (en row i_) + k0_)) 3)) (As := []) (rest := [.int sm_, .int (leftF σ bag (en row i_) k), .int ((arrF σ x_ m_ (en row i_)) + (σ.sorts (16 * (en row i_) + 4 * k + 1))), .int (nI (plF σ (en row i_))), .int (nI (i_ + 1)), .ref (ad 4)]) ⟨hx, hb, hml, hown, hts⟩ (mt_X7_worth l D dA (μ.cA (en row i_)) (μ.kA (en row i_)) (μ.lA (en row i_)) (total σ (en row i_)) (fun k0_ => σ.calls (6 * (en row i_) + k0_))) (cw_X1_X7_worth hts ⟨Nat.le_of_ble_eq_true rfl, Nat.le_of_ble_eq_true rfl⟩) pB_bw (pB_now hK (pl2 (pl1 hP (hR.2.1 (en row i_) hc6 hTc).1.1 (hR.2.1 (en row i_) hc6 hTc).1.2) (pl1 hP (hR.2.1 (en row i_) hc6 hTc).2.1.1 (hR.2.1 (en row i_) hc6 hTc).2.1.2))) (va_recv hK (pl1 hP (hR.2.1 (en row i_) hc6 hTc).1.1 (hR.2.1 (en row i_) hc6 hTc).1.2) (ci := 5) (q0 := 0) rfl rfl) rfl hl.1 rfl (Nat.le_of_ble_eq_true rfl) dX1_goOn_307 ⟨Nat.le_of_ble_eq_true rfl, Nat.le_of_ble_eq_true rfl⟩ ?_
                      refine w_topi (y := σ.calls (6 * (en row i_) + 3)) (rfl) ?_
                      refine lv_iadd hx hb dX1_goOn_310 ?_
                      refine lv_lload hx hb dX1_goOn_311 (lv_at hl 0 rfl) ?_
                      refine lv_iload hx hb dX1_goOn_313 (lv_at hl 13 rfl) ?_
                      refine dM (v := none) (σ' := σ) (ω' := ((full, row, nI j, ptF σ.tools 8, kn, so, (goT σ row full kn so 1 (i_ + 1) (plF σ (en row i_)) ((arrF σ x_ m_ (en row i_)) + (σ.sorts (16 * (en row i_) + 4 * k + 1))) (leftF σ bag (en row i_) k) (sm_ + (σ.calls (6 * (en row i_) + 3))) (prT σ kn w_ (en row i_) k) dn_ (t.1, t.2.1, t.2.2)).1, (goT σ row full kn so 1 (i_ + 1) (plF σ (en row i_)) ((arrF σ x_ m_ (en row i_)) + (σ.sorts (16 * (en row i_) + 4 * k + 1))) (leftF σ bag (en row i_) k) (sm_ + (σ.calls (6 * (en row i_) + 3))) (prT σ kn w_ (en row i_) k) dn_ (t.1, t.2.1, t.2.2)).2.1, ω.below, (goT σ row full kn so 1 (i_ + 1) (plF σ (en row i_)) ((arrF σ x_ m_ (en row i_)) + (σ.sorts (16 * (en row i_) + 4 * k + 1))) (leftF σ bag (en row i_) k) (sm_ + (σ.calls (6 * (en row i_) + 3))) (prT σ kn w_ (en row i_) k) dn_ (t.1, t.2.1, t.2.2)).2.2, ω.mb) : Om)) (As := [.int (nI (i_ + 1)), .int (nI (plF σ (en row i_))), .int ((arrF σ x_ m_ (en row i_)) + (σ.sorts (16 * (en row i_) + 4 * k + 1))), .int (leftF σ bag (en row i_) k), .int (sm_ + (σ.calls (6 * (en row i_) + 3))), .long (prT σ kn w_ (en row i_) k), .int dn_]) (rest := []) ⟨hx, hb, hml, hown, hts⟩ (mt_X1_goOn_1 l D dA x ad μ σ ((full, row, nI j, ptF σ.tools 8, kn, so, t.1, t.2.1, ω.below, t.2.2, ω.mb) : Om) hcD full row j kn so (i_ + 1) (plF σ (en row i_)) ((arrF σ x_ m_ (en row i_)) + (σ.sorts (16 * (en row i_) + 4 * k + 1))) (leftF σ bag (en row i_) k) (sm_ + (σ.calls (6 * (en row i_) + 3))) (prT σ kn w_ (en row i_) k) dn_ hI hR hpl (left_by hy h272) hf hoT (by omega) hj) (cw_X1_X1_goOn_1 hts ⟨Nat.le_of_ble_eq_true rfl, Nat.le_of_ble_eq_true rfl⟩) (cB_now hK hN hP) (va_recv hK hP (ci := 2) (q0 := 5) rfl rfl) rfl hl.1 rfl (Nat.le_of_ble_eq_true rfl) dX1_goOn_315 ⟨Nat.le_of_ble_eq_true rfl, Nat.le_of_ble_eq_true rfl⟩ hS (fun H locs hP hS => ?_)
                      change W p l e rmX1_goOn_2 s m args below meth c H locs 0 0 Q (F0 m 318 ls [])
                      refine lv_goto (tgt := 356) hx hb dX1_goOn_318 rfl ?_
                      refine lv_iinc (v := nI (k + 1)) (lv' := [(12, .int (nI (k + 1))), (14, .long (prT σ kn w_ (en row i_) k)), (13, .ref (μ.sA (en row i_) k)), (11, .int (arrF σ x_ m_ (en row i_))), (10, .int (m_ + (σ.ways (6 * x_ + (plF σ (en row i_)))))), (9, .ref (μ.cA (en row i_))), (0, .ref (ad 4)), (1, .int (nI i_)), (2, .int (nI x_)), (3, .int m_), (4, .int bag), (5, .int sm_), (6, .long w_), (8, .int dn_)]) hx hb dX1_goOn_356 hl (k := 2) rfl (nI_1 k) (by decide) rfl (fun ls hl => ?_)
                      refine lv_goto (tgt := 178) hx hb dX1_goOn_359 rfl ?_
                      exact ih_3 (k + 1) (goT σ row full kn so 1 (i_ + 1) (plF σ (en row i_)) (arrF σ x_ m_ (en row i_) + σ.sorts (16 * (en row i_) + 4 * k + 1)) (leftF σ bag (en row i_) k) (sm_ + σ.calls (6 * (en row i_) + 3)) (prT σ kn w_ (en row i_) k) dn_ t) (nI (k + 1)) ls _ _ (by omega) (by omega) (by rw [srtT, ← ht]; exact sor_met (fun q => q.2 h224) h272) rfl (lv_sub hl [0, 3, 4, 5, 6, 7, 8, 9, 10, 11, 12, 13] rfl) hP hS
                · have h224 : ¬ ((nI k) = so) := h224
                  refine lv_goto (tgt := 356) hx hb dX1_goOn_227 rfl ?_
                  refine lv_iinc (v := nI (k + 1)) (lv' := [(12, .int (nI (k + 1))), (13, .ref (μ.sA (en row i_) k)), (11, .int (arrF σ x_ m_ (en row i_))), (10, .int (m_ + (σ.ways (6 * x_ + (plF σ (en row i_)))))), (9, .ref (μ.cA (en row i_))), (0, .ref (ad 4)), (1, .int (nI i_)), (2, .int (nI x_)), (3, .int m_), (4, .int bag), (5, .int sm_), (6, .long w_), (8, .int dn_)]) hx hb dX1_goOn_356 hl (k := 1) rfl (nI_1 k) (by decide) rfl (fun ls hl => ?_)
                  refine lv_goto (tgt := 178) hx hb dX1_goOn_359 rfl ?_
                  exact ih_3 (k + 1) t (nI (k + 1)) ls _ _ (by omega) (by omega) (by rw [srtT, ← ht]; exact sor_skip h215 h224) rfl (lv_sub hl [0, 2, 3, 4, 5, 6, 7, 8, 9, 10, 11, 12] rfl) hP hS
        exact hL178_1 _ 0 (ω.brings, ω.done, ω.end_) 0 ls _ _ (Nat.lt_succ_self _) (by omega) rfl rfl (lv_sub hl [0, 1, 2, 3, 4, 5, 6, 7, 8, 9, 10, 11] rfl) hP hS
      · have h144 : (bgF σ x_ m_ (en row i_)) = (-1) := h144
        have hlt := (bg_late hI hc6).mp h144
        refine lv_aload_n hx hb dX1_goOn_147 rfl (lv_at hl 3 rfl) ?_
        refine lv_iload_n hx hb dX1_goOn_148 rfl (lv_at hl 4 rfl) ?_
        refine lv_iconst (v := 1) hx hb dX1_goOn_149 rfl ?_
        refine lv_iadd hx hb dX1_goOn_150 ?_
        refine w_topi (nz_add rfl rfl) ?_
        refine lv_aload hx hb dX1_goOn_151 (lv_at hl 2 rfl) ?_
        refine dV (v := .int ((fun k0_ => σ.calls (6 * (en row i_) + k0_)) 0)) (As := []) (rest := [.int (nI (i_ + 1)), .ref (ad 4)]) ⟨hx, hb, hml, hown, hts⟩ (mt_X7_place l D dA (μ.cA (en row i_)) (μ.kA (en row i_)) (μ.lA (en row i_)) (total σ (en row i_)) (fun k0_ => σ.calls (6 * (en row i_) + k0_))) (cw_X1_X7_place hts ⟨Nat.le_of_ble_eq_true rfl, Nat.le_of_ble_eq_true rfl⟩) pB_bw (pB_now hK (pl2 (pl1 hP (hR.2.1 (en row i_) hc6 hTc).1.1 (hR.2.1 (en row i_) hc6 hTc).1.2) (pl1 hP (hR.2.1 (en row i_) hc6 hTc).2.1.1 (hR.2.1 (en row i_) hc6 hTc).2.1.2))) (va_recv hK (pl1 hP (hR.2.1 (en row i_) hc6 hTc).1.1 (hR.2.1 (en row i_) hc6 hTc).1.2) (ci := 5) (q0 := 0) rfl rfl) rfl hl.1 rfl (Nat.le_of_ble_eq_true rfl) dX1_goOn_153 ⟨Nat.le_of_ble_eq_true rfl, Nat.le_of_ble_eq_true rfl⟩ ?_
        refine w_topi (y := nI (plF σ (en row i_))) ((hI.pl2 (en row i_) hc6).2) ?_
        refine lv_iload hx hb dX1_goOn_156 (lv_at hl 1 rfl) ?_
        refine lv_iload hx hb dX1_goOn_158 (lv_at hl 7 rfl) ?_
        refine lv_iload hx hb dX1_goOn_160 (lv_at hl 8 rfl) ?_
        refine lv_aload hx hb dX1_goOn_162 (lv_at hl 2 rfl) ?_
        refine dV (v := .int ((fun k0_ => σ.calls (6 * (en row i_) + k0_)) 4)) (As := []) (rest := [.int sm_, .int bag, .int (m_ + (σ.ways (6 * x_ + (plF σ (en row i_))))), .int (nI (plF σ (en row i_))), .int (nI (i_ + 1)), .ref (ad 4)]) ⟨hx, hb, hml, hown, hts⟩ (mt_X7_again l D dA (μ.cA (en row i_)) (μ.kA (en row i_)) (μ.lA (en row i_)) (total σ (en row i_)) (fun k0_ => σ.calls (6 * (en row i_) + k0_))) (cw_X1_X7_again hts ⟨Nat.le_of_ble_eq_true rfl, Nat.le_of_ble_eq_true rfl⟩) pB_bw (pB_now hK (pl2 (pl1 hP (hR.2.1 (en row i_) hc6 hTc).1.1 (hR.2.1 (en row i_) hc6 hTc).1.2) (pl1 hP (hR.2.1 (en row i_) hc6 hTc).2.1.1 (hR.2.1 (en row i_) hc6 hTc).2.1.2))) (va_recv hK (pl1 hP (hR.2.1 (en row i_) hc6 hTc).1.1 (hR.2.1 (en row i_) hc6 hTc).1.2) (ci := 5) (q0 := 0) rfl rfl) rfl hl.1 rfl (Nat.le_of_ble_eq_true rfl) dX1_goOn_164 ⟨Nat.le_of_ble_eq_true rfl, Nat.le_of_ble_eq_true rfl⟩ ?_
        refine w_topi (y := σ.calls (6 * (en row i_) + 4)) (rfl) ?_
        refine lv_isub hx hb dX1_goOn_167 ?_
        refine lv_lload hx hb dX1_goOn_168 (lv_at hl 9 rfl) ?_
        refine lv_iconst (v := 0) hx hb dX1_goOn_170 rfl ?_
        refine dM (v := none) (σ' := σ) (ω' := ((full, row, nI j, ptF σ.tools 8, kn, so, (goT σ row full kn so 1 (i_ + 1) (plF σ (en row i_)) (m_ + (σ.ways (6 * x_ + (plF σ (en row i_))))) bag (sm_ - (σ.calls (6 * (en row i_) + 4))) w_ 0 (ω.brings, ω.done, ω.end_)).1, (goT σ row full kn so 1 (i_ + 1) (plF σ (en row i_)) (m_ + (σ.ways (6 * x_ + (plF σ (en row i_))))) bag (sm_ - (σ.calls (6 * (en row i_) + 4))) w_ 0 (ω.brings, ω.done, ω.end_)).2.1, ω.below, (goT σ row full kn so 1 (i_ + 1) (plF σ (en row i_)) (m_ + (σ.ways (6 * x_ + (plF σ (en row i_))))) bag (sm_ - (σ.calls (6 * (en row i_) + 4))) w_ 0 (ω.brings, ω.done, ω.end_)).2.2, ω.mb) : Om)) (As := [.int (nI (i_ + 1)), .int (nI (plF σ (en row i_))), .int (m_ + (σ.ways (6 * x_ + (plF σ (en row i_))))), .int bag, .int (sm_ - (σ.calls (6 * (en row i_) + 4))), .long w_, .int 0]) (rest := []) ⟨hx, hb, hml, hown, hts⟩ (mt_X1_goOn_1 l D dA x ad μ σ ((full, row, nI j, ptF σ.tools 8, kn, so, ω.brings, ω.done, ω.below, ω.end_, ω.mb) : Om) hcD full row j kn so (i_ + 1) (plF σ (en row i_)) (m_ + (σ.ways (6 * x_ + (plF σ (en row i_))))) bag (sm_ - (σ.calls (6 * (en row i_) + 4))) w_ 0 hI hR hpl hy hf hoT (by omega) hj) (cw_X1_X1_goOn_1 hts ⟨Nat.le_of_ble_eq_true rfl, Nat.le_of_ble_eq_true rfl⟩) (cB_now hK hN hP) (va_recv hK hP (ci := 2) (q0 := 5) rfl rfl) rfl hl.1 rfl (Nat.le_of_ble_eq_true rfl) dX1_goOn_171 ⟨Nat.le_of_ble_eq_true rfl, Nat.le_of_ble_eq_true rfl⟩ hS (fun H locs hP hS => ?_)
        change W p l e rmX1_goOn_2 s m args below meth c H locs 0 0 Q (F0 m 174 ls [])
        exact cm_v hQ hx hb hr hlocks hK hN hP hS (rfl) (by rw [goT_l h63 hlt]) dX1_goOn_174
    · have h63 : (en row i_) = 6 := (nz_eq (a := en row i_) (b := 6) rfl rfl (by omega) (by omega)).mp h63
      refine lv_aload_n hx hb dX1_goOn_66 rfl (lv_at hl 0 rfl) ?_
      refine lv_iload_n hx hb dX1_goOn_67 rfl (lv_at hl 1 rfl) ?_
      refine lv_iconst (v := 1) hx hb dX1_goOn_68 rfl ?_
      refine lv_iadd hx hb dX1_goOn_69 ?_
      refine w_topi (nz_add rfl rfl) ?_
      refine lv_iconst (v := 0) hx hb dX1_goOn_70 rfl ?_
      refine lv_iload_n hx hb dX1_goOn_71 rfl (lv_at hl 3 rfl) ?_
      refine lv_aload_n hx hb dX1_goOn_72 rfl (lv_at hl 0 rfl) ?_
      refine va_get (D := D) (ci := 2) (v := .ref x) (C := RX1) (T := TX1) (N := 11) hx hb hts in_X1 hown hK hP 5 rfl rfl 10 (by decide) (hts _ q143) (fun _ h9 => h9) rfl dX1_goOn_73 ?_
      refine va_getN (D := D) (ci := 1) (v := .ref (ad 1)) (C := RX0) (T := TX0) (N := 11) hx hb hts in_X0 hown hK hP 0 rfl rfl 4 (by decide) (va_Nw.use rfl hN.2.2.1) (fun _ h9 => h9) rfl dX1_goOn_76 ?_
      refine lv_iload_n hx hb dX1_goOn_79 rfl (lv_at hl 2 rfl) ?_
      refine wa_aald (v := .ref (ad (6 + x_))) hx hb hK hP 2 4 rfl rfl rfl (x_) (rfl) (by omega) (by decide) (rfl) dX1_goOn_80 ?_
      refine lv_iconst (v := 0) hx hb dX1_goOn_81 rfl ?_
      refine wa_sald (v := σ.ways (6 * x_ + 0)) hx hb hK (way_row hP (i := x_) (by omega)) 0 2 rfl rfl (0) (rfl) (by omega) (by decide) (rfl) dX1_goOn_82 ?_
      refine lv_iadd hx hb dX1_goOn_83 ?_
      refine lv_aload_n hx hb dX1_goOn_84 rfl (lv_at hl 0 rfl) ?_
      refine va_get (D := D) (ci := 2) (v := .int full) (C := RX1) (T := TX1) (N := 11) hx hb hts in_X1 hown hK hP 5 rfl rfl 0 (by decide) (hts _ q129) (fun _ h9 => h9) rfl dX1_goOn_85 ?_
      refine lv_iload hx hb dX1_goOn_88 (lv_at hl 5 rfl) ?_
      refine lv_lload hx hb dX1_goOn_90 (lv_at hl 6 rfl) ?_
      refine lv_iload hx hb dX1_goOn_92 (lv_at hl 7 rfl) ?_
      refine dM (v := none) (σ' := σ) (ω' := ((full, row, nI j, ptF σ.tools 8, kn, so, (goT σ row full kn so 1 (i_ + 1) 0 (m_ + (σ.ways (6 * x_ + 0))) full sm_ w_ dn_ (ω.brings, ω.done, ω.end_)).1, (goT σ row full kn so 1 (i_ + 1) 0 (m_ + (σ.ways (6 * x_ + 0))) full sm_ w_ dn_ (ω.brings, ω.done, ω.end_)).2.1, ω.below, (goT σ row full kn so 1 (i_ + 1) 0 (m_ + (σ.ways (6 * x_ + 0))) full sm_ w_ dn_ (ω.brings, ω.done, ω.end_)).2.2, ω.mb) : Om)) (As := [.int (nI (i_ + 1)), .int 0, .int (m_ + (σ.ways (6 * x_ + 0))), .int full, .int sm_, .long w_, .int dn_]) (rest := []) ⟨hx, hb, hml, hown, hts⟩ (mt_X1_goOn_1 l D dA x ad μ σ ((full, row, nI j, ptF σ.tools 8, kn, so, ω.brings, ω.done, ω.below, ω.end_, ω.mb) : Om) hcD full row j kn so (i_ + 1) 0 (m_ + (σ.ways (6 * x_ + 0))) full sm_ w_ dn_ hI hR (by decide) hf hf hoT (by omega) hj) (cw_X1_X1_goOn_1 hts ⟨Nat.le_of_ble_eq_true rfl, Nat.le_of_ble_eq_true rfl⟩) (cB_now hK hN hP) (va_recv hK hP (ci := 2) (q0 := 5) rfl rfl) rfl hl.1 rfl (Nat.le_of_ble_eq_true rfl) dX1_goOn_94 ⟨Nat.le_of_ble_eq_true rfl, Nat.le_of_ble_eq_true rfl⟩ hS (fun H locs hP hS => ?_)
      change W p l e rmX1_goOn_2 s m args below meth c H locs 0 0 Q (F0 m 97 ls [])
      exact cm_v hQ hx hb hr hlocks hK hN hP hS (rfl) (by rw [goT_h h63]) dX1_goOn_97
  · have h5 : i_ = j := (nz_eq (a := i_) (b := j) rfl rfl (by omega) (by omega)).mp h5
    exact absurd h5 (by omega)

theorem cw_X1_X1_goOn_2 {R : Room} {s : State} {args : Array Value} (hts : ∀ w ∈ lw_all, w.before args s = true) (hR : rmX1_goOn_2.frames + 1 ≤ R.frames ∧ 8 + (16 + 11) + rmX1_goOn_2.locals ≤ R.locals) : CallW R s args RX1 RX1 66 yX1_goOn cX1_goOn 16 none (ws_ yX1_goOn cX1_goOn 16 none) rmX1_goOn_2 0 0 7 := cwV 7 hts (lw_V q944 q946 qs26 q78 q947) rfl rfl rfl (by decide +kernel) hR
def rmX1_goOn_3 : Room := { frames := 5, cells := 0, slots := 0, locals := 134 }
set_option maxHeartbeats 1000000 in
theorem mt_X1_goOn_3 (l : Launch) (D : va_G) (dA : Nat → ClassId) (x : Nat) (ad : Nat → Nat) (μ : Lay) (σ : St) (ω : Om) (hcD : cD x ad μ) (full : Int32) (row : Int32) (j : Nat) (kn : Int32) (so : Int32) (i_ : Nat) (x_ : Nat) (m_ : Int32) (bag : Int32) (sm_ : Int32) (w_ : Int64) (dn_ : Int32) (hI : Inv σ) (hR : Rel dA μ σ) (hx6 : x_ < 6) (hy : byP bag) (hf : byP full) (hoT : okT σ row j) (hij : i_ + 3 = j) (hj : j ≤ 6) : Met l yX1_goOn (ws_ yX1_goOn cX1_goOn 16 none) rmX1_goOn_3 (va_Pc [.ref (ad 4), .int (nI i_), .int (nI x_), .int m_, .int bag, .int sm_, .long w_, .int dn_] (cB D dA x ad μ σ ((full, row, nI j, ptF σ.tools 8, kn, so, ω.brings, ω.done, ω.below, ω.end_, ω.mb) : Om))) (cQ none D dA x ad μ σ ((full, row, nI j, ptF σ.tools 8, kn, so, (goT σ row full kn so 3 i_ x_ m_ bag sm_ w_ dn_ (ω.brings, ω.done, ω.end_)).1, (goT σ row full kn so 3 i_ x_ m_ bag sm_ w_ dn_ (ω.brings, ω.done, ω.end_)).2.1, ω.below, (goT σ row full kn so 3 i_ x_ m_ bag sm_ w_ dn_ (ω.brings, ω.done, ω.end_)).2.2, ω.mb) : Om)) 0 0 (cA x ad μ) := by
  refine w_start (by decide) (Nat.le_of_ble_eq_true rfl) ?_
  intro p e s m args below meth c Q ls hQ hx hb hr hlocks hml hown hnm hts hB hl
  have hown : s.vm.findClass RX1 = some m.cls := hown
  have hl : lv_has ls 16 [(0, .ref (ad 4)), (1, .int (nI i_)), (2, .int (nI x_)), (3, .int m_), (4, .int bag), (5, .int sm_), (6, .long w_), (8, .int dn_)] := hl
  obtain ⟨hP, hK, hN⟩ := hB
  have hP : va_P D vwCl (cW dA x ad μ σ ((full, row, nI j, ptF σ.tools 8, kn, so, ω.brings, ω.done, ω.below, ω.end_, ω.mb) : Om)) s.heap := hP
  have hS : va_S (cA x ad μ) s.heap s.heap [] := va_S.rf
  refine lv_iload_n hx hb dX1_goOn_0 rfl (lv_at hl 1 rfl) ?_
  refine lv_aload_n hx hb dX1_goOn_1 rfl (lv_at hl 0 rfl) ?_
  refine va_get (D := D) (ci := 2) (v := .int (nI j)) (C := RX1) (T := TX1) (N := 11) hx hb hts in_X1 hown hK hP 5 rfl rfl 2 (by decide) (hts _ q131) (fun _ h9 => h9) rfl dX1_goOn_2 ?_
  refine lv_icmp_ne (tgt := 56) hx hb dX1_goOn_5 rfl (fun h5 => ?_) (fun h5 => ?_)
  · have h5 : ¬ (i_ = j) := fun z9 => h5 ((nz_eq (a := i_) (b := j) rfl rfl (by omega) (by omega)).mpr z9)
    have hen := en_lt row i_
    refine lv_aload_n hx hb dX1_goOn_56 rfl (lv_at hl 0 rfl) ?_
    refine lv_iload_n hx hb dX1_goOn_57 rfl (lv_at hl 1 rfl) ?_
    refine dV (v := .int (entF row i_)) (As := [.int (nI i_)]) (rest := []) ⟨hx, hb, hml, hown, hts⟩ (mt_X1_at l D dA x ad μ σ ((full, row, nI j, ptF σ.tools 8, kn, so, ω.brings, ω.done, ω.below, ω.end_, ω.mb) : Om) row i_ hI hR) (cw_X1_X1_at hts ⟨Nat.le_of_ble_eq_true rfl, Nat.le_of_ble_eq_true rfl⟩) cB_bw (cB_now hK hN hP) (va_recv hK hP (ci := 2) (q0 := 5) rfl rfl) rfl hl.1 rfl (Nat.le_of_ble_eq_true rfl) dX1_goOn_58 ⟨Nat.le_of_ble_eq_true rfl, Nat.le_of_ble_eq_true rfl⟩ ?_
    refine w_topi (y := nI (en row i_)) (en_eq row i_) ?_
    refine lv_bipush (v := 6) hx hb dX1_goOn_61 rfl ?_
    refine lv_icmp_ne (tgt := 98) hx hb dX1_goOn_63 rfl (fun h63 => ?_) (fun h63 => ?_)
    · have h63 : ¬ ((en row i_) = 6) := fun z9 => h63 ((nz_eq (a := en row i_) (b := 6) rfl rfl (by omega) (by omega)).mpr z9)
      obtain ⟨hc6, hTc, hs0⟩ := (hoT i_ (by omega)).resolve_left h63
      have hsm := hI.sm (en row i_) hc6
      have hpl := (hI.pl2 (en row i_) hc6).1
      refine lv_aload_n hx hb dX1_goOn_98 rfl (lv_at hl 0 rfl) ?_
      refine va_get (D := D) (ci := 2) (v := .ref x) (C := RX1) (T := TX1) (N := 11) hx hb hts in_X1 hown hK hP 5 rfl rfl 10 (by decide) (hts _ q143) (fun _ h9 => h9) rfl dX1_goOn_99 ?_
      refine va_getN (D := D) (ci := 1) (v := .ref (ad 2)) (C := RX0) (T := TX0) (N := 11) hx hb hts in_X0 hown hK hP 0 rfl rfl 5 (by decide) (va_Nw.use rfl hN.2.2.2.1) (fun _ h9 => h9) rfl dX1_goOn_102 ?_
      refine lv_aload_n hx hb dX1_goOn_105 rfl (lv_at hl 0 rfl) ?_
      refine lv_iload_n hx hb dX1_goOn_106 rfl (lv_at hl 1 rfl) ?_
      refine dV (v := .int (entF row i_)) (As := [.int (nI i_)]) (rest := [.ref (ad 2)]) ⟨hx, hb, hml, hown, hts⟩ (mt_X1_at l D dA x ad μ σ ((full, row, nI j, ptF σ.tools 8, kn, so, ω.brings, ω.done, ω.below, ω.end_, ω.mb) : Om) row i_ hI hR) (cw_X1_X1_at hts ⟨Nat.le_of_ble_eq_true rfl, Nat.le_of_ble_eq_true rfl⟩) cB_bw (cB_now hK hN hP) (va_recv hK hP (ci := 2) (q0 := 5) rfl rfl) rfl hl.1 rfl (Nat.le_of_ble_eq_true rfl) dX1_goOn_107 ⟨Nat.le_of_ble_eq_true rfl, Nat.le_of_ble_eq_true rfl⟩ ?_
      refine w_topi (y := nI (en row i_)) (en_eq row i_) ?_
      refine wa_aald (v := .ref (μ.cA (en row i_))) hx hb hK hP 3 5 rfl rfl rfl (en row i_) (rfl) (by omega) (by decide) (cO_t hTc) dX1_goOn_110 ?_
      refine lv_astore (lv' := [(9, .ref (μ.cA (en row i_))), (0, .ref (ad 4)), (1, .int (nI i_)), (2, .int (nI x_)), (3, .int m_), (4, .int bag), (5, .int sm_), (6, .long w_), (8, .int dn_)]) hx hb dX1_goOn_111 hl (by decide) rfl (fun ls hl => ?_)
      refine lv_iload_n hx hb dX1_goOn_113 rfl (lv_at hl 4 rfl) ?_
      refine lv_aload_n hx hb dX1_goOn_114 rfl (lv_at hl 1 rfl) ?_
      refine va_get (D := D) (ci := 2) (v := .ref x) (C := RX1) (T := TX1) (N := 11) hx hb hts in_X1 hown hK hP 5 rfl rfl 10 (by decide) (hts _ q143) (fun _ h9 => h9) rfl dX1_goOn_115 ?_
      refine va_getN (D := D) (ci := 1) (v := .ref (ad 1)) (C := RX0) (T := TX0) (N := 11) hx hb hts in_X0 hown hK hP 0 rfl rfl 4 (by decide) (va_Nw.use rfl hN.2.2.1) (fun _ h9 => h9) rfl dX1_goOn_118 ?_
      refine lv_iload_n hx hb dX1_goOn_121 rfl (lv_at hl 3 rfl) ?_
      refine wa_aald (v := .ref (ad (6 + x_))) hx hb hK hP 2 4 rfl rfl rfl (x_) (rfl) (by omega) (by decide) (rfl) dX1_goOn_122 ?_
      refine lv_aload hx hb dX1_goOn_123 (lv_at hl 0 rfl) ?_
      refine dV (v := .int ((fun k0_ => σ.calls (6 * (en row i_) + k0_)) 0)) (As := []) (rest := [.ref (ad (6 + x_)), .int m_]) ⟨hx, hb, hml, hown, hts⟩ (mt_X7_place l D dA (μ.cA (en row i_)) (μ.kA (en row i_)) (μ.lA (en row i_)) (total σ (en row i_)) (fun k0_ => σ.calls (6 * (en row i_) + k0_))) (cw_X1_X7_place hts ⟨Nat.le_of_ble_eq_true rfl, Nat.le_of_ble_eq_true rfl⟩) pB_bw (pB_now hK (pl2 (pl1 hP (hR.2.1 (en row i_) hc6 hTc).1.1 (hR.2.1 (en row i_) hc6 hTc).1.2) (pl1 hP (hR.2.1 (en row i_) hc6 hTc).2.1.1 (hR.2.1 (en row i_) hc6 hTc).2.1.2))) (va_recv hK (pl1 hP (hR.2.1 (en row i_) hc6 hTc).1.1 (hR.2.1 (en row i_) hc6 hTc).1.2) (ci := 5) (q0 := 0) rfl rfl) rfl hl.1 rfl (Nat.le_of_ble_eq_true rfl) dX1_goOn_125 ⟨Nat.le_of_ble_eq_true rfl, Nat.le_of_ble_eq_true rfl⟩ ?_
      refine w_topi (y := nI (plF σ (en row i_))) ((hI.pl2 (en row i_) hc6).2) ?_
      refine wa_sald (v := σ.ways (6 * x_ + (plF σ (en row i_)))) hx hb hK (way_row hP (i := x_) (by omega)) 0 2 rfl rfl (plF σ (en row i_)) (rfl) (by omega) (by decide) (rfl) dX1_goOn_128 ?_
      refine lv_iadd hx hb dX1_goOn_129 ?_
      refine lv_istore (lv' := [(10, .int (m_ + (σ.ways (6 * x_ + (plF σ (en row i_)))))), (9, .ref (μ.cA (en row i_))), (0, .ref (ad 4)), (1, .int (nI i_)), (2, .int (nI x_)), (3, .int m_), (4, .int bag), (5, .int sm_), (6, .long w_), (8, .int dn_)]) hx hb dX1_goOn_130 hl (by decide) rfl (fun ls hl => ?_)
      refine lv_aload hx hb dX1_goOn_132 (lv_at hl 1 rfl) ?_
      refine lv_iload hx hb dX1_goOn_134 (lv_at hl 0 rfl) ?_
      refine dV (v := .int (begW (fun k0_ => σ.calls (6 * (en row i_) + k0_)) (m_ + (σ.ways (6 * x_ + (plF σ (en row i_))))))) (As := [.int (m_ + (σ.ways (6 * x_ + (plF σ (en row i_)))))]) (rest := []) ⟨hx, hb, hml, hown, hts⟩ (mt_X7_begins l D dA (μ.cA (en row i_)) (μ.kA (en row i_)) (μ.lA (en row i_)) (total σ (en row i_)) (fun k0_ => σ.calls (6 * (en row i_) + k0_)) (m_ + (σ.ways (6 * x_ + (plF σ (en row i_)))))) (cw_X1_X7_begins hts ⟨Nat.le_of_ble_eq_true rfl, Nat.le_of_ble_eq_true rfl⟩) pB_bw (pB_now hK (pl2 (pl1 hP (hR.2.1 (en row i_) hc6 hTc).1.1 (hR.2.1 (en row i_) hc6 hTc).1.2) (pl1 hP (hR.2.1 (en row i_) hc6 hTc).2.1.1 (hR.2.1 (en row i_) hc6 hTc).2.1.2))) (va_recv hK (pl1 hP (hR.2.1 (en row i_) hc6 hTc).1.1 (hR.2.1 (en row i_) hc6 hTc).1.2) (ci := 5) (q0 := 0) rfl rfl) rfl hl.1 rfl (Nat.le_of_ble_eq_true rfl) dX1_goOn_136 ⟨Nat.le_of_ble_eq_true rfl, Nat.le_of_ble_eq_true rfl⟩ ?_
      refine w_topi (y := bgF σ x_ m_ (en row i_)) (beg_eq hI hc6 m_) ?_
      refine lv_istore (lv' := [(11, .int (bgF σ x_ m_ (en row i_))), (10, .int (m_ + (σ.ways (6 * x_ + (plF σ (en row i_)))))), (9, .ref (μ.cA (en row i_))), (0, .ref (ad 4)), (1, .int (nI i_)), (2, .int (nI x_)), (3, .int m_), (4, .int bag), (5, .int sm_), (6, .long w_), (8, .int dn_)]) hx hb dX1_goOn_139 hl (by decide) rfl (fun ls hl => ?_)
      refine lv_iload hx hb dX1_goOn_141 (lv_at hl 0 rfl) ?_
      refine lv_iconst (v := (-1)) hx hb dX1_goOn_143 rfl ?_
      refine lv_icmp_ne (tgt := 175) hx hb dX1_goOn_144 rfl (fun h144 => ?_) (fun h144 => ?_)
      · have h144 : ¬ ((bgF σ x_ m_ (en row i_)) = (-1)) := h144
        obtain ⟨hnl, hbg⟩ := bg_n hI hc6 h144
        rw [hbg] at hl
        refine lv_iconst (v := 0) hx hb dX1_goOn_175 rfl ?_
        refine lv_istore (lv' := [(12, .int 0), (11, .int (arrF σ x_ m_ (en row i_))), (10, .int (m_ + (σ.ways (6 * x_ + (plF σ (en row i_)))))), (9, .ref (μ.cA (en row i_))), (0, .ref (ad 4)), (1, .int (nI i_)), (2, .int (nI x_)), (3, .int m_), (4, .int bag), (5, .int sm_), (6, .long w_), (8, .int dn_)]) hx hb dX1_goOn_176 hl (by decide) rfl (fun ls hl => ?_)
        have hL178_1 : ∀ (n_2 : Nat) (k : Nat) (t : OT) (x12 : Int32) (ls : Array Slot) (H : Heap) (locs : List Loc), (4 - k) < n_2 → (k ≤ σ.sm (en row i_)) → (t = srtT (sorT σ kn so (goT σ row full kn so 2) i_ x_ m_ bag sm_ w_ dn_ (en row i_)) k (ω.brings, ω.done, ω.end_)) → x12 = (nI k) → lv_has ls 16 [(12, .int x12), (11, .int (arrF σ x_ m_ (en row i_))), (10, .int (m_ + (σ.ways (6 * x_ + (plF σ (en row i_)))))), (9, .ref (μ.cA (en row i_))), (0, .ref (ad 4)), (1, .int (nI i_)), (2, .int (nI x_)), (3, .int m_), (4, .int bag), (5, .int sm_), (6, .long w_), (8, .int dn_)] → va_P D vwCl (cW dA x ad μ σ ((full, row, nI j, ptF σ.tools 8, kn, so, t.1, t.2.1, ω.below, t.2.2, ω.mb) : Om)) H → va_S (cA x ad μ) s.heap H locs → W p l e rmX1_goOn_3 s m args below meth c H locs 0 0 Q (F0 m 178 ls []) := by
          intro n_2
          induction n_2 with
          | zero => intro k t x12 ls H locs hm_4; exact absurd hm_4 (Nat.not_lt_zero _)
          | succ n_2 ih_3 =>
            intro k t x12 ls H locs hm_4 hk ht ex12 hl hP hS
            subst ex12
            refine lv_iload hx hb dX1_goOn_178 (lv_at hl 0 rfl) ?_
            refine lv_aload hx hb dX1_goOn_180 (lv_at hl 3 rfl) ?_
            refine va_get (D := D) (ci := 5) (v := .ref (μ.lA (en row i_))) (C := RX7) (T := TX7) (N := 3) hx hb hts in_X7 hown hK (pl1 hP (hR.2.1 (en row i_) hc6 hTc).1.1 (hR.2.1 (en row i_) hc6 hTc).1.2) 0 rfl rfl 1 (by decide) (hts _ q700) (fun _ h9 => h9) rfl dX1_goOn_182 ?_
            refine dV (v := .int (nI (σ.sm (en row i_)))) (As := []) (rest := [.int (nI k)]) ⟨hx, hb, hml, hown, hts⟩ (mt_J2_size l D dA (μ.lA (en row i_)) (μ.eA (en row i_)) (μ.mA (en row i_)) (σ.sm (en row i_))) (cw_X1_J2_size hts ⟨Nat.le_of_ble_eq_true rfl, Nat.le_of_ble_eq_true rfl⟩) pB_bw (pB_now hK (pl1 hP (hR.2.1 (en row i_) hc6 hTc).2.2.1.1 (hR.2.1 (en row i_) hc6 hTc).2.2.1.2)) (va_recv hK (pl1 hP (hR.2.1 (en row i_) hc6 hTc).2.2.1.1 (hR.2.1 (en row i_) hc6 hTc).2.2.1.2) (ci := 8) (q0 := 0) rfl rfl) rfl hl.1 rfl (Nat.le_of_ble_eq_true rfl) dX1_goOn_185 ⟨Nat.le_of_ble_eq_true rfl, Nat.le_of_ble_eq_true rfl⟩ ?_
            refine lv_icmp_ge (tgt := 362) hx hb dX1_goOn_188 rfl (fun h188 => ?_) (fun h188 => ?_)
            · have h188 : (σ.sm (en row i_)) ≤ k := (nz_le (a := (σ.sm (en row i_))) (b := k) rfl rfl (by omega) (by omega)).mp h188
              have hk_ : k = σ.sm (en row i_) := by omega
              subst hk_
              exact cm_v hQ hx hb hr hlocks hK hN hP hS (rfl) (by rw [goT_c h63 hnl, ← ht]) dX1_goOn_362
            · have h188 : ¬ ((σ.sm (en row i_)) ≤ k) := fun z9 => h188 ((nz_le (a := (σ.sm (en row i_))) (b := k) rfl rfl (by omega) (by omega)).mpr z9)
              refine lv_aload hx hb dX1_goOn_191 (lv_at hl 3 rfl) ?_
              refine va_get (D := D) (ci := 5) (v := .ref (μ.lA (en row i_))) (C := RX7) (T := TX7) (N := 3) hx hb hts in_X7 hown hK (pl1 hP (hR.2.1 (en row i_) hc6 hTc).1.1 (hR.2.1 (en row i_) hc6 hTc).1.2) 0 rfl rfl 1 (by decide) (hts _ q700) (fun _ h9 => h9) rfl dX1_goOn_193 ?_
              refine lv_iload hx hb dX1_goOn_196 (lv_at hl 0 rfl) ?_
              refine g_sort (rest := []) ⟨hx, hb, hml, hown, hts⟩ (cw_X1_J2_get hts ⟨Nat.le_of_ble_eq_true rfl, Nat.le_of_ble_eq_true rfl⟩) hK hP (hR.2.1 (en row i_) hc6 hTc) (hI.sm (en row i_) hc6) (show k < σ.sm (en row i_) by omega) hl.1 rfl (Nat.le_of_ble_eq_true rfl) dX1_goOn_198 ⟨Nat.le_of_ble_eq_true rfl, Nat.le_of_ble_eq_true rfl⟩ ?_
              refine va_castS hx hb hown (hts _ q964) (hK.1 6 _ rfl).2 (va_recv hK (pl1 hP ((hR.2.1 (en row i_) hc6 hTc).2.2.2.2 k (show k < σ.sm (en row i_) by omega)).1 ((hR.2.1 (en row i_) hc6 hTc).2.2.2.2 k (show k < σ.sm (en row i_) by omega)).2) (ci := 6) (q0 := 0) rfl rfl) dX1_goOn_201 ?_
              refine lv_astore (lv' := [(13, .ref (μ.sA (en row i_) k)), (12, .int (nI k)), (11, .int (arrF σ x_ m_ (en row i_))), (10, .int (m_ + (σ.ways (6 * x_ + (plF σ (en row i_)))))), (9, .ref (μ.cA (en row i_))), (0, .ref (ad 4)), (1, .int (nI i_)), (2, .int (nI x_)), (3, .int m_), (4, .int bag), (5, .int sm_), (6, .long w_), (8, .int dn_)]) hx hb dX1_goOn_204 hl (by decide) rfl (fun ls hl => ?_)
              refine lv_aload_n hx hb dX1_goOn_206 rfl (lv_at hl 5 rfl) ?_
              refine lv_iload_n hx hb dX1_goOn_207 rfl (lv_at hl 6 rfl) ?_
              refine dV (v := .int (entF row i_)) (As := [.int (nI i_)]) (rest := []) ⟨hx, hb, hml, hown, hts⟩ (mt_X1_at l D dA x ad μ σ ((full, row, nI j, ptF σ.tools 8, kn, so, t.1, t.2.1, ω.below, t.2.2, ω.mb) : Om) row i_ hI hR) (cw_X1_X1_at hts ⟨Nat.le_of_ble_eq_true rfl, Nat.le_of_ble_eq_true rfl⟩) cB_bw (cB_now hK hN hP) (va_recv hK hP (ci := 2) (q0 := 5) rfl rfl) rfl hl.1 rfl (Nat.le_of_ble_eq_true rfl) dX1_goOn_208 ⟨Nat.le_of_ble_eq_true rfl, Nat.le_of_ble_eq_true rfl⟩ ?_
              refine w_topi (y := nI (en row i_)) (en_eq row i_) ?_
              refine lv_aload_n hx hb dX1_goOn_211 rfl (lv_at hl 5 rfl) ?_
              refine va_get (D := D) (ci := 2) (v := .int kn) (C := RX1) (T := TX1) (N := 11) hx hb hts in_X1 hown hK hP 5 rfl rfl 4 (by decide) (hts _ q133) (fun _ h9 => h9) rfl dX1_goOn_212 ?_
              refine lv_icmp_ne (tgt := 230) hx hb dX1_goOn_215 rfl (fun h215 => ?_) (fun h215 => ?_)
              · have h215 : ¬ ((nI (en row i_)) = kn) := h215
                refine lv_aload_n hx hb dX1_goOn_230 rfl (lv_at hl 5 rfl) ?_
                refine lv_iload_n hx hb dX1_goOn_231 rfl (lv_at hl 6 rfl) ?_
                refine dV (v := .int (entF row i_)) (As := [.int (nI i_)]) (rest := []) ⟨hx, hb, hml, hown, hts⟩ (mt_X1_at l D dA x ad μ σ ((full, row, nI j, ptF σ.tools 8, kn, so, t.1, t.2.1, ω.below, t.2.2, ω.mb) : Om) row i_ hI hR) (cw_X1_X1_at hts ⟨Nat.le_of_ble_eq_true rfl, Nat.le_of_ble_eq_true rfl⟩) cB_bw (cB_now hK hN hP) (va_recv hK hP (ci := 2) (q0 := 5) rfl rfl) rfl hl.1 rfl (Nat.le_of_ble_eq_true rfl) dX1_goOn_232 ⟨Nat.le_of_ble_eq_true rfl, Nat.le_of_ble_eq_true rfl⟩ ?_
                refine w_topi (y := nI (en row i_)) (en_eq row i_) ?_
                refine lv_aload_n hx hb dX1_goOn_235 rfl (lv_at hl 5 rfl) ?_
                refine va_get (D := D) (ci := 2) (v := .int kn) (C := RX1) (T := TX1) (N := 11) hx hb hts in_X1 hown hK hP 5 rfl rfl 4 (by decide) (hts _ q133) (fun _ h9 => h9) rfl dX1_goOn_236 ?_
                refine lv_icmp_ne (tgt := 247) hx hb dX1_goOn_239 rfl (fun h239 => ?_) (fun h239 => ?_)
                · have h239 : ¬ ((nI (en row i_)) = kn) := h239
                  refine lv_lload hx hb dX1_goOn_247 (lv_at hl 11 rfl) ?_
                  refine lv_aload hx hb dX1_goOn_249 (lv_at hl 4 rfl) ?_
                  refine va_get (D := D) (ci := 5) (v := .int (total σ (en row i_))) (C := RX7) (T := TX7) (N := 3) hx hb hts in_X7 hown hK (pl1 hP (hR.2.1 (en row i_) hc6 hTc).1.1 (hR.2.1 (en row i_) hc6 hTc).1.2) 0 rfl rfl 2 (by decide) (hts _ q702) (fun _ h9 => h9) rfl dX1_goOn_251 ?_
                  refine lv_i2l (v := (total σ (en row i_) : Int32).toInt64) hx hb dX1_goOn_254 rfl ?_
                  refine lv_ldiv hx hb dX1_goOn_255 (total_ne hI hc6 (by omega)) ?_
                  refine lv_aload hx hb dX1_goOn_256 (lv_at hl 0 rfl) ?_
                  refine va_get (D := D) (ci := 6) (v := .int (σ.sorts (16 * (en row i_) + 4 * k))) (C := RX9) (T := TX9) (N := 4) hx hb hts in_X9 hown hK (pl1 hP ((hR.2.1 (en row i_) hc6 hTc).2.2.2.2 k (show k < σ.sm (en row i_) by omega)).1 ((hR.2.1 (en row i_) hc6 hTc).2.2.2.2 k (show k < σ.sm (en row i_) by omega)).2) 0 rfl rfl 2 (by decide) (hts _ q727) (fun _ h9 => h9) rfl dX1_goOn_258 ?_
                  refine lv_i2l (v := (σ.sorts (16 * (en row i_) + 4 * k) : Int32).toInt64) hx hb dX1_goOn_261 rfl ?_
                  refine lv_lmul hx hb dX1_goOn_262 ?_
                  refine w_topl (y := prT σ kn w_ (en row i_) k) ((by unfold prT; rw [if_neg h215])) ?_
                  refine lv_lstore (lv' := [(14, .long (prT σ kn w_ (en row i_) k)), (13, .ref (μ.sA (en row i_) k)), (12, .int (nI k)), (11, .int (arrF σ x_ m_ (en row i_))), (10, .int (m_ + (σ.ways (6 * x_ + (plF σ (en row i_)))))), (9, .ref (μ.cA (en row i_))), (0, .ref (ad 4)), (1, .int (nI i_)), (2, .int (nI x_)), (3, .int m_), (4, .int bag), (5, .int sm_), (6, .long w_), (8, .int dn_)]) hx hb dX1_goOn_263 hl (by decide) rfl (fun ls hl => ?_)
                  refine lv_aload hx hb dX1_goOn_265 (lv_at hl 1 rfl) ?_
                  refine lv_iload hx hb dX1_goOn_267 (lv_at hl 10 rfl) ?_
                  refine dU (v := .int (b01 (metP bag (σ.sorts (16 * (en row i_) + 4 * k + 2)) (σ.sorts (16 * (en row i_) + 4 * k + 3))))) (As := [.int bag]) (rest := []) ⟨hx, hb, hml, hown, hts⟩ (mt_X8_isMet_S l D dA (μ.sA (en row i_) k) (σ.sorts (16 * (en row i_) + 4 * k + 2)) (σ.sorts (16 * (en row i_) + 4 * k + 3)) (σ.sorts (16 * (en row i_) + 4 * k)) (σ.sorts (16 * (en row i_) + 4 * k + 1)) bag) (cw_X1_X8_isMet_S_X9 hts ⟨Nat.le_of_ble_eq_true rfl, Nat.le_of_ble_eq_true rfl⟩) pB_bw (pB_now hK (pl1 hP ((hR.2.1 (en row i_) hc6 hTc).2.2.2.2 k (show k < σ.sm (en row i_) by omega)).1 ((hR.2.1 (en row i_) hc6 hTc).2.2.2.2 k (show k < σ.sm (en row i_) by omega)).2)) (va_recv hK (pl1 hP ((hR.2.1 (en row i_) hc6 hTc).2.2.2.2 k (show k < σ.sm (en row i_) by omega)).1 ((hR.2.1 (en row i_) hc6 hTc).2.2.2.2 k (show k < σ.sm (en row i_) by omega)).2) (ci := 6) (q0 := 0) rfl rfl) rfl hl.1 rfl (Nat.le_of_ble_eq_true rfl) dX1_goOn_269 ⟨Nat.le_of_ble_eq_true rfl, Nat.le_of_ble_eq_true rfl⟩ ?_
                  refine w_topi (y := b01 (¬ leftF σ bag (en row i_) k = -1)) (b01_iff (met_left hy (en row i_) k)) ?_
                  refine lv_if_eq (tgt := 321) hx hb dX1_goOn_272 rfl (fun h272 => ?_) (fun h272 => ?_)
                  · have h272 : ¬ (¬ leftF σ bag (en row i_) k = -1) := b01_0.mp h272
                    refine lv_aload_n hx hb dX1_goOn_321 rfl (lv_at hl 6 rfl) ?_
                    refine lv_iload_n hx hb dX1_goOn_322 rfl (lv_at hl 7 rfl) ?_
                    refine lv_iconst (v := 1) hx hb dX1_goOn_323 rfl ?_
                    refine lv_iadd hx hb dX1_goOn_324 ?_
                    refine w_topi (nz_add rfl rfl) ?_
                    refine lv_aload hx hb dX1_goOn_325 (lv_at hl 5 rfl) ?_
                    refine dV (v := .int ((fun k0_ => σ.calls (6 * (en row i_) + k0_)) 0)) (As := []) (rest := [.int (nI (i_ + 1)), .ref (ad 4)]) ⟨hx, hb, hml, hown, hts⟩ (mt_X7_place l D dA (μ.cA (en row i_)) (μ.kA (en row i_)) (μ.lA (en row i_)) (total σ (en row i_)) (fun k0_ => σ.calls (6 * (en row i_) + k0_))) (cw_X1_X7_place hts ⟨Nat.le_of_ble_eq_true rfl, Nat.le_of_ble_eq_true rfl⟩) pB_bw (pB_now hK (pl2 (pl1 hP (hR.2.1 (en row i_) hc6 hTc).1.1 (hR.2.1 (en row i_) hc6 hTc).1.2) (pl1 hP (hR.2.1 (en row i_) hc6 hTc).2.1.1 (hR.2.1 (en row i_) hc6 hTc).2.1.2))) (va_recv hK (pl1 hP (hR.2.1 (en row i_) hc6 hTc).1.1 (hR.2.1 (en row i_) hc6 hTc).1.2) (ci := 5) (q0 := 0) rfl rfl) rfl hl.1 rfl (Nat.le_of_ble_eq_true rfl) dX1_goOn_327 ⟨Nat.le_of_ble_eq_true rfl, Nat.le_of_ble_eq_true rfl⟩ ?_
                    refine w_topi (y := nI (plF σ (en row i_))) ((hI.pl2 (en row i_) hc6).2) ?_
                    refine lv_iload hx hb dX1_goOn_330 (lv_at hl 3 rfl) ?_
                    refine lv_aload hx hb dX1_goOn_332 (lv_at hl 5 rfl) ?_
                    refine va_get (D := D) (ci := 5) (v := .ref (μ.kA (en row i_))) (C := RX7) (T := TX7) (N := 3) hx hb hts in_X7 hown hK (pl1 hP (hR.2.1 (en row i_) hc6 hTc).1.1 (hR.2.1 (en row i_) hc6 hTc).1.2) 0 rfl rfl 0 (by decide) (hts _ q697) (fun _ h9 => h9) rfl dX1_goOn_334 ?_
                    refine lv_iconst (v := 5) hx hb dX1_goOn_337 rfl ?_
                    refine wa_iald1 (v := σ.calls (6 * (en row i_) + 5)) hx hb hK (pl1 hP (hR.2.1 (en row i_) hc6 hTc).2.1.1 (hR.2.1 (en row i_) hc6 hTc).2.1.2) 0 0 rfl rfl (5) (rfl) (by omega) (by decide) (rfl) dX1_goOn_338 ?_
                    refine lv_iadd hx hb dX1_goOn_339 ?_
                    refine lv_iload hx hb dX1_goOn_340 (lv_at hl 10 rfl) ?_
                    refine lv_iload hx hb dX1_goOn_342 (lv_at hl 11 rfl) ?_
                    refine lv_aload hx hb dX1_goOn_344 (lv_at hl 5 rfl) ?_
                    refine dV (v := .int ((fun k0_ => σ.calls (6 * (en row i_) + k0_)) 4)) (As := []) (rest := [.int sm_, .int bag, .int ((arrF σ x_ m_ (en row i_)) + (σ.calls (6 * (en row i_) + 5))), .int (nI (plF σ (en row i_))), .int (nI (i_ + 1)), .ref (ad 4)]) ⟨hx, hb, hml, hown, hts⟩ (mt_X7_again l D dA (μ.cA (en row i_)) (μ.kA (en row i_)) (μ.lA (en row i_)) (total σ (en row i_)) (fun k0_ => σ.calls (6 * (en row i_) + k0_))) (cw_X1_X7_again hts ⟨Nat.le_of_ble_eq_true rfl, Nat.le_of_ble_eq_true rfl⟩) pB_bw (pB_now hK (pl2 (pl1 hP (hR.2.1 (en row i_) hc6 hTc).1.1 (hR.2.1 (en row i_) hc6 hTc).1.2) (pl1 hP (hR.2.1 (en row i_) hc6 hTc).2.1.1 (hR.2.1 (en row i_) hc6 hTc).2.1.2))) (va_recv hK (pl1 hP (hR.2.1 (en row i_) hc6 hTc).1.1 (hR.2.1 (en row i_) hc6 hTc).1.2) (ci := 5) (q0 := 0) rfl rfl) rfl hl.1 rfl (Nat.le_of_ble_eq_true rfl) dX1_goOn_346 ⟨Nat.le_of_ble_eq_true rfl, Nat.le_of_ble_eq_true rfl⟩ ?_
                    refine w_topi (y := σ.calls (6 * (en row i_) + 4)) (rfl) ?_
                    refine lv_isub hx hb dX1_goOn_349 ?_
                    refine lv_lload hx hb dX1_goOn_350 (lv_at hl 0 rfl) ?_
                    refine lv_iconst (v := 0) hx hb dX1_goOn_352 rfl ?_
                    refine dM (v := none) (σ' := σ) (ω' := ((full, row, nI j, ptF σ.tools 8, kn, so, (goT σ row full kn so 2 (i_ + 1) (plF σ (en row i_)) ((arrF σ x_ m_ (en row i_)) + (σ.calls (6 * (en row i_) + 5))) bag (sm_ - (σ.calls (6 * (en row i_) + 4))) (prT σ kn w_ (en row i_) k) 0 (t.1, t.2.1, t.2.2)).1, (goT σ row full kn so 2 (i_ + 1) (plF σ (en row i_)) ((arrF σ x_ m_ (en row i_)) + (σ.calls (6 * (en row i_) + 5))) bag (sm_ - (σ.calls (6 * (en row i_) + 4))) (prT σ kn w_ (en row i_) k) 0 (t.1, t.2.1, t.2.2)).2.1, ω.below, (goT σ row full kn so 2 (i_ + 1) (plF σ (en row i_)) ((arrF σ x_ m_ (en row i_)) + (σ.calls (6 * (en row i_) + 5))) bag (sm_ - (σ.calls (6 * (en row i_) + 4))) (prT σ kn w_ (en row i_) k) 0 (t.1, t.2.1, t.2.2)).2.2, ω.mb) : Om)) (As := [.int (nI (i_ + 1)), .int (nI (plF σ (en row i_))), .int ((arrF σ x_ m_ (en row i_)) + (σ.calls (6 * (en row i_) + 5))), .int bag, .int (sm_ - (σ.calls (6 * (en row i_) + 4))), .long (prT σ kn w_ (en row i_) k), .int 0]) (rest := []) ⟨hx, hb, hml, hown, hts⟩ (mt_X1_goOn_2 l D dA x ad μ σ ((full, row, nI j, ptF σ.tools 8, kn, so, t.1, t.2.1, ω.below, t.2.2, ω.mb) : Om) hcD full row j kn so (i_ + 1) (plF σ (en row i_)) ((arrF σ x_ m_ (en row i_)) + (σ.calls (6 * (en row i_) + 5))) bag (sm_ - (σ.calls (6 * (en row i_) + 4))) (prT σ kn w_ (en row i_) k) 0 hI hR hpl hy hf hoT (by omega) hj) (cw_X1_X1_goOn_2 hts ⟨Nat.le_of_ble_eq_true rfl, Nat.le_of_ble_eq_true rfl⟩) (cB_now hK hN hP) (va_recv hK hP (ci := 2) (q0 := 5) rfl rfl) rfl hl.1 rfl (Nat.le_of_ble_eq_true rfl) dX1_goOn_353 ⟨Nat.le_of_ble_eq_true rfl, Nat.le_of_ble_eq_true rfl⟩ hS (fun H locs hP hS => ?_)
                    change W p l e rmX1_goOn_3 s m args below meth c H locs 0 0 Q (F0 m 356 ls [])
                    refine lv_iinc (v := nI (k + 1)) (lv' := [(12, .int (nI (k + 1))), (14, .long (prT σ kn w_ (en row i_) k)), (13, .ref (μ.sA (en row i_) k)), (11, .int (arrF σ x_ m_ (en row i_))), (10, .int (m_ + (σ.ways (6 * x_ + (plF σ (en row i_)))))), (9, .ref (μ.cA (en row i_))), (0, .ref (ad 4)), (1, .int (nI i_)), (2, .int (nI x_)), (3, .int m_), (4, .int bag), (5, .int sm_), (6, .long w_), (8, .int dn_)]) hx hb dX1_goOn_356 hl (k := 2) rfl (nI_1 k) (by decide) rfl (fun ls hl => ?_)
                    refine lv_goto (tgt := 178) hx hb dX1_goOn_359 rfl ?_
                    exact ih_3 (k + 1) (goT σ row full kn so 2 (i_ + 1) (plF σ (en row i_)) (arrF σ x_ m_ (en row i_) + σ.calls (6 * (en row i_) + 5)) bag (sm_ - σ.calls (6 * (en row i_) + 4)) (prT σ kn w_ (en row i_) k) 0 t) (nI (k + 1)) ls _ _ (by omega) (by omega) (by rw [srtT, ← ht]; exact sor_not (fun q => h215 q.1) (Classical.not_not.mp h272)) rfl (lv_sub hl [0, 3, 4, 5, 6, 7, 8, 9, 10, 11, 12, 13] rfl) hP hS
                  · have h272 : ¬ leftF σ bag (en row i_) k = -1 := b01_n h272
                    refine lv_aload_n hx hb dX1_goOn_275 rfl (lv_at hl 6 rfl) ?_
                    refine lv_iload_n hx hb dX1_goOn_276 rfl (lv_at hl 7 rfl) ?_
                    refine lv_iconst (v := 1) hx hb dX1_goOn_277 rfl ?_
                    refine lv_iadd hx hb dX1_goOn_278 ?_
                    refine w_topi (nz_add rfl rfl) ?_
                    refine lv_aload hx hb dX1_goOn_279 (lv_at hl 5 rfl) ?_
                    refine dV (v := .int ((fun k0_ => σ.calls (6 * (en row i_) + k0_)) 0)) (As := []) (rest := [.int (nI (i_ + 1)), .ref (ad 4)]) ⟨hx, hb, hml, hown, hts⟩ (mt_X7_place l D dA (μ.cA (en row i_)) (μ.kA (en row i_)) (μ.lA (en row i_)) (total σ (en row i_)) (fun k0_ => σ.calls (6 * (en row i_) + k0_))) (cw_X1_X7_place hts ⟨Nat.le_of_ble_eq_true rfl, Nat.le_of_ble_eq_true rfl⟩) pB_bw (pB_now hK (pl2 (pl1 hP (hR.2.1 (en row i_) hc6 hTc).1.1 (hR.2.1 (en row i_) hc6 hTc).1.2) (pl1 hP (hR.2.1 (en row i_) hc6 hTc).2.1.1 (hR.2.1 (en row i_) hc6 hTc).2.1.2))) (va_recv hK (pl1 hP (hR.2.1 (en row i_) hc6 hTc).1.1 (hR.2.1 (en row i_) hc6 hTc).1.2) (ci := 5) (q0 := 0) rfl rfl) rfl hl.1 rfl (Nat.le_of_ble_eq_true rfl) dX1_goOn_281 ⟨Nat.le_of_ble_eq_true rfl, Nat.le_of_ble_eq_true rfl⟩ ?_
                    refine w_topi (y := nI (plF σ (en row i_))) ((hI.pl2 (en row i_) hc6).2) ?_
                    refine lv_iload hx hb dX1_goOn_284 (lv_at hl 3 rfl) ?_
                    refine lv_aload hx hb dX1_goOn_286 (lv_at hl 1 rfl) ?_
                    refine va_get (D := D) (ci := 6) (v := .int (σ.sorts (16 * (en row i_) + 4 * k + 1))) (C := RX9) (T := TX9) (N := 4) hx hb hts in_X9 hown hK (pl1 hP ((hR.2.1 (en row i_) hc6 hTc).2.2.2.2 k (show k < σ.sm (en row i_) by omega)).1 ((hR.2.1 (en row i_) hc6 hTc).2.2.2.2 k (show k < σ.sm (en row i_) by omega)).2) 0 rfl rfl 3 (by decide) (hts _ q731) (fun _ h9 => h9) rfl dX1_goOn_288 ?_
                    refine lv_iadd hx hb dX1_goOn_291 ?_
                    refine lv_aload hx hb dX1_goOn_292 (lv_at hl 1 rfl) ?_
                    refine lv_iload hx hb dX1_goOn_294 (lv_at hl 10 rfl) ?_
                    refine lv_aload_n hx hb dX1_goOn_296 rfl (lv_at hl 6 rfl) ?_
                    refine va_get (D := D) (ci := 2) (v := .int (ptF σ.tools 8)) (C := RX1) (T := TX1) (N := 11) hx hb hts in_X1 hown hK hP 5 rfl rfl 3 (by decide) (hts _ q132) (fun _ h9 => h9) rfl dX1_goOn_297 ?_
                    refine dU (v := .int (lefW bag (σ.sorts (16 * (en row i_) + 4 * k + 2)) (σ.sorts (16 * (en row i_) + 4 * k + 3)) (ptF σ.tools 8))) (As := [.int bag, .int (ptF σ.tools 8)]) (rest := [.int ((arrF σ x_ m_ (en row i_)) + (σ.sorts (16 * (en row i_) + 4 * k + 1))), .int (nI (plF σ (en row i_))), .int (nI (i_ + 1)), .ref (ad 4)]) ⟨hx, hb, hml, hown, hts⟩ (mt_X8_left_S l D dA (μ.sA (en row i_) k) (σ.sorts (16 * (en row i_) + 4 * k + 2)) (σ.sorts (16 * (en row i_) + 4 * k + 3)) (σ.sorts (16 * (en row i_) + 4 * k)) (σ.sorts (16 * (en row i_) + 4 * k + 1)) bag (ptF σ.tools 8)) (cw_X1_X8_left_S_X9 hts ⟨Nat.le_of_ble_eq_true rfl, Nat.le_of_ble_eq_true rfl⟩) pB_bw (pB_now hK (pl1 hP ((hR.2.1 (en row i_) hc6 hTc).2.2.2.2 k (show k < σ.sm (en row i_) by omega)).1 ((hR.2.1 (en row i_) hc6 hTc).2.2.2.2 k (show k < σ.sm (en row i_) by omega)).2)) (va_recv hK (pl1 hP ((hR.2.1 (en row i_) hc6 hTc).2.2.2.2 k (show k < σ.sm (en row i_) by omega)).1 ((hR.2.1 (en row i_) hc6 hTc).2.2.2.2 k (show k < σ.sm (en row i_) by omega)).2) (ci := 6) (q0 := 0) rfl rfl) rfl hl.1 rfl (Nat.le_of_ble_eq_true rfl) dX1_goOn_300 ⟨Nat.le_of_ble_eq_true rfl, Nat.le_of_ble_eq_true rfl⟩ ?_
                    refine w_topi (y := leftF σ bag (en row i_) k) (lef_eq hI hy hc6 (by omega) ((met_left hy (en row i_) k).mpr h272)) ?_
                    refine lv_iload hx hb dX1_goOn_303 (lv_at hl 11 rfl) ?_
                    refine lv_aload hx hb dX1_goOn_305 (lv_at hl 5 rfl) ?_
                    refine dV (v := .int ((fun k0_ => σ.calls (6 * (en row i_) + k0_)) 3)) (As := []) (rest := [.int sm_, .int (leftF σ bag (en row i_) k), .int ((arrF σ x_ m_ (en row i_)) + (σ.sorts (16 * (en row i_) + 4 * k + 1))), .int (nI (plF σ (en row i_))), .int (nI (i_ + 1)), .ref (ad 4)]) ⟨hx, hb, hml, hown, hts⟩ (mt_X7_worth l D dA (μ.cA (en row i_)) (μ.kA (en row i_)) (μ.lA (en row i_)) (total σ (en row i_)) (fun k0_ => σ.calls (6 * (en row i_) + k0_))) (cw_X1_X7_worth hts ⟨Nat.le_of_ble_eq_true rfl, Nat.le_of_ble_eq_true rfl⟩) pB_bw (pB_now hK (pl2 (pl1 hP (hR.2.1 (en row i_) hc6 hTc).1.1 (hR.2.1 (en row i_) hc6 hTc).1.2) (pl1 hP (hR.2.1 (en row i_) hc6 hTc).2.1.1 (hR.2.1 (en row i_) hc6 hTc).2.1.2))) (va_recv hK (pl1 hP (hR.2.1 (en row i_) hc6 hTc).1.1 (hR.2.1 (en row i_) hc6 hTc).1.2) (ci := 5) (q0 := 0) rfl rfl) rfl hl.1 rfl (Nat.le_of_ble_eq_true rfl) dX1_goOn_307 ⟨Nat.le_of_ble_eq_true rfl, Nat.le_of_ble_eq_true rfl⟩ ?_
                    refine w_topi (y := σ.calls (6 * (en row i_) + 3)) (rfl) ?_
                    refine lv_iadd hx hb dX1_goOn_310 ?_
                    refine lv_lload hx hb dX1_goOn_311 (lv_at hl 0 rfl) ?_
                    refine lv_iload hx hb dX1_goOn_313 (lv_at hl 13 rfl) ?_
                    refine dM (v := none) (σ' := σ) (ω' := ((full, row, nI j, ptF σ.tools 8, kn, so, (goT σ row full kn so 2 (i_ + 1) (plF σ (en row i_)) ((arrF σ x_ m_ (en row i_)) + (σ.sorts (16 * (en row i_) + 4 * k + 1))) (leftF σ bag (en row i_) k) (sm_ + (σ.calls (6 * (en row i_) + 3))) (prT σ kn w_ (en row i_) k) dn_ (t.1, t.2.1, t.2.2)).1, (goT σ row full kn so 2 (i_ + 1) (plF σ (en row i_)) ((arrF σ x_ m_ (en row i_)) + (σ.sorts (16 * (en row i_) + 4 * k + 1))) (leftF σ bag (en row i_) k) (sm_ + (σ.calls (6 * (en row i_) + 3))) (prT σ kn w_ (en row i_) k) dn_ (t.1, t.2.1, t.2.2)).2.1, ω.below, (goT σ row full kn so 2 (i_ + 1) (plF σ (en row i_)) ((arrF σ x_ m_ (en row i_)) + (σ.sorts (16 * (en row i_) + 4 * k + 1))) (leftF σ bag (en row i_) k) (sm_ + (σ.calls (6 * (en row i_) + 3))) (prT σ kn w_ (en row i_) k) dn_ (t.1, t.2.1, t.2.2)).2.2, ω.mb) : Om)) (As := [.int (nI (i_ + 1)), .int (nI (plF σ (en row i_))), .int ((arrF σ x_ m_ (en row i_)) + (σ.sorts (16 * (en row i_) + 4 * k + 1))), .int (leftF σ bag (en row i_) k), .int (sm_ + (σ.calls (6 * (en row i_) + 3))), .long (prT σ kn w_ (en row i_) k), .int dn_]) (rest := []) ⟨hx, hb, hml, hown, hts⟩ (mt_X1_goOn_2 l D dA x ad μ σ ((full, row, nI j, ptF σ.tools 8, kn, so, t.1, t.2.1, ω.below, t.2.2, ω.mb) : Om) hcD full row j kn so (i_ + 1) (plF σ (en row i_)) ((arrF σ x_ m_ (en row i_)) + (σ.sorts (16 * (en row i_) + 4 * k + 1))) (leftF σ bag (en row i_) k) (sm_ + (σ.calls (6 * (en row i_) + 3))) (prT σ kn w_ (en row i_) k) dn_ hI hR hpl (left_by hy h272) hf hoT (by omega) hj) (cw_X1_X1_goOn_2 hts ⟨Nat.le_of_ble_eq_true rfl, Nat.le_of_ble_eq_true rfl⟩) (cB_now hK hN hP) (va_recv hK hP (ci := 2) (q0 := 5) rfl rfl) rfl hl.1 rfl (Nat.le_of_ble_eq_true rfl) dX1_goOn_315 ⟨Nat.le_of_ble_eq_true rfl, Nat.le_of_ble_eq_true rfl⟩ hS (fun H locs hP hS => ?_)
                    change W p l e rmX1_goOn_3 s m args below meth c H locs 0 0 Q (F0 m 318 ls [])
                    refine lv_goto (tgt := 356) hx hb dX1_goOn_318 rfl ?_
                    refine lv_iinc (v := nI (k + 1)) (lv' := [(12, .int (nI (k + 1))), (14, .long (prT σ kn w_ (en row i_) k)), (13, .ref (μ.sA (en row i_) k)), (11, .int (arrF σ x_ m_ (en row i_))), (10, .int (m_ + (σ.ways (6 * x_ + (plF σ (en row i_)))))), (9, .ref (μ.cA (en row i_))), (0, .ref (ad 4)), (1, .int (nI i_)), (2, .int (nI x_)), (3, .int m_), (4, .int bag), (5, .int sm_), (6, .long w_), (8, .int dn_)]) hx hb dX1_goOn_356 hl (k := 2) rfl (nI_1 k) (by decide) rfl (fun ls hl => ?_)
                    refine lv_goto (tgt := 178) hx hb dX1_goOn_359 rfl ?_
                    exact ih_3 (k + 1) (goT σ row full kn so 2 (i_ + 1) (plF σ (en row i_)) (arrF σ x_ m_ (en row i_) + σ.sorts (16 * (en row i_) + 4 * k + 1)) (leftF σ bag (en row i_) k) (sm_ + σ.calls (6 * (en row i_) + 3)) (prT σ kn w_ (en row i_) k) dn_ t) (nI (k + 1)) ls _ _ (by omega) (by omega) (by rw [srtT, ← ht]; exact sor_met (fun q => h215 q.1) h272) rfl (lv_sub hl [0, 3, 4, 5, 6, 7, 8, 9, 10, 11, 12, 13] rfl) hP hS
                · have h239 : (nI (en row i_)) = kn := h239
                  exact absurd h239 h215
              · have h215 : (nI (en row i_)) = kn := h215
                refine lv_iload hx hb dX1_goOn_218 (lv_at hl 1 rfl) ?_
                refine lv_aload_n hx hb dX1_goOn_220 rfl (lv_at hl 5 rfl) ?_
                refine va_get (D := D) (ci := 2) (v := .int so) (C := RX1) (T := TX1) (N := 11) hx hb hts in_X1 hown hK hP 5 rfl rfl 5 (by decide) (hts _ q134) (fun _ h9 => h9) rfl dX1_goOn_221 ?_
                refine lv_icmp_eq (tgt := 230) hx hb dX1_goOn_224 rfl (fun h224 => ?_) (fun h224 => ?_)
                · have h224 : (nI k) = so := h224
                  refine lv_aload_n hx hb dX1_goOn_230 rfl (lv_at hl 5 rfl) ?_
                  refine lv_iload_n hx hb dX1_goOn_231 rfl (lv_at hl 6 rfl) ?_
                  refine dV (v := .int (entF row i_)) (As := [.int (nI i_)]) (rest := []) ⟨hx, hb, hml, hown, hts⟩ (mt_X1_at l D dA x ad μ σ ((full, row, nI j, ptF σ.tools 8, kn, so, t.1, t.2.1, ω.below, t.2.2, ω.mb) : Om) row i_ hI hR) (cw_X1_X1_at hts ⟨Nat.le_of_ble_eq_true rfl, Nat.le_of_ble_eq_true rfl⟩) cB_bw (cB_now hK hN hP) (va_recv hK hP (ci := 2) (q0 := 5) rfl rfl) rfl hl.1 rfl (Nat.le_of_ble_eq_true rfl) dX1_goOn_232 ⟨Nat.le_of_ble_eq_true rfl, Nat.le_of_ble_eq_true rfl⟩ ?_
                  refine w_topi (y := nI (en row i_)) (en_eq row i_) ?_
                  refine lv_aload_n hx hb dX1_goOn_235 rfl (lv_at hl 5 rfl) ?_
                  refine va_get (D := D) (ci := 2) (v := .int kn) (C := RX1) (T := TX1) (N := 11) hx hb hts in_X1 hown hK hP 5 rfl rfl 4 (by decide) (hts _ q133) (fun _ h9 => h9) rfl dX1_goOn_236 ?_
                  refine lv_icmp_ne (tgt := 247) hx hb dX1_goOn_239 rfl (fun h239 => ?_) (fun h239 => ?_)
                  · have h239 : ¬ ((nI (en row i_)) = kn) := h239
                    exact absurd h215 h239
                  · have h239 : (nI (en row i_)) = kn := h239
                    refine lv_lload hx hb dX1_goOn_242 (lv_at hl 11 rfl) ?_
                    refine w_topl (y := prT σ kn w_ (en row i_) k) ((by unfold prT; rw [if_pos h215])) ?_
                    refine lv_goto (tgt := 263) hx hb dX1_goOn_244 rfl ?_
                    refine lv_lstore (lv' := [(14, .long (prT σ kn w_ (en row i_) k)), (13, .ref (μ.sA (en row i_) k)), (12, .int (nI k)), (11, .int (arrF σ x_ m_ (en row i_))), (10, .int (m_ + (σ.ways (6 * x_ + (plF σ (en row i_)))))), (9, .ref (μ.cA (en row i_))), (0, .ref (ad 4)), (1, .int (nI i_)), (2, .int (nI x_)), (3, .int m_), (4, .int bag), (5, .int sm_), (6, .long w_), (8, .int dn_)]) hx hb dX1_goOn_263 hl (by decide) rfl (fun ls hl => ?_)
                    refine lv_aload hx hb dX1_goOn_265 (lv_at hl 1 rfl) ?_
                    refine lv_iload hx hb dX1_goOn_267 (lv_at hl 10 rfl) ?_
                    refine dU (v := .int (b01 (metP bag (σ.sorts (16 * (en row i_) + 4 * k + 2)) (σ.sorts (16 * (en row i_) + 4 * k + 3))))) (As := [.int bag]) (rest := []) ⟨hx, hb, hml, hown, hts⟩ (mt_X8_isMet_S l D dA (μ.sA (en row i_) k) (σ.sorts (16 * (en row i_) + 4 * k + 2)) (σ.sorts (16 * (en row i_) + 4 * k + 3)) (σ.sorts (16 * (en row i_) + 4 * k)) (σ.sorts (16 * (en row i_) + 4 * k + 1)) bag) (cw_X1_X8_isMet_S_X9 hts ⟨Nat.le_of_ble_eq_true rfl, Nat.le_of_ble_eq_true rfl⟩) pB_bw (pB_now hK (pl1 hP ((hR.2.1 (en row i_) hc6 hTc).2.2.2.2 k (show k < σ.sm (en row i_) by omega)).1 ((hR.2.1 (en row i_) hc6 hTc).2.2.2.2 k (show k < σ.sm (en row i_) by omega)).2)) (va_recv hK (pl1 hP ((hR.2.1 (en row i_) hc6 hTc).2.2.2.2 k (show k < σ.sm (en row i_) by omega)).1 ((hR.2.1 (en row i_) hc6 hTc).2.2.2.2 k (show k < σ.sm (en row i_) by omega)).2) (ci := 6) (q0 := 0) rfl rfl) rfl hl.1 rfl (Nat.le_of_ble_eq_true rfl) dX1_goOn_269 ⟨Nat.le_of_ble_eq_true rfl, Nat.le_of_ble_eq_true rfl⟩ ?_
                    refine w_topi (y := b01 (¬ leftF σ bag (en row i_) k = -1)) (b01_iff (met_left hy (en row i_) k)) ?_
                    refine lv_if_eq (tgt := 321) hx hb dX1_goOn_272 rfl (fun h272 => ?_) (fun h272 => ?_)
                    · have h272 : ¬ (¬ leftF σ bag (en row i_) k = -1) := b01_0.mp h272
                      refine lv_aload_n hx hb dX1_goOn_321 rfl (lv_at hl 6 rfl) ?_
                      refine lv_iload_n hx hb dX1_goOn_322 rfl (lv_at hl 7 rfl) ?_
                      refine lv_iconst (v := 1) hx hb dX1_goOn_323 rfl ?_
                      refine lv_iadd hx hb dX1_goOn_324 ?_
                      refine w_topi (nz_add rfl rfl) ?_
                      refine lv_aload hx hb dX1_goOn_325 (lv_at hl 5 rfl) ?_
                      refine dV (v := .int ((fun k0_ => σ.calls (6 * (en row i_) + k0_)) 0)) (As := []) (rest := [.int (nI (i_ + 1)), .ref (ad 4)]) ⟨hx, hb, hml, hown, hts⟩ (mt_X7_place l D dA (μ.cA (en row i_)) (μ.kA (en row i_)) (μ.lA (en row i_)) (total σ (en row i_)) (fun k0_ => σ.calls (6 * (en row i_) + k0_))) (cw_X1_X7_place hts ⟨Nat.le_of_ble_eq_true rfl, Nat.le_of_ble_eq_true rfl⟩) pB_bw (pB_now hK (pl2 (pl1 hP (hR.2.1 (en row i_) hc6 hTc).1.1 (hR.2.1 (en row i_) hc6 hTc).1.2) (pl1 hP (hR.2.1 (en row i_) hc6 hTc).2.1.1 (hR.2.1 (en row i_) hc6 hTc).2.1.2))) (va_recv hK (pl1 hP (hR.2.1 (en row i_) hc6 hTc).1.1 (hR.2.1 (en row i_) hc6 hTc).1.2) (ci := 5) (q0 := 0) rfl rfl) rfl hl.1 rfl (Nat.le_of_ble_eq_true rfl) dX1_goOn_327 ⟨Nat.le_of_ble_eq_true rfl, Nat.le_of_ble_eq_true rfl⟩ ?_
                      refine w_topi (y := nI (plF σ (en row i_))) ((hI.pl2 (en row i_) hc6).2) ?_
                      refine lv_iload hx hb dX1_goOn_330 (lv_at hl 3 rfl) ?_
                      refine lv_aload hx hb dX1_goOn_332 (lv_at hl 5 rfl) ?_
                      refine va_get (D := D) (ci := 5) (v := .ref (μ.kA (en row i_))) (C := RX7) (T := TX7) (N := 3) hx hb hts in_X7 hown hK (pl1 hP (hR.2.1 (en row i_) hc6 hTc).1.1 (hR.2.1 (en row i_) hc6 hTc).1.2) 0 rfl rfl 0 (by decide) (hts _ q697) (fun _ h9 => h9) rfl dX1_goOn_334 ?_
                      refine lv_iconst (v := 5) hx hb dX1_goOn_337 rfl ?_
                      refine wa_iald1 (v := σ.calls (6 * (en row i_) + 5)) hx hb hK (pl1 hP (hR.2.1 (en row i_) hc6 hTc).2.1.1 (hR.2.1 (en row i_) hc6 hTc).2.1.2) 0 0 rfl rfl (5) (rfl) (by omega) (by decide) (rfl) dX1_goOn_338 ?_
                      refine lv_iadd hx hb dX1_goOn_339 ?_
                      refine lv_iload hx hb dX1_goOn_340 (lv_at hl 10 rfl) ?_
                      refine lv_iload hx hb dX1_goOn_342 (lv_at hl 11 rfl) ?_
                      refine lv_aload hx hb dX1_goOn_344 (lv_at hl 5 rfl) ?_
                      refine dV (v := .int ((fun k0_ => σ.calls (6 * (en row i_) + k0_)) 4)) (As := []) (rest := [.int sm_, .int bag, .int ((arrF σ x_ m_ (en row i_)) + (σ.calls (6 * (en row i_) + 5))), .int (nI (plF σ (en row i_))), .int (nI (i_ + 1)), .ref (ad 4)]) ⟨hx, hb, hml, hown, hts⟩ (mt_X7_again l D dA (μ.cA (en row i_)) (μ.kA (en row i_)) (μ.lA (en row i_)) (total σ (en row i_)) (fun k0_ => σ.calls (6 * (en row i_) + k0_))) (cw_X1_X7_again hts ⟨Nat.le_of_ble_eq_true rfl, Nat.le_of_ble_eq_true rfl⟩) pB_bw (pB_now hK (pl2 (pl1 hP (hR.2.1 (en row i_) hc6 hTc).1.1 (hR.2.1 (en row i_) hc6 hTc).1.2) (pl1 hP (hR.2.1 (en row i_) hc6 hTc).2.1.1 (hR.2.1 (en row i_) hc6 hTc).2.1.2))) (va_recv hK (pl1 hP (hR.2.1 (en row i_) hc6 hTc).1.1 (hR.2.1 (en row i_) hc6 hTc).1.2) (ci := 5) (q0 := 0) rfl rfl) rfl hl.1 rfl (Nat.le_of_ble_eq_true rfl) dX1_goOn_346 ⟨Nat.le_of_ble_eq_true rfl, Nat.le_of_ble_eq_true rfl⟩ ?_
                      refine w_topi (y := σ.calls (6 * (en row i_) + 4)) (rfl) ?_
                      refine lv_isub hx hb dX1_goOn_349 ?_
                      refine lv_lload hx hb dX1_goOn_350 (lv_at hl 0 rfl) ?_
                      refine lv_iconst (v := 0) hx hb dX1_goOn_352 rfl ?_
                      refine dM (v := none) (σ' := σ) (ω' := ((full, row, nI j, ptF σ.tools 8, kn, so, (goT σ row full kn so 2 (i_ + 1) (plF σ (en row i_)) ((arrF σ x_ m_ (en row i_)) + (σ.calls (6 * (en row i_) + 5))) bag (sm_ - (σ.calls (6 * (en row i_) + 4))) (prT σ kn w_ (en row i_) k) 0 (t.1, t.2.1, t.2.2)).1, (goT σ row full kn so 2 (i_ + 1) (plF σ (en row i_)) ((arrF σ x_ m_ (en row i_)) + (σ.calls (6 * (en row i_) + 5))) bag (sm_ - (σ.calls (6 * (en row i_) + 4))) (prT σ kn w_ (en row i_) k) 0 (t.1, t.2.1, t.2.2)).2.1, ω.below, (goT σ row full kn so 2 (i_ + 1) (plF σ (en row i_)) ((arrF σ x_ m_ (en row i_)) + (σ.calls (6 * (en row i_) + 5))) bag (sm_ - (σ.calls (6 * (en row i_) + 4))) (prT σ kn w_ (en row i_) k) 0 (t.1, t.2.1, t.2.2)).2.2, ω.mb) : Om)) (As := [.int (nI (i_ + 1)), .int (nI (plF σ (en row i_))), .int ((arrF σ x_ m_ (en row i_)) + (σ.calls (6 * (en row i_) + 5))), .int bag, .int (sm_ - (σ.calls (6 * (en row i_) + 4))), .long (prT σ kn w_ (en row i_) k), .int 0]) (rest := []) ⟨hx, hb, hml, hown, hts⟩ (mt_X1_goOn_2 l D dA x ad μ σ ((full, row, nI j, ptF σ.tools 8, kn, so, t.1, t.2.1, ω.below, t.2.2, ω.mb) : Om) hcD full row j kn so (i_ + 1) (plF σ (en row i_)) ((arrF σ x_ m_ (en row i_)) + (σ.calls (6 * (en row i_) + 5))) bag (sm_ - (σ.calls (6 * (en row i_) + 4))) (prT σ kn w_ (en row i_) k) 0 hI hR hpl hy hf hoT (by omega) hj) (cw_X1_X1_goOn_2 hts ⟨Nat.le_of_ble_eq_true rfl, Nat.le_of_ble_eq_true rfl⟩) (cB_now hK hN hP) (va_recv hK hP (ci := 2) (q0 := 5) rfl rfl) rfl hl.1 rfl (Nat.le_of_ble_eq_true rfl) dX1_goOn_353 ⟨Nat.le_of_ble_eq_true rfl, Nat.le_of_ble_eq_true rfl⟩ hS (fun H locs hP hS => ?_)
                      change W p l e rmX1_goOn_3 s m args below meth c H locs 0 0 Q (F0 m 356 ls [])
                      refine lv_iinc (v := nI (k + 1)) (lv' := [(12, .int (nI (k + 1))), (14, .long (prT σ kn w_ (en row i_) k)), (13, .ref (μ.sA (en row i_) k)), (11, .int (arrF σ x_ m_ (en row i_))), (10, .int (m_ + (σ.ways (6 * x_ + (plF σ (en row i_)))))), (9, .ref (μ.cA (en row i_))), (0, .ref (ad 4)), (1, .int (nI i_)), (2, .int (nI x_)), (3, .int m_), (4, .int bag), (5, .int sm_), (6, .long w_), (8, .int dn_)]) hx hb dX1_goOn_356 hl (k := 2) rfl (nI_1 k) (by decide) rfl (fun ls hl => ?_)
                      refine lv_goto (tgt := 178) hx hb dX1_goOn_359 rfl ?_
                      exact ih_3 (k + 1) (goT σ row full kn so 2 (i_ + 1) (plF σ (en row i_)) (arrF σ x_ m_ (en row i_) + σ.calls (6 * (en row i_) + 5)) bag (sm_ - σ.calls (6 * (en row i_) + 4)) (prT σ kn w_ (en row i_) k) 0 t) (nI (k + 1)) ls _ _ (by omega) (by omega) (by rw [srtT, ← ht]; exact sor_not (fun q => q.2 h224) (Classical.not_not.mp h272)) rfl (lv_sub hl [0, 3, 4, 5, 6, 7, 8, 9, 10, 11, 12, 13] rfl) hP hS
                    · have h272 : ¬ leftF σ bag (en row i_) k = -1 := b01_n h272
                      refine lv_aload_n hx hb dX1_goOn_275 rfl (lv_at hl 6 rfl) ?_
                      refine lv_iload_n hx hb dX1_goOn_276 rfl (lv_at hl 7 rfl) ?_
                      refine lv_iconst (v := 1) hx hb dX1_goOn_277 rfl ?_
                      refine lv_iadd hx hb dX1_goOn_278 ?_
                      refine w_topi (nz_add rfl rfl) ?_
                      refine lv_aload hx hb dX1_goOn_279 (lv_at hl 5 rfl) ?_
                      refine dV (v := .int ((fun k0_ => σ.calls (6 * (en row i_) + k0_)) 0)) (As := []) (rest := [.int (nI (i_ + 1)), .ref (ad 4)]) ⟨hx, hb, hml, hown, hts⟩ (mt_X7_place l D dA (μ.cA (en row i_)) (μ.kA (en row i_)) (μ.lA (en row i_)) (total σ (en row i_)) (fun k0_ => σ.calls (6 * (en row i_) + k0_))) (cw_X1_X7_place hts ⟨Nat.le_of_ble_eq_true rfl, Nat.le_of_ble_eq_true rfl⟩) pB_bw (pB_now hK (pl2 (pl1 hP (hR.2.1 (en row i_) hc6 hTc).1.1 (hR.2.1 (en row i_) hc6 hTc).1.2) (pl1 hP (hR.2.1 (en row i_) hc6 hTc).2.1.1 (hR.2.1 (en row i_) hc6 hTc).2.1.2))) (va_recv hK (pl1 hP (hR.2.1 (en row i_) hc6 hTc).1.1 (hR.2.1 (en row i_) hc6 hTc).1.2) (ci := 5) (q0 := 0) rfl rfl) rfl hl.1 rfl (Nat.le_of_ble_eq_true rfl) dX1_goOn_281 ⟨Nat.le_of_ble_eq_true rfl, Nat.le_of_ble_eq_true rfl⟩ ?_
                      refine w_topi (y := nI (plF σ (en row i_))) ((hI.pl2 (en row i_) hc6).2) ?_
                      refine lv_iload hx hb dX1_goOn_284 (lv_at hl 3 rfl) ?_
                      refine lv_aload hx hb dX1_goOn_286 (lv_at hl 1 rfl) ?_
                      refine va_get (D := D) (ci := 6) (v := .int (σ.sorts (16 * (en row i_) + 4 * k + 1))) (C := RX9) (T := TX9) (N := 4) hx hb hts in_X9 hown hK (pl1 hP ((hR.2.1 (en row i_) hc6 hTc).2.2.2.2 k (show k < σ.sm (en row i_) by omega)).1 ((hR.2.1 (en row i_) hc6 hTc).2.2.2.2 k (show k < σ.sm (en row i_) by omega)).2) 0 rfl rfl 3 (by decide) (hts _ q731) (fun _ h9 => h9) rfl dX1_goOn_288 ?_
                      refine lv_iadd hx hb dX1_goOn_291 ?_
                      refine lv_aload hx hb dX1_goOn_292 (lv_at hl 1 rfl) ?_
                      refine lv_iload hx hb dX1_goOn_294 (lv_at hl 10 rfl) ?_
                      refine lv_aload_n hx hb dX1_goOn_296 rfl (lv_at hl 6 rfl) ?_
                      refine va_get (D := D) (ci := 2) (v := .int (ptF σ.tools 8)) (C := RX1) (T := TX1) (N := 11) hx hb hts in_X1 hown hK hP 5 rfl rfl 3 (by decide) (hts _ q132) (fun _ h9 => h9) rfl dX1_goOn_297 ?_
                      refine dU (v := .int (lefW bag (σ.sorts (16 * (en row i_) + 4 * k + 2)) (σ.sorts (16 * (en row i_) + 4 * k + 3)) (ptF σ.tools 8))) (As := [.int bag, .int (ptF σ.tools 8)]) (rest := [.int ((arrF σ x_ m_ (en row i_)) + (σ.sorts (16 * (en row i_) + 4 * k + 1))), .int (nI (plF σ (en row i_))), .int (nI (i_ + 1)), .ref (ad 4)]) ⟨hx, hb, hml, hown, hts⟩ (mt_X8_left_S l D dA (μ.sA (en row i_) k) (σ.sorts (16 * (en row i_) + 4 * k + 2)) (σ.sorts (16 * (en row i_) + 4 * k + 3)) (σ.sorts (16 * (en row i_) + 4 * k)) (σ.sorts (16 * (en row i_) + 4 * k + 1)) bag (ptF σ.tools 8)) (cw_X1_X8_left_S_X9 hts ⟨Nat.le_of_ble_eq_true rfl, Nat.le_of_ble_eq_true rfl⟩) pB_bw (pB_now hK (pl1 hP ((hR.2.1 (en row i_) hc6 hTc).2.2.2.2 k (show k < σ.sm (en row i_) by omega)).1 ((hR.2.1 (en row i_) hc6 hTc).2.2.2.2 k (show k < σ.sm (en row i_) by omega)).2)) (va_recv hK (pl1 hP ((hR.2.1 (en row i_) hc6 hTc).2.2.2.2 k (show k < σ.sm (en row i_) by omega)).1 ((hR.2.1 (en row i_) hc6 hTc).2.2.2.2 k (show k < σ.sm (en row i_) by omega)).2) (ci := 6) (q0 := 0) rfl rfl) rfl hl.1 rfl (Nat.le_of_ble_eq_true rfl) dX1_goOn_300 ⟨Nat.le_of_ble_eq_true rfl, Nat.le_of_ble_eq_true rfl⟩ ?_
                      refine w_topi (y := leftF σ bag (en row i_) k) (lef_eq hI hy hc6 (by omega) ((met_left hy (en row i_) k).mpr h272)) ?_
                      refine lv_iload hx hb dX1_goOn_303 (lv_at hl 11 rfl) ?_
                      refine lv_aload hx hb dX1_goOn_305 (lv_at hl 5 rfl) ?_
                      refine dV (v := .int ((fun k0_ => σ.calls (6 * (en row i_) + k0_)) 3)) (As := []) (rest := [.int sm_, .int (leftF σ bag (en row i_) k), .int ((arrF σ x_ m_ (en row i_)) + (σ.sorts (16 * (en row i_) + 4 * k + 1))), .int (nI (plF σ (en row i_))), .int (nI (i_ + 1)), .ref (ad 4)]) ⟨hx, hb, hml, hown, hts⟩ (mt_X7_worth l D dA (μ.cA (en row i_)) (μ.kA (en row i_)) (μ.lA (en row i_)) (total σ (en row i_)) (fun k0_ => σ.calls (6 * (en row i_) + k0_))) (cw_X1_X7_worth hts ⟨Nat.le_of_ble_eq_true rfl, Nat.le_of_ble_eq_true rfl⟩) pB_bw (pB_now hK (pl2 (pl1 hP (hR.2.1 (en row i_) hc6 hTc).1.1 (hR.2.1 (en row i_) hc6 hTc).1.2) (pl1 hP (hR.2.1 (en row i_) hc6 hTc).2.1.1 (hR.2.1 (en row i_) hc6 hTc).2.1.2))) (va_recv hK (pl1 hP (hR.2.1 (en row i_) hc6 hTc).1.1 (hR.2.1 (en row i_) hc6 hTc).1.2) (ci := 5) (q0 := 0) rfl rfl) rfl hl.1 rfl (Nat.le_of_ble_eq_true rfl) dX1_goOn_307 ⟨Nat.le_of_ble_eq_true rfl, Nat.le_of_ble_eq_true rfl⟩ ?_
                      refine w_topi (y := σ.calls (6 * (en row i_) + 3)) (rfl) ?_
                      refine lv_iadd hx hb dX1_goOn_310 ?_
                      refine lv_lload hx hb dX1_goOn_311 (lv_at hl 0 rfl) ?_
                      refine lv_iload hx hb dX1_goOn_313 (lv_at hl 13 rfl) ?_
                      refine dM (v := none) (σ' := σ) (ω' := ((full, row, nI j, ptF σ.tools 8, kn, so, (goT σ row full kn so 2 (i_ + 1) (plF σ (en row i_)) ((arrF σ x_ m_ (en row i_)) + (σ.sorts (16 * (en row i_) + 4 * k + 1))) (leftF σ bag (en row i_) k) (sm_ + (σ.calls (6 * (en row i_) + 3))) (prT σ kn w_ (en row i_) k) dn_ (t.1, t.2.1, t.2.2)).1, (goT σ row full kn so 2 (i_ + 1) (plF σ (en row i_)) ((arrF σ x_ m_ (en row i_)) + (σ.sorts (16 * (en row i_) + 4 * k + 1))) (leftF σ bag (en row i_) k) (sm_ + (σ.calls (6 * (en row i_) + 3))) (prT σ kn w_ (en row i_) k) dn_ (t.1, t.2.1, t.2.2)).2.1, ω.below, (goT σ row full kn so 2 (i_ + 1) (plF σ (en row i_)) ((arrF σ x_ m_ (en row i_)) + (σ.sorts (16 * (en row i_) + 4 * k + 1))) (leftF σ bag (en row i_) k) (sm_ + (σ.calls (6 * (en row i_) + 3))) (prT σ kn w_ (en row i_) k) dn_ (t.1, t.2.1, t.2.2)).2.2, ω.mb) : Om)) (As := [.int (nI (i_ + 1)), .int (nI (plF σ (en row i_))), .int ((arrF σ x_ m_ (en row i_)) + (σ.sorts (16 * (en row i_) + 4 * k + 1))), .int (leftF σ bag (en row i_) k), .int (sm_ + (σ.calls (6 * (en row i_) + 3))), .long (prT σ kn w_ (en row i_) k), .int dn_]) (rest := []) ⟨hx, hb, hml, hown, hts⟩ (mt_X1_goOn_2 l D dA x ad μ σ ((full, row, nI j, ptF σ.tools 8, kn, so, t.1, t.2.1, ω.below, t.2.2, ω.mb) : Om) hcD full row j kn so (i_ + 1) (plF σ (en row i_)) ((arrF σ x_ m_ (en row i_)) + (σ.sorts (16 * (en row i_) + 4 * k + 1))) (leftF σ bag (en row i_) k) (sm_ + (σ.calls (6 * (en row i_) + 3))) (prT σ kn w_ (en row i_) k) dn_ hI hR hpl (left_by hy h272) hf hoT (by omega) hj) (cw_X1_X1_goOn_2 hts ⟨Nat.le_of_ble_eq_true rfl, Nat.le_of_ble_eq_true rfl⟩) (cB_now hK hN hP) (va_recv hK hP (ci := 2) (q0 := 5) rfl rfl) rfl hl.1 rfl (Nat.le_of_ble_eq_true rfl) dX1_goOn_315 ⟨Nat.le_of_ble_eq_true rfl, Nat.le_of_ble_eq_true rfl⟩ hS (fun H locs hP hS => ?_)
                      change W p l e rmX1_goOn_3 s m args below meth c H locs 0 0 Q (F0 m 318 ls [])
                      refine lv_goto (tgt := 356) hx hb dX1_goOn_318 rfl ?_
                      refine lv_iinc (v := nI (k + 1)) (lv' := [(12, .int (nI (k + 1))), (14, .long (prT σ kn w_ (en row i_) k)), (13, .ref (μ.sA (en row i_) k)), (11, .int (arrF σ x_ m_ (en row i_))), (10, .int (m_ + (σ.ways (6 * x_ + (plF σ (en row i_)))))), (9, .ref (μ.cA (en row i_))), (0, .ref (ad 4)), (1, .int (nI i_)), (2, .int (nI x_)), (3, .int m_), (4, .int bag), (5, .int sm_), (6, .long w_), (8, .int dn_)]) hx hb dX1_goOn_356 hl (k := 2) rfl (nI_1 k) (by decide) rfl (fun ls hl => ?_)
                      refine lv_goto (tgt := 178) hx hb dX1_goOn_359 rfl ?_
                      exact ih_3 (k + 1) (goT σ row full kn so 2 (i_ + 1) (plF σ (en row i_)) (arrF σ x_ m_ (en row i_) + σ.sorts (16 * (en row i_) + 4 * k + 1)) (leftF σ bag (en row i_) k) (sm_ + σ.calls (6 * (en row i_) + 3)) (prT σ kn w_ (en row i_) k) dn_ t) (nI (k + 1)) ls _ _ (by omega) (by omega) (by rw [srtT, ← ht]; exact sor_met (fun q => q.2 h224) h272) rfl (lv_sub hl [0, 3, 4, 5, 6, 7, 8, 9, 10, 11, 12, 13] rfl) hP hS
                · have h224 : ¬ ((nI k) = so) := h224
                  refine lv_goto (tgt := 356) hx hb dX1_goOn_227 rfl ?_
                  refine lv_iinc (v := nI (k + 1)) (lv' := [(12, .int (nI (k + 1))), (13, .ref (μ.sA (en row i_) k)), (11, .int (arrF σ x_ m_ (en row i_))), (10, .int (m_ + (σ.ways (6 * x_ + (plF σ (en row i_)))))), (9, .ref (μ.cA (en row i_))), (0, .ref (ad 4)), (1, .int (nI i_)), (2, .int (nI x_)), (3, .int m_), (4, .int bag), (5, .int sm_), (6, .long w_), (8, .int dn_)]) hx hb dX1_goOn_356 hl (k := 1) rfl (nI_1 k) (by decide) rfl (fun ls hl => ?_)
                  refine lv_goto (tgt := 178) hx hb dX1_goOn_359 rfl ?_
                  exact ih_3 (k + 1) t (nI (k + 1)) ls _ _ (by omega) (by omega) (by rw [srtT, ← ht]; exact sor_skip h215 h224) rfl (lv_sub hl [0, 2, 3, 4, 5, 6, 7, 8, 9, 10, 11, 12] rfl) hP hS
        exact hL178_1 _ 0 (ω.brings, ω.done, ω.end_) 0 ls _ _ (Nat.lt_succ_self _) (by omega) rfl rfl (lv_sub hl [0, 1, 2, 3, 4, 5, 6, 7, 8, 9, 10, 11] rfl) hP hS
      · have h144 : (bgF σ x_ m_ (en row i_)) = (-1) := h144
        have hlt := (bg_late hI hc6).mp h144
        refine lv_aload_n hx hb dX1_goOn_147 rfl (lv_at hl 3 rfl) ?_
        refine lv_iload_n hx hb dX1_goOn_148 rfl (lv_at hl 4 rfl) ?_
        refine lv_iconst (v := 1) hx hb dX1_goOn_149 rfl ?_
        refine lv_iadd hx hb dX1_goOn_150 ?_
        refine w_topi (nz_add rfl rfl) ?_
        refine lv_aload hx hb dX1_goOn_151 (lv_at hl 2 rfl) ?_
        refine dV (v := .int ((fun k0_ => σ.calls (6 * (en row i_) + k0_)) 0)) (As := []) (rest := [.int (nI (i_ + 1)), .ref (ad 4)]) ⟨hx, hb, hml, hown, hts⟩ (mt_X7_place l D dA (μ.cA (en row i_)) (μ.kA (en row i_)) (μ.lA (en row i_)) (total σ (en row i_)) (fun k0_ => σ.calls (6 * (en row i_) + k0_))) (cw_X1_X7_place hts ⟨Nat.le_of_ble_eq_true rfl, Nat.le_of_ble_eq_true rfl⟩) pB_bw (pB_now hK (pl2 (pl1 hP (hR.2.1 (en row i_) hc6 hTc).1.1 (hR.2.1 (en row i_) hc6 hTc).1.2) (pl1 hP (hR.2.1 (en row i_) hc6 hTc).2.1.1 (hR.2.1 (en row i_) hc6 hTc).2.1.2))) (va_recv hK (pl1 hP (hR.2.1 (en row i_) hc6 hTc).1.1 (hR.2.1 (en row i_) hc6 hTc).1.2) (ci := 5) (q0 := 0) rfl rfl) rfl hl.1 rfl (Nat.le_of_ble_eq_true rfl) dX1_goOn_153 ⟨Nat.le_of_ble_eq_true rfl, Nat.le_of_ble_eq_true rfl⟩ ?_
        refine w_topi (y := nI (plF σ (en row i_))) ((hI.pl2 (en row i_) hc6).2) ?_
        refine lv_iload hx hb dX1_goOn_156 (lv_at hl 1 rfl) ?_
        refine lv_iload hx hb dX1_goOn_158 (lv_at hl 7 rfl) ?_
        refine lv_iload hx hb dX1_goOn_160 (lv_at hl 8 rfl) ?_
        refine lv_aload hx hb dX1_goOn_162 (lv_at hl 2 rfl) ?_
        refine dV (v := .int ((fun k0_ => σ.calls (6 * (en row i_) + k0_)) 4)) (As := []) (rest := [.int sm_, .int bag, .int (m_ + (σ.ways (6 * x_ + (plF σ (en row i_))))), .int (nI (plF σ (en row i_))), .int (nI (i_ + 1)), .ref (ad 4)]) ⟨hx, hb, hml, hown, hts⟩ (mt_X7_again l D dA (μ.cA (en row i_)) (μ.kA (en row i_)) (μ.lA (en row i_)) (total σ (en row i_)) (fun k0_ => σ.calls (6 * (en row i_) + k0_))) (cw_X1_X7_again hts ⟨Nat.le_of_ble_eq_true rfl, Nat.le_of_ble_eq_true rfl⟩) pB_bw (pB_now hK (pl2 (pl1 hP (hR.2.1 (en row i_) hc6 hTc).1.1 (hR.2.1 (en row i_) hc6 hTc).1.2) (pl1 hP (hR.2.1 (en row i_) hc6 hTc).2.1.1 (hR.2.1 (en row i_) hc6 hTc).2.1.2))) (va_recv hK (pl1 hP (hR.2.1 (en row i_) hc6 hTc).1.1 (hR.2.1 (en row i_) hc6 hTc).1.2) (ci := 5) (q0 := 0) rfl rfl) rfl hl.1 rfl (Nat.le_of_ble_eq_true rfl) dX1_goOn_164 ⟨Nat.le_of_ble_eq_true rfl, Nat.le_of_ble_eq_true rfl⟩ ?_
        refine w_topi (y := σ.calls (6 * (en row i_) + 4)) (rfl) ?_
        refine lv_isub hx hb dX1_goOn_167 ?_
        refine lv_lload hx hb dX1_goOn_168 (lv_at hl 9 rfl) ?_
        refine lv_iconst (v := 0) hx hb dX1_goOn_170 rfl ?_
        refine dM (v := none) (σ' := σ) (ω' := ((full, row, nI j, ptF σ.tools 8, kn, so, (goT σ row full kn so 2 (i_ + 1) (plF σ (en row i_)) (m_ + (σ.ways (6 * x_ + (plF σ (en row i_))))) bag (sm_ - (σ.calls (6 * (en row i_) + 4))) w_ 0 (ω.brings, ω.done, ω.end_)).1, (goT σ row full kn so 2 (i_ + 1) (plF σ (en row i_)) (m_ + (σ.ways (6 * x_ + (plF σ (en row i_))))) bag (sm_ - (σ.calls (6 * (en row i_) + 4))) w_ 0 (ω.brings, ω.done, ω.end_)).2.1, ω.below, (goT σ row full kn so 2 (i_ + 1) (plF σ (en row i_)) (m_ + (σ.ways (6 * x_ + (plF σ (en row i_))))) bag (sm_ - (σ.calls (6 * (en row i_) + 4))) w_ 0 (ω.brings, ω.done, ω.end_)).2.2, ω.mb) : Om)) (As := [.int (nI (i_ + 1)), .int (nI (plF σ (en row i_))), .int (m_ + (σ.ways (6 * x_ + (plF σ (en row i_))))), .int bag, .int (sm_ - (σ.calls (6 * (en row i_) + 4))), .long w_, .int 0]) (rest := []) ⟨hx, hb, hml, hown, hts⟩ (mt_X1_goOn_2 l D dA x ad μ σ ((full, row, nI j, ptF σ.tools 8, kn, so, ω.brings, ω.done, ω.below, ω.end_, ω.mb) : Om) hcD full row j kn so (i_ + 1) (plF σ (en row i_)) (m_ + (σ.ways (6 * x_ + (plF σ (en row i_))))) bag (sm_ - (σ.calls (6 * (en row i_) + 4))) w_ 0 hI hR hpl hy hf hoT (by omega) hj) (cw_X1_X1_goOn_2 hts ⟨Nat.le_of_ble_eq_true rfl, Nat.le_of_ble_eq_true rfl⟩) (cB_now hK hN hP) (va_recv hK hP (ci := 2) (q0 := 5) rfl rfl) rfl hl.1 rfl (Nat.le_of_ble_eq_true rfl) dX1_goOn_171 ⟨Nat.le_of_ble_eq_true rfl, Nat.le_of_ble_eq_true rfl⟩ hS (fun H locs hP hS => ?_)
        change W p l e rmX1_goOn_3 s m args below meth c H locs 0 0 Q (F0 m 174 ls [])
        exact cm_v hQ hx hb hr hlocks hK hN hP hS (rfl) (by rw [goT_l h63 hlt]) dX1_goOn_174
    · have h63 : (en row i_) = 6 := (nz_eq (a := en row i_) (b := 6) rfl rfl (by omega) (by omega)).mp h63
      refine lv_aload_n hx hb dX1_goOn_66 rfl (lv_at hl 0 rfl) ?_
      refine lv_iload_n hx hb dX1_goOn_67 rfl (lv_at hl 1 rfl) ?_
      refine lv_iconst (v := 1) hx hb dX1_goOn_68 rfl ?_
      refine lv_iadd hx hb dX1_goOn_69 ?_
      refine w_topi (nz_add rfl rfl) ?_
      refine lv_iconst (v := 0) hx hb dX1_goOn_70 rfl ?_
      refine lv_iload_n hx hb dX1_goOn_71 rfl (lv_at hl 3 rfl) ?_
      refine lv_aload_n hx hb dX1_goOn_72 rfl (lv_at hl 0 rfl) ?_
      refine va_get (D := D) (ci := 2) (v := .ref x) (C := RX1) (T := TX1) (N := 11) hx hb hts in_X1 hown hK hP 5 rfl rfl 10 (by decide) (hts _ q143) (fun _ h9 => h9) rfl dX1_goOn_73 ?_
      refine va_getN (D := D) (ci := 1) (v := .ref (ad 1)) (C := RX0) (T := TX0) (N := 11) hx hb hts in_X0 hown hK hP 0 rfl rfl 4 (by decide) (va_Nw.use rfl hN.2.2.1) (fun _ h9 => h9) rfl dX1_goOn_76 ?_
      refine lv_iload_n hx hb dX1_goOn_79 rfl (lv_at hl 2 rfl) ?_
      refine wa_aald (v := .ref (ad (6 + x_))) hx hb hK hP 2 4 rfl rfl rfl (x_) (rfl) (by omega) (by decide) (rfl) dX1_goOn_80 ?_
      refine lv_iconst (v := 0) hx hb dX1_goOn_81 rfl ?_
      refine wa_sald (v := σ.ways (6 * x_ + 0)) hx hb hK (way_row hP (i := x_) (by omega)) 0 2 rfl rfl (0) (rfl) (by omega) (by decide) (rfl) dX1_goOn_82 ?_
      refine lv_iadd hx hb dX1_goOn_83 ?_
      refine lv_aload_n hx hb dX1_goOn_84 rfl (lv_at hl 0 rfl) ?_
      refine va_get (D := D) (ci := 2) (v := .int full) (C := RX1) (T := TX1) (N := 11) hx hb hts in_X1 hown hK hP 5 rfl rfl 0 (by decide) (hts _ q129) (fun _ h9 => h9) rfl dX1_goOn_85 ?_
      refine lv_iload hx hb dX1_goOn_88 (lv_at hl 5 rfl) ?_
      refine lv_lload hx hb dX1_goOn_90 (lv_at hl 6 rfl) ?_
      refine lv_iload hx hb dX1_goOn_92 (lv_at hl 7 rfl) ?_
      refine dM (v := none) (σ' := σ) (ω' := ((full, row, nI j, ptF σ.tools 8, kn, so, (goT σ row full kn so 2 (i_ + 1) 0 (m_ + (σ.ways (6 * x_ + 0))) full sm_ w_ dn_ (ω.brings, ω.done, ω.end_)).1, (goT σ row full kn so 2 (i_ + 1) 0 (m_ + (σ.ways (6 * x_ + 0))) full sm_ w_ dn_ (ω.brings, ω.done, ω.end_)).2.1, ω.below, (goT σ row full kn so 2 (i_ + 1) 0 (m_ + (σ.ways (6 * x_ + 0))) full sm_ w_ dn_ (ω.brings, ω.done, ω.end_)).2.2, ω.mb) : Om)) (As := [.int (nI (i_ + 1)), .int 0, .int (m_ + (σ.ways (6 * x_ + 0))), .int full, .int sm_, .long w_, .int dn_]) (rest := []) ⟨hx, hb, hml, hown, hts⟩ (mt_X1_goOn_2 l D dA x ad μ σ ((full, row, nI j, ptF σ.tools 8, kn, so, ω.brings, ω.done, ω.below, ω.end_, ω.mb) : Om) hcD full row j kn so (i_ + 1) 0 (m_ + (σ.ways (6 * x_ + 0))) full sm_ w_ dn_ hI hR (by decide) hf hf hoT (by omega) hj) (cw_X1_X1_goOn_2 hts ⟨Nat.le_of_ble_eq_true rfl, Nat.le_of_ble_eq_true rfl⟩) (cB_now hK hN hP) (va_recv hK hP (ci := 2) (q0 := 5) rfl rfl) rfl hl.1 rfl (Nat.le_of_ble_eq_true rfl) dX1_goOn_94 ⟨Nat.le_of_ble_eq_true rfl, Nat.le_of_ble_eq_true rfl⟩ hS (fun H locs hP hS => ?_)
      change W p l e rmX1_goOn_3 s m args below meth c H locs 0 0 Q (F0 m 97 ls [])
      exact cm_v hQ hx hb hr hlocks hK hN hP hS (rfl) (by rw [goT_h h63]) dX1_goOn_97
  · have h5 : i_ = j := (nz_eq (a := i_) (b := j) rfl rfl (by omega) (by omega)).mp h5
    exact absurd h5 (by omega)

theorem cw_X1_X1_goOn_3 {R : Room} {s : State} {args : Array Value} (hts : ∀ w ∈ lw_all, w.before args s = true) (hR : rmX1_goOn_3.frames + 1 ≤ R.frames ∧ 8 + (16 + 11) + rmX1_goOn_3.locals ≤ R.locals) : CallW R s args RX1 RX1 66 yX1_goOn cX1_goOn 16 none (ws_ yX1_goOn cX1_goOn 16 none) rmX1_goOn_3 0 0 7 := cwV 7 hts (lw_V q944 q946 qs26 q78 q947) rfl rfl rfl (by decide +kernel) hR
def rmX1_goOn_4 : Room := { frames := 6, cells := 0, slots := 0, locals := 169 }
set_option maxHeartbeats 1000000 in
theorem mt_X1_goOn_4 (l : Launch) (D : va_G) (dA : Nat → ClassId) (x : Nat) (ad : Nat → Nat) (μ : Lay) (σ : St) (ω : Om) (hcD : cD x ad μ) (full : Int32) (row : Int32) (j : Nat) (kn : Int32) (so : Int32) (i_ : Nat) (x_ : Nat) (m_ : Int32) (bag : Int32) (sm_ : Int32) (w_ : Int64) (dn_ : Int32) (hI : Inv σ) (hR : Rel dA μ σ) (hx6 : x_ < 6) (hy : byP bag) (hf : byP full) (hoT : okT σ row j) (hij : i_ + 4 = j) (hj : j ≤ 6) : Met l yX1_goOn (ws_ yX1_goOn cX1_goOn 16 none) rmX1_goOn_4 (va_Pc [.ref (ad 4), .int (nI i_), .int (nI x_), .int m_, .int bag, .int sm_, .long w_, .int dn_] (cB D dA x ad μ σ ((full, row, nI j, ptF σ.tools 8, kn, so, ω.brings, ω.done, ω.below, ω.end_, ω.mb) : Om))) (cQ none D dA x ad μ σ ((full, row, nI j, ptF σ.tools 8, kn, so, (goT σ row full kn so 4 i_ x_ m_ bag sm_ w_ dn_ (ω.brings, ω.done, ω.end_)).1, (goT σ row full kn so 4 i_ x_ m_ bag sm_ w_ dn_ (ω.brings, ω.done, ω.end_)).2.1, ω.below, (goT σ row full kn so 4 i_ x_ m_ bag sm_ w_ dn_ (ω.brings, ω.done, ω.end_)).2.2, ω.mb) : Om)) 0 0 (cA x ad μ) := by
  refine w_start (by decide) (Nat.le_of_ble_eq_true rfl) ?_
  intro p e s m args below meth c Q ls hQ hx hb hr hlocks hml hown hnm hts hB hl
  have hown : s.vm.findClass RX1 = some m.cls := hown
  have hl : lv_has ls 16 [(0, .ref (ad 4)), (1, .int (nI i_)), (2, .int (nI x_)), (3, .int m_), (4, .int bag), (5, .int sm_), (6, .long w_), (8, .int dn_)] := hl
  obtain ⟨hP, hK, hN⟩ := hB
  have hP : va_P D vwCl (cW dA x ad μ σ ((full, row, nI j, ptF σ.tools 8, kn, so, ω.brings, ω.done, ω.below, ω.end_, ω.mb) : Om)) s.heap := hP
  have hS : va_S (cA x ad μ) s.heap s.heap [] := va_S.rf
  refine lv_iload_n hx hb dX1_goOn_0 rfl (lv_at hl 1 rfl) ?_
  refine lv_aload_n hx hb dX1_goOn_1 rfl (lv_at hl 0 rfl) ?_
  refine va_get (D := D) (ci := 2) (v := .int (nI j)) (C := RX1) (T := TX1) (N := 11) hx hb hts in_X1 hown hK hP 5 rfl rfl 2 (by decide) (hts _ q131) (fun _ h9 => h9) rfl dX1_goOn_2 ?_
  refine lv_icmp_ne (tgt := 56) hx hb dX1_goOn_5 rfl (fun h5 => ?_) (fun h5 => ?_)
  · have h5 : ¬ (i_ = j) := fun z9 => h5 ((nz_eq (a := i_) (b := j) rfl rfl (by omega) (by omega)).mpr z9)
    have hen := en_lt row i_
    refine lv_aload_n hx hb dX1_goOn_56 rfl (lv_at hl 0 rfl) ?_
    refine lv_iload_n hx hb dX1_goOn_57 rfl (lv_at hl 1 rfl) ?_
    refine dV (v := .int (entF row i_)) (As := [.int (nI i_)]) (rest := []) ⟨hx, hb, hml, hown, hts⟩ (mt_X1_at l D dA x ad μ σ ((full, row, nI j, ptF σ.tools 8, kn, so, ω.brings, ω.done, ω.below, ω.end_, ω.mb) : Om) row i_ hI hR) (cw_X1_X1_at hts ⟨Nat.le_of_ble_eq_true rfl, Nat.le_of_ble_eq_true rfl⟩) cB_bw (cB_now hK hN hP) (va_recv hK hP (ci := 2) (q0 := 5) rfl rfl) rfl hl.1 rfl (Nat.le_of_ble_eq_true rfl) dX1_goOn_58 ⟨Nat.le_of_ble_eq_true rfl, Nat.le_of_ble_eq_true rfl⟩ ?_
    refine w_topi (y := nI (en row i_)) (en_eq row i_) ?_
    refine lv_bipush (v := 6) hx hb dX1_goOn_61 rfl ?_
    refine lv_icmp_ne (tgt := 98) hx hb dX1_goOn_63 rfl (fun h63 => ?_) (fun h63 => ?_)
    · have h63 : ¬ ((en row i_) = 6) := fun z9 => h63 ((nz_eq (a := en row i_) (b := 6) rfl rfl (by omega) (by omega)).mpr z9)
      obtain ⟨hc6, hTc, hs0⟩ := (hoT i_ (by omega)).resolve_left h63
      have hsm := hI.sm (en row i_) hc6
      have hpl := (hI.pl2 (en row i_) hc6).1
      refine lv_aload_n hx hb dX1_goOn_98 rfl (lv_at hl 0 rfl) ?_
      refine va_get (D := D) (ci := 2) (v := .ref x) (C := RX1) (T := TX1) (N := 11) hx hb hts in_X1 hown hK hP 5 rfl rfl 10 (by decide) (hts _ q143) (fun _ h9 => h9) rfl dX1_goOn_99 ?_
      refine va_getN (D := D) (ci := 1) (v := .ref (ad 2)) (C := RX0) (T := TX0) (N := 11) hx hb hts in_X0 hown hK hP 0 rfl rfl 5 (by decide) (va_Nw.use rfl hN.2.2.2.1) (fun _ h9 => h9) rfl dX1_goOn_102 ?_
      refine lv_aload_n hx hb dX1_goOn_105 rfl (lv_at hl 0 rfl) ?_
      refine lv_iload_n hx hb dX1_goOn_106 rfl (lv_at hl 1 rfl) ?_
      refine dV (v := .int (entF row i_)) (As := [.int (nI i_)]) (rest := [.ref (ad 2)]) ⟨hx, hb, hml, hown, hts⟩ (mt_X1_at l D dA x ad μ σ ((full, row, nI j, ptF σ.tools 8, kn, so, ω.brings, ω.done, ω.below, ω.end_, ω.mb) : Om) row i_ hI hR) (cw_X1_X1_at hts ⟨Nat.le_of_ble_eq_true rfl, Nat.le_of_ble_eq_true rfl⟩) cB_bw (cB_now hK hN hP) (va_recv hK hP (ci := 2) (q0 := 5) rfl rfl) rfl hl.1 rfl (Nat.le_of_ble_eq_true rfl) dX1_goOn_107 ⟨Nat.le_of_ble_eq_true rfl, Nat.le_of_ble_eq_true rfl⟩ ?_
      refine w_topi (y := nI (en row i_)) (en_eq row i_) ?_
      refine wa_aald (v := .ref (μ.cA (en row i_))) hx hb hK hP 3 5 rfl rfl rfl (en row i_) (rfl) (by omega) (by decide) (cO_t hTc) dX1_goOn_110 ?_
      refine lv_astore (lv' := [(9, .ref (μ.cA (en row i_))), (0, .ref (ad 4)), (1, .int (nI i_)), (2, .int (nI x_)), (3, .int m_), (4, .int bag), (5, .int sm_), (6, .long w_), (8, .int dn_)]) hx hb dX1_goOn_111 hl (by decide) rfl (fun ls hl => ?_)
      refine lv_iload_n hx hb dX1_goOn_113 rfl (lv_at hl 4 rfl) ?_
      refine lv_aload_n hx hb dX1_goOn_114 rfl (lv_at hl 1 rfl) ?_
      refine va_get (D := D) (ci := 2) (v := .ref x) (C := RX1) (T := TX1) (N := 11) hx hb hts in_X1 hown hK hP 5 rfl rfl 10 (by decide) (hts _ q143) (fun _ h9 => h9) rfl dX1_goOn_115 ?_
      refine va_getN (D := D) (ci := 1) (v := .ref (ad 1)) (C := RX0) (T := TX0) (N := 11) hx hb hts in_X0 hown hK hP 0 rfl rfl 4 (by decide) (va_Nw.use rfl hN.2.2.1) (fun _ h9 => h9) rfl dX1_goOn_118 ?_
      refine lv_iload_n hx hb dX1_goOn_121 rfl (lv_at hl 3 rfl) ?_
      refine wa_aald (v := .ref (ad (6 + x_))) hx hb hK hP 2 4 rfl rfl rfl (x_) (rfl) (by omega) (by decide) (rfl) dX1_goOn_122 ?_
      refine lv_aload hx hb dX1_goOn_123 (lv_at hl 0 rfl) ?_
      refine dV (v := .int ((fun k0_ => σ.calls (6 * (en row i_) + k0_)) 0)) (As := []) (rest := [.ref (ad (6 + x_)), .int m_]) ⟨hx, hb, hml, hown, hts⟩ (mt_X7_place l D dA (μ.cA (en row i_)) (μ.kA (en row i_)) (μ.lA (en row i_)) (total σ (en row i_)) (fun k0_ => σ.calls (6 * (en row i_) + k0_))) (cw_X1_X7_place hts ⟨Nat.le_of_ble_eq_true rfl, Nat.le_of_ble_eq_true rfl⟩) pB_bw (pB_now hK (pl2 (pl1 hP (hR.2.1 (en row i_) hc6 hTc).1.1 (hR.2.1 (en row i_) hc6 hTc).1.2) (pl1 hP (hR.2.1 (en row i_) hc6 hTc).2.1.1 (hR.2.1 (en row i_) hc6 hTc).2.1.2))) (va_recv hK (pl1 hP (hR.2.1 (en row i_) hc6 hTc).1.1 (hR.2.1 (en row i_) hc6 hTc).1.2) (ci := 5) (q0 := 0) rfl rfl) rfl hl.1 rfl (Nat.le_of_ble_eq_true rfl) dX1_goOn_125 ⟨Nat.le_of_ble_eq_true rfl, Nat.le_of_ble_eq_true rfl⟩ ?_
      refine w_topi (y := nI (plF σ (en row i_))) ((hI.pl2 (en row i_) hc6).2) ?_
      refine wa_sald (v := σ.ways (6 * x_ + (plF σ (en row i_)))) hx hb hK (way_row hP (i := x_) (by omega)) 0 2 rfl rfl (plF σ (en row i_)) (rfl) (by omega) (by decide) (rfl) dX1_goOn_128 ?_
      refine lv_iadd hx hb dX1_goOn_129 ?_
      refine lv_istore (lv' := [(10, .int (m_ + (σ.ways (6 * x_ + (plF σ (en row i_)))))), (9, .ref (μ.cA (en row i_))), (0, .ref (ad 4)), (1, .int (nI i_)), (2, .int (nI x_)), (3, .int m_), (4, .int bag), (5, .int sm_), (6, .long w_), (8, .int dn_)]) hx hb dX1_goOn_130 hl (by decide) rfl (fun ls hl => ?_)
      refine lv_aload hx hb dX1_goOn_132 (lv_at hl 1 rfl) ?_
      refine lv_iload hx hb dX1_goOn_134 (lv_at hl 0 rfl) ?_
      refine dV (v := .int (begW (fun k0_ => σ.calls (6 * (en row i_) + k0_)) (m_ + (σ.ways (6 * x_ + (plF σ (en row i_))))))) (As := [.int (m_ + (σ.ways (6 * x_ + (plF σ (en row i_)))))]) (rest := []) ⟨hx, hb, hml, hown, hts⟩ (mt_X7_begins l D dA (μ.cA (en row i_)) (μ.kA (en row i_)) (μ.lA (en row i_)) (total σ (en row i_)) (fun k0_ => σ.calls (6 * (en row i_) + k0_)) (m_ + (σ.ways (6 * x_ + (plF σ (en row i_)))))) (cw_X1_X7_begins hts ⟨Nat.le_of_ble_eq_true rfl, Nat.le_of_ble_eq_true rfl⟩) pB_bw (pB_now hK (pl2 (pl1 hP (hR.2.1 (en row i_) hc6 hTc).1.1 (hR.2.1 (en row i_) hc6 hTc).1.2) (pl1 hP (hR.2.1 (en row i_) hc6 hTc).2.1.1 (hR.2.1 (en row i_) hc6 hTc).2.1.2))) (va_recv hK (pl1 hP (hR.2.1 (en row i_) hc6 hTc).1.1 (hR.2.1 (en row i_) hc6 hTc).1.2) (ci := 5) (q0 := 0) rfl rfl) rfl hl.1 rfl (Nat.le_of_ble_eq_true rfl) dX1_goOn_136 ⟨Nat.le_of_ble_eq_true rfl, Nat.le_of_ble_eq_true rfl⟩ ?_
      refine w_topi (y := bgF σ x_ m_ (en row i_)) (beg_eq hI hc6 m_) ?_
      refine lv_istore (lv' := [(11, .int (bgF σ x_ m_ (en row i_))), (10, .int (m_ + (σ.ways (6 * x_ + (plF σ (en row i_)))))), (9, .ref (μ.cA (en row i_))), (0, .ref (ad 4)), (1, .int (nI i_)), (2, .int (nI x_)), (3, .int m_), (4, .int bag), (5, .int sm_), (6, .long w_), (8, .int dn_)]) hx hb dX1_goOn_139 hl (by decide) rfl (fun ls hl => ?_)
      refine lv_iload hx hb dX1_goOn_141 (lv_at hl 0 rfl) ?_
      refine lv_iconst (v := (-1)) hx hb dX1_goOn_143 rfl ?_
      refine lv_icmp_ne (tgt := 175) hx hb dX1_goOn_144 rfl (fun h144 => ?_) (fun h144 => ?_)
      · have h144 : ¬ ((bgF σ x_ m_ (en row i_)) = (-1)) := h144
        obtain ⟨hnl, hbg⟩ := bg_n hI hc6 h144
        rw [hbg] at hl
        refine lv_iconst (v := 0) hx hb dX1_goOn_175 rfl ?_
        refine lv_istore (lv' := [(12, .int 0), (11, .int (arrF σ x_ m_ (en row i_))), (10, .int (m_ + (σ.ways (6 * x_ + (plF σ (en row i_)))))), (9, .ref (μ.cA (en row i_))), (0, .ref (ad 4)), (1, .int (nI i_)), (2, .int (nI x_)), (3, .int m_), (4, .int bag), (5, .int sm_), (6, .long w_), (8, .int dn_)]) hx hb dX1_goOn_176 hl (by decide) rfl (fun ls hl => ?_)
        have hL178_1 : ∀ (n_2 : Nat) (k : Nat) (t : OT) (x12 : Int32) (ls : Array Slot) (H : Heap) (locs : List Loc), (4 - k) < n_2 → (k ≤ σ.sm (en row i_)) → (t = srtT (sorT σ kn so (goT σ row full kn so 3) i_ x_ m_ bag sm_ w_ dn_ (en row i_)) k (ω.brings, ω.done, ω.end_)) → x12 = (nI k) → lv_has ls 16 [(12, .int x12), (11, .int (arrF σ x_ m_ (en row i_))), (10, .int (m_ + (σ.ways (6 * x_ + (plF σ (en row i_)))))), (9, .ref (μ.cA (en row i_))), (0, .ref (ad 4)), (1, .int (nI i_)), (2, .int (nI x_)), (3, .int m_), (4, .int bag), (5, .int sm_), (6, .long w_), (8, .int dn_)] → va_P D vwCl (cW dA x ad μ σ ((full, row, nI j, ptF σ.tools 8, kn, so, t.1, t.2.1, ω.below, t.2.2, ω.mb) : Om)) H → va_S (cA x ad μ) s.heap H locs → W p l e rmX1_goOn_4 s m args below meth c H locs 0 0 Q (F0 m 178 ls []) := by
          intro n_2
          induction n_2 with
          | zero => intro k t x12 ls H locs hm_4; exact absurd hm_4 (Nat.not_lt_zero _)
          | succ n_2 ih_3 =>
            intro k t x12 ls H locs hm_4 hk ht ex12 hl hP hS
            subst ex12
            refine lv_iload hx hb dX1_goOn_178 (lv_at hl 0 rfl) ?_
            refine lv_aload hx hb dX1_goOn_180 (lv_at hl 3 rfl) ?_
            refine va_get (D := D) (ci := 5) (v := .ref (μ.lA (en row i_))) (C := RX7) (T := TX7) (N := 3) hx hb hts in_X7 hown hK (pl1 hP (hR.2.1 (en row i_) hc6 hTc).1.1 (hR.2.1 (en row i_) hc6 hTc).1.2) 0 rfl rfl 1 (by decide) (hts _ q700) (fun _ h9 => h9) rfl dX1_goOn_182 ?_
            refine dV (v := .int (nI (σ.sm (en row i_)))) (As := []) (rest := [.int (nI k)]) ⟨hx, hb, hml, hown, hts⟩ (mt_J2_size l D dA (μ.lA (en row i_)) (μ.eA (en row i_)) (μ.mA (en row i_)) (σ.sm (en row i_))) (cw_X1_J2_size hts ⟨Nat.le_of_ble_eq_true rfl, Nat.le_of_ble_eq_true rfl⟩) pB_bw (pB_now hK (pl1 hP (hR.2.1 (en row i_) hc6 hTc).2.2.1.1 (hR.2.1 (en row i_) hc6 hTc).2.2.1.2)) (va_recv hK (pl1 hP (hR.2.1 (en row i_) hc6 hTc).2.2.1.1 (hR.2.1 (en row i_) hc6 hTc).2.2.1.2) (ci := 8) (q0 := 0) rfl rfl) rfl hl.1 rfl (Nat.le_of_ble_eq_true rfl) dX1_goOn_185 ⟨Nat.le_of_ble_eq_true rfl, Nat.le_of_ble_eq_true rfl⟩ ?_
            refine lv_icmp_ge (tgt := 362) hx hb dX1_goOn_188 rfl (fun h188 => ?_) (fun h188 => ?_)
            · have h188 : (σ.sm (en row i_)) ≤ k := (nz_le (a := (σ.sm (en row i_))) (b := k) rfl rfl (by omega) (by omega)).mp h188
              have hk_ : k = σ.sm (en row i_) := by omega
              subst hk_
              exact cm_v hQ hx hb hr hlocks hK hN hP hS (rfl) (by rw [goT_c h63 hnl, ← ht]) dX1_goOn_362
            · have h188 : ¬ ((σ.sm (en row i_)) ≤ k) := fun z9 => h188 ((nz_le (a := (σ.sm (en row i_))) (b := k) rfl rfl (by omega) (by omega)).mpr z9)
              refine lv_aload hx hb dX1_goOn_191 (lv_at hl 3 rfl) ?_
              refine va_get (D := D) (ci := 5) (v := .ref (μ.lA (en row i_))) (C := RX7) (T := TX7) (N := 3) hx hb hts in_X7 hown hK (pl1 hP (hR.2.1 (en row i_) hc6 hTc).1.1 (hR.2.1 (en row i_) hc6 hTc).1.2) 0 rfl rfl 1 (by decide) (hts _ q700) (fun _ h9 => h9) rfl dX1_goOn_193 ?_
              refine lv_iload hx hb dX1_goOn_196 (lv_at hl 0 rfl) ?_
              refine g_sort (rest := []) ⟨hx, hb, hml, hown, hts⟩ (cw_X1_J2_get hts ⟨Nat.le_of_ble_eq_true rfl, Nat.le_of_ble_eq_true rfl⟩) hK hP (hR.2.1 (en row i_) hc6 hTc) (hI.sm (en row i_) hc6) (show k < σ.sm (en row i_) by omega) hl.1 rfl (Nat.le_of_ble_eq_true rfl) dX1_goOn_198 ⟨Nat.le_of_ble_eq_true rfl, Nat.le_of_ble_eq_true rfl⟩ ?_
              refine va_castS hx hb hown (hts _ q964) (hK.1 6 _ rfl).2 (va_recv hK (pl1 hP ((hR.2.1 (en row i_) hc6 hTc).2.2.2.2 k (show k < σ.sm (en row i_) by omega)).1 ((hR.2.1 (en row i_) hc6 hTc).2.2.2.2 k (show k < σ.sm (en row i_) by omega)).2) (ci := 6) (q0 := 0) rfl rfl) dX1_goOn_201 ?_
              refine lv_astore (lv' := [(13, .ref (μ.sA (en row i_) k)), (12, .int (nI k)), (11, .int (arrF σ x_ m_ (en row i_))), (10, .int (m_ + (σ.ways (6 * x_ + (plF σ (en row i_)))))), (9, .ref (μ.cA (en row i_))), (0, .ref (ad 4)), (1, .int (nI i_)), (2, .int (nI x_)), (3, .int m_), (4, .int bag), (5, .int sm_), (6, .long w_), (8, .int dn_)]) hx hb dX1_goOn_204 hl (by decide) rfl (fun ls hl => ?_)
              refine lv_aload_n hx hb dX1_goOn_206 rfl (lv_at hl 5 rfl) ?_
              refine lv_iload_n hx hb dX1_goOn_207 rfl (lv_at hl 6 rfl) ?_
              refine dV (v := .int (entF row i_)) (As := [.int (nI i_)]) (rest := []) ⟨hx, hb, hml, hown, hts⟩ (mt_X1_at l D dA x ad μ σ ((full, row, nI j, ptF σ.tools 8, kn, so, t.1, t.2.1, ω.below, t.2.2, ω.mb) : Om) row i_ hI hR) (cw_X1_X1_at hts ⟨Nat.le_of_ble_eq_true rfl, Nat.le_of_ble_eq_true rfl⟩) cB_bw (cB_now hK hN hP) (va_recv hK hP (ci := 2) (q0 := 5) rfl rfl) rfl hl.1 rfl (Nat.le_of_ble_eq_true rfl) dX1_goOn_208 ⟨Nat.le_of_ble_eq_true rfl, Nat.le_of_ble_eq_true rfl⟩ ?_
              refine w_topi (y := nI (en row i_)) (en_eq row i_) ?_
              refine lv_aload_n hx hb dX1_goOn_211 rfl (lv_at hl 5 rfl) ?_
              refine va_get (D := D) (ci := 2) (v := .int kn) (C := RX1) (T := TX1) (N := 11) hx hb hts in_X1 hown hK hP 5 rfl rfl 4 (by decide) (hts _ q133) (fun _ h9 => h9) rfl dX1_goOn_212 ?_
              refine lv_icmp_ne (tgt := 230) hx hb dX1_goOn_215 rfl (fun h215 => ?_) (fun h215 => ?_)
              · have h215 : ¬ ((nI (en row i_)) = kn) := h215
                refine lv_aload_n hx hb dX1_goOn_230 rfl (lv_at hl 5 rfl) ?_
                refine lv_iload_n hx hb dX1_goOn_231 rfl (lv_at hl 6 rfl) ?_
                refine dV (v := .int (entF row i_)) (As := [.int (nI i_)]) (rest := []) ⟨hx, hb, hml, hown, hts⟩ (mt_X1_at l D dA x ad μ σ ((full, row, nI j, ptF σ.tools 8, kn, so, t.1, t.2.1, ω.below, t.2.2, ω.mb) : Om) row i_ hI hR) (cw_X1_X1_at hts ⟨Nat.le_of_ble_eq_true rfl, Nat.le_of_ble_eq_true rfl⟩) cB_bw (cB_now hK hN hP) (va_recv hK hP (ci := 2) (q0 := 5) rfl rfl) rfl hl.1 rfl (Nat.le_of_ble_eq_true rfl) dX1_goOn_232 ⟨Nat.le_of_ble_eq_true rfl, Nat.le_of_ble_eq_true rfl⟩ ?_
                refine w_topi (y := nI (en row i_)) (en_eq row i_) ?_
                refine lv_aload_n hx hb dX1_goOn_235 rfl (lv_at hl 5 rfl) ?_
                refine va_get (D := D) (ci := 2) (v := .int kn) (C := RX1) (T := TX1) (N := 11) hx hb hts in_X1 hown hK hP 5 rfl rfl 4 (by decide) (hts _ q133) (fun _ h9 => h9) rfl dX1_goOn_236 ?_
                refine lv_icmp_ne (tgt := 247) hx hb dX1_goOn_239 rfl (fun h239 => ?_) (fun h239 => ?_)
                · have h239 : ¬ ((nI (en row i_)) = kn) := h239
                  refine lv_lload hx hb dX1_goOn_247 (lv_at hl 11 rfl) ?_
                  refine lv_aload hx hb dX1_goOn_249 (lv_at hl 4 rfl) ?_
                  refine va_get (D := D) (ci := 5) (v := .int (total σ (en row i_))) (C := RX7) (T := TX7) (N := 3) hx hb hts in_X7 hown hK (pl1 hP (hR.2.1 (en row i_) hc6 hTc).1.1 (hR.2.1 (en row i_) hc6 hTc).1.2) 0 rfl rfl 2 (by decide) (hts _ q702) (fun _ h9 => h9) rfl dX1_goOn_251 ?_
                  refine lv_i2l (v := (total σ (en row i_) : Int32).toInt64) hx hb dX1_goOn_254 rfl ?_
                  refine lv_ldiv hx hb dX1_goOn_255 (total_ne hI hc6 (by omega)) ?_
                  refine lv_aload hx hb dX1_goOn_256 (lv_at hl 0 rfl) ?_
                  refine va_get (D := D) (ci := 6) (v := .int (σ.sorts (16 * (en row i_) + 4 * k))) (C := RX9) (T := TX9) (N := 4) hx hb hts in_X9 hown hK (pl1 hP ((hR.2.1 (en row i_) hc6 hTc).2.2.2.2 k (show k < σ.sm (en row i_) by omega)).1 ((hR.2.1 (en row i_) hc6 hTc).2.2.2.2 k (show k < σ.sm (en row i_) by omega)).2) 0 rfl rfl 2 (by decide) (hts _ q727) (fun _ h9 => h9) rfl dX1_goOn_258 ?_
                  refine lv_i2l (v := (σ.sorts (16 * (en row i_) + 4 * k) : Int32).toInt64) hx hb dX1_goOn_261 rfl ?_
                  refine lv_lmul hx hb dX1_goOn_262 ?_
                  refine w_topl (y := prT σ kn w_ (en row i_) k) ((by unfold prT; rw [if_neg h215])) ?_
                  refine lv_lstore (lv' := [(14, .long (prT σ kn w_ (en row i_) k)), (13, .ref (μ.sA (en row i_) k)), (12, .int (nI k)), (11, .int (arrF σ x_ m_ (en row i_))), (10, .int (m_ + (σ.ways (6 * x_ + (plF σ (en row i_)))))), (9, .ref (μ.cA (en row i_))), (0, .ref (ad 4)), (1, .int (nI i_)), (2, .int (nI x_)), (3, .int m_), (4, .int bag), (5, .int sm_), (6, .long w_), (8, .int dn_)]) hx hb dX1_goOn_263 hl (by decide) rfl (fun ls hl => ?_)
                  refine lv_aload hx hb dX1_goOn_265 (lv_at hl 1 rfl) ?_
                  refine lv_iload hx hb dX1_goOn_267 (lv_at hl 10 rfl) ?_
                  refine dU (v := .int (b01 (metP bag (σ.sorts (16 * (en row i_) + 4 * k + 2)) (σ.sorts (16 * (en row i_) + 4 * k + 3))))) (As := [.int bag]) (rest := []) ⟨hx, hb, hml, hown, hts⟩ (mt_X8_isMet_S l D dA (μ.sA (en row i_) k) (σ.sorts (16 * (en row i_) + 4 * k + 2)) (σ.sorts (16 * (en row i_) + 4 * k + 3)) (σ.sorts (16 * (en row i_) + 4 * k)) (σ.sorts (16 * (en row i_) + 4 * k + 1)) bag) (cw_X1_X8_isMet_S_X9 hts ⟨Nat.le_of_ble_eq_true rfl, Nat.le_of_ble_eq_true rfl⟩) pB_bw (pB_now hK (pl1 hP ((hR.2.1 (en row i_) hc6 hTc).2.2.2.2 k (show k < σ.sm (en row i_) by omega)).1 ((hR.2.1 (en row i_) hc6 hTc).2.2.2.2 k (show k < σ.sm (en row i_) by omega)).2)) (va_recv hK (pl1 hP ((hR.2.1 (en row i_) hc6 hTc).2.2.2.2 k (show k < σ.sm (en row i_) by omega)).1 ((hR.2.1 (en row i_) hc6 hTc).2.2.2.2 k (show k < σ.sm (en row i_) by omega)).2) (ci := 6) (q0 := 0) rfl rfl) rfl hl.1 rfl (Nat.le_of_ble_eq_true rfl) dX1_goOn_269 ⟨Nat.le_of_ble_eq_true rfl, Nat.le_of_ble_eq_true rfl⟩ ?_
                  refine w_topi (y := b01 (¬ leftF σ bag (en row i_) k = -1)) (b01_iff (met_left hy (en row i_) k)) ?_
                  refine lv_if_eq (tgt := 321) hx hb dX1_goOn_272 rfl (fun h272 => ?_) (fun h272 => ?_)
                  · have h272 : ¬ (¬ leftF σ bag (en row i_) k = -1) := b01_0.mp h272
                    refine lv_aload_n hx hb dX1_goOn_321 rfl (lv_at hl 6 rfl) ?_
                    refine lv_iload_n hx hb dX1_goOn_322 rfl (lv_at hl 7 rfl) ?_
                    refine lv_iconst (v := 1) hx hb dX1_goOn_323 rfl ?_
                    refine lv_iadd hx hb dX1_goOn_324 ?_
                    refine w_topi (nz_add rfl rfl) ?_
                    refine lv_aload hx hb dX1_goOn_325 (lv_at hl 5 rfl) ?_
                    refine dV (v := .int ((fun k0_ => σ.calls (6 * (en row i_) + k0_)) 0)) (As := []) (rest := [.int (nI (i_ + 1)), .ref (ad 4)]) ⟨hx, hb, hml, hown, hts⟩ (mt_X7_place l D dA (μ.cA (en row i_)) (μ.kA (en row i_)) (μ.lA (en row i_)) (total σ (en row i_)) (fun k0_ => σ.calls (6 * (en row i_) + k0_))) (cw_X1_X7_place hts ⟨Nat.le_of_ble_eq_true rfl, Nat.le_of_ble_eq_true rfl⟩) pB_bw (pB_now hK (pl2 (pl1 hP (hR.2.1 (en row i_) hc6 hTc).1.1 (hR.2.1 (en row i_) hc6 hTc).1.2) (pl1 hP (hR.2.1 (en row i_) hc6 hTc).2.1.1 (hR.2.1 (en row i_) hc6 hTc).2.1.2))) (va_recv hK (pl1 hP (hR.2.1 (en row i_) hc6 hTc).1.1 (hR.2.1 (en row i_) hc6 hTc).1.2) (ci := 5) (q0 := 0) rfl rfl) rfl hl.1 rfl (Nat.le_of_ble_eq_true rfl) dX1_goOn_327 ⟨Nat.le_of_ble_eq_true rfl, Nat.le_of_ble_eq_true rfl⟩ ?_
                    refine w_topi (y := nI (plF σ (en row i_))) ((hI.pl2 (en row i_) hc6).2) ?_
                    refine lv_iload hx hb dX1_goOn_330 (lv_at hl 3 rfl) ?_
                    refine lv_aload hx hb dX1_goOn_332 (lv_at hl 5 rfl) ?_
                    refine va_get (D := D) (ci := 5) (v := .ref (μ.kA (en row i_))) (C := RX7) (T := TX7) (N := 3) hx hb hts in_X7 hown hK (pl1 hP (hR.2.1 (en row i_) hc6 hTc).1.1 (hR.2.1 (en row i_) hc6 hTc).1.2) 0 rfl rfl 0 (by decide) (hts _ q697) (fun _ h9 => h9) rfl dX1_goOn_334 ?_
                    refine lv_iconst (v := 5) hx hb dX1_goOn_337 rfl ?_
                    refine wa_iald1 (v := σ.calls (6 * (en row i_) + 5)) hx hb hK (pl1 hP (hR.2.1 (en row i_) hc6 hTc).2.1.1 (hR.2.1 (en row i_) hc6 hTc).2.1.2) 0 0 rfl rfl (5) (rfl) (by omega) (by decide) (rfl) dX1_goOn_338 ?_
                    refine lv_iadd hx hb dX1_goOn_339 ?_
                    refine lv_iload hx hb dX1_goOn_340 (lv_at hl 10 rfl) ?_
                    refine lv_iload hx hb dX1_goOn_342 (lv_at hl 11 rfl) ?_
                    refine lv_aload hx hb dX1_goOn_344 (lv_at hl 5 rfl) ?_
                    refine dV (v := .int ((fun k0_ => σ.calls (6 * (en row i_) + k0_)) 4)) (As := []) (rest := [.int sm_, .int bag, .int ((arrF σ x_ m_ (en row i_)) + (σ.calls (6 * (en row i_) + 5))), .int (nI (plF σ (en row i_))), .int (nI (i_ + 1)), .ref (ad 4)]) ⟨hx, hb, hml, hown, hts⟩ (mt_X7_again l D dA (μ.cA (en row i_)) (μ.kA (en row i_)) (μ.lA (en row i_)) (total σ (en row i_)) (fun k0_ => σ.calls (6 * (en row i_) + k0_))) (cw_X1_X7_again hts ⟨Nat.le_of_ble_eq_true rfl, Nat.le_of_ble_eq_true rfl⟩) pB_bw (pB_now hK (pl2 (pl1 hP (hR.2.1 (en row i_) hc6 hTc).1.1 (hR.2.1 (en row i_) hc6 hTc).1.2) (pl1 hP (hR.2.1 (en row i_) hc6 hTc).2.1.1 (hR.2.1 (en row i_) hc6 hTc).2.1.2))) (va_recv hK (pl1 hP (hR.2.1 (en row i_) hc6 hTc).1.1 (hR.2.1 (en row i_) hc6 hTc).1.2) (ci := 5) (q0 := 0) rfl rfl) rfl hl.1 rfl (Nat.le_of_ble_eq_true rfl) dX1_goOn_346 ⟨Nat.le_of_ble_eq_true rfl, Nat.le_of_ble_eq_true rfl⟩ ?_
                    refine w_topi (y := σ.calls (6 * (en row i_) + 4)) (rfl) ?_
                    refine lv_isub hx hb dX1_goOn_349 ?_
                    refine lv_lload hx hb dX1_goOn_350 (lv_at hl 0 rfl) ?_
                    refine lv_iconst (v := 0) hx hb dX1_goOn_352 rfl ?_
                    refine dM (v := none) (σ' := σ) (ω' := ((full, row, nI j, ptF σ.tools 8, kn, so, (goT σ row full kn so 3 (i_ + 1) (plF σ (en row i_)) ((arrF σ x_ m_ (en row i_)) + (σ.calls (6 * (en row i_) + 5))) bag (sm_ - (σ.calls (6 * (en row i_) + 4))) (prT σ kn w_ (en row i_) k) 0 (t.1, t.2.1, t.2.2)).1, (goT σ row full kn so 3 (i_ + 1) (plF σ (en row i_)) ((arrF σ x_ m_ (en row i_)) + (σ.calls (6 * (en row i_) + 5))) bag (sm_ - (σ.calls (6 * (en row i_) + 4))) (prT σ kn w_ (en row i_) k) 0 (t.1, t.2.1, t.2.2)).2.1, ω.below, (goT σ row full kn so 3 (i_ + 1) (plF σ (en row i_)) ((arrF σ x_ m_ (en row i_)) + (σ.calls (6 * (en row i_) + 5))) bag (sm_ - (σ.calls (6 * (en row i_) + 4))) (prT σ kn w_ (en row i_) k) 0 (t.1, t.2.1, t.2.2)).2.2, ω.mb) : Om)) (As := [.int (nI (i_ + 1)), .int (nI (plF σ (en row i_))), .int ((arrF σ x_ m_ (en row i_)) + (σ.calls (6 * (en row i_) + 5))), .int bag, .int (sm_ - (σ.calls (6 * (en row i_) + 4))), .long (prT σ kn w_ (en row i_) k), .int 0]) (rest := []) ⟨hx, hb, hml, hown, hts⟩ (mt_X1_goOn_3 l D dA x ad μ σ ((full, row, nI j, ptF σ.tools 8, kn, so, t.1, t.2.1, ω.below, t.2.2, ω.mb) : Om) hcD full row j kn so (i_ + 1) (plF σ (en row i_)) ((arrF σ x_ m_ (en row i_)) + (σ.calls (6 * (en row i_) + 5))) bag (sm_ - (σ.calls (6 * (en row i_) + 4))) (prT σ kn w_ (en row i_) k) 0 hI hR hpl hy hf hoT (by omega) hj) (cw_X1_X1_goOn_3 hts ⟨Nat.le_of_ble_eq_true rfl, Nat.le_of_ble_eq_true rfl⟩) (cB_now hK hN hP) (va_recv hK hP (ci := 2) (q0 := 5) rfl rfl) rfl hl.1 rfl (Nat.le_of_ble_eq_true rfl) dX1_goOn_353 ⟨Nat.le_of_ble_eq_true rfl, Nat.le_of_ble_eq_true rfl⟩ hS (fun H locs hP hS => ?_)
                    change W p l e rmX1_goOn_4 s m args below meth c H locs 0 0 Q (F0 m 356 ls [])
                    refine lv_iinc (v := nI (k + 1)) (lv' := [(12, .int (nI (k + 1))), (14, .long (prT σ kn w_ (en row i_) k)), (13, .ref (μ.sA (en row i_) k)), (11, .int (arrF σ x_ m_ (en row i_))), (10, .int (m_ + (σ.ways (6 * x_ + (plF σ (en row i_)))))), (9, .ref (μ.cA (en row i_))), (0, .ref (ad 4)), (1, .int (nI i_)), (2, .int (nI x_)), (3, .int m_), (4, .int bag), (5, .int sm_), (6, .long w_), (8, .int dn_)]) hx hb dX1_goOn_356 hl (k := 2) rfl (nI_1 k) (by decide) rfl (fun ls hl => ?_)
                    refine lv_goto (tgt := 178) hx hb dX1_goOn_359 rfl ?_
                    exact ih_3 (k + 1) (goT σ row full kn so 3 (i_ + 1) (plF σ (en row i_)) (arrF σ x_ m_ (en row i_) + σ.calls (6 * (en row i_) + 5)) bag (sm_ - σ.calls (6 * (en row i_) + 4)) (prT σ kn w_ (en row i_) k) 0 t) (nI (k + 1)) ls _ _ (by omega) (by omega) (by rw [srtT, ← ht]; exact sor_not (fun q => h215 q.1) (Classical.not_not.mp h272)) rfl (lv_sub hl [0, 3, 4, 5, 6, 7, 8, 9, 10, 11, 12, 13] rfl) hP hS
                  · have h272 : ¬ leftF σ bag (en row i_) k = -1 := b01_n h272
                    refine lv_aload_n hx hb dX1_goOn_275 rfl (lv_at hl 6 rfl) ?_
                    refine lv_iload_n hx hb dX1_goOn_276 rfl (lv_at hl 7 rfl) ?_
                    refine lv_iconst (v := 1) hx hb dX1_goOn_277 rfl ?_
                    refine lv_iadd hx hb dX1_goOn_278 ?_
                    refine w_topi (nz_add rfl rfl) ?_
                    refine lv_aload hx hb dX1_goOn_279 (lv_at hl 5 rfl) ?_
                    refine dV (v := .int ((fun k0_ => σ.calls (6 * (en row i_) + k0_)) 0)) (As := []) (rest := [.int (nI (i_ + 1)), .ref (ad 4)]) ⟨hx, hb, hml, hown, hts⟩ (mt_X7_place l D dA (μ.cA (en row i_)) (μ.kA (en row i_)) (μ.lA (en row i_)) (total σ (en row i_)) (fun k0_ => σ.calls (6 * (en row i_) + k0_))) (cw_X1_X7_place hts ⟨Nat.le_of_ble_eq_true rfl, Nat.le_of_ble_eq_true rfl⟩) pB_bw (pB_now hK (pl2 (pl1 hP (hR.2.1 (en row i_) hc6 hTc).1.1 (hR.2.1 (en row i_) hc6 hTc).1.2) (pl1 hP (hR.2.1 (en row i_) hc6 hTc).2.1.1 (hR.2.1 (en row i_) hc6 hTc).2.1.2))) (va_recv hK (pl1 hP (hR.2.1 (en row i_) hc6 hTc).1.1 (hR.2.1 (en row i_) hc6 hTc).1.2) (ci := 5) (q0 := 0) rfl rfl) rfl hl.1 rfl (Nat.le_of_ble_eq_true rfl) dX1_goOn_281 ⟨Nat.le_of_ble_eq_true rfl, Nat.le_of_ble_eq_true rfl⟩ ?_
                    refine w_topi (y := nI (plF σ (en row i_))) ((hI.pl2 (en row i_) hc6).2) ?_
                    refine lv_iload hx hb dX1_goOn_284 (lv_at hl 3 rfl) ?_
                    refine lv_aload hx hb dX1_goOn_286 (lv_at hl 1 rfl) ?_
                    refine va_get (D := D) (ci := 6) (v := .int (σ.sorts (16 * (en row i_) + 4 * k + 1))) (C := RX9) (T := TX9) (N := 4) hx hb hts in_X9 hown hK (pl1 hP ((hR.2.1 (en row i_) hc6 hTc).2.2.2.2 k (show k < σ.sm (en row i_) by omega)).1 ((hR.2.1 (en row i_) hc6 hTc).2.2.2.2 k (show k < σ.sm (en row i_) by omega)).2) 0 rfl rfl 3 (by decide) (hts _ q731) (fun _ h9 => h9) rfl dX1_goOn_288 ?_
                    refine lv_iadd hx hb dX1_goOn_291 ?_
                    refine lv_aload hx hb dX1_goOn_292 (lv_at hl 1 rfl) ?_
                    refine lv_iload hx hb dX1_goOn_294 (lv_at hl 10 rfl) ?_
                    refine lv_aload_n hx hb dX1_goOn_296 rfl (lv_at hl 6 rfl) ?_
                    refine va_get (D := D) (ci := 2) (v := .int (ptF σ.tools 8)) (C := RX1) (T := TX1) (N := 11) hx hb hts in_X1 hown hK hP 5 rfl rfl 3 (by decide) (hts _ q132) (fun _ h9 => h9) rfl dX1_goOn_297 ?_
                    refine dU (v := .int (lefW bag (σ.sorts (16 * (en row i_) + 4 * k + 2)) (σ.sorts (16 * (en row i_) + 4 * k + 3)) (ptF σ.tools 8))) (As := [.int bag, .int (ptF σ.tools 8)]) (rest := [.int ((arrF σ x_ m_ (en row i_)) + (σ.sorts (16 * (en row i_) + 4 * k + 1))), .int (nI (plF σ (en row i_))), .int (nI (i_ + 1)), .ref (ad 4)]) ⟨hx, hb, hml, hown, hts⟩ (mt_X8_left_S l D dA (μ.sA (en row i_) k) (σ.sorts (16 * (en row i_) + 4 * k + 2)) (σ.sorts (16 * (en row i_) + 4 * k + 3)) (σ.sorts (16 * (en row i_) + 4 * k)) (σ.sorts (16 * (en row i_) + 4 * k + 1)) bag (ptF σ.tools 8)) (cw_X1_X8_left_S_X9 hts ⟨Nat.le_of_ble_eq_true rfl, Nat.le_of_ble_eq_true rfl⟩) pB_bw (pB_now hK (pl1 hP ((hR.2.1 (en row i_) hc6 hTc).2.2.2.2 k (show k < σ.sm (en row i_) by omega)).1 ((hR.2.1 (en row i_) hc6 hTc).2.2.2.2 k (show k < σ.sm (en row i_) by omega)).2)) (va_recv hK (pl1 hP ((hR.2.1 (en row i_) hc6 hTc).2.2.2.2 k (show k < σ.sm (en row i_) by omega)).1 ((hR.2.1 (en row i_) hc6 hTc).2.2.2.2 k (show k < σ.sm (en row i_) by omega)).2) (ci := 6) (q0 := 0) rfl rfl) rfl hl.1 rfl (Nat.le_of_ble_eq_true rfl) dX1_goOn_300 ⟨Nat.le_of_ble_eq_true rfl, Nat.le_of_ble_eq_true rfl⟩ ?_
                    refine w_topi (y := leftF σ bag (en row i_) k) (lef_eq hI hy hc6 (by omega) ((met_left hy (en row i_) k).mpr h272)) ?_
                    refine lv_iload hx hb dX1_goOn_303 (lv_at hl 11 rfl) ?_
                    refine lv_aload hx hb dX1_goOn_305 (lv_at hl 5 rfl) ?_
                    refine dV (v := .int ((fun k0_ => σ.calls (6 * (en row i_) + k0_)) 3)) (As := []) (rest := [.int sm_, .int (leftF σ bag (en row i_) k), .int ((arrF σ x_ m_ (en row i_)) + (σ.sorts (16 * (en row i_) + 4 * k + 1))), .int (nI (plF σ (en row i_))), .int (nI (i_ + 1)), .ref (ad 4)]) ⟨hx, hb, hml, hown, hts⟩ (mt_X7_worth l D dA (μ.cA (en row i_)) (μ.kA (en row i_)) (μ.lA (en row i_)) (total σ (en row i_)) (fun k0_ => σ.calls (6 * (en row i_) + k0_))) (cw_X1_X7_worth hts ⟨Nat.le_of_ble_eq_true rfl, Nat.le_of_ble_eq_true rfl⟩) pB_bw (pB_now hK (pl2 (pl1 hP (hR.2.1 (en row i_) hc6 hTc).1.1 (hR.2.1 (en row i_) hc6 hTc).1.2) (pl1 hP (hR.2.1 (en row i_) hc6 hTc).2.1.1 (hR.2.1 (en row i_) hc6 hTc).2.1.2))) (va_recv hK (pl1 hP (hR.2.1 (en row i_) hc6 hTc).1.1 (hR.2.1 (en row i_) hc6 hTc).1.2) (ci := 5) (q0 := 0) rfl rfl) rfl hl.1 rfl (Nat.le_of_ble_eq_true rfl) dX1_goOn_307 ⟨Nat.le_of_ble_eq_true rfl, Nat.le_of_ble_eq_true rfl⟩ ?_
                    refine w_topi (y := σ.calls (6 * (en row i_) + 3)) (rfl) ?_
                    refine lv_iadd hx hb dX1_goOn_310 ?_
                    refine lv_lload hx hb dX1_goOn_311 (lv_at hl 0 rfl) ?_
                    refine lv_iload hx hb dX1_goOn_313 (lv_at hl 13 rfl) ?_
                    refine dM (v := none) (σ' := σ) (ω' := ((full, row, nI j, ptF σ.tools 8, kn, so, (goT σ row full kn so 3 (i_ + 1) (plF σ (en row i_)) ((arrF σ x_ m_ (en row i_)) + (σ.sorts (16 * (en row i_) + 4 * k + 1))) (leftF σ bag (en row i_) k) (sm_ + (σ.calls (6 * (en row i_) + 3))) (prT σ kn w_ (en row i_) k) dn_ (t.1, t.2.1, t.2.2)).1, (goT σ row full kn so 3 (i_ + 1) (plF σ (en row i_)) ((arrF σ x_ m_ (en row i_)) + (σ.sorts (16 * (en row i_) + 4 * k + 1))) (leftF σ bag (en row i_) k) (sm_ + (σ.calls (6 * (en row i_) + 3))) (prT σ kn w_ (en row i_) k) dn_ (t.1, t.2.1, t.2.2)).2.1, ω.below, (goT σ row full kn so 3 (i_ + 1) (plF σ (en row i_)) ((arrF σ x_ m_ (en row i_)) + (σ.sorts (16 * (en row i_) + 4 * k + 1))) (leftF σ bag (en row i_) k) (sm_ + (σ.calls (6 * (en row i_) + 3))) (prT σ kn w_ (en row i_) k) dn_ (t.1, t.2.1, t.2.2)).2.2, ω.mb) : Om)) (As := [.int (nI (i_ + 1)), .int (nI (plF σ (en row i_))), .int ((arrF σ x_ m_ (en row i_)) + (σ.sorts (16 * (en row i_) + 4 * k + 1))), .int (leftF σ bag (en row i_) k), .int (sm_ + (σ.calls (6 * (en row i_) + 3))), .long (prT σ kn w_ (en row i_) k), .int dn_]) (rest := []) ⟨hx, hb, hml, hown, hts⟩ (mt_X1_goOn_3 l D dA x ad μ σ ((full, row, nI j, ptF σ.tools 8, kn, so, t.1, t.2.1, ω.below, t.2.2, ω.mb) : Om) hcD full row j kn so (i_ + 1) (plF σ (en row i_)) ((arrF σ x_ m_ (en row i_)) + (σ.sorts (16 * (en row i_) + 4 * k + 1))) (leftF σ bag (en row i_) k) (sm_ + (σ.calls (6 * (en row i_) + 3))) (prT σ kn w_ (en row i_) k) dn_ hI hR hpl (left_by hy h272) hf hoT (by omega) hj) (cw_X1_X1_goOn_3 hts ⟨Nat.le_of_ble_eq_true rfl, Nat.le_of_ble_eq_true rfl⟩) (cB_now hK hN hP) (va_recv hK hP (ci := 2) (q0 := 5) rfl rfl) rfl hl.1 rfl (Nat.le_of_ble_eq_true rfl) dX1_goOn_315 ⟨Nat.le_of_ble_eq_true rfl, Nat.le_of_ble_eq_true rfl⟩ hS (fun H locs hP hS => ?_)
                    change W p l e rmX1_goOn_4 s m args below meth c H locs 0 0 Q (F0 m 318 ls [])
                    refine lv_goto (tgt := 356) hx hb dX1_goOn_318 rfl ?_
                    refine lv_iinc (v := nI (k + 1)) (lv' := [(12, .int (nI (k + 1))), (14, .long (prT σ kn w_ (en row i_) k)), (13, .ref (μ.sA (en row i_) k)), (11, .int (arrF σ x_ m_ (en row i_))), (10, .int (m_ + (σ.ways (6 * x_ + (plF σ (en row i_)))))), (9, .ref (μ.cA (en row i_))), (0, .ref (ad 4)), (1, .int (nI i_)), (2, .int (nI x_)), (3, .int m_), (4, .int bag), (5, .int sm_), (6, .long w_), (8, .int dn_)]) hx hb dX1_goOn_356 hl (k := 2) rfl (nI_1 k) (by decide) rfl (fun ls hl => ?_)
                    refine lv_goto (tgt := 178) hx hb dX1_goOn_359 rfl ?_
                    exact ih_3 (k + 1) (goT σ row full kn so 3 (i_ + 1) (plF σ (en row i_)) (arrF σ x_ m_ (en row i_) + σ.sorts (16 * (en row i_) + 4 * k + 1)) (leftF σ bag (en row i_) k) (sm_ + σ.calls (6 * (en row i_) + 3)) (prT σ kn w_ (en row i_) k) dn_ t) (nI (k + 1)) ls _ _ (by omega) (by omega) (by rw [srtT, ← ht]; exact sor_met (fun q => h215 q.1) h272) rfl (lv_sub hl [0, 3, 4, 5, 6, 7, 8, 9, 10, 11, 12, 13] rfl) hP hS
                · have h239 : (nI (en row i_)) = kn := h239
                  exact absurd h239 h215
              · have h215 : (nI (en row i_)) = kn := h215
                refine lv_iload hx hb dX1_goOn_218 (lv_at hl 1 rfl) ?_
                refine lv_aload_n hx hb dX1_goOn_220 rfl (lv_at hl 5 rfl) ?_
                refine va_get (D := D) (ci := 2) (v := .int so) (C := RX1) (T := TX1) (N := 11) hx hb hts in_X1 hown hK hP 5 rfl rfl 5 (by decide) (hts _ q134) (fun _ h9 => h9) rfl dX1_goOn_221 ?_
                refine lv_icmp_eq (tgt := 230) hx hb dX1_goOn_224 rfl (fun h224 => ?_) (fun h224 => ?_)
                · have h224 : (nI k) = so := h224
                  refine lv_aload_n hx hb dX1_goOn_230 rfl (lv_at hl 5 rfl) ?_
                  refine lv_iload_n hx hb dX1_goOn_231 rfl (lv_at hl 6 rfl) ?_
                  refine dV (v := .int (entF row i_)) (As := [.int (nI i_)]) (rest := []) ⟨hx, hb, hml, hown, hts⟩ (mt_X1_at l D dA x ad μ σ ((full, row, nI j, ptF σ.tools 8, kn, so, t.1, t.2.1, ω.below, t.2.2, ω.mb) : Om) row i_ hI hR) (cw_X1_X1_at hts ⟨Nat.le_of_ble_eq_true rfl, Nat.le_of_ble_eq_true rfl⟩) cB_bw (cB_now hK hN hP) (va_recv hK hP (ci := 2) (q0 := 5) rfl rfl) rfl hl.1 rfl (Nat.le_of_ble_eq_true rfl) dX1_goOn_232 ⟨Nat.le_of_ble_eq_true rfl, Nat.le_of_ble_eq_true rfl⟩ ?_
                  refine w_topi (y := nI (en row i_)) (en_eq row i_) ?_
                  refine lv_aload_n hx hb dX1_goOn_235 rfl (lv_at hl 5 rfl) ?_
                  refine va_get (D := D) (ci := 2) (v := .int kn) (C := RX1) (T := TX1) (N := 11) hx hb hts in_X1 hown hK hP 5 rfl rfl 4 (by decide) (hts _ q133) (fun _ h9 => h9) rfl dX1_goOn_236 ?_
                  refine lv_icmp_ne (tgt := 247) hx hb dX1_goOn_239 rfl (fun h239 => ?_) (fun h239 => ?_)
                  · have h239 : ¬ ((nI (en row i_)) = kn) := h239
                    exact absurd h215 h239
                  · have h239 : (nI (en row i_)) = kn := h239
                    refine lv_lload hx hb dX1_goOn_242 (lv_at hl 11 rfl) ?_
                    refine w_topl (y := prT σ kn w_ (en row i_) k) ((by unfold prT; rw [if_pos h215])) ?_
                    refine lv_goto (tgt := 263) hx hb dX1_goOn_244 rfl ?_
                    refine lv_lstore (lv' := [(14, .long (prT σ kn w_ (en row i_) k)), (13, .ref (μ.sA (en row i_) k)), (12, .int (nI k)), (11, .int (arrF σ x_ m_ (en row i_))), (10, .int (m_ + (σ.ways (6 * x_ + (plF σ (en row i_)))))), (9, .ref (μ.cA (en row i_))), (0, .ref (ad 4)), (1, .int (nI i_)), (2, .int (nI x_)), (3, .int m_), (4, .int bag), (5, .int sm_), (6, .long w_), (8, .int dn_)]) hx hb dX1_goOn_263 hl (by decide) rfl (fun ls hl => ?_)
                    refine lv_aload hx hb dX1_goOn_265 (lv_at hl 1 rfl) ?_
                    refine lv_iload hx hb dX1_goOn_267 (lv_at hl 10 rfl) ?_
                    refine dU (v := .int (b01 (metP bag (σ.sorts (16 * (en row i_) + 4 * k + 2)) (σ.sorts (16 * (en row i_) + 4 * k + 3))))) (As := [.int bag]) (rest := []) ⟨hx, hb, hml, hown, hts⟩ (mt_X8_isMet_S l D dA (μ.sA (en row i_) k) (σ.sorts (16 * (en row i_) + 4 * k + 2)) (σ.sorts (16 * (en row i_) + 4 * k + 3)) (σ.sorts (16 * (en row i_) + 4 * k)) (σ.sorts (16 * (en row i_) + 4 * k + 1)) bag) (cw_X1_X8_isMet_S_X9 hts ⟨Nat.le_of_ble_eq_true rfl, Nat.le_of_ble_eq_true rfl⟩) pB_bw (pB_now hK (pl1 hP ((hR.2.1 (en row i_) hc6 hTc).2.2.2.2 k (show k < σ.sm (en row i_) by omega)).1 ((hR.2.1 (en row i_) hc6 hTc).2.2.2.2 k (show k < σ.sm (en row i_) by omega)).2)) (va_recv hK (pl1 hP ((hR.2.1 (en row i_) hc6 hTc).2.2.2.2 k (show k < σ.sm (en row i_) by omega)).1 ((hR.2.1 (en row i_) hc6 hTc).2.2.2.2 k (show k < σ.sm (en row i_) by omega)).2) (ci := 6) (q0 := 0) rfl rfl) rfl hl.1 rfl (Nat.le_of_ble_eq_true rfl) dX1_goOn_269 ⟨Nat.le_of_ble_eq_true rfl, Nat.le_of_ble_eq_true rfl⟩ ?_
                    refine w_topi (y := b01 (¬ leftF σ bag (en row i_) k = -1)) (b01_iff (met_left hy (en row i_) k)) ?_
                    refine lv_if_eq (tgt := 321) hx hb dX1_goOn_272 rfl (fun h272 => ?_) (fun h272 => ?_)
                    · have h272 : ¬ (¬ leftF σ bag (en row i_) k = -1) := b01_0.mp h272
                      refine lv_aload_n hx hb dX1_goOn_321 rfl (lv_at hl 6 rfl) ?_
                      refine lv_iload_n hx hb dX1_goOn_322 rfl (lv_at hl 7 rfl) ?_
                      refine lv_iconst (v := 1) hx hb dX1_goOn_323 rfl ?_
                      refine lv_iadd hx hb dX1_goOn_324 ?_
                      refine w_topi (nz_add rfl rfl) ?_
                      refine lv_aload hx hb dX1_goOn_325 (lv_at hl 5 rfl) ?_
                      refine dV (v := .int ((fun k0_ => σ.calls (6 * (en row i_) + k0_)) 0)) (As := []) (rest := [.int (nI (i_ + 1)), .ref (ad 4)]) ⟨hx, hb, hml, hown, hts⟩ (mt_X7_place l D dA (μ.cA (en row i_)) (μ.kA (en row i_)) (μ.lA (en row i_)) (total σ (en row i_)) (fun k0_ => σ.calls (6 * (en row i_) + k0_))) (cw_X1_X7_place hts ⟨Nat.le_of_ble_eq_true rfl, Nat.le_of_ble_eq_true rfl⟩) pB_bw (pB_now hK (pl2 (pl1 hP (hR.2.1 (en row i_) hc6 hTc).1.1 (hR.2.1 (en row i_) hc6 hTc).1.2) (pl1 hP (hR.2.1 (en row i_) hc6 hTc).2.1.1 (hR.2.1 (en row i_) hc6 hTc).2.1.2))) (va_recv hK (pl1 hP (hR.2.1 (en row i_) hc6 hTc).1.1 (hR.2.1 (en row i_) hc6 hTc).1.2) (ci := 5) (q0 := 0) rfl rfl) rfl hl.1 rfl (Nat.le_of_ble_eq_true rfl) dX1_goOn_327 ⟨Nat.le_of_ble_eq_true rfl, Nat.le_of_ble_eq_true rfl⟩ ?_
                      refine w_topi (y := nI (plF σ (en row i_))) ((hI.pl2 (en row i_) hc6).2) ?_
                      refine lv_iload hx hb dX1_goOn_330 (lv_at hl 3 rfl) ?_
                      refine lv_aload hx hb dX1_goOn_332 (lv_at hl 5 rfl) ?_
                      refine va_get (D := D) (ci := 5) (v := .ref (μ.kA (en row i_))) (C := RX7) (T := TX7) (N := 3) hx hb hts in_X7 hown hK (pl1 hP (hR.2.1 (en row i_) hc6 hTc).1.1 (hR.2.1 (en row i_) hc6 hTc).1.2) 0 rfl rfl 0 (by decide) (hts _ q697) (fun _ h9 => h9) rfl dX1_goOn_334 ?_
                      refine lv_iconst (v := 5) hx hb dX1_goOn_337 rfl ?_
                      refine wa_iald1 (v := σ.calls (6 * (en row i_) + 5)) hx hb hK (pl1 hP (hR.2.1 (en row i_) hc6 hTc).2.1.1 (hR.2.1 (en row i_) hc6 hTc).2.1.2) 0 0 rfl rfl (5) (rfl) (by omega) (by decide) (rfl) dX1_goOn_338 ?_
                      refine lv_iadd hx hb dX1_goOn_339 ?_
                      refine lv_iload hx hb dX1_goOn_340 (lv_at hl 10 rfl) ?_
                      refine lv_iload hx hb dX1_goOn_342 (lv_at hl 11 rfl) ?_
                      refine lv_aload hx hb dX1_goOn_344 (lv_at hl 5 rfl) ?_
                      refine dV (v := .int ((fun k0_ => σ.calls (6 * (en row i_) + k0_)) 4)) (As := []) (rest := [.int sm_, .int bag, .int ((arrF σ x_ m_ (en row i_)) + (σ.calls (6 * (en row i_) + 5))), .int (nI (plF σ (en row i_))), .int (nI (i_ + 1)), .ref (ad 4)]) ⟨hx, hb, hml, hown, hts⟩ (mt_X7_again l D dA (μ.cA (en row i_)) (μ.kA (en row i_)) (μ.lA (en row i_)) (total σ (en row i_)) (fun k0_ => σ.calls (6 * (en row i_) + k0_))) (cw_X1_X7_again hts ⟨Nat.le_of_ble_eq_true rfl, Nat.le_of_ble_eq_true rfl⟩) pB_bw (pB_now hK (pl2 (pl1 hP (hR.2.1 (en row i_) hc6 hTc).1.1 (hR.2.1 (en row i_) hc6 hTc).1.2) (pl1 hP (hR.2.1 (en row i_) hc6 hTc).2.1.1 (hR.2.1 (en row i_) hc6 hTc).2.1.2))) (va_recv hK (pl1 hP (hR.2.1 (en row i_) hc6 hTc).1.1 (hR.2.1 (en row i_) hc6 hTc).1.2) (ci := 5) (q0 := 0) rfl rfl) rfl hl.1 rfl (Nat.le_of_ble_eq_true rfl) dX1_goOn_346 ⟨Nat.le_of_ble_eq_true rfl, Nat.le_of_ble_eq_true rfl⟩ ?_
                      refine w_topi (y := σ.calls (6 * (en row i_) + 4)) (rfl) ?_
                      refine lv_isub hx hb dX1_goOn_349 ?_
                      refine lv_lload hx hb dX1_goOn_350 (lv_at hl 0 rfl) ?_
                      refine lv_iconst (v := 0) hx hb dX1_goOn_352 rfl ?_
                      refine dM (v := none) (σ' := σ) (ω' := ((full, row, nI j, ptF σ.tools 8, kn, so, (goT σ row full kn so 3 (i_ + 1) (plF σ (en row i_)) ((arrF σ x_ m_ (en row i_)) + (σ.calls (6 * (en row i_) + 5))) bag (sm_ - (σ.calls (6 * (en row i_) + 4))) (prT σ kn w_ (en row i_) k) 0 (t.1, t.2.1, t.2.2)).1, (goT σ row full kn so 3 (i_ + 1) (plF σ (en row i_)) ((arrF σ x_ m_ (en row i_)) + (σ.calls (6 * (en row i_) + 5))) bag (sm_ - (σ.calls (6 * (en row i_) + 4))) (prT σ kn w_ (en row i_) k) 0 (t.1, t.2.1, t.2.2)).2.1, ω.below, (goT σ row full kn so 3 (i_ + 1) (plF σ (en row i_)) ((arrF σ x_ m_ (en row i_)) + (σ.calls (6 * (en row i_) + 5))) bag (sm_ - (σ.calls (6 * (en row i_) + 4))) (prT σ kn w_ (en row i_) k) 0 (t.1, t.2.1, t.2.2)).2.2, ω.mb) : Om)) (As := [.int (nI (i_ + 1)), .int (nI (plF σ (en row i_))), .int ((arrF σ x_ m_ (en row i_)) + (σ.calls (6 * (en row i_) + 5))), .int bag, .int (sm_ - (σ.calls (6 * (en row i_) + 4))), .long (prT σ kn w_ (en row i_) k), .int 0]) (rest := []) ⟨hx, hb, hml, hown, hts⟩ (mt_X1_goOn_3 l D dA x ad μ σ ((full, row, nI j, ptF σ.tools 8, kn, so, t.1, t.2.1, ω.below, t.2.2, ω.mb) : Om) hcD full row j kn so (i_ + 1) (plF σ (en row i_)) ((arrF σ x_ m_ (en row i_)) + (σ.calls (6 * (en row i_) + 5))) bag (sm_ - (σ.calls (6 * (en row i_) + 4))) (prT σ kn w_ (en row i_) k) 0 hI hR hpl hy hf hoT (by omega) hj) (cw_X1_X1_goOn_3 hts ⟨Nat.le_of_ble_eq_true rfl, Nat.le_of_ble_eq_true rfl⟩) (cB_now hK hN hP) (va_recv hK hP (ci := 2) (q0 := 5) rfl rfl) rfl hl.1 rfl (Nat.le_of_ble_eq_true rfl) dX1_goOn_353 ⟨Nat.le_of_ble_eq_true rfl, Nat.le_of_ble_eq_true rfl⟩ hS (fun H locs hP hS => ?_)
                      change W p l e rmX1_goOn_4 s m args below meth c H locs 0 0 Q (F0 m 356 ls [])
                      refine lv_iinc (v := nI (k + 1)) (lv' := [(12, .int (nI (k + 1))), (14, .long (prT σ kn w_ (en row i_) k)), (13, .ref (μ.sA (en row i_) k)), (11, .int (arrF σ x_ m_ (en row i_))), (10, .int (m_ + (σ.ways (6 * x_ + (plF σ (en row i_)))))), (9, .ref (μ.cA (en row i_))), (0, .ref (ad 4)), (1, .int (nI i_)), (2, .int (nI x_)), (3, .int m_), (4, .int bag), (5, .int sm_), (6, .long w_), (8, .int dn_)]) hx hb dX1_goOn_356 hl (k := 2) rfl (nI_1 k) (by decide) rfl (fun ls hl => ?_)
                      refine lv_goto (tgt := 178) hx hb dX1_goOn_359 rfl ?_
                      exact ih_3 (k + 1) (goT σ row full kn so 3 (i_ + 1) (plF σ (en row i_)) (arrF σ x_ m_ (en row i_) + σ.calls (6 * (en row i_) + 5)) bag (sm_ - σ.calls (6 * (en row i_) + 4)) (prT σ kn w_ (en row i_) k) 0 t) (nI (k + 1)) ls _ _ (by omega) (by omega) (by rw [srtT, ← ht]; exact sor_not (fun q => q.2 h224) (Classical.not_not.mp h272)) rfl (lv_sub hl [0, 3, 4, 5, 6, 7, 8, 9, 10, 11, 12, 13] rfl) hP hS
                    · have h272 : ¬ leftF σ bag (en row i_) k = -1 := b01_n h272
                      refine lv_aload_n hx hb dX1_goOn_275 rfl (lv_at hl 6 rfl) ?_
                      refine lv_iload_n hx hb dX1_goOn_276 rfl (lv_at hl 7 rfl) ?_
                      refine lv_iconst (v := 1) hx hb dX1_goOn_277 rfl ?_
                      refine lv_iadd hx hb dX1_goOn_278 ?_
                      refine w_topi (nz_add rfl rfl) ?_
                      refine lv_aload hx hb dX1_goOn_279 (lv_at hl 5 rfl) ?_
                      refine dV (v := .int ((fun k0_ => σ.calls (6 * (en row i_) + k0_)) 0)) (As := []) (rest := [.int (nI (i_ + 1)), .ref (ad 4)]) ⟨hx, hb, hml, hown, hts⟩ (mt_X7_place l D dA (μ.cA (en row i_)) (μ.kA (en row i_)) (μ.lA (en row i_)) (total σ (en row i_)) (fun k0_ => σ.calls (6 * (en row i_) + k0_))) (cw_X1_X7_place hts ⟨Nat.le_of_ble_eq_true rfl, Nat.le_of_ble_eq_true rfl⟩) pB_bw (pB_now hK (pl2 (pl1 hP (hR.2.1 (en row i_) hc6 hTc).1.1 (hR.2.1 (en row i_) hc6 hTc).1.2) (pl1 hP (hR.2.1 (en row i_) hc6 hTc).2.1.1 (hR.2.1 (en row i_) hc6 hTc).2.1.2))) (va_recv hK (pl1 hP (hR.2.1 (en row i_) hc6 hTc).1.1 (hR.2.1 (en row i_) hc6 hTc).1.2) (ci := 5) (q0 := 0) rfl rfl) rfl hl.1 rfl (Nat.le_of_ble_eq_true rfl) dX1_goOn_281 ⟨Nat.le_of_ble_eq_true rfl, Nat.le_of_ble_eq_true rfl⟩ ?_
                      refine w_topi (y := nI (plF σ (en row i_))) ((hI.pl2 (en row i_) hc6).2) ?_
                      refine lv_iload hx hb dX1_goOn_284 (lv_at hl 3 rfl) ?_
                      refine lv_aload hx hb dX1_goOn_286 (lv_at hl 1 rfl) ?_
                      refine va_get (D := D) (ci := 6) (v := .int (σ.sorts (16 * (en row i_) + 4 * k + 1))) (C := RX9) (T := TX9) (N := 4) hx hb hts in_X9 hown hK (pl1 hP ((hR.2.1 (en row i_) hc6 hTc).2.2.2.2 k (show k < σ.sm (en row i_) by omega)).1 ((hR.2.1 (en row i_) hc6 hTc).2.2.2.2 k (show k < σ.sm (en row i_) by omega)).2) 0 rfl rfl 3 (by decide) (hts _ q731) (fun _ h9 => h9) rfl dX1_goOn_288 ?_
                      refine lv_iadd hx hb dX1_goOn_291 ?_
                      refine lv_aload hx hb dX1_goOn_292 (lv_at hl 1 rfl) ?_
                      refine lv_iload hx hb dX1_goOn_294 (lv_at hl 10 rfl) ?_
                      refine lv_aload_n hx hb dX1_goOn_296 rfl (lv_at hl 6 rfl) ?_
                      refine va_get (D := D) (ci := 2) (v := .int (ptF σ.tools 8)) (C := RX1) (T := TX1) (N := 11) hx hb hts in_X1 hown hK hP 5 rfl rfl 3 (by decide) (hts _ q132) (fun _ h9 => h9) rfl dX1_goOn_297 ?_
                      refine dU (v := .int (lefW bag (σ.sorts (16 * (en row i_) + 4 * k + 2)) (σ.sorts (16 * (en row i_) + 4 * k + 3)) (ptF σ.tools 8))) (As := [.int bag, .int (ptF σ.tools 8)]) (rest := [.int ((arrF σ x_ m_ (en row i_)) + (σ.sorts (16 * (en row i_) + 4 * k + 1))), .int (nI (plF σ (en row i_))), .int (nI (i_ + 1)), .ref (ad 4)]) ⟨hx, hb, hml, hown, hts⟩ (mt_X8_left_S l D dA (μ.sA (en row i_) k) (σ.sorts (16 * (en row i_) + 4 * k + 2)) (σ.sorts (16 * (en row i_) + 4 * k + 3)) (σ.sorts (16 * (en row i_) + 4 * k)) (σ.sorts (16 * (en row i_) + 4 * k + 1)) bag (ptF σ.tools 8)) (cw_X1_X8_left_S_X9 hts ⟨Nat.le_of_ble_eq_true rfl, Nat.le_of_ble_eq_true rfl⟩) pB_bw (pB_now hK (pl1 hP ((hR.2.1 (en row i_) hc6 hTc).2.2.2.2 k (show k < σ.sm (en row i_) by omega)).1 ((hR.2.1 (en row i_) hc6 hTc).2.2.2.2 k (show k < σ.sm (en row i_) by omega)).2)) (va_recv hK (pl1 hP ((hR.2.1 (en row i_) hc6 hTc).2.2.2.2 k (show k < σ.sm (en row i_) by omega)).1 ((hR.2.1 (en row i_) hc6 hTc).2.2.2.2 k (show k < σ.sm (en row i_) by omega)).2) (ci := 6) (q0 := 0) rfl rfl) rfl hl.1 rfl (Nat.le_of_ble_eq_true rfl) dX1_goOn_300 ⟨Nat.le_of_ble_eq_true rfl, Nat.le_of_ble_eq_true rfl⟩ ?_
                      refine w_topi (y := leftF σ bag (en row i_) k) (lef_eq hI hy hc6 (by omega) ((met_left hy (en row i_) k).mpr h272)) ?_
                      refine lv_iload hx hb dX1_goOn_303 (lv_at hl 11 rfl) ?_
                      refine lv_aload hx hb dX1_goOn_305 (lv_at hl 5 rfl) ?_
                      refine dV (v := .int ((fun k0_ => σ.calls (6 * (en row i_) + k0_)) 3)) (As := []) (rest := [.int sm_, .int (leftF σ bag (en row i_) k), .int ((arrF σ x_ m_ (en row i_)) + (σ.sorts (16 * (en row i_) + 4 * k + 1))), .int (nI (plF σ (en row i_))), .int (nI (i_ + 1)), .ref (ad 4)]) ⟨hx, hb, hml, hown, hts⟩ (mt_X7_worth l D dA (μ.cA (en row i_)) (μ.kA (en row i_)) (μ.lA (en row i_)) (total σ (en row i_)) (fun k0_ => σ.calls (6 * (en row i_) + k0_))) (cw_X1_X7_worth hts ⟨Nat.le_of_ble_eq_true rfl, Nat.le_of_ble_eq_true rfl⟩) pB_bw (pB_now hK (pl2 (pl1 hP (hR.2.1 (en row i_) hc6 hTc).1.1 (hR.2.1 (en row i_) hc6 hTc).1.2) (pl1 hP (hR.2.1 (en row i_) hc6 hTc).2.1.1 (hR.2.1 (en row i_) hc6 hTc).2.1.2))) (va_recv hK (pl1 hP (hR.2.1 (en row i_) hc6 hTc).1.1 (hR.2.1 (en row i_) hc6 hTc).1.2) (ci := 5) (q0 := 0) rfl rfl) rfl hl.1 rfl (Nat.le_of_ble_eq_true rfl) dX1_goOn_307 ⟨Nat.le_of_ble_eq_true rfl, Nat.le_of_ble_eq_true rfl⟩ ?_
                      refine w_topi (y := σ.calls (6 * (en row i_) + 3)) (rfl) ?_
                      refine lv_iadd hx hb dX1_goOn_310 ?_
                      refine lv_lload hx hb dX1_goOn_311 (lv_at hl 0 rfl) ?_
                      refine lv_iload hx hb dX1_goOn_313 (lv_at hl 13 rfl) ?_
                      refine dM (v := none) (σ' := σ) (ω' := ((full, row, nI j, ptF σ.tools 8, kn, so, (goT σ row full kn so 3 (i_ + 1) (plF σ (en row i_)) ((arrF σ x_ m_ (en row i_)) + (σ.sorts (16 * (en row i_) + 4 * k + 1))) (leftF σ bag (en row i_) k) (sm_ + (σ.calls (6 * (en row i_) + 3))) (prT σ kn w_ (en row i_) k) dn_ (t.1, t.2.1, t.2.2)).1, (goT σ row full kn so 3 (i_ + 1) (plF σ (en row i_)) ((arrF σ x_ m_ (en row i_)) + (σ.sorts (16 * (en row i_) + 4 * k + 1))) (leftF σ bag (en row i_) k) (sm_ + (σ.calls (6 * (en row i_) + 3))) (prT σ kn w_ (en row i_) k) dn_ (t.1, t.2.1, t.2.2)).2.1, ω.below, (goT σ row full kn so 3 (i_ + 1) (plF σ (en row i_)) ((arrF σ x_ m_ (en row i_)) + (σ.sorts (16 * (en row i_) + 4 * k + 1))) (leftF σ bag (en row i_) k) (sm_ + (σ.calls (6 * (en row i_) + 3))) (prT σ kn w_ (en row i_) k) dn_ (t.1, t.2.1, t.2.2)).2.2, ω.mb) : Om)) (As := [.int (nI (i_ + 1)), .int (nI (plF σ (en row i_))), .int ((arrF σ x_ m_ (en row i_)) + (σ.sorts (16 * (en row i_) + 4 * k + 1))), .int (leftF σ bag (en row i_) k), .int (sm_ + (σ.calls (6 * (en row i_) + 3))), .long (prT σ kn w_ (en row i_) k), .int dn_]) (rest := []) ⟨hx, hb, hml, hown, hts⟩ (mt_X1_goOn_3 l D dA x ad μ σ ((full, row, nI j, ptF σ.tools 8, kn, so, t.1, t.2.1, ω.below, t.2.2, ω.mb) : Om) hcD full row j kn so (i_ + 1) (plF σ (en row i_)) ((arrF σ x_ m_ (en row i_)) + (σ.sorts (16 * (en row i_) + 4 * k + 1))) (leftF σ bag (en row i_) k) (sm_ + (σ.calls (6 * (en row i_) + 3))) (prT σ kn w_ (en row i_) k) dn_ hI hR hpl (left_by hy h272) hf hoT (by omega) hj) (cw_X1_X1_goOn_3 hts ⟨Nat.le_of_ble_eq_true rfl, Nat.le_of_ble_eq_true rfl⟩) (cB_now hK hN hP) (va_recv hK hP (ci := 2) (q0 := 5) rfl rfl) rfl hl.1 rfl (Nat.le_of_ble_eq_true rfl) dX1_goOn_315 ⟨Nat.le_of_ble_eq_true rfl, Nat.le_of_ble_eq_true rfl⟩ hS (fun H locs hP hS => ?_)
                      change W p l e rmX1_goOn_4 s m args below meth c H locs 0 0 Q (F0 m 318 ls [])
                      refine lv_goto (tgt := 356) hx hb dX1_goOn_318 rfl ?_
                      refine lv_iinc (v := nI (k + 1)) (lv' := [(12, .int (nI (k + 1))), (14, .long (prT σ kn w_ (en row i_) k)), (13, .ref (μ.sA (en row i_) k)), (11, .int (arrF σ x_ m_ (en row i_))), (10, .int (m_ + (σ.ways (6 * x_ + (plF σ (en row i_)))))), (9, .ref (μ.cA (en row i_))), (0, .ref (ad 4)), (1, .int (nI i_)), (2, .int (nI x_)), (3, .int m_), (4, .int bag), (5, .int sm_), (6, .long w_), (8, .int dn_)]) hx hb dX1_goOn_356 hl (k := 2) rfl (nI_1 k) (by decide) rfl (fun ls hl => ?_)
                      refine lv_goto (tgt := 178) hx hb dX1_goOn_359 rfl ?_
                      exact ih_3 (k + 1) (goT σ row full kn so 3 (i_ + 1) (plF σ (en row i_)) (arrF σ x_ m_ (en row i_) + σ.sorts (16 * (en row i_) + 4 * k + 1)) (leftF σ bag (en row i_) k) (sm_ + σ.calls (6 * (en row i_) + 3)) (prT σ kn w_ (en row i_) k) dn_ t) (nI (k + 1)) ls _ _ (by omega) (by omega) (by rw [srtT, ← ht]; exact sor_met (fun q => q.2 h224) h272) rfl (lv_sub hl [0, 3, 4, 5, 6, 7, 8, 9, 10, 11, 12, 13] rfl) hP hS
                · have h224 : ¬ ((nI k) = so) := h224
                  refine lv_goto (tgt := 356) hx hb dX1_goOn_227 rfl ?_
                  refine lv_iinc (v := nI (k + 1)) (lv' := [(12, .int (nI (k + 1))), (13, .ref (μ.sA (en row i_) k)), (11, .int (arrF σ x_ m_ (en row i_))), (10, .int (m_ + (σ.ways (6 * x_ + (plF σ (en row i_)))))), (9, .ref (μ.cA (en row i_))), (0, .ref (ad 4)), (1, .int (nI i_)), (2, .int (nI x_)), (3, .int m_), (4, .int bag), (5, .int sm_), (6, .long w_), (8, .int dn_)]) hx hb dX1_goOn_356 hl (k := 1) rfl (nI_1 k) (by decide) rfl (fun ls hl => ?_)
                  refine lv_goto (tgt := 178) hx hb dX1_goOn_359 rfl ?_
                  exact ih_3 (k + 1) t (nI (k + 1)) ls _ _ (by omega) (by omega) (by rw [srtT, ← ht]; exact sor_skip h215 h224) rfl (lv_sub hl [0, 2, 3, 4, 5, 6, 7, 8, 9, 10, 11, 12] rfl) hP hS
        exact hL178_1 _ 0 (ω.brings, ω.done, ω.end_) 0 ls _ _ (Nat.lt_succ_self _) (by omega) rfl rfl (lv_sub hl [0, 1, 2, 3, 4, 5, 6, 7, 8, 9, 10, 11] rfl) hP hS
      · have h144 : (bgF σ x_ m_ (en row i_)) = (-1) := h144
        have hlt := (bg_late hI hc6).mp h144
        refine lv_aload_n hx hb dX1_goOn_147 rfl (lv_at hl 3 rfl) ?_
        refine lv_iload_n hx hb dX1_goOn_148 rfl (lv_at hl 4 rfl) ?_
        refine lv_iconst (v := 1) hx hb dX1_goOn_149 rfl ?_
        refine lv_iadd hx hb dX1_goOn_150 ?_
        refine w_topi (nz_add rfl rfl) ?_
        refine lv_aload hx hb dX1_goOn_151 (lv_at hl 2 rfl) ?_
        refine dV (v := .int ((fun k0_ => σ.calls (6 * (en row i_) + k0_)) 0)) (As := []) (rest := [.int (nI (i_ + 1)), .ref (ad 4)]) ⟨hx, hb, hml, hown, hts⟩ (mt_X7_place l D dA (μ.cA (en row i_)) (μ.kA (en row i_)) (μ.lA (en row i_)) (total σ (en row i_)) (fun k0_ => σ.calls (6 * (en row i_) + k0_))) (cw_X1_X7_place hts ⟨Nat.le_of_ble_eq_true rfl, Nat.le_of_ble_eq_true rfl⟩) pB_bw (pB_now hK (pl2 (pl1 hP (hR.2.1 (en row i_) hc6 hTc).1.1 (hR.2.1 (en row i_) hc6 hTc).1.2) (pl1 hP (hR.2.1 (en row i_) hc6 hTc).2.1.1 (hR.2.1 (en row i_) hc6 hTc).2.1.2))) (va_recv hK (pl1 hP (hR.2.1 (en row i_) hc6 hTc).1.1 (hR.2.1 (en row i_) hc6 hTc).1.2) (ci := 5) (q0 := 0) rfl rfl) rfl hl.1 rfl (Nat.le_of_ble_eq_true rfl) dX1_goOn_153 ⟨Nat.le_of_ble_eq_true rfl, Nat.le_of_ble_eq_true rfl⟩ ?_
        refine w_topi (y := nI (plF σ (en row i_))) ((hI.pl2 (en row i_) hc6).2) ?_
        refine lv_iload hx hb dX1_goOn_156 (lv_at hl 1 rfl) ?_
        refine lv_iload hx hb dX1_goOn_158 (lv_at hl 7 rfl) ?_
        refine lv_iload hx hb dX1_goOn_160 (lv_at hl 8 rfl) ?_
        refine lv_aload hx hb dX1_goOn_162 (lv_at hl 2 rfl) ?_
        refine dV (v := .int ((fun k0_ => σ.calls (6 * (en row i_) + k0_)) 4)) (As := []) (rest := [.int sm_, .int bag, .int (m_ + (σ.ways (6 * x_ + (plF σ (en row i_))))), .int (nI (plF σ (en row i_))), .int (nI (i_ + 1)), .ref (ad 4)]) ⟨hx, hb, hml, hown, hts⟩ (mt_X7_again l D dA (μ.cA (en row i_)) (μ.kA (en row i_)) (μ.lA (en row i_)) (total σ (en row i_)) (fun k0_ => σ.calls (6 * (en row i_) + k0_))) (cw_X1_X7_again hts ⟨Nat.le_of_ble_eq_true rfl, Nat.le_of_ble_eq_true rfl⟩) pB_bw (pB_now hK (pl2 (pl1 hP (hR.2.1 (en row i_) hc6 hTc).1.1 (hR.2.1 (en row i_) hc6 hTc).1.2) (pl1 hP (hR.2.1 (en row i_) hc6 hTc).2.1.1 (hR.2.1 (en row i_) hc6 hTc).2.1.2))) (va_recv hK (pl1 hP (hR.2.1 (en row i_) hc6 hTc).1.1 (hR.2.1 (en row i_) hc6 hTc).1.2) (ci := 5) (q0 := 0) rfl rfl) rfl hl.1 rfl (Nat.le_of_ble_eq_true rfl) dX1_goOn_164 ⟨Nat.le_of_ble_eq_true rfl, Nat.le_of_ble_eq_true rfl⟩ ?_
        refine w_topi (y := σ.calls (6 * (en row i_) + 4)) (rfl) ?_
        refine lv_isub hx hb dX1_goOn_167 ?_
        refine lv_lload hx hb dX1_goOn_168 (lv_at hl 9 rfl) ?_
        refine lv_iconst (v := 0) hx hb dX1_goOn_170 rfl ?_
        refine dM (v := none) (σ' := σ) (ω' := ((full, row, nI j, ptF σ.tools 8, kn, so, (goT σ row full kn so 3 (i_ + 1) (plF σ (en row i_)) (m_ + (σ.ways (6 * x_ + (plF σ (en row i_))))) bag (sm_ - (σ.calls (6 * (en row i_) + 4))) w_ 0 (ω.brings, ω.done, ω.end_)).1, (goT σ row full kn so 3 (i_ + 1) (plF σ (en row i_)) (m_ + (σ.ways (6 * x_ + (plF σ (en row i_))))) bag (sm_ - (σ.calls (6 * (en row i_) + 4))) w_ 0 (ω.brings, ω.done, ω.end_)).2.1, ω.below, (goT σ row full kn so 3 (i_ + 1) (plF σ (en row i_)) (m_ + (σ.ways (6 * x_ + (plF σ (en row i_))))) bag (sm_ - (σ.calls (6 * (en row i_) + 4))) w_ 0 (ω.brings, ω.done, ω.end_)).2.2, ω.mb) : Om)) (As := [.int (nI (i_ + 1)), .int (nI (plF σ (en row i_))), .int (m_ + (σ.ways (6 * x_ + (plF σ (en row i_))))), .int bag, .int (sm_ - (σ.calls (6 * (en row i_) + 4))), .long w_, .int 0]) (rest := []) ⟨hx, hb, hml, hown, hts⟩ (mt_X1_goOn_3 l D dA x ad μ σ ((full, row, nI j, ptF σ.tools 8, kn, so, ω.brings, ω.done, ω.below, ω.end_, ω.mb) : Om) hcD full row j kn so (i_ + 1) (plF σ (en row i_)) (m_ + (σ.ways (6 * x_ + (plF σ (en row i_))))) bag (sm_ - (σ.calls (6 * (en row i_) + 4))) w_ 0 hI hR hpl hy hf hoT (by omega) hj) (cw_X1_X1_goOn_3 hts ⟨Nat.le_of_ble_eq_true rfl, Nat.le_of_ble_eq_true rfl⟩) (cB_now hK hN hP) (va_recv hK hP (ci := 2) (q0 := 5) rfl rfl) rfl hl.1 rfl (Nat.le_of_ble_eq_true rfl) dX1_goOn_171 ⟨Nat.le_of_ble_eq_true rfl, Nat.le_of_ble_eq_true rfl⟩ hS (fun H locs hP hS => ?_)
        change W p l e rmX1_goOn_4 s m args below meth c H locs 0 0 Q (F0 m 174 ls [])
        exact cm_v hQ hx hb hr hlocks hK hN hP hS (rfl) (by rw [goT_l h63 hlt]) dX1_goOn_174
    · have h63 : (en row i_) = 6 := (nz_eq (a := en row i_) (b := 6) rfl rfl (by omega) (by omega)).mp h63
      refine lv_aload_n hx hb dX1_goOn_66 rfl (lv_at hl 0 rfl) ?_
      refine lv_iload_n hx hb dX1_goOn_67 rfl (lv_at hl 1 rfl) ?_
      refine lv_iconst (v := 1) hx hb dX1_goOn_68 rfl ?_
      refine lv_iadd hx hb dX1_goOn_69 ?_
      refine w_topi (nz_add rfl rfl) ?_
      refine lv_iconst (v := 0) hx hb dX1_goOn_70 rfl ?_
      refine lv_iload_n hx hb dX1_goOn_71 rfl (lv_at hl 3 rfl) ?_
      refine lv_aload_n hx hb dX1_goOn_72 rfl (lv_at hl 0 rfl) ?_
      refine va_get (D := D) (ci := 2) (v := .ref x) (C := RX1) (T := TX1) (N := 11) hx hb hts in_X1 hown hK hP 5 rfl rfl 10 (by decide) (hts _ q143) (fun _ h9 => h9) rfl dX1_goOn_73 ?_
      refine va_getN (D := D) (ci := 1) (v := .ref (ad 1)) (C := RX0) (T := TX0) (N := 11) hx hb hts in_X0 hown hK hP 0 rfl rfl 4 (by decide) (va_Nw.use rfl hN.2.2.1) (fun _ h9 => h9) rfl dX1_goOn_76 ?_
      refine lv_iload_n hx hb dX1_goOn_79 rfl (lv_at hl 2 rfl) ?_
      refine wa_aald (v := .ref (ad (6 + x_))) hx hb hK hP 2 4 rfl rfl rfl (x_) (rfl) (by omega) (by decide) (rfl) dX1_goOn_80 ?_
      refine lv_iconst (v := 0) hx hb dX1_goOn_81 rfl ?_
      refine wa_sald (v := σ.ways (6 * x_ + 0)) hx hb hK (way_row hP (i := x_) (by omega)) 0 2 rfl rfl (0) (rfl) (by omega) (by decide) (rfl) dX1_goOn_82 ?_
      refine lv_iadd hx hb dX1_goOn_83 ?_
      refine lv_aload_n hx hb dX1_goOn_84 rfl (lv_at hl 0 rfl) ?_
      refine va_get (D := D) (ci := 2) (v := .int full) (C := RX1) (T := TX1) (N := 11) hx hb hts in_X1 hown hK hP 5 rfl rfl 0 (by decide) (hts _ q129) (fun _ h9 => h9) rfl dX1_goOn_85 ?_
      refine lv_iload hx hb dX1_goOn_88 (lv_at hl 5 rfl) ?_
      refine lv_lload hx hb dX1_goOn_90 (lv_at hl 6 rfl) ?_
      refine lv_iload hx hb dX1_goOn_92 (lv_at hl 7 rfl) ?_
      refine dM (v := none) (σ' := σ) (ω' := ((full, row, nI j, ptF σ.tools 8, kn, so, (goT σ row full kn so 3 (i_ + 1) 0 (m_ + (σ.ways (6 * x_ + 0))) full sm_ w_ dn_ (ω.brings, ω.done, ω.end_)).1, (goT σ row full kn so 3 (i_ + 1) 0 (m_ + (σ.ways (6 * x_ + 0))) full sm_ w_ dn_ (ω.brings, ω.done, ω.end_)).2.1, ω.below, (goT σ row full kn so 3 (i_ + 1) 0 (m_ + (σ.ways (6 * x_ + 0))) full sm_ w_ dn_ (ω.brings, ω.done, ω.end_)).2.2, ω.mb) : Om)) (As := [.int (nI (i_ + 1)), .int 0, .int (m_ + (σ.ways (6 * x_ + 0))), .int full, .int sm_, .long w_, .int dn_]) (rest := []) ⟨hx, hb, hml, hown, hts⟩ (mt_X1_goOn_3 l D dA x ad μ σ ((full, row, nI j, ptF σ.tools 8, kn, so, ω.brings, ω.done, ω.below, ω.end_, ω.mb) : Om) hcD full row j kn so (i_ + 1) 0 (m_ + (σ.ways (6 * x_ + 0))) full sm_ w_ dn_ hI hR (by decide) hf hf hoT (by omega) hj) (cw_X1_X1_goOn_3 hts ⟨Nat.le_of_ble_eq_true rfl, Nat.le_of_ble_eq_true rfl⟩) (cB_now hK hN hP) (va_recv hK hP (ci := 2) (q0 := 5) rfl rfl) rfl hl.1 rfl (Nat.le_of_ble_eq_true rfl) dX1_goOn_94 ⟨Nat.le_of_ble_eq_true rfl, Nat.le_of_ble_eq_true rfl⟩ hS (fun H locs hP hS => ?_)
      change W p l e rmX1_goOn_4 s m args below meth c H locs 0 0 Q (F0 m 97 ls [])
      exact cm_v hQ hx hb hr hlocks hK hN hP hS (rfl) (by rw [goT_h h63]) dX1_goOn_97
  · have h5 : i_ = j := (nz_eq (a := i_) (b := j) rfl rfl (by omega) (by omega)).mp h5
    exact absurd h5 (by omega)

theorem cw_X1_X1_goOn_4 {R : Room} {s : State} {args : Array Value} (hts : ∀ w ∈ lw_all, w.before args s = true) (hR : rmX1_goOn_4.frames + 1 ≤ R.frames ∧ 8 + (16 + 11) + rmX1_goOn_4.locals ≤ R.locals) : CallW R s args RX1 RX1 66 yX1_goOn cX1_goOn 16 none (ws_ yX1_goOn cX1_goOn 16 none) rmX1_goOn_4 0 0 7 := cwV 7 hts (lw_V q944 q946 qs26 q78 q947) rfl rfl rfl (by decide +kernel) hR
def rmX1_goOn_5 : Room := { frames := 7, cells := 0, slots := 0, locals := 204 }
set_option maxHeartbeats 1000000 in
theorem mt_X1_goOn_5 (l : Launch) (D : va_G) (dA : Nat → ClassId) (x : Nat) (ad : Nat → Nat) (μ : Lay) (σ : St) (ω : Om) (hcD : cD x ad μ) (full : Int32) (row : Int32) (j : Nat) (kn : Int32) (so : Int32) (i_ : Nat) (x_ : Nat) (m_ : Int32) (bag : Int32) (sm_ : Int32) (w_ : Int64) (dn_ : Int32) (hI : Inv σ) (hR : Rel dA μ σ) (hx6 : x_ < 6) (hy : byP bag) (hf : byP full) (hoT : okT σ row j) (hij : i_ + 5 = j) (hj : j ≤ 6) : Met l yX1_goOn (ws_ yX1_goOn cX1_goOn 16 none) rmX1_goOn_5 (va_Pc [.ref (ad 4), .int (nI i_), .int (nI x_), .int m_, .int bag, .int sm_, .long w_, .int dn_] (cB D dA x ad μ σ ((full, row, nI j, ptF σ.tools 8, kn, so, ω.brings, ω.done, ω.below, ω.end_, ω.mb) : Om))) (cQ none D dA x ad μ σ ((full, row, nI j, ptF σ.tools 8, kn, so, (goT σ row full kn so 5 i_ x_ m_ bag sm_ w_ dn_ (ω.brings, ω.done, ω.end_)).1, (goT σ row full kn so 5 i_ x_ m_ bag sm_ w_ dn_ (ω.brings, ω.done, ω.end_)).2.1, ω.below, (goT σ row full kn so 5 i_ x_ m_ bag sm_ w_ dn_ (ω.brings, ω.done, ω.end_)).2.2, ω.mb) : Om)) 0 0 (cA x ad μ) := by
  refine w_start (by decide) (Nat.le_of_ble_eq_true rfl) ?_
  intro p e s m args below meth c Q ls hQ hx hb hr hlocks hml hown hnm hts hB hl
  have hown : s.vm.findClass RX1 = some m.cls := hown
  have hl : lv_has ls 16 [(0, .ref (ad 4)), (1, .int (nI i_)), (2, .int (nI x_)), (3, .int m_), (4, .int bag), (5, .int sm_), (6, .long w_), (8, .int dn_)] := hl
  obtain ⟨hP, hK, hN⟩ := hB
  have hP : va_P D vwCl (cW dA x ad μ σ ((full, row, nI j, ptF σ.tools 8, kn, so, ω.brings, ω.done, ω.below, ω.end_, ω.mb) : Om)) s.heap := hP
  have hS : va_S (cA x ad μ) s.heap s.heap [] := va_S.rf
  refine lv_iload_n hx hb dX1_goOn_0 rfl (lv_at hl 1 rfl) ?_
  refine lv_aload_n hx hb dX1_goOn_1 rfl (lv_at hl 0 rfl) ?_
  refine va_get (D := D) (ci := 2) (v := .int (nI j)) (C := RX1) (T := TX1) (N := 11) hx hb hts in_X1 hown hK hP 5 rfl rfl 2 (by decide) (hts _ q131) (fun _ h9 => h9) rfl dX1_goOn_2 ?_
  refine lv_icmp_ne (tgt := 56) hx hb dX1_goOn_5 rfl (fun h5 => ?_) (fun h5 => ?_)
  · have h5 : ¬ (i_ = j) := fun z9 => h5 ((nz_eq (a := i_) (b := j) rfl rfl (by omega) (by omega)).mpr z9)
    have hen := en_lt row i_
    refine lv_aload_n hx hb dX1_goOn_56 rfl (lv_at hl 0 rfl) ?_
    refine lv_iload_n hx hb dX1_goOn_57 rfl (lv_at hl 1 rfl) ?_
    refine dV (v := .int (entF row i_)) (As := [.int (nI i_)]) (rest := []) ⟨hx, hb, hml, hown, hts⟩ (mt_X1_at l D dA x ad μ σ ((full, row, nI j, ptF σ.tools 8, kn, so, ω.brings, ω.done, ω.below, ω.end_, ω.mb) : Om) row i_ hI hR) (cw_X1_X1_at hts ⟨Nat.le_of_ble_eq_true rfl, Nat.le_of_ble_eq_true rfl⟩) cB_bw (cB_now hK hN hP) (va_recv hK hP (ci := 2) (q0 := 5) rfl rfl) rfl hl.1 rfl (Nat.le_of_ble_eq_true rfl) dX1_goOn_58 ⟨Nat.le_of_ble_eq_true rfl, Nat.le_of_ble_eq_true rfl⟩ ?_
    refine w_topi (y := nI (en row i_)) (en_eq row i_) ?_
    refine lv_bipush (v := 6) hx hb dX1_goOn_61 rfl ?_
    refine lv_icmp_ne (tgt := 98) hx hb dX1_goOn_63 rfl (fun h63 => ?_) (fun h63 => ?_)
    · have h63 : ¬ ((en row i_) = 6) := fun z9 => h63 ((nz_eq (a := en row i_) (b := 6) rfl rfl (by omega) (by omega)).mpr z9)
      obtain ⟨hc6, hTc, hs0⟩ := (hoT i_ (by omega)).resolve_left h63
      have hsm := hI.sm (en row i_) hc6
      have hpl := (hI.pl2 (en row i_) hc6).1
      refine lv_aload_n hx hb dX1_goOn_98 rfl (lv_at hl 0 rfl) ?_
      refine va_get (D := D) (ci := 2) (v := .ref x) (C := RX1) (T := TX1) (N := 11) hx hb hts in_X1 hown hK hP 5 rfl rfl 10 (by decide) (hts _ q143) (fun _ h9 => h9) rfl dX1_goOn_99 ?_
      refine va_getN (D := D) (ci := 1) (v := .ref (ad 2)) (C := RX0) (T := TX0) (N := 11) hx hb hts in_X0 hown hK hP 0 rfl rfl 5 (by decide) (va_Nw.use rfl hN.2.2.2.1) (fun _ h9 => h9) rfl dX1_goOn_102 ?_
      refine lv_aload_n hx hb dX1_goOn_105 rfl (lv_at hl 0 rfl) ?_
      refine lv_iload_n hx hb dX1_goOn_106 rfl (lv_at hl 1 rfl) ?_
      refine dV (v := .int (entF row i_)) (As := [.int (nI i_)]) (rest := [.ref (ad 2)]) ⟨hx, hb, hml, hown, hts⟩ (mt_X1_at l D dA x ad μ σ ((full, row, nI j, ptF σ.tools 8, kn, so, ω.brings, ω.done, ω.below, ω.end_, ω.mb) : Om) row i_ hI hR) (cw_X1_X1_at hts ⟨Nat.le_of_ble_eq_true rfl, Nat.le_of_ble_eq_true rfl⟩) cB_bw (cB_now hK hN hP) (va_recv hK hP (ci := 2) (q0 := 5) rfl rfl) rfl hl.1 rfl (Nat.le_of_ble_eq_true rfl) dX1_goOn_107 ⟨Nat.le_of_ble_eq_true rfl, Nat.le_of_ble_eq_true rfl⟩ ?_
      refine w_topi (y := nI (en row i_)) (en_eq row i_) ?_
      refine wa_aald (v := .ref (μ.cA (en row i_))) hx hb hK hP 3 5 rfl rfl rfl (en row i_) (rfl) (by omega) (by decide) (cO_t hTc) dX1_goOn_110 ?_
      refine lv_astore (lv' := [(9, .ref (μ.cA (en row i_))), (0, .ref (ad 4)), (1, .int (nI i_)), (2, .int (nI x_)), (3, .int m_), (4, .int bag), (5, .int sm_), (6, .long w_), (8, .int dn_)]) hx hb dX1_goOn_111 hl (by decide) rfl (fun ls hl => ?_)
      refine lv_iload_n hx hb dX1_goOn_113 rfl (lv_at hl 4 rfl) ?_
      refine lv_aload_n hx hb dX1_goOn_114 rfl (lv_at hl 1 rfl) ?_
      refine va_get (D := D) (ci := 2) (v := .ref x) (C := RX1) (T := TX1) (N := 11) hx hb hts in_X1 hown hK hP 5 rfl rfl 10 (by decide) (hts _ q143) (fun _ h9 => h9) rfl dX1_goOn_115 ?_
      refine va_getN (D := D) (ci := 1) (v := .ref (ad 1)) (C := RX0) (T := TX0) (N := 11) hx hb hts in_X0 hown hK hP 0 rfl rfl 4 (by decide) (va_Nw.use rfl hN.2.2.1) (fun _ h9 => h9) rfl dX1_goOn_118 ?_
      refine lv_iload_n hx hb dX1_goOn_121 rfl (lv_at hl 3 rfl) ?_
      refine wa_aald (v := .ref (ad (6 + x_))) hx hb hK hP 2 4 rfl rfl rfl (x_) (rfl) (by omega) (by decide) (rfl) dX1_goOn_122 ?_
      refine lv_aload hx hb dX1_goOn_123 (lv_at hl 0 rfl) ?_
      refine dV (v := .int ((fun k0_ => σ.calls (6 * (en row i_) + k0_)) 0)) (As := []) (rest := [.ref (ad (6 + x_)), .int m_]) ⟨hx, hb, hml, hown, hts⟩ (mt_X7_place l D dA (μ.cA (en row i_)) (μ.kA (en row i_)) (μ.lA (en row i_)) (total σ (en row i_)) (fun k0_ => σ.calls (6 * (en row i_) + k0_))) (cw_X1_X7_place hts ⟨Nat.le_of_ble_eq_true rfl, Nat.le_of_ble_eq_true rfl⟩) pB_bw (pB_now hK (pl2 (pl1 hP (hR.2.1 (en row i_) hc6 hTc).1.1 (hR.2.1 (en row i_) hc6 hTc).1.2) (pl1 hP (hR.2.1 (en row i_) hc6 hTc).2.1.1 (hR.2.1 (en row i_) hc6 hTc).2.1.2))) (va_recv hK (pl1 hP (hR.2.1 (en row i_) hc6 hTc).1.1 (hR.2.1 (en row i_) hc6 hTc).1.2) (ci := 5) (q0 := 0) rfl rfl) rfl hl.1 rfl (Nat.le_of_ble_eq_true rfl) dX1_goOn_125 ⟨Nat.le_of_ble_eq_true rfl, Nat.le_of_ble_eq_true rfl⟩ ?_
      refine w_topi (y := nI (plF σ (en row i_))) ((hI.pl2 (en row i_) hc6).2) ?_
      refine wa_sald (v := σ.ways (6 * x_ + (plF σ (en row i_)))) hx hb hK (way_row hP (i := x_) (by omega)) 0 2 rfl rfl (plF σ (en row i_)) (rfl) (by omega) (by decide) (rfl) dX1_goOn_128 ?_
      refine lv_iadd hx hb dX1_goOn_129 ?_
      refine lv_istore (lv' := [(10, .int (m_ + (σ.ways (6 * x_ + (plF σ (en row i_)))))), (9, .ref (μ.cA (en row i_))), (0, .ref (ad 4)), (1, .int (nI i_)), (2, .int (nI x_)), (3, .int m_), (4, .int bag), (5, .int sm_), (6, .long w_), (8, .int dn_)]) hx hb dX1_goOn_130 hl (by decide) rfl (fun ls hl => ?_)
      refine lv_aload hx hb dX1_goOn_132 (lv_at hl 1 rfl) ?_
      refine lv_iload hx hb dX1_goOn_134 (lv_at hl 0 rfl) ?_
      refine dV (v := .int (begW (fun k0_ => σ.calls (6 * (en row i_) + k0_)) (m_ + (σ.ways (6 * x_ + (plF σ (en row i_))))))) (As := [.int (m_ + (σ.ways (6 * x_ + (plF σ (en row i_)))))]) (rest := []) ⟨hx, hb, hml, hown, hts⟩ (mt_X7_begins l D dA (μ.cA (en row i_)) (μ.kA (en row i_)) (μ.lA (en row i_)) (total σ (en row i_)) (fun k0_ => σ.calls (6 * (en row i_) + k0_)) (m_ + (σ.ways (6 * x_ + (plF σ (en row i_)))))) (cw_X1_X7_begins hts ⟨Nat.le_of_ble_eq_true rfl, Nat.le_of_ble_eq_true rfl⟩) pB_bw (pB_now hK (pl2 (pl1 hP (hR.2.1 (en row i_) hc6 hTc).1.1 (hR.2.1 (en row i_) hc6 hTc).1.2) (pl1 hP (hR.2.1 (en row i_) hc6 hTc).2.1.1 (hR.2.1 (en row i_) hc6 hTc).2.1.2))) (va_recv hK (pl1 hP (hR.2.1 (en row i_) hc6 hTc).1.1 (hR.2.1 (en row i_) hc6 hTc).1.2) (ci := 5) (q0 := 0) rfl rfl) rfl hl.1 rfl (Nat.le_of_ble_eq_true rfl) dX1_goOn_136 ⟨Nat.le_of_ble_eq_true rfl, Nat.le_of_ble_eq_true rfl⟩ ?_
      refine w_topi (y := bgF σ x_ m_ (en row i_)) (beg_eq hI hc6 m_) ?_
      refine lv_istore (lv' := [(11, .int (bgF σ x_ m_ (en row i_))), (10, .int (m_ + (σ.ways (6 * x_ + (plF σ (en row i_)))))), (9, .ref (μ.cA (en row i_))), (0, .ref (ad 4)), (1, .int (nI i_)), (2, .int (nI x_)), (3, .int m_), (4, .int bag), (5, .int sm_), (6, .long w_), (8, .int dn_)]) hx hb dX1_goOn_139 hl (by decide) rfl (fun ls hl => ?_)
      refine lv_iload hx hb dX1_goOn_141 (lv_at hl 0 rfl) ?_
      refine lv_iconst (v := (-1)) hx hb dX1_goOn_143 rfl ?_
      refine lv_icmp_ne (tgt := 175) hx hb dX1_goOn_144 rfl (fun h144 => ?_) (fun h144 => ?_)
      · have h144 : ¬ ((bgF σ x_ m_ (en row i_)) = (-1)) := h144
        obtain ⟨hnl, hbg⟩ := bg_n hI hc6 h144
        rw [hbg] at hl
        refine lv_iconst (v := 0) hx hb dX1_goOn_175 rfl ?_
        refine lv_istore (lv' := [(12, .int 0), (11, .int (arrF σ x_ m_ (en row i_))), (10, .int (m_ + (σ.ways (6 * x_ + (plF σ (en row i_)))))), (9, .ref (μ.cA (en row i_))), (0, .ref (ad 4)), (1, .int (nI i_)), (2, .int (nI x_)), (3, .int m_), (4, .int bag), (5, .int sm_), (6, .long w_), (8, .int dn_)]) hx hb dX1_goOn_176 hl (by decide) rfl (fun ls hl => ?_)
        have hL178_1 : ∀ (n_2 : Nat) (k : Nat) (t : OT) (x12 : Int32) (ls : Array Slot) (H : Heap) (locs : List Loc), (4 - k) < n_2 → (k ≤ σ.sm (en row i_)) → (t = srtT (sorT σ kn so (goT σ row full kn so 4) i_ x_ m_ bag sm_ w_ dn_ (en row i_)) k (ω.brings, ω.done, ω.end_)) → x12 = (nI k) → lv_has ls 16 [(12, .int x12), (11, .int (arrF σ x_ m_ (en row i_))), (10, .int (m_ + (σ.ways (6 * x_ + (plF σ (en row i_)))))), (9, .ref (μ.cA (en row i_))), (0, .ref (ad 4)), (1, .int (nI i_)), (2, .int (nI x_)), (3, .int m_), (4, .int bag), (5, .int sm_), (6, .long w_), (8, .int dn_)] → va_P D vwCl (cW dA x ad μ σ ((full, row, nI j, ptF σ.tools 8, kn, so, t.1, t.2.1, ω.below, t.2.2, ω.mb) : Om)) H → va_S (cA x ad μ) s.heap H locs → W p l e rmX1_goOn_5 s m args below meth c H locs 0 0 Q (F0 m 178 ls []) := by
          intro n_2
          induction n_2 with
          | zero => intro k t x12 ls H locs hm_4; exact absurd hm_4 (Nat.not_lt_zero _)
          | succ n_2 ih_3 =>
            intro k t x12 ls H locs hm_4 hk ht ex12 hl hP hS
            subst ex12
            refine lv_iload hx hb dX1_goOn_178 (lv_at hl 0 rfl) ?_
            refine lv_aload hx hb dX1_goOn_180 (lv_at hl 3 rfl) ?_
            refine va_get (D := D) (ci := 5) (v := .ref (μ.lA (en row i_))) (C := RX7) (T := TX7) (N := 3) hx hb hts in_X7 hown hK (pl1 hP (hR.2.1 (en row i_) hc6 hTc).1.1 (hR.2.1 (en row i_) hc6 hTc).1.2) 0 rfl rfl 1 (by decide) (hts _ q700) (fun _ h9 => h9) rfl dX1_goOn_182 ?_
            refine dV (v := .int (nI (σ.sm (en row i_)))) (As := []) (rest := [.int (nI k)]) ⟨hx, hb, hml, hown, hts⟩ (mt_J2_size l D dA (μ.lA (en row i_)) (μ.eA (en row i_)) (μ.mA (en row i_)) (σ.sm (en row i_))) (cw_X1_J2_size hts ⟨Nat.le_of_ble_eq_true rfl, Nat.le_of_ble_eq_true rfl⟩) pB_bw (pB_now hK (pl1 hP (hR.2.1 (en row i_) hc6 hTc).2.2.1.1 (hR.2.1 (en row i_) hc6 hTc).2.2.1.2)) (va_recv hK (pl1 hP (hR.2.1 (en row i_) hc6 hTc).2.2.1.1 (hR.2.1 (en row i_) hc6 hTc).2.2.1.2) (ci := 8) (q0 := 0) rfl rfl) rfl hl.1 rfl (Nat.le_of_ble_eq_true rfl) dX1_goOn_185 ⟨Nat.le_of_ble_eq_true rfl, Nat.le_of_ble_eq_true rfl⟩ ?_
            refine lv_icmp_ge (tgt := 362) hx hb dX1_goOn_188 rfl (fun h188 => ?_) (fun h188 => ?_)
            · have h188 : (σ.sm (en row i_)) ≤ k := (nz_le (a := (σ.sm (en row i_))) (b := k) rfl rfl (by omega) (by omega)).mp h188
              have hk_ : k = σ.sm (en row i_) := by omega
              subst hk_
              exact cm_v hQ hx hb hr hlocks hK hN hP hS (rfl) (by rw [goT_c h63 hnl, ← ht]) dX1_goOn_362
            · have h188 : ¬ ((σ.sm (en row i_)) ≤ k) := fun z9 => h188 ((nz_le (a := (σ.sm (en row i_))) (b := k) rfl rfl (by omega) (by omega)).mpr z9)
              refine lv_aload hx hb dX1_goOn_191 (lv_at hl 3 rfl) ?_
              refine va_get (D := D) (ci := 5) (v := .ref (μ.lA (en row i_))) (C := RX7) (T := TX7) (N := 3) hx hb hts in_X7 hown hK (pl1 hP (hR.2.1 (en row i_) hc6 hTc).1.1 (hR.2.1 (en row i_) hc6 hTc).1.2) 0 rfl rfl 1 (by decide) (hts _ q700) (fun _ h9 => h9) rfl dX1_goOn_193 ?_
              refine lv_iload hx hb dX1_goOn_196 (lv_at hl 0 rfl) ?_
              refine g_sort (rest := []) ⟨hx, hb, hml, hown, hts⟩ (cw_X1_J2_get hts ⟨Nat.le_of_ble_eq_true rfl, Nat.le_of_ble_eq_true rfl⟩) hK hP (hR.2.1 (en row i_) hc6 hTc) (hI.sm (en row i_) hc6) (show k < σ.sm (en row i_) by omega) hl.1 rfl (Nat.le_of_ble_eq_true rfl) dX1_goOn_198 ⟨Nat.le_of_ble_eq_true rfl, Nat.le_of_ble_eq_true rfl⟩ ?_
              refine va_castS hx hb hown (hts _ q964) (hK.1 6 _ rfl).2 (va_recv hK (pl1 hP ((hR.2.1 (en row i_) hc6 hTc).2.2.2.2 k (show k < σ.sm (en row i_) by omega)).1 ((hR.2.1 (en row i_) hc6 hTc).2.2.2.2 k (show k < σ.sm (en row i_) by omega)).2) (ci := 6) (q0 := 0) rfl rfl) dX1_goOn_201 ?_
              refine lv_astore (lv' := [(13, .ref (μ.sA (en row i_) k)), (12, .int (nI k)), (11, .int (arrF σ x_ m_ (en row i_))), (10, .int (m_ + (σ.ways (6 * x_ + (plF σ (en row i_)))))), (9, .ref (μ.cA (en row i_))), (0, .ref (ad 4)), (1, .int (nI i_)), (2, .int (nI x_)), (3, .int m_), (4, .int bag), (5, .int sm_), (6, .long w_), (8, .int dn_)]) hx hb dX1_goOn_204 hl (by decide) rfl (fun ls hl => ?_)
              refine lv_aload_n hx hb dX1_goOn_206 rfl (lv_at hl 5 rfl) ?_
              refine lv_iload_n hx hb dX1_goOn_207 rfl (lv_at hl 6 rfl) ?_
              refine dV (v := .int (entF row i_)) (As := [.int (nI i_)]) (rest := []) ⟨hx, hb, hml, hown, hts⟩ (mt_X1_at l D dA x ad μ σ ((full, row, nI j, ptF σ.tools 8, kn, so, t.1, t.2.1, ω.below, t.2.2, ω.mb) : Om) row i_ hI hR) (cw_X1_X1_at hts ⟨Nat.le_of_ble_eq_true rfl, Nat.le_of_ble_eq_true rfl⟩) cB_bw (cB_now hK hN hP) (va_recv hK hP (ci := 2) (q0 := 5) rfl rfl) rfl hl.1 rfl (Nat.le_of_ble_eq_true rfl) dX1_goOn_208 ⟨Nat.le_of_ble_eq_true rfl, Nat.le_of_ble_eq_true rfl⟩ ?_
              refine w_topi (y := nI (en row i_)) (en_eq row i_) ?_
              refine lv_aload_n hx hb dX1_goOn_211 rfl (lv_at hl 5 rfl) ?_
              refine va_get (D := D) (ci := 2) (v := .int kn) (C := RX1) (T := TX1) (N := 11) hx hb hts in_X1 hown hK hP 5 rfl rfl 4 (by decide) (hts _ q133) (fun _ h9 => h9) rfl dX1_goOn_212 ?_
              refine lv_icmp_ne (tgt := 230) hx hb dX1_goOn_215 rfl (fun h215 => ?_) (fun h215 => ?_)
              · have h215 : ¬ ((nI (en row i_)) = kn) := h215
                refine lv_aload_n hx hb dX1_goOn_230 rfl (lv_at hl 5 rfl) ?_
                refine lv_iload_n hx hb dX1_goOn_231 rfl (lv_at hl 6 rfl) ?_
                refine dV (v := .int (entF row i_)) (As := [.int (nI i_)]) (rest := []) ⟨hx, hb, hml, hown, hts⟩ (mt_X1_at l D dA x ad μ σ ((full, row, nI j, ptF σ.tools 8, kn, so, t.1, t.2.1, ω.below, t.2.2, ω.mb) : Om) row i_ hI hR) (cw_X1_X1_at hts ⟨Nat.le_of_ble_eq_true rfl, Nat.le_of_ble_eq_true rfl⟩) cB_bw (cB_now hK hN hP) (va_recv hK hP (ci := 2) (q0 := 5) rfl rfl) rfl hl.1 rfl (Nat.le_of_ble_eq_true rfl) dX1_goOn_232 ⟨Nat.le_of_ble_eq_true rfl, Nat.le_of_ble_eq_true rfl⟩ ?_
                refine w_topi (y := nI (en row i_)) (en_eq row i_) ?_
                refine lv_aload_n hx hb dX1_goOn_235 rfl (lv_at hl 5 rfl) ?_
                refine va_get (D := D) (ci := 2) (v := .int kn) (C := RX1) (T := TX1) (N := 11) hx hb hts in_X1 hown hK hP 5 rfl rfl 4 (by decide) (hts _ q133) (fun _ h9 => h9) rfl dX1_goOn_236 ?_
                refine lv_icmp_ne (tgt := 247) hx hb dX1_goOn_239 rfl (fun h239 => ?_) (fun h239 => ?_)
                · have h239 : ¬ ((nI (en row i_)) = kn) := h239
                  refine lv_lload hx hb dX1_goOn_247 (lv_at hl 11 rfl) ?_
                  refine lv_aload hx hb dX1_goOn_249 (lv_at hl 4 rfl) ?_
                  refine va_get (D := D) (ci := 5) (v := .int (total σ (en row i_))) (C := RX7) (T := TX7) (N := 3) hx hb hts in_X7 hown hK (pl1 hP (hR.2.1 (en row i_) hc6 hTc).1.1 (hR.2.1 (en row i_) hc6 hTc).1.2) 0 rfl rfl 2 (by decide) (hts _ q702) (fun _ h9 => h9) rfl dX1_goOn_251 ?_
                  refine lv_i2l (v := (total σ (en row i_) : Int32).toInt64) hx hb dX1_goOn_254 rfl ?_
                  refine lv_ldiv hx hb dX1_goOn_255 (total_ne hI hc6 (by omega)) ?_
                  refine lv_aload hx hb dX1_goOn_256 (lv_at hl 0 rfl) ?_
                  refine va_get (D := D) (ci := 6) (v := .int (σ.sorts (16 * (en row i_) + 4 * k))) (C := RX9) (T := TX9) (N := 4) hx hb hts in_X9 hown hK (pl1 hP ((hR.2.1 (en row i_) hc6 hTc).2.2.2.2 k (show k < σ.sm (en row i_) by omega)).1 ((hR.2.1 (en row i_) hc6 hTc).2.2.2.2 k (show k < σ.sm (en row i_) by omega)).2) 0 rfl rfl 2 (by decide) (hts _ q727) (fun _ h9 => h9) rfl dX1_goOn_258 ?_
                  refine lv_i2l (v := (σ.sorts (16 * (en row i_) + 4 * k) : Int32).toInt64) hx hb dX1_goOn_261 rfl ?_
                  refine lv_lmul hx hb dX1_goOn_262 ?_
                  refine w_topl (y := prT σ kn w_ (en row i_) k) ((by unfold prT; rw [if_neg h215])) ?_
                  refine lv_lstore (lv' := [(14, .long (prT σ kn w_ (en row i_) k)), (13, .ref (μ.sA (en row i_) k)), (12, .int (nI k)), (11, .int (arrF σ x_ m_ (en row i_))), (10, .int (m_ + (σ.ways (6 * x_ + (plF σ (en row i_)))))), (9, .ref (μ.cA (en row i_))), (0, .ref (ad 4)), (1, .int (nI i_)), (2, .int (nI x_)), (3, .int m_), (4, .int bag), (5, .int sm_), (6, .long w_), (8, .int dn_)]) hx hb dX1_goOn_263 hl (by decide) rfl (fun ls hl => ?_)
                  refine lv_aload hx hb dX1_goOn_265 (lv_at hl 1 rfl) ?_
                  refine lv_iload hx hb dX1_goOn_267 (lv_at hl 10 rfl) ?_
                  refine dU (v := .int (b01 (metP bag (σ.sorts (16 * (en row i_) + 4 * k + 2)) (σ.sorts (16 * (en row i_) + 4 * k + 3))))) (As := [.int bag]) (rest := []) ⟨hx, hb, hml, hown, hts⟩ (mt_X8_isMet_S l D dA (μ.sA (en row i_) k) (σ.sorts (16 * (en row i_) + 4 * k + 2)) (σ.sorts (16 * (en row i_) + 4 * k + 3)) (σ.sorts (16 * (en row i_) + 4 * k)) (σ.sorts (16 * (en row i_) + 4 * k + 1)) bag) (cw_X1_X8_isMet_S_X9 hts ⟨Nat.le_of_ble_eq_true rfl, Nat.le_of_ble_eq_true rfl⟩) pB_bw (pB_now hK (pl1 hP ((hR.2.1 (en row i_) hc6 hTc).2.2.2.2 k (show k < σ.sm (en row i_) by omega)).1 ((hR.2.1 (en row i_) hc6 hTc).2.2.2.2 k (show k < σ.sm (en row i_) by omega)).2)) (va_recv hK (pl1 hP ((hR.2.1 (en row i_) hc6 hTc).2.2.2.2 k (show k < σ.sm (en row i_) by omega)).1 ((hR.2.1 (en row i_) hc6 hTc).2.2.2.2 k (show k < σ.sm (en row i_) by omega)).2) (ci := 6) (q0 := 0) rfl rfl) rfl hl.1 rfl (Nat.le_of_ble_eq_true rfl) dX1_goOn_269 ⟨Nat.le_of_ble_eq_true rfl, Nat.le_of_ble_eq_true rfl⟩ ?_
                  refine w_topi (y := b01 (¬ leftF σ bag (en row i_) k = -1)) (b01_iff (met_left hy (en row i_) k)) ?_
                  refine lv_if_eq (tgt := 321) hx hb dX1_goOn_272 rfl (fun h272 => ?_) (fun h272 => ?_)
                  · have h272 : ¬ (¬ leftF σ bag (en row i_) k = -1) := b01_0.mp h272
                    refine lv_aload_n hx hb dX1_goOn_321 rfl (lv_at hl 6 rfl) ?_
                    refine lv_iload_n hx hb dX1_goOn_322 rfl (lv_at hl 7 rfl) ?_
                    refine lv_iconst (v := 1) hx hb dX1_goOn_323 rfl ?_
                    refine lv_iadd hx hb dX1_goOn_324 ?_
                    refine w_topi (nz_add rfl rfl) ?_
                    refine lv_aload hx hb dX1_goOn_325 (lv_at hl 5 rfl) ?_
                    refine dV (v := .int ((fun k0_ => σ.calls (6 * (en row i_) + k0_)) 0)) (As := []) (rest := [.int (nI (i_ + 1)), .ref (ad 4)]) ⟨hx, hb, hml, hown, hts⟩ (mt_X7_place l D dA (μ.cA (en row i_)) (μ.kA (en row i_)) (μ.lA (en row i_)) (total σ (en row i_)) (fun k0_ => σ.calls (6 * (en row i_) + k0_))) (cw_X1_X7_place hts ⟨Nat.le_of_ble_eq_true rfl, Nat.le_of_ble_eq_true rfl⟩) pB_bw (pB_now hK (pl2 (pl1 hP (hR.2.1 (en row i_) hc6 hTc).1.1 (hR.2.1 (en row i_) hc6 hTc).1.2) (pl1 hP (hR.2.1 (en row i_) hc6 hTc).2.1.1 (hR.2.1 (en row i_) hc6 hTc).2.1.2))) (va_recv hK (pl1 hP (hR.2.1 (en row i_) hc6 hTc).1.1 (hR.2.1 (en row i_) hc6 hTc).1.2) (ci := 5) (q0 := 0) rfl rfl) rfl hl.1 rfl (Nat.le_of_ble_eq_true rfl) dX1_goOn_327 ⟨Nat.le_of_ble_eq_true rfl, Nat.le_of_ble_eq_true rfl⟩ ?_
                    refine w_topi (y := nI (plF σ (en row i_))) ((hI.pl2 (en row i_) hc6).2) ?_
                    refine lv_iload hx hb dX1_goOn_330 (lv_at hl 3 rfl) ?_
                    refine lv_aload hx hb dX1_goOn_332 (lv_at hl 5 rfl) ?_
                    refine va_get (D := D) (ci := 5) (v := .ref (μ.kA (en row i_))) (C := RX7) (T := TX7) (N := 3) hx hb hts in_X7 hown hK (pl1 hP (hR.2.1 (en row i_) hc6 hTc).1.1 (hR.2.1 (en row i_) hc6 hTc).1.2) 0 rfl rfl 0 (by decide) (hts _ q697) (fun _ h9 => h9) rfl dX1_goOn_334 ?_
                    refine lv_iconst (v := 5) hx hb dX1_goOn_337 rfl ?_
                    refine wa_iald1 (v := σ.calls (6 * (en row i_) + 5)) hx hb hK (pl1 hP (hR.2.1 (en row i_) hc6 hTc).2.1.1 (hR.2.1 (en row i_) hc6 hTc).2.1.2) 0 0 rfl rfl (5) (rfl) (by omega) (by decide) (rfl) dX1_goOn_338 ?_
                    refine lv_iadd hx hb dX1_goOn_339 ?_
                    refine lv_iload hx hb dX1_goOn_340 (lv_at hl 10 rfl) ?_
                    refine lv_iload hx hb dX1_goOn_342 (lv_at hl 11 rfl) ?_
                    refine lv_aload hx hb dX1_goOn_344 (lv_at hl 5 rfl) ?_
                    refine dV (v := .int ((fun k0_ => σ.calls (6 * (en row i_) + k0_)) 4)) (As := []) (rest := [.int sm_, .int bag, .int ((arrF σ x_ m_ (en row i_)) + (σ.calls (6 * (en row i_) + 5))), .int (nI (plF σ (en row i_))), .int (nI (i_ + 1)), .ref (ad 4)]) ⟨hx, hb, hml, hown, hts⟩ (mt_X7_again l D dA (μ.cA (en row i_)) (μ.kA (en row i_)) (μ.lA (en row i_)) (total σ (en row i_)) (fun k0_ => σ.calls (6 * (en row i_) + k0_))) (cw_X1_X7_again hts ⟨Nat.le_of_ble_eq_true rfl, Nat.le_of_ble_eq_true rfl⟩) pB_bw (pB_now hK (pl2 (pl1 hP (hR.2.1 (en row i_) hc6 hTc).1.1 (hR.2.1 (en row i_) hc6 hTc).1.2) (pl1 hP (hR.2.1 (en row i_) hc6 hTc).2.1.1 (hR.2.1 (en row i_) hc6 hTc).2.1.2))) (va_recv hK (pl1 hP (hR.2.1 (en row i_) hc6 hTc).1.1 (hR.2.1 (en row i_) hc6 hTc).1.2) (ci := 5) (q0 := 0) rfl rfl) rfl hl.1 rfl (Nat.le_of_ble_eq_true rfl) dX1_goOn_346 ⟨Nat.le_of_ble_eq_true rfl, Nat.le_of_ble_eq_true rfl⟩ ?_
                    refine w_topi (y := σ.calls (6 * (en row i_) + 4)) (rfl) ?_
                    refine lv_isub hx hb dX1_goOn_349 ?_
                    refine lv_lload hx hb dX1_goOn_350 (lv_at hl 0 rfl) ?_
                    refine lv_iconst (v := 0) hx hb dX1_goOn_352 rfl ?_
                    refine dM (v := none) (σ' := σ) (ω' := ((full, row, nI j, ptF σ.tools 8, kn, so, (goT σ row full kn so 4 (i_ + 1) (plF σ (en row i_)) ((arrF σ x_ m_ (en row i_)) + (σ.calls (6 * (en row i_) + 5))) bag (sm_ - (σ.calls (6 * (en row i_) + 4))) (prT σ kn w_ (en row i_) k) 0 (t.1, t.2.1, t.2.2)).1, (goT σ row full kn so 4 (i_ + 1) (plF σ (en row i_)) ((arrF σ x_ m_ (en row i_)) + (σ.calls (6 * (en row i_) + 5))) bag (sm_ - (σ.calls (6 * (en row i_) + 4))) (prT σ kn w_ (en row i_) k) 0 (t.1, t.2.1, t.2.2)).2.1, ω.below, (goT σ row full kn so 4 (i_ + 1) (plF σ (en row i_)) ((arrF σ x_ m_ (en row i_)) + (σ.calls (6 * (en row i_) + 5))) bag (sm_ - (σ.calls (6 * (en row i_) + 4))) (prT σ kn w_ (en row i_) k) 0 (t.1, t.2.1, t.2.2)).2.2, ω.mb) : Om)) (As := [.int (nI (i_ + 1)), .int (nI (plF σ (en row i_))), .int ((arrF σ x_ m_ (en row i_)) + (σ.calls (6 * (en row i_) + 5))), .int bag, .int (sm_ - (σ.calls (6 * (en row i_) + 4))), .long (prT σ kn w_ (en row i_) k), .int 0]) (rest := []) ⟨hx, hb, hml, hown, hts⟩ (mt_X1_goOn_4 l D dA x ad μ σ ((full, row, nI j, ptF σ.tools 8, kn, so, t.1, t.2.1, ω.below, t.2.2, ω.mb) : Om) hcD full row j kn so (i_ + 1) (plF σ (en row i_)) ((arrF σ x_ m_ (en row i_)) + (σ.calls (6 * (en row i_) + 5))) bag (sm_ - (σ.calls (6 * (en row i_) + 4))) (prT σ kn w_ (en row i_) k) 0 hI hR hpl hy hf hoT (by omega) hj) (cw_X1_X1_goOn_4 hts ⟨Nat.le_of_ble_eq_true rfl, Nat.le_of_ble_eq_true rfl⟩) (cB_now hK hN hP) (va_recv hK hP (ci := 2) (q0 := 5) rfl rfl) rfl hl.1 rfl (Nat.le_of_ble_eq_true rfl) dX1_goOn_353 ⟨Nat.le_of_ble_eq_true rfl, Nat.le_of_ble_eq_true rfl⟩ hS (fun H locs hP hS => ?_)
                    change W p l e rmX1_goOn_5 s m args below meth c H locs 0 0 Q (F0 m 356 ls [])
                    refine lv_iinc (v := nI (k + 1)) (lv' := [(12, .int (nI (k + 1))), (14, .long (prT σ kn w_ (en row i_) k)), (13, .ref (μ.sA (en row i_) k)), (11, .int (arrF σ x_ m_ (en row i_))), (10, .int (m_ + (σ.ways (6 * x_ + (plF σ (en row i_)))))), (9, .ref (μ.cA (en row i_))), (0, .ref (ad 4)), (1, .int (nI i_)), (2, .int (nI x_)), (3, .int m_), (4, .int bag), (5, .int sm_), (6, .long w_), (8, .int dn_)]) hx hb dX1_goOn_356 hl (k := 2) rfl (nI_1 k) (by decide) rfl (fun ls hl => ?_)
                    refine lv_goto (tgt := 178) hx hb dX1_goOn_359 rfl ?_
                    exact ih_3 (k + 1) (goT σ row full kn so 4 (i_ + 1) (plF σ (en row i_)) (arrF σ x_ m_ (en row i_) + σ.calls (6 * (en row i_) + 5)) bag (sm_ - σ.calls (6 * (en row i_) + 4)) (prT σ kn w_ (en row i_) k) 0 t) (nI (k + 1)) ls _ _ (by omega) (by omega) (by rw [srtT, ← ht]; exact sor_not (fun q => h215 q.1) (Classical.not_not.mp h272)) rfl (lv_sub hl [0, 3, 4, 5, 6, 7, 8, 9, 10, 11, 12, 13] rfl) hP hS
                  · have h272 : ¬ leftF σ bag (en row i_) k = -1 := b01_n h272
                    refine lv_aload_n hx hb dX1_goOn_275 rfl (lv_at hl 6 rfl) ?_
                    refine lv_iload_n hx hb dX1_goOn_276 rfl (lv_at hl 7 rfl) ?_
                    refine lv_iconst (v := 1) hx hb dX1_goOn_277 rfl ?_
                    refine lv_iadd hx hb dX1_goOn_278 ?_
                    refine w_topi (nz_add rfl rfl) ?_
                    refine lv_aload hx hb dX1_goOn_279 (lv_at hl 5 rfl) ?_
                    refine dV (v := .int ((fun k0_ => σ.calls (6 * (en row i_) + k0_)) 0)) (As := []) (rest := [.int (nI (i_ + 1)), .ref (ad 4)]) ⟨hx, hb, hml, hown, hts⟩ (mt_X7_place l D dA (μ.cA (en row i_)) (μ.kA (en row i_)) (μ.lA (en row i_)) (total σ (en row i_)) (fun k0_ => σ.calls (6 * (en row i_) + k0_))) (cw_X1_X7_place hts ⟨Nat.le_of_ble_eq_true rfl, Nat.le_of_ble_eq_true rfl⟩) pB_bw (pB_now hK (pl2 (pl1 hP (hR.2.1 (en row i_) hc6 hTc).1.1 (hR.2.1 (en row i_) hc6 hTc).1.2) (pl1 hP (hR.2.1 (en row i_) hc6 hTc).2.1.1 (hR.2.1 (en row i_) hc6 hTc).2.1.2))) (va_recv hK (pl1 hP (hR.2.1 (en row i_) hc6 hTc).1.1 (hR.2.1 (en row i_) hc6 hTc).1.2) (ci := 5) (q0 := 0) rfl rfl) rfl hl.1 rfl (Nat.le_of_ble_eq_true rfl) dX1_goOn_281 ⟨Nat.le_of_ble_eq_true rfl, Nat.le_of_ble_eq_true rfl⟩ ?_
                    refine w_topi (y := nI (plF σ (en row i_))) ((hI.pl2 (en row i_) hc6).2) ?_
                    refine lv_iload hx hb dX1_goOn_284 (lv_at hl 3 rfl) ?_
                    refine lv_aload hx hb dX1_goOn_286 (lv_at hl 1 rfl) ?_
                    refine va_get (D := D) (ci := 6) (v := .int (σ.sorts (16 * (en row i_) + 4 * k + 1))) (C := RX9) (T := TX9) (N := 4) hx hb hts in_X9 hown hK (pl1 hP ((hR.2.1 (en row i_) hc6 hTc).2.2.2.2 k (show k < σ.sm (en row i_) by omega)).1 ((hR.2.1 (en row i_) hc6 hTc).2.2.2.2 k (show k < σ.sm (en row i_) by omega)).2) 0 rfl rfl 3 (by decide) (hts _ q731) (fun _ h9 => h9) rfl dX1_goOn_288 ?_
                    refine lv_iadd hx hb dX1_goOn_291 ?_
                    refine lv_aload hx hb dX1_goOn_292 (lv_at hl 1 rfl) ?_
                    refine lv_iload hx hb dX1_goOn_294 (lv_at hl 10 rfl) ?_
                    refine lv_aload_n hx hb dX1_goOn_296 rfl (lv_at hl 6 rfl) ?_
                    refine va_get (D := D) (ci := 2) (v := .int (ptF σ.tools 8)) (C := RX1) (T := TX1) (N := 11) hx hb hts in_X1 hown hK hP 5 rfl rfl 3 (by decide) (hts _ q132) (fun _ h9 => h9) rfl dX1_goOn_297 ?_
                    refine dU (v := .int (lefW bag (σ.sorts (16 * (en row i_) + 4 * k + 2)) (σ.sorts (16 * (en row i_) + 4 * k + 3)) (ptF σ.tools 8))) (As := [.int bag, .int (ptF σ.tools 8)]) (rest := [.int ((arrF σ x_ m_ (en row i_)) + (σ.sorts (16 * (en row i_) + 4 * k + 1))), .int (nI (plF σ (en row i_))), .int (nI (i_ + 1)), .ref (ad 4)]) ⟨hx, hb, hml, hown, hts⟩ (mt_X8_left_S l D dA (μ.sA (en row i_) k) (σ.sorts (16 * (en row i_) + 4 * k + 2)) (σ.sorts (16 * (en row i_) + 4 * k + 3)) (σ.sorts (16 * (en row i_) + 4 * k)) (σ.sorts (16 * (en row i_) + 4 * k + 1)) bag (ptF σ.tools 8)) (cw_X1_X8_left_S_X9 hts ⟨Nat.le_of_ble_eq_true rfl, Nat.le_of_ble_eq_true rfl⟩) pB_bw (pB_now hK (pl1 hP ((hR.2.1 (en row i_) hc6 hTc).2.2.2.2 k (show k < σ.sm (en row i_) by omega)).1 ((hR.2.1 (en row i_) hc6 hTc).2.2.2.2 k (show k < σ.sm (en row i_) by omega)).2)) (va_recv hK (pl1 hP ((hR.2.1 (en row i_) hc6 hTc).2.2.2.2 k (show k < σ.sm (en row i_) by omega)).1 ((hR.2.1 (en row i_) hc6 hTc).2.2.2.2 k (show k < σ.sm (en row i_) by omega)).2) (ci := 6) (q0 := 0) rfl rfl) rfl hl.1 rfl (Nat.le_of_ble_eq_true rfl) dX1_goOn_300 ⟨Nat.le_of_ble_eq_true rfl, Nat.le_of_ble_eq_true rfl⟩ ?_
                    refine w_topi (y := leftF σ bag (en row i_) k) (lef_eq hI hy hc6 (by omega) ((met_left hy (en row i_) k).mpr h272)) ?_
                    refine lv_iload hx hb dX1_goOn_303 (lv_at hl 11 rfl) ?_
                    refine lv_aload hx hb dX1_goOn_305 (lv_at hl 5 rfl) ?_
                    refine dV (v := .int ((fun k0_ => σ.calls (6 * (en row i_) + k0_)) 3)) (As := []) (rest := [.int sm_, .int (leftF σ bag (en row i_) k), .int ((arrF σ x_ m_ (en row i_)) + (σ.sorts (16 * (en row i_) + 4 * k + 1))), .int (nI (plF σ (en row i_))), .int (nI (i_ + 1)), .ref (ad 4)]) ⟨hx, hb, hml, hown, hts⟩ (mt_X7_worth l D dA (μ.cA (en row i_)) (μ.kA (en row i_)) (μ.lA (en row i_)) (total σ (en row i_)) (fun k0_ => σ.calls (6 * (en row i_) + k0_))) (cw_X1_X7_worth hts ⟨Nat.le_of_ble_eq_true rfl, Nat.le_of_ble_eq_true rfl⟩) pB_bw (pB_now hK (pl2 (pl1 hP (hR.2.1 (en row i_) hc6 hTc).1.1 (hR.2.1 (en row i_) hc6 hTc).1.2) (pl1 hP (hR.2.1 (en row i_) hc6 hTc).2.1.1 (hR.2.1 (en row i_) hc6 hTc).2.1.2))) (va_recv hK (pl1 hP (hR.2.1 (en row i_) hc6 hTc).1.1 (hR.2.1 (en row i_) hc6 hTc).1.2) (ci := 5) (q0 := 0) rfl rfl) rfl hl.1 rfl (Nat.le_of_ble_eq_true rfl) dX1_goOn_307 ⟨Nat.le_of_ble_eq_true rfl, Nat.le_of_ble_eq_true rfl⟩ ?_
                    refine w_topi (y := σ.calls (6 * (en row i_) + 3)) (rfl) ?_
                    refine lv_iadd hx hb dX1_goOn_310 ?_
                    refine lv_lload hx hb dX1_goOn_311 (lv_at hl 0 rfl) ?_
                    refine lv_iload hx hb dX1_goOn_313 (lv_at hl 13 rfl) ?_
                    refine dM (v := none) (σ' := σ) (ω' := ((full, row, nI j, ptF σ.tools 8, kn, so, (goT σ row full kn so 4 (i_ + 1) (plF σ (en row i_)) ((arrF σ x_ m_ (en row i_)) + (σ.sorts (16 * (en row i_) + 4 * k + 1))) (leftF σ bag (en row i_) k) (sm_ + (σ.calls (6 * (en row i_) + 3))) (prT σ kn w_ (en row i_) k) dn_ (t.1, t.2.1, t.2.2)).1, (goT σ row full kn so 4 (i_ + 1) (plF σ (en row i_)) ((arrF σ x_ m_ (en row i_)) + (σ.sorts (16 * (en row i_) + 4 * k + 1))) (leftF σ bag (en row i_) k) (sm_ + (σ.calls (6 * (en row i_) + 3))) (prT σ kn w_ (en row i_) k) dn_ (t.1, t.2.1, t.2.2)).2.1, ω.below, (goT σ row full kn so 4 (i_ + 1) (plF σ (en row i_)) ((arrF σ x_ m_ (en row i_)) + (σ.sorts (16 * (en row i_) + 4 * k + 1))) (leftF σ bag (en row i_) k) (sm_ + (σ.calls (6 * (en row i_) + 3))) (prT σ kn w_ (en row i_) k) dn_ (t.1, t.2.1, t.2.2)).2.2, ω.mb) : Om)) (As := [.int (nI (i_ + 1)), .int (nI (plF σ (en row i_))), .int ((arrF σ x_ m_ (en row i_)) + (σ.sorts (16 * (en row i_) + 4 * k + 1))), .int (leftF σ bag (en row i_) k), .int (sm_ + (σ.calls (6 * (en row i_) + 3))), .long (prT σ kn w_ (en row i_) k), .int dn_]) (rest := []) ⟨hx, hb, hml, hown, hts⟩ (mt_X1_goOn_4 l D dA x ad μ σ ((full, row, nI j, ptF σ.tools 8, kn, so, t.1, t.2.1, ω.below, t.2.2, ω.mb) : Om) hcD full row j kn so (i_ + 1) (plF σ (en row i_)) ((arrF σ x_ m_ (en row i_)) + (σ.sorts (16 * (en row i_) + 4 * k + 1))) (leftF σ bag (en row i_) k) (sm_ + (σ.calls (6 * (en row i_) + 3))) (prT σ kn w_ (en row i_) k) dn_ hI hR hpl (left_by hy h272) hf hoT (by omega) hj) (cw_X1_X1_goOn_4 hts ⟨Nat.le_of_ble_eq_true rfl, Nat.le_of_ble_eq_true rfl⟩) (cB_now hK hN hP) (va_recv hK hP (ci := 2) (q0 := 5) rfl rfl) rfl hl.1 rfl (Nat.le_of_ble_eq_true rfl) dX1_goOn_315 ⟨Nat.le_of_ble_eq_true rfl, Nat.le_of_ble_eq_true rfl⟩ hS (fun H locs hP hS => ?_)
                    change W p l e rmX1_goOn_5 s m args below meth c H locs 0 0 Q (F0 m 318 ls [])
                    refine lv_goto (tgt := 356) hx hb dX1_goOn_318 rfl ?_
                    refine lv_iinc (v := nI (k + 1)) (lv' := [(12, .int (nI (k + 1))), (14, .long (prT σ kn w_ (en row i_) k)), (13, .ref (μ.sA (en row i_) k)), (11, .int (arrF σ x_ m_ (en row i_))), (10, .int (m_ + (σ.ways (6 * x_ + (plF σ (en row i_)))))), (9, .ref (μ.cA (en row i_))), (0, .ref (ad 4)), (1, .int (nI i_)), (2, .int (nI x_)), (3, .int m_), (4, .int bag), (5, .int sm_), (6, .long w_), (8, .int dn_)]) hx hb dX1_goOn_356 hl (k := 2) rfl (nI_1 k) (by decide) rfl (fun ls hl => ?_)
                    refine lv_goto (tgt := 178) hx hb dX1_goOn_359 rfl ?_
                    exact ih_3 (k + 1) (goT σ row full kn so 4 (i_ + 1) (plF σ (en row i_)) (arrF σ x_ m_ (en row i_) + σ.sorts (16 * (en row i_) + 4 * k + 1)) (leftF σ bag (en row i_) k) (sm_ + σ.calls (6 * (en row i_) + 3)) (prT σ kn w_ (en row i_) k) dn_ t) (nI (k + 1)) ls _ _ (by omega) (by omega) (by rw [srtT, ← ht]; exact sor_met (fun q => h215 q.1) h272) rfl (lv_sub hl [0, 3, 4, 5, 6, 7, 8, 9, 10, 11, 12, 13] rfl) hP hS
                · have h239 : (nI (en row i_)) = kn := h239
                  exact absurd h239 h215
              · have h215 : (nI (en row i_)) = kn := h215
                refine lv_iload hx hb dX1_goOn_218 (lv_at hl 1 rfl) ?_
                refine lv_aload_n hx hb dX1_goOn_220 rfl (lv_at hl 5 rfl) ?_
                refine va_get (D := D) (ci := 2) (v := .int so) (C := RX1) (T := TX1) (N := 11) hx hb hts in_X1 hown hK hP 5 rfl rfl 5 (by decide) (hts _ q134) (fun _ h9 => h9) rfl dX1_goOn_221 ?_
                refine lv_icmp_eq (tgt := 230) hx hb dX1_goOn_224 rfl (fun h224 => ?_) (fun h224 => ?_)
                · have h224 : (nI k) = so := h224
                  refine lv_aload_n hx hb dX1_goOn_230 rfl (lv_at hl 5 rfl) ?_
                  refine lv_iload_n hx hb dX1_goOn_231 rfl (lv_at hl 6 rfl) ?_
                  refine dV (v := .int (entF row i_)) (As := [.int (nI i_)]) (rest := []) ⟨hx, hb, hml, hown, hts⟩ (mt_X1_at l D dA x ad μ σ ((full, row, nI j, ptF σ.tools 8, kn, so, t.1, t.2.1, ω.below, t.2.2, ω.mb) : Om) row i_ hI hR) (cw_X1_X1_at hts ⟨Nat.le_of_ble_eq_true rfl, Nat.le_of_ble_eq_true rfl⟩) cB_bw (cB_now hK hN hP) (va_recv hK hP (ci := 2) (q0 := 5) rfl rfl) rfl hl.1 rfl (Nat.le_of_ble_eq_true rfl) dX1_goOn_232 ⟨Nat.le_of_ble_eq_true rfl, Nat.le_of_ble_eq_true rfl⟩ ?_
                  refine w_topi (y := nI (en row i_)) (en_eq row i_) ?_
                  refine lv_aload_n hx hb dX1_goOn_235 rfl (lv_at hl 5 rfl) ?_
                  refine va_get (D := D) (ci := 2) (v := .int kn) (C := RX1) (T := TX1) (N := 11) hx hb hts in_X1 hown hK hP 5 rfl rfl 4 (by decide) (hts _ q133) (fun _ h9 => h9) rfl dX1_goOn_236 ?_
                  refine lv_icmp_ne (tgt := 247) hx hb dX1_goOn_239 rfl (fun h239 => ?_) (fun h239 => ?_)
                  · have h239 : ¬ ((nI (en row i_)) = kn) := h239
                    exact absurd h215 h239
                  · have h239 : (nI (en row i_)) = kn := h239
                    refine lv_lload hx hb dX1_goOn_242 (lv_at hl 11 rfl) ?_
                    refine w_topl (y := prT σ kn w_ (en row i_) k) ((by unfold prT; rw [if_pos h215])) ?_
                    refine lv_goto (tgt := 263) hx hb dX1_goOn_244 rfl ?_
                    refine lv_lstore (lv' := [(14, .long (prT σ kn w_ (en row i_) k)), (13, .ref (μ.sA (en row i_) k)), (12, .int (nI k)), (11, .int (arrF σ x_ m_ (en row i_))), (10, .int (m_ + (σ.ways (6 * x_ + (plF σ (en row i_)))))), (9, .ref (μ.cA (en row i_))), (0, .ref (ad 4)), (1, .int (nI i_)), (2, .int (nI x_)), (3, .int m_), (4, .int bag), (5, .int sm_), (6, .long w_), (8, .int dn_)]) hx hb dX1_goOn_263 hl (by decide) rfl (fun ls hl => ?_)
                    refine lv_aload hx hb dX1_goOn_265 (lv_at hl 1 rfl) ?_
                    refine lv_iload hx hb dX1_goOn_267 (lv_at hl 10 rfl) ?_
                    refine dU (v := .int (b01 (metP bag (σ.sorts (16 * (en row i_) + 4 * k + 2)) (σ.sorts (16 * (en row i_) + 4 * k + 3))))) (As := [.int bag]) (rest := []) ⟨hx, hb, hml, hown, hts⟩ (mt_X8_isMet_S l D dA (μ.sA (en row i_) k) (σ.sorts (16 * (en row i_) + 4 * k + 2)) (σ.sorts (16 * (en row i_) + 4 * k + 3)) (σ.sorts (16 * (en row i_) + 4 * k)) (σ.sorts (16 * (en row i_) + 4 * k + 1)) bag) (cw_X1_X8_isMet_S_X9 hts ⟨Nat.le_of_ble_eq_true rfl, Nat.le_of_ble_eq_true rfl⟩) pB_bw (pB_now hK (pl1 hP ((hR.2.1 (en row i_) hc6 hTc).2.2.2.2 k (show k < σ.sm (en row i_) by omega)).1 ((hR.2.1 (en row i_) hc6 hTc).2.2.2.2 k (show k < σ.sm (en row i_) by omega)).2)) (va_recv hK (pl1 hP ((hR.2.1 (en row i_) hc6 hTc).2.2.2.2 k (show k < σ.sm (en row i_) by omega)).1 ((hR.2.1 (en row i_) hc6 hTc).2.2.2.2 k (show k < σ.sm (en row i_) by omega)).2) (ci := 6) (q0 := 0) rfl rfl) rfl hl.1 rfl (Nat.le_of_ble_eq_true rfl) dX1_goOn_269 ⟨Nat.le_of_ble_eq_true rfl, Nat.le_of_ble_eq_true rfl⟩ ?_
                    refine w_topi (y := b01 (¬ leftF σ bag (en row i_) k = -1)) (b01_iff (met_left hy (en row i_) k)) ?_
                    refine lv_if_eq (tgt := 321) hx hb dX1_goOn_272 rfl (fun h272 => ?_) (fun h272 => ?_)
                    · have h272 : ¬ (¬ leftF σ bag (en row i_) k = -1) := b01_0.mp h272
                      refine lv_aload_n hx hb dX1_goOn_321 rfl (lv_at hl 6 rfl) ?_
                      refine lv_iload_n hx hb dX1_goOn_322 rfl (lv_at hl 7 rfl) ?_
                      refine lv_iconst (v := 1) hx hb dX1_goOn_323 rfl ?_
                      refine lv_iadd hx hb dX1_goOn_324 ?_
                      refine w_topi (nz_add rfl rfl) ?_
                      refine lv_aload hx hb dX1_goOn_325 (lv_at hl 5 rfl) ?_
                      refine dV (v := .int ((fun k0_ => σ.calls (6 * (en row i_) + k0_)) 0)) (As := []) (rest := [.int (nI (i_ + 1)), .ref (ad 4)]) ⟨hx, hb, hml, hown, hts⟩ (mt_X7_place l D dA (μ.cA (en row i_)) (μ.kA (en row i_)) (μ.lA (en row i_)) (total σ (en row i_)) (fun k0_ => σ.calls (6 * (en row i_) + k0_))) (cw_X1_X7_place hts ⟨Nat.le_of_ble_eq_true rfl, Nat.le_of_ble_eq_true rfl⟩) pB_bw (pB_now hK (pl2 (pl1 hP (hR.2.1 (en row i_) hc6 hTc).1.1 (hR.2.1 (en row i_) hc6 hTc).1.2) (pl1 hP (hR.2.1 (en row i_) hc6 hTc).2.1.1 (hR.2.1 (en row i_) hc6 hTc).2.1.2))) (va_recv hK (pl1 hP (hR.2.1 (en row i_) hc6 hTc).1.1 (hR.2.1 (en row i_) hc6 hTc).1.2) (ci := 5) (q0 := 0) rfl rfl) rfl hl.1 rfl (Nat.le_of_ble_eq_true rfl) dX1_goOn_327 ⟨Nat.le_of_ble_eq_true rfl, Nat.le_of_ble_eq_true rfl⟩ ?_
                      refine w_topi (y := nI (plF σ (en row i_))) ((hI.pl2 (en row i_) hc6).2) ?_
                      refine lv_iload hx hb dX1_goOn_330 (lv_at hl 3 rfl) ?_
                      refine lv_aload hx hb dX1_goOn_332 (lv_at hl 5 rfl) ?_
                      refine va_get (D := D) (ci := 5) (v := .ref (μ.kA (en row i_))) (C := RX7) (T := TX7) (N := 3) hx hb hts in_X7 hown hK (pl1 hP (hR.2.1 (en row i_) hc6 hTc).1.1 (hR.2.1 (en row i_) hc6 hTc).1.2) 0 rfl rfl 0 (by decide) (hts _ q697) (fun _ h9 => h9) rfl dX1_goOn_334 ?_
                      refine lv_iconst (v := 5) hx hb dX1_goOn_337 rfl ?_
                      refine wa_iald1 (v := σ.calls (6 * (en row i_) + 5)) hx hb hK (pl1 hP (hR.2.1 (en row i_) hc6 hTc).2.1.1 (hR.2.1 (en row i_) hc6 hTc).2.1.2) 0 0 rfl rfl (5) (rfl) (by omega) (by decide) (rfl) dX1_goOn_338 ?_
                      refine lv_iadd hx hb dX1_goOn_339 ?_
                      refine lv_iload hx hb dX1_goOn_340 (lv_at hl 10 rfl) ?_
                      refine lv_iload hx hb dX1_goOn_342 (lv_at hl 11 rfl) ?_
                      refine lv_aload hx hb dX1_goOn_344 (lv_at hl 5 rfl) ?_
                      refine dV (v := .int ((fun k0_ => σ.calls (6 * (en row i_) + k0_)) 4)) (As := []) (rest := [.int sm_, .int bag, .int ((arrF σ x_ m_ (en row i_)) + (σ.calls (6 * (en row i_) + 5))), .int (nI (plF σ (en row i_))), .int (nI (i_ + 1)), .ref (ad 4)]) ⟨hx, hb, hml, hown, hts⟩ (mt_X7_again l D dA (μ.cA (en row i_)) (μ.kA (en row i_)) (μ.lA (en row i_)) (total σ (en row i_)) (fun k0_ => σ.calls (6 * (en row i_) + k0_))) (cw_X1_X7_again hts ⟨Nat.le_of_ble_eq_true rfl, Nat.le_of_ble_eq_true rfl⟩) pB_bw (pB_now hK (pl2 (pl1 hP (hR.2.1 (en row i_) hc6 hTc).1.1 (hR.2.1 (en row i_) hc6 hTc).1.2) (pl1 hP (hR.2.1 (en row i_) hc6 hTc).2.1.1 (hR.2.1 (en row i_) hc6 hTc).2.1.2))) (va_recv hK (pl1 hP (hR.2.1 (en row i_) hc6 hTc).1.1 (hR.2.1 (en row i_) hc6 hTc).1.2) (ci := 5) (q0 := 0) rfl rfl) rfl hl.1 rfl (Nat.le_of_ble_eq_true rfl) dX1_goOn_346 ⟨Nat.le_of_ble_eq_true rfl, Nat.le_of_ble_eq_true rfl⟩ ?_
                      refine w_topi (y := σ.calls (6 * (en row i_) + 4)) (rfl) ?_
                      refine lv_isub hx hb dX1_goOn_349 ?_
                      refine lv_lload hx hb dX1_goOn_350 (lv_at hl 0 rfl) ?_
                      refine lv_iconst (v := 0) hx hb dX1_goOn_352 rfl ?_
                      refine dM (v := none) (σ' := σ) (ω' := ((full, row, nI j, ptF σ.tools 8, kn, so, (goT σ row full kn so 4 (i_ + 1) (plF σ (en row i_)) ((arrF σ x_ m_ (en row i_)) + (σ.calls (6 * (en row i_) + 5))) bag (sm_ - (σ.calls (6 * (en row i_) + 4))) (prT σ kn w_ (en row i_) k) 0 (t.1, t.2.1, t.2.2)).1, (goT σ row full kn so 4 (i_ + 1) (plF σ (en row i_)) ((arrF σ x_ m_ (en row i_)) + (σ.calls (6 * (en row i_) + 5))) bag (sm_ - (σ.calls (6 * (en row i_) + 4))) (prT σ kn w_ (en row i_) k) 0 (t.1, t.2.1, t.2.2)).2.1, ω.below, (goT σ row full kn so 4 (i_ + 1) (plF σ (en row i_)) ((arrF σ x_ m_ (en row i_)) + (σ.calls (6 * (en row i_) + 5))) bag (sm_ - (σ.calls (6 * (en row i_) + 4))) (prT σ kn w_ (en row i_) k) 0 (t.1, t.2.1, t.2.2)).2.2, ω.mb) : Om)) (As := [.int (nI (i_ + 1)), .int (nI (plF σ (en row i_))), .int ((arrF σ x_ m_ (en row i_)) + (σ.calls (6 * (en row i_) + 5))), .int bag, .int (sm_ - (σ.calls (6 * (en row i_) + 4))), .long (prT σ kn w_ (en row i_) k), .int 0]) (rest := []) ⟨hx, hb, hml, hown, hts⟩ (mt_X1_goOn_4 l D dA x ad μ σ ((full, row, nI j, ptF σ.tools 8, kn, so, t.1, t.2.1, ω.below, t.2.2, ω.mb) : Om) hcD full row j kn so (i_ + 1) (plF σ (en row i_)) ((arrF σ x_ m_ (en row i_)) + (σ.calls (6 * (en row i_) + 5))) bag (sm_ - (σ.calls (6 * (en row i_) + 4))) (prT σ kn w_ (en row i_) k) 0 hI hR hpl hy hf hoT (by omega) hj) (cw_X1_X1_goOn_4 hts ⟨Nat.le_of_ble_eq_true rfl, Nat.le_of_ble_eq_true rfl⟩) (cB_now hK hN hP) (va_recv hK hP (ci := 2) (q0 := 5) rfl rfl) rfl hl.1 rfl (Nat.le_of_ble_eq_true rfl) dX1_goOn_353 ⟨Nat.le_of_ble_eq_true rfl, Nat.le_of_ble_eq_true rfl⟩ hS (fun H locs hP hS => ?_)
                      change W p l e rmX1_goOn_5 s m args below meth c H locs 0 0 Q (F0 m 356 ls [])
                      refine lv_iinc (v := nI (k + 1)) (lv' := [(12, .int (nI (k + 1))), (14, .long (prT σ kn w_ (en row i_) k)), (13, .ref (μ.sA (en row i_) k)), (11, .int (arrF σ x_ m_ (en row i_))), (10, .int (m_ + (σ.ways (6 * x_ + (plF σ (en row i_)))))), (9, .ref (μ.cA (en row i_))), (0, .ref (ad 4)), (1, .int (nI i_)), (2, .int (nI x_)), (3, .int m_), (4, .int bag), (5, .int sm_), (6, .long w_), (8, .int dn_)]) hx hb dX1_goOn_356 hl (k := 2) rfl (nI_1 k) (by decide) rfl (fun ls hl => ?_)
                      refine lv_goto (tgt := 178) hx hb dX1_goOn_359 rfl ?_
                      exact ih_3 (k + 1) (goT σ row full kn so 4 (i_ + 1) (plF σ (en row i_)) (arrF σ x_ m_ (en row i_) + σ.calls (6 * (en row i_) + 5)) bag (sm_ - σ.calls (6 * (en row i_) + 4)) (prT σ kn w_ (en row i_) k) 0 t) (nI (k + 1)) ls _ _ (by omega) (by omega) (by rw [srtT, ← ht]; exact sor_not (fun q => q.2 h224) (Classical.not_not.mp h272)) rfl (lv_sub hl [0, 3, 4, 5, 6, 7, 8, 9, 10, 11, 12, 13] rfl) hP hS
                    · have h272 : ¬ leftF σ bag (en row i_) k = -1 := b01_n h272
                      refine lv_aload_n hx hb dX1_goOn_275 rfl (lv_at hl 6 rfl) ?_
                      refine lv_iload_n hx hb dX1_goOn_276 rfl (lv_at hl 7 rfl) ?_
                      refine lv_iconst (v := 1) hx hb dX1_goOn_277 rfl ?_
                      refine lv_iadd hx hb dX1_goOn_278 ?_
                      refine w_topi (nz_add rfl rfl) ?_
                      refine lv_aload hx hb dX1_goOn_279 (lv_at hl 5 rfl) ?_
                      refine dV (v := .int ((fun k0_ => σ.calls (6 * (en row i_) + k0_)) 0)) (As := []) (rest := [.int (nI (i_ + 1)), .ref (ad 4)]) ⟨hx, hb, hml, hown, hts⟩ (mt_X7_place l D dA (μ.cA (en row i_)) (μ.kA (en row i_)) (μ.lA (en row i_)) (total σ (en row i_)) (fun k0_ => σ.calls (6 * (en row i_) + k0_))) (cw_X1_X7_place hts ⟨Nat.le_of_ble_eq_true rfl, Nat.le_of_ble_eq_true rfl⟩) pB_bw (pB_now hK (pl2 (pl1 hP (hR.2.1 (en row i_) hc6 hTc).1.1 (hR.2.1 (en row i_) hc6 hTc).1.2) (pl1 hP (hR.2.1 (en row i_) hc6 hTc).2.1.1 (hR.2.1 (en row i_) hc6 hTc).2.1.2))) (va_recv hK (pl1 hP (hR.2.1 (en row i_) hc6 hTc).1.1 (hR.2.1 (en row i_) hc6 hTc).1.2) (ci := 5) (q0 := 0) rfl rfl) rfl hl.1 rfl (Nat.le_of_ble_eq_true rfl) dX1_goOn_281 ⟨Nat.le_of_ble_eq_true rfl, Nat.le_of_ble_eq_true rfl⟩ ?_
                      refine w_topi (y := nI (plF σ (en row i_))) ((hI.pl2 (en row i_) hc6).2) ?_
                      refine lv_iload hx hb dX1_goOn_284 (lv_at hl 3 rfl) ?_
                      refine lv_aload hx hb dX1_goOn_286 (lv_at hl 1 rfl) ?_
                      refine va_get (D := D) (ci := 6) (v := .int (σ.sorts (16 * (en row i_) + 4 * k + 1))) (C := RX9) (T := TX9) (N := 4) hx hb hts in_X9 hown hK (pl1 hP ((hR.2.1 (en row i_) hc6 hTc).2.2.2.2 k (show k < σ.sm (en row i_) by omega)).1 ((hR.2.1 (en row i_) hc6 hTc).2.2.2.2 k (show k < σ.sm (en row i_) by omega)).2) 0 rfl rfl 3 (by decide) (hts _ q731) (fun _ h9 => h9) rfl dX1_goOn_288 ?_
                      refine lv_iadd hx hb dX1_goOn_291 ?_
                      refine lv_aload hx hb dX1_goOn_292 (lv_at hl 1 rfl) ?_
                      refine lv_iload hx hb dX1_goOn_294 (lv_at hl 10 rfl) ?_
                      refine lv_aload_n hx hb dX1_goOn_296 rfl (lv_at hl 6 rfl) ?_
                      refine va_get (D := D) (ci := 2) (v := .int (ptF σ.tools 8)) (C := RX1) (T := TX1) (N := 11) hx hb hts in_X1 hown hK hP 5 rfl rfl 3 (by decide) (hts _ q132) (fun _ h9 => h9) rfl dX1_goOn_297 ?_
                      refine dU (v := .int (lefW bag (σ.sorts (16 * (en row i_) + 4 * k + 2)) (σ.sorts (16 * (en row i_) + 4 * k + 3)) (ptF σ.tools 8))) (As := [.int bag, .int (ptF σ.tools 8)]) (rest := [.int ((arrF σ x_ m_ (en row i_)) + (σ.sorts (16 * (en row i_) + 4 * k + 1))), .int (nI (plF σ (en row i_))), .int (nI (i_ + 1)), .ref (ad 4)]) ⟨hx, hb, hml, hown, hts⟩ (mt_X8_left_S l D dA (μ.sA (en row i_) k) (σ.sorts (16 * (en row i_) + 4 * k + 2)) (σ.sorts (16 * (en row i_) + 4 * k + 3)) (σ.sorts (16 * (en row i_) + 4 * k)) (σ.sorts (16 * (en row i_) + 4 * k + 1)) bag (ptF σ.tools 8)) (cw_X1_X8_left_S_X9 hts ⟨Nat.le_of_ble_eq_true rfl, Nat.le_of_ble_eq_true rfl⟩) pB_bw (pB_now hK (pl1 hP ((hR.2.1 (en row i_) hc6 hTc).2.2.2.2 k (show k < σ.sm (en row i_) by omega)).1 ((hR.2.1 (en row i_) hc6 hTc).2.2.2.2 k (show k < σ.sm (en row i_) by omega)).2)) (va_recv hK (pl1 hP ((hR.2.1 (en row i_) hc6 hTc).2.2.2.2 k (show k < σ.sm (en row i_) by omega)).1 ((hR.2.1 (en row i_) hc6 hTc).2.2.2.2 k (show k < σ.sm (en row i_) by omega)).2) (ci := 6) (q0 := 0) rfl rfl) rfl hl.1 rfl (Nat.le_of_ble_eq_true rfl) dX1_goOn_300 ⟨Nat.le_of_ble_eq_true rfl, Nat.le_of_ble_eq_true rfl⟩ ?_
                      refine w_topi (y := leftF σ bag (en row i_) k) (lef_eq hI hy hc6 (by omega) ((met_left hy (en row i_) k).mpr h272)) ?_
                      refine lv_iload hx hb dX1_goOn_303 (lv_at hl 11 rfl) ?_
                      refine lv_aload hx hb dX1_goOn_305 (lv_at hl 5 rfl) ?_
                      refine dV (v := .int ((fun k0_ => σ.calls (6 * (en row i_) + k0_)) 3)) (As := []) (rest := [.int sm_, .int (leftF σ bag (en row i_) k), .int ((arrF σ x_ m_ (en row i_)) + (σ.sorts (16 * (en row i_) + 4 * k + 1))), .int (nI (plF σ (en row i_))), .int (nI (i_ + 1)), .ref (ad 4)]) ⟨hx, hb, hml, hown, hts⟩ (mt_X7_worth l D dA (μ.cA (en row i_)) (μ.kA (en row i_)) (μ.lA (en row i_)) (total σ (en row i_)) (fun k0_ => σ.calls (6 * (en row i_) + k0_))) (cw_X1_X7_worth hts ⟨Nat.le_of_ble_eq_true rfl, Nat.le_of_ble_eq_true rfl⟩) pB_bw (pB_now hK (pl2 (pl1 hP (hR.2.1 (en row i_) hc6 hTc).1.1 (hR.2.1 (en row i_) hc6 hTc).1.2) (pl1 hP (hR.2.1 (en row i_) hc6 hTc).2.1.1 (hR.2.1 (en row i_) hc6 hTc).2.1.2))) (va_recv hK (pl1 hP (hR.2.1 (en row i_) hc6 hTc).1.1 (hR.2.1 (en row i_) hc6 hTc).1.2) (ci := 5) (q0 := 0) rfl rfl) rfl hl.1 rfl (Nat.le_of_ble_eq_true rfl) dX1_goOn_307 ⟨Nat.le_of_ble_eq_true rfl, Nat.le_of_ble_eq_true rfl⟩ ?_
                      refine w_topi (y := σ.calls (6 * (en row i_) + 3)) (rfl) ?_
                      refine lv_iadd hx hb dX1_goOn_310 ?_
                      refine lv_lload hx hb dX1_goOn_311 (lv_at hl 0 rfl) ?_
                      refine lv_iload hx hb dX1_goOn_313 (lv_at hl 13 rfl) ?_
                      refine dM (v := none) (σ' := σ) (ω' := ((full, row, nI j, ptF σ.tools 8, kn, so, (goT σ row full kn so 4 (i_ + 1) (plF σ (en row i_)) ((arrF σ x_ m_ (en row i_)) + (σ.sorts (16 * (en row i_) + 4 * k + 1))) (leftF σ bag (en row i_) k) (sm_ + (σ.calls (6 * (en row i_) + 3))) (prT σ kn w_ (en row i_) k) dn_ (t.1, t.2.1, t.2.2)).1, (goT σ row full kn so 4 (i_ + 1) (plF σ (en row i_)) ((arrF σ x_ m_ (en row i_)) + (σ.sorts (16 * (en row i_) + 4 * k + 1))) (leftF σ bag (en row i_) k) (sm_ + (σ.calls (6 * (en row i_) + 3))) (prT σ kn w_ (en row i_) k) dn_ (t.1, t.2.1, t.2.2)).2.1, ω.below, (goT σ row full kn so 4 (i_ + 1) (plF σ (en row i_)) ((arrF σ x_ m_ (en row i_)) + (σ.sorts (16 * (en row i_) + 4 * k + 1))) (leftF σ bag (en row i_) k) (sm_ + (σ.calls (6 * (en row i_) + 3))) (prT σ kn w_ (en row i_) k) dn_ (t.1, t.2.1, t.2.2)).2.2, ω.mb) : Om)) (As := [.int (nI (i_ + 1)), .int (nI (plF σ (en row i_))), .int ((arrF σ x_ m_ (en row i_)) + (σ.sorts (16 * (en row i_) + 4 * k + 1))), .int (leftF σ bag (en row i_) k), .int (sm_ + (σ.calls (6 * (en row i_) + 3))), .long (prT σ kn w_ (en row i_) k), .int dn_]) (rest := []) ⟨hx, hb, hml, hown, hts⟩ (mt_X1_goOn_4 l D dA x ad μ σ ((full, row, nI j, ptF σ.tools 8, kn, so, t.1, t.2.1, ω.below, t.2.2, ω.mb) : Om) hcD full row j kn so (i_ + 1) (plF σ (en row i_)) ((arrF σ x_ m_ (en row i_)) + (σ.sorts (16 * (en row i_) + 4 * k + 1))) (leftF σ bag (en row i_) k) (sm_ + (σ.calls (6 * (en row i_) + 3))) (prT σ kn w_ (en row i_) k) dn_ hI hR hpl (left_by hy h272) hf hoT (by omega) hj) (cw_X1_X1_goOn_4 hts ⟨Nat.le_of_ble_eq_true rfl, Nat.le_of_ble_eq_true rfl⟩) (cB_now hK hN hP) (va_recv hK hP (ci := 2) (q0 := 5) rfl rfl) rfl hl.1 rfl (Nat.le_of_ble_eq_true rfl) dX1_goOn_315 ⟨Nat.le_of_ble_eq_true rfl, Nat.le_of_ble_eq_true rfl⟩ hS (fun H locs hP hS => ?_)
                      change W p l e rmX1_goOn_5 s m args below meth c H locs 0 0 Q (F0 m 318 ls [])
                      refine lv_goto (tgt := 356) hx hb dX1_goOn_318 rfl ?_
                      refine lv_iinc (v := nI (k + 1)) (lv' := [(12, .int (nI (k + 1))), (14, .long (prT σ kn w_ (en row i_) k)), (13, .ref (μ.sA (en row i_) k)), (11, .int (arrF σ x_ m_ (en row i_))), (10, .int (m_ + (σ.ways (6 * x_ + (plF σ (en row i_)))))), (9, .ref (μ.cA (en row i_))), (0, .ref (ad 4)), (1, .int (nI i_)), (2, .int (nI x_)), (3, .int m_), (4, .int bag), (5, .int sm_), (6, .long w_), (8, .int dn_)]) hx hb dX1_goOn_356 hl (k := 2) rfl (nI_1 k) (by decide) rfl (fun ls hl => ?_)
                      refine lv_goto (tgt := 178) hx hb dX1_goOn_359 rfl ?_
                      exact ih_3 (k + 1) (goT σ row full kn so 4 (i_ + 1) (plF σ (en row i_)) (arrF σ x_ m_ (en row i_) + σ.sorts (16 * (en row i_) + 4 * k + 1)) (leftF σ bag (en row i_) k) (sm_ + σ.calls (6 * (en row i_) + 3)) (prT σ kn w_ (en row i_) k) dn_ t) (nI (k + 1)) ls _ _ (by omega) (by omega) (by rw [srtT, ← ht]; exact sor_met (fun q => q.2 h224) h272) rfl (lv_sub hl [0, 3, 4, 5, 6, 7, 8, 9, 10, 11, 12, 13] rfl) hP hS
                · have h224 : ¬ ((nI k) = so) := h224
                  refine lv_goto (tgt := 356) hx hb dX1_goOn_227 rfl ?_
                  refine lv_iinc (v := nI (k + 1)) (lv' := [(12, .int (nI (k + 1))), (13, .ref (μ.sA (en row i_) k)), (11, .int (arrF σ x_ m_ (en row i_))), (10, .int (m_ + (σ.ways (6 * x_ + (plF σ (en row i_)))))), (9, .ref (μ.cA (en row i_))), (0, .ref (ad 4)), (1, .int (nI i_)), (2, .int (nI x_)), (3, .int m_), (4, .int bag), (5, .int sm_), (6, .long w_), (8, .int dn_)]) hx hb dX1_goOn_356 hl (k := 1) rfl (nI_1 k) (by decide) rfl (fun ls hl => ?_)
                  refine lv_goto (tgt := 178) hx hb dX1_goOn_359 rfl ?_
                  exact ih_3 (k + 1) t (nI (k + 1)) ls _ _ (by omega) (by omega) (by rw [srtT, ← ht]; exact sor_skip h215 h224) rfl (lv_sub hl [0, 2, 3, 4, 5, 6, 7, 8, 9, 10, 11, 12] rfl) hP hS
        exact hL178_1 _ 0 (ω.brings, ω.done, ω.end_) 0 ls _ _ (Nat.lt_succ_self _) (by omega) rfl rfl (lv_sub hl [0, 1, 2, 3, 4, 5, 6, 7, 8, 9, 10, 11] rfl) hP hS
      · have h144 : (bgF σ x_ m_ (en row i_)) = (-1) := h144
        have hlt := (bg_late hI hc6).mp h144
        refine lv_aload_n hx hb dX1_goOn_147 rfl (lv_at hl 3 rfl) ?_
        refine lv_iload_n hx hb dX1_goOn_148 rfl (lv_at hl 4 rfl) ?_
        refine lv_iconst (v := 1) hx hb dX1_goOn_149 rfl ?_
        refine lv_iadd hx hb dX1_goOn_150 ?_
        refine w_topi (nz_add rfl rfl) ?_
        refine lv_aload hx hb dX1_goOn_151 (lv_at hl 2 rfl) ?_
        refine dV (v := .int ((fun k0_ => σ.calls (6 * (en row i_) + k0_)) 0)) (As := []) (rest := [.int (nI (i_ + 1)), .ref (ad 4)]) ⟨hx, hb, hml, hown, hts⟩ (mt_X7_place l D dA (μ.cA (en row i_)) (μ.kA (en row i_)) (μ.lA (en row i_)) (total σ (en row i_)) (fun k0_ => σ.calls (6 * (en row i_) + k0_))) (cw_X1_X7_place hts ⟨Nat.le_of_ble_eq_true rfl, Nat.le_of_ble_eq_true rfl⟩) pB_bw (pB_now hK (pl2 (pl1 hP (hR.2.1 (en row i_) hc6 hTc).1.1 (hR.2.1 (en row i_) hc6 hTc).1.2) (pl1 hP (hR.2.1 (en row i_) hc6 hTc).2.1.1 (hR.2.1 (en row i_) hc6 hTc).2.1.2))) (va_recv hK (pl1 hP (hR.2.1 (en row i_) hc6 hTc).1.1 (hR.2.1 (en row i_) hc6 hTc).1.2) (ci := 5) (q0 := 0) rfl rfl) rfl hl.1 rfl (Nat.le_of_ble_eq_true rfl) dX1_goOn_153 ⟨Nat.le_of_ble_eq_true rfl, Nat.le_of_ble_eq_true rfl⟩ ?_
        refine w_topi (y := nI (plF σ (en row i_))) ((hI.pl2 (en row i_) hc6).2) ?_
        refine lv_iload hx hb dX1_goOn_156 (lv_at hl 1 rfl) ?_
        refine lv_iload hx hb dX1_goOn_158 (lv_at hl 7 rfl) ?_
        refine lv_iload hx hb dX1_goOn_160 (lv_at hl 8 rfl) ?_
        refine lv_aload hx hb dX1_goOn_162 (lv_at hl 2 rfl) ?_
        refine dV (v := .int ((fun k0_ => σ.calls (6 * (en row i_) + k0_)) 4)) (As := []) (rest := [.int sm_, .int bag, .int (m_ + (σ.ways (6 * x_ + (plF σ (en row i_))))), .int (nI (plF σ (en row i_))), .int (nI (i_ + 1)), .ref (ad 4)]) ⟨hx, hb, hml, hown, hts⟩ (mt_X7_again l D dA (μ.cA (en row i_)) (μ.kA (en row i_)) (μ.lA (en row i_)) (total σ (en row i_)) (fun k0_ => σ.calls (6 * (en row i_) + k0_))) (cw_X1_X7_again hts ⟨Nat.le_of_ble_eq_true rfl, Nat.le_of_ble_eq_true rfl⟩) pB_bw (pB_now hK (pl2 (pl1 hP (hR.2.1 (en row i_) hc6 hTc).1.1 (hR.2.1 (en row i_) hc6 hTc).1.2) (pl1 hP (hR.2.1 (en row i_) hc6 hTc).2.1.1 (hR.2.1 (en row i_) hc6 hTc).2.1.2))) (va_recv hK (pl1 hP (hR.2.1 (en row i_) hc6 hTc).1.1 (hR.2.1 (en row i_) hc6 hTc).1.2) (ci := 5) (q0 := 0) rfl rfl) rfl hl.1 rfl (Nat.le_of_ble_eq_true rfl) dX1_goOn_164 ⟨Nat.le_of_ble_eq_true rfl, Nat.le_of_ble_eq_true rfl⟩ ?_
        refine w_topi (y := σ.calls (6 * (en row i_) + 4)) (rfl) ?_
        refine lv_isub hx hb dX1_goOn_167 ?_
        refine lv_lload hx hb dX1_goOn_168 (lv_at hl 9 rfl) ?_
        refine lv_iconst (v := 0) hx hb dX1_goOn_170 rfl ?_
        refine dM (v := none) (σ' := σ) (ω' := ((full, row, nI j, ptF σ.tools 8, kn, so, (goT σ row full kn so 4 (i_ + 1) (plF σ (en row i_)) (m_ + (σ.ways (6 * x_ + (plF σ (en row i_))))) bag (sm_ - (σ.calls (6 * (en row i_) + 4))) w_ 0 (ω.brings, ω.done, ω.end_)).1, (goT σ row full kn so 4 (i_ + 1) (plF σ (en row i_)) (m_ + (σ.ways (6 * x_ + (plF σ (en row i_))))) bag (sm_ - (σ.calls (6 * (en row i_) + 4))) w_ 0 (ω.brings, ω.done, ω.end_)).2.1, ω.below, (goT σ row full kn so 4 (i_ + 1) (plF σ (en row i_)) (m_ + (σ.ways (6 * x_ + (plF σ (en row i_))))) bag (sm_ - (σ.calls (6 * (en row i_) + 4))) w_ 0 (ω.brings, ω.done, ω.end_)).2.2, ω.mb) : Om)) (As := [.int (nI (i_ + 1)), .int (nI (plF σ (en row i_))), .int (m_ + (σ.ways (6 * x_ + (plF σ (en row i_))))), .int bag, .int (sm_ - (σ.calls (6 * (en row i_) + 4))), .long w_, .int 0]) (rest := []) ⟨hx, hb, hml, hown, hts⟩ (mt_X1_goOn_4 l D dA x ad μ σ ((full, row, nI j, ptF σ.tools 8, kn, so, ω.brings, ω.done, ω.below, ω.end_, ω.mb) : Om) hcD full row j kn so (i_ + 1) (plF σ (en row i_)) (m_ + (σ.ways (6 * x_ + (plF σ (en row i_))))) bag (sm_ - (σ.calls (6 * (en row i_) + 4))) w_ 0 hI hR hpl hy hf hoT (by omega) hj) (cw_X1_X1_goOn_4 hts ⟨Nat.le_of_ble_eq_true rfl, Nat.le_of_ble_eq_true rfl⟩) (cB_now hK hN hP) (va_recv hK hP (ci := 2) (q0 := 5) rfl rfl) rfl hl.1 rfl (Nat.le_of_ble_eq_true rfl) dX1_goOn_171 ⟨Nat.le_of_ble_eq_true rfl, Nat.le_of_ble_eq_true rfl⟩ hS (fun H locs hP hS => ?_)
        change W p l e rmX1_goOn_5 s m args below meth c H locs 0 0 Q (F0 m 174 ls [])
        exact cm_v hQ hx hb hr hlocks hK hN hP hS (rfl) (by rw [goT_l h63 hlt]) dX1_goOn_174
    · have h63 : (en row i_) = 6 := (nz_eq (a := en row i_) (b := 6) rfl rfl (by omega) (by omega)).mp h63
      refine lv_aload_n hx hb dX1_goOn_66 rfl (lv_at hl 0 rfl) ?_
      refine lv_iload_n hx hb dX1_goOn_67 rfl (lv_at hl 1 rfl) ?_
      refine lv_iconst (v := 1) hx hb dX1_goOn_68 rfl ?_
      refine lv_iadd hx hb dX1_goOn_69 ?_
      refine w_topi (nz_add rfl rfl) ?_
      refine lv_iconst (v := 0) hx hb dX1_goOn_70 rfl ?_
      refine lv_iload_n hx hb dX1_goOn_71 rfl (lv_at hl 3 rfl) ?_
      refine lv_aload_n hx hb dX1_goOn_72 rfl (lv_at hl 0 rfl) ?_
      refine va_get (D := D) (ci := 2) (v := .ref x) (C := RX1) (T := TX1) (N := 11) hx hb hts in_X1 hown hK hP 5 rfl rfl 10 (by decide) (hts _ q143) (fun _ h9 => h9) rfl dX1_goOn_73 ?_
      refine va_getN (D := D) (ci := 1) (v := .ref (ad 1)) (C := RX0) (T := TX0) (N := 11) hx hb hts in_X0 hown hK hP 0 rfl rfl 4 (by decide) (va_Nw.use rfl hN.2.2.1) (fun _ h9 => h9) rfl dX1_goOn_76 ?_
      refine lv_iload_n hx hb dX1_goOn_79 rfl (lv_at hl 2 rfl) ?_
      refine wa_aald (v := .ref (ad (6 + x_))) hx hb hK hP 2 4 rfl rfl rfl (x_) (rfl) (by omega) (by decide) (rfl) dX1_goOn_80 ?_
      refine lv_iconst (v := 0) hx hb dX1_goOn_81 rfl ?_
      refine wa_sald (v := σ.ways (6 * x_ + 0)) hx hb hK (way_row hP (i := x_) (by omega)) 0 2 rfl rfl (0) (rfl) (by omega) (by decide) (rfl) dX1_goOn_82 ?_
      refine lv_iadd hx hb dX1_goOn_83 ?_
      refine lv_aload_n hx hb dX1_goOn_84 rfl (lv_at hl 0 rfl) ?_
      refine va_get (D := D) (ci := 2) (v := .int full) (C := RX1) (T := TX1) (N := 11) hx hb hts in_X1 hown hK hP 5 rfl rfl 0 (by decide) (hts _ q129) (fun _ h9 => h9) rfl dX1_goOn_85 ?_
      refine lv_iload hx hb dX1_goOn_88 (lv_at hl 5 rfl) ?_
      refine lv_lload hx hb dX1_goOn_90 (lv_at hl 6 rfl) ?_
      refine lv_iload hx hb dX1_goOn_92 (lv_at hl 7 rfl) ?_
      refine dM (v := none) (σ' := σ) (ω' := ((full, row, nI j, ptF σ.tools 8, kn, so, (goT σ row full kn so 4 (i_ + 1) 0 (m_ + (σ.ways (6 * x_ + 0))) full sm_ w_ dn_ (ω.brings, ω.done, ω.end_)).1, (goT σ row full kn so 4 (i_ + 1) 0 (m_ + (σ.ways (6 * x_ + 0))) full sm_ w_ dn_ (ω.brings, ω.done, ω.end_)).2.1, ω.below, (goT σ row full kn so 4 (i_ + 1) 0 (m_ + (σ.ways (6 * x_ + 0))) full sm_ w_ dn_ (ω.brings, ω.done, ω.end_)).2.2, ω.mb) : Om)) (As := [.int (nI (i_ + 1)), .int 0, .int (m_ + (σ.ways (6 * x_ + 0))), .int full, .int sm_, .long w_, .int dn_]) (rest := []) ⟨hx, hb, hml, hown, hts⟩ (mt_X1_goOn_4 l D dA x ad μ σ ((full, row, nI j, ptF σ.tools 8, kn, so, ω.brings, ω.done, ω.below, ω.end_, ω.mb) : Om) hcD full row j kn so (i_ + 1) 0 (m_ + (σ.ways (6 * x_ + 0))) full sm_ w_ dn_ hI hR (by decide) hf hf hoT (by omega) hj) (cw_X1_X1_goOn_4 hts ⟨Nat.le_of_ble_eq_true rfl, Nat.le_of_ble_eq_true rfl⟩) (cB_now hK hN hP) (va_recv hK hP (ci := 2) (q0 := 5) rfl rfl) rfl hl.1 rfl (Nat.le_of_ble_eq_true rfl) dX1_goOn_94 ⟨Nat.le_of_ble_eq_true rfl, Nat.le_of_ble_eq_true rfl⟩ hS (fun H locs hP hS => ?_)
      change W p l e rmX1_goOn_5 s m args below meth c H locs 0 0 Q (F0 m 97 ls [])
      exact cm_v hQ hx hb hr hlocks hK hN hP hS (rfl) (by rw [goT_h h63]) dX1_goOn_97
  · have h5 : i_ = j := (nz_eq (a := i_) (b := j) rfl rfl (by omega) (by omega)).mp h5
    exact absurd h5 (by omega)

theorem cw_X1_X1_goOn_5 {R : Room} {s : State} {args : Array Value} (hts : ∀ w ∈ lw_all, w.before args s = true) (hR : rmX1_goOn_5.frames + 1 ≤ R.frames ∧ 8 + (16 + 11) + rmX1_goOn_5.locals ≤ R.locals) : CallW R s args RX1 RX1 66 yX1_goOn cX1_goOn 16 none (ws_ yX1_goOn cX1_goOn 16 none) rmX1_goOn_5 0 0 7 := cwV 7 hts (lw_V q944 q946 qs26 q78 q947) rfl rfl rfl (by decide +kernel) hR
def rmX1_goOn_6 : Room := { frames := 8, cells := 0, slots := 0, locals := 239 }
set_option maxHeartbeats 1000000 in
theorem mt_X1_goOn_6 (l : Launch) (D : va_G) (dA : Nat → ClassId) (x : Nat) (ad : Nat → Nat) (μ : Lay) (σ : St) (ω : Om) (hcD : cD x ad μ) (full : Int32) (row : Int32) (j : Nat) (kn : Int32) (so : Int32) (i_ : Nat) (x_ : Nat) (m_ : Int32) (bag : Int32) (sm_ : Int32) (w_ : Int64) (dn_ : Int32) (hI : Inv σ) (hR : Rel dA μ σ) (hx6 : x_ < 6) (hy : byP bag) (hf : byP full) (hoT : okT σ row j) (hij : i_ + 6 = j) (hj : j ≤ 6) : Met l yX1_goOn (ws_ yX1_goOn cX1_goOn 16 none) rmX1_goOn_6 (va_Pc [.ref (ad 4), .int (nI i_), .int (nI x_), .int m_, .int bag, .int sm_, .long w_, .int dn_] (cB D dA x ad μ σ ((full, row, nI j, ptF σ.tools 8, kn, so, ω.brings, ω.done, ω.below, ω.end_, ω.mb) : Om))) (cQ none D dA x ad μ σ ((full, row, nI j, ptF σ.tools 8, kn, so, (goT σ row full kn so 6 i_ x_ m_ bag sm_ w_ dn_ (ω.brings, ω.done, ω.end_)).1, (goT σ row full kn so 6 i_ x_ m_ bag sm_ w_ dn_ (ω.brings, ω.done, ω.end_)).2.1, ω.below, (goT σ row full kn so 6 i_ x_ m_ bag sm_ w_ dn_ (ω.brings, ω.done, ω.end_)).2.2, ω.mb) : Om)) 0 0 (cA x ad μ) := by
  refine w_start (by decide) (Nat.le_of_ble_eq_true rfl) ?_
  intro p e s m args below meth c Q ls hQ hx hb hr hlocks hml hown hnm hts hB hl
  have hown : s.vm.findClass RX1 = some m.cls := hown
  have hl : lv_has ls 16 [(0, .ref (ad 4)), (1, .int (nI i_)), (2, .int (nI x_)), (3, .int m_), (4, .int bag), (5, .int sm_), (6, .long w_), (8, .int dn_)] := hl
  obtain ⟨hP, hK, hN⟩ := hB
  have hP : va_P D vwCl (cW dA x ad μ σ ((full, row, nI j, ptF σ.tools 8, kn, so, ω.brings, ω.done, ω.below, ω.end_, ω.mb) : Om)) s.heap := hP
  have hS : va_S (cA x ad μ) s.heap s.heap [] := va_S.rf
  refine lv_iload_n hx hb dX1_goOn_0 rfl (lv_at hl 1 rfl) ?_
  refine lv_aload_n hx hb dX1_goOn_1 rfl (lv_at hl 0 rfl) ?_
  refine va_get (D := D) (ci := 2) (v := .int (nI j)) (C := RX1) (T := TX1) (N := 11) hx hb hts in_X1 hown hK hP 5 rfl rfl 2 (by decide) (hts _ q131) (fun _ h9 => h9) rfl dX1_goOn_2 ?_
  refine lv_icmp_ne (tgt := 56) hx hb dX1_goOn_5 rfl (fun h5 => ?_) (fun h5 => ?_)
  · have h5 : ¬ (i_ = j) := fun z9 => h5 ((nz_eq (a := i_) (b := j) rfl rfl (by omega) (by omega)).mpr z9)
    have hen := en_lt row i_
    refine lv_aload_n hx hb dX1_goOn_56 rfl (lv_at hl 0 rfl) ?_
    refine lv_iload_n hx hb dX1_goOn_57 rfl (lv_at hl 1 rfl) ?_
    refine dV (v := .int (entF row i_)) (As := [.int (nI i_)]) (rest := []) ⟨hx, hb, hml, hown, hts⟩ (mt_X1_at l D dA x ad μ σ ((full, row, nI j, ptF σ.tools 8, kn, so, ω.brings, ω.done, ω.below, ω.end_, ω.mb) : Om) row i_ hI hR) (cw_X1_X1_at hts ⟨Nat.le_of_ble_eq_true rfl, Nat.le_of_ble_eq_true rfl⟩) cB_bw (cB_now hK hN hP) (va_recv hK hP (ci := 2) (q0 := 5) rfl rfl) rfl hl.1 rfl (Nat.le_of_ble_eq_true rfl) dX1_goOn_58 ⟨Nat.le_of_ble_eq_true rfl, Nat.le_of_ble_eq_true rfl⟩ ?_
    refine w_topi (y := nI (en row i_)) (en_eq row i_) ?_
    refine lv_bipush (v := 6) hx hb dX1_goOn_61 rfl ?_
    refine lv_icmp_ne (tgt := 98) hx hb dX1_goOn_63 rfl (fun h63 => ?_) (fun h63 => ?_)
    · have h63 : ¬ ((en row i_) = 6) := fun z9 => h63 ((nz_eq (a := en row i_) (b := 6) rfl rfl (by omega) (by omega)).mpr z9)
      obtain ⟨hc6, hTc, hs0⟩ := (hoT i_ (by omega)).resolve_left h63
      have hsm := hI.sm (en row i_) hc6
      have hpl := (hI.pl2 (en row i_) hc6).1
      refine lv_aload_n hx hb dX1_goOn_98 rfl (lv_at hl 0 rfl) ?_
      refine va_get (D := D) (ci := 2) (v := .ref x) (C := RX1) (T := TX1) (N := 11) hx hb hts in_X1 hown hK hP 5 rfl rfl 10 (by decide) (hts _ q143) (fun _ h9 => h9) rfl dX1_goOn_99 ?_
      refine va_getN (D := D) (ci := 1) (v := .ref (ad 2)) (C := RX0) (T := TX0) (N := 11) hx hb hts in_X0 hown hK hP 0 rfl rfl 5 (by decide) (va_Nw.use rfl hN.2.2.2.1) (fun _ h9 => h9) rfl dX1_goOn_102 ?_
      refine lv_aload_n hx hb dX1_goOn_105 rfl (lv_at hl 0 rfl) ?_
      refine lv_iload_n hx hb dX1_goOn_106 rfl (lv_at hl 1 rfl) ?_
      refine dV (v := .int (entF row i_)) (As := [.int (nI i_)]) (rest := [.ref (ad 2)]) ⟨hx, hb, hml, hown, hts⟩ (mt_X1_at l D dA x ad μ σ ((full, row, nI j, ptF σ.tools 8, kn, so, ω.brings, ω.done, ω.below, ω.end_, ω.mb) : Om) row i_ hI hR) (cw_X1_X1_at hts ⟨Nat.le_of_ble_eq_true rfl, Nat.le_of_ble_eq_true rfl⟩) cB_bw (cB_now hK hN hP) (va_recv hK hP (ci := 2) (q0 := 5) rfl rfl) rfl hl.1 rfl (Nat.le_of_ble_eq_true rfl) dX1_goOn_107 ⟨Nat.le_of_ble_eq_true rfl, Nat.le_of_ble_eq_true rfl⟩ ?_
      refine w_topi (y := nI (en row i_)) (en_eq row i_) ?_
      refine wa_aald (v := .ref (μ.cA (en row i_))) hx hb hK hP 3 5 rfl rfl rfl (en row i_) (rfl) (by omega) (by decide) (cO_t hTc) dX1_goOn_110 ?_
      refine lv_astore (lv' := [(9, .ref (μ.cA (en row i_))), (0, .ref (ad 4)), (1, .int (nI i_)), (2, .int (nI x_)), (3, .int m_), (4, .int bag), (5, .int sm_), (6, .long w_), (8, .int dn_)]) hx hb dX1_goOn_111 hl (by decide) rfl (fun ls hl => ?_)
      refine lv_iload_n hx hb dX1_goOn_113 rfl (lv_at hl 4 rfl) ?_
      refine lv_aload_n hx hb dX1_goOn_114 rfl (lv_at hl 1 rfl) ?_
      refine va_get (D := D) (ci := 2) (v := .ref x) (C := RX1) (T := TX1) (N := 11) hx hb hts in_X1 hown hK hP 5 rfl rfl 10 (by decide) (hts _ q143) (fun _ h9 => h9) rfl dX1_goOn_115 ?_
      refine va_getN (D := D) (ci := 1) (v := .ref (ad 1)) (C := RX0) (T := TX0) (N := 11) hx hb hts in_X0 hown hK hP 0 rfl rfl 4 (by decide) (va_Nw.use rfl hN.2.2.1) (fun _ h9 => h9) rfl dX1_goOn_118 ?_
      refine lv_iload_n hx hb dX1_goOn_121 rfl (lv_at hl 3 rfl) ?_
      refine wa_aald (v := .ref (ad (6 + x_))) hx hb hK hP 2 4 rfl rfl rfl (x_) (rfl) (by omega) (by decide) (rfl) dX1_goOn_122 ?_
      refine lv_aload hx hb dX1_goOn_123 (lv_at hl 0 rfl) ?_
      refine dV (v := .int ((fun k0_ => σ.calls (6 * (en row i_) + k0_)) 0)) (As := []) (rest := [.ref (ad (6 + x_)), .int m_]) ⟨hx, hb, hml, hown, hts⟩ (mt_X7_place l D dA (μ.cA (en row i_)) (μ.kA (en row i_)) (μ.lA (en row i_)) (total σ (en row i_)) (fun k0_ => σ.calls (6 * (en row i_) + k0_))) (cw_X1_X7_place hts ⟨Nat.le_of_ble_eq_true rfl, Nat.le_of_ble_eq_true rfl⟩) pB_bw (pB_now hK (pl2 (pl1 hP (hR.2.1 (en row i_) hc6 hTc).1.1 (hR.2.1 (en row i_) hc6 hTc).1.2) (pl1 hP (hR.2.1 (en row i_) hc6 hTc).2.1.1 (hR.2.1 (en row i_) hc6 hTc).2.1.2))) (va_recv hK (pl1 hP (hR.2.1 (en row i_) hc6 hTc).1.1 (hR.2.1 (en row i_) hc6 hTc).1.2) (ci := 5) (q0 := 0) rfl rfl) rfl hl.1 rfl (Nat.le_of_ble_eq_true rfl) dX1_goOn_125 ⟨Nat.le_of_ble_eq_true rfl, Nat.le_of_ble_eq_true rfl⟩ ?_
      refine w_topi (y := nI (plF σ (en row i_))) ((hI.pl2 (en row i_) hc6).2) ?_
      refine wa_sald (v := σ.ways (6 * x_ + (plF σ (en row i_)))) hx hb hK (way_row hP (i := x_) (by omega)) 0 2 rfl rfl (plF σ (en row i_)) (rfl) (by omega) (by decide) (rfl) dX1_goOn_128 ?_
      refine lv_iadd hx hb dX1_goOn_129 ?_
      refine lv_istore (lv' := [(10, .int (m_ + (σ.ways (6 * x_ + (plF σ (en row i_)))))), (9, .ref (μ.cA (en row i_))), (0, .ref (ad 4)), (1, .int (nI i_)), (2, .int (nI x_)), (3, .int m_), (4, .int bag), (5, .int sm_), (6, .long w_), (8, .int dn_)]) hx hb dX1_goOn_130 hl (by decide) rfl (fun ls hl => ?_)
      refine lv_aload hx hb dX1_goOn_132 (lv_at hl 1 rfl) ?_
      refine lv_iload hx hb dX1_goOn_134 (lv_at hl 0 rfl) ?_
      refine dV (v := .int (begW (fun k0_ => σ.calls (6 * (en row i_) + k0_)) (m_ + (σ.ways (6 * x_ + (plF σ (en row i_))))))) (As := [.int (m_ + (σ.ways (6 * x_ + (plF σ (en row i_)))))]) (rest := []) ⟨hx, hb, hml, hown, hts⟩ (mt_X7_begins l D dA (μ.cA (en row i_)) (μ.kA (en row i_)) (μ.lA (en row i_)) (total σ (en row i_)) (fun k0_ => σ.calls (6 * (en row i_) + k0_)) (m_ + (σ.ways (6 * x_ + (plF σ (en row i_)))))) (cw_X1_X7_begins hts ⟨Nat.le_of_ble_eq_true rfl, Nat.le_of_ble_eq_true rfl⟩) pB_bw (pB_now hK (pl2 (pl1 hP (hR.2.1 (en row i_) hc6 hTc).1.1 (hR.2.1 (en row i_) hc6 hTc).1.2) (pl1 hP (hR.2.1 (en row i_) hc6 hTc).2.1.1 (hR.2.1 (en row i_) hc6 hTc).2.1.2))) (va_recv hK (pl1 hP (hR.2.1 (en row i_) hc6 hTc).1.1 (hR.2.1 (en row i_) hc6 hTc).1.2) (ci := 5) (q0 := 0) rfl rfl) rfl hl.1 rfl (Nat.le_of_ble_eq_true rfl) dX1_goOn_136 ⟨Nat.le_of_ble_eq_true rfl, Nat.le_of_ble_eq_true rfl⟩ ?_
      refine w_topi (y := bgF σ x_ m_ (en row i_)) (beg_eq hI hc6 m_) ?_
      refine lv_istore (lv' := [(11, .int (bgF σ x_ m_ (en row i_))), (10, .int (m_ + (σ.ways (6 * x_ + (plF σ (en row i_)))))), (9, .ref (μ.cA (en row i_))), (0, .ref (ad 4)), (1, .int (nI i_)), (2, .int (nI x_)), (3, .int m_), (4, .int bag), (5, .int sm_), (6, .long w_), (8, .int dn_)]) hx hb dX1_goOn_139 hl (by decide) rfl (fun ls hl => ?_)
      refine lv_iload hx hb dX1_goOn_141 (lv_at hl 0 rfl) ?_
      refine lv_iconst (v := (-1)) hx hb dX1_goOn_143 rfl ?_
      refine lv_icmp_ne (tgt := 175) hx hb dX1_goOn_144 rfl (fun h144 => ?_) (fun h144 => ?_)
      · have h144 : ¬ ((bgF σ x_ m_ (en row i_)) = (-1)) := h144
        obtain ⟨hnl, hbg⟩ := bg_n hI hc6 h144
        rw [hbg] at hl
        refine lv_iconst (v := 0) hx hb dX1_goOn_175 rfl ?_
        refine lv_istore (lv' := [(12, .int 0), (11, .int (arrF σ x_ m_ (en row i_))), (10, .int (m_ + (σ.ways (6 * x_ + (plF σ (en row i_)))))), (9, .ref (μ.cA (en row i_))), (0, .ref (ad 4)), (1, .int (nI i_)), (2, .int (nI x_)), (3, .int m_), (4, .int bag), (5, .int sm_), (6, .long w_), (8, .int dn_)]) hx hb dX1_goOn_176 hl (by decide) rfl (fun ls hl => ?_)
        have hL178_1 : ∀ (n_2 : Nat) (k : Nat) (t : OT) (x12 : Int32) (ls : Array Slot) (H : Heap) (locs : List Loc), (4 - k) < n_2 → (k ≤ σ.sm (en row i_)) → (t = srtT (sorT σ kn so (goT σ row full kn so 5) i_ x_ m_ bag sm_ w_ dn_ (en row i_)) k (ω.brings, ω.done, ω.end_)) → x12 = (nI k) → lv_has ls 16 [(12, .int x12), (11, .int (arrF σ x_ m_ (en row i_))), (10, .int (m_ + (σ.ways (6 * x_ + (plF σ (en row i_)))))), (9, .ref (μ.cA (en row i_))), (0, .ref (ad 4)), (1, .int (nI i_)), (2, .int (nI x_)), (3, .int m_), (4, .int bag), (5, .int sm_), (6, .long w_), (8, .int dn_)] → va_P D vwCl (cW dA x ad μ σ ((full, row, nI j, ptF σ.tools 8, kn, so, t.1, t.2.1, ω.below, t.2.2, ω.mb) : Om)) H → va_S (cA x ad μ) s.heap H locs → W p l e rmX1_goOn_6 s m args below meth c H locs 0 0 Q (F0 m 178 ls []) := by
          intro n_2
          induction n_2 with
          | zero => intro k t x12 ls H locs hm_4; exact absurd hm_4 (Nat.not_lt_zero _)
          | succ n_2 ih_3 =>
            intro k t x12 ls H locs hm_4 hk ht ex12 hl hP hS
            subst ex12
            refine lv_iload hx hb dX1_goOn_178 (lv_at hl 0 rfl) ?_
            refine lv_aload hx hb dX1_goOn_180 (lv_at hl 3 rfl) ?_
            refine va_get (D := D) (ci := 5) (v := .ref (μ.lA (en row i_))) (C := RX7) (T := TX7) (N := 3) hx hb hts in_X7 hown hK (pl1 hP (hR.2.1 (en row i_) hc6 hTc).1.1 (hR.2.1 (en row i_) hc6 hTc).1.2) 0 rfl rfl 1 (by decide) (hts _ q700) (fun _ h9 => h9) rfl dX1_goOn_182 ?_
            refine dV (v := .int (nI (σ.sm (en row i_)))) (As := []) (rest := [.int (nI k)]) ⟨hx, hb, hml, hown, hts⟩ (mt_J2_size l D dA (μ.lA (en row i_)) (μ.eA (en row i_)) (μ.mA (en row i_)) (σ.sm (en row i_))) (cw_X1_J2_size hts ⟨Nat.le_of_ble_eq_true rfl, Nat.le_of_ble_eq_true rfl⟩) pB_bw (pB_now hK (pl1 hP (hR.2.1 (en row i_) hc6 hTc).2.2.1.1 (hR.2.1 (en row i_) hc6 hTc).2.2.1.2)) (va_recv hK (pl1 hP (hR.2.1 (en row i_) hc6 hTc).2.2.1.1 (hR.2.1 (en row i_) hc6 hTc).2.2.1.2) (ci := 8) (q0 := 0) rfl rfl) rfl hl.1 rfl (Nat.le_of_ble_eq_true rfl) dX1_goOn_185 ⟨Nat.le_of_ble_eq_true rfl, Nat.le_of_ble_eq_true rfl⟩ ?_
            refine lv_icmp_ge (tgt := 362) hx hb dX1_goOn_188 rfl (fun h188 => ?_) (fun h188 => ?_)
            · have h188 : (σ.sm (en row i_)) ≤ k := (nz_le (a := (σ.sm (en row i_))) (b := k) rfl rfl (by omega) (by omega)).mp h188
              have hk_ : k = σ.sm (en row i_) := by omega
              subst hk_
              exact cm_v hQ hx hb hr hlocks hK hN hP hS (rfl) (by rw [goT_c h63 hnl, ← ht]) dX1_goOn_362
            · have h188 : ¬ ((σ.sm (en row i_)) ≤ k) := fun z9 => h188 ((nz_le (a := (σ.sm (en row i_))) (b := k) rfl rfl (by omega) (by omega)).mpr z9)
              refine lv_aload hx hb dX1_goOn_191 (lv_at hl 3 rfl) ?_
              refine va_get (D := D) (ci := 5) (v := .ref (μ.lA (en row i_))) (C := RX7) (T := TX7) (N := 3) hx hb hts in_X7 hown hK (pl1 hP (hR.2.1 (en row i_) hc6 hTc).1.1 (hR.2.1 (en row i_) hc6 hTc).1.2) 0 rfl rfl 1 (by decide) (hts _ q700) (fun _ h9 => h9) rfl dX1_goOn_193 ?_
              refine lv_iload hx hb dX1_goOn_196 (lv_at hl 0 rfl) ?_
              refine g_sort (rest := []) ⟨hx, hb, hml, hown, hts⟩ (cw_X1_J2_get hts ⟨Nat.le_of_ble_eq_true rfl, Nat.le_of_ble_eq_true rfl⟩) hK hP (hR.2.1 (en row i_) hc6 hTc) (hI.sm (en row i_) hc6) (show k < σ.sm (en row i_) by omega) hl.1 rfl (Nat.le_of_ble_eq_true rfl) dX1_goOn_198 ⟨Nat.le_of_ble_eq_true rfl, Nat.le_of_ble_eq_true rfl⟩ ?_
              refine va_castS hx hb hown (hts _ q964) (hK.1 6 _ rfl).2 (va_recv hK (pl1 hP ((hR.2.1 (en row i_) hc6 hTc).2.2.2.2 k (show k < σ.sm (en row i_) by omega)).1 ((hR.2.1 (en row i_) hc6 hTc).2.2.2.2 k (show k < σ.sm (en row i_) by omega)).2) (ci := 6) (q0 := 0) rfl rfl) dX1_goOn_201 ?_
              refine lv_astore (lv' := [(13, .ref (μ.sA (en row i_) k)), (12, .int (nI k)), (11, .int (arrF σ x_ m_ (en row i_))), (10, .int (m_ + (σ.ways (6 * x_ + (plF σ (en row i_)))))), (9, .ref (μ.cA (en row i_))), (0, .ref (ad 4)), (1, .int (nI i_)), (2, .int (nI x_)), (3, .int m_), (4, .int bag), (5, .int sm_), (6, .long w_), (8, .int dn_)]) hx hb dX1_goOn_204 hl (by decide) rfl (fun ls hl => ?_)
              refine lv_aload_n hx hb dX1_goOn_206 rfl (lv_at hl 5 rfl) ?_
              refine lv_iload_n hx hb dX1_goOn_207 rfl (lv_at hl 6 rfl) ?_
              refine dV (v := .int (entF row i_)) (As := [.int (nI i_)]) (rest := []) ⟨hx, hb, hml, hown, hts⟩ (mt_X1_at l D dA x ad μ σ ((full, row, nI j, ptF σ.tools 8, kn, so, t.1, t.2.1, ω.below, t.2.2, ω.mb) : Om) row i_ hI hR) (cw_X1_X1_at hts ⟨Nat.le_of_ble_eq_true rfl, Nat.le_of_ble_eq_true rfl⟩) cB_bw (cB_now hK hN hP) (va_recv hK hP (ci := 2) (q0 := 5) rfl rfl) rfl hl.1 rfl (Nat.le_of_ble_eq_true rfl) dX1_goOn_208 ⟨Nat.le_of_ble_eq_true rfl, Nat.le_of_ble_eq_true rfl⟩ ?_
              refine w_topi (y := nI (en row i_)) (en_eq row i_) ?_
              refine lv_aload_n hx hb dX1_goOn_211 rfl (lv_at hl 5 rfl) ?_
              refine va_get (D := D) (ci := 2) (v := .int kn) (C := RX1) (T := TX1) (N := 11) hx hb hts in_X1 hown hK hP 5 rfl rfl 4 (by decide) (hts _ q133) (fun _ h9 => h9) rfl dX1_goOn_212 ?_
              refine lv_icmp_ne (tgt := 230) hx hb dX1_goOn_215 rfl (fun h215 => ?_) (fun h215 => ?_)
              · have h215 : ¬ ((nI (en row i_)) = kn) := h215
                refine lv_aload_n hx hb dX1_goOn_230 rfl (lv_at hl 5 rfl) ?_
                refine lv_iload_n hx hb dX1_goOn_231 rfl (lv_at hl 6 rfl) ?_
                refine dV (v := .int (entF row i_)) (As := [.int (nI i_)]) (rest := []) ⟨hx, hb, hml, hown, hts⟩ (mt_X1_at l D dA x ad μ σ ((full, row, nI j, ptF σ.tools 8, kn, so, t.1, t.2.1, ω.below, t.2.2, ω.mb) : Om) row i_ hI hR) (cw_X1_X1_at hts ⟨Nat.le_of_ble_eq_true rfl, Nat.le_of_ble_eq_true rfl⟩) cB_bw (cB_now hK hN hP) (va_recv hK hP (ci := 2) (q0 := 5) rfl rfl) rfl hl.1 rfl (Nat.le_of_ble_eq_true rfl) dX1_goOn_232 ⟨Nat.le_of_ble_eq_true rfl, Nat.le_of_ble_eq_true rfl⟩ ?_
                refine w_topi (y := nI (en row i_)) (en_eq row i_) ?_
                refine lv_aload_n hx hb dX1_goOn_235 rfl (lv_at hl 5 rfl) ?_
                refine va_get (D := D) (ci := 2) (v := .int kn) (C := RX1) (T := TX1) (N := 11) hx hb hts in_X1 hown hK hP 5 rfl rfl 4 (by decide) (hts _ q133) (fun _ h9 => h9) rfl dX1_goOn_236 ?_
                refine lv_icmp_ne (tgt := 247) hx hb dX1_goOn_239 rfl (fun h239 => ?_) (fun h239 => ?_)
                · have h239 : ¬ ((nI (en row i_)) = kn) := h239
                  refine lv_lload hx hb dX1_goOn_247 (lv_at hl 11 rfl) ?_
                  refine lv_aload hx hb dX1_goOn_249 (lv_at hl 4 rfl) ?_
                  refine va_get (D := D) (ci := 5) (v := .int (total σ (en row i_))) (C := RX7) (T := TX7) (N := 3) hx hb hts in_X7 hown hK (pl1 hP (hR.2.1 (en row i_) hc6 hTc).1.1 (hR.2.1 (en row i_) hc6 hTc).1.2) 0 rfl rfl 2 (by decide) (hts _ q702) (fun _ h9 => h9) rfl dX1_goOn_251 ?_
                  refine lv_i2l (v := (total σ (en row i_) : Int32).toInt64) hx hb dX1_goOn_254 rfl ?_
                  refine lv_ldiv hx hb dX1_goOn_255 (total_ne hI hc6 (by omega)) ?_
                  refine lv_aload hx hb dX1_goOn_256 (lv_at hl 0 rfl) ?_
                  refine va_get (D := D) (ci := 6) (v := .int (σ.sorts (16 * (en row i_) + 4 * k))) (C := RX9) (T := TX9) (N := 4) hx hb hts in_X9 hown hK (pl1 hP ((hR.2.1 (en row i_) hc6 hTc).2.2.2.2 k (show k < σ.sm (en row i_) by omega)).1 ((hR.2.1 (en row i_) hc6 hTc).2.2.2.2 k (show k < σ.sm (en row i_) by omega)).2) 0 rfl rfl 2 (by decide) (hts _ q727) (fun _ h9 => h9) rfl dX1_goOn_258 ?_
                  refine lv_i2l (v := (σ.sorts (16 * (en row i_) + 4 * k) : Int32).toInt64) hx hb dX1_goOn_261 rfl ?_
                  refine lv_lmul hx hb dX1_goOn_262 ?_
                  refine w_topl (y := prT σ kn w_ (en row i_) k) ((by unfold prT; rw [if_neg h215])) ?_
                  refine lv_lstore (lv' := [(14, .long (prT σ kn w_ (en row i_) k)), (13, .ref (μ.sA (en row i_) k)), (12, .int (nI k)), (11, .int (arrF σ x_ m_ (en row i_))), (10, .int (m_ + (σ.ways (6 * x_ + (plF σ (en row i_)))))), (9, .ref (μ.cA (en row i_))), (0, .ref (ad 4)), (1, .int (nI i_)), (2, .int (nI x_)), (3, .int m_), (4, .int bag), (5, .int sm_), (6, .long w_), (8, .int dn_)]) hx hb dX1_goOn_263 hl (by decide) rfl (fun ls hl => ?_)
                  refine lv_aload hx hb dX1_goOn_265 (lv_at hl 1 rfl) ?_
                  refine lv_iload hx hb dX1_goOn_267 (lv_at hl 10 rfl) ?_
                  refine dU (v := .int (b01 (metP bag (σ.sorts (16 * (en row i_) + 4 * k + 2)) (σ.sorts (16 * (en row i_) + 4 * k + 3))))) (As := [.int bag]) (rest := []) ⟨hx, hb, hml, hown, hts⟩ (mt_X8_isMet_S l D dA (μ.sA (en row i_) k) (σ.sorts (16 * (en row i_) + 4 * k + 2)) (σ.sorts (16 * (en row i_) + 4 * k + 3)) (σ.sorts (16 * (en row i_) + 4 * k)) (σ.sorts (16 * (en row i_) + 4 * k + 1)) bag) (cw_X1_X8_isMet_S_X9 hts ⟨Nat.le_of_ble_eq_true rfl, Nat.le_of_ble_eq_true rfl⟩) pB_bw (pB_now hK (pl1 hP ((hR.2.1 (en row i_) hc6 hTc).2.2.2.2 k (show k < σ.sm (en row i_) by omega)).1 ((hR.2.1 (en row i_) hc6 hTc).2.2.2.2 k (show k < σ.sm (en row i_) by omega)).2)) (va_recv hK (pl1 hP ((hR.2.1 (en row i_) hc6 hTc).2.2.2.2 k (show k < σ.sm (en row i_) by omega)).1 ((hR.2.1 (en row i_) hc6 hTc).2.2.2.2 k (show k < σ.sm (en row i_) by omega)).2) (ci := 6) (q0 := 0) rfl rfl) rfl hl.1 rfl (Nat.le_of_ble_eq_true rfl) dX1_goOn_269 ⟨Nat.le_of_ble_eq_true rfl, Nat.le_of_ble_eq_true rfl⟩ ?_
                  refine w_topi (y := b01 (¬ leftF σ bag (en row i_) k = -1)) (b01_iff (met_left hy (en row i_) k)) ?_
                  refine lv_if_eq (tgt := 321) hx hb dX1_goOn_272 rfl (fun h272 => ?_) (fun h272 => ?_)
                  · have h272 : ¬ (¬ leftF σ bag (en row i_) k = -1) := b01_0.mp h272
                    refine lv_aload_n hx hb dX1_goOn_321 rfl (lv_at hl 6 rfl) ?_
                    refine lv_iload_n hx hb dX1_goOn_322 rfl (lv_at hl 7 rfl) ?_
                    refine lv_iconst (v := 1) hx hb dX1_goOn_323 rfl ?_
                    refine lv_iadd hx hb dX1_goOn_324 ?_
                    refine w_topi (nz_add rfl rfl) ?_
                    refine lv_aload hx hb dX1_goOn_325 (lv_at hl 5 rfl) ?_
                    refine dV (v := .int ((fun k0_ => σ.calls (6 * (en row i_) + k0_)) 0)) (As := []) (rest := [.int (nI (i_ + 1)), .ref (ad 4)]) ⟨hx, hb, hml, hown, hts⟩ (mt_X7_place l D dA (μ.cA (en row i_)) (μ.kA (en row i_)) (μ.lA (en row i_)) (total σ (en row i_)) (fun k0_ => σ.calls (6 * (en row i_) + k0_))) (cw_X1_X7_place hts ⟨Nat.le_of_ble_eq_true rfl, Nat.le_of_ble_eq_true rfl⟩) pB_bw (pB_now hK (pl2 (pl1 hP (hR.2.1 (en row i_) hc6 hTc).1.1 (hR.2.1 (en row i_) hc6 hTc).1.2) (pl1 hP (hR.2.1 (en row i_) hc6 hTc).2.1.1 (hR.2.1 (en row i_) hc6 hTc).2.1.2))) (va_recv hK (pl1 hP (hR.2.1 (en row i_) hc6 hTc).1.1 (hR.2.1 (en row i_) hc6 hTc).1.2) (ci := 5) (q0 := 0) rfl rfl) rfl hl.1 rfl (Nat.le_of_ble_eq_true rfl) dX1_goOn_327 ⟨Nat.le_of_ble_eq_true rfl, Nat.le_of_ble_eq_true rfl⟩ ?_
                    refine w_topi (y := nI (plF σ (en row i_))) ((hI.pl2 (en row i_) hc6).2) ?_
                    refine lv_iload hx hb dX1_goOn_330 (lv_at hl 3 rfl) ?_
                    refine lv_aload hx hb dX1_goOn_332 (lv_at hl 5 rfl) ?_
                    refine va_get (D := D) (ci := 5) (v := .ref (μ.kA (en row i_))) (C := RX7) (T := TX7) (N := 3) hx hb hts in_X7 hown hK (pl1 hP (hR.2.1 (en row i_) hc6 hTc).1.1 (hR.2.1 (en row i_) hc6 hTc).1.2) 0 rfl rfl 0 (by decide) (hts _ q697) (fun _ h9 => h9) rfl dX1_goOn_334 ?_
                    refine lv_iconst (v := 5) hx hb dX1_goOn_337 rfl ?_
                    refine wa_iald1 (v := σ.calls (6 * (en row i_) + 5)) hx hb hK (pl1 hP (hR.2.1 (en row i_) hc6 hTc).2.1.1 (hR.2.1 (en row i_) hc6 hTc).2.1.2) 0 0 rfl rfl (5) (rfl) (by omega) (by decide) (rfl) dX1_goOn_338 ?_
                    refine lv_iadd hx hb dX1_goOn_339 ?_
                    refine lv_iload hx hb dX1_goOn_340 (lv_at hl 10 rfl) ?_
                    refine lv_iload hx hb dX1_goOn_342 (lv_at hl 11 rfl) ?_
                    refine lv_aload hx hb dX1_goOn_344 (lv_at hl 5 rfl) ?_
                    refine dV (v := .int ((fun k0_ => σ.calls (6 * (en row i_) + k0_)) 4)) (As := []) (rest := [.int sm_, .int bag, .int ((arrF σ x_ m_ (en row i_)) + (σ.calls (6 * (en row i_) + 5))), .int (nI (plF σ (en row i_))), .int (nI (i_ + 1)), .ref (ad 4)]) ⟨hx, hb, hml, hown, hts⟩ (mt_X7_again l D dA (μ.cA (en row i_)) (μ.kA (en row i_)) (μ.lA (en row i_)) (total σ (en row i_)) (fun k0_ => σ.calls (6 * (en row i_) + k0_))) (cw_X1_X7_again hts ⟨Nat.le_of_ble_eq_true rfl, Nat.le_of_ble_eq_true rfl⟩) pB_bw (pB_now hK (pl2 (pl1 hP (hR.2.1 (en row i_) hc6 hTc).1.1 (hR.2.1 (en row i_) hc6 hTc).1.2) (pl1 hP (hR.2.1 (en row i_) hc6 hTc).2.1.1 (hR.2.1 (en row i_) hc6 hTc).2.1.2))) (va_recv hK (pl1 hP (hR.2.1 (en row i_) hc6 hTc).1.1 (hR.2.1 (en row i_) hc6 hTc).1.2) (ci := 5) (q0 := 0) rfl rfl) rfl hl.1 rfl (Nat.le_of_ble_eq_true rfl) dX1_goOn_346 ⟨Nat.le_of_ble_eq_true rfl, Nat.le_of_ble_eq_true rfl⟩ ?_
                    refine w_topi (y := σ.calls (6 * (en row i_) + 4)) (rfl) ?_
                    refine lv_isub hx hb dX1_goOn_349 ?_
                    refine lv_lload hx hb dX1_goOn_350 (lv_at hl 0 rfl) ?_
                    refine lv_iconst (v := 0) hx hb dX1_goOn_352 rfl ?_
                    refine dM (v := none) (σ' := σ) (ω' := ((full, row, nI j, ptF σ.tools 8, kn, so, (goT σ row full kn so 5 (i_ + 1) (plF σ (en row i_)) ((arrF σ x_ m_ (en row i_)) + (σ.calls (6 * (en row i_) + 5))) bag (sm_ - (σ.calls (6 * (en row i_) + 4))) (prT σ kn w_ (en row i_) k) 0 (t.1, t.2.1, t.2.2)).1, (goT σ row full kn so 5 (i_ + 1) (plF σ (en row i_)) ((arrF σ x_ m_ (en row i_)) + (σ.calls (6 * (en row i_) + 5))) bag (sm_ - (σ.calls (6 * (en row i_) + 4))) (prT σ kn w_ (en row i_) k) 0 (t.1, t.2.1, t.2.2)).2.1, ω.below, (goT σ row full kn so 5 (i_ + 1) (plF σ (en row i_)) ((arrF σ x_ m_ (en row i_)) + (σ.calls (6 * (en row i_) + 5))) bag (sm_ - (σ.calls (6 * (en row i_) + 4))) (prT σ kn w_ (en row i_) k) 0 (t.1, t.2.1, t.2.2)).2.2, ω.mb) : Om)) (As := [.int (nI (i_ + 1)), .int (nI (plF σ (en row i_))), .int ((arrF σ x_ m_ (en row i_)) + (σ.calls (6 * (en row i_) + 5))), .int bag, .int (sm_ - (σ.calls (6 * (en row i_) + 4))), .long (prT σ kn w_ (en row i_) k), .int 0]) (rest := []) ⟨hx, hb, hml, hown, hts⟩ (mt_X1_goOn_5 l D dA x ad μ σ ((full, row, nI j, ptF σ.tools 8, kn, so, t.1, t.2.1, ω.below, t.2.2, ω.mb) : Om) hcD full row j kn so (i_ + 1) (plF σ (en row i_)) ((arrF σ x_ m_ (en row i_)) + (σ.calls (6 * (en row i_) + 5))) bag (sm_ - (σ.calls (6 * (en row i_) + 4))) (prT σ kn w_ (en row i_) k) 0 hI hR hpl hy hf hoT (by omega) hj) (cw_X1_X1_goOn_5 hts ⟨Nat.le_of_ble_eq_true rfl, Nat.le_of_ble_eq_true rfl⟩) (cB_now hK hN hP) (va_recv hK hP (ci := 2) (q0 := 5) rfl rfl) rfl hl.1 rfl (Nat.le_of_ble_eq_true rfl) dX1_goOn_353 ⟨Nat.le_of_ble_eq_true rfl, Nat.le_of_ble_eq_true rfl⟩ hS (fun H locs hP hS => ?_)
                    change W p l e rmX1_goOn_6 s m args below meth c H locs 0 0 Q (F0 m 356 ls [])
                    refine lv_iinc (v := nI (k + 1)) (lv' := [(12, .int (nI (k + 1))), (14, .long (prT σ kn w_ (en row i_) k)), (13, .ref (μ.sA (en row i_) k)), (11, .int (arrF σ x_ m_ (en row i_))), (10, .int (m_ + (σ.ways (6 * x_ + (plF σ (en row i_)))))), (9, .ref (μ.cA (en row i_))), (0, .ref (ad 4)), (1, .int (nI i_)), (2, .int (nI x_)), (3, .int m_), (4, .int bag), (5, .int sm_), (6, .long w_), (8, .int dn_)]) hx hb dX1_goOn_356 hl (k := 2) rfl (nI_1 k) (by decide) rfl (fun ls hl => ?_)
                    refine lv_goto (tgt := 178) hx hb dX1_goOn_359 rfl ?_
                    exact ih_3 (k + 1) (goT σ row full kn so 5 (i_ + 1) (plF σ (en row i_)) (arrF σ x_ m_ (en row i_) + σ.calls (6 * (en row i_) + 5)) bag (sm_ - σ.calls (6 * (en row i_) + 4)) (prT σ kn w_ (en row i_) k) 0 t) (nI (k + 1)) ls _ _ (by omega) (by omega) (by rw [srtT, ← ht]; exact sor_not (fun q => h215 q.1) (Classical.not_not.mp h272)) rfl (lv_sub hl [0, 3, 4, 5, 6, 7, 8, 9, 10, 11, 12, 13] rfl) hP hS
                  · have h272 : ¬ leftF σ bag (en row i_) k = -1 := b01_n h272
                    refine lv_aload_n hx hb dX1_goOn_275 rfl (lv_at hl 6 rfl) ?_
                    refine lv_iload_n hx hb dX1_goOn_276 rfl (lv_at hl 7 rfl) ?_
                    refine lv_iconst (v := 1) hx hb dX1_goOn_277 rfl ?_
                    refine lv_iadd hx hb dX1_goOn_278 ?_
                    refine w_topi (nz_add rfl rfl) ?_
                    refine lv_aload hx hb dX1_goOn_279 (lv_at hl 5 rfl) ?_
                    refine dV (v := .int ((fun k0_ => σ.calls (6 * (en row i_) + k0_)) 0)) (As := []) (rest := [.int (nI (i_ + 1)), .ref (ad 4)]) ⟨hx, hb, hml, hown, hts⟩ (mt_X7_place l D dA (μ.cA (en row i_)) (μ.kA (en row i_)) (μ.lA (en row i_)) (total σ (en row i_)) (fun k0_ => σ.calls (6 * (en row i_) + k0_))) (cw_X1_X7_place hts ⟨Nat.le_of_ble_eq_true rfl, Nat.le_of_ble_eq_true rfl⟩) pB_bw (pB_now hK (pl2 (pl1 hP (hR.2.1 (en row i_) hc6 hTc).1.1 (hR.2.1 (en row i_) hc6 hTc).1.2) (pl1 hP (hR.2.1 (en row i_) hc6 hTc).2.1.1 (hR.2.1 (en row i_) hc6 hTc).2.1.2))) (va_recv hK (pl1 hP (hR.2.1 (en row i_) hc6 hTc).1.1 (hR.2.1 (en row i_) hc6 hTc).1.2) (ci := 5) (q0 := 0) rfl rfl) rfl hl.1 rfl (Nat.le_of_ble_eq_true rfl) dX1_goOn_281 ⟨Nat.le_of_ble_eq_true rfl, Nat.le_of_ble_eq_true rfl⟩ ?_
                    refine w_topi (y := nI (plF σ (en row i_))) ((hI.pl2 (en row i_) hc6).2) ?_
                    refine lv_iload hx hb dX1_goOn_284 (lv_at hl 3 rfl) ?_
                    refine lv_aload hx hb dX1_goOn_286 (lv_at hl 1 rfl) ?_
                    refine va_get (D := D) (ci := 6) (v := .int (σ.sorts (16 * (en row i_) + 4 * k + 1))) (C := RX9) (T := TX9) (N := 4) hx hb hts in_X9 hown hK (pl1 hP ((hR.2.1 (en row i_) hc6 hTc).2.2.2.2 k (show k < σ.sm (en row i_) by omega)).1 ((hR.2.1 (en row i_) hc6 hTc).2.2.2.2 k (show k < σ.sm (en row i_) by omega)).2) 0 rfl rfl 3 (by decide) (hts _ q731) (fun _ h9 => h9) rfl dX1_goOn_288 ?_
                    refine lv_iadd hx hb dX1_goOn_291 ?_
                    refine lv_aload hx hb dX1_goOn_292 (lv_at hl 1 rfl) ?_
                    refine lv_iload hx hb dX1_goOn_294 (lv_at hl 10 rfl) ?_
                    refine lv_aload_n hx hb dX1_goOn_296 rfl (lv_at hl 6 rfl) ?_
                    refine va_get (D := D) (ci := 2) (v := .int (ptF σ.tools 8)) (C := RX1) (T := TX1) (N := 11) hx hb hts in_X1 hown hK hP 5 rfl rfl 3 (by decide) (hts _ q132) (fun _ h9 => h9) rfl dX1_goOn_297 ?_
                    refine dU (v := .int (lefW bag (σ.sorts (16 * (en row i_) + 4 * k + 2)) (σ.sorts (16 * (en row i_) + 4 * k + 3)) (ptF σ.tools 8))) (As := [.int bag, .int (ptF σ.tools 8)]) (rest := [.int ((arrF σ x_ m_ (en row i_)) + (σ.sorts (16 * (en row i_) + 4 * k + 1))), .int (nI (plF σ (en row i_))), .int (nI (i_ + 1)), .ref (ad 4)]) ⟨hx, hb, hml, hown, hts⟩ (mt_X8_left_S l D dA (μ.sA (en row i_) k) (σ.sorts (16 * (en row i_) + 4 * k + 2)) (σ.sorts (16 * (en row i_) + 4 * k + 3)) (σ.sorts (16 * (en row i_) + 4 * k)) (σ.sorts (16 * (en row i_) + 4 * k + 1)) bag (ptF σ.tools 8)) (cw_X1_X8_left_S_X9 hts ⟨Nat.le_of_ble_eq_true rfl, Nat.le_of_ble_eq_true rfl⟩) pB_bw (pB_now hK (pl1 hP ((hR.2.1 (en row i_) hc6 hTc).2.2.2.2 k (show k < σ.sm (en row i_) by omega)).1 ((hR.2.1 (en row i_) hc6 hTc).2.2.2.2 k (show k < σ.sm (en row i_) by omega)).2)) (va_recv hK (pl1 hP ((hR.2.1 (en row i_) hc6 hTc).2.2.2.2 k (show k < σ.sm (en row i_) by omega)).1 ((hR.2.1 (en row i_) hc6 hTc).2.2.2.2 k (show k < σ.sm (en row i_) by omega)).2) (ci := 6) (q0 := 0) rfl rfl) rfl hl.1 rfl (Nat.le_of_ble_eq_true rfl) dX1_goOn_300 ⟨Nat.le_of_ble_eq_true rfl, Nat.le_of_ble_eq_true rfl⟩ ?_
                    refine w_topi (y := leftF σ bag (en row i_) k) (lef_eq hI hy hc6 (by omega) ((met_left hy (en row i_) k).mpr h272)) ?_
                    refine lv_iload hx hb dX1_goOn_303 (lv_at hl 11 rfl) ?_
                    refine lv_aload hx hb dX1_goOn_305 (lv_at hl 5 rfl) ?_
                    refine dV (v := .int ((fun k0_ => σ.calls (6 * (en row i_) + k0_)) 3)) (As := []) (rest := [.int sm_, .int (leftF σ bag (en row i_) k), .int ((arrF σ x_ m_ (en row i_)) + (σ.sorts (16 * (en row i_) + 4 * k + 1))), .int (nI (plF σ (en row i_))), .int (nI (i_ + 1)), .ref (ad 4)]) ⟨hx, hb, hml, hown, hts⟩ (mt_X7_worth l D dA (μ.cA (en row i_)) (μ.kA (en row i_)) (μ.lA (en row i_)) (total σ (en row i_)) (fun k0_ => σ.calls (6 * (en row i_) + k0_))) (cw_X1_X7_worth hts ⟨Nat.le_of_ble_eq_true rfl, Nat.le_of_ble_eq_true rfl⟩) pB_bw (pB_now hK (pl2 (pl1 hP (hR.2.1 (en row i_) hc6 hTc).1.1 (hR.2.1 (en row i_) hc6 hTc).1.2) (pl1 hP (hR.2.1 (en row i_) hc6 hTc).2.1.1 (hR.2.1 (en row i_) hc6 hTc).2.1.2))) (va_recv hK (pl1 hP (hR.2.1 (en row i_) hc6 hTc).1.1 (hR.2.1 (en row i_) hc6 hTc).1.2) (ci := 5) (q0 := 0) rfl rfl) rfl hl.1 rfl (Nat.le_of_ble_eq_true rfl) dX1_goOn_307 ⟨Nat.le_of_ble_eq_true rfl, Nat.le_of_ble_eq_true rfl⟩ ?_
                    refine w_topi (y := σ.calls (6 * (en row i_) + 3)) (rfl) ?_
                    refine lv_iadd hx hb dX1_goOn_310 ?_
                    refine lv_lload hx hb dX1_goOn_311 (lv_at hl 0 rfl) ?_
                    refine lv_iload hx hb dX1_goOn_313 (lv_at hl 13 rfl) ?_
                    refine dM (v := none) (σ' := σ) (ω' := ((full, row, nI j, ptF σ.tools 8, kn, so, (goT σ row full kn so 5 (i_ + 1) (plF σ (en row i_)) ((arrF σ x_ m_ (en row i_)) + (σ.sorts (16 * (en row i_) + 4 * k + 1))) (leftF σ bag (en row i_) k) (sm_ + (σ.calls (6 * (en row i_) + 3))) (prT σ kn w_ (en row i_) k) dn_ (t.1, t.2.1, t.2.2)).1, (goT σ row full kn so 5 (i_ + 1) (plF σ (en row i_)) ((arrF σ x_ m_ (en row i_)) + (σ.sorts (16 * (en row i_) + 4 * k + 1))) (leftF σ bag (en row i_) k) (sm_ + (σ.calls (6 * (en row i_) + 3))) (prT σ kn w_ (en row i_) k) dn_ (t.1, t.2.1, t.2.2)).2.1, ω.below, (goT σ row full kn so 5 (i_ + 1) (plF σ (en row i_)) ((arrF σ x_ m_ (en row i_)) + (σ.sorts (16 * (en row i_) + 4 * k + 1))) (leftF σ bag (en row i_) k) (sm_ + (σ.calls (6 * (en row i_) + 3))) (prT σ kn w_ (en row i_) k) dn_ (t.1, t.2.1, t.2.2)).2.2, ω.mb) : Om)) (As := [.int (nI (i_ + 1)), .int (nI (plF σ (en row i_))), .int ((arrF σ x_ m_ (en row i_)) + (σ.sorts (16 * (en row i_) + 4 * k + 1))), .int (leftF σ bag (en row i_) k), .int (sm_ + (σ.calls (6 * (en row i_) + 3))), .long (prT σ kn w_ (en row i_) k), .int dn_]) (rest := []) ⟨hx, hb, hml, hown, hts⟩ (mt_X1_goOn_5 l D dA x ad μ σ ((full, row, nI j, ptF σ.tools 8, kn, so, t.1, t.2.1, ω.below, t.2.2, ω.mb) : Om) hcD full row j kn so (i_ + 1) (plF σ (en row i_)) ((arrF σ x_ m_ (en row i_)) + (σ.sorts (16 * (en row i_) + 4 * k + 1))) (leftF σ bag (en row i_) k) (sm_ + (σ.calls (6 * (en row i_) + 3))) (prT σ kn w_ (en row i_) k) dn_ hI hR hpl (left_by hy h272) hf hoT (by omega) hj) (cw_X1_X1_goOn_5 hts ⟨Nat.le_of_ble_eq_true rfl, Nat.le_of_ble_eq_true rfl⟩) (cB_now hK hN hP) (va_recv hK hP (ci := 2) (q0 := 5) rfl rfl) rfl hl.1 rfl (Nat.le_of_ble_eq_true rfl) dX1_goOn_315 ⟨Nat.le_of_ble_eq_true rfl, Nat.le_of_ble_eq_true rfl⟩ hS (fun H locs hP hS => ?_)
                    change W p l e rmX1_goOn_6 s m args below meth c H locs 0 0 Q (F0 m 318 ls [])
                    refine lv_goto (tgt := 356) hx hb dX1_goOn_318 rfl ?_
                    refine lv_iinc (v := nI (k + 1)) (lv' := [(12, .int (nI (k + 1))), (14, .long (prT σ kn w_ (en row i_) k)), (13, .ref (μ.sA (en row i_) k)), (11, .int (arrF σ x_ m_ (en row i_))), (10, .int (m_ + (σ.ways (6 * x_ + (plF σ (en row i_)))))), (9, .ref (μ.cA (en row i_))), (0, .ref (ad 4)), (1, .int (nI i_)), (2, .int (nI x_)), (3, .int m_), (4, .int bag), (5, .int sm_), (6, .long w_), (8, .int dn_)]) hx hb dX1_goOn_356 hl (k := 2) rfl (nI_1 k) (by decide) rfl (fun ls hl => ?_)
                    refine lv_goto (tgt := 178) hx hb dX1_goOn_359 rfl ?_
                    exact ih_3 (k + 1) (goT σ row full kn so 5 (i_ + 1) (plF σ (en row i_)) (arrF σ x_ m_ (en row i_) + σ.sorts (16 * (en row i_) + 4 * k + 1)) (leftF σ bag (en row i_) k) (sm_ + σ.calls (6 * (en row i_) + 3)) (prT σ kn w_ (en row i_) k) dn_ t) (nI (k + 1)) ls _ _ (by omega) (by omega) (by rw [srtT, ← ht]; exact sor_met (fun q => h215 q.1) h272) rfl (lv_sub hl [0, 3, 4, 5, 6, 7, 8, 9, 10, 11, 12, 13] rfl) hP hS
                · have h239 : (nI (en row i_)) = kn := h239
                  exact absurd h239 h215
              · have h215 : (nI (en row i_)) = kn := h215
                refine lv_iload hx hb dX1_goOn_218 (lv_at hl 1 rfl) ?_
                refine lv_aload_n hx hb dX1_goOn_220 rfl (lv_at hl 5 rfl) ?_
                refine va_get (D := D) (ci := 2) (v := .int so) (C := RX1) (T := TX1) (N := 11) hx hb hts in_X1 hown hK hP 5 rfl rfl 5 (by decide) (hts _ q134) (fun _ h9 => h9) rfl dX1_goOn_221 ?_
                refine lv_icmp_eq (tgt := 230) hx hb dX1_goOn_224 rfl (fun h224 => ?_) (fun h224 => ?_)
                · have h224 : (nI k) = so := h224
                  refine lv_aload_n hx hb dX1_goOn_230 rfl (lv_at hl 5 rfl) ?_
                  refine lv_iload_n hx hb dX1_goOn_231 rfl (lv_at hl 6 rfl) ?_
                  refine dV (v := .int (entF row i_)) (As := [.int (nI i_)]) (rest := []) ⟨hx, hb, hml, hown, hts⟩ (mt_X1_at l D dA x ad μ σ ((full, row, nI j, ptF σ.tools 8, kn, so, t.1, t.2.1, ω.below, t.2.2, ω.mb) : Om) row i_ hI hR) (cw_X1_X1_at hts ⟨Nat.le_of_ble_eq_true rfl, Nat.le_of_ble_eq_true rfl⟩) cB_bw (cB_now hK hN hP) (va_recv hK hP (ci := 2) (q0 := 5) rfl rfl) rfl hl.1 rfl (Nat.le_of_ble_eq_true rfl) dX1_goOn_232 ⟨Nat.le_of_ble_eq_true rfl, Nat.le_of_ble_eq_true rfl⟩ ?_
                  refine w_topi (y := nI (en row i_)) (en_eq row i_) ?_
                  refine lv_aload_n hx hb dX1_goOn_235 rfl (lv_at hl 5 rfl) ?_
                  refine va_get (D := D) (ci := 2) (v := .int kn) (C := RX1) (T := TX1) (N := 11) hx hb hts in_X1 hown hK hP 5 rfl rfl 4 (by decide) (hts _ q133) (fun _ h9 => h9) rfl dX1_goOn_236 ?_
                  refine lv_icmp_ne (tgt := 247) hx hb dX1_goOn_239 rfl (fun h239 => ?_) (fun h239 => ?_)
                  · have h239 : ¬ ((nI (en row i_)) = kn) := h239
                    exact absurd h215 h239
                  · have h239 : (nI (en row i_)) = kn := h239
                    refine lv_lload hx hb dX1_goOn_242 (lv_at hl 11 rfl) ?_
                    refine w_topl (y := prT σ kn w_ (en row i_) k) ((by unfold prT; rw [if_pos h215])) ?_
                    refine lv_goto (tgt := 263) hx hb dX1_goOn_244 rfl ?_
                    refine lv_lstore (lv' := [(14, .long (prT σ kn w_ (en row i_) k)), (13, .ref (μ.sA (en row i_) k)), (12, .int (nI k)), (11, .int (arrF σ x_ m_ (en row i_))), (10, .int (m_ + (σ.ways (6 * x_ + (plF σ (en row i_)))))), (9, .ref (μ.cA (en row i_))), (0, .ref (ad 4)), (1, .int (nI i_)), (2, .int (nI x_)), (3, .int m_), (4, .int bag), (5, .int sm_), (6, .long w_), (8, .int dn_)]) hx hb dX1_goOn_263 hl (by decide) rfl (fun ls hl => ?_)
                    refine lv_aload hx hb dX1_goOn_265 (lv_at hl 1 rfl) ?_
                    refine lv_iload hx hb dX1_goOn_267 (lv_at hl 10 rfl) ?_
                    refine dU (v := .int (b01 (metP bag (σ.sorts (16 * (en row i_) + 4 * k + 2)) (σ.sorts (16 * (en row i_) + 4 * k + 3))))) (As := [.int bag]) (rest := []) ⟨hx, hb, hml, hown, hts⟩ (mt_X8_isMet_S l D dA (μ.sA (en row i_) k) (σ.sorts (16 * (en row i_) + 4 * k + 2)) (σ.sorts (16 * (en row i_) + 4 * k + 3)) (σ.sorts (16 * (en row i_) + 4 * k)) (σ.sorts (16 * (en row i_) + 4 * k + 1)) bag) (cw_X1_X8_isMet_S_X9 hts ⟨Nat.le_of_ble_eq_true rfl, Nat.le_of_ble_eq_true rfl⟩) pB_bw (pB_now hK (pl1 hP ((hR.2.1 (en row i_) hc6 hTc).2.2.2.2 k (show k < σ.sm (en row i_) by omega)).1 ((hR.2.1 (en row i_) hc6 hTc).2.2.2.2 k (show k < σ.sm (en row i_) by omega)).2)) (va_recv hK (pl1 hP ((hR.2.1 (en row i_) hc6 hTc).2.2.2.2 k (show k < σ.sm (en row i_) by omega)).1 ((hR.2.1 (en row i_) hc6 hTc).2.2.2.2 k (show k < σ.sm (en row i_) by omega)).2) (ci := 6) (q0 := 0) rfl rfl) rfl hl.1 rfl (Nat.le_of_ble_eq_true rfl) dX1_goOn_269 ⟨Nat.le_of_ble_eq_true rfl, Nat.le_of_ble_eq_true rfl⟩ ?_
                    refine w_topi (y := b01 (¬ leftF σ bag (en row i_) k = -1)) (b01_iff (met_left hy (en row i_) k)) ?_
                    refine lv_if_eq (tgt := 321) hx hb dX1_goOn_272 rfl (fun h272 => ?_) (fun h272 => ?_)
                    · have h272 : ¬ (¬ leftF σ bag (en row i_) k = -1) := b01_0.mp h272
                      refine lv_aload_n hx hb dX1_goOn_321 rfl (lv_at hl 6 rfl) ?_
                      refine lv_iload_n hx hb dX1_goOn_322 rfl (lv_at hl 7 rfl) ?_
                      refine lv_iconst (v := 1) hx hb dX1_goOn_323 rfl ?_
                      refine lv_iadd hx hb dX1_goOn_324 ?_
                      refine w_topi (nz_add rfl rfl) ?_
                      refine lv_aload hx hb dX1_goOn_325 (lv_at hl 5 rfl) ?_
                      refine dV (v := .int ((fun k0_ => σ.calls (6 * (en row i_) + k0_)) 0)) (As := []) (rest := [.int (nI (i_ + 1)), .ref (ad 4)]) ⟨hx, hb, hml, hown, hts⟩ (mt_X7_place l D dA (μ.cA (en row i_)) (μ.kA (en row i_)) (μ.lA (en row i_)) (total σ (en row i_)) (fun k0_ => σ.calls (6 * (en row i_) + k0_))) (cw_X1_X7_place hts ⟨Nat.le_of_ble_eq_true rfl, Nat.le_of_ble_eq_true rfl⟩) pB_bw (pB_now hK (pl2 (pl1 hP (hR.2.1 (en row i_) hc6 hTc).1.1 (hR.2.1 (en row i_) hc6 hTc).1.2) (pl1 hP (hR.2.1 (en row i_) hc6 hTc).2.1.1 (hR.2.1 (en row i_) hc6 hTc).2.1.2))) (va_recv hK (pl1 hP (hR.2.1 (en row i_) hc6 hTc).1.1 (hR.2.1 (en row i_) hc6 hTc).1.2) (ci := 5) (q0 := 0) rfl rfl) rfl hl.1 rfl (Nat.le_of_ble_eq_true rfl) dX1_goOn_327 ⟨Nat.le_of_ble_eq_true rfl, Nat.le_of_ble_eq_true rfl⟩ ?_
                      refine w_topi (y := nI (plF σ (en row i_))) ((hI.pl2 (en row i_) hc6).2) ?_
                      refine lv_iload hx hb dX1_goOn_330 (lv_at hl 3 rfl) ?_
                      refine lv_aload hx hb dX1_goOn_332 (lv_at hl 5 rfl) ?_
                      refine va_get (D := D) (ci := 5) (v := .ref (μ.kA (en row i_))) (C := RX7) (T := TX7) (N := 3) hx hb hts in_X7 hown hK (pl1 hP (hR.2.1 (en row i_) hc6 hTc).1.1 (hR.2.1 (en row i_) hc6 hTc).1.2) 0 rfl rfl 0 (by decide) (hts _ q697) (fun _ h9 => h9) rfl dX1_goOn_334 ?_
                      refine lv_iconst (v := 5) hx hb dX1_goOn_337 rfl ?_
                      refine wa_iald1 (v := σ.calls (6 * (en row i_) + 5)) hx hb hK (pl1 hP (hR.2.1 (en row i_) hc6 hTc).2.1.1 (hR.2.1 (en row i_) hc6 hTc).2.1.2) 0 0 rfl rfl (5) (rfl) (by omega) (by decide) (rfl) dX1_goOn_338 ?_
                      refine lv_iadd hx hb dX1_goOn_339 ?_
                      refine lv_iload hx hb dX1_goOn_340 (lv_at hl 10 rfl) ?_
                      refine lv_iload hx hb dX1_goOn_342 (lv_at hl 11 rfl) ?_
                      refine lv_aload hx hb dX1_goOn_344 (lv_at hl 5 rfl) ?_
                      refine dV (v := .int ((fun k0_ => σ.calls (6 * (en row i_) + k0_)) 4)) (As := []) (rest := [.int sm_, .int bag, .int ((arrF σ x_ m_ (en row i_)) + (σ.calls (6 * (en row i_) + 5))), .int (nI (plF σ (en row i_))), .int (nI (i_ + 1)), .ref (ad 4)]) ⟨hx, hb, hml, hown, hts⟩ (mt_X7_again l D dA (μ.cA (en row i_)) (μ.kA (en row i_)) (μ.lA (en row i_)) (total σ (en row i_)) (fun k0_ => σ.calls (6 * (en row i_) + k0_))) (cw_X1_X7_again hts ⟨Nat.le_of_ble_eq_true rfl, Nat.le_of_ble_eq_true rfl⟩) pB_bw (pB_now hK (pl2 (pl1 hP (hR.2.1 (en row i_) hc6 hTc).1.1 (hR.2.1 (en row i_) hc6 hTc).1.2) (pl1 hP (hR.2.1 (en row i_) hc6 hTc).2.1.1 (hR.2.1 (en row i_) hc6 hTc).2.1.2))) (va_recv hK (pl1 hP (hR.2.1 (en row i_) hc6 hTc).1.1 (hR.2.1 (en row i_) hc6 hTc).1.2) (ci := 5) (q0 := 0) rfl rfl) rfl hl.1 rfl (Nat.le_of_ble_eq_true rfl) dX1_goOn_346 ⟨Nat.le_of_ble_eq_true rfl, Nat.le_of_ble_eq_true rfl⟩ ?_
                      refine w_topi (y := σ.calls (6 * (en row i_) + 4)) (rfl) ?_
                      refine lv_isub hx hb dX1_goOn_349 ?_
                      refine lv_lload hx hb dX1_goOn_350 (lv_at hl 0 rfl) ?_
                      refine lv_iconst (v := 0) hx hb dX1_goOn_352 rfl ?_
                      refine dM (v := none) (σ' := σ) (ω' := ((full, row, nI j, ptF σ.tools 8, kn, so, (goT σ row full kn so 5 (i_ + 1) (plF σ (en row i_)) ((arrF σ x_ m_ (en row i_)) + (σ.calls (6 * (en row i_) + 5))) bag (sm_ - (σ.calls (6 * (en row i_) + 4))) (prT σ kn w_ (en row i_) k) 0 (t.1, t.2.1, t.2.2)).1, (goT σ row full kn so 5 (i_ + 1) (plF σ (en row i_)) ((arrF σ x_ m_ (en row i_)) + (σ.calls (6 * (en row i_) + 5))) bag (sm_ - (σ.calls (6 * (en row i_) + 4))) (prT σ kn w_ (en row i_) k) 0 (t.1, t.2.1, t.2.2)).2.1, ω.below, (goT σ row full kn so 5 (i_ + 1) (plF σ (en row i_)) ((arrF σ x_ m_ (en row i_)) + (σ.calls (6 * (en row i_) + 5))) bag (sm_ - (σ.calls (6 * (en row i_) + 4))) (prT σ kn w_ (en row i_) k) 0 (t.1, t.2.1, t.2.2)).2.2, ω.mb) : Om)) (As := [.int (nI (i_ + 1)), .int (nI (plF σ (en row i_))), .int ((arrF σ x_ m_ (en row i_)) + (σ.calls (6 * (en row i_) + 5))), .int bag, .int (sm_ - (σ.calls (6 * (en row i_) + 4))), .long (prT σ kn w_ (en row i_) k), .int 0]) (rest := []) ⟨hx, hb, hml, hown, hts⟩ (mt_X1_goOn_5 l D dA x ad μ σ ((full, row, nI j, ptF σ.tools 8, kn, so, t.1, t.2.1, ω.below, t.2.2, ω.mb) : Om) hcD full row j kn so (i_ + 1) (plF σ (en row i_)) ((arrF σ x_ m_ (en row i_)) + (σ.calls (6 * (en row i_) + 5))) bag (sm_ - (σ.calls (6 * (en row i_) + 4))) (prT σ kn w_ (en row i_) k) 0 hI hR hpl hy hf hoT (by omega) hj) (cw_X1_X1_goOn_5 hts ⟨Nat.le_of_ble_eq_true rfl, Nat.le_of_ble_eq_true rfl⟩) (cB_now hK hN hP) (va_recv hK hP (ci := 2) (q0 := 5) rfl rfl) rfl hl.1 rfl (Nat.le_of_ble_eq_true rfl) dX1_goOn_353 ⟨Nat.le_of_ble_eq_true rfl, Nat.le_of_ble_eq_true rfl⟩ hS (fun H locs hP hS => ?_)
                      change W p l e rmX1_goOn_6 s m args below meth c H locs 0 0 Q (F0 m 356 ls [])
                      refine lv_iinc (v := nI (k + 1)) (lv' := [(12, .int (nI (k + 1))), (14, .long (prT σ kn w_ (en row i_) k)), (13, .ref (μ.sA (en row i_) k)), (11, .int (arrF σ x_ m_ (en row i_))), (10, .int (m_ + (σ.ways (6 * x_ + (plF σ (en row i_)))))), (9, .ref (μ.cA (en row i_))), (0, .ref (ad 4)), (1, .int (nI i_)), (2, .int (nI x_)), (3, .int m_), (4, .int bag), (5, .int sm_), (6, .long w_), (8, .int dn_)]) hx hb dX1_goOn_356 hl (k := 2) rfl (nI_1 k) (by decide) rfl (fun ls hl => ?_)
                      refine lv_goto (tgt := 178) hx hb dX1_goOn_359 rfl ?_
                      exact ih_3 (k + 1) (goT σ row full kn so 5 (i_ + 1) (plF σ (en row i_)) (arrF σ x_ m_ (en row i_) + σ.calls (6 * (en row i_) + 5)) bag (sm_ - σ.calls (6 * (en row i_) + 4)) (prT σ kn w_ (en row i_) k) 0 t) (nI (k + 1)) ls _ _ (by omega) (by omega) (by rw [srtT, ← ht]; exact sor_not (fun q => q.2 h224) (Classical.not_not.mp h272)) rfl (lv_sub hl [0, 3, 4, 5, 6, 7, 8, 9, 10, 11, 12, 13] rfl) hP hS
                    · have h272 : ¬ leftF σ bag (en row i_) k = -1 := b01_n h272
                      refine lv_aload_n hx hb dX1_goOn_275 rfl (lv_at hl 6 rfl) ?_
                      refine lv_iload_n hx hb dX1_goOn_276 rfl (lv_at hl 7 rfl) ?_
                      refine lv_iconst (v := 1) hx hb dX1_goOn_277 rfl ?_
                      refine lv_iadd hx hb dX1_goOn_278 ?_
                      refine w_topi (nz_add rfl rfl) ?_
                      refine lv_aload hx hb dX1_goOn_279 (lv_at hl 5 rfl) ?_
                      refine dV (v := .int ((fun k0_ => σ.calls (6 * (en row i_) + k0_)) 0)) (As := []) (rest := [.int (nI (i_ + 1)), .ref (ad 4)]) ⟨hx, hb, hml, hown, hts⟩ (mt_X7_place l D dA (μ.cA (en row i_)) (μ.kA (en row i_)) (μ.lA (en row i_)) (total σ (en row i_)) (fun k0_ => σ.calls (6 * (en row i_) + k0_))) (cw_X1_X7_place hts ⟨Nat.le_of_ble_eq_true rfl, Nat.le_of_ble_eq_true rfl⟩) pB_bw (pB_now hK (pl2 (pl1 hP (hR.2.1 (en row i_) hc6 hTc).1.1 (hR.2.1 (en row i_) hc6 hTc).1.2) (pl1 hP (hR.2.1 (en row i_) hc6 hTc).2.1.1 (hR.2.1 (en row i_) hc6 hTc).2.1.2))) (va_recv hK (pl1 hP (hR.2.1 (en row i_) hc6 hTc).1.1 (hR.2.1 (en row i_) hc6 hTc).1.2) (ci := 5) (q0 := 0) rfl rfl) rfl hl.1 rfl (Nat.le_of_ble_eq_true rfl) dX1_goOn_281 ⟨Nat.le_of_ble_eq_true rfl, Nat.le_of_ble_eq_true rfl⟩ ?_
                      refine w_topi (y := nI (plF σ (en row i_))) ((hI.pl2 (en row i_) hc6).2) ?_
                      refine lv_iload hx hb dX1_goOn_284 (lv_at hl 3 rfl) ?_
                      refine lv_aload hx hb dX1_goOn_286 (lv_at hl 1 rfl) ?_
                      refine va_get (D := D) (ci := 6) (v := .int (σ.sorts (16 * (en row i_) + 4 * k + 1))) (C := RX9) (T := TX9) (N := 4) hx hb hts in_X9 hown hK (pl1 hP ((hR.2.1 (en row i_) hc6 hTc).2.2.2.2 k (show k < σ.sm (en row i_) by omega)).1 ((hR.2.1 (en row i_) hc6 hTc).2.2.2.2 k (show k < σ.sm (en row i_) by omega)).2) 0 rfl rfl 3 (by decide) (hts _ q731) (fun _ h9 => h9) rfl dX1_goOn_288 ?_
                      refine lv_iadd hx hb dX1_goOn_291 ?_
                      refine lv_aload hx hb dX1_goOn_292 (lv_at hl 1 rfl) ?_
                      refine lv_iload hx hb dX1_goOn_294 (lv_at hl 10 rfl) ?_
                      refine lv_aload_n hx hb dX1_goOn_296 rfl (lv_at hl 6 rfl) ?_
                      refine va_get (D := D) (ci := 2) (v := .int (ptF σ.tools 8)) (C := RX1) (T := TX1) (N := 11) hx hb hts in_X1 hown hK hP 5 rfl rfl 3 (by decide) (hts _ q132) (fun _ h9 => h9) rfl dX1_goOn_297 ?_
                      refine dU (v := .int (lefW bag (σ.sorts (16 * (en row i_) + 4 * k + 2)) (σ.sorts (16 * (en row i_) + 4 * k + 3)) (ptF σ.tools 8))) (As := [.int bag, .int (ptF σ.tools 8)]) (rest := [.int ((arrF σ x_ m_ (en row i_)) + (σ.sorts (16 * (en row i_) + 4 * k + 1))), .int (nI (plF σ (en row i_))), .int (nI (i_ + 1)), .ref (ad 4)]) ⟨hx, hb, hml, hown, hts⟩ (mt_X8_left_S l D dA (μ.sA (en row i_) k) (σ.sorts (16 * (en row i_) + 4 * k + 2)) (σ.sorts (16 * (en row i_) + 4 * k + 3)) (σ.sorts (16 * (en row i_) + 4 * k)) (σ.sorts (16 * (en row i_) + 4 * k + 1)) bag (ptF σ.tools 8)) (cw_X1_X8_left_S_X9 hts ⟨Nat.le_of_ble_eq_true rfl, Nat.le_of_ble_eq_true rfl⟩) pB_bw (pB_now hK (pl1 hP ((hR.2.1 (en row i_) hc6 hTc).2.2.2.2 k (show k < σ.sm (en row i_) by omega)).1 ((hR.2.1 (en row i_) hc6 hTc).2.2.2.2 k (show k < σ.sm (en row i_) by omega)).2)) (va_recv hK (pl1 hP ((hR.2.1 (en row i_) hc6 hTc).2.2.2.2 k (show k < σ.sm (en row i_) by omega)).1 ((hR.2.1 (en row i_) hc6 hTc).2.2.2.2 k (show k < σ.sm (en row i_) by omega)).2) (ci := 6) (q0 := 0) rfl rfl) rfl hl.1 rfl (Nat.le_of_ble_eq_true rfl) dX1_goOn_300 ⟨Nat.le_of_ble_eq_true rfl, Nat.le_of_ble_eq_true rfl⟩ ?_
                      refine w_topi (y := leftF σ bag (en row i_) k) (lef_eq hI hy hc6 (by omega) ((met_left hy (en row i_) k).mpr h272)) ?_
                      refine lv_iload hx hb dX1_goOn_303 (lv_at hl 11 rfl) ?_
                      refine lv_aload hx hb dX1_goOn_305 (lv_at hl 5 rfl) ?_
                      refine dV (v := .int ((fun k0_ => σ.calls (6 * (en row i_) + k0_)) 3)) (As := []) (rest := [.int sm_, .int (leftF σ bag (en row i_) k), .int ((arrF σ x_ m_ (en row i_)) + (σ.sorts (16 * (en row i_) + 4 * k + 1))), .int (nI (plF σ (en row i_))), .int (nI (i_ + 1)), .ref (ad 4)]) ⟨hx, hb, hml, hown, hts⟩ (mt_X7_worth l D dA (μ.cA (en row i_)) (μ.kA (en row i_)) (μ.lA (en row i_)) (total σ (en row i_)) (fun k0_ => σ.calls (6 * (en row i_) + k0_))) (cw_X1_X7_worth hts ⟨Nat.le_of_ble_eq_true rfl, Nat.le_of_ble_eq_true rfl⟩) pB_bw (pB_now hK (pl2 (pl1 hP (hR.2.1 (en row i_) hc6 hTc).1.1 (hR.2.1 (en row i_) hc6 hTc).1.2) (pl1 hP (hR.2.1 (en row i_) hc6 hTc).2.1.1 (hR.2.1 (en row i_) hc6 hTc).2.1.2))) (va_recv hK (pl1 hP (hR.2.1 (en row i_) hc6 hTc).1.1 (hR.2.1 (en row i_) hc6 hTc).1.2) (ci := 5) (q0 := 0) rfl rfl) rfl hl.1 rfl (Nat.le_of_ble_eq_true rfl) dX1_goOn_307 ⟨Nat.le_of_ble_eq_true rfl, Nat.le_of_ble_eq_true rfl⟩ ?_
                      refine w_topi (y := σ.calls (6 * (en row i_) + 3)) (rfl) ?_
                      refine lv_iadd hx hb dX1_goOn_310 ?_
                      refine lv_lload hx hb dX1_goOn_311 (lv_at hl 0 rfl) ?_
                      refine lv_iload hx hb dX1_goOn_313 (lv_at hl 13 rfl) ?_
                      refine dM (v := none) (σ' := σ) (ω' := ((full, row, nI j, ptF σ.tools 8, kn, so, (goT σ row full kn so 5 (i_ + 1) (plF σ (en row i_)) ((arrF σ x_ m_ (en row i_)) + (σ.sorts (16 * (en row i_) + 4 * k + 1))) (leftF σ bag (en row i_) k) (sm_ + (σ.calls (6 * (en row i_) + 3))) (prT σ kn w_ (en row i_) k) dn_ (t.1, t.2.1, t.2.2)).1, (goT σ row full kn so 5 (i_ + 1) (plF σ (en row i_)) ((arrF σ x_ m_ (en row i_)) + (σ.sorts (16 * (en row i_) + 4 * k + 1))) (leftF σ bag (en row i_) k) (sm_ + (σ.calls (6 * (en row i_) + 3))) (prT σ kn w_ (en row i_) k) dn_ (t.1, t.2.1, t.2.2)).2.1, ω.below, (goT σ row full kn so 5 (i_ + 1) (plF σ (en row i_)) ((arrF σ x_ m_ (en row i_)) + (σ.sorts (16 * (en row i_) + 4 * k + 1))) (leftF σ bag (en row i_) k) (sm_ + (σ.calls (6 * (en row i_) + 3))) (prT σ kn w_ (en row i_) k) dn_ (t.1, t.2.1, t.2.2)).2.2, ω.mb) : Om)) (As := [.int (nI (i_ + 1)), .int (nI (plF σ (en row i_))), .int ((arrF σ x_ m_ (en row i_)) + (σ.sorts (16 * (en row i_) + 4 * k + 1))), .int (leftF σ bag (en row i_) k), .int (sm_ + (σ.calls (6 * (en row i_) + 3))), .long (prT σ kn w_ (en row i_) k), .int dn_]) (rest := []) ⟨hx, hb, hml, hown, hts⟩ (mt_X1_goOn_5 l D dA x ad μ σ ((full, row, nI j, ptF σ.tools 8, kn, so, t.1, t.2.1, ω.below, t.2.2, ω.mb) : Om) hcD full row j kn so (i_ + 1) (plF σ (en row i_)) ((arrF σ x_ m_ (en row i_)) + (σ.sorts (16 * (en row i_) + 4 * k + 1))) (leftF σ bag (en row i_) k) (sm_ + (σ.calls (6 * (en row i_) + 3))) (prT σ kn w_ (en row i_) k) dn_ hI hR hpl (left_by hy h272) hf hoT (by omega) hj) (cw_X1_X1_goOn_5 hts ⟨Nat.le_of_ble_eq_true rfl, Nat.le_of_ble_eq_true rfl⟩) (cB_now hK hN hP) (va_recv hK hP (ci := 2) (q0 := 5) rfl rfl) rfl hl.1 rfl (Nat.le_of_ble_eq_true rfl) dX1_goOn_315 ⟨Nat.le_of_ble_eq_true rfl, Nat.le_of_ble_eq_true rfl⟩ hS (fun H locs hP hS => ?_)
                      change W p l e rmX1_goOn_6 s m args below meth c H locs 0 0 Q (F0 m 318 ls [])
                      refine lv_goto (tgt := 356) hx hb dX1_goOn_318 rfl ?_
                      refine lv_iinc (v := nI (k + 1)) (lv' := [(12, .int (nI (k + 1))), (14, .long (prT σ kn w_ (en row i_) k)), (13, .ref (μ.sA (en row i_) k)), (11, .int (arrF σ x_ m_ (en row i_))), (10, .int (m_ + (σ.ways (6 * x_ + (plF σ (en row i_)))))), (9, .ref (μ.cA (en row i_))), (0, .ref (ad 4)), (1, .int (nI i_)), (2, .int (nI x_)), (3, .int m_), (4, .int bag), (5, .int sm_), (6, .long w_), (8, .int dn_)]) hx hb dX1_goOn_356 hl (k := 2) rfl (nI_1 k) (by decide) rfl (fun ls hl => ?_)
                      refine lv_goto (tgt := 178) hx hb dX1_goOn_359 rfl ?_
                      exact ih_3 (k + 1) (goT σ row full kn so 5 (i_ + 1) (plF σ (en row i_)) (arrF σ x_ m_ (en row i_) + σ.sorts (16 * (en row i_) + 4 * k + 1)) (leftF σ bag (en row i_) k) (sm_ + σ.calls (6 * (en row i_) + 3)) (prT σ kn w_ (en row i_) k) dn_ t) (nI (k + 1)) ls _ _ (by omega) (by omega) (by rw [srtT, ← ht]; exact sor_met (fun q => q.2 h224) h272) rfl (lv_sub hl [0, 3, 4, 5, 6, 7, 8, 9, 10, 11, 12, 13] rfl) hP hS
                · have h224 : ¬ ((nI k) = so) := h224
                  refine lv_goto (tgt := 356) hx hb dX1_goOn_227 rfl ?_
                  refine lv_iinc (v := nI (k + 1)) (lv' := [(12, .int (nI (k + 1))), (13, .ref (μ.sA (en row i_) k)), (11, .int (arrF σ x_ m_ (en row i_))), (10, .int (m_ + (σ.ways (6 * x_ + (plF σ (en row i_)))))), (9, .ref (μ.cA (en row i_))), (0, .ref (ad 4)), (1, .int (nI i_)), (2, .int (nI x_)), (3, .int m_), (4, .int bag), (5, .int sm_), (6, .long w_), (8, .int dn_)]) hx hb dX1_goOn_356 hl (k := 1) rfl (nI_1 k) (by decide) rfl (fun ls hl => ?_)
                  refine lv_goto (tgt := 178) hx hb dX1_goOn_359 rfl ?_
                  exact ih_3 (k + 1) t (nI (k + 1)) ls _ _ (by omega) (by omega) (by rw [srtT, ← ht]; exact sor_skip h215 h224) rfl (lv_sub hl [0, 2, 3, 4, 5, 6, 7, 8, 9, 10, 11, 12] rfl) hP hS
        exact hL178_1 _ 0 (ω.brings, ω.done, ω.end_) 0 ls _ _ (Nat.lt_succ_self _) (by omega) rfl rfl (lv_sub hl [0, 1, 2, 3, 4, 5, 6, 7, 8, 9, 10, 11] rfl) hP hS
      · have h144 : (bgF σ x_ m_ (en row i_)) = (-1) := h144
        have hlt := (bg_late hI hc6).mp h144
        refine lv_aload_n hx hb dX1_goOn_147 rfl (lv_at hl 3 rfl) ?_
        refine lv_iload_n hx hb dX1_goOn_148 rfl (lv_at hl 4 rfl) ?_
        refine lv_iconst (v := 1) hx hb dX1_goOn_149 rfl ?_
        refine lv_iadd hx hb dX1_goOn_150 ?_
        refine w_topi (nz_add rfl rfl) ?_
        refine lv_aload hx hb dX1_goOn_151 (lv_at hl 2 rfl) ?_
        refine dV (v := .int ((fun k0_ => σ.calls (6 * (en row i_) + k0_)) 0)) (As := []) (rest := [.int (nI (i_ + 1)), .ref (ad 4)]) ⟨hx, hb, hml, hown, hts⟩ (mt_X7_place l D dA (μ.cA (en row i_)) (μ.kA (en row i_)) (μ.lA (en row i_)) (total σ (en row i_)) (fun k0_ => σ.calls (6 * (en row i_) + k0_))) (cw_X1_X7_place hts ⟨Nat.le_of_ble_eq_true rfl, Nat.le_of_ble_eq_true rfl⟩) pB_bw (pB_now hK (pl2 (pl1 hP (hR.2.1 (en row i_) hc6 hTc).1.1 (hR.2.1 (en row i_) hc6 hTc).1.2) (pl1 hP (hR.2.1 (en row i_) hc6 hTc).2.1.1 (hR.2.1 (en row i_) hc6 hTc).2.1.2))) (va_recv hK (pl1 hP (hR.2.1 (en row i_) hc6 hTc).1.1 (hR.2.1 (en row i_) hc6 hTc).1.2) (ci := 5) (q0 := 0) rfl rfl) rfl hl.1 rfl (Nat.le_of_ble_eq_true rfl) dX1_goOn_153 ⟨Nat.le_of_ble_eq_true rfl, Nat.le_of_ble_eq_true rfl⟩ ?_
        refine w_topi (y := nI (plF σ (en row i_))) ((hI.pl2 (en row i_) hc6).2) ?_
        refine lv_iload hx hb dX1_goOn_156 (lv_at hl 1 rfl) ?_
        refine lv_iload hx hb dX1_goOn_158 (lv_at hl 7 rfl) ?_
        refine lv_iload hx hb dX1_goOn_160 (lv_at hl 8 rfl) ?_
        refine lv_aload hx hb dX1_goOn_162 (lv_at hl 2 rfl) ?_
        refine dV (v := .int ((fun k0_ => σ.calls (6 * (en row i_) + k0_)) 4)) (As := []) (rest := [.int sm_, .int bag, .int (m_ + (σ.ways (6 * x_ + (plF σ (en row i_))))), .int (nI (plF σ (en row i_))), .int (nI (i_ + 1)), .ref (ad 4)]) ⟨hx, hb, hml, hown, hts⟩ (mt_X7_again l D dA (μ.cA (en row i_)) (μ.kA (en row i_)) (μ.lA (en row i_)) (total σ (en row i_)) (fun k0_ => σ.calls (6 * (en row i_) + k0_))) (cw_X1_X7_again hts ⟨Nat.le_of_ble_eq_true rfl, Nat.le_of_ble_eq_true rfl⟩) pB_bw (pB_now hK (pl2 (pl1 hP (hR.2.1 (en row i_) hc6 hTc).1.1 (hR.2.1 (en row i_) hc6 hTc).1.2) (pl1 hP (hR.2.1 (en row i_) hc6 hTc).2.1.1 (hR.2.1 (en row i_) hc6 hTc).2.1.2))) (va_recv hK (pl1 hP (hR.2.1 (en row i_) hc6 hTc).1.1 (hR.2.1 (en row i_) hc6 hTc).1.2) (ci := 5) (q0 := 0) rfl rfl) rfl hl.1 rfl (Nat.le_of_ble_eq_true rfl) dX1_goOn_164 ⟨Nat.le_of_ble_eq_true rfl, Nat.le_of_ble_eq_true rfl⟩ ?_
        refine w_topi (y := σ.calls (6 * (en row i_) + 4)) (rfl) ?_
        refine lv_isub hx hb dX1_goOn_167 ?_
        refine lv_lload hx hb dX1_goOn_168 (lv_at hl 9 rfl) ?_
        refine lv_iconst (v := 0) hx hb dX1_goOn_170 rfl ?_
        refine dM (v := none) (σ' := σ) (ω' := ((full, row, nI j, ptF σ.tools 8, kn, so, (goT σ row full kn so 5 (i_ + 1) (plF σ (en row i_)) (m_ + (σ.ways (6 * x_ + (plF σ (en row i_))))) bag (sm_ - (σ.calls (6 * (en row i_) + 4))) w_ 0 (ω.brings, ω.done, ω.end_)).1, (goT σ row full kn so 5 (i_ + 1) (plF σ (en row i_)) (m_ + (σ.ways (6 * x_ + (plF σ (en row i_))))) bag (sm_ - (σ.calls (6 * (en row i_) + 4))) w_ 0 (ω.brings, ω.done, ω.end_)).2.1, ω.below, (goT σ row full kn so 5 (i_ + 1) (plF σ (en row i_)) (m_ + (σ.ways (6 * x_ + (plF σ (en row i_))))) bag (sm_ - (σ.calls (6 * (en row i_) + 4))) w_ 0 (ω.brings, ω.done, ω.end_)).2.2, ω.mb) : Om)) (As := [.int (nI (i_ + 1)), .int (nI (plF σ (en row i_))), .int (m_ + (σ.ways (6 * x_ + (plF σ (en row i_))))), .int bag, .int (sm_ - (σ.calls (6 * (en row i_) + 4))), .long w_, .int 0]) (rest := []) ⟨hx, hb, hml, hown, hts⟩ (mt_X1_goOn_5 l D dA x ad μ σ ((full, row, nI j, ptF σ.tools 8, kn, so, ω.brings, ω.done, ω.below, ω.end_, ω.mb) : Om) hcD full row j kn so (i_ + 1) (plF σ (en row i_)) (m_ + (σ.ways (6 * x_ + (plF σ (en row i_))))) bag (sm_ - (σ.calls (6 * (en row i_) + 4))) w_ 0 hI hR hpl hy hf hoT (by omega) hj) (cw_X1_X1_goOn_5 hts ⟨Nat.le_of_ble_eq_true rfl, Nat.le_of_ble_eq_true rfl⟩) (cB_now hK hN hP) (va_recv hK hP (ci := 2) (q0 := 5) rfl rfl) rfl hl.1 rfl (Nat.le_of_ble_eq_true rfl) dX1_goOn_171 ⟨Nat.le_of_ble_eq_true rfl, Nat.le_of_ble_eq_true rfl⟩ hS (fun H locs hP hS => ?_)
        change W p l e rmX1_goOn_6 s m args below meth c H locs 0 0 Q (F0 m 174 ls [])
        exact cm_v hQ hx hb hr hlocks hK hN hP hS (rfl) (by rw [goT_l h63 hlt]) dX1_goOn_174
    · have h63 : (en row i_) = 6 := (nz_eq (a := en row i_) (b := 6) rfl rfl (by omega) (by omega)).mp h63
      refine lv_aload_n hx hb dX1_goOn_66 rfl (lv_at hl 0 rfl) ?_
      refine lv_iload_n hx hb dX1_goOn_67 rfl (lv_at hl 1 rfl) ?_
      refine lv_iconst (v := 1) hx hb dX1_goOn_68 rfl ?_
      refine lv_iadd hx hb dX1_goOn_69 ?_
      refine w_topi (nz_add rfl rfl) ?_
      refine lv_iconst (v := 0) hx hb dX1_goOn_70 rfl ?_
      refine lv_iload_n hx hb dX1_goOn_71 rfl (lv_at hl 3 rfl) ?_
      refine lv_aload_n hx hb dX1_goOn_72 rfl (lv_at hl 0 rfl) ?_
      refine va_get (D := D) (ci := 2) (v := .ref x) (C := RX1) (T := TX1) (N := 11) hx hb hts in_X1 hown hK hP 5 rfl rfl 10 (by decide) (hts _ q143) (fun _ h9 => h9) rfl dX1_goOn_73 ?_
      refine va_getN (D := D) (ci := 1) (v := .ref (ad 1)) (C := RX0) (T := TX0) (N := 11) hx hb hts in_X0 hown hK hP 0 rfl rfl 4 (by decide) (va_Nw.use rfl hN.2.2.1) (fun _ h9 => h9) rfl dX1_goOn_76 ?_
      refine lv_iload_n hx hb dX1_goOn_79 rfl (lv_at hl 2 rfl) ?_
      refine wa_aald (v := .ref (ad (6 + x_))) hx hb hK hP 2 4 rfl rfl rfl (x_) (rfl) (by omega) (by decide) (rfl) dX1_goOn_80 ?_
      refine lv_iconst (v := 0) hx hb dX1_goOn_81 rfl ?_
      refine wa_sald (v := σ.ways (6 * x_ + 0)) hx hb hK (way_row hP (i := x_) (by omega)) 0 2 rfl rfl (0) (rfl) (by omega) (by decide) (rfl) dX1_goOn_82 ?_
      refine lv_iadd hx hb dX1_goOn_83 ?_
      refine lv_aload_n hx hb dX1_goOn_84 rfl (lv_at hl 0 rfl) ?_
      refine va_get (D := D) (ci := 2) (v := .int full) (C := RX1) (T := TX1) (N := 11) hx hb hts in_X1 hown hK hP 5 rfl rfl 0 (by decide) (hts _ q129) (fun _ h9 => h9) rfl dX1_goOn_85 ?_
      refine lv_iload hx hb dX1_goOn_88 (lv_at hl 5 rfl) ?_
      refine lv_lload hx hb dX1_goOn_90 (lv_at hl 6 rfl) ?_
      refine lv_iload hx hb dX1_goOn_92 (lv_at hl 7 rfl) ?_
      refine dM (v := none) (σ' := σ) (ω' := ((full, row, nI j, ptF σ.tools 8, kn, so, (goT σ row full kn so 5 (i_ + 1) 0 (m_ + (σ.ways (6 * x_ + 0))) full sm_ w_ dn_ (ω.brings, ω.done, ω.end_)).1, (goT σ row full kn so 5 (i_ + 1) 0 (m_ + (σ.ways (6 * x_ + 0))) full sm_ w_ dn_ (ω.brings, ω.done, ω.end_)).2.1, ω.below, (goT σ row full kn so 5 (i_ + 1) 0 (m_ + (σ.ways (6 * x_ + 0))) full sm_ w_ dn_ (ω.brings, ω.done, ω.end_)).2.2, ω.mb) : Om)) (As := [.int (nI (i_ + 1)), .int 0, .int (m_ + (σ.ways (6 * x_ + 0))), .int full, .int sm_, .long w_, .int dn_]) (rest := []) ⟨hx, hb, hml, hown, hts⟩ (mt_X1_goOn_5 l D dA x ad μ σ ((full, row, nI j, ptF σ.tools 8, kn, so, ω.brings, ω.done, ω.below, ω.end_, ω.mb) : Om) hcD full row j kn so (i_ + 1) 0 (m_ + (σ.ways (6 * x_ + 0))) full sm_ w_ dn_ hI hR (by decide) hf hf hoT (by omega) hj) (cw_X1_X1_goOn_5 hts ⟨Nat.le_of_ble_eq_true rfl, Nat.le_of_ble_eq_true rfl⟩) (cB_now hK hN hP) (va_recv hK hP (ci := 2) (q0 := 5) rfl rfl) rfl hl.1 rfl (Nat.le_of_ble_eq_true rfl) dX1_goOn_94 ⟨Nat.le_of_ble_eq_true rfl, Nat.le_of_ble_eq_true rfl⟩ hS (fun H locs hP hS => ?_)
      change W p l e rmX1_goOn_6 s m args below meth c H locs 0 0 Q (F0 m 97 ls [])
      exact cm_v hQ hx hb hr hlocks hK hN hP hS (rfl) (by rw [goT_h h63]) dX1_goOn_97
  · have h5 : i_ = j := (nz_eq (a := i_) (b := j) rfl rfl (by omega) (by omega)).mp h5
    exact absurd h5 (by omega)
