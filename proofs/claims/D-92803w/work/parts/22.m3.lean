/-! THE MODEL's METHODS 3: bags, parts, refusals, the book -/
set_option maxRecDepth 100000
/-- a call's place -/
def plF (σ : St) (c : Nat) : Nat := ix (σ.calls (6 * c))
theorem Inv.pl2 {σ : St} (h : Inv σ) (c : Nat) (hc : c < 6) : plF σ c < 6 ∧ σ.calls (6 * c) = nI (plF σ c) := by
  obtain ⟨p, hp, e⟩ := h.pl c hc
  have : plF σ c = p := by unfold plF; rw [e]; exact ix_nI hp (by decide)
  rw [this]
  exact ⟨hp, e⟩
def totF (σ : St) (c : Nat) : Nat → Int32
  | 0 => 0
  | k + 1 => totF σ c k + σ.sorts (16 * c + 4 * k)
def total (σ : St) (c : Nat) : Int32 := totF σ c (σ.sm c)
/-- likely ones together: 1 .. 80 -/
theorem tot_nat {σ : St} (hI : Inv σ) {c : Nat} (hc : c < 6) : ∀ k, k ≤ σ.sm c → ∃ v, k ≤ v ∧ v ≤ 20 * k ∧ totF σ c k = nI v := by
  intro k
  induction k with
  | zero => intro _; exact ⟨0, by omega, by omega, rfl⟩
  | succ k ih =>
    intro hk
    obtain ⟨v, h1, h2, h3⟩ := ih (by omega)
    obtain ⟨w, g1, g2, g3⟩ := hI.li c k hc (by omega)
    exact ⟨v + w, by omega, by omega, by rw [totF, h3, g3, nI_add]⟩
theorem total_nat {σ : St} (hI : Inv σ) {c : Nat} (hc : c < 6) : ∃ v, σ.sm c ≤ v ∧ v ≤ 80 ∧ total σ c = nI v := by
  obtain ⟨v, h1, h2, h3⟩ := tot_nat hI hc (σ.sm c) (Nat.le_refl _)
  have := hI.sm c hc
  exact ⟨v, h1, by omega, h3⟩
theorem total_ne {σ : St} (hI : Inv σ) {c : Nat} (hc : c < 6) (h : ¬ σ.sm c ≤ 0) : ¬ (total σ c).toInt64 = 0 := by
  obtain ⟨v, h1, h2, h3⟩ := total_nat hI hc
  rw [h3, nI_l (by omega)]
  exact fun q => by have := (lN_eq (a := v) (b := 0) (by omega) (by decide)).mp q; omega
def usedL (al th : Int32) : Nat → Int32 × Int32
  | 0 => (al, th)
  | k + 1 => if hasP (usedL al th k).2 (nI k) then ((usedL al th k).1 ||| ((1 : Int32) <<< (nI k &&& 31)), 0) else usedL al th k
theorem usedL_1 (al th : Int32) (k : Nat) : (usedL al th (k + 1)).1 = if hasP (usedL al th k).2 (nI k) then (usedL al th k).1 ||| ((1 : Int32) <<< (nI k &&& 31)) else (usedL al th k).1 := by
  rw [usedL]
  split <;> rfl
theorem usedL_2 (al th : Int32) (k : Nat) : (usedL al th (k + 1)).2 = if hasP (usedL al th k).2 (nI k) then 0 else (usedL al th k).2 := by
  rw [usedL]
  split <;> rfl
/-- what is left in a bag behind a sort; -1: it does not do -/
def leftF (σ : St) (bag : Int32) (c s : Nat) : Int32 := if fitsP bag (σ.sorts (16 * c + 4 * s + 2)) (σ.sorts (16 * c + 4 * s + 3)) then bag &&& (((usedL (σ.sorts (16 * c + 4 * s + 2)) (σ.sorts (16 * c + 4 * s + 3) &&& bag) 8).1 &&& (σ.tools ^^^ (-1))) ^^^ (-1)) else -1
def doesF (σ : St) (bag c s : Int32) : Int32 := if sortP σ c s then (if bagP bag then leftF σ bag (ix c) (ix s) else -3) else -2
def chS (σ : St) (bag : Int32) (c : Nat) : Nat → Int32
  | 0 => 0
  | k + 1 => chS σ bag c k + (if leftF σ bag c k = -1 then 0 else σ.sorts (16 * c + 4 * k))
def chanceF (σ : St) (bag c w : Int32) : Int32 := if useP σ c then (if bagP bag then (if partP w then (lowF (chS σ bag (ix c) (σ.sm (ix c))).toInt64 (total σ (ix c)).toInt64 w).toInt32 else -3) else -3) else -2

def rmX3_way : Room := { frames := 1, cells := 0, slots := 0, locals := 25 }
set_option maxHeartbeats 1000000 in
theorem mt_X3_way (l : Launch) (D : va_G) (dA : Nat → ClassId) (h : Nat) (ad : Nat → Nat) (σ : St) (τ : Sc) (a : Int32) (b : Int32) : Met l yX3_way (ws_ yX3_way cX3_way 3 (some .int)) rmX3_way (va_Pc [.ref h, .int a, .int b] (mB D dA h ad σ τ)) (vp_Si (fun r => r = wayF σ a b)) 0 0 (fun _ => False) := by
  refine w_start (by decide) (Nat.le_of_ble_eq_true rfl) ?_
  intro p e s m args below meth c Q ls hQ hx hb hr hlocks hml hown hnm hts hB hl
  have hown : s.vm.findClass RX3 = some m.cls := hown
  have hl : lv_has ls 3 [(0, .ref h), (1, .int a), (2, .int b)] := hl
  obtain ⟨hP, hK⟩ := hB
  refine lv_iload_n hx hb dX3_way_0 rfl (lv_at hl 1 rfl) ?_
  refine lv_i2l (v := (a : Int32).toInt64) hx hb dX3_way_1 rfl ?_
  refine lv_lconst (v := 0) hx hb dX3_way_2 rfl ?_
  refine lv_ldc2 (v := 5) hx hb hown (hts _ q1303) dX3_way_3 ?_
  refine cSi (As := [.long ((a : Int32).toInt64), .long 0, .long 5]) (rest := []) ⟨hx, hb, hml, hown, hts⟩ (mt_X3_in l ((a : Int32).toInt64) 0 5) (cw_X3_X3_in hts ⟨Nat.le_of_ble_eq_true rfl, Nat.le_of_ble_eq_true rfl⟩) w_blT (fun _ _ _ => trivial) rfl hl.1 rfl (Nat.le_of_ble_eq_true rfl) dX3_way_6 ⟨Nat.le_of_ble_eq_true rfl, Nat.le_of_ble_eq_true rfl⟩ ?_
  refine lv_if_eq (tgt := 38) hx hb dX3_way_9 rfl (fun h9 => ?_) (fun h9 => ?_)
  · have h9 : ¬ (inP ((a : Int32).toInt64) 0 5) := b01_0.mp h9
    refine lv_bipush (v := (-2)) hx hb dX3_way_38 rfl ?_
    exact r_i hQ hx hb hr hlocks rfl (by simp only [wayF, eq_false h9, if_true, if_false, ite_true, ite_false, not_true_eq_false, not_false_eq_true, and_true, true_and, and_false, false_and, or_true, true_or, or_false, false_or, and_self, or_self, eq_self]) dX3_way_40
  · have h9 : inP ((a : Int32).toInt64) 0 5 := b01_n h9
    obtain ⟨i, hi, rfl⟩ := in5 h9
    have hix_i : ix (nI i) = i := ix_nI hi (by decide)
    refine lv_iload_n hx hb dX3_way_12 rfl (lv_at hl 2 rfl) ?_
    refine lv_i2l (v := (b : Int32).toInt64) hx hb dX3_way_13 rfl ?_
    refine lv_lconst (v := 0) hx hb dX3_way_14 rfl ?_
    refine lv_ldc2 (v := 5) hx hb hown (hts _ q1303) dX3_way_15 ?_
    refine cSi (As := [.long ((b : Int32).toInt64), .long 0, .long 5]) (rest := []) ⟨hx, hb, hml, hown, hts⟩ (mt_X3_in l ((b : Int32).toInt64) 0 5) (cw_X3_X3_in hts ⟨Nat.le_of_ble_eq_true rfl, Nat.le_of_ble_eq_true rfl⟩) w_blT (fun _ _ _ => trivial) rfl hl.1 rfl (Nat.le_of_ble_eq_true rfl) dX3_way_18 ⟨Nat.le_of_ble_eq_true rfl, Nat.le_of_ble_eq_true rfl⟩ ?_
    refine lv_if_eq (tgt := 38) hx hb dX3_way_21 rfl (fun h21 => ?_) (fun h21 => ?_)
    · have h21 : ¬ (inP ((b : Int32).toInt64) 0 5) := b01_0.mp h21
      refine lv_bipush (v := (-2)) hx hb dX3_way_38 rfl ?_
      exact r_i hQ hx hb hr hlocks rfl (by simp only [wayF, eq_true h9, eq_false h21, hix_i, if_true, if_false, ite_true, ite_false, not_true_eq_false, not_false_eq_true, and_true, true_and, and_false, false_and, or_true, true_or, or_false, false_or, and_self, or_self, eq_self]) dX3_way_40
    · have h21 : inP ((b : Int32).toInt64) 0 5 := b01_n h21
      obtain ⟨j, hj, rfl⟩ := in5 h21
      have hix_j : ix (nI j) = j := ix_nI hj (by decide)
      refine lv_aload_n hx hb dX3_way_24 rfl (lv_at hl 0 rfl) ?_
      refine va_get (D := D) (ci := 0) (v := .ref (ad 4)) (C := RX3) (T := TX3) (N := 31) hx hb hts in_X3 hown hK hP 0 rfl rfl 10 (by decide) (hts _ q1124) (fun _ h9 => h9) rfl dX3_way_25 ?_
      refine lv_bipush (v := 6) hx hb dX3_way_28 rfl ?_
      refine lv_iload_n hx hb dX3_way_30 rfl (lv_at hl 1 rfl) ?_
      refine lv_imul hx hb dX3_way_31 ?_
      refine lv_iload_n hx hb dX3_way_32 rfl (lv_at hl 2 rfl) ?_
      refine lv_iadd hx hb dX3_way_33 ?_
      refine wa_iald (f := σ.ways) hx hb hK hP 5 0 rfl rfl ((6 * i) + j) ((nz_add (nz_mul rfl rfl) rfl)) (by omega) (by decide) dX3_way_34 ?_
      refine lv_goto (tgt := 40) hx hb dX3_way_35 rfl ?_
      exact r_i hQ hx hb hr hlocks rfl (by simp only [wayF, eq_true h9, eq_true h21, hix_i, hix_j, if_true, if_false, ite_true, ite_false, not_true_eq_false, not_false_eq_true, and_true, true_and, and_false, false_and, or_true, true_or, or_false, false_or, and_self, or_self, eq_self]) dX3_way_40

theorem cw_X3_X3_isBag {R : Room} {s : State} {args : Array Value} (hts : ∀ w ∈ lw_all, w.before args s = true) (hR : rmX3_isBag.frames + 1 ≤ R.frames ∧ 8 + (1 + 11) + rmX3_isBag.locals ≤ R.locals) : CallB R s args RX3 159 yX3_isBag cX3_isBag 1 (some .boolean) (ws_ yX3_isBag cX3_isBag 1 (some .boolean)) rmX3_isBag 0 0 1 ∧ (Cond.static yX3_isBag).before args s = true := va_cwS 1 hts (lw_S q1321 q1322 q83 q1323) rfl rfl rfl (by decide +kernel) hR
theorem cw_X3_X3_mayBe {R : Room} {s : State} {args : Array Value} (hts : ∀ w ∈ lw_all, w.before args s = true) (hR : rmX3_mayBe.frames + 1 ≤ R.frames ∧ 8 + (4 + 11) + rmX3_mayBe.locals ≤ R.locals) : CallW R s args RX3 RX3 162 yX3_mayBe cX3_mayBe 4 (some .boolean) (ws_ yX3_mayBe cX3_mayBe 4 (some .boolean)) rmX3_mayBe 0 0 1 := cwV 1 hts (lw_V q1324 q1326 qs47 q83 q1327) rfl rfl rfl (by decide +kernel) hR
def rmX3_may : Room := { frames := 3, cells := 0, slots := 0, locals := 67 }
set_option maxHeartbeats 1000000 in
theorem mt_X3_may (l : Launch) (D : va_G) (dA : Nat → ClassId) (h : Nat) (ad : Nat → Nat) (σ : St) (τ : Sc) (bag : Int32) : Met l yX3_may (ws_ yX3_may cX3_may 2 (some .int)) rmX3_may (va_Pc [.ref h, .int bag] (mB D dA h ad σ τ)) (vp_Si (fun r => r = mayF σ bag)) 0 0 (fun _ => False) := by
  refine w_start (by decide) (Nat.le_of_ble_eq_true rfl) ?_
  intro p e s m args below meth c Q ls hQ hx hb hr hlocks hml hown hnm hts hB hl
  have hown : s.vm.findClass RX3 = some m.cls := hown
  have hl : lv_has ls 2 [(0, .ref h), (1, .int bag)] := hl
  obtain ⟨hP, hK⟩ := hB
  refine lv_iload_n hx hb dX3_may_0 rfl (lv_at hl 1 rfl) ?_
  refine cSi (As := [.int bag]) (rest := []) ⟨hx, hb, hml, hown, hts⟩ (mt_X3_isBag l bag) (cw_X3_X3_isBag hts ⟨Nat.le_of_ble_eq_true rfl, Nat.le_of_ble_eq_true rfl⟩) w_blT (fun _ _ _ => trivial) rfl hl.1 rfl (Nat.le_of_ble_eq_true rfl) dX3_may_1 ⟨Nat.le_of_ble_eq_true rfl, Nat.le_of_ble_eq_true rfl⟩ ?_
  refine lv_if_ne (tgt := 12) hx hb dX3_may_4 rfl (fun h4 => ?_) (fun h4 => ?_)
  · have h4 : bagP bag := b01_n h4
    refine lv_aload_n hx hb dX3_may_12 rfl (lv_at hl 0 rfl) ?_
    refine lv_iload_n hx hb dX3_may_13 rfl (lv_at hl 1 rfl) ?_
    refine cVi (As := [.int bag]) (rest := []) ⟨hx, hb, hml, hown, hts⟩ (mt_X3_mayBe l D dA h ad σ τ bag) (cw_X3_X3_mayBe hts ⟨Nat.le_of_ble_eq_true rfl, Nat.le_of_ble_eq_true rfl⟩) mB_bl (mB_now hK hP) (va_recv hK hP (ci := 0) (q0 := 0) rfl rfl) rfl hl.1 rfl (Nat.le_of_ble_eq_true rfl) dX3_may_14 ⟨Nat.le_of_ble_eq_true rfl, Nat.le_of_ble_eq_true rfl⟩ ?_
    refine lv_if_eq (tgt := 24) hx hb dX3_may_17 rfl (fun h17 => ?_) (fun h17 => ?_)
    · have h17 : ¬ (mayP σ bag) := b01_0.mp h17
      refine lv_iconst (v := 0) hx hb dX3_may_24 rfl ?_
      exact r_i hQ hx hb hr hlocks rfl (by simp only [mayF, b01, eq_true h4, eq_false h17, if_true, if_false, ite_true, ite_false, not_true_eq_false, not_false_eq_true, and_true, true_and, and_false, false_and, or_true, true_or, or_false, false_or, and_self, or_self, eq_self]) dX3_may_25
    · have h17 : mayP σ bag := b01_n h17
      refine lv_iconst (v := 1) hx hb dX3_may_20 rfl ?_
      refine lv_goto (tgt := 25) hx hb dX3_may_21 rfl ?_
      exact r_i hQ hx hb hr hlocks rfl (by simp only [mayF, b01, eq_true h4, eq_true h17, if_true, if_false, ite_true, ite_false, not_true_eq_false, not_false_eq_true, and_true, true_and, and_false, false_and, or_true, true_or, or_false, false_or, and_self, or_self, eq_self]) dX3_may_25
  · have h4 : ¬ (bagP bag) := b01_0.mp h4
    refine lv_bipush (v := (-3)) hx hb dX3_may_7 rfl ?_
    refine lv_goto (tgt := 25) hx hb dX3_may_9 rfl ?_
    exact r_i hQ hx hb hr hlocks rfl (by simp only [mayF, b01, eq_false h4, if_true, if_false, ite_true, ite_false, not_true_eq_false, not_false_eq_true, and_true, true_and, and_false, false_and, or_true, true_or, or_false, false_or, and_self, or_self, eq_self]) dX3_may_25

theorem cw_X3_X3_fits {R : Room} {s : State} {args : Array Value} (hts : ∀ w ∈ lw_all, w.before args s = true) (hR : rmX3_fits.frames + 1 ≤ R.frames ∧ 8 + (3 + 11) + rmX3_fits.locals ≤ R.locals) : CallB R s args RX3 165 yX3_fits cX3_fits 3 (some .boolean) (ws_ yX3_fits cX3_fits 3 (some .boolean)) rmX3_fits 0 0 3 ∧ (Cond.static yX3_fits).before args s = true := va_cwS 3 hts (lw_S q1340 q1341 q83 q1342) rfl rfl rfl (by decide +kernel) hR
def rmX3_leftOf : Room := { frames := 1, cells := 0, slots := 0, locals := 22 }
set_option maxHeartbeats 1000000 in
theorem mt_X3_leftOf (l : Launch) (D : va_G) (dA : Nat → ClassId) (h : Nat) (ad : Nat → Nat) (σ : St) (τ : Sc) (bag : Int32) (c_ : Nat) (s_ : Nat) (hc : c_ < 6) (hs : s_ < 4) : Met l yX3_leftOf (ws_ yX3_leftOf cX3_leftOf 9 (some .int)) rmX3_leftOf (va_Pc [.ref h, .int bag, .int (nI c_), .int (nI s_)] (mB D dA h ad σ τ)) (vp_Si (fun r => r = leftF σ bag c_ s_)) 0 0 (fun _ => False) := by
  refine w_start (by decide) (Nat.le_of_ble_eq_true rfl) ?_
  intro p e s m args below meth c Q ls hQ hx hb hr hlocks hml hown hnm hts hB hl
  have hown : s.vm.findClass RX3 = some m.cls := hown
  have hl : lv_has ls 9 [(0, .ref h), (1, .int bag), (2, .int (nI c_)), (3, .int (nI s_))] := hl
  obtain ⟨hP, hK⟩ := hB
  refine lv_aload_n hx hb dX3_leftOf_0 rfl (lv_at hl 0 rfl) ?_
  refine va_get (D := D) (ci := 0) (v := .ref (ad 7)) (C := RX3) (T := TX3) (N := 31) hx hb hts in_X3 hown hK hP 0 rfl rfl 14 (by decide) (hts _ q1128) (fun _ h9 => h9) rfl dX3_leftOf_1 ?_
  refine lv_bipush (v := 16) hx hb dX3_leftOf_4 rfl ?_
  refine lv_iload_n hx hb dX3_leftOf_6 rfl (lv_at hl 2 rfl) ?_
  refine lv_imul hx hb dX3_leftOf_7 ?_
  refine lv_iconst (v := 4) hx hb dX3_leftOf_8 rfl ?_
  refine lv_iload_n hx hb dX3_leftOf_9 rfl (lv_at hl 3 rfl) ?_
  refine lv_imul hx hb dX3_leftOf_10 ?_
  refine lv_iadd hx hb dX3_leftOf_11 ?_
  refine lv_iconst (v := 2) hx hb dX3_leftOf_12 rfl ?_
  refine lv_iadd hx hb dX3_leftOf_13 ?_
  refine wa_iald (f := σ.sorts) hx hb hK hP 8 0 rfl rfl (((16 * c_) + (4 * s_)) + 2) ((nz_add (nz_add (nz_mul rfl rfl) (nz_mul rfl rfl)) rfl)) (by omega) (by decide) dX3_leftOf_14 ?_
  refine lv_istore (lv' := [(4, .int (σ.sorts (((16 * c_) + (4 * s_)) + 2))), (0, .ref h), (1, .int bag), (2, .int (nI c_)), (3, .int (nI s_))]) hx hb dX3_leftOf_15 hl (by decide) rfl (fun ls hl => ?_)
  refine lv_aload_n hx hb dX3_leftOf_17 rfl (lv_at hl 1 rfl) ?_
  refine va_get (D := D) (ci := 0) (v := .ref (ad 7)) (C := RX3) (T := TX3) (N := 31) hx hb hts in_X3 hown hK hP 0 rfl rfl 14 (by decide) (hts _ q1128) (fun _ h9 => h9) rfl dX3_leftOf_18 ?_
  refine lv_bipush (v := 16) hx hb dX3_leftOf_21 rfl ?_
  refine lv_iload_n hx hb dX3_leftOf_23 rfl (lv_at hl 3 rfl) ?_
  refine lv_imul hx hb dX3_leftOf_24 ?_
  refine lv_iconst (v := 4) hx hb dX3_leftOf_25 rfl ?_
  refine lv_iload_n hx hb dX3_leftOf_26 rfl (lv_at hl 4 rfl) ?_
  refine lv_imul hx hb dX3_leftOf_27 ?_
  refine lv_iadd hx hb dX3_leftOf_28 ?_
  refine lv_iconst (v := 3) hx hb dX3_leftOf_29 rfl ?_
  refine lv_iadd hx hb dX3_leftOf_30 ?_
  refine wa_iald (f := σ.sorts) hx hb hK hP 8 0 rfl rfl (((16 * c_) + (4 * s_)) + 3) ((nz_add (nz_add (nz_mul rfl rfl) (nz_mul rfl rfl)) rfl)) (by omega) (by decide) dX3_leftOf_31 ?_
  refine lv_istore (lv' := [(5, .int (σ.sorts (((16 * c_) + (4 * s_)) + 3))), (4, .int (σ.sorts (((16 * c_) + (4 * s_)) + 2))), (0, .ref h), (1, .int bag), (2, .int (nI c_)), (3, .int (nI s_))]) hx hb dX3_leftOf_32 hl (by decide) rfl (fun ls hl => ?_)
  refine lv_iload_n hx hb dX3_leftOf_34 rfl (lv_at hl 3 rfl) ?_
  refine lv_iload hx hb dX3_leftOf_35 (lv_at hl 1 rfl) ?_
  refine lv_iload hx hb dX3_leftOf_37 (lv_at hl 0 rfl) ?_
  refine cSi (As := [.int bag, .int (σ.sorts (((16 * c_) + (4 * s_)) + 2)), .int (σ.sorts (((16 * c_) + (4 * s_)) + 3))]) (rest := []) ⟨hx, hb, hml, hown, hts⟩ (mt_X3_fits l bag (σ.sorts (((16 * c_) + (4 * s_)) + 2)) (σ.sorts (((16 * c_) + (4 * s_)) + 3))) (cw_X3_X3_fits hts ⟨Nat.le_of_ble_eq_true rfl, Nat.le_of_ble_eq_true rfl⟩) w_blT (fun _ _ _ => trivial) rfl hl.1 rfl (Nat.le_of_ble_eq_true rfl) dX3_leftOf_39 ⟨Nat.le_of_ble_eq_true rfl, Nat.le_of_ble_eq_true rfl⟩ ?_
  refine lv_if_ne (tgt := 47) hx hb dX3_leftOf_42 rfl (fun h42 => ?_) (fun h42 => ?_)
  · have h42 : fitsP bag (σ.sorts (((16 * c_) + (4 * s_)) + 2)) (σ.sorts (((16 * c_) + (4 * s_)) + 3)) := b01_n h42
    refine lv_iload hx hb dX3_leftOf_47 (lv_at hl 1 rfl) ?_
    refine lv_istore (lv' := [(6, .int (σ.sorts (((16 * c_) + (4 * s_)) + 2))), (5, .int (σ.sorts (((16 * c_) + (4 * s_)) + 3))), (4, .int (σ.sorts (((16 * c_) + (4 * s_)) + 2))), (0, .ref h), (1, .int bag), (2, .int (nI c_)), (3, .int (nI s_))]) hx hb dX3_leftOf_49 hl (by decide) rfl (fun ls hl => ?_)
    refine lv_iload hx hb dX3_leftOf_51 (lv_at hl 1 rfl) ?_
    refine lv_iload_n hx hb dX3_leftOf_53 rfl (lv_at hl 4 rfl) ?_
    refine lv_iand hx hb dX3_leftOf_54 ?_
    refine lv_istore (lv' := [(7, .int ((σ.sorts (((16 * c_) + (4 * s_)) + 3)) &&& bag)), (6, .int (σ.sorts (((16 * c_) + (4 * s_)) + 2))), (5, .int (σ.sorts (((16 * c_) + (4 * s_)) + 3))), (4, .int (σ.sorts (((16 * c_) + (4 * s_)) + 2))), (0, .ref h), (1, .int bag), (2, .int (nI c_)), (3, .int (nI s_))]) hx hb dX3_leftOf_55 hl (by decide) rfl (fun ls hl => ?_)
    refine lv_iconst (v := 0) hx hb dX3_leftOf_57 rfl ?_
    refine lv_istore (lv' := [(8, .int 0), (7, .int ((σ.sorts (((16 * c_) + (4 * s_)) + 3)) &&& bag)), (6, .int (σ.sorts (((16 * c_) + (4 * s_)) + 2))), (5, .int (σ.sorts (((16 * c_) + (4 * s_)) + 3))), (4, .int (σ.sorts (((16 * c_) + (4 * s_)) + 2))), (0, .ref h), (1, .int bag), (2, .int (nI c_)), (3, .int (nI s_))]) hx hb dX3_leftOf_58 hl (by decide) rfl (fun ls hl => ?_)
    have hL60_1 : ∀ (n_2 : Nat) (k : Nat) (x8 : Int32) (x7 : Int32) (x6 : Int32) (ls : Array Slot), (8 - k) < n_2 → (k ≤ 8) → x8 = (nI k) → x7 = ((usedL (σ.sorts (16 * c_ + 4 * s_ + 2)) (σ.sorts (16 * c_ + 4 * s_ + 3) &&& bag) k).2) → x6 = ((usedL (σ.sorts (16 * c_ + 4 * s_ + 2)) (σ.sorts (16 * c_ + 4 * s_ + 3) &&& bag) k).1) → lv_has ls 9 [(8, .int x8), (7, .int x7), (6, .int x6), (5, .int (σ.sorts (((16 * c_) + (4 * s_)) + 3))), (4, .int (σ.sorts (((16 * c_) + (4 * s_)) + 2))), (0, .ref h), (1, .int bag), (2, .int (nI c_)), (3, .int (nI s_))] → W p l e rmX3_leftOf s m args below meth c s.heap [] 0 0 Q (F0 m 60 ls []) := by
      intro n_2
      induction n_2 with
      | zero => intro k x8 x7 x6 ls hm_4; exact absurd hm_4 (Nat.not_lt_zero _)
      | succ n_2 ih_3 =>
        intro k x8 x7 x6 ls hm_4 hk ex8 ex7 ex6 hl
        subst ex8 ex7 ex6
        refine lv_iload hx hb dX3_leftOf_60 (lv_at hl 0 rfl) ?_
        refine lv_bipush (v := 8) hx hb dX3_leftOf_62 rfl ?_
        refine lv_icmp_ge (tgt := 95) hx hb dX3_leftOf_64 rfl (fun h64 => ?_) (fun h64 => ?_)
        · have h64 : 8 ≤ k := (nz_le (a := 8) (b := k) rfl rfl (by omega) (by omega)).mp h64
          have hk_ : k = 8 := by omega
          subst hk_
          refine lv_iload_n hx hb dX3_leftOf_95 rfl (lv_at hl 6 rfl) ?_
          refine lv_iload hx hb dX3_leftOf_96 (lv_at hl 2 rfl) ?_
          refine lv_aload_n hx hb dX3_leftOf_98 rfl (lv_at hl 5 rfl) ?_
          refine va_get (D := D) (ci := 0) (v := .int σ.tools) (C := RX3) (T := TX3) (N := 31) hx hb hts in_X3 hown hK hP 0 rfl rfl 6 (by decide) (hts _ q1120) (fun _ h9 => h9) rfl dX3_leftOf_99 ?_
          refine lv_iconst (v := (-1)) hx hb dX3_leftOf_102 rfl ?_
          refine lv_ixor hx hb dX3_leftOf_103 ?_
          refine lv_iand hx hb dX3_leftOf_104 ?_
          refine lv_iconst (v := (-1)) hx hb dX3_leftOf_105 rfl ?_
          refine lv_ixor hx hb dX3_leftOf_106 ?_
          refine lv_iand hx hb dX3_leftOf_107 ?_
          exact r_i hQ hx hb hr hlocks rfl (by simp only [leftF, eq_true h42, eq_true h64, if_true, if_false, ite_true, ite_false, not_true_eq_false, not_false_eq_true, and_true, true_and, and_false, false_and, or_true, true_or, or_false, false_or, and_self, or_self, eq_self]) dX3_leftOf_108
        · have h64 : ¬ (8 ≤ k) := fun z9 => h64 ((nz_le (a := 8) (b := k) rfl rfl (by omega) (by omega)).mpr z9)
          refine lv_iload hx hb dX3_leftOf_67 (lv_at hl 1 rfl) ?_
          refine lv_iload hx hb dX3_leftOf_69 (lv_at hl 0 rfl) ?_
          refine cSi (As := [.int ((usedL (σ.sorts (16 * c_ + 4 * s_ + 2)) (σ.sorts (16 * c_ + 4 * s_ + 3) &&& bag) k).2), .int (nI k)]) (rest := []) ⟨hx, hb, hml, hown, hts⟩ (mt_X3_has l ((usedL (σ.sorts (16 * c_ + 4 * s_ + 2)) (σ.sorts (16 * c_ + 4 * s_ + 3) &&& bag) k).2) (nI k)) (cw_X3_X3_has hts ⟨Nat.le_of_ble_eq_true rfl, Nat.le_of_ble_eq_true rfl⟩) w_blT (fun _ _ _ => trivial) rfl hl.1 rfl (Nat.le_of_ble_eq_true rfl) dX3_leftOf_71 ⟨Nat.le_of_ble_eq_true rfl, Nat.le_of_ble_eq_true rfl⟩ ?_
          have hJ89_5 : ∀ (v_6 : Int32) (v_7 : Int32) (ls : Array Slot), v_6 = (if hasP ((usedL (σ.sorts (16 * c_ + 4 * s_ + 2)) (σ.sorts (16 * c_ + 4 * s_ + 3) &&& bag) k).2) (nI k) then 0 else (usedL (σ.sorts (16 * c_ + 4 * s_ + 2)) (σ.sorts (16 * c_ + 4 * s_ + 3) &&& bag) k).2) → v_7 = (if hasP ((usedL (σ.sorts (16 * c_ + 4 * s_ + 2)) (σ.sorts (16 * c_ + 4 * s_ + 3) &&& bag) k).2) (nI k) then ((usedL (σ.sorts (16 * c_ + 4 * s_ + 2)) (σ.sorts (16 * c_ + 4 * s_ + 3) &&& bag) k).1) ||| ((1 : Int32) <<< ((nI k) &&& 31)) else (usedL (σ.sorts (16 * c_ + 4 * s_ + 2)) (σ.sorts (16 * c_ + 4 * s_ + 3) &&& bag) k).1) → lv_has ls 9 [(8, .int (nI k)), (7, .int v_6), (6, .int v_7), (5, .int (σ.sorts (((16 * c_) + (4 * s_)) + 3))), (4, .int (σ.sorts (((16 * c_) + (4 * s_)) + 2))), (0, .ref h), (1, .int bag), (2, .int (nI c_)), (3, .int (nI s_))] → W p l e rmX3_leftOf s m args below meth c s.heap [] 0 0 Q (F0 m 89 ls []) := by
            intro v_6 v_7 ls ev_6 ev_7 hl
            refine lv_iinc (v := nI (k + 1)) (lv' := [(8, .int (nI (k + 1))), (7, .int v_6), (6, .int v_7), (5, .int (σ.sorts (((16 * c_) + (4 * s_)) + 3))), (4, .int (σ.sorts (((16 * c_) + (4 * s_)) + 2))), (0, .ref h), (1, .int bag), (2, .int (nI c_)), (3, .int (nI s_))]) hx hb dX3_leftOf_89 hl (k := 0) rfl (nI_1 k) (by decide) rfl (fun ls hl => ?_)
            refine lv_goto (tgt := 60) hx hb dX3_leftOf_92 rfl ?_
            exact ih_3 (k + 1) (nI (k + 1)) v_6 v_7 ls (by omega) (by omega) rfl (by rw [usedL_2]; subst_vars; rfl) (by rw [usedL_1]; subst_vars; rfl) (lv_sub hl [0, 1, 2, 3, 4, 5, 6, 7, 8] rfl)
          refine lv_if_eq (tgt := 89) hx hb dX3_leftOf_74 rfl (fun h74 => ?_) (fun h74 => ?_)
          · have h74 : ¬ (hasP ((usedL (σ.sorts (16 * c_ + 4 * s_ + 2)) (σ.sorts (16 * c_ + 4 * s_ + 3) &&& bag) k).2) (nI k)) := b01_0.mp h74
            exact hJ89_5 ((usedL (σ.sorts (16 * c_ + 4 * s_ + 2)) (σ.sorts (16 * c_ + 4 * s_ + 3) &&& bag) k).2) ((usedL (σ.sorts (16 * c_ + 4 * s_ + 2)) (σ.sorts (16 * c_ + 4 * s_ + 3) &&& bag) k).1) ls (by rw [if_neg h74]) (by rw [if_neg h74]) (lv_sub hl [0, 1, 2, 3, 4, 5, 6, 7, 8] rfl)
          · have h74 : hasP ((usedL (σ.sorts (16 * c_ + 4 * s_ + 2)) (σ.sorts (16 * c_ + 4 * s_ + 3) &&& bag) k).2) (nI k) := b01_n h74
            refine lv_iload hx hb dX3_leftOf_77 (lv_at hl 2 rfl) ?_
            refine lv_iconst (v := 1) hx hb dX3_leftOf_79 rfl ?_
            refine lv_iload hx hb dX3_leftOf_80 (lv_at hl 0 rfl) ?_
            refine lv_ishl hx hb dX3_leftOf_82 ?_
            refine lv_ior hx hb dX3_leftOf_83 ?_
            refine lv_istore (lv' := [(6, .int (((usedL (σ.sorts (16 * c_ + 4 * s_ + 2)) (σ.sorts (16 * c_ + 4 * s_ + 3) &&& bag) k).1) ||| ((1 : Int32) <<< ((nI k) &&& 31)))), (8, .int (nI k)), (7, .int ((usedL (σ.sorts (16 * c_ + 4 * s_ + 2)) (σ.sorts (16 * c_ + 4 * s_ + 3) &&& bag) k).2)), (5, .int (σ.sorts (((16 * c_) + (4 * s_)) + 3))), (4, .int (σ.sorts (((16 * c_) + (4 * s_)) + 2))), (0, .ref h), (1, .int bag), (2, .int (nI c_)), (3, .int (nI s_))]) hx hb dX3_leftOf_84 hl (by decide) rfl (fun ls hl => ?_)
            refine lv_iconst (v := 0) hx hb dX3_leftOf_86 rfl ?_
            refine lv_istore (lv' := [(7, .int 0), (6, .int (((usedL (σ.sorts (16 * c_ + 4 * s_ + 2)) (σ.sorts (16 * c_ + 4 * s_ + 3) &&& bag) k).1) ||| ((1 : Int32) <<< ((nI k) &&& 31)))), (8, .int (nI k)), (5, .int (σ.sorts (((16 * c_) + (4 * s_)) + 3))), (4, .int (σ.sorts (((16 * c_) + (4 * s_)) + 2))), (0, .ref h), (1, .int bag), (2, .int (nI c_)), (3, .int (nI s_))]) hx hb dX3_leftOf_87 hl (by decide) rfl (fun ls hl => ?_)
            exact hJ89_5 (0) (((usedL (σ.sorts (16 * c_ + 4 * s_ + 2)) (σ.sorts (16 * c_ + 4 * s_ + 3) &&& bag) k).1) ||| ((1 : Int32) <<< ((nI k) &&& 31))) ls (by rw [if_pos h74]) (by rw [if_pos h74]) (lv_sub hl [2, 0, 1, 3, 4, 5, 6, 7, 8] rfl)
    exact hL60_1 _ 0 0 ((σ.sorts (((16 * c_) + (4 * s_)) + 3)) &&& bag) (σ.sorts (((16 * c_) + (4 * s_)) + 2)) ls (Nat.lt_succ_self _) (by omega) rfl (by subst_vars; rfl) (by subst_vars; rfl) (lv_sub hl [0, 1, 2, 3, 4, 5, 6, 7, 8] rfl)
  · have h42 : ¬ (fitsP bag (σ.sorts (((16 * c_) + (4 * s_)) + 2)) (σ.sorts (((16 * c_) + (4 * s_)) + 3))) := b01_0.mp h42
    refine lv_iconst (v := (-1)) hx hb dX3_leftOf_45 rfl ?_
    exact r_i hQ hx hb hr hlocks rfl (by simp only [leftF, eq_false h42, if_true, if_false, ite_true, ite_false, not_true_eq_false, not_false_eq_true, and_true, true_and, and_false, false_and, or_true, true_or, or_false, false_or, and_self, or_self, eq_self]) dX3_leftOf_46

theorem cw_X3_X3_leftOf {R : Room} {s : State} {args : Array Value} (hts : ∀ w ∈ lw_all, w.before args s = true) (hR : rmX3_leftOf.frames + 1 ≤ R.frames ∧ 8 + (9 + 11) + rmX3_leftOf.locals ≤ R.locals) : CallW R s args RX3 RX3 168 yX3_leftOf cX3_leftOf 9 (some .int) (ws_ yX3_leftOf cX3_leftOf 9 (some .int)) rmX3_leftOf 0 0 3 := cwV 3 hts (lw_V q1336 q1338 qs49 q83 q1339) rfl rfl rfl (by decide +kernel) hR
def rmX3_does : Room := { frames := 3, cells := 0, slots := 0, locals := 68 }
set_option maxHeartbeats 1000000 in
theorem mt_X3_does (l : Launch) (D : va_G) (dA : Nat → ClassId) (h : Nat) (ad : Nat → Nat) (σ : St) (τ : Sc) (bag : Int32) (c_ : Int32) (s_ : Int32) (hI : Inv σ) : Met l yX3_does (ws_ yX3_does cX3_does 4 (some .int)) rmX3_does (va_Pc [.ref h, .int bag, .int c_, .int s_] (mB D dA h ad σ τ)) (vp_Si (fun r => r = doesF σ bag c_ s_)) 0 0 (fun _ => False) := by
  refine w_start (by decide) (Nat.le_of_ble_eq_true rfl) ?_
  intro p e s m args below meth c Q ls hQ hx hb hr hlocks hml hown hnm hts hB hl
  have hown : s.vm.findClass RX3 = some m.cls := hown
  have hl : lv_has ls 4 [(0, .ref h), (1, .int bag), (2, .int c_), (3, .int s_)] := hl
  obtain ⟨hP, hK⟩ := hB
  refine lv_aload_n hx hb dX3_does_0 rfl (lv_at hl 0 rfl) ?_
  refine lv_iload_n hx hb dX3_does_1 rfl (lv_at hl 2 rfl) ?_
  refine lv_iload_n hx hb dX3_does_2 rfl (lv_at hl 3 rfl) ?_
  refine cVi (As := [.int c_, .int s_]) (rest := []) ⟨hx, hb, hml, hown, hts⟩ (mt_X3_isSort l D dA h ad σ τ c_ s_ hI) (cw_X3_X3_isSort hts ⟨Nat.le_of_ble_eq_true rfl, Nat.le_of_ble_eq_true rfl⟩) mB_bl (mB_now hK hP) (va_recv hK hP (ci := 0) (q0 := 0) rfl rfl) rfl hl.1 rfl (Nat.le_of_ble_eq_true rfl) dX3_does_3 ⟨Nat.le_of_ble_eq_true rfl, Nat.le_of_ble_eq_true rfl⟩ ?_
  refine lv_if_ne (tgt := 12) hx hb dX3_does_6 rfl (fun h6 => ?_) (fun h6 => ?_)
  · have h6 : sortP σ c_ s_ := b01_n h6
    obtain ⟨j, hj, rfl⟩ := in5 h6.1.1
    have hix_j : ix (nI j) = j := ix_nI hj (by decide)
    have hsm := hI.sm j hj
    obtain ⟨i, hi, rfl⟩ := in_sm hsm (by have q := h6.2; rw [hix_j] at q; exact q)
    have his : ix (nI i) = i := ix_nI hi (by omega)
    refine lv_iload_n hx hb dX3_does_12 rfl (lv_at hl 1 rfl) ?_
    refine cSi (As := [.int bag]) (rest := []) ⟨hx, hb, hml, hown, hts⟩ (mt_X3_isBag l bag) (cw_X3_X3_isBag hts ⟨Nat.le_of_ble_eq_true rfl, Nat.le_of_ble_eq_true rfl⟩) w_blT (fun _ _ _ => trivial) rfl hl.1 rfl (Nat.le_of_ble_eq_true rfl) dX3_does_13 ⟨Nat.le_of_ble_eq_true rfl, Nat.le_of_ble_eq_true rfl⟩ ?_
    refine lv_if_eq (tgt := 29) hx hb dX3_does_16 rfl (fun h16 => ?_) (fun h16 => ?_)
    · have h16 : ¬ (bagP bag) := b01_0.mp h16
      refine lv_bipush (v := (-3)) hx hb dX3_does_29 rfl ?_
      exact r_i hQ hx hb hr hlocks rfl (by simp only [doesF, eq_true h6, eq_false h16, hix_j, his, if_true, if_false, ite_true, ite_false, not_true_eq_false, not_false_eq_true, and_true, true_and, and_false, false_and, or_true, true_or, or_false, false_or, and_self, or_self, eq_self]) dX3_does_31
    · have h16 : bagP bag := b01_n h16
      refine lv_aload_n hx hb dX3_does_19 rfl (lv_at hl 0 rfl) ?_
      refine lv_iload_n hx hb dX3_does_20 rfl (lv_at hl 1 rfl) ?_
      refine lv_iload_n hx hb dX3_does_21 rfl (lv_at hl 2 rfl) ?_
      refine lv_iload_n hx hb dX3_does_22 rfl (lv_at hl 3 rfl) ?_
      refine cVi (As := [.int bag, .int (nI j), .int (nI i)]) (rest := []) ⟨hx, hb, hml, hown, hts⟩ (mt_X3_leftOf l D dA h ad σ τ bag j i (by omega) (by omega)) (cw_X3_X3_leftOf hts ⟨Nat.le_of_ble_eq_true rfl, Nat.le_of_ble_eq_true rfl⟩) mB_bl (mB_now hK hP) (va_recv hK hP (ci := 0) (q0 := 0) rfl rfl) rfl hl.1 rfl (Nat.le_of_ble_eq_true rfl) dX3_does_23 ⟨Nat.le_of_ble_eq_true rfl, Nat.le_of_ble_eq_true rfl⟩ ?_
      refine lv_goto (tgt := 31) hx hb dX3_does_26 rfl ?_
      exact r_i hQ hx hb hr hlocks rfl (by simp only [doesF, eq_true h6, eq_true h16, hix_j, his, if_true, if_false, ite_true, ite_false, not_true_eq_false, not_false_eq_true, and_true, true_and, and_false, false_and, or_true, true_or, or_false, false_or, and_self, or_self, eq_self]) dX3_does_31
  · have h6 : ¬ (sortP σ c_ s_) := b01_0.mp h6
    refine lv_bipush (v := (-2)) hx hb dX3_does_9 rfl ?_
    exact r_i hQ hx hb hr hlocks rfl (by simp only [doesF, eq_false h6, if_true, if_false, ite_true, ite_false, not_true_eq_false, not_false_eq_true, and_true, true_and, and_false, false_and, or_true, true_or, or_false, false_or, and_self, or_self, eq_self]) dX3_does_11

def rmX3_totalOf : Room := { frames := 0, cells := 0, slots := 0, locals := 0 }
set_option maxHeartbeats 1000000 in
theorem mt_X3_totalOf (l : Launch) (D : va_G) (dA : Nat → ClassId) (h : Nat) (ad : Nat → Nat) (σ : St) (τ : Sc) (c_ : Nat) (hI : Inv σ) (hc : c_ < 6) : Met l yX3_totalOf (ws_ yX3_totalOf cX3_totalOf 4 (some .int)) rmX3_totalOf (va_Pc [.ref h, .int (nI c_)] (mB D dA h ad σ τ)) (vp_Si (fun r => r = total σ c_)) 0 0 (fun _ => False) := by
  refine w_start (by decide) (Nat.le_of_ble_eq_true rfl) ?_
  intro p e s m args below meth c Q ls hQ hx hb hr hlocks hml hown hnm hts hB hl
  have hown : s.vm.findClass RX3 = some m.cls := hown
  have hl : lv_has ls 4 [(0, .ref h), (1, .int (nI c_))] := hl
  obtain ⟨hP, hK⟩ := hB
  have hsm := hI.sm c_ hc
  refine lv_iconst (v := 0) hx hb dX3_totalOf_0 rfl ?_
  refine lv_istore_n (lv' := [(2, .int 0), (0, .ref h), (1, .int (nI c_))]) hx hb dX3_totalOf_1 rfl hl (by decide) rfl (fun ls hl => ?_)
  refine lv_iconst (v := 0) hx hb dX3_totalOf_2 rfl ?_
  refine lv_istore_n (lv' := [(3, .int 0), (2, .int 0), (0, .ref h), (1, .int (nI c_))]) hx hb dX3_totalOf_3 rfl hl (by decide) rfl (fun ls hl => ?_)
  have hL4_1 : ∀ (n_2 : Nat) (k : Nat) (x3 : Int32) (x2 : Int32) (ls : Array Slot), (4 - k) < n_2 → (k ≤ σ.sm c_) → x3 = (nI k) → x2 = (totF σ c_ k) → lv_has ls 4 [(3, .int x3), (2, .int x2), (0, .ref h), (1, .int (nI c_))] → W p l e rmX3_totalOf s m args below meth c s.heap [] 0 0 Q (F0 m 4 ls []) := by
    intro n_2
    induction n_2 with
    | zero => intro k x3 x2 ls hm_4; exact absurd hm_4 (Nat.not_lt_zero _)
    | succ n_2 ih_3 =>
      intro k x3 x2 ls hm_4 hk ex3 ex2 hl
      subst ex3 ex2
      refine lv_iload_n hx hb dX3_totalOf_4 rfl (lv_at hl 0 rfl) ?_
      refine lv_aload_n hx hb dX3_totalOf_5 rfl (lv_at hl 2 rfl) ?_
      refine va_get (D := D) (ci := 0) (v := .ref (ad 6)) (C := RX3) (T := TX3) (N := 31) hx hb hts in_X3 hown hK hP 0 rfl rfl 13 (by decide) (hts _ q1127) (fun _ h9 => h9) rfl dX3_totalOf_6 ?_
      refine lv_iload_n hx hb dX3_totalOf_9 rfl (lv_at hl 3 rfl) ?_
      refine wa_iald (f := fun c => nI (σ.sm c)) hx hb hK hP 7 0 rfl rfl (c_) (rfl) (by omega) (by decide) dX3_totalOf_10 ?_
      refine w_topi (y := nI (σ.sm c_)) rfl ?_
      refine lv_icmp_ge (tgt := 36) hx hb dX3_totalOf_11 rfl (fun h11 => ?_) (fun h11 => ?_)
      · have h11 : (σ.sm c_) ≤ k := (nz_le (a := σ.sm c_) (b := k) rfl rfl (by omega) (by omega)).mp h11
        have hk_ : k = σ.sm c_ := by omega
        subst hk_
        refine lv_iload_n hx hb dX3_totalOf_36 rfl (lv_at hl 1 rfl) ?_
        exact r_i hQ hx hb hr hlocks rfl (rfl) dX3_totalOf_37
      · have h11 : ¬ ((σ.sm c_) ≤ k) := fun z9 => h11 ((nz_le (a := σ.sm c_) (b := k) rfl rfl (by omega) (by omega)).mpr z9)
        refine lv_iload_n hx hb dX3_totalOf_14 rfl (lv_at hl 1 rfl) ?_
        refine lv_aload_n hx hb dX3_totalOf_15 rfl (lv_at hl 2 rfl) ?_
        refine va_get (D := D) (ci := 0) (v := .ref (ad 7)) (C := RX3) (T := TX3) (N := 31) hx hb hts in_X3 hown hK hP 0 rfl rfl 14 (by decide) (hts _ q1128) (fun _ h9 => h9) rfl dX3_totalOf_16 ?_
        refine lv_bipush (v := 16) hx hb dX3_totalOf_19 rfl ?_
        refine lv_iload_n hx hb dX3_totalOf_21 rfl (lv_at hl 3 rfl) ?_
        refine lv_imul hx hb dX3_totalOf_22 ?_
        refine lv_iconst (v := 4) hx hb dX3_totalOf_23 rfl ?_
        refine lv_iload_n hx hb dX3_totalOf_24 rfl (lv_at hl 0 rfl) ?_
        refine lv_imul hx hb dX3_totalOf_25 ?_
        refine lv_iadd hx hb dX3_totalOf_26 ?_
        refine wa_iald (f := σ.sorts) hx hb hK hP 8 0 rfl rfl ((16 * c_) + (4 * k)) ((nz_add (nz_mul rfl rfl) (nz_mul rfl rfl))) (by omega) (by decide) dX3_totalOf_27 ?_
        refine lv_iadd hx hb dX3_totalOf_28 ?_
        refine lv_istore_n (lv' := [(2, .int ((totF σ c_ k) + (σ.sorts ((16 * c_) + (4 * k))))), (3, .int (nI k)), (0, .ref h), (1, .int (nI c_))]) hx hb dX3_totalOf_29 rfl hl (by decide) rfl (fun ls hl => ?_)
        refine lv_iinc (v := nI (k + 1)) (lv' := [(3, .int (nI (k + 1))), (2, .int ((totF σ c_ k) + (σ.sorts ((16 * c_) + (4 * k))))), (0, .ref h), (1, .int (nI c_))]) hx hb dX3_totalOf_30 hl (k := 1) rfl (nI_1 k) (by decide) rfl (fun ls hl => ?_)
        refine lv_goto (tgt := 4) hx hb dX3_totalOf_33 rfl ?_
        exact ih_3 (k + 1) (nI (k + 1)) ((totF σ c_ k) + (σ.sorts ((16 * c_) + (4 * k)))) ls (by omega) (by omega) rfl (by subst_vars; rw [totF]) (lv_sub hl [0, 1, 2, 3] rfl)
  exact hL4_1 _ 0 0 0 ls (Nat.lt_succ_self _) (by omega) rfl (by subst_vars; rw [totF]) (lv_sub hl [0, 1, 2, 3] rfl)

def rmX3_divisor : Room := { frames := 0, cells := 0, slots := 0, locals := 0 }
set_option maxHeartbeats 1000000 in
theorem mt_X3_divisor (l : Launch) (a : Int64) (b : Int64) : Met l yX3_divisor (ws_ yX3_divisor cX3_divisor 10 (some .long)) rmX3_divisor (va_Pc [.long a, .long b] (fun _ => True)) (vp_Sl (fun r => r = gcdW (absW a) b)) 0 0 (fun _ => False) := by
  refine w_start (by decide) (Nat.le_of_ble_eq_true rfl) ?_
  intro p e s m args below meth c Q ls hQ hx hb hr hlocks hml hown hnm hts hB hl
  have hown : s.vm.findClass RX3 = some m.cls := hown
  have hl : lv_has ls 10 [(0, .long a), (2, .long b)] := hl
  refine lv_lload_n hx hb dX3_divisor_0 rfl (lv_at hl 0 rfl) ?_
  refine lv_lconst (v := 0) hx hb dX3_divisor_1 rfl ?_
  refine W.lcmp hx hb dX3_divisor_2 ?_
  have hJ12_1 : ∀ (v_2 : Int64) (ls : Array Slot), v_2 = (if (0 : Int64) ≤ a then a else -a) → lv_has ls 10 [(0, .long a), (2, .long b)] → W p l e rmX3_divisor s m args below meth c s.heap [] 0 0 Q (F0 m 12 ls [.long v_2]) := by
    intro v_2 ls ev_2 hl
    refine lv_lstore (lv' := [(4, .long v_2), (0, .long a), (2, .long b)]) hx hb dX3_divisor_12 hl (by decide) rfl (fun ls hl => ?_)
    refine lv_lload_n hx hb dX3_divisor_14 rfl (lv_at hl 2 rfl) ?_
    refine lv_lstore (lv' := [(6, .long b), (4, .long v_2), (0, .long a), (2, .long b)]) hx hb dX3_divisor_15 hl (by decide) rfl (fun ls hl => ?_)
    have hL17_3 : ∀ (n_4 : Nat) (x : Int64) (y : Int64) (ls : Array Slot), y.toInt.natAbs < n_4 → (gcdW x y = gcdW (absW a) b) → lv_has ls 10 [(6, .long y), (4, .long x), (0, .long a), (2, .long b)] → W p l e rmX3_divisor s m args below meth c s.heap [] 0 0 Q (F0 m 17 ls []) := by
      intro n_4
      induction n_4 with
      | zero => intro x y ls hm_6; exact absurd hm_6 (Nat.not_lt_zero _)
      | succ n_4 ih_5 =>
        intro x y ls hm_6 hg  hl
        refine lv_lload hx hb dX3_divisor_17 (lv_at hl 0 rfl) ?_
        refine lv_lconst (v := 0) hx hb dX3_divisor_19 rfl ?_
        refine W.lcmp hx hb dX3_divisor_20 ?_
        refine lv_if_eq (tgt := 42) hx hb dX3_divisor_21 rfl (fun h21 => ?_) (fun h21 => ?_)
        · have h21 : y = 0 := (lg_cmp_eq y 0).mp h21
          rw [h21, gcdW_0] at hg
          refine lv_lload hx hb dX3_divisor_42 (lv_at hl 1 rfl) ?_
          exact r_l hQ hx hb hr hlocks rfl (hg) dX3_divisor_44
        · have h21 : ¬ (y = 0) := fun z9 => h21 ((lg_cmp_eq y 0).mpr z9)
          refine lv_lload hx hb dX3_divisor_24 (lv_at hl 1 rfl) ?_
          refine lv_lload hx hb dX3_divisor_26 (lv_at hl 0 rfl) ?_
          refine lv_lrem hx hb dX3_divisor_28 (h21) ?_
          refine lv_lstore (lv' := [(8, .long (x - x / y * y)), (6, .long y), (4, .long x), (0, .long a), (2, .long b)]) hx hb dX3_divisor_29 hl (by decide) rfl (fun ls hl => ?_)
          refine lv_lload hx hb dX3_divisor_31 (lv_at hl 1 rfl) ?_
          refine lv_lstore (lv' := [(4, .long y), (8, .long (x - x / y * y)), (6, .long y), (0, .long a), (2, .long b)]) hx hb dX3_divisor_33 hl (by decide) rfl (fun ls hl => ?_)
          refine lv_lload hx hb dX3_divisor_35 (lv_at hl 1 rfl) ?_
          refine lv_lstore (lv' := [(6, .long (x - x / y * y)), (4, .long y), (8, .long (x - x / y * y)), (0, .long a), (2, .long b)]) hx hb dX3_divisor_37 hl (by decide) rfl (fun ls hl => ?_)
          refine lv_goto (tgt := 17) hx hb dX3_divisor_39 rfl ?_
          exact ih_5 y (x - x / y * y) ls (by have := rem_lt x y h21; omega) (by rw [← gcdW_s h21]; exact hg)  (lv_sub hl [0, 1, 3, 4] rfl)
    exact hL17_3 _ v_2 b ls (Nat.lt_succ_self _) (by subst_vars; rfl)  (lv_sub hl [0, 1, 2, 3] rfl)
  refine lv_if_ge (tgt := 11) hx hb dX3_divisor_3 rfl (fun h3 => ?_) (fun h3 => ?_)
  · have h3 : (0 : Int64) ≤ a := (lg_cmp_ge a 0).mp h3
    refine lv_lload_n hx hb dX3_divisor_11 rfl (lv_at hl 0 rfl) ?_
    exact hJ12_1 (a) ls (by rw [if_pos h3]) (lv_sub hl [0, 1] rfl)
  · have h3 : ¬ ((0 : Int64) ≤ a) := fun z9 => h3 ((lg_cmp_ge a 0).mpr z9)
    refine lv_lload_n hx hb dX3_divisor_6 rfl (lv_at hl 0 rfl) ?_
    refine lv_lneg hx hb dX3_divisor_7 ?_
    refine lv_goto (tgt := 12) hx hb dX3_divisor_8 rfl ?_
    exact hJ12_1 (-a) ls (by rw [if_neg h3]) (lv_sub hl [0, 1] rfl)

theorem cw_X3_X3_divisor {R : Room} {s : State} {args : Array Value} (hts : ∀ w ∈ lw_all, w.before args s = true) (hR : rmX3_divisor.frames + 1 ≤ R.frames ∧ 8 + (10 + 11) + rmX3_divisor.locals ≤ R.locals) : CallB R s args RX3 172 yX3_divisor cX3_divisor 10 (some .long) (ws_ yX3_divisor cX3_divisor 10 (some .long)) rmX3_divisor 0 0 2 ∧ (Cond.static yX3_divisor).before args s = true := va_cwS 2 hts (lw_S q1361 q1362 q83 q1363) rfl rfl rfl (by decide +kernel) hR
def rmX3_lowest : Room := { frames := 1, cells := 0, slots := 0, locals := 29 }
set_option maxHeartbeats 1000000 in
theorem mt_X3_lowest (l : Launch) (up : Int64) (dn : Int64) (w : Int32) (hd : ¬ dn = 0) : Met l yX3_lowest (ws_ yX3_lowest cX3_lowest 7 (some .long)) rmX3_lowest (va_Pc [.long up, .long dn, .int w] (fun _ => True)) (vp_Sl (fun r => r = lowF up dn w)) 0 0 (fun _ => False) := by
  refine w_start (by decide) (Nat.le_of_ble_eq_true rfl) ?_
  intro p e s m args below meth c Q ls hQ hx hb hr hlocks hml hown hnm hts hB hl
  have hown : s.vm.findClass RX3 = some m.cls := hown
  have hl : lv_has ls 7 [(0, .long up), (2, .long dn), (4, .int w)] := hl
  refine lv_lload_n hx hb dX3_lowest_0 rfl (lv_at hl 0 rfl) ?_
  refine lv_lload_n hx hb dX3_lowest_1 rfl (lv_at hl 1 rfl) ?_
  refine cSl (As := [.long up, .long dn]) (rest := []) ⟨hx, hb, hml, hown, hts⟩ (mt_X3_divisor l up dn) (cw_X3_X3_divisor hts ⟨Nat.le_of_ble_eq_true rfl, Nat.le_of_ble_eq_true rfl⟩) w_blT (fun _ _ _ => trivial) rfl hl.1 rfl (Nat.le_of_ble_eq_true rfl) dX3_lowest_2 ⟨Nat.le_of_ble_eq_true rfl, Nat.le_of_ble_eq_true rfl⟩ ?_
  refine lv_lstore (lv' := [(5, .long (gcdW (absW up) dn)), (0, .long up), (2, .long dn), (4, .int w)]) hx hb dX3_lowest_5 hl (by decide) rfl (fun ls hl => ?_)
  refine lv_iload hx hb dX3_lowest_7 (lv_at hl 3 rfl) ?_
  refine lv_if_ne (tgt := 19) hx hb dX3_lowest_9 rfl (fun h9 => ?_) (fun h9 => ?_)
  · have h9 : ¬ (w = 0) := h9
    refine lv_lload_n hx hb dX3_lowest_19 rfl (lv_at hl 2 rfl) ?_
    refine lv_lload hx hb dX3_lowest_20 (lv_at hl 0 rfl) ?_
    refine lv_ldiv hx hb dX3_lowest_22 (low_ne up hd) ?_
    exact r_l hQ hx hb hr hlocks rfl (by simp only [lowF, eq_false h9, if_true, if_false, ite_true, ite_false, not_true_eq_false, not_false_eq_true, and_true, true_and, and_false, false_and, or_true, true_or, or_false, false_or, and_self, or_self, eq_self]) dX3_lowest_23
  · have h9 : w = 0 := h9
    refine lv_lload_n hx hb dX3_lowest_12 rfl (lv_at hl 1 rfl) ?_
    refine lv_lload hx hb dX3_lowest_13 (lv_at hl 0 rfl) ?_
    refine lv_ldiv hx hb dX3_lowest_15 (low_ne up hd) ?_
    refine lv_goto (tgt := 23) hx hb dX3_lowest_16 rfl ?_
    exact r_l hQ hx hb hr hlocks rfl (by simp only [lowF, eq_true h9, if_true, if_false, ite_true, ite_false, not_true_eq_false, not_false_eq_true, and_true, true_and, and_false, false_and, or_true, true_or, or_false, false_or, and_self, or_self, eq_self]) dX3_lowest_23

theorem cw_X3_X3_isUsable {R : Room} {s : State} {args : Array Value} (hts : ∀ w ∈ lw_all, w.before args s = true) (hR : rmX3_isUsable.frames + 1 ≤ R.frames ∧ 8 + (2 + 11) + rmX3_isUsable.locals ≤ R.locals) : CallW R s args RX3 RX3 176 yX3_isUsable cX3_isUsable 2 (some .boolean) (ws_ yX3_isUsable cX3_isUsable 2 (some .boolean)) rmX3_isUsable 0 0 1 := cwV 1 hts (lw_V q1347 q1349 qs50 q83 q1350) rfl rfl rfl (by decide +kernel) hR
theorem cw_X3_X3_isPart {R : Room} {s : State} {args : Array Value} (hts : ∀ w ∈ lw_all, w.before args s = true) (hR : rmX3_isPart.frames + 1 ≤ R.frames ∧ 8 + (1 + 11) + rmX3_isPart.locals ≤ R.locals) : CallB R s args RX3 179 yX3_isPart cX3_isPart 1 (some .boolean) (ws_ yX3_isPart cX3_isPart 1 (some .boolean)) rmX3_isPart 0 0 1 ∧ (Cond.static yX3_isPart).before args s = true := va_cwS 1 hts (lw_S q1351 q1352 q83 q1353) rfl rfl rfl (by decide +kernel) hR
theorem cw_X3_X3_totalOf {R : Room} {s : State} {args : Array Value} (hts : ∀ w ∈ lw_all, w.before args s = true) (hR : rmX3_totalOf.frames + 1 ≤ R.frames ∧ 8 + (4 + 11) + rmX3_totalOf.locals ≤ R.locals) : CallW R s args RX3 RX3 182 yX3_totalOf cX3_totalOf 4 (some .int) (ws_ yX3_totalOf cX3_totalOf 4 (some .int)) rmX3_totalOf 0 0 1 := cwV 1 hts (lw_V q1354 q1356 qs51 q83 q1357) rfl rfl rfl (by decide +kernel) hR
theorem cw_X3_X3_lowest {R : Room} {s : State} {args : Array Value} (hts : ∀ w ∈ lw_all, w.before args s = true) (hR : rmX3_lowest.frames + 1 ≤ R.frames ∧ 8 + (7 + 11) + rmX3_lowest.locals ≤ R.locals) : CallB R s args RX3 185 yX3_lowest cX3_lowest 7 (some .long) (ws_ yX3_lowest cX3_lowest 7 (some .long)) rmX3_lowest 0 0 3 ∧ (Cond.static yX3_lowest).before args s = true := va_cwS 3 hts (lw_S q1358 q1359 q83 q1360) rfl rfl rfl (by decide +kernel) hR
def rmX3_chance : Room := { frames := 3, cells := 0, slots := 0, locals := 67 }
set_option maxHeartbeats 1000000 in
theorem mt_X3_chance (l : Launch) (D : va_G) (dA : Nat → ClassId) (h : Nat) (ad : Nat → Nat) (σ : St) (τ : Sc) (bag : Int32) (c_ : Int32) (w : Int32) (hI : Inv σ) : Met l yX3_chance (ws_ yX3_chance cX3_chance 6 (some .int)) rmX3_chance (va_Pc [.ref h, .int bag, .int c_, .int w] (mB D dA h ad σ τ)) (vp_Si (fun r => r = chanceF σ bag c_ w)) 0 0 (fun _ => False) := by
  refine w_start (by decide) (Nat.le_of_ble_eq_true rfl) ?_
  intro p e s m args below meth c Q ls hQ hx hb hr hlocks hml hown hnm hts hB hl
  have hown : s.vm.findClass RX3 = some m.cls := hown
  have hl : lv_has ls 6 [(0, .ref h), (1, .int bag), (2, .int c_), (3, .int w)] := hl
  obtain ⟨hP, hK⟩ := hB
  refine lv_aload_n hx hb dX3_chance_0 rfl (lv_at hl 0 rfl) ?_
  refine lv_iload_n hx hb dX3_chance_1 rfl (lv_at hl 2 rfl) ?_
  refine cVi (As := [.int c_]) (rest := []) ⟨hx, hb, hml, hown, hts⟩ (mt_X3_isUsable l D dA h ad σ τ c_ hI) (cw_X3_X3_isUsable hts ⟨Nat.le_of_ble_eq_true rfl, Nat.le_of_ble_eq_true rfl⟩) mB_bl (mB_now hK hP) (va_recv hK hP (ci := 0) (q0 := 0) rfl rfl) rfl hl.1 rfl (Nat.le_of_ble_eq_true rfl) dX3_chance_2 ⟨Nat.le_of_ble_eq_true rfl, Nat.le_of_ble_eq_true rfl⟩ ?_
  refine lv_if_ne (tgt := 11) hx hb dX3_chance_5 rfl (fun h5 => ?_) (fun h5 => ?_)
  · have h5 : useP σ c_ := b01_n h5
    obtain ⟨j, hj, rfl⟩ := in5 h5.1.1
    have hix_j : ix (nI j) = j := ix_nI hj (by decide)
    have hsm := hI.sm j hj
    refine lv_iload_n hx hb dX3_chance_11 rfl (lv_at hl 1 rfl) ?_
    refine cSi (As := [.int bag]) (rest := []) ⟨hx, hb, hml, hown, hts⟩ (mt_X3_isBag l bag) (cw_X3_X3_isBag hts ⟨Nat.le_of_ble_eq_true rfl, Nat.le_of_ble_eq_true rfl⟩) w_blT (fun _ _ _ => trivial) rfl hl.1 rfl (Nat.le_of_ble_eq_true rfl) dX3_chance_12 ⟨Nat.le_of_ble_eq_true rfl, Nat.le_of_ble_eq_true rfl⟩ ?_
    refine lv_if_eq (tgt := 25) hx hb dX3_chance_15 rfl (fun h15 => ?_) (fun h15 => ?_)
    · have h15 : ¬ (bagP bag) := b01_0.mp h15
      refine lv_bipush (v := (-3)) hx hb dX3_chance_25 rfl ?_
      exact r_i hQ hx hb hr hlocks rfl (by simp only [chanceF, eq_true h5, eq_false h15, hix_j, if_true, if_false, ite_true, ite_false, not_true_eq_false, not_false_eq_true, and_true, true_and, and_false, false_and, or_true, true_or, or_false, false_or, and_self, or_self, eq_self]) dX3_chance_27
    · have h15 : bagP bag := b01_n h15
      refine lv_iload_n hx hb dX3_chance_18 rfl (lv_at hl 3 rfl) ?_
      refine cSi (As := [.int w]) (rest := []) ⟨hx, hb, hml, hown, hts⟩ (mt_X3_isPart l w) (cw_X3_X3_isPart hts ⟨Nat.le_of_ble_eq_true rfl, Nat.le_of_ble_eq_true rfl⟩) w_blT (fun _ _ _ => trivial) rfl hl.1 rfl (Nat.le_of_ble_eq_true rfl) dX3_chance_19 ⟨Nat.le_of_ble_eq_true rfl, Nat.le_of_ble_eq_true rfl⟩ ?_
      refine lv_if_ne (tgt := 28) hx hb dX3_chance_22 rfl (fun h22 => ?_) (fun h22 => ?_)
      · have h22 : partP w := b01_n h22
        refine lv_iconst (v := 0) hx hb dX3_chance_28 rfl ?_
        refine lv_istore (lv' := [(4, .int 0), (0, .ref h), (1, .int bag), (2, .int (nI j)), (3, .int w)]) hx hb dX3_chance_29 hl (by decide) rfl (fun ls hl => ?_)
        refine lv_iconst (v := 0) hx hb dX3_chance_31 rfl ?_
        refine lv_istore (lv' := [(5, .int 0), (4, .int 0), (0, .ref h), (1, .int bag), (2, .int (nI j)), (3, .int w)]) hx hb dX3_chance_32 hl (by decide) rfl (fun ls hl => ?_)
        have hL34_1 : ∀ (n_2 : Nat) (k : Nat) (x5 : Int32) (x4 : Int32) (ls : Array Slot), (4 - k) < n_2 → (k ≤ σ.sm j) → x5 = (nI k) → x4 = (chS σ bag j k) → lv_has ls 6 [(5, .int x5), (4, .int x4), (0, .ref h), (1, .int bag), (2, .int (nI j)), (3, .int w)] → W p l e rmX3_chance s m args below meth c s.heap [] 0 0 Q (F0 m 34 ls []) := by
          intro n_2
          induction n_2 with
          | zero => intro k x5 x4 ls hm_4; exact absurd hm_4 (Nat.not_lt_zero _)
          | succ n_2 ih_3 =>
            intro k x5 x4 ls hm_4 hk ex5 ex4 hl
            subst ex5 ex4
            refine lv_iload hx hb dX3_chance_34 (lv_at hl 0 rfl) ?_
            refine lv_aload_n hx hb dX3_chance_36 rfl (lv_at hl 2 rfl) ?_
            refine va_get (D := D) (ci := 0) (v := .ref (ad 6)) (C := RX3) (T := TX3) (N := 31) hx hb hts in_X3 hown hK hP 0 rfl rfl 13 (by decide) (hts _ q1127) (fun _ h9 => h9) rfl dX3_chance_37 ?_
            refine lv_iload_n hx hb dX3_chance_40 rfl (lv_at hl 4 rfl) ?_
            refine wa_iald (f := fun c => nI (σ.sm c)) hx hb hK hP 7 0 rfl rfl (j) (rfl) (by omega) (by decide) dX3_chance_41 ?_
            refine w_topi (y := nI (σ.sm j)) rfl ?_
            refine lv_icmp_ge (tgt := 86) hx hb dX3_chance_42 rfl (fun h42 => ?_) (fun h42 => ?_)
            · have h42 : (σ.sm j) ≤ k := (nz_le (a := σ.sm j) (b := k) rfl rfl (by omega) (by omega)).mp h42
              have hk_ : k = σ.sm j := by omega
              subst hk_
              refine lv_iload hx hb dX3_chance_86 (lv_at hl 1 rfl) ?_
              refine lv_i2l (v := (chS σ bag j (σ.sm j) : Int32).toInt64) hx hb dX3_chance_88 rfl ?_
              refine lv_aload_n hx hb dX3_chance_89 rfl (lv_at hl 2 rfl) ?_
              refine lv_iload_n hx hb dX3_chance_90 rfl (lv_at hl 4 rfl) ?_
              refine cVi (As := [.int (nI j)]) (rest := [.long ((chS σ bag j (σ.sm j) : Int32).toInt64)]) ⟨hx, hb, hml, hown, hts⟩ (mt_X3_totalOf l D dA h ad σ τ j hI (by omega)) (cw_X3_X3_totalOf hts ⟨Nat.le_of_ble_eq_true rfl, Nat.le_of_ble_eq_true rfl⟩) mB_bl (mB_now hK hP) (va_recv hK hP (ci := 0) (q0 := 0) rfl rfl) rfl hl.1 rfl (Nat.le_of_ble_eq_true rfl) dX3_chance_91 ⟨Nat.le_of_ble_eq_true rfl, Nat.le_of_ble_eq_true rfl⟩ ?_
              refine lv_i2l (v := (total σ j : Int32).toInt64) hx hb dX3_chance_94 rfl ?_
              refine lv_iload_n hx hb dX3_chance_95 rfl (lv_at hl 5 rfl) ?_
              refine cSl (As := [.long ((chS σ bag j (σ.sm j) : Int32).toInt64), .long ((total σ j : Int32).toInt64), .int w]) (rest := []) ⟨hx, hb, hml, hown, hts⟩ (mt_X3_lowest l ((chS σ bag j (σ.sm j) : Int32).toInt64) ((total σ j : Int32).toInt64) w (total_ne hI hj (by have q := h5.2; rw [hix_j] at q; exact q))) (cw_X3_X3_lowest hts ⟨Nat.le_of_ble_eq_true rfl, Nat.le_of_ble_eq_true rfl⟩) w_blT (fun _ _ _ => trivial) rfl hl.1 rfl (Nat.le_of_ble_eq_true rfl) dX3_chance_96 ⟨Nat.le_of_ble_eq_true rfl, Nat.le_of_ble_eq_true rfl⟩ ?_
              refine lv_l2i (v := (lowF ((chS σ bag j (σ.sm j) : Int32).toInt64) ((total σ j : Int32).toInt64) w : Int64).toInt32) hx hb dX3_chance_99 rfl ?_
              exact r_i hQ hx hb hr hlocks rfl (by simp only [chanceF, eq_true h5, eq_true h15, eq_true h22, eq_true h42, hix_j, if_true, if_false, ite_true, ite_false, not_true_eq_false, not_false_eq_true, and_true, true_and, and_false, false_and, or_true, true_or, or_false, false_or, and_self, or_self, eq_self]) dX3_chance_100
            · have h42 : ¬ ((σ.sm j) ≤ k) := fun z9 => h42 ((nz_le (a := σ.sm j) (b := k) rfl rfl (by omega) (by omega)).mpr z9)
              refine lv_iload hx hb dX3_chance_45 (lv_at hl 1 rfl) ?_
              refine lv_aload_n hx hb dX3_chance_47 rfl (lv_at hl 2 rfl) ?_
              refine lv_iload_n hx hb dX3_chance_48 rfl (lv_at hl 3 rfl) ?_
              refine lv_iload_n hx hb dX3_chance_49 rfl (lv_at hl 4 rfl) ?_
              refine lv_iload hx hb dX3_chance_50 (lv_at hl 0 rfl) ?_
              refine cVi (As := [.int bag, .int (nI j), .int (nI k)]) (rest := [.int (chS σ bag j k)]) ⟨hx, hb, hml, hown, hts⟩ (mt_X3_leftOf l D dA h ad σ τ bag j k (by omega) (by omega)) (cw_X3_X3_leftOf hts ⟨Nat.le_of_ble_eq_true rfl, Nat.le_of_ble_eq_true rfl⟩) mB_bl (mB_now hK hP) (va_recv hK hP (ci := 0) (q0 := 0) rfl rfl) rfl hl.1 rfl (Nat.le_of_ble_eq_true rfl) dX3_chance_52 ⟨Nat.le_of_ble_eq_true rfl, Nat.le_of_ble_eq_true rfl⟩ ?_
              refine lv_iconst (v := (-1)) hx hb dX3_chance_55 rfl ?_
              have hJ77_5 : ∀ (v_6 : Int32) (ls : Array Slot), v_6 = (if (leftF σ bag j k) = (-1) then 0 else σ.sorts ((16 * j) + (4 * k))) → lv_has ls 6 [(5, .int (nI k)), (4, .int (chS σ bag j k)), (0, .ref h), (1, .int bag), (2, .int (nI j)), (3, .int w)] → W p l e rmX3_chance s m args below meth c s.heap [] 0 0 Q (F0 m 77 ls [.int v_6, .int (chS σ bag j k)]) := by
                intro v_6 ls ev_6 hl
                refine lv_iadd hx hb dX3_chance_77 ?_
                refine lv_istore (lv' := [(4, .int ((chS σ bag j k) + v_6)), (5, .int (nI k)), (0, .ref h), (1, .int bag), (2, .int (nI j)), (3, .int w)]) hx hb dX3_chance_78 hl (by decide) rfl (fun ls hl => ?_)
                refine lv_iinc (v := nI (k + 1)) (lv' := [(5, .int (nI (k + 1))), (4, .int ((chS σ bag j k) + v_6)), (0, .ref h), (1, .int bag), (2, .int (nI j)), (3, .int w)]) hx hb dX3_chance_80 hl (k := 1) rfl (nI_1 k) (by decide) rfl (fun ls hl => ?_)
                refine lv_goto (tgt := 34) hx hb dX3_chance_83 rfl ?_
                exact ih_3 (k + 1) (nI (k + 1)) ((chS σ bag j k) + v_6) ls (by omega) (by omega) rfl (by subst_vars; rw [chS]) (lv_sub hl [0, 1, 2, 3, 4, 5] rfl)
              refine lv_icmp_ne (tgt := 63) hx hb dX3_chance_56 rfl (fun h56 => ?_) (fun h56 => ?_)
              · have h56 : ¬ ((leftF σ bag j k) = (-1)) := h56
                refine lv_aload_n hx hb dX3_chance_63 rfl (lv_at hl 2 rfl) ?_
                refine va_get (D := D) (ci := 0) (v := .ref (ad 7)) (C := RX3) (T := TX3) (N := 31) hx hb hts in_X3 hown hK hP 0 rfl rfl 14 (by decide) (hts _ q1128) (fun _ h9 => h9) rfl dX3_chance_64 ?_
                refine lv_bipush (v := 16) hx hb dX3_chance_67 rfl ?_
                refine lv_iload_n hx hb dX3_chance_69 rfl (lv_at hl 4 rfl) ?_
                refine lv_imul hx hb dX3_chance_70 ?_
                refine lv_iconst (v := 4) hx hb dX3_chance_71 rfl ?_
                refine lv_iload hx hb dX3_chance_72 (lv_at hl 0 rfl) ?_
                refine lv_imul hx hb dX3_chance_74 ?_
                refine lv_iadd hx hb dX3_chance_75 ?_
                refine wa_iald (f := σ.sorts) hx hb hK hP 8 0 rfl rfl ((16 * j) + (4 * k)) ((nz_add (nz_mul rfl rfl) (nz_mul rfl rfl))) (by omega) (by decide) dX3_chance_76 ?_
                exact hJ77_5 (σ.sorts ((16 * j) + (4 * k))) ls (by rw [if_neg h56]) (lv_sub hl [0, 1, 2, 3, 4, 5] rfl)
              · have h56 : (leftF σ bag j k) = (-1) := h56
                refine lv_iconst (v := 0) hx hb dX3_chance_59 rfl ?_
                refine lv_goto (tgt := 77) hx hb dX3_chance_60 rfl ?_
                exact hJ77_5 (0) ls (by rw [if_pos h56]) (lv_sub hl [0, 1, 2, 3, 4, 5] rfl)
        exact hL34_1 _ 0 0 0 ls (Nat.lt_succ_self _) (by omega) rfl (by subst_vars; rw [chS]) (lv_sub hl [0, 1, 2, 3, 4, 5] rfl)
      · have h22 : ¬ (partP w) := b01_0.mp h22
        refine lv_bipush (v := (-3)) hx hb dX3_chance_25 rfl ?_
        exact r_i hQ hx hb hr hlocks rfl (by simp only [chanceF, eq_true h5, eq_true h15, eq_false h22, hix_j, if_true, if_false, ite_true, ite_false, not_true_eq_false, not_false_eq_true, and_true, true_and, and_false, false_and, or_true, true_or, or_false, false_or, and_self, or_self, eq_self]) dX3_chance_27
  · have h5 : ¬ (useP σ c_) := b01_0.mp h5
    refine lv_bipush (v := (-2)) hx hb dX3_chance_8 rfl ?_
    exact r_i hQ hx hb hr hlocks rfl (by simp only [chanceF, eq_false h5, if_true, if_false, ite_true, ite_false, not_true_eq_false, not_false_eq_true, and_true, true_and, and_false, false_and, or_true, true_or, or_false, false_or, and_self, or_self, eq_self]) dX3_chance_10

/-- the entry i of a row -/
def entF (row : Int32) (i : Nat) : Int32 := (row >>> ((4 * nI i) &&& 31)) &&& 15
def badU (σ : St) (row : Int32) : Nat → Bool
  | 0 => false
  | k + 1 => badU σ row k || decide (¬ entF row k = 6 ∧ ¬ useP σ (entF row k))
theorem badU_mono {σ : St} {row : Int32} {k : Nat} (h : badU σ row k = true) : ∀ d, badU σ row (k + d) = true
  | 0 => h
  | d + 1 => by show (badU σ row (k + d) || _) = true; rw [badU_mono h d]; rfl
theorem badU_le {σ : St} {row : Int32} {k n : Nat} (h : badU σ row k = true) (hn : k ≤ n) : badU σ row n = true := by
  have := badU_mono h (n - k)
  rwa [Nat.add_sub_cancel' hn] at this
/-- what was seen, and whether one was seen twice -/
def seenF (row : Int32) : Nat → Int32
  | 0 => 0
  | k + 1 => seenF row k ||| (if entF row k = 6 then 0 else (1 : Int32) <<< (entF row k &&& 31))
def twF (row : Int32) : Nat → Int32
  | 0 => 0
  | k + 1 => if twF row k = 0 then (if entF row k = 6 then 0 else if hasP (seenF row k) (entF row k) then 1 else 0) else 1
def refF (σ : St) (row n : Int32) : Int32 := if inP n.toInt64 1 6 then (if badU σ row (ix n) = true then -2 else if twF row (ix n) = 0 then 0 else -3) else -3
def refBF (σ : St) (bag row n : Int32) : Int32 := if refF σ row n = 0 then (if bagP bag then refF σ row n else -3) else refF σ row n

def rmX3_refuses : Room := { frames := 3, cells := 0, slots := 0, locals := 67 }
set_option maxHeartbeats 1000000 in
theorem mt_X3_refuses (l : Launch) (D : va_G) (dA : Nat → ClassId) (h : Nat) (ad : Nat → Nat) (σ : St) (τ : Sc) (row : Int32) (n : Int32) (hI : Inv σ) : Met l yX3_refuses (ws_ yX3_refuses cX3_refuses 7 (some .int)) rmX3_refuses (va_Pc [.ref h, .int row, .int n] (mB D dA h ad σ τ)) (vp_Si (fun r => r = refF σ row n)) 0 0 (fun _ => False) := by
  refine w_start (by decide) (Nat.le_of_ble_eq_true rfl) ?_
  intro p e s m args below meth c Q ls hQ hx hb hr hlocks hml hown hnm hts hB hl
  have hown : s.vm.findClass RX3 = some m.cls := hown
  have hl : lv_has ls 7 [(0, .ref h), (1, .int row), (2, .int n)] := hl
  obtain ⟨hP, hK⟩ := hB
  refine lv_iload_n hx hb dX3_refuses_0 rfl (lv_at hl 2 rfl) ?_
  refine lv_i2l (v := (n : Int32).toInt64) hx hb dX3_refuses_1 rfl ?_
  refine lv_lconst (v := 1) hx hb dX3_refuses_2 rfl ?_
  refine lv_ldc2 (v := 6) hx hb hown (hts _ q1376) dX3_refuses_3 ?_
  refine cSi (As := [.long ((n : Int32).toInt64), .long 1, .long 6]) (rest := []) ⟨hx, hb, hml, hown, hts⟩ (mt_X3_in l ((n : Int32).toInt64) 1 6) (cw_X3_X3_in hts ⟨Nat.le_of_ble_eq_true rfl, Nat.le_of_ble_eq_true rfl⟩) w_blT (fun _ _ _ => trivial) rfl hl.1 rfl (Nat.le_of_ble_eq_true rfl) dX3_refuses_6 ⟨Nat.le_of_ble_eq_true rfl, Nat.le_of_ble_eq_true rfl⟩ ?_
  refine lv_if_ne (tgt := 15) hx hb dX3_refuses_9 rfl (fun h9 => ?_) (fun h9 => ?_)
  · have h9 : inP ((n : Int32).toInt64) 1 6 := b01_n h9
    obtain ⟨j, hj1, hj, rfl⟩ := in16 h9
    have hix : ix (nI j) = j := ix_nI (Nat.lt_succ_of_le hj) (by decide)
    refine lv_iconst (v := 0) hx hb dX3_refuses_15 rfl ?_
    refine lv_istore_n (lv' := [(3, .int 0), (0, .ref h), (1, .int row), (2, .int (nI j))]) hx hb dX3_refuses_16 rfl hl (by decide) rfl (fun ls hl => ?_)
    refine lv_iconst (v := 0) hx hb dX3_refuses_17 rfl ?_
    refine lv_istore (lv' := [(4, .int 0), (3, .int 0), (0, .ref h), (1, .int row), (2, .int (nI j))]) hx hb dX3_refuses_18 hl (by decide) rfl (fun ls hl => ?_)
    refine lv_iconst (v := 0) hx hb dX3_refuses_20 rfl ?_
    refine lv_istore (lv' := [(5, .int 0), (4, .int 0), (3, .int 0), (0, .ref h), (1, .int row), (2, .int (nI j))]) hx hb dX3_refuses_21 hl (by decide) rfl (fun ls hl => ?_)
    have hL23_1 : ∀ (n_2 : Nat) (k : Nat) (x5 : Int32) (x4 : Int32) (x3 : Int32) (ls : Array Slot), (6 - k) < n_2 → (k ≤ j) → (badU σ row k = false) → x5 = (nI k) → x4 = (twF row k) → x3 = (seenF row k) → lv_has ls 7 [(5, .int x5), (4, .int x4), (3, .int x3), (0, .ref h), (1, .int row), (2, .int (nI j))] → W p l e rmX3_refuses s m args below meth c s.heap [] 0 0 Q (F0 m 23 ls []) := by
      intro n_2
      induction n_2 with
      | zero => intro k x5 x4 x3 ls hm_4; exact absurd hm_4 (Nat.not_lt_zero _)
      | succ n_2 ih_3 =>
        intro k x5 x4 x3 ls hm_4 hk hbu ex5 ex4 ex3 hl
        subst ex5 ex4 ex3
        refine lv_iload hx hb dX3_refuses_23 (lv_at hl 0 rfl) ?_
        refine lv_iload_n hx hb dX3_refuses_25 rfl (lv_at hl 5 rfl) ?_
        refine lv_icmp_ge (tgt := 111) hx hb dX3_refuses_26 rfl (fun h26 => ?_) (fun h26 => ?_)
        · have h26 : j ≤ k := (nz_le (a := j) (b := k) rfl rfl (by omega) (by omega)).mp h26
          obtain rfl : k = j := by omega
          refine lv_iload hx hb dX3_refuses_111 (lv_at hl 1 rfl) ?_
          refine lv_if_eq (tgt := 121) hx hb dX3_refuses_113 rfl (fun h113 => ?_) (fun h113 => ?_)
          · have h113 : (twF row k) = 0 := h113
            refine lv_iconst (v := 0) hx hb dX3_refuses_121 rfl ?_
            exact r_i hQ hx hb hr hlocks rfl (by simp only [refF, hbu, Bool.false_eq_true, eq_true h9, eq_true h26, eq_true h113, hix, if_true, if_false, ite_true, ite_false, not_true_eq_false, not_false_eq_true, and_true, true_and, and_false, false_and, or_true, true_or, or_false, false_or, and_self, or_self, eq_self]) dX3_refuses_122
          · have h113 : ¬ ((twF row k) = 0) := h113
            refine lv_bipush (v := (-3)) hx hb dX3_refuses_116 rfl ?_
            refine lv_goto (tgt := 122) hx hb dX3_refuses_118 rfl ?_
            exact r_i hQ hx hb hr hlocks rfl (by simp only [refF, hbu, Bool.false_eq_true, eq_true h9, eq_true h26, eq_false h113, hix, if_true, if_false, ite_true, ite_false, not_true_eq_false, not_false_eq_true, and_true, true_and, and_false, false_and, or_true, true_or, or_false, false_or, and_self, or_self, eq_self]) dX3_refuses_122
        · have h26 : ¬ (j ≤ k) := fun z9 => h26 ((nz_le (a := j) (b := k) rfl rfl (by omega) (by omega)).mpr z9)
          refine lv_iload_n hx hb dX3_refuses_29 rfl (lv_at hl 4 rfl) ?_
          refine lv_iconst (v := 4) hx hb dX3_refuses_30 rfl ?_
          refine lv_iload hx hb dX3_refuses_31 (lv_at hl 0 rfl) ?_
          refine lv_imul hx hb dX3_refuses_33 ?_
          refine lv_ishr hx hb dX3_refuses_34 ?_
          refine lv_bipush (v := 15) hx hb dX3_refuses_35 rfl ?_
          refine lv_iand hx hb dX3_refuses_37 ?_
          refine w_topi (y := entF row k) (rfl) ?_
          refine lv_istore (lv' := [(6, .int (entF row k)), (5, .int (nI k)), (4, .int (twF row k)), (3, .int (seenF row k)), (0, .ref h), (1, .int row), (2, .int (nI j))]) hx hb dX3_refuses_38 hl (by decide) rfl (fun ls hl => ?_)
          refine lv_iload hx hb dX3_refuses_40 (lv_at hl 0 rfl) ?_
          refine lv_bipush (v := 6) hx hb dX3_refuses_42 rfl ?_
          have hJ59_5 : ∀ (ls : Array Slot), (¬ (¬ entF row k = 6 ∧ ¬ useP σ (entF row k))) → lv_has ls 7 [(6, .int (entF row k)), (5, .int (nI k)), (4, .int (twF row k)), (3, .int (seenF row k)), (0, .ref h), (1, .int row), (2, .int (nI j))] → W p l e rmX3_refuses s m args below meth c s.heap [] 0 0 Q (F0 m 59 ls []) := by
            intro  ls hgood hl
            refine lv_iload hx hb dX3_refuses_59 (lv_at hl 2 rfl) ?_
            have hJ85_6 : ∀ (v_7 : Int32) (ls : Array Slot), v_7 = (if (twF row k) = 0 then if (entF row k) = 6 then 0 else if hasP (seenF row k) (entF row k) then 1 else 0 else 1) → lv_has ls 7 [(6, .int (entF row k)), (5, .int (nI k)), (4, .int (twF row k)), (3, .int (seenF row k)), (0, .ref h), (1, .int row), (2, .int (nI j))] → W p l e rmX3_refuses s m args below meth c s.heap [] 0 0 Q (F0 m 85 ls [.int v_7]) := by
              intro v_7 ls ev_7 hl
              refine lv_istore (lv' := [(4, .int v_7), (6, .int (entF row k)), (5, .int (nI k)), (3, .int (seenF row k)), (0, .ref h), (1, .int row), (2, .int (nI j))]) hx hb dX3_refuses_85 hl (by decide) rfl (fun ls hl => ?_)
              refine lv_iload_n hx hb dX3_refuses_87 rfl (lv_at hl 3 rfl) ?_
              refine lv_iload hx hb dX3_refuses_88 (lv_at hl 1 rfl) ?_
              refine lv_bipush (v := 6) hx hb dX3_refuses_90 rfl ?_
              have hJ103_8 : ∀ (v_9 : Int32) (ls : Array Slot), v_9 = (if (entF row k) = 6 then 0 else (1 : Int32) <<< ((entF row k) &&& 31)) → lv_has ls 7 [(4, .int v_7), (6, .int (entF row k)), (5, .int (nI k)), (3, .int (seenF row k)), (0, .ref h), (1, .int row), (2, .int (nI j))] → W p l e rmX3_refuses s m args below meth c s.heap [] 0 0 Q (F0 m 103 ls [.int v_9, .int (seenF row k)]) := by
                intro v_9 ls ev_9 hl
                refine lv_ior hx hb dX3_refuses_103 ?_
                refine lv_istore_n (lv' := [(3, .int ((seenF row k) ||| v_9)), (4, .int v_7), (6, .int (entF row k)), (5, .int (nI k)), (0, .ref h), (1, .int row), (2, .int (nI j))]) hx hb dX3_refuses_104 rfl hl (by decide) rfl (fun ls hl => ?_)
                refine lv_iinc (v := nI (k + 1)) (lv' := [(5, .int (nI (k + 1))), (3, .int ((seenF row k) ||| v_9)), (4, .int v_7), (6, .int (entF row k)), (0, .ref h), (1, .int row), (2, .int (nI j))]) hx hb dX3_refuses_105 hl (k := 3) rfl (nI_1 k) (by decide) rfl (fun ls hl => ?_)
                refine lv_goto (tgt := 23) hx hb dX3_refuses_108 rfl ?_
                exact ih_3 (k + 1) (nI (k + 1)) v_7 ((seenF row k) ||| v_9) ls (by omega) (by omega) (by rw [badU, hbu, decide_eq_false hgood]; rfl) rfl (by subst_vars; rw [twF]) (by subst_vars; rw [seenF]) (lv_sub hl [0, 2, 1, 4, 5, 6] rfl)
              refine lv_icmp_ne (tgt := 99) hx hb dX3_refuses_92 rfl (fun h92 => ?_) (fun h92 => ?_)
              · have h92 : ¬ ((entF row k) = 6) := h92
                refine lv_iconst (v := 1) hx hb dX3_refuses_99 rfl ?_
                refine lv_iload hx hb dX3_refuses_100 (lv_at hl 1 rfl) ?_
                refine lv_ishl hx hb dX3_refuses_102 ?_
                exact hJ103_8 ((1 : Int32) <<< ((entF row k) &&& 31)) ls (by rw [if_neg h92]) (lv_sub hl [0, 1, 2, 3, 4, 5, 6] rfl)
              · have h92 : (entF row k) = 6 := h92
                refine lv_iconst (v := 0) hx hb dX3_refuses_95 rfl ?_
                refine lv_goto (tgt := 103) hx hb dX3_refuses_96 rfl ?_
                exact hJ103_8 (0) ls (by rw [if_pos h92]) (lv_sub hl [0, 1, 2, 3, 4, 5, 6] rfl)
            refine lv_if_ne (tgt := 80) hx hb dX3_refuses_61 rfl (fun h61 => ?_) (fun h61 => ?_)
            · have h61 : ¬ ((twF row k) = 0) := h61
              refine lv_iconst (v := 1) hx hb dX3_refuses_80 rfl ?_
              refine lv_goto (tgt := 85) hx hb dX3_refuses_81 rfl ?_
              exact hJ85_6 (1) ls (by rw [if_neg h61]) (lv_sub hl [0, 1, 2, 3, 4, 5, 6] rfl)
            · have h61 : (twF row k) = 0 := h61
              refine lv_iload hx hb dX3_refuses_64 (lv_at hl 0 rfl) ?_
              refine lv_bipush (v := 6) hx hb dX3_refuses_66 rfl ?_
              refine lv_icmp_eq (tgt := 84) hx hb dX3_refuses_68 rfl (fun h68 => ?_) (fun h68 => ?_)
              · have h68 : (entF row k) = 6 := h68
                refine lv_iconst (v := 0) hx hb dX3_refuses_84 rfl ?_
                exact hJ85_6 (0) ls (by rw [if_pos h61, if_pos h68]) (lv_sub hl [0, 1, 2, 3, 4, 5, 6] rfl)
              · have h68 : ¬ ((entF row k) = 6) := h68
                refine lv_iload_n hx hb dX3_refuses_71 rfl (lv_at hl 3 rfl) ?_
                refine lv_iload hx hb dX3_refuses_72 (lv_at hl 0 rfl) ?_
                refine cSi (As := [.int (seenF row k), .int (entF row k)]) (rest := []) ⟨hx, hb, hml, hown, hts⟩ (mt_X3_has l (seenF row k) (entF row k)) (cw_X3_X3_has hts ⟨Nat.le_of_ble_eq_true rfl, Nat.le_of_ble_eq_true rfl⟩) w_blT (fun _ _ _ => trivial) rfl hl.1 rfl (Nat.le_of_ble_eq_true rfl) dX3_refuses_74 ⟨Nat.le_of_ble_eq_true rfl, Nat.le_of_ble_eq_true rfl⟩ ?_
                refine lv_if_eq (tgt := 84) hx hb dX3_refuses_77 rfl (fun h77 => ?_) (fun h77 => ?_)
                · have h77 : ¬ (hasP (seenF row k) (entF row k)) := b01_0.mp h77
                  refine lv_iconst (v := 0) hx hb dX3_refuses_84 rfl ?_
                  exact hJ85_6 (0) ls (by rw [if_pos h61, if_neg h68, if_neg h77]) (lv_sub hl [0, 1, 2, 3, 4, 5, 6] rfl)
                · have h77 : hasP (seenF row k) (entF row k) := b01_n h77
                  refine lv_iconst (v := 1) hx hb dX3_refuses_80 rfl ?_
                  refine lv_goto (tgt := 85) hx hb dX3_refuses_81 rfl ?_
                  exact hJ85_6 (1) ls (by rw [if_pos h61, if_neg h68, if_pos h77]) (lv_sub hl [0, 1, 2, 3, 4, 5, 6] rfl)
          refine lv_icmp_eq (tgt := 59) hx hb dX3_refuses_44 rfl (fun h44 => ?_) (fun h44 => ?_)
          · have h44 : (entF row k) = 6 := h44
            exact hJ59_5  ls (fun q => q.1 h44) (lv_sub hl [0, 1, 2, 3, 4, 5, 6] rfl)
          · have h44 : ¬ ((entF row k) = 6) := h44
            refine lv_aload_n hx hb dX3_refuses_47 rfl (lv_at hl 4 rfl) ?_
            refine lv_iload hx hb dX3_refuses_48 (lv_at hl 0 rfl) ?_
            refine cVi (As := [.int (entF row k)]) (rest := []) ⟨hx, hb, hml, hown, hts⟩ (mt_X3_isUsable l D dA h ad σ τ (entF row k) hI) (cw_X3_X3_isUsable hts ⟨Nat.le_of_ble_eq_true rfl, Nat.le_of_ble_eq_true rfl⟩) mB_bl (mB_now hK hP) (va_recv hK hP (ci := 0) (q0 := 0) rfl rfl) rfl hl.1 rfl (Nat.le_of_ble_eq_true rfl) dX3_refuses_50 ⟨Nat.le_of_ble_eq_true rfl, Nat.le_of_ble_eq_true rfl⟩ ?_
            refine lv_if_ne (tgt := 59) hx hb dX3_refuses_53 rfl (fun h53 => ?_) (fun h53 => ?_)
            · have h53 : useP σ (entF row k) := b01_n h53
              exact hJ59_5  ls (fun q => q.2 h53) (lv_sub hl [0, 1, 2, 3, 4, 5, 6] rfl)
            · have h53 : ¬ (useP σ (entF row k)) := b01_0.mp h53
              refine lv_bipush (v := (-2)) hx hb dX3_refuses_56 rfl ?_
              exact r_i hQ hx hb hr hlocks rfl (by rw [refF, if_pos h9, hix, if_pos (badU_le (k := k + 1) (by rw [badU, hbu, decide_eq_true (show _ from ⟨h44, h53⟩)]; rfl) (by omega))]) dX3_refuses_58
    exact hL23_1 _ 0 0 0 0 ls (Nat.lt_succ_self _) (by omega) rfl rfl (by subst_vars; rw [twF]) (by subst_vars; rw [seenF]) (lv_sub hl [0, 1, 2, 3, 4, 5] rfl)
  · have h9 : ¬ (inP ((n : Int32).toInt64) 1 6) := b01_0.mp h9
    refine lv_bipush (v := (-3)) hx hb dX3_refuses_12 rfl ?_
    exact r_i hQ hx hb hr hlocks rfl (by simp only [refF, eq_false h9, if_true, if_false, ite_true, ite_false, not_true_eq_false, not_false_eq_true, and_true, true_and, and_false, false_and, or_true, true_or, or_false, false_or, and_self, or_self, eq_self]) dX3_refuses_14
