/-! THE MODEL's METHODS 2: what is told, bags and rows, refusals -/
set_option maxRecDepth 100000
/-- what holds of the state all through -/
def Inv (σ : St) : Prop := σ.len ≤ 200 ∧ σ.vm ≤ 16 ∧ (∀ c, c < 6 → σ.sm c ≤ 4) ∧ (∀ c, c < 6 → ∃ p, p < 6 ∧ σ.calls (6 * c) = nI p) ∧ (∀ c, c < 6 → 0 ≤ σ.calls (6 * c + 1) ∧ σ.calls (6 * c + 1) ≤ σ.calls (6 * c + 2))
  ∧ (∀ c s, c < 6 → s < σ.sm c → ∃ v, 1 ≤ v ∧ v ≤ 20 ∧ σ.sorts (16 * c + 4 * s) = nI v) ∧ (∀ c s, c < 6 → s < 4 → ∃ v, v < 256 ∧ σ.sorts (16 * c + 4 * s + 2) = nI v) ∧ (∀ c s, c < 6 → s < 4 → ∃ v, v < 256 ∧ σ.sorts (16 * c + 4 * s + 3) = nI v)
  ∧ (∀ i, i < 200 → ∃ v, v < 256 ∧ σ.txt i = nI v) ∧ (∃ v, v < 256 ∧ σ.tools = nI v) ∧ (∃ v, v < 64 ∧ σ.told = nI v) ∧ (∀ i, i < 48 → ∃ v, v < 256 ∧ σ.visits i = nI v)
theorem Inv.len {σ : St} (h : Inv σ) : σ.len ≤ 200 := h.1
theorem Inv.vm {σ : St} (h : Inv σ) : σ.vm ≤ 16 := h.2.1
theorem Inv.sm {σ : St} (h : Inv σ) : ∀ c, c < 6 → σ.sm c ≤ 4 := h.2.2.1
theorem Inv.pl {σ : St} (h : Inv σ) : ∀ c, c < 6 → ∃ p, p < 6 ∧ σ.calls (6 * c) = nI p := h.2.2.2.1
theorem Inv.op {σ : St} (h : Inv σ) : ∀ c, c < 6 → 0 ≤ σ.calls (6 * c + 1) ∧ σ.calls (6 * c + 1) ≤ σ.calls (6 * c + 2) := h.2.2.2.2.1
theorem Inv.li {σ : St} (h : Inv σ) : ∀ c s, c < 6 → s < σ.sm c → ∃ v, 1 ≤ v ∧ v ≤ 20 ∧ σ.sorts (16 * c + 4 * s) = nI v := h.2.2.2.2.2.1
theorem Inv.al {σ : St} (h : Inv σ) : ∀ c s, c < 6 → s < 4 → ∃ v, v < 256 ∧ σ.sorts (16 * c + 4 * s + 2) = nI v := h.2.2.2.2.2.2.1
theorem Inv.on {σ : St} (h : Inv σ) : ∀ c s, c < 6 → s < 4 → ∃ v, v < 256 ∧ σ.sorts (16 * c + 4 * s + 3) = nI v := h.2.2.2.2.2.2.2.1
theorem Inv.tx {σ : St} (h : Inv σ) : ∀ i, i < 200 → ∃ v, v < 256 ∧ σ.txt i = nI v := h.2.2.2.2.2.2.2.2.1
theorem Inv.tl {σ : St} (h : Inv σ) : ∃ v, v < 256 ∧ σ.tools = nI v := h.2.2.2.2.2.2.2.2.2.1
theorem Inv.td {σ : St} (h : Inv σ) : ∃ v, v < 64 ∧ σ.told = nI v := h.2.2.2.2.2.2.2.2.2.2.1
theorem Inv.vi {σ : St} (h : Inv σ) : ∀ i, i < 48 → ∃ v, v < 256 ∧ σ.visits i = nI v := h.2.2.2.2.2.2.2.2.2.2.2
abbrev thingP (t : Int32) : Prop := inP t.toInt64 0 7
abbrev bagP (t : Int32) : Prop := inP t.toInt64 0 255
abbrev partP (t : Int32) : Prop := inP t.toInt64 0 1
abbrev callP (σ : St) (c : Int32) : Prop := inP c.toInt64 0 5 ∧ hasP σ.told c
abbrev useP (σ : St) (c : Int32) : Prop := callP σ c ∧ ¬ σ.sm (ix c) ≤ 0
abbrev sortP (σ : St) (c s : Int32) : Prop := callP σ c ∧ inP s.toInt64 0 (nI (σ.sm (ix c)) - 1).toInt64
def thingF (σ : St) (t w : Int32) : Int32 := if thingP t then (if w = 0 then σ.wt (ix t) else if w = 1 then σ.pr (ix t) else if w = 2 then (σ.tools >>> (t &&& 31)) &&& 1 else -3) else -2
def callF (σ : St) (c w : Int32) : Int32 := if callP σ c then (if inP w.toInt64 0 5 then σ.calls (6 * ix c + ix w) else if w = 6 then nI (σ.sm (ix c)) else -3) else -2
def sortF (σ : St) (c s w : Int32) : Int32 := if sortP σ c s then (if inP w.toInt64 0 3 then σ.sorts (16 * ix c + 4 * ix s + ix w) else -3) else -2
def wayF (σ : St) (a b : Int32) : Int32 := if inP a.toInt64 0 5 then (if inP b.toInt64 0 5 then σ.ways (6 * ix a + ix b) else -2) else -2
def mayF (σ : St) (bag : Int32) : Int32 := if bagP bag then b01 (mayP σ bag) else -3

theorem cw_X3_X3_in {R : Room} {s : State} {args : Array Value} (hts : ∀ w ∈ lw_all, w.before args s = true) (hR : rmX3_in.frames + 1 ≤ R.frames ∧ 8 + (6 + 11) + rmX3_in.locals ≤ R.locals) : CallB R s args RX3 55 yX3_in cX3_in 6 (some .boolean) (ws_ yX3_in cX3_in 6 (some .boolean)) rmX3_in 0 0 3 ∧ (Cond.static yX3_in).before args s = true := va_cwS 3 hts (lw_S q1213 q1214 q83 q1215) rfl rfl rfl (by decide +kernel) hR
def rmX3_isThing : Room := { frames := 1, cells := 0, slots := 0, locals := 25 }
set_option maxHeartbeats 1000000 in
theorem mt_X3_isThing (l : Launch) (t : Int32) : Met l yX3_isThing (ws_ yX3_isThing cX3_isThing 1 (some .boolean)) rmX3_isThing (va_Pc [.int t] (fun _ => True)) (vp_Si (fun r => r = b01 (thingP t))) 0 0 (fun _ => False) := by
  refine w_start (by decide) (Nat.le_of_ble_eq_true rfl) ?_
  intro p e s m args below meth c Q ls hQ hx hb hr hlocks hml hown hnm hts hB hl
  have hown : s.vm.findClass RX3 = some m.cls := hown
  have hl : lv_has ls 1 [(0, .int t)] := hl
  refine lv_iload_n hx hb dX3_isThing_0 rfl (lv_at hl 0 rfl) ?_
  refine lv_i2l (v := (t : Int32).toInt64) hx hb dX3_isThing_1 rfl ?_
  refine lv_lconst (v := 0) hx hb dX3_isThing_2 rfl ?_
  refine lv_ldc2 (v := 7) hx hb hown (hts _ q1275) dX3_isThing_3 ?_
  refine cSi (As := [.long ((t : Int32).toInt64), .long 0, .long 7]) (rest := []) ⟨hx, hb, hml, hown, hts⟩ (mt_X3_in l ((t : Int32).toInt64) 0 7) (cw_X3_X3_in hts ⟨Nat.le_of_ble_eq_true rfl, Nat.le_of_ble_eq_true rfl⟩) w_blT (fun _ _ _ => trivial) rfl hl.1 rfl (Nat.le_of_ble_eq_true rfl) dX3_isThing_6 ⟨Nat.le_of_ble_eq_true rfl, Nat.le_of_ble_eq_true rfl⟩ ?_
  exact r_z hQ hx hb hr hlocks rfl (b01_or) (rfl) dX3_isThing_9

def rmX3_isBag : Room := { frames := 1, cells := 0, slots := 0, locals := 25 }
set_option maxHeartbeats 1000000 in
theorem mt_X3_isBag (l : Launch) (t : Int32) : Met l yX3_isBag (ws_ yX3_isBag cX3_isBag 1 (some .boolean)) rmX3_isBag (va_Pc [.int t] (fun _ => True)) (vp_Si (fun r => r = b01 (bagP t))) 0 0 (fun _ => False) := by
  refine w_start (by decide) (Nat.le_of_ble_eq_true rfl) ?_
  intro p e s m args below meth c Q ls hQ hx hb hr hlocks hml hown hnm hts hB hl
  have hown : s.vm.findClass RX3 = some m.cls := hown
  have hl : lv_has ls 1 [(0, .int t)] := hl
  refine lv_iload_n hx hb dX3_isBag_0 rfl (lv_at hl 0 rfl) ?_
  refine lv_i2l (v := (t : Int32).toInt64) hx hb dX3_isBag_1 rfl ?_
  refine lv_lconst (v := 0) hx hb dX3_isBag_2 rfl ?_
  refine lv_ldc2 (v := 255) hx hb hown (hts _ q1216) dX3_isBag_3 ?_
  refine cSi (As := [.long ((t : Int32).toInt64), .long 0, .long 255]) (rest := []) ⟨hx, hb, hml, hown, hts⟩ (mt_X3_in l ((t : Int32).toInt64) 0 255) (cw_X3_X3_in hts ⟨Nat.le_of_ble_eq_true rfl, Nat.le_of_ble_eq_true rfl⟩) w_blT (fun _ _ _ => trivial) rfl hl.1 rfl (Nat.le_of_ble_eq_true rfl) dX3_isBag_6 ⟨Nat.le_of_ble_eq_true rfl, Nat.le_of_ble_eq_true rfl⟩ ?_
  exact r_z hQ hx hb hr hlocks rfl (b01_or) (rfl) dX3_isBag_9

def rmX3_isPart : Room := { frames := 1, cells := 0, slots := 0, locals := 25 }
set_option maxHeartbeats 1000000 in
theorem mt_X3_isPart (l : Launch) (t : Int32) : Met l yX3_isPart (ws_ yX3_isPart cX3_isPart 1 (some .boolean)) rmX3_isPart (va_Pc [.int t] (fun _ => True)) (vp_Si (fun r => r = b01 (partP t))) 0 0 (fun _ => False) := by
  refine w_start (by decide) (Nat.le_of_ble_eq_true rfl) ?_
  intro p e s m args below meth c Q ls hQ hx hb hr hlocks hml hown hnm hts hB hl
  have hown : s.vm.findClass RX3 = some m.cls := hown
  have hl : lv_has ls 1 [(0, .int t)] := hl
  refine lv_iload_n hx hb dX3_isPart_0 rfl (lv_at hl 0 rfl) ?_
  refine lv_i2l (v := (t : Int32).toInt64) hx hb dX3_isPart_1 rfl ?_
  refine lv_lconst (v := 0) hx hb dX3_isPart_2 rfl ?_
  refine lv_lconst (v := 1) hx hb dX3_isPart_3 rfl ?_
  refine cSi (As := [.long ((t : Int32).toInt64), .long 0, .long 1]) (rest := []) ⟨hx, hb, hml, hown, hts⟩ (mt_X3_in l ((t : Int32).toInt64) 0 1) (cw_X3_X3_in hts ⟨Nat.le_of_ble_eq_true rfl, Nat.le_of_ble_eq_true rfl⟩) w_blT (fun _ _ _ => trivial) rfl hl.1 rfl (Nat.le_of_ble_eq_true rfl) dX3_isPart_4 ⟨Nat.le_of_ble_eq_true rfl, Nat.le_of_ble_eq_true rfl⟩ ?_
  exact r_z hQ hx hb hr hlocks rfl (b01_or) (rfl) dX3_isPart_7

def rmX3_isCall : Room := { frames := 1, cells := 0, slots := 0, locals := 25 }
set_option maxHeartbeats 1000000 in
theorem mt_X3_isCall (l : Launch) (D : va_G) (dA : Nat → ClassId) (h : Nat) (ad : Nat → Nat) (σ : St) (τ : Sc) (c_ : Int32) : Met l yX3_isCall (ws_ yX3_isCall cX3_isCall 2 (some .boolean)) rmX3_isCall (va_Pc [.ref h, .int c_] (mB D dA h ad σ τ)) (vp_Si (fun r => r = b01 (callP σ c_))) 0 0 (fun _ => False) := by
  refine w_start (by decide) (Nat.le_of_ble_eq_true rfl) ?_
  intro p e s m args below meth c Q ls hQ hx hb hr hlocks hml hown hnm hts hB hl
  have hown : s.vm.findClass RX3 = some m.cls := hown
  have hl : lv_has ls 2 [(0, .ref h), (1, .int c_)] := hl
  obtain ⟨hP, hK⟩ := hB
  refine lv_iload_n hx hb dX3_isCall_0 rfl (lv_at hl 1 rfl) ?_
  refine lv_i2l (v := (c_ : Int32).toInt64) hx hb dX3_isCall_1 rfl ?_
  refine lv_lconst (v := 0) hx hb dX3_isCall_2 rfl ?_
  refine lv_ldc2 (v := 5) hx hb hown (hts _ q1303) dX3_isCall_3 ?_
  refine cSi (As := [.long ((c_ : Int32).toInt64), .long 0, .long 5]) (rest := []) ⟨hx, hb, hml, hown, hts⟩ (mt_X3_in l ((c_ : Int32).toInt64) 0 5) (cw_X3_X3_in hts ⟨Nat.le_of_ble_eq_true rfl, Nat.le_of_ble_eq_true rfl⟩) w_blT (fun _ _ _ => trivial) rfl hl.1 rfl (Nat.le_of_ble_eq_true rfl) dX3_isCall_6 ⟨Nat.le_of_ble_eq_true rfl, Nat.le_of_ble_eq_true rfl⟩ ?_
  refine lv_if_eq (tgt := 27) hx hb dX3_isCall_9 rfl (fun h9 => ?_) (fun h9 => ?_)
  · have h9 : ¬ (inP ((c_ : Int32).toInt64) 0 5) := b01_0.mp h9
    refine lv_iconst (v := 0) hx hb dX3_isCall_27 rfl ?_
    exact r_z hQ hx hb hr hlocks rfl (Or.inl rfl) ((b01_f (by simp only [callP, eq_false h9, not_true_eq_false, not_false_eq_true, and_true, true_and, and_false, false_and, or_true, true_or, or_false, false_or, and_self, or_self, eq_self])).symm) dX3_isCall_28
  · have h9 : inP ((c_ : Int32).toInt64) 0 5 := b01_n h9
    refine lv_aload_n hx hb dX3_isCall_12 rfl (lv_at hl 0 rfl) ?_
    refine va_get (D := D) (ci := 0) (v := .int σ.told) (C := RX3) (T := TX3) (N := 31) hx hb hts in_X3 hown hK hP 0 rfl rfl 11 (by decide) (hts _ q1125) (fun _ h9 => h9) rfl dX3_isCall_13 ?_
    refine lv_iload_n hx hb dX3_isCall_16 rfl (lv_at hl 1 rfl) ?_
    refine cSi (As := [.int σ.told, .int c_]) (rest := []) ⟨hx, hb, hml, hown, hts⟩ (mt_X3_has l σ.told c_) (cw_X3_X3_has hts ⟨Nat.le_of_ble_eq_true rfl, Nat.le_of_ble_eq_true rfl⟩) w_blT (fun _ _ _ => trivial) rfl hl.1 rfl (Nat.le_of_ble_eq_true rfl) dX3_isCall_17 ⟨Nat.le_of_ble_eq_true rfl, Nat.le_of_ble_eq_true rfl⟩ ?_
    refine lv_if_eq (tgt := 27) hx hb dX3_isCall_20 rfl (fun h20 => ?_) (fun h20 => ?_)
    · have h20 : ¬ (hasP σ.told c_) := b01_0.mp h20
      refine lv_iconst (v := 0) hx hb dX3_isCall_27 rfl ?_
      exact r_z hQ hx hb hr hlocks rfl (Or.inl rfl) ((b01_f (by simp only [callP, eq_true h9, eq_false h20, not_true_eq_false, not_false_eq_true, and_true, true_and, and_false, false_and, or_true, true_or, or_false, false_or, and_self, or_self, eq_self])).symm) dX3_isCall_28
    · have h20 : hasP σ.told c_ := b01_n h20
      refine lv_iconst (v := 1) hx hb dX3_isCall_23 rfl ?_
      refine lv_goto (tgt := 28) hx hb dX3_isCall_24 rfl ?_
      exact r_z hQ hx hb hr hlocks rfl (Or.inr rfl) ((b01_t (by simp only [callP, eq_true h9, eq_true h20, not_true_eq_false, not_false_eq_true, and_true, true_and, and_false, false_and, or_true, true_or, or_false, false_or, and_self, or_self, eq_self])).symm) dX3_isCall_28

theorem cw_X3_X3_isCall {R : Room} {s : State} {args : Array Value} (hts : ∀ w ∈ lw_all, w.before args s = true) (hR : rmX3_isCall.frames + 1 ≤ R.frames ∧ 8 + (2 + 11) + rmX3_isCall.locals ≤ R.locals) : CallW R s args RX3 RX3 148 yX3_isCall cX3_isCall 2 (some .boolean) (ws_ yX3_isCall cX3_isCall 2 (some .boolean)) rmX3_isCall 0 0 1 := cwV 1 hts (lw_V q1299 q1301 qs45 q83 q1302) rfl rfl rfl (by decide +kernel) hR
def rmX3_isUsable : Room := { frames := 2, cells := 0, slots := 0, locals := 46 }
set_option maxHeartbeats 1000000 in
theorem mt_X3_isUsable (l : Launch) (D : va_G) (dA : Nat → ClassId) (h : Nat) (ad : Nat → Nat) (σ : St) (τ : Sc) (c_ : Int32) (hI : Inv σ) : Met l yX3_isUsable (ws_ yX3_isUsable cX3_isUsable 2 (some .boolean)) rmX3_isUsable (va_Pc [.ref h, .int c_] (mB D dA h ad σ τ)) (vp_Si (fun r => r = b01 (useP σ c_))) 0 0 (fun _ => False) := by
  refine w_start (by decide) (Nat.le_of_ble_eq_true rfl) ?_
  intro p e s m args below meth c Q ls hQ hx hb hr hlocks hml hown hnm hts hB hl
  have hown : s.vm.findClass RX3 = some m.cls := hown
  have hl : lv_has ls 2 [(0, .ref h), (1, .int c_)] := hl
  obtain ⟨hP, hK⟩ := hB
  refine lv_aload_n hx hb dX3_isUsable_0 rfl (lv_at hl 0 rfl) ?_
  refine lv_iload_n hx hb dX3_isUsable_1 rfl (lv_at hl 1 rfl) ?_
  refine cVi (As := [.int c_]) (rest := []) ⟨hx, hb, hml, hown, hts⟩ (mt_X3_isCall l D dA h ad σ τ c_) (cw_X3_X3_isCall hts ⟨Nat.le_of_ble_eq_true rfl, Nat.le_of_ble_eq_true rfl⟩) mB_bl (mB_now hK hP) (va_recv hK hP (ci := 0) (q0 := 0) rfl rfl) rfl hl.1 rfl (Nat.le_of_ble_eq_true rfl) dX3_isUsable_2 ⟨Nat.le_of_ble_eq_true rfl, Nat.le_of_ble_eq_true rfl⟩ ?_
  refine lv_if_eq (tgt := 21) hx hb dX3_isUsable_5 rfl (fun h5 => ?_) (fun h5 => ?_)
  · have h5 : ¬ (callP σ c_) := b01_0.mp h5
    refine lv_iconst (v := 0) hx hb dX3_isUsable_21 rfl ?_
    exact r_z hQ hx hb hr hlocks rfl (Or.inl rfl) ((b01_f (by simp only [useP, eq_false h5, not_true_eq_false, not_false_eq_true, and_true, true_and, and_false, false_and, or_true, true_or, or_false, false_or, and_self, or_self, eq_self])).symm) dX3_isUsable_22
  · have h5 : callP σ c_ := b01_n h5
    obtain ⟨j, hj, rfl⟩ := in5 h5.1
    have hix_j : ix (nI j) = j := ix_nI hj (by decide)
    have hsm := hI.sm j hj
    refine lv_aload_n hx hb dX3_isUsable_8 rfl (lv_at hl 0 rfl) ?_
    refine va_get (D := D) (ci := 0) (v := .ref (ad 6)) (C := RX3) (T := TX3) (N := 31) hx hb hts in_X3 hown hK hP 0 rfl rfl 13 (by decide) (hts _ q1127) (fun _ h9 => h9) rfl dX3_isUsable_9 ?_
    refine lv_iload_n hx hb dX3_isUsable_12 rfl (lv_at hl 1 rfl) ?_
    refine wa_iald (f := fun c => nI (σ.sm c)) hx hb hK hP 7 0 rfl rfl (j) (rfl) (by omega) (by decide) dX3_isUsable_13 ?_
    refine w_topi (y := nI (σ.sm j)) rfl ?_
    refine lv_if_le (tgt := 21) hx hb dX3_isUsable_14 rfl (fun h14 => ?_) (fun h14 => ?_)
    · have h14 : (σ.sm j) ≤ 0 := (nz_le (a := σ.sm j) (b := 0) rfl rfl (by omega) (by omega)).mp h14
      refine lv_iconst (v := 0) hx hb dX3_isUsable_21 rfl ?_
      exact r_z hQ hx hb hr hlocks rfl (Or.inl rfl) ((b01_f (by simp only [useP, eq_true h5, eq_true h14, hix_j, not_true_eq_false, not_false_eq_true, and_true, true_and, and_false, false_and, or_true, true_or, or_false, false_or, and_self, or_self, eq_self])).symm) dX3_isUsable_22
    · have h14 : ¬ ((σ.sm j) ≤ 0) := fun z9 => h14 ((nz_le (a := σ.sm j) (b := 0) rfl rfl (by omega) (by omega)).mpr z9)
      refine lv_iconst (v := 1) hx hb dX3_isUsable_17 rfl ?_
      refine lv_goto (tgt := 22) hx hb dX3_isUsable_18 rfl ?_
      exact r_z hQ hx hb hr hlocks rfl (Or.inr rfl) ((b01_t (by simp only [useP, eq_true h5, eq_false h14, hix_j, not_true_eq_false, not_false_eq_true, and_true, true_and, and_false, false_and, or_true, true_or, or_false, false_or, and_self, or_self, eq_self])).symm) dX3_isUsable_22

def rmX3_isSort : Room := { frames := 2, cells := 0, slots := 0, locals := 46 }
set_option maxHeartbeats 1000000 in
theorem mt_X3_isSort (l : Launch) (D : va_G) (dA : Nat → ClassId) (h : Nat) (ad : Nat → Nat) (σ : St) (τ : Sc) (c_ : Int32) (s_ : Int32) (hI : Inv σ) : Met l yX3_isSort (ws_ yX3_isSort cX3_isSort 3 (some .boolean)) rmX3_isSort (va_Pc [.ref h, .int c_, .int s_] (mB D dA h ad σ τ)) (vp_Si (fun r => r = b01 (sortP σ c_ s_))) 0 0 (fun _ => False) := by
  refine w_start (by decide) (Nat.le_of_ble_eq_true rfl) ?_
  intro p e s m args below meth c Q ls hQ hx hb hr hlocks hml hown hnm hts hB hl
  have hown : s.vm.findClass RX3 = some m.cls := hown
  have hl : lv_has ls 3 [(0, .ref h), (1, .int c_), (2, .int s_)] := hl
  obtain ⟨hP, hK⟩ := hB
  refine lv_aload_n hx hb dX3_isSort_0 rfl (lv_at hl 0 rfl) ?_
  refine lv_iload_n hx hb dX3_isSort_1 rfl (lv_at hl 1 rfl) ?_
  refine cVi (As := [.int c_]) (rest := []) ⟨hx, hb, hml, hown, hts⟩ (mt_X3_isCall l D dA h ad σ τ c_) (cw_X3_X3_isCall hts ⟨Nat.le_of_ble_eq_true rfl, Nat.le_of_ble_eq_true rfl⟩) mB_bl (mB_now hK hP) (va_recv hK hP (ci := 0) (q0 := 0) rfl rfl) rfl hl.1 rfl (Nat.le_of_ble_eq_true rfl) dX3_isSort_2 ⟨Nat.le_of_ble_eq_true rfl, Nat.le_of_ble_eq_true rfl⟩ ?_
  refine lv_if_eq (tgt := 30) hx hb dX3_isSort_5 rfl (fun h5 => ?_) (fun h5 => ?_)
  · have h5 : ¬ (callP σ c_) := b01_0.mp h5
    refine lv_iconst (v := 0) hx hb dX3_isSort_30 rfl ?_
    exact r_z hQ hx hb hr hlocks rfl (Or.inl rfl) ((b01_f (by simp only [sortP, eq_false h5, not_true_eq_false, not_false_eq_true, and_true, true_and, and_false, false_and, or_true, true_or, or_false, false_or, and_self, or_self, eq_self])).symm) dX3_isSort_31
  · have h5 : callP σ c_ := b01_n h5
    obtain ⟨j, hj, rfl⟩ := in5 h5.1
    have hix_j : ix (nI j) = j := ix_nI hj (by decide)
    have hsm := hI.sm j hj
    refine lv_iload_n hx hb dX3_isSort_8 rfl (lv_at hl 2 rfl) ?_
    refine lv_i2l (v := (s_ : Int32).toInt64) hx hb dX3_isSort_9 rfl ?_
    refine lv_lconst (v := 0) hx hb dX3_isSort_10 rfl ?_
    refine lv_aload_n hx hb dX3_isSort_11 rfl (lv_at hl 0 rfl) ?_
    refine va_get (D := D) (ci := 0) (v := .ref (ad 6)) (C := RX3) (T := TX3) (N := 31) hx hb hts in_X3 hown hK hP 0 rfl rfl 13 (by decide) (hts _ q1127) (fun _ h9 => h9) rfl dX3_isSort_12 ?_
    refine lv_iload_n hx hb dX3_isSort_15 rfl (lv_at hl 1 rfl) ?_
    refine wa_iald (f := fun c => nI (σ.sm c)) hx hb hK hP 7 0 rfl rfl (j) (rfl) (by omega) (by decide) dX3_isSort_16 ?_
    refine w_topi (y := nI (σ.sm j)) rfl ?_
    refine lv_iconst (v := 1) hx hb dX3_isSort_17 rfl ?_
    refine lv_isub hx hb dX3_isSort_18 ?_
    refine lv_i2l (v := ((nI (σ.sm j)) - 1 : Int32).toInt64) hx hb dX3_isSort_19 rfl ?_
    refine cSi (As := [.long ((s_ : Int32).toInt64), .long 0, .long (((nI (σ.sm j)) - 1 : Int32).toInt64)]) (rest := []) ⟨hx, hb, hml, hown, hts⟩ (mt_X3_in l ((s_ : Int32).toInt64) 0 (((nI (σ.sm j)) - 1 : Int32).toInt64)) (cw_X3_X3_in hts ⟨Nat.le_of_ble_eq_true rfl, Nat.le_of_ble_eq_true rfl⟩) w_blT (fun _ _ _ => trivial) rfl hl.1 rfl (Nat.le_of_ble_eq_true rfl) dX3_isSort_20 ⟨Nat.le_of_ble_eq_true rfl, Nat.le_of_ble_eq_true rfl⟩ ?_
    refine lv_if_eq (tgt := 30) hx hb dX3_isSort_23 rfl (fun h23 => ?_) (fun h23 => ?_)
    · have h23 : ¬ (inP ((s_ : Int32).toInt64) 0 (((nI (σ.sm j)) - 1 : Int32).toInt64)) := b01_0.mp h23
      refine lv_iconst (v := 0) hx hb dX3_isSort_30 rfl ?_
      exact r_z hQ hx hb hr hlocks rfl (Or.inl rfl) ((b01_f (by simp only [sortP, eq_true h5, eq_false h23, hix_j, not_true_eq_false, not_false_eq_true, and_true, true_and, and_false, false_and, or_true, true_or, or_false, false_or, and_self, or_self, eq_self])).symm) dX3_isSort_31
    · have h23 : inP ((s_ : Int32).toInt64) 0 (((nI (σ.sm j)) - 1 : Int32).toInt64) := b01_n h23
      refine lv_iconst (v := 1) hx hb dX3_isSort_26 rfl ?_
      refine lv_goto (tgt := 31) hx hb dX3_isSort_27 rfl ?_
      exact r_z hQ hx hb hr hlocks rfl (Or.inr rfl) ((b01_t (by simp only [sortP, eq_true h5, eq_true h23, hix_j, not_true_eq_false, not_false_eq_true, and_true, true_and, and_false, false_and, or_true, true_or, or_false, false_or, and_self, or_self, eq_self])).symm) dX3_isSort_31

theorem cw_X3_X3_isThing {R : Room} {s : State} {args : Array Value} (hts : ∀ w ∈ lw_all, w.before args s = true) (hR : rmX3_isThing.frames + 1 ≤ R.frames ∧ 8 + (1 + 11) + rmX3_isThing.locals ≤ R.locals) : CallB R s args RX3 145 yX3_isThing cX3_isThing 1 (some .boolean) (ws_ yX3_isThing cX3_isThing 1 (some .boolean)) rmX3_isThing 0 0 1 ∧ (Cond.static yX3_isThing).before args s = true := va_cwS 1 hts (lw_S q1292 q1293 q83 q1294) rfl rfl rfl (by decide +kernel) hR
def rmX3_thing : Room := { frames := 2, cells := 0, slots := 0, locals := 45 }
set_option maxHeartbeats 1000000 in
theorem mt_X3_thing (l : Launch) (D : va_G) (dA : Nat → ClassId) (h : Nat) (ad : Nat → Nat) (σ : St) (τ : Sc) (t : Int32) (w : Int32) : Met l yX3_thing (ws_ yX3_thing cX3_thing 3 (some .int)) rmX3_thing (va_Pc [.ref h, .int t, .int w] (mB D dA h ad σ τ)) (vp_Si (fun r => r = thingF σ t w)) 0 0 (fun _ => False) := by
  refine w_start (by decide) (Nat.le_of_ble_eq_true rfl) ?_
  intro p e s m args below meth c Q ls hQ hx hb hr hlocks hml hown hnm hts hB hl
  have hown : s.vm.findClass RX3 = some m.cls := hown
  have hl : lv_has ls 3 [(0, .ref h), (1, .int t), (2, .int w)] := hl
  obtain ⟨hP, hK⟩ := hB
  refine lv_iload_n hx hb dX3_thing_0 rfl (lv_at hl 1 rfl) ?_
  refine cSi (As := [.int t]) (rest := []) ⟨hx, hb, hml, hown, hts⟩ (mt_X3_isThing l t) (cw_X3_X3_isThing hts ⟨Nat.le_of_ble_eq_true rfl, Nat.le_of_ble_eq_true rfl⟩) w_blT (fun _ _ _ => trivial) rfl hl.1 rfl (Nat.le_of_ble_eq_true rfl) dX3_thing_1 ⟨Nat.le_of_ble_eq_true rfl, Nat.le_of_ble_eq_true rfl⟩ ?_
  refine lv_if_ne (tgt := 10) hx hb dX3_thing_4 rfl (fun h4 => ?_) (fun h4 => ?_)
  · have h4 : thingP t := b01_n h4
    obtain ⟨j, hj, rfl⟩ := in7 h4
    have hix_j : ix (nI j) = j := ix_nI hj (by decide)
    refine lv_iload_n hx hb dX3_thing_10 rfl (lv_at hl 2 rfl) ?_
    refine lv_if_ne (tgt := 23) hx hb dX3_thing_11 rfl (fun h11 => ?_) (fun h11 => ?_)
    · have h11 : ¬ (w = 0) := h11
      refine lv_iload_n hx hb dX3_thing_23 rfl (lv_at hl 2 rfl) ?_
      refine lv_iconst (v := 1) hx hb dX3_thing_24 rfl ?_
      refine lv_icmp_ne (tgt := 37) hx hb dX3_thing_25 rfl (fun h25 => ?_) (fun h25 => ?_)
      · have h25 : ¬ (w = 1) := h25
        refine lv_iload_n hx hb dX3_thing_37 rfl (lv_at hl 2 rfl) ?_
        refine lv_iconst (v := 2) hx hb dX3_thing_38 rfl ?_
        refine lv_icmp_ne (tgt := 53) hx hb dX3_thing_39 rfl (fun h39 => ?_) (fun h39 => ?_)
        · have h39 : ¬ (w = 2) := h39
          refine lv_bipush (v := (-3)) hx hb dX3_thing_53 rfl ?_
          exact r_i hQ hx hb hr hlocks rfl (by simp only [thingF, eq_true h4, eq_false h11, eq_false h25, eq_false h39, hix_j, if_true, if_false, ite_true, ite_false, not_true_eq_false, not_false_eq_true, and_true, true_and, and_false, false_and, or_true, true_or, or_false, false_or, and_self, or_self, eq_self]) dX3_thing_55
        · have h39 : w = 2 := h39
          refine lv_aload_n hx hb dX3_thing_42 rfl (lv_at hl 0 rfl) ?_
          refine va_get (D := D) (ci := 0) (v := .int σ.tools) (C := RX3) (T := TX3) (N := 31) hx hb hts in_X3 hown hK hP 0 rfl rfl 6 (by decide) (hts _ q1120) (fun _ h9 => h9) rfl dX3_thing_43 ?_
          refine lv_iload_n hx hb dX3_thing_46 rfl (lv_at hl 1 rfl) ?_
          refine lv_ishr hx hb dX3_thing_47 ?_
          refine lv_iconst (v := 1) hx hb dX3_thing_48 rfl ?_
          refine lv_iand hx hb dX3_thing_49 ?_
          refine lv_goto (tgt := 55) hx hb dX3_thing_50 rfl ?_
          exact r_i hQ hx hb hr hlocks rfl (by simp only [thingF, eq_true h4, eq_false h11, eq_false h25, eq_true h39, hix_j, if_true, if_false, ite_true, ite_false, not_true_eq_false, not_false_eq_true, and_true, true_and, and_false, false_and, or_true, true_or, or_false, false_or, and_self, or_self, eq_self]) dX3_thing_55
      · have h25 : w = 1 := h25
        refine lv_aload_n hx hb dX3_thing_28 rfl (lv_at hl 0 rfl) ?_
        refine va_get (D := D) (ci := 0) (v := .ref (ad 3)) (C := RX3) (T := TX3) (N := 31) hx hb hts in_X3 hown hK hP 0 rfl rfl 5 (by decide) (hts _ q1119) (fun _ h9 => h9) rfl dX3_thing_29 ?_
        refine lv_iload_n hx hb dX3_thing_32 rfl (lv_at hl 1 rfl) ?_
        refine wa_iald (f := σ.pr) hx hb hK hP 4 0 rfl rfl (j) (rfl) (by omega) (by decide) dX3_thing_33 ?_
        refine lv_goto (tgt := 55) hx hb dX3_thing_34 rfl ?_
        exact r_i hQ hx hb hr hlocks rfl (by simp only [thingF, eq_true h4, eq_false h11, eq_true h25, hix_j, if_true, if_false, ite_true, ite_false, not_true_eq_false, not_false_eq_true, and_true, true_and, and_false, false_and, or_true, true_or, or_false, false_or, and_self, or_self, eq_self]) dX3_thing_55
    · have h11 : w = 0 := h11
      refine lv_aload_n hx hb dX3_thing_14 rfl (lv_at hl 0 rfl) ?_
      refine va_get (D := D) (ci := 0) (v := .ref (ad 2)) (C := RX3) (T := TX3) (N := 31) hx hb hts in_X3 hown hK hP 0 rfl rfl 4 (by decide) (hts _ q1118) (fun _ h9 => h9) rfl dX3_thing_15 ?_
      refine lv_iload_n hx hb dX3_thing_18 rfl (lv_at hl 1 rfl) ?_
      refine wa_iald (f := σ.wt) hx hb hK hP 3 0 rfl rfl (j) (rfl) (by omega) (by decide) dX3_thing_19 ?_
      refine lv_goto (tgt := 55) hx hb dX3_thing_20 rfl ?_
      exact r_i hQ hx hb hr hlocks rfl (by simp only [thingF, eq_true h4, eq_true h11, hix_j, if_true, if_false, ite_true, ite_false, not_true_eq_false, not_false_eq_true, and_true, true_and, and_false, false_and, or_true, true_or, or_false, false_or, and_self, or_self, eq_self]) dX3_thing_55
  · have h4 : ¬ (thingP t) := b01_0.mp h4
    refine lv_bipush (v := (-2)) hx hb dX3_thing_7 rfl ?_
    exact r_i hQ hx hb hr hlocks rfl (by simp only [thingF, eq_false h4, if_true, if_false, ite_true, ite_false, not_true_eq_false, not_false_eq_true, and_true, true_and, and_false, false_and, or_true, true_or, or_false, false_or, and_self, or_self, eq_self]) dX3_thing_9

def rmX3_call : Room := { frames := 2, cells := 0, slots := 0, locals := 46 }
set_option maxHeartbeats 1000000 in
theorem mt_X3_call (l : Launch) (D : va_G) (dA : Nat → ClassId) (h : Nat) (ad : Nat → Nat) (σ : St) (τ : Sc) (c_ : Int32) (w : Int32) (hI : Inv σ) : Met l yX3_call (ws_ yX3_call cX3_call 3 (some .int)) rmX3_call (va_Pc [.ref h, .int c_, .int w] (mB D dA h ad σ τ)) (vp_Si (fun r => r = callF σ c_ w)) 0 0 (fun _ => False) := by
  refine w_start (by decide) (Nat.le_of_ble_eq_true rfl) ?_
  intro p e s m args below meth c Q ls hQ hx hb hr hlocks hml hown hnm hts hB hl
  have hown : s.vm.findClass RX3 = some m.cls := hown
  have hl : lv_has ls 3 [(0, .ref h), (1, .int c_), (2, .int w)] := hl
  obtain ⟨hP, hK⟩ := hB
  refine lv_aload_n hx hb dX3_call_0 rfl (lv_at hl 0 rfl) ?_
  refine lv_iload_n hx hb dX3_call_1 rfl (lv_at hl 1 rfl) ?_
  refine cVi (As := [.int c_]) (rest := []) ⟨hx, hb, hml, hown, hts⟩ (mt_X3_isCall l D dA h ad σ τ c_) (cw_X3_X3_isCall hts ⟨Nat.le_of_ble_eq_true rfl, Nat.le_of_ble_eq_true rfl⟩) mB_bl (mB_now hK hP) (va_recv hK hP (ci := 0) (q0 := 0) rfl rfl) rfl hl.1 rfl (Nat.le_of_ble_eq_true rfl) dX3_call_2 ⟨Nat.le_of_ble_eq_true rfl, Nat.le_of_ble_eq_true rfl⟩ ?_
  refine lv_if_ne (tgt := 11) hx hb dX3_call_5 rfl (fun h5 => ?_) (fun h5 => ?_)
  · have h5 : callP σ c_ := b01_n h5
    obtain ⟨j, hj, rfl⟩ := in5 h5.1
    have hix_j : ix (nI j) = j := ix_nI hj (by decide)
    have hsm := hI.sm j hj
    refine lv_iload_n hx hb dX3_call_11 rfl (lv_at hl 2 rfl) ?_
    refine lv_i2l (v := (w : Int32).toInt64) hx hb dX3_call_12 rfl ?_
    refine lv_lconst (v := 0) hx hb dX3_call_13 rfl ?_
    refine lv_ldc2 (v := 5) hx hb hown (hts _ q1303) dX3_call_14 ?_
    refine cSi (As := [.long ((w : Int32).toInt64), .long 0, .long 5]) (rest := []) ⟨hx, hb, hml, hown, hts⟩ (mt_X3_in l ((w : Int32).toInt64) 0 5) (cw_X3_X3_in hts ⟨Nat.le_of_ble_eq_true rfl, Nat.le_of_ble_eq_true rfl⟩) w_blT (fun _ _ _ => trivial) rfl hl.1 rfl (Nat.le_of_ble_eq_true rfl) dX3_call_17 ⟨Nat.le_of_ble_eq_true rfl, Nat.le_of_ble_eq_true rfl⟩ ?_
    refine lv_if_eq (tgt := 37) hx hb dX3_call_20 rfl (fun h20 => ?_) (fun h20 => ?_)
    · have h20 : ¬ (inP ((w : Int32).toInt64) 0 5) := b01_0.mp h20
      refine lv_iload_n hx hb dX3_call_37 rfl (lv_at hl 2 rfl) ?_
      refine lv_bipush (v := 6) hx hb dX3_call_38 rfl ?_
      refine lv_icmp_ne (tgt := 52) hx hb dX3_call_40 rfl (fun h40 => ?_) (fun h40 => ?_)
      · have h40 : ¬ (w = 6) := h40
        refine lv_bipush (v := (-3)) hx hb dX3_call_52 rfl ?_
        exact r_i hQ hx hb hr hlocks rfl (by simp only [callF, eq_true h5, eq_false h20, eq_false h40, hix_j, if_true, if_false, ite_true, ite_false, not_true_eq_false, not_false_eq_true, and_true, true_and, and_false, false_and, or_true, true_or, or_false, false_or, and_self, or_self, eq_self]) dX3_call_54
      · have h40 : w = 6 := h40
        refine lv_aload_n hx hb dX3_call_43 rfl (lv_at hl 0 rfl) ?_
        refine va_get (D := D) (ci := 0) (v := .ref (ad 6)) (C := RX3) (T := TX3) (N := 31) hx hb hts in_X3 hown hK hP 0 rfl rfl 13 (by decide) (hts _ q1127) (fun _ h9 => h9) rfl dX3_call_44 ?_
        refine lv_iload_n hx hb dX3_call_47 rfl (lv_at hl 1 rfl) ?_
        refine wa_iald (f := fun c => nI (σ.sm c)) hx hb hK hP 7 0 rfl rfl (j) (rfl) (by omega) (by decide) dX3_call_48 ?_
        refine w_topi (y := nI (σ.sm j)) rfl ?_
        refine lv_goto (tgt := 54) hx hb dX3_call_49 rfl ?_
        exact r_i hQ hx hb hr hlocks rfl (by simp only [callF, eq_true h5, eq_false h20, eq_true h40, hix_j, if_true, if_false, ite_true, ite_false, not_true_eq_false, not_false_eq_true, and_true, true_and, and_false, false_and, or_true, true_or, or_false, false_or, and_self, or_self, eq_self]) dX3_call_54
    · have h20 : inP ((w : Int32).toInt64) 0 5 := b01_n h20
      obtain ⟨i, hi, rfl⟩ := in5 h20
      have hix_i : ix (nI i) = i := ix_nI hi (by decide)
      refine lv_aload_n hx hb dX3_call_23 rfl (lv_at hl 0 rfl) ?_
      refine va_get (D := D) (ci := 0) (v := .ref (ad 5)) (C := RX3) (T := TX3) (N := 31) hx hb hts in_X3 hown hK hP 0 rfl rfl 12 (by decide) (hts _ q1126) (fun _ h9 => h9) rfl dX3_call_24 ?_
      refine lv_bipush (v := 6) hx hb dX3_call_27 rfl ?_
      refine lv_iload_n hx hb dX3_call_29 rfl (lv_at hl 1 rfl) ?_
      refine lv_imul hx hb dX3_call_30 ?_
      refine lv_iload_n hx hb dX3_call_31 rfl (lv_at hl 2 rfl) ?_
      refine lv_iadd hx hb dX3_call_32 ?_
      refine wa_iald (f := σ.calls) hx hb hK hP 6 0 rfl rfl ((6 * j) + i) ((nz_add (nz_mul rfl rfl) rfl)) (by omega) (by decide) dX3_call_33 ?_
      refine lv_goto (tgt := 54) hx hb dX3_call_34 rfl ?_
      exact r_i hQ hx hb hr hlocks rfl (by simp only [callF, eq_true h5, eq_true h20, hix_j, hix_i, if_true, if_false, ite_true, ite_false, not_true_eq_false, not_false_eq_true, and_true, true_and, and_false, false_and, or_true, true_or, or_false, false_or, and_self, or_self, eq_self]) dX3_call_54
  · have h5 : ¬ (callP σ c_) := b01_0.mp h5
    refine lv_bipush (v := (-2)) hx hb dX3_call_8 rfl ?_
    exact r_i hQ hx hb hr hlocks rfl (by simp only [callF, eq_false h5, if_true, if_false, ite_true, ite_false, not_true_eq_false, not_false_eq_true, and_true, true_and, and_false, false_and, or_true, true_or, or_false, false_or, and_self, or_self, eq_self]) dX3_call_10

theorem cw_X3_X3_isSort {R : Room} {s : State} {args : Array Value} (hts : ∀ w ∈ lw_all, w.before args s = true) (hR : rmX3_isSort.frames + 1 ≤ R.frames ∧ 8 + (3 + 11) + rmX3_isSort.locals ≤ R.locals) : CallW R s args RX3 RX3 151 yX3_isSort cX3_isSort 3 (some .boolean) (ws_ yX3_isSort cX3_isSort 3 (some .boolean)) rmX3_isSort 0 0 2 := cwV 2 hts (lw_V q1308 q1310 qs46 q83 q1311) rfl rfl rfl (by decide +kernel) hR
def rmX3_sort : Room := { frames := 3, cells := 0, slots := 0, locals := 68 }
set_option maxHeartbeats 1000000 in
theorem mt_X3_sort (l : Launch) (D : va_G) (dA : Nat → ClassId) (h : Nat) (ad : Nat → Nat) (σ : St) (τ : Sc) (c_ : Int32) (s_ : Int32) (w : Int32) (hI : Inv σ) : Met l yX3_sort (ws_ yX3_sort cX3_sort 4 (some .int)) rmX3_sort (va_Pc [.ref h, .int c_, .int s_, .int w] (mB D dA h ad σ τ)) (vp_Si (fun r => r = sortF σ c_ s_ w)) 0 0 (fun _ => False) := by
  refine w_start (by decide) (Nat.le_of_ble_eq_true rfl) ?_
  intro p e s m args below meth c Q ls hQ hx hb hr hlocks hml hown hnm hts hB hl
  have hown : s.vm.findClass RX3 = some m.cls := hown
  have hl : lv_has ls 4 [(0, .ref h), (1, .int c_), (2, .int s_), (3, .int w)] := hl
  obtain ⟨hP, hK⟩ := hB
  refine lv_aload_n hx hb dX3_sort_0 rfl (lv_at hl 0 rfl) ?_
  refine lv_iload_n hx hb dX3_sort_1 rfl (lv_at hl 1 rfl) ?_
  refine lv_iload_n hx hb dX3_sort_2 rfl (lv_at hl 2 rfl) ?_
  refine cVi (As := [.int c_, .int s_]) (rest := []) ⟨hx, hb, hml, hown, hts⟩ (mt_X3_isSort l D dA h ad σ τ c_ s_ hI) (cw_X3_X3_isSort hts ⟨Nat.le_of_ble_eq_true rfl, Nat.le_of_ble_eq_true rfl⟩) mB_bl (mB_now hK hP) (va_recv hK hP (ci := 0) (q0 := 0) rfl rfl) rfl hl.1 rfl (Nat.le_of_ble_eq_true rfl) dX3_sort_3 ⟨Nat.le_of_ble_eq_true rfl, Nat.le_of_ble_eq_true rfl⟩ ?_
  refine lv_if_ne (tgt := 12) hx hb dX3_sort_6 rfl (fun h6 => ?_) (fun h6 => ?_)
  · have h6 : sortP σ c_ s_ := b01_n h6
    obtain ⟨j, hj, rfl⟩ := in5 h6.1.1
    have hix_j : ix (nI j) = j := ix_nI hj (by decide)
    have hsm := hI.sm j hj
    obtain ⟨i, hi, rfl⟩ := in_sm hsm (by have q := h6.2; rw [hix_j] at q; exact q)
    have his : ix (nI i) = i := ix_nI hi (by omega)
    refine lv_iload_n hx hb dX3_sort_12 rfl (lv_at hl 3 rfl) ?_
    refine lv_i2l (v := (w : Int32).toInt64) hx hb dX3_sort_13 rfl ?_
    refine lv_lconst (v := 0) hx hb dX3_sort_14 rfl ?_
    refine lv_ldc2 (v := 3) hx hb hown (hts _ q1312) dX3_sort_15 ?_
    refine cSi (As := [.long ((w : Int32).toInt64), .long 0, .long 3]) (rest := []) ⟨hx, hb, hml, hown, hts⟩ (mt_X3_in l ((w : Int32).toInt64) 0 3) (cw_X3_X3_in hts ⟨Nat.le_of_ble_eq_true rfl, Nat.le_of_ble_eq_true rfl⟩) w_blT (fun _ _ _ => trivial) rfl hl.1 rfl (Nat.le_of_ble_eq_true rfl) dX3_sort_18 ⟨Nat.le_of_ble_eq_true rfl, Nat.le_of_ble_eq_true rfl⟩ ?_
    refine lv_if_eq (tgt := 42) hx hb dX3_sort_21 rfl (fun h21 => ?_) (fun h21 => ?_)
    · have h21 : ¬ (inP ((w : Int32).toInt64) 0 3) := b01_0.mp h21
      refine lv_bipush (v := (-3)) hx hb dX3_sort_42 rfl ?_
      exact r_i hQ hx hb hr hlocks rfl (by simp only [sortF, eq_true h6, eq_false h21, hix_j, his, if_true, if_false, ite_true, ite_false, not_true_eq_false, not_false_eq_true, and_true, true_and, and_false, false_and, or_true, true_or, or_false, false_or, and_self, or_self, eq_self]) dX3_sort_44
    · have h21 : inP ((w : Int32).toInt64) 0 3 := b01_n h21
      obtain ⟨n, hn, rfl⟩ := in3 h21
      have hix_n : ix (nI n) = n := ix_nI hn (by decide)
      refine lv_aload_n hx hb dX3_sort_24 rfl (lv_at hl 0 rfl) ?_
      refine va_get (D := D) (ci := 0) (v := .ref (ad 7)) (C := RX3) (T := TX3) (N := 31) hx hb hts in_X3 hown hK hP 0 rfl rfl 14 (by decide) (hts _ q1128) (fun _ h9 => h9) rfl dX3_sort_25 ?_
      refine lv_bipush (v := 16) hx hb dX3_sort_28 rfl ?_
      refine lv_iload_n hx hb dX3_sort_30 rfl (lv_at hl 1 rfl) ?_
      refine lv_imul hx hb dX3_sort_31 ?_
      refine lv_iconst (v := 4) hx hb dX3_sort_32 rfl ?_
      refine lv_iload_n hx hb dX3_sort_33 rfl (lv_at hl 2 rfl) ?_
      refine lv_imul hx hb dX3_sort_34 ?_
      refine lv_iadd hx hb dX3_sort_35 ?_
      refine lv_iload_n hx hb dX3_sort_36 rfl (lv_at hl 3 rfl) ?_
      refine lv_iadd hx hb dX3_sort_37 ?_
      refine wa_iald (f := σ.sorts) hx hb hK hP 8 0 rfl rfl (((16 * j) + (4 * i)) + n) ((nz_add (nz_add (nz_mul rfl rfl) (nz_mul rfl rfl)) rfl)) (by omega) (by decide) dX3_sort_38 ?_
      refine lv_goto (tgt := 44) hx hb dX3_sort_39 rfl ?_
      exact r_i hQ hx hb hr hlocks rfl (by simp only [sortF, eq_true h6, eq_true h21, hix_j, his, hix_n, if_true, if_false, ite_true, ite_false, not_true_eq_false, not_false_eq_true, and_true, true_and, and_false, false_and, or_true, true_or, or_false, false_or, and_self, or_self, eq_self]) dX3_sort_44
  · have h6 : ¬ (sortP σ c_ s_) := b01_0.mp h6
    refine lv_bipush (v := (-2)) hx hb dX3_sort_9 rfl ?_
    exact r_i hQ hx hb hr hlocks rfl (by simp only [sortF, eq_false h6, if_true, if_false, ite_true, ite_false, not_true_eq_false, not_false_eq_true, and_true, true_and, and_false, false_and, or_true, true_or, or_false, false_or, and_self, or_self, eq_self]) dX3_sort_11
