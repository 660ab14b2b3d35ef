/-! THE MODEL's METHODS 1: static ones, bags -/
set_option maxRecDepth 100000
def kindF (c : Int32) : Int32 := if c < 97 then (if c < 48 then 0 else if 57 < c then 0 else 2) else if 122 < c then (if c < 48 then 0 else if 57 < c then 0 else 2) else 1
abbrev fitsP (bag al on : Int32) : Prop := al &&& (bag ^^^ (-1)) = 0 ∧ (on = 0 ∨ ¬ on &&& bag = 0)

def rmX3_in : Room := { frames := 0, cells := 0, slots := 0, locals := 0 }
set_option maxHeartbeats 1000000 in
theorem mt_X3_in (l : Launch) (v : Int64) (lo : Int64) (hi : Int64) : Met l yX3_in (ws_ yX3_in cX3_in 6 (some .boolean)) rmX3_in (va_Pc [.long v, .long lo, .long hi] (fun _ => True)) (vp_Si (fun r => r = b01 (inP v lo hi))) 0 0 (fun _ => False) := by
  refine w_start (by decide) (Nat.le_of_ble_eq_true rfl) ?_
  intro p e s m args below meth c Q ls hQ hx hb hr hlocks hml hown hnm hts hB hl
  have hown : s.vm.findClass RX3 = some m.cls := hown
  have hl : lv_has ls 6 [(0, .long v), (2, .long lo), (4, .long hi)] := hl
  refine lv_lload_n hx hb dX3_in_0 rfl (lv_at hl 0 rfl) ?_
  refine lv_lload_n hx hb dX3_in_1 rfl (lv_at hl 1 rfl) ?_
  refine W.lcmp hx hb dX3_in_2 ?_
  refine lv_if_lt (tgt := 17) hx hb dX3_in_3 rfl (fun h3 => ?_) (fun h3 => ?_)
  · have h3 : v < lo := (lg_cmp_lt v lo).mp h3
    refine lv_iconst (v := 0) hx hb dX3_in_17 rfl ?_
    exact r_z hQ hx hb hr hlocks rfl (Or.inl rfl) ((b01_f (by simp only [inP, eq_true h3, not_true_eq_false, not_false_eq_true, and_true, true_and, and_false, false_and, or_true, true_or, or_false, false_or, and_self, or_self, eq_self])).symm) dX3_in_18
  · have h3 : ¬ (v < lo) := fun z9 => h3 ((lg_cmp_lt v lo).mpr z9)
    refine lv_lload_n hx hb dX3_in_6 rfl (lv_at hl 0 rfl) ?_
    refine lv_lload hx hb dX3_in_7 (lv_at hl 2 rfl) ?_
    refine W.lcmp hx hb dX3_in_9 ?_
    refine lv_if_gt (tgt := 17) hx hb dX3_in_10 rfl (fun h10 => ?_) (fun h10 => ?_)
    · have h10 : hi < v := (lg_cmp_gt v hi).mp h10
      refine lv_iconst (v := 0) hx hb dX3_in_17 rfl ?_
      exact r_z hQ hx hb hr hlocks rfl (Or.inl rfl) ((b01_f (by simp only [inP, eq_false h3, eq_true h10, not_true_eq_false, not_false_eq_true, and_true, true_and, and_false, false_and, or_true, true_or, or_false, false_or, and_self, or_self, eq_self])).symm) dX3_in_18
    · have h10 : ¬ (hi < v) := fun z9 => h10 ((lg_cmp_gt v hi).mpr z9)
      refine lv_iconst (v := 1) hx hb dX3_in_13 rfl ?_
      refine lv_goto (tgt := 18) hx hb dX3_in_14 rfl ?_
      exact r_z hQ hx hb hr hlocks rfl (Or.inr rfl) ((b01_t (by simp only [inP, eq_false h3, eq_false h10, not_true_eq_false, not_false_eq_true, and_true, true_and, and_false, false_and, or_true, true_or, or_false, false_or, and_self, or_self, eq_self])).symm) dX3_in_18

def rmX3_has : Room := { frames := 0, cells := 0, slots := 0, locals := 0 }
set_option maxHeartbeats 1000000 in
theorem mt_X3_has (l : Launch) (x : Int32) (v : Int32) : Met l yX3_has (ws_ yX3_has cX3_has 2 (some .boolean)) rmX3_has (va_Pc [.int x, .int v] (fun _ => True)) (vp_Si (fun r => r = b01 (hasP x v))) 0 0 (fun _ => False) := by
  refine w_start (by decide) (Nat.le_of_ble_eq_true rfl) ?_
  intro p e s m args below meth c Q ls hQ hx hb hr hlocks hml hown hnm hts hB hl
  have hown : s.vm.findClass RX3 = some m.cls := hown
  have hl : lv_has ls 2 [(0, .int x), (1, .int v)] := hl
  refine lv_iload_n hx hb dX3_has_0 rfl (lv_at hl 0 rfl) ?_
  refine lv_iload_n hx hb dX3_has_1 rfl (lv_at hl 1 rfl) ?_
  refine lv_ishr hx hb dX3_has_2 ?_
  refine lv_iconst (v := 1) hx hb dX3_has_3 rfl ?_
  refine lv_iand hx hb dX3_has_4 ?_
  refine lv_iconst (v := 1) hx hb dX3_has_5 rfl ?_
  refine lv_icmp_ne (tgt := 13) hx hb dX3_has_6 rfl (fun h6 => ?_) (fun h6 => ?_)
  · have h6 : ¬ (((x >>> (v &&& 31)) &&& 1) = 1) := h6
    refine lv_iconst (v := 0) hx hb dX3_has_13 rfl ?_
    exact r_z hQ hx hb hr hlocks rfl (Or.inl rfl) ((b01_f (by simp only [hasP, eq_false h6, not_true_eq_false, not_false_eq_true, and_true, true_and, and_false, false_and, or_true, true_or, or_false, false_or, and_self, or_self, eq_self])).symm) dX3_has_14
  · have h6 : ((x >>> (v &&& 31)) &&& 1) = 1 := h6
    refine lv_iconst (v := 1) hx hb dX3_has_9 rfl ?_
    refine lv_goto (tgt := 14) hx hb dX3_has_10 rfl ?_
    exact r_z hQ hx hb hr hlocks rfl (Or.inr rfl) ((b01_t (by simp only [hasP, eq_true h6, not_true_eq_false, not_false_eq_true, and_true, true_and, and_false, false_and, or_true, true_or, or_false, false_or, and_self, or_self, eq_self])).symm) dX3_has_14

def rmX3_kind : Room := { frames := 0, cells := 0, slots := 0, locals := 0 }
set_option maxHeartbeats 1000000 in
theorem mt_X3_kind (l : Launch) (c_ : Int32) : Met l yX3_kind (ws_ yX3_kind cX3_kind 1 (some .int)) rmX3_kind (va_Pc [.int c_] (fun _ => True)) (vp_Si (fun r => r = kindF c_)) 0 0 (fun _ => False) := by
  refine w_start (by decide) (Nat.le_of_ble_eq_true rfl) ?_
  intro p e s m args below meth c Q ls hQ hx hb hr hlocks hml hown hnm hts hB hl
  have hown : s.vm.findClass RX3 = some m.cls := hown
  have hl : lv_has ls 1 [(0, .int c_)] := hl
  refine lv_iload_n hx hb dX3_kind_0 rfl (lv_at hl 0 rfl) ?_
  refine lv_bipush (v := 97) hx hb dX3_kind_1 rfl ?_
  refine lv_icmp_lt (tgt := 16) hx hb dX3_kind_3 rfl (fun h3 => ?_) (fun h3 => ?_)
  · have h3 : c_ < 97 := h3
    refine lv_iload_n hx hb dX3_kind_16 rfl (lv_at hl 0 rfl) ?_
    refine lv_bipush (v := 48) hx hb dX3_kind_17 rfl ?_
    refine lv_icmp_lt (tgt := 32) hx hb dX3_kind_19 rfl (fun h19 => ?_) (fun h19 => ?_)
    · have h19 : c_ < 48 := h19
      refine lv_iconst (v := 0) hx hb dX3_kind_32 rfl ?_
      exact r_i hQ hx hb hr hlocks rfl (by simp [kindF, h3, h19]) dX3_kind_33
    · have h19 : ¬ (c_ < 48) := h19
      refine lv_iload_n hx hb dX3_kind_22 rfl (lv_at hl 0 rfl) ?_
      refine lv_bipush (v := 57) hx hb dX3_kind_23 rfl ?_
      refine lv_icmp_gt (tgt := 32) hx hb dX3_kind_25 rfl (fun h25 => ?_) (fun h25 => ?_)
      · have h25 : (57 : Int32) < c_ := h25
        refine lv_iconst (v := 0) hx hb dX3_kind_32 rfl ?_
        exact r_i hQ hx hb hr hlocks rfl (by simp [kindF, h3, h19, h25]) dX3_kind_33
      · have h25 : ¬ ((57 : Int32) < c_) := h25
        refine lv_iconst (v := 2) hx hb dX3_kind_28 rfl ?_
        refine lv_goto (tgt := 33) hx hb dX3_kind_29 rfl ?_
        exact r_i hQ hx hb hr hlocks rfl (by simp [kindF, h3, h19, h25]) dX3_kind_33
  · have h3 : ¬ (c_ < 97) := h3
    refine lv_iload_n hx hb dX3_kind_6 rfl (lv_at hl 0 rfl) ?_
    refine lv_bipush (v := 122) hx hb dX3_kind_7 rfl ?_
    refine lv_icmp_gt (tgt := 16) hx hb dX3_kind_9 rfl (fun h9 => ?_) (fun h9 => ?_)
    · have h9 : (122 : Int32) < c_ := h9
      refine lv_iload_n hx hb dX3_kind_16 rfl (lv_at hl 0 rfl) ?_
      refine lv_bipush (v := 48) hx hb dX3_kind_17 rfl ?_
      refine lv_icmp_lt (tgt := 32) hx hb dX3_kind_19 rfl (fun h19 => ?_) (fun h19 => ?_)
      · have h19 : c_ < 48 := h19
        refine lv_iconst (v := 0) hx hb dX3_kind_32 rfl ?_
        exact r_i hQ hx hb hr hlocks rfl (by simp [kindF, h3, h9, h19]) dX3_kind_33
      · have h19 : ¬ (c_ < 48) := h19
        refine lv_iload_n hx hb dX3_kind_22 rfl (lv_at hl 0 rfl) ?_
        refine lv_bipush (v := 57) hx hb dX3_kind_23 rfl ?_
        refine lv_icmp_gt (tgt := 32) hx hb dX3_kind_25 rfl (fun h25 => ?_) (fun h25 => ?_)
        · have h25 : (57 : Int32) < c_ := h25
          refine lv_iconst (v := 0) hx hb dX3_kind_32 rfl ?_
          exact r_i hQ hx hb hr hlocks rfl (by simp [kindF, h3, h9, h19, h25]) dX3_kind_33
        · have h25 : ¬ ((57 : Int32) < c_) := h25
          refine lv_iconst (v := 2) hx hb dX3_kind_28 rfl ?_
          refine lv_goto (tgt := 33) hx hb dX3_kind_29 rfl ?_
          exact r_i hQ hx hb hr hlocks rfl (by simp [kindF, h3, h9, h19, h25]) dX3_kind_33
    · have h9 : ¬ ((122 : Int32) < c_) := h9
      refine lv_iconst (v := 1) hx hb dX3_kind_12 rfl ?_
      refine lv_goto (tgt := 33) hx hb dX3_kind_13 rfl ?_
      exact r_i hQ hx hb hr hlocks rfl (by simp [kindF, h3, h9]) dX3_kind_33

def rmX3_fits : Room := { frames := 0, cells := 0, slots := 0, locals := 0 }
set_option maxHeartbeats 1000000 in
theorem mt_X3_fits (l : Launch) (bag : Int32) (al : Int32) (on : Int32) : Met l yX3_fits (ws_ yX3_fits cX3_fits 3 (some .boolean)) rmX3_fits (va_Pc [.int bag, .int al, .int on] (fun _ => True)) (vp_Si (fun r => r = b01 (fitsP bag al on))) 0 0 (fun _ => False) := by
  refine w_start (by decide) (Nat.le_of_ble_eq_true rfl) ?_
  intro p e s m args below meth c Q ls hQ hx hb hr hlocks hml hown hnm hts hB hl
  have hown : s.vm.findClass RX3 = some m.cls := hown
  have hl : lv_has ls 3 [(0, .int bag), (1, .int al), (2, .int on)] := hl
  refine lv_iload_n hx hb dX3_fits_0 rfl (lv_at hl 1 rfl) ?_
  refine lv_iload_n hx hb dX3_fits_1 rfl (lv_at hl 0 rfl) ?_
  refine lv_iconst (v := (-1)) hx hb dX3_fits_2 rfl ?_
  refine lv_ixor hx hb dX3_fits_3 ?_
  refine lv_iand hx hb dX3_fits_4 ?_
  refine lv_if_ne (tgt := 22) hx hb dX3_fits_5 rfl (fun h5 => ?_) (fun h5 => ?_)
  · have h5 : ¬ ((al &&& (bag ^^^ (-1))) = 0) := h5
    refine lv_iconst (v := 0) hx hb dX3_fits_22 rfl ?_
    exact r_z hQ hx hb hr hlocks rfl (Or.inl rfl) ((b01_f (by simp only [fitsP, eq_false h5, not_true_eq_false, not_false_eq_true, and_true, true_and, and_false, false_and, or_true, true_or, or_false, false_or, and_self, or_self, eq_self])).symm) dX3_fits_23
  · have h5 : (al &&& (bag ^^^ (-1))) = 0 := h5
    refine lv_iload_n hx hb dX3_fits_8 rfl (lv_at hl 2 rfl) ?_
    refine lv_if_eq (tgt := 18) hx hb dX3_fits_9 rfl (fun h9 => ?_) (fun h9 => ?_)
    · have h9 : on = 0 := h9
      refine lv_iconst (v := 1) hx hb dX3_fits_18 rfl ?_
      refine lv_goto (tgt := 23) hx hb dX3_fits_19 rfl ?_
      exact r_z hQ hx hb hr hlocks rfl (Or.inr rfl) ((b01_t (by simp only [fitsP, eq_true h5, eq_true h9, not_true_eq_false, not_false_eq_true, and_true, true_and, and_false, false_and, or_true, true_or, or_false, false_or, and_self, or_self, eq_self])).symm) dX3_fits_23
    · have h9 : ¬ (on = 0) := h9
      refine lv_iload_n hx hb dX3_fits_12 rfl (lv_at hl 2 rfl) ?_
      refine lv_iload_n hx hb dX3_fits_13 rfl (lv_at hl 0 rfl) ?_
      refine lv_iand hx hb dX3_fits_14 ?_
      refine lv_if_eq (tgt := 22) hx hb dX3_fits_15 rfl (fun h15 => ?_) (fun h15 => ?_)
      · have h15 : (on &&& bag) = 0 := h15
        refine lv_iconst (v := 0) hx hb dX3_fits_22 rfl ?_
        exact r_z hQ hx hb hr hlocks rfl (Or.inl rfl) ((b01_f (by simp only [fitsP, eq_true h5, eq_false h9, eq_true h15, not_true_eq_false, not_false_eq_true, and_true, true_and, and_false, false_and, or_true, true_or, or_false, false_or, and_self, or_self, eq_self])).symm) dX3_fits_23
      · have h15 : ¬ ((on &&& bag) = 0) := h15
        refine lv_iconst (v := 1) hx hb dX3_fits_18 rfl ?_
        refine lv_goto (tgt := 23) hx hb dX3_fits_19 rfl ?_
        exact r_z hQ hx hb hr hlocks rfl (Or.inr rfl) ((b01_t (by simp only [fitsP, eq_true h5, eq_false h9, eq_false h15, not_true_eq_false, not_false_eq_true, and_true, true_and, and_false, false_and, or_true, true_or, or_false, false_or, and_self, or_self, eq_self])).symm) dX3_fits_23

def wsum (w : Nat → Int32) (bag : Int32) : Nat → Int32
  | 0 => 0
  | k + 1 => wsum w bag k + (if hasP bag (nI k) then w k else 0)
abbrev mayP (σ : St) (bag : Int32) : Prop := ¬ σ.load < wsum σ.wt bag 8 ∧ ¬ σ.purse < wsum σ.pr bag 8

theorem cw_X3_X3_has {R : Room} {s : State} {args : Array Value} (hts : ∀ w ∈ lw_all, w.before args s = true) (hR : rmX3_has.frames + 1 ≤ R.frames ∧ 8 + (2 + 11) + rmX3_has.locals ≤ R.locals) : CallB R s args RX3 85 yX3_has cX3_has 2 (some .boolean) (ws_ yX3_has cX3_has 2 (some .boolean)) rmX3_has 0 0 2 ∧ (Cond.static yX3_has).before args s = true := va_cwS 2 hts (lw_S q1276 q1277 q83 q1278) rfl rfl rfl (by decide +kernel) hR
def rmX3_weight : Room := { frames := 1, cells := 0, slots := 0, locals := 21 }
set_option maxHeartbeats 1000000 in
theorem mt_X3_weight (l : Launch) (D : va_G) (dA : Nat → ClassId) (h : Nat) (ad : Nat → Nat) (σ : St) (τ : Sc) (bag : Int32) : Met l yX3_weight (ws_ yX3_weight cX3_weight 4 (some .int)) rmX3_weight (va_Pc [.ref h, .int bag] (mB D dA h ad σ τ)) (vp_Si (fun r => r = wsum σ.wt bag 8)) 0 0 (fun _ => False) := by
  refine w_start (by decide) (Nat.le_of_ble_eq_true rfl) ?_
  intro p e s m args below meth c Q ls hQ hx hb hr hlocks hml hown hnm hts hB hl
  have hown : s.vm.findClass RX3 = some m.cls := hown
  have hl : lv_has ls 4 [(0, .ref h), (1, .int bag)] := hl
  obtain ⟨hP, hK⟩ := hB
  refine lv_iconst (v := 0) hx hb dX3_weight_0 rfl ?_
  refine lv_istore_n (lv' := [(2, .int 0), (0, .ref h), (1, .int bag)]) hx hb dX3_weight_1 rfl hl (by decide) rfl (fun ls hl => ?_)
  refine lv_iconst (v := 0) hx hb dX3_weight_2 rfl ?_
  refine lv_istore_n (lv' := [(3, .int 0), (2, .int 0), (0, .ref h), (1, .int bag)]) hx hb dX3_weight_3 rfl hl (by decide) rfl (fun ls hl => ?_)
  have hL4_1 : ∀ (n_2 : Nat) (k : Nat) (x3 : Int32) (x2 : Int32) (ls : Array Slot), (8 - k) < n_2 → (k ≤ 8) → x3 = (nI k) → x2 = (wsum σ.wt bag k) → lv_has ls 4 [(3, .int x3), (2, .int x2), (0, .ref h), (1, .int bag)] → W p l e rmX3_weight s m args below meth c s.heap [] 0 0 Q (F0 m 4 ls []) := by
    intro n_2
    induction n_2 with
    | zero => intro k x3 x2 ls hm_4; exact absurd hm_4 (Nat.not_lt_zero _)
    | succ n_2 ih_3 =>
      intro k x3 x2 ls hm_4 hk ex3 ex2 hl
      subst ex3 ex2
      refine lv_iload_n hx hb dX3_weight_4 rfl (lv_at hl 0 rfl) ?_
      refine lv_bipush (v := 8) hx hb dX3_weight_5 rfl ?_
      refine lv_icmp_ge (tgt := 37) hx hb dX3_weight_7 rfl (fun h7 => ?_) (fun h7 => ?_)
      · have h7 : 8 ≤ k := (nz_le (a := 8) (b := k) rfl rfl (by omega) (by omega)).mp h7
        have hk8 : k = 8 := by omega
        subst hk8
        refine lv_iload_n hx hb dX3_weight_37 rfl (lv_at hl 1 rfl) ?_
        exact r_i hQ hx hb hr hlocks rfl (rfl) dX3_weight_38
      · have h7 : ¬ (8 ≤ k) := fun z9 => h7 ((nz_le (a := 8) (b := k) rfl rfl (by omega) (by omega)).mpr z9)
        refine lv_iload_n hx hb dX3_weight_10 rfl (lv_at hl 1 rfl) ?_
        refine lv_iload_n hx hb dX3_weight_11 rfl (lv_at hl 3 rfl) ?_
        refine lv_iload_n hx hb dX3_weight_12 rfl (lv_at hl 0 rfl) ?_
        refine cSi (As := [.int bag, .int (nI k)]) (rest := [.int (wsum σ.wt bag k)]) ⟨hx, hb, hml, hown, hts⟩ (mt_X3_has l bag (nI k)) (cw_X3_X3_has hts ⟨Nat.le_of_ble_eq_true rfl, Nat.le_of_ble_eq_true rfl⟩) w_blT (fun _ _ _ => trivial) rfl hl.1 rfl (Nat.le_of_ble_eq_true rfl) dX3_weight_13 ⟨Nat.le_of_ble_eq_true rfl, Nat.le_of_ble_eq_true rfl⟩ ?_
        have hJ29_5 : ∀ (v_6 : Int32) (ls : Array Slot), v_6 = (if hasP bag (nI k) then σ.wt k else 0) → lv_has ls 4 [(3, .int (nI k)), (2, .int (wsum σ.wt bag k)), (0, .ref h), (1, .int bag)] → W p l e rmX3_weight s m args below meth c s.heap [] 0 0 Q (F0 m 29 ls [.int v_6, .int (wsum σ.wt bag k)]) := by
          intro v_6 ls ev_6 hl
          refine lv_iadd hx hb dX3_weight_29 ?_
          refine lv_istore_n (lv' := [(2, .int ((wsum σ.wt bag k) + v_6)), (3, .int (nI k)), (0, .ref h), (1, .int bag)]) hx hb dX3_weight_30 rfl hl (by decide) rfl (fun ls hl => ?_)
          refine lv_iinc (v := nI (k + 1)) (lv' := [(3, .int (nI (k + 1))), (2, .int ((wsum σ.wt bag k) + v_6)), (0, .ref h), (1, .int bag)]) hx hb dX3_weight_31 hl (k := 1) rfl (nI_1 k) (by decide) rfl (fun ls hl => ?_)
          refine lv_goto (tgt := 4) hx hb dX3_weight_34 rfl ?_
          exact ih_3 (k + 1) (nI (k + 1)) ((wsum σ.wt bag k) + v_6) ls (by omega) (by omega) rfl (by subst_vars; rw [wsum]) (lv_sub hl [0, 1, 2, 3] rfl)
        refine lv_if_eq (tgt := 28) hx hb dX3_weight_16 rfl (fun h16 => ?_) (fun h16 => ?_)
        · have h16 : ¬ (hasP bag (nI k)) := b01_0.mp h16
          refine lv_iconst (v := 0) hx hb dX3_weight_28 rfl ?_
          exact hJ29_5 (0) ls (by rw [if_neg h16]) (lv_sub hl [0, 1, 2, 3] rfl)
        · have h16 : hasP bag (nI k) := b01_n h16
          refine lv_aload_n hx hb dX3_weight_19 rfl (lv_at hl 2 rfl) ?_
          refine va_get (D := D) (ci := 0) (v := .ref (ad 2)) (C := RX3) (T := TX3) (N := 31) hx hb hts in_X3 hown hK hP 0 rfl rfl 4 (by decide) (hts _ q1118) (fun _ h9 => h9) rfl dX3_weight_20 ?_
          refine lv_iload_n hx hb dX3_weight_23 rfl (lv_at hl 0 rfl) ?_
          refine wa_iald (f := σ.wt) hx hb hK hP 3 0 rfl rfl (k) (rfl) (by omega) (by decide) dX3_weight_24 ?_
          refine lv_goto (tgt := 29) hx hb dX3_weight_25 rfl ?_
          exact hJ29_5 (σ.wt k) ls (by rw [if_pos h16]) (lv_sub hl [0, 1, 2, 3] rfl)
  exact hL4_1 _ 0 0 0 ls (Nat.lt_succ_self _) (by omega) rfl (by subst_vars; rw [wsum]) (lv_sub hl [0, 1, 2, 3] rfl)

theorem cw_X3_X3_weight {R : Room} {s : State} {args : Array Value} (hts : ∀ w ∈ lw_all, w.before args s = true) (hR : rmX3_weight.frames + 1 ≤ R.frames ∧ 8 + (4 + 11) + rmX3_weight.locals ≤ R.locals) : CallW R s args RX3 RX3 156 yX3_weight cX3_weight 4 (some .int) (ws_ yX3_weight cX3_weight 4 (some .int)) rmX3_weight 0 0 1 := cwV 1 hts (lw_V q1328 q1330 qs48 q83 q1331) rfl rfl rfl (by decide +kernel) hR
def rmX3_mayBe : Room := { frames := 2, cells := 0, slots := 0, locals := 44 }
set_option maxHeartbeats 1000000 in
theorem mt_X3_mayBe (l : Launch) (D : va_G) (dA : Nat → ClassId) (h : Nat) (ad : Nat → Nat) (σ : St) (τ : Sc) (bag : Int32) : Met l yX3_mayBe (ws_ yX3_mayBe cX3_mayBe 4 (some .boolean)) rmX3_mayBe (va_Pc [.ref h, .int bag] (mB D dA h ad σ τ)) (vp_Si (fun r => r = b01 (mayP σ bag))) 0 0 (fun _ => False) := by
  refine w_start (by decide) (Nat.le_of_ble_eq_true rfl) ?_
  intro p e s m args below meth c Q ls hQ hx hb hr hlocks hml hown hnm hts hB hl
  have hown : s.vm.findClass RX3 = some m.cls := hown
  have hl : lv_has ls 4 [(0, .ref h), (1, .int bag)] := hl
  obtain ⟨hP, hK⟩ := hB
  refine lv_iconst (v := 0) hx hb dX3_mayBe_0 rfl ?_
  refine lv_istore_n (lv' := [(2, .int 0), (0, .ref h), (1, .int bag)]) hx hb dX3_mayBe_1 rfl hl (by decide) rfl (fun ls hl => ?_)
  refine lv_iconst (v := 0) hx hb dX3_mayBe_2 rfl ?_
  refine lv_istore_n (lv' := [(3, .int 0), (2, .int 0), (0, .ref h), (1, .int bag)]) hx hb dX3_mayBe_3 rfl hl (by decide) rfl (fun ls hl => ?_)
  have hL4_1 : ∀ (n_2 : Nat) (k : Nat) (x3 : Int32) (x2 : Int32) (ls : Array Slot), (8 - k) < n_2 → (k ≤ 8) → x3 = (nI k) → x2 = (wsum σ.pr bag k) → lv_has ls 4 [(3, .int x3), (2, .int x2), (0, .ref h), (1, .int bag)] → W p l e rmX3_mayBe s m args below meth c s.heap [] 0 0 Q (F0 m 4 ls []) := by
    intro n_2
    induction n_2 with
    | zero => intro k x3 x2 ls hm_4; exact absurd hm_4 (Nat.not_lt_zero _)
    | succ n_2 ih_3 =>
      intro k x3 x2 ls hm_4 hk ex3 ex2 hl
      subst ex3 ex2
      refine lv_iload_n hx hb dX3_mayBe_4 rfl (lv_at hl 0 rfl) ?_
      refine lv_bipush (v := 8) hx hb dX3_mayBe_5 rfl ?_
      refine lv_icmp_ge (tgt := 37) hx hb dX3_mayBe_7 rfl (fun h7 => ?_) (fun h7 => ?_)
      · have h7 : 8 ≤ k := (nz_le (a := 8) (b := k) rfl rfl (by omega) (by omega)).mp h7
        have hk8 : k = 8 := by omega
        subst hk8
        refine lv_aload_n hx hb dX3_mayBe_37 rfl (lv_at hl 2 rfl) ?_
        refine lv_iload_n hx hb dX3_mayBe_38 rfl (lv_at hl 3 rfl) ?_
        refine cVi (As := [.int bag]) (rest := []) ⟨hx, hb, hml, hown, hts⟩ (mt_X3_weight l D dA h ad σ τ bag) (cw_X3_X3_weight hts ⟨Nat.le_of_ble_eq_true rfl, Nat.le_of_ble_eq_true rfl⟩) mB_bl (mB_now hK hP) (va_recv hK hP (ci := 0) (q0 := 0) rfl rfl) rfl hl.1 rfl (Nat.le_of_ble_eq_true rfl) dX3_mayBe_39 ⟨Nat.le_of_ble_eq_true rfl, Nat.le_of_ble_eq_true rfl⟩ ?_
        refine lv_aload_n hx hb dX3_mayBe_42 rfl (lv_at hl 2 rfl) ?_
        refine va_get (D := D) (ci := 0) (v := .int σ.load) (C := RX3) (T := TX3) (N := 31) hx hb hts in_X3 hown hK hP 0 rfl rfl 7 (by decide) (hts _ q1121) (fun _ h9 => h9) rfl dX3_mayBe_43 ?_
        refine lv_icmp_gt (tgt := 61) hx hb dX3_mayBe_46 rfl (fun h46 => ?_) (fun h46 => ?_)
        · have h46 : σ.load < (wsum σ.wt bag 8) := h46
          refine lv_iconst (v := 0) hx hb dX3_mayBe_61 rfl ?_
          exact r_z hQ hx hb hr hlocks rfl (Or.inl rfl) ((b01_f (by simp only [mayP, eq_true h7, eq_true h46, not_true_eq_false, not_false_eq_true, and_true, true_and, and_false, false_and, or_true, true_or, or_false, false_or, and_self, or_self, eq_self])).symm) dX3_mayBe_62
        · have h46 : ¬ (σ.load < (wsum σ.wt bag 8)) := h46
          refine lv_iload_n hx hb dX3_mayBe_49 rfl (lv_at hl 1 rfl) ?_
          refine lv_aload_n hx hb dX3_mayBe_50 rfl (lv_at hl 2 rfl) ?_
          refine va_get (D := D) (ci := 0) (v := .int σ.purse) (C := RX3) (T := TX3) (N := 31) hx hb hts in_X3 hown hK hP 0 rfl rfl 8 (by decide) (hts _ q1122) (fun _ h9 => h9) rfl dX3_mayBe_51 ?_
          refine lv_icmp_gt (tgt := 61) hx hb dX3_mayBe_54 rfl (fun h54 => ?_) (fun h54 => ?_)
          · have h54 : σ.purse < (wsum σ.pr bag 8) := h54
            refine lv_iconst (v := 0) hx hb dX3_mayBe_61 rfl ?_
            exact r_z hQ hx hb hr hlocks rfl (Or.inl rfl) ((b01_f (by simp only [mayP, eq_true h7, eq_false h46, eq_true h54, not_true_eq_false, not_false_eq_true, and_true, true_and, and_false, false_and, or_true, true_or, or_false, false_or, and_self, or_self, eq_self])).symm) dX3_mayBe_62
          · have h54 : ¬ (σ.purse < (wsum σ.pr bag 8)) := h54
            refine lv_iconst (v := 1) hx hb dX3_mayBe_57 rfl ?_
            refine lv_goto (tgt := 62) hx hb dX3_mayBe_58 rfl ?_
            exact r_z hQ hx hb hr hlocks rfl (Or.inr rfl) ((b01_t (by simp only [mayP, eq_true h7, eq_false h46, eq_false h54, not_true_eq_false, not_false_eq_true, and_true, true_and, and_false, false_and, or_true, true_or, or_false, false_or, and_self, or_self, eq_self])).symm) dX3_mayBe_62
      · have h7 : ¬ (8 ≤ k) := fun z9 => h7 ((nz_le (a := 8) (b := k) rfl rfl (by omega) (by omega)).mpr z9)
        refine lv_iload_n hx hb dX3_mayBe_10 rfl (lv_at hl 1 rfl) ?_
        refine lv_iload_n hx hb dX3_mayBe_11 rfl (lv_at hl 3 rfl) ?_
        refine lv_iload_n hx hb dX3_mayBe_12 rfl (lv_at hl 0 rfl) ?_
        refine cSi (As := [.int bag, .int (nI k)]) (rest := [.int (wsum σ.pr bag k)]) ⟨hx, hb, hml, hown, hts⟩ (mt_X3_has l bag (nI k)) (cw_X3_X3_has hts ⟨Nat.le_of_ble_eq_true rfl, Nat.le_of_ble_eq_true rfl⟩) w_blT (fun _ _ _ => trivial) rfl hl.1 rfl (Nat.le_of_ble_eq_true rfl) dX3_mayBe_13 ⟨Nat.le_of_ble_eq_true rfl, Nat.le_of_ble_eq_true rfl⟩ ?_
        have hJ29_5 : ∀ (v_6 : Int32) (ls : Array Slot), v_6 = (if hasP bag (nI k) then σ.pr k else 0) → lv_has ls 4 [(3, .int (nI k)), (2, .int (wsum σ.pr bag k)), (0, .ref h), (1, .int bag)] → W p l e rmX3_mayBe s m args below meth c s.heap [] 0 0 Q (F0 m 29 ls [.int v_6, .int (wsum σ.pr bag k)]) := by
          intro v_6 ls ev_6 hl
          refine lv_iadd hx hb dX3_mayBe_29 ?_
          refine lv_istore_n (lv' := [(2, .int ((wsum σ.pr bag k) + v_6)), (3, .int (nI k)), (0, .ref h), (1, .int bag)]) hx hb dX3_mayBe_30 rfl hl (by decide) rfl (fun ls hl => ?_)
          refine lv_iinc (v := nI (k + 1)) (lv' := [(3, .int (nI (k + 1))), (2, .int ((wsum σ.pr bag k) + v_6)), (0, .ref h), (1, .int bag)]) hx hb dX3_mayBe_31 hl (k := 1) rfl (nI_1 k) (by decide) rfl (fun ls hl => ?_)
          refine lv_goto (tgt := 4) hx hb dX3_mayBe_34 rfl ?_
          exact ih_3 (k + 1) (nI (k + 1)) ((wsum σ.pr bag k) + v_6) ls (by omega) (by omega) rfl (by subst_vars; rw [wsum]) (lv_sub hl [0, 1, 2, 3] rfl)
        refine lv_if_eq (tgt := 28) hx hb dX3_mayBe_16 rfl (fun h16 => ?_) (fun h16 => ?_)
        · have h16 : ¬ (hasP bag (nI k)) := b01_0.mp h16
          refine lv_iconst (v := 0) hx hb dX3_mayBe_28 rfl ?_
          exact hJ29_5 (0) ls (by rw [if_neg h16]) (lv_sub hl [0, 1, 2, 3] rfl)
        · have h16 : hasP bag (nI k) := b01_n h16
          refine lv_aload_n hx hb dX3_mayBe_19 rfl (lv_at hl 2 rfl) ?_
          refine va_get (D := D) (ci := 0) (v := .ref (ad 3)) (C := RX3) (T := TX3) (N := 31) hx hb hts in_X3 hown hK hP 0 rfl rfl 5 (by decide) (hts _ q1119) (fun _ h9 => h9) rfl dX3_mayBe_20 ?_
          refine lv_iload_n hx hb dX3_mayBe_23 rfl (lv_at hl 0 rfl) ?_
          refine wa_iald (f := σ.pr) hx hb hK hP 4 0 rfl rfl (k) (rfl) (by omega) (by decide) dX3_mayBe_24 ?_
          refine lv_goto (tgt := 29) hx hb dX3_mayBe_25 rfl ?_
          exact hJ29_5 (σ.pr k) ls (by rw [if_pos h16]) (lv_sub hl [0, 1, 2, 3] rfl)
  exact hL4_1 _ 0 0 0 ls (Nat.lt_succ_self _) (by omega) rfl (by subst_vars; rw [wsum]) (lv_sub hl [0, 1, 2, 3] rfl)
