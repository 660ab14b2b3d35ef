/-! THE COMPONENT's METHODS 2: things, bags, calls, refusals -/
set_option maxRecDepth 100000
theorem cw_X0_X6_isUsed {R : Room} {s : State} {args : Array Value} (hts : ∀ w ∈ lw_all, w.before args s = true) (hR : rmX6_isUsed.frames + 1 ≤ R.frames ∧ 8 + (1 + 11) + rmX6_isUsed.locals ≤ R.locals) : va_CU R s args RX0 RX6 "CarryUp$Thing" 13 yX2_isUsed yX6_isUsed cX6_isUsed 1 (some .boolean) (ws_ yX6_isUsed cX6_isUsed 1 (some .boolean)) rmX6_isUsed 0 0 0 := va_cwO 0 hts (lw_app (lwm6 q815 q818 q816 q819 q820 q103) (lw_meth q821)) rfl rfl rfl q823 (by decide +kernel) hR

def rmX0_in : Room := { frames := 0, cells := 0, slots := 0, locals := 0 }
set_option maxHeartbeats 1000000 in
theorem mt_X0_in (l : Launch) (v : Int64) (lo : Int64) (hi : Int64) : Met l yX0_in (ws_ yX0_in cX0_in 6 (some .boolean)) rmX0_in (va_Pc [.long v, .long lo, .long hi] (fun _ => True)) (vp_Si (fun r => r = b01 (inP v lo hi))) 0 0 (fun _ => False) := by
  refine w_start (by decide) (Nat.le_of_ble_eq_true rfl) ?_
  intro p e s m args below meth c Q ls hQ hx hb hr hlocks hml hown hnm hts hB hl
  have hown : s.vm.findClass RX0 = some m.cls := hown
  have hl : lv_has ls 6 [(0, .long v), (2, .long lo), (4, .long hi)] := hl
  refine lv_lload_n hx hb dX0_in_0 rfl (lv_at hl 0 rfl) ?_
  refine lv_lload_n hx hb dX0_in_1 rfl (lv_at hl 1 rfl) ?_
  refine W.lcmp hx hb dX0_in_2 ?_
  refine lv_if_lt (tgt := 17) hx hb dX0_in_3 rfl (fun h3 => ?_) (fun h3 => ?_)
  · have h3 : v < lo := (lg_cmp_lt v lo).mp h3
    refine lv_iconst (v := 0) hx hb dX0_in_17 rfl ?_
    exact r_z hQ hx hb hr hlocks rfl (Or.inl rfl) ((b01_f (by simp only [inP, eq_true h3, not_true_eq_false, not_false_eq_true, and_true, true_and, and_false, false_and, or_true, true_or, or_false, false_or, and_self, or_self, eq_self])).symm) dX0_in_18
  · have h3 : ¬ (v < lo) := fun z9 => h3 ((lg_cmp_lt v lo).mpr z9)
    refine lv_lload_n hx hb dX0_in_6 rfl (lv_at hl 0 rfl) ?_
    refine lv_lload hx hb dX0_in_7 (lv_at hl 2 rfl) ?_
    refine W.lcmp hx hb dX0_in_9 ?_
    refine lv_if_gt (tgt := 17) hx hb dX0_in_10 rfl (fun h10 => ?_) (fun h10 => ?_)
    · have h10 : hi < v := (lg_cmp_gt v hi).mp h10
      refine lv_iconst (v := 0) hx hb dX0_in_17 rfl ?_
      exact r_z hQ hx hb hr hlocks rfl (Or.inl rfl) ((b01_f (by simp only [inP, eq_false h3, eq_true h10, not_true_eq_false, not_false_eq_true, and_true, true_and, and_false, false_and, or_true, true_or, or_false, false_or, and_self, or_self, eq_self])).symm) dX0_in_18
    · have h10 : ¬ (hi < v) := fun z9 => h10 ((lg_cmp_gt v hi).mpr z9)
      refine lv_iconst (v := 1) hx hb dX0_in_13 rfl ?_
      refine lv_goto (tgt := 18) hx hb dX0_in_14 rfl ?_
      exact r_z hQ hx hb hr hlocks rfl (Or.inr rfl) ((b01_t (by simp only [inP, eq_false h3, eq_false h10, not_true_eq_false, not_false_eq_true, and_true, true_and, and_false, false_and, or_true, true_or, or_false, false_or, and_self, or_self, eq_self])).symm) dX0_in_18

theorem cw_X0_X0_in {R : Room} {s : State} {args : Array Value} (hts : ∀ w ∈ lw_all, w.before args s = true) (hR : rmX0_in.frames + 1 ≤ R.frames ∧ 8 + (6 + 11) + rmX0_in.locals ≤ R.locals) : CallB R s args RX0 36 yX0_in cX0_in 6 (some .boolean) (ws_ yX0_in cX0_in 6 (some .boolean)) rmX0_in 0 0 3 ∧ (Cond.static yX0_in).before args s = true := va_cwS 3 hts (lw_S q254 q255 q77 q256) rfl rfl rfl (by decide +kernel) hR
def rmX0_isThing : Room := { frames := 1, cells := 0, slots := 0, locals := 25 }
set_option maxHeartbeats 1000000 in
theorem mt_X0_isThing (l : Launch) (t : Int32) : Met l yX0_isThing (ws_ yX0_isThing cX0_isThing 1 (some .boolean)) rmX0_isThing (va_Pc [.int t] (fun _ => True)) (vp_Si (fun r => r = b01 (thingP t))) 0 0 (fun _ => False) := by
  refine w_start (by decide) (Nat.le_of_ble_eq_true rfl) ?_
  intro p e s m args below meth c Q ls hQ hx hb hr hlocks hml hown hnm hts hB hl
  have hown : s.vm.findClass RX0 = some m.cls := hown
  have hl : lv_has ls 1 [(0, .int t)] := hl
  refine lv_iload_n hx hb dX0_isThing_0 rfl (lv_at hl 0 rfl) ?_
  refine lv_i2l (v := (t : Int32).toInt64) hx hb dX0_isThing_1 rfl ?_
  refine lv_lconst (v := 0) hx hb dX0_isThing_2 rfl ?_
  refine lv_ldc2 (v := 7) hx hb hown (hts _ q810) dX0_isThing_3 ?_
  refine cSi (As := [.long ((t : Int32).toInt64), .long 0, .long 7]) (rest := []) ⟨hx, hb, hml, hown, hts⟩ (mt_X0_in l ((t : Int32).toInt64) 0 7) (cw_X0_X0_in hts ⟨Nat.le_of_ble_eq_true rfl, Nat.le_of_ble_eq_true rfl⟩) w_blT (fun _ _ _ => trivial) rfl hl.1 rfl (Nat.le_of_ble_eq_true rfl) dX0_isThing_6 ⟨Nat.le_of_ble_eq_true rfl, Nat.le_of_ble_eq_true rfl⟩ ?_
  exact r_z hQ hx hb hr hlocks rfl (b01_or) (rfl) dX0_isThing_9

def rmX0_isBag : Room := { frames := 1, cells := 0, slots := 0, locals := 25 }
set_option maxHeartbeats 1000000 in
theorem mt_X0_isBag (l : Launch) (t : Int32) : Met l yX0_isBag (ws_ yX0_isBag cX0_isBag 1 (some .boolean)) rmX0_isBag (va_Pc [.int t] (fun _ => True)) (vp_Si (fun r => r = b01 (bagP t))) 0 0 (fun _ => False) := by
  refine w_start (by decide) (Nat.le_of_ble_eq_true rfl) ?_
  intro p e s m args below meth c Q ls hQ hx hb hr hlocks hml hown hnm hts hB hl
  have hown : s.vm.findClass RX0 = some m.cls := hown
  have hl : lv_has ls 1 [(0, .int t)] := hl
  refine lv_iload_n hx hb dX0_isBag_0 rfl (lv_at hl 0 rfl) ?_
  refine lv_i2l (v := (t : Int32).toInt64) hx hb dX0_isBag_1 rfl ?_
  refine lv_lconst (v := 0) hx hb dX0_isBag_2 rfl ?_
  refine lv_ldc2 (v := 255) hx hb hown (hts _ q869) dX0_isBag_3 ?_
  refine cSi (As := [.long ((t : Int32).toInt64), .long 0, .long 255]) (rest := []) ⟨hx, hb, hml, hown, hts⟩ (mt_X0_in l ((t : Int32).toInt64) 0 255) (cw_X0_X0_in hts ⟨Nat.le_of_ble_eq_true rfl, Nat.le_of_ble_eq_true rfl⟩) w_blT (fun _ _ _ => trivial) rfl hl.1 rfl (Nat.le_of_ble_eq_true rfl) dX0_isBag_6 ⟨Nat.le_of_ble_eq_true rfl, Nat.le_of_ble_eq_true rfl⟩ ?_
  exact r_z hQ hx hb hr hlocks rfl (b01_or) (rfl) dX0_isBag_9

def rmX0_refused : Room := { frames := 0, cells := 0, slots := 0, locals := 0 }
set_option maxHeartbeats 1000000 in
theorem mt_X0_refused (l : Launch) (why : Int32) : Met l yX0_refused (ws_ yX0_refused cX0_refused 1 (some .long)) rmX0_refused (va_Pc [.int why] (fun _ => True)) (vp_Sl (fun r => r = (-9000000000000000000) - why.toInt64)) 0 0 (fun _ => False) := by
  refine w_start (by decide) (Nat.le_of_ble_eq_true rfl) ?_
  intro p e s m args below meth c Q ls hQ hx hb hr hlocks hml hown hnm hts hB hl
  have hown : s.vm.findClass RX0 = some m.cls := hown
  have hl : lv_has ls 1 [(0, .int why)] := hl
  refine lv_ldc2 (v := (-9000000000000000000)) hx hb hown (hts _ q926) dX0_refused_0 ?_
  refine lv_iload_n hx hb dX0_refused_3 rfl (lv_at hl 0 rfl) ?_
  refine lv_i2l (v := (why : Int32).toInt64) hx hb dX0_refused_4 rfl ?_
  refine lv_lsub hx hb dX0_refused_5 ?_
  exact r_l hQ hx hb hr hlocks rfl (rfl) dX0_refused_6

def rmX0_part : Room := { frames := 1, cells := 0, slots := 0, locals := 31 }
set_option maxHeartbeats 1000000 in
theorem mt_X0_part (l : Launch) (up : Int64) (dn : Int64) (w : Int32) (hd : ¬ dn = 0) : Met l yX0_part (ws_ yX0_part cX0_part 11 (some .long)) rmX0_part (va_Pc [.long up, .long dn, .int w] (fun _ => True)) (vp_Sl (fun r => r = lowF up dn w)) 0 0 (fun _ => False) := by
  refine w_start (by decide) (Nat.le_of_ble_eq_true rfl) ?_
  intro p e s m args below meth c Q ls hQ hx hb hr hlocks hml hown hnm hts hB hl
  have hown : s.vm.findClass RX0 = some m.cls := hown
  have hl : lv_has ls 11 [(0, .long up), (2, .long dn), (4, .int w)] := hl
  refine lv_lload_n hx hb dX0_part_0 rfl (lv_at hl 0 rfl) ?_
  refine va_mabs_long hx hb (hml.trans hl.1.symm) hown (hts _ q908) (hts _ q909) (hts _ q90) (hts _ q910) (Nat.le_of_ble_eq_true rfl) (Nat.le_of_ble_eq_true rfl) (Nat.le_of_ble_eq_true rfl) (Nat.le_of_ble_eq_true rfl) dX0_part_1 ?_
  refine w_topl (y := absW up) (abs_eq up) ?_
  refine lv_lstore (lv' := [(5, .long (absW up)), (0, .long up), (2, .long dn), (4, .int w)]) hx hb dX0_part_4 hl (by decide) rfl (fun ls hl => ?_)
  refine lv_lload_n hx hb dX0_part_6 rfl (lv_at hl 2 rfl) ?_
  refine lv_lstore (lv' := [(7, .long dn), (5, .long (absW up)), (0, .long up), (2, .long dn), (4, .int w)]) hx hb dX0_part_7 hl (by decide) rfl (fun ls hl => ?_)
  have hL9_1 : ∀ (n_2 : Nat) (x : Int64) (y : Int64) (ls : Array Slot), y.toInt.natAbs < n_2 → (gcdW x y = gcdW (absW up) dn) → lv_has ls 11 [(7, .long y), (5, .long x), (0, .long up), (2, .long dn), (4, .int w)] → W p l e rmX0_part s m args below meth c s.heap [] 0 0 Q (F0 m 9 ls []) := by
    intro n_2
    induction n_2 with
    | zero => intro x y ls hm_4; exact absurd hm_4 (Nat.not_lt_zero _)
    | succ n_2 ih_3 =>
      intro x y ls hm_4 hg  hl
      refine lv_lload hx hb dX0_part_9 (lv_at hl 0 rfl) ?_
      refine lv_lconst (v := 0) hx hb dX0_part_11 rfl ?_
      refine W.lcmp hx hb dX0_part_12 ?_
      refine lv_if_eq (tgt := 34) hx hb dX0_part_13 rfl (fun h13 => ?_) (fun h13 => ?_)
      · have h13 : y = 0 := (lg_cmp_eq y 0).mp h13
        rw [h13, gcdW_0] at hg
        subst hg
        refine lv_iload hx hb dX0_part_34 (lv_at hl 4 rfl) ?_
        refine lv_if_ne (tgt := 43) hx hb dX0_part_36 rfl (fun h36 => ?_) (fun h36 => ?_)
        · have h36 : ¬ (w = 0) := h36
          refine lv_lload_n hx hb dX0_part_43 rfl (lv_at hl 3 rfl) ?_
          refine lv_lload hx hb dX0_part_44 (lv_at hl 1 rfl) ?_
          refine lv_ldiv hx hb dX0_part_46 (low_ne up hd) ?_
          exact r_l hQ hx hb hr hlocks rfl (by simp only [lowF, eq_true h13, eq_false h36, if_true, if_false, ite_true, ite_false, not_true_eq_false, not_false_eq_true, and_true, true_and, and_false, false_and, or_true, true_or, or_false, false_or, and_self, or_self, eq_self]) dX0_part_47
        · have h36 : w = 0 := h36
          refine lv_lload_n hx hb dX0_part_39 rfl (lv_at hl 2 rfl) ?_
          refine lv_goto (tgt := 44) hx hb dX0_part_40 rfl ?_
          refine lv_lload hx hb dX0_part_44 (lv_at hl 1 rfl) ?_
          refine lv_ldiv hx hb dX0_part_46 (low_ne up hd) ?_
          exact r_l hQ hx hb hr hlocks rfl (by simp only [lowF, eq_true h13, eq_true h36, if_true, if_false, ite_true, ite_false, not_true_eq_false, not_false_eq_true, and_true, true_and, and_false, false_and, or_true, true_or, or_false, false_or, and_self, or_self, eq_self]) dX0_part_47
      · have h13 : ¬ (y = 0) := fun z9 => h13 ((lg_cmp_eq y 0).mpr z9)
        refine lv_lload hx hb dX0_part_16 (lv_at hl 1 rfl) ?_
        refine lv_lload hx hb dX0_part_18 (lv_at hl 0 rfl) ?_
        refine lv_lrem hx hb dX0_part_20 (h13) ?_
        refine lv_lstore (lv' := [(9, .long (x - x / y * y)), (7, .long y), (5, .long x), (0, .long up), (2, .long dn), (4, .int w)]) hx hb dX0_part_21 hl (by decide) rfl (fun ls hl => ?_)
        refine lv_lload hx hb dX0_part_23 (lv_at hl 1 rfl) ?_
        refine lv_lstore (lv' := [(5, .long y), (9, .long (x - x / y * y)), (7, .long y), (0, .long up), (2, .long dn), (4, .int w)]) hx hb dX0_part_25 hl (by decide) rfl (fun ls hl => ?_)
        refine lv_lload hx hb dX0_part_27 (lv_at hl 1 rfl) ?_
        refine lv_lstore (lv' := [(7, .long (x - x / y * y)), (5, .long y), (9, .long (x - x / y * y)), (0, .long up), (2, .long dn), (4, .int w)]) hx hb dX0_part_29 hl (by decide) rfl (fun ls hl => ?_)
        refine lv_goto (tgt := 9) hx hb dX0_part_31 rfl ?_
        exact ih_3 y (x - x / y * y) ls (by have := rem_lt x y h13; omega) (by rw [← gcdW_s h13]; exact hg)  (lv_sub hl [0, 1, 3, 4, 5] rfl)
  exact hL9_1 _ (absW up) dn ls (Nat.lt_succ_self _) (by subst_vars; rfl)  (lv_sub hl [0, 1, 2, 3, 4] rfl)

def rmX0_thingAt : Room := { frames := 0, cells := 0, slots := 0, locals := 0 }
set_option maxHeartbeats 1000000 in
theorem mt_X0_thingAt (l : Launch) (D : va_G) (dA : Nat → ClassId) (x : Nat) (ad : Nat → Nat) (μ : Lay) (σ : St) (ω : Om) (t : Nat) (hI : Inv σ) (hR : Rel dA μ σ) (ht : t < 8) : Met l yX0_thingAt (ws_ yX0_thingAt cX0_thingAt 2 (some (.object "CarryUp$Thing"))) rmX0_thingAt (va_Pc [.ref x, .int (nI t)] (cB D dA x ad μ σ ω)) (roQ (.ref (μ.tA t))) 0 0 (fun _ => False) := by
  refine w_start (by decide) (Nat.le_of_ble_eq_true rfl) ?_
  intro p e s m args below meth c Q ls hQ hx hb hr hlocks hml hown hnm hts hB hl
  have hown : s.vm.findClass RX0 = some m.cls := hown
  have hl : lv_has ls 2 [(0, .ref x), (1, .int (nI t))] := hl
  obtain ⟨hP, hK, hN⟩ := hB
  refine lv_aload_n hx hb dX0_thingAt_0 rfl (lv_at hl 0 rfl) ?_
  refine va_get (D := D) (ci := 1) (v := .ref (ad 0)) (C := RX0) (T := TX0) (N := 11) hx hb hts in_X0 hown hK hP 0 rfl rfl 0 (by decide) (hts _ q210) (fun _ h9 => h9) rfl dX0_thingAt_1 ?_
  refine lv_iload_n hx hb dX0_thingAt_4 rfl (lv_at hl 1 rfl) ?_
  refine wa_aald (v := .ref (μ.tA t)) hx hb hK hP 1 3 rfl rfl rfl (t) (rfl) (by omega) (by decide) (rfl) dX0_thingAt_5 ?_
  refine wt_cast hx hb hown hK hP hR hN (by omega) (hts _ q195) dX0_thingAt_6 ?_
  exact q_a hQ hx hb hr (Or.inl ⟨_, rfl⟩) hlocks rfl (rfl) dX0_thingAt_9

theorem cw_X0_X0_thingAt {R : Room} {s : State} {args : Array Value} (hts : ∀ w ∈ lw_all, w.before args s = true) (hR : rmX0_thingAt.frames + 1 ≤ R.frames ∧ 8 + (2 + 11) + rmX0_thingAt.locals ≤ R.locals) : CallW R s args RX0 RX0 9 yX0_thingAt cX0_thingAt 2 (some (.object "CarryUp$Thing")) (ws_ yX0_thingAt cX0_thingAt 2 (some (.object "CarryUp$Thing"))) rmX0_thingAt 0 0 1 := cwV 1 hts (lw_V q811 q813 qs16 q77 q814) rfl rfl rfl (by decide +kernel) hR
theorem cw_X0_X2_isUsed {R : Room} {s : State} {args : Array Value} (hts : ∀ w ∈ lw_all, w.before args s = true) (hR : rmX2_isUsed.frames + 1 ≤ R.frames ∧ 8 + (1 + 11) + rmX2_isUsed.locals ≤ R.locals) : CallW R s args RX0 RX2 13 yX2_isUsed cX2_isUsed 1 (some .boolean) (ws_ yX2_isUsed cX2_isUsed 1 (some .boolean)) rmX2_isUsed 0 0 0 := cwV 0 hts (lw_V q815 q816 q817 q82 q823) rfl rfl rfl (by decide +kernel) hR
def rmX0_parts : Room := { frames := 2, cells := 0, slots := 0, locals := 40 }
set_option maxHeartbeats 1000000 in
theorem mt_X0_parts (l : Launch) (D : va_G) (dA : Nat → ClassId) (x : Nat) (ad : Nat → Nat) (μ : Lay) (σ : St) (ω : Om) (hI : Inv σ) (hR : Rel dA μ σ) : Met l yX0_parts (ws_ yX0_parts cX0_parts 3 (some .int)) rmX0_parts (va_Pc [.ref x] (cB D dA x ad μ σ ω)) (roQ (.int (ptF σ.tools 8))) 0 0 (fun _ => False) := by
  refine w_start (by decide) (Nat.le_of_ble_eq_true rfl) ?_
  intro p e s m args below meth c Q ls hQ hx hb hr hlocks hml hown hnm hts hB hl
  have hown : s.vm.findClass RX0 = some m.cls := hown
  have hl : lv_has ls 3 [(0, .ref x)] := hl
  obtain ⟨hP, hK, hN⟩ := hB
  refine lv_iconst (v := 0) hx hb dX0_parts_0 rfl ?_
  refine lv_istore_n (lv' := [(1, .int 0), (0, .ref x)]) hx hb dX0_parts_1 rfl hl (by decide) rfl (fun ls hl => ?_)
  refine lv_iconst (v := 0) hx hb dX0_parts_2 rfl ?_
  refine lv_istore_n (lv' := [(2, .int 0), (1, .int 0), (0, .ref x)]) hx hb dX0_parts_3 rfl hl (by decide) rfl (fun ls hl => ?_)
  have hL4_1 : ∀ (n_2 : Nat) (k : Nat) (x2 : Int32) (x1 : Int32) (ls : Array Slot), (8 - k) < n_2 → (k ≤ 8) → x2 = (nI k) → x1 = (ptF σ.tools k) → lv_has ls 3 [(2, .int x2), (1, .int x1), (0, .ref x)] → W p l e rmX0_parts s m args below meth c s.heap [] 0 0 Q (F0 m 4 ls []) := by
    intro n_2
    induction n_2 with
    | zero => intro k x2 x1 ls hm_4; exact absurd hm_4 (Nat.not_lt_zero _)
    | succ n_2 ih_3 =>
      intro k x2 x1 ls hm_4 hk ex2 ex1 hl
      subst ex2 ex1
      refine lv_iload_n hx hb dX0_parts_4 rfl (lv_at hl 0 rfl) ?_
      refine lv_bipush (v := 8) hx hb dX0_parts_5 rfl ?_
      refine lv_icmp_ge (tgt := 37) hx hb dX0_parts_7 rfl (fun h7 => ?_) (fun h7 => ?_)
      · have h7 : 8 ≤ k := (nz_le (a := 8) (b := k) rfl rfl (by omega) (by omega)).mp h7
        have hk8 : k = 8 := by omega
        subst hk8
        refine lv_iload_n hx hb dX0_parts_37 rfl (lv_at hl 1 rfl) ?_
        exact q_i hQ hx hb hr hlocks rfl (rfl) dX0_parts_38
      · have h7 : ¬ (8 ≤ k) := fun z9 => h7 ((nz_le (a := 8) (b := k) rfl rfl (by omega) (by omega)).mpr z9)
        refine lv_iload_n hx hb dX0_parts_10 rfl (lv_at hl 1 rfl) ?_
        refine lv_aload_n hx hb dX0_parts_11 rfl (lv_at hl 2 rfl) ?_
        refine lv_iload_n hx hb dX0_parts_12 rfl (lv_at hl 0 rfl) ?_
        refine dV (v := .ref (μ.tA k)) (As := [.int (nI k)]) (rest := [.int (ptF σ.tools k)]) ⟨hx, hb, hml, hown, hts⟩ (mt_X0_thingAt l D dA x ad μ σ ω k hI hR (by omega)) (cw_X0_X0_thingAt hts ⟨Nat.le_of_ble_eq_true rfl, Nat.le_of_ble_eq_true rfl⟩) cB_bw (cB_now hK hN hP) (va_recv hK hP (ci := 1) (q0 := 0) rfl rfl) rfl hl.1 rfl (Nat.le_of_ble_eq_true rfl) dX0_parts_13 ⟨Nat.le_of_ble_eq_true rfl, Nat.le_of_ble_eq_true rfl⟩ ?_
        refine wt_used (t := k) (rest := [.int (ptF σ.tools k)]) ⟨hx, hb, hml, hown, hts⟩ hK hP hR (by omega) (cw_X0_X2_isUsed hts ⟨Nat.le_of_ble_eq_true rfl, Nat.le_of_ble_eq_true rfl⟩) (cw_X0_X6_isUsed hts ⟨Nat.le_of_ble_eq_true rfl, Nat.le_of_ble_eq_true rfl⟩) hl.1 rfl (Nat.le_of_ble_eq_true rfl) dX0_parts_16 ⟨Nat.le_of_ble_eq_true rfl, Nat.le_of_ble_eq_true rfl⟩ ?_
        have hJ29_5 : ∀ (v_6 : Int32) (ls : Array Slot), v_6 = (if ¬ hasP σ.tools (nI k) then (1 : Int32) <<< ((nI k) &&& 31) else 0) → lv_has ls 3 [(2, .int (nI k)), (1, .int (ptF σ.tools k)), (0, .ref x)] → W p l e rmX0_parts s m args below meth c s.heap [] 0 0 Q (F0 m 29 ls [.int v_6, .int (ptF σ.tools k)]) := by
          intro v_6 ls ev_6 hl
          refine lv_ior hx hb dX0_parts_29 ?_
          refine lv_istore_n (lv' := [(1, .int ((ptF σ.tools k) ||| v_6)), (2, .int (nI k)), (0, .ref x)]) hx hb dX0_parts_30 rfl hl (by decide) rfl (fun ls hl => ?_)
          refine lv_iinc (v := nI (k + 1)) (lv' := [(2, .int (nI (k + 1))), (1, .int ((ptF σ.tools k) ||| v_6)), (0, .ref x)]) hx hb dX0_parts_31 hl (k := 1) rfl (nI_1 k) (by decide) rfl (fun ls hl => ?_)
          refine lv_goto (tgt := 4) hx hb dX0_parts_34 rfl ?_
          exact ih_3 (k + 1) (nI (k + 1)) ((ptF σ.tools k) ||| v_6) ls (by omega) (by omega) rfl (by subst_vars; rw [ptF]) (lv_sub hl [0, 1, 2] rfl)
        refine lv_if_eq (tgt := 28) hx hb dX0_parts_19 rfl (fun h19 => ?_) (fun h19 => ?_)
        · have h19 : ¬ (¬ hasP σ.tools (nI k)) := b01_0.mp h19
          refine lv_iconst (v := 0) hx hb dX0_parts_28 rfl ?_
          exact hJ29_5 (0) ls (by rw [if_neg h19]) (lv_sub hl [0, 1, 2] rfl)
        · have h19 : ¬ hasP σ.tools (nI k) := b01_n h19
          refine lv_iconst (v := 1) hx hb dX0_parts_22 rfl ?_
          refine lv_iload_n hx hb dX0_parts_23 rfl (lv_at hl 0 rfl) ?_
          refine lv_ishl hx hb dX0_parts_24 ?_
          refine lv_goto (tgt := 29) hx hb dX0_parts_25 rfl ?_
          exact hJ29_5 ((1 : Int32) <<< ((nI k) &&& 31)) ls (by rw [if_pos h19]) (lv_sub hl [0, 1, 2] rfl)
  exact hL4_1 _ 0 0 0 ls (Nat.lt_succ_self _) (by omega) rfl (by subst_vars; rw [ptF]) (lv_sub hl [0, 1, 2] rfl)

def rmX0_weightOf : Room := { frames := 1, cells := 0, slots := 0, locals := 21 }
set_option maxHeartbeats 1000000 in
theorem mt_X0_weightOf (l : Launch) (D : va_G) (dA : Nat → ClassId) (x : Nat) (ad : Nat → Nat) (μ : Lay) (σ : St) (ω : Om) (bag : Int32) (hI : Inv σ) (hR : Rel dA μ σ) : Met l yX0_weightOf (ws_ yX0_weightOf cX0_weightOf 4 (some .int)) rmX0_weightOf (va_Pc [.ref x, .int bag] (cB D dA x ad μ σ ω)) (roQ (.int (wsum σ.wt bag 8))) 0 0 (fun _ => False) := by
  refine w_start (by decide) (Nat.le_of_ble_eq_true rfl) ?_
  intro p e s m args below meth c Q ls hQ hx hb hr hlocks hml hown hnm hts hB hl
  have hown : s.vm.findClass RX0 = some m.cls := hown
  have hl : lv_has ls 4 [(0, .ref x), (1, .int bag)] := hl
  obtain ⟨hP, hK, hN⟩ := hB
  refine lv_iconst (v := 0) hx hb dX0_weightOf_0 rfl ?_
  refine lv_istore_n (lv' := [(2, .int 0), (0, .ref x), (1, .int bag)]) hx hb dX0_weightOf_1 rfl hl (by decide) rfl (fun ls hl => ?_)
  refine lv_iconst (v := 0) hx hb dX0_weightOf_2 rfl ?_
  refine lv_istore_n (lv' := [(3, .int 0), (2, .int 0), (0, .ref x), (1, .int bag)]) hx hb dX0_weightOf_3 rfl hl (by decide) rfl (fun ls hl => ?_)
  have hL4_1 : ∀ (n_2 : Nat) (k : Nat) (x3 : Int32) (x2 : Int32) (ls : Array Slot), (8 - k) < n_2 → (k ≤ 8) → x3 = (nI k) → x2 = (wsum σ.wt bag k) → lv_has ls 4 [(3, .int x3), (2, .int x2), (0, .ref x), (1, .int bag)] → W p l e rmX0_weightOf s m args below meth c s.heap [] 0 0 Q (F0 m 4 ls []) := by
    intro n_2
    induction n_2 with
    | zero => intro k x3 x2 ls hm_4; exact absurd hm_4 (Nat.not_lt_zero _)
    | succ n_2 ih_3 =>
      intro k x3 x2 ls hm_4 hk ex3 ex2 hl
      subst ex3 ex2
      refine lv_iload_n hx hb dX0_weightOf_4 rfl (lv_at hl 0 rfl) ?_
      refine lv_bipush (v := 8) hx hb dX0_weightOf_5 rfl ?_
      refine lv_icmp_ge (tgt := 40) hx hb dX0_weightOf_7 rfl (fun h7 => ?_) (fun h7 => ?_)
      · have h7 : 8 ≤ k := (nz_le (a := 8) (b := k) rfl rfl (by omega) (by omega)).mp h7
        have hk8 : k = 8 := by omega
        subst hk8
        refine lv_iload_n hx hb dX0_weightOf_40 rfl (lv_at hl 1 rfl) ?_
        exact q_i hQ hx hb hr hlocks rfl (rfl) dX0_weightOf_41
      · have h7 : ¬ (8 ≤ k) := fun z9 => h7 ((nz_le (a := 8) (b := k) rfl rfl (by omega) (by omega)).mpr z9)
        refine lv_iload_n hx hb dX0_weightOf_10 rfl (lv_at hl 1 rfl) ?_
        refine lv_iload_n hx hb dX0_weightOf_11 rfl (lv_at hl 3 rfl) ?_
        refine lv_iload_n hx hb dX0_weightOf_12 rfl (lv_at hl 0 rfl) ?_
        refine lv_ishr hx hb dX0_weightOf_13 ?_
        refine lv_iconst (v := 1) hx hb dX0_weightOf_14 rfl ?_
        refine lv_iand hx hb dX0_weightOf_15 ?_
        refine lv_iconst (v := 1) hx hb dX0_weightOf_16 rfl ?_
        have hJ32_5 : ∀ (v_6 : Int32) (ls : Array Slot), v_6 = (if ((bag >>> ((nI k) &&& 31)) &&& 1) = 1 then σ.wt k else 0) → lv_has ls 4 [(3, .int (nI k)), (2, .int (wsum σ.wt bag k)), (0, .ref x), (1, .int bag)] → W p l e rmX0_weightOf s m args below meth c s.heap [] 0 0 Q (F0 m 32 ls [.int v_6, .int (wsum σ.wt bag k)]) := by
          intro v_6 ls ev_6 hl
          refine lv_iadd hx hb dX0_weightOf_32 ?_
          refine lv_istore_n (lv' := [(2, .int ((wsum σ.wt bag k) + v_6)), (3, .int (nI k)), (0, .ref x), (1, .int bag)]) hx hb dX0_weightOf_33 rfl hl (by decide) rfl (fun ls hl => ?_)
          refine lv_iinc (v := nI (k + 1)) (lv' := [(3, .int (nI (k + 1))), (2, .int ((wsum σ.wt bag k) + v_6)), (0, .ref x), (1, .int bag)]) hx hb dX0_weightOf_34 hl (k := 1) rfl (nI_1 k) (by decide) rfl (fun ls hl => ?_)
          refine lv_goto (tgt := 4) hx hb dX0_weightOf_37 rfl ?_
          exact ih_3 (k + 1) (nI (k + 1)) ((wsum σ.wt bag k) + v_6) ls (by omega) (by omega) rfl (by subst_vars; rw [wsum]) (lv_sub hl [0, 1, 2, 3] rfl)
        refine lv_icmp_ne (tgt := 31) hx hb dX0_weightOf_17 rfl (fun h17 => ?_) (fun h17 => ?_)
        · have h17 : ¬ (((bag >>> ((nI k) &&& 31)) &&& 1) = 1) := h17
          refine lv_iconst (v := 0) hx hb dX0_weightOf_31 rfl ?_
          exact hJ32_5 (0) ls (by rw [if_neg h17]) (lv_sub hl [0, 1, 2, 3] rfl)
        · have h17 : ((bag >>> ((nI k) &&& 31)) &&& 1) = 1 := h17
          refine lv_aload_n hx hb dX0_weightOf_20 rfl (lv_at hl 2 rfl) ?_
          refine lv_iload_n hx hb dX0_weightOf_21 rfl (lv_at hl 0 rfl) ?_
          refine dV (v := .ref (μ.tA k)) (As := [.int (nI k)]) (rest := [.int (wsum σ.wt bag k)]) ⟨hx, hb, hml, hown, hts⟩ (mt_X0_thingAt l D dA x ad μ σ ω k hI hR (by omega)) (cw_X0_X0_thingAt hts ⟨Nat.le_of_ble_eq_true rfl, Nat.le_of_ble_eq_true rfl⟩) cB_bw (cB_now hK hN hP) (va_recv hK hP (ci := 1) (q0 := 0) rfl rfl) rfl hl.1 rfl (Nat.le_of_ble_eq_true rfl) dX0_weightOf_22 ⟨Nat.le_of_ble_eq_true rfl, Nat.le_of_ble_eq_true rfl⟩ ?_
          refine wt_get0 hx hb hts hown hK hP hR (by omega) (hts _ q202) dX0_weightOf_25 ?_
          refine lv_goto (tgt := 32) hx hb dX0_weightOf_28 rfl ?_
          exact hJ32_5 (σ.wt k) ls (by rw [if_pos h17]) (lv_sub hl [0, 1, 2, 3] rfl)
  exact hL4_1 _ 0 0 0 ls (Nat.lt_succ_self _) (by omega) rfl (by subst_vars; rw [wsum]) (lv_sub hl [0, 1, 2, 3] rfl)

theorem cw_X0_X0_weightOf {R : Room} {s : State} {args : Array Value} (hts : ∀ w ∈ lw_all, w.before args s = true) (hR : rmX0_weightOf.frames + 1 ≤ R.frames ∧ 8 + (4 + 11) + rmX0_weightOf.locals ≤ R.locals) : CallW R s args RX0 RX0 27 yX0_weightOf cX0_weightOf 4 (some .int) (ws_ yX0_weightOf cX0_weightOf 4 (some .int)) rmX0_weightOf 0 0 1 := cwV 1 hts (lw_V q874 q876 qs20 q77 q877) rfl rfl rfl (by decide +kernel) hR
def rmX0_mayBe : Room := { frames := 2, cells := 0, slots := 0, locals := 44 }
set_option maxHeartbeats 1000000 in
theorem mt_X0_mayBe (l : Launch) (D : va_G) (dA : Nat → ClassId) (x : Nat) (ad : Nat → Nat) (μ : Lay) (σ : St) (ω : Om) (bag : Int32) (hI : Inv σ) (hR : Rel dA μ σ) : Met l yX0_mayBe (ws_ yX0_mayBe cX0_mayBe 4 (some .boolean)) rmX0_mayBe (va_Pc [.ref x, .int bag] (cB D dA x ad μ σ ω)) (roQ (.int (b01 (mayP σ bag)))) 0 0 (fun _ => False) := by
  refine w_start (by decide) (Nat.le_of_ble_eq_true rfl) ?_
  intro p e s m args below meth c Q ls hQ hx hb hr hlocks hml hown hnm hts hB hl
  have hown : s.vm.findClass RX0 = some m.cls := hown
  have hl : lv_has ls 4 [(0, .ref x), (1, .int bag)] := hl
  obtain ⟨hP, hK, hN⟩ := hB
  refine lv_iconst (v := 0) hx hb dX0_mayBe_0 rfl ?_
  refine lv_istore_n (lv' := [(2, .int 0), (0, .ref x), (1, .int bag)]) hx hb dX0_mayBe_1 rfl hl (by decide) rfl (fun ls hl => ?_)
  refine lv_iconst (v := 0) hx hb dX0_mayBe_2 rfl ?_
  refine lv_istore_n (lv' := [(3, .int 0), (2, .int 0), (0, .ref x), (1, .int bag)]) hx hb dX0_mayBe_3 rfl hl (by decide) rfl (fun ls hl => ?_)
  have hL4_1 : ∀ (n_2 : Nat) (k : Nat) (x3 : Int32) (x2 : Int32) (ls : Array Slot), (8 - k) < n_2 → (k ≤ 8) → x3 = (nI k) → x2 = (wsum σ.pr bag k) → lv_has ls 4 [(3, .int x3), (2, .int x2), (0, .ref x), (1, .int bag)] → W p l e rmX0_mayBe s m args below meth c s.heap [] 0 0 Q (F0 m 4 ls []) := by
    intro n_2
    induction n_2 with
    | zero => intro k x3 x2 ls hm_4; exact absurd hm_4 (Nat.not_lt_zero _)
    | succ n_2 ih_3 =>
      intro k x3 x2 ls hm_4 hk ex3 ex2 hl
      subst ex3 ex2
      refine lv_iload_n hx hb dX0_mayBe_4 rfl (lv_at hl 0 rfl) ?_
      refine lv_bipush (v := 8) hx hb dX0_mayBe_5 rfl ?_
      refine lv_icmp_ge (tgt := 40) hx hb dX0_mayBe_7 rfl (fun h7 => ?_) (fun h7 => ?_)
      · have h7 : 8 ≤ k := (nz_le (a := 8) (b := k) rfl rfl (by omega) (by omega)).mp h7
        have hk8 : k = 8 := by omega
        subst hk8
        refine lv_iload_n hx hb dX0_mayBe_40 rfl (lv_at hl 1 rfl) ?_
        refine lv_aload_n hx hb dX0_mayBe_41 rfl (lv_at hl 2 rfl) ?_
        refine va_get (D := D) (ci := 1) (v := .int σ.purse) (C := RX0) (T := TX0) (N := 11) hx hb hts in_X0 hown hK hP 0 rfl rfl 2 (by decide) (hts _ q212) (fun _ h9 => h9) rfl dX0_mayBe_42 ?_
        refine lv_icmp_gt (tgt := 64) hx hb dX0_mayBe_45 rfl (fun h45 => ?_) (fun h45 => ?_)
        · have h45 : σ.purse < (wsum σ.pr bag 8) := h45
          refine lv_iconst (v := 0) hx hb dX0_mayBe_64 rfl ?_
          exact q_z hQ hx hb hr hlocks rfl (Or.inl rfl) ((b01_f (by simp only [mayP, eq_true h7, eq_true h45, not_true_eq_false, not_false_eq_true, and_true, true_and, and_false, false_and, or_true, true_or, or_false, false_or, and_self, or_self, eq_self])).symm) dX0_mayBe_65
        · have h45 : ¬ (σ.purse < (wsum σ.pr bag 8)) := h45
          refine lv_aload_n hx hb dX0_mayBe_48 rfl (lv_at hl 2 rfl) ?_
          refine lv_iload_n hx hb dX0_mayBe_49 rfl (lv_at hl 3 rfl) ?_
          refine dV (v := .int (wsum σ.wt bag 8)) (As := [.int bag]) (rest := []) ⟨hx, hb, hml, hown, hts⟩ (mt_X0_weightOf l D dA x ad μ σ ω bag hI hR) (cw_X0_X0_weightOf hts ⟨Nat.le_of_ble_eq_true rfl, Nat.le_of_ble_eq_true rfl⟩) cB_bw (cB_now hK hN hP) (va_recv hK hP (ci := 1) (q0 := 0) rfl rfl) rfl hl.1 rfl (Nat.le_of_ble_eq_true rfl) dX0_mayBe_50 ⟨Nat.le_of_ble_eq_true rfl, Nat.le_of_ble_eq_true rfl⟩ ?_
          refine lv_aload_n hx hb dX0_mayBe_53 rfl (lv_at hl 2 rfl) ?_
          refine va_get (D := D) (ci := 1) (v := .int σ.load) (C := RX0) (T := TX0) (N := 11) hx hb hts in_X0 hown hK hP 0 rfl rfl 1 (by decide) (hts _ q211) (fun _ h9 => h9) rfl dX0_mayBe_54 ?_
          refine lv_icmp_gt (tgt := 64) hx hb dX0_mayBe_57 rfl (fun h57 => ?_) (fun h57 => ?_)
          · have h57 : σ.load < (wsum σ.wt bag 8) := h57
            refine lv_iconst (v := 0) hx hb dX0_mayBe_64 rfl ?_
            exact q_z hQ hx hb hr hlocks rfl (Or.inl rfl) ((b01_f (by simp only [mayP, eq_true h7, eq_false h45, eq_true h57, not_true_eq_false, not_false_eq_true, and_true, true_and, and_false, false_and, or_true, true_or, or_false, false_or, and_self, or_self, eq_self])).symm) dX0_mayBe_65
          · have h57 : ¬ (σ.load < (wsum σ.wt bag 8)) := h57
            refine lv_iconst (v := 1) hx hb dX0_mayBe_60 rfl ?_
            refine lv_goto (tgt := 65) hx hb dX0_mayBe_61 rfl ?_
            exact q_z hQ hx hb hr hlocks rfl (Or.inr rfl) ((b01_t (by simp only [mayP, eq_true h7, eq_false h45, eq_false h57, not_true_eq_false, not_false_eq_true, and_true, true_and, and_false, false_and, or_true, true_or, or_false, false_or, and_self, or_self, eq_self])).symm) dX0_mayBe_65
      · have h7 : ¬ (8 ≤ k) := fun z9 => h7 ((nz_le (a := 8) (b := k) rfl rfl (by omega) (by omega)).mpr z9)
        refine lv_iload_n hx hb dX0_mayBe_10 rfl (lv_at hl 1 rfl) ?_
        refine lv_iload_n hx hb dX0_mayBe_11 rfl (lv_at hl 3 rfl) ?_
        refine lv_iload_n hx hb dX0_mayBe_12 rfl (lv_at hl 0 rfl) ?_
        refine lv_ishr hx hb dX0_mayBe_13 ?_
        refine lv_iconst (v := 1) hx hb dX0_mayBe_14 rfl ?_
        refine lv_iand hx hb dX0_mayBe_15 ?_
        refine lv_iconst (v := 1) hx hb dX0_mayBe_16 rfl ?_
        have hJ32_5 : ∀ (v_6 : Int32) (ls : Array Slot), v_6 = (if ((bag >>> ((nI k) &&& 31)) &&& 1) = 1 then σ.pr k else 0) → lv_has ls 4 [(3, .int (nI k)), (2, .int (wsum σ.pr bag k)), (0, .ref x), (1, .int bag)] → W p l e rmX0_mayBe s m args below meth c s.heap [] 0 0 Q (F0 m 32 ls [.int v_6, .int (wsum σ.pr bag k)]) := by
          intro v_6 ls ev_6 hl
          refine lv_iadd hx hb dX0_mayBe_32 ?_
          refine lv_istore_n (lv' := [(2, .int ((wsum σ.pr bag k) + v_6)), (3, .int (nI k)), (0, .ref x), (1, .int bag)]) hx hb dX0_mayBe_33 rfl hl (by decide) rfl (fun ls hl => ?_)
          refine lv_iinc (v := nI (k + 1)) (lv' := [(3, .int (nI (k + 1))), (2, .int ((wsum σ.pr bag k) + v_6)), (0, .ref x), (1, .int bag)]) hx hb dX0_mayBe_34 hl (k := 1) rfl (nI_1 k) (by decide) rfl (fun ls hl => ?_)
          refine lv_goto (tgt := 4) hx hb dX0_mayBe_37 rfl ?_
          exact ih_3 (k + 1) (nI (k + 1)) ((wsum σ.pr bag k) + v_6) ls (by omega) (by omega) rfl (by subst_vars; rw [wsum]) (lv_sub hl [0, 1, 2, 3] rfl)
        refine lv_icmp_ne (tgt := 31) hx hb dX0_mayBe_17 rfl (fun h17 => ?_) (fun h17 => ?_)
        · have h17 : ¬ (((bag >>> ((nI k) &&& 31)) &&& 1) = 1) := h17
          refine lv_iconst (v := 0) hx hb dX0_mayBe_31 rfl ?_
          exact hJ32_5 (0) ls (by rw [if_neg h17]) (lv_sub hl [0, 1, 2, 3] rfl)
        · have h17 : ((bag >>> ((nI k) &&& 31)) &&& 1) = 1 := h17
          refine lv_aload_n hx hb dX0_mayBe_20 rfl (lv_at hl 2 rfl) ?_
          refine lv_iload_n hx hb dX0_mayBe_21 rfl (lv_at hl 0 rfl) ?_
          refine dV (v := .ref (μ.tA k)) (As := [.int (nI k)]) (rest := [.int (wsum σ.pr bag k)]) ⟨hx, hb, hml, hown, hts⟩ (mt_X0_thingAt l D dA x ad μ σ ω k hI hR (by omega)) (cw_X0_X0_thingAt hts ⟨Nat.le_of_ble_eq_true rfl, Nat.le_of_ble_eq_true rfl⟩) cB_bw (cB_now hK hN hP) (va_recv hK hP (ci := 1) (q0 := 0) rfl rfl) rfl hl.1 rfl (Nat.le_of_ble_eq_true rfl) dX0_mayBe_22 ⟨Nat.le_of_ble_eq_true rfl, Nat.le_of_ble_eq_true rfl⟩ ?_
          refine wt_get1 hx hb hts hown hK hP hR (by omega) (hts _ q204) dX0_mayBe_25 ?_
          refine lv_goto (tgt := 32) hx hb dX0_mayBe_28 rfl ?_
          exact hJ32_5 (σ.pr k) ls (by rw [if_pos h17]) (lv_sub hl [0, 1, 2, 3] rfl)
  exact hL4_1 _ 0 0 0 ls (Nat.lt_succ_self _) (by omega) rfl (by subst_vars; rw [wsum]) (lv_sub hl [0, 1, 2, 3] rfl)

def rmX0_isTold : Room := { frames := 1, cells := 0, slots := 0, locals := 25 }
set_option maxHeartbeats 1000000 in
theorem mt_X0_isTold (l : Launch) (D : va_G) (dA : Nat → ClassId) (x : Nat) (ad : Nat → Nat) (μ : Lay) (σ : St) (ω : Om) (c_ : Int32) (hI : Inv σ) (hR : Rel dA μ σ) : Met l yX0_isTold (ws_ yX0_isTold cX0_isTold 2 (some .boolean)) rmX0_isTold (va_Pc [.ref x, .int c_] (cB D dA x ad μ σ ω)) (roQ (.int (b01 (callP σ c_)))) 0 0 (fun _ => False) := by
  refine w_start (by decide) (Nat.le_of_ble_eq_true rfl) ?_
  intro p e s m args below meth c Q ls hQ hx hb hr hlocks hml hown hnm hts hB hl
  have hown : s.vm.findClass RX0 = some m.cls := hown
  have hl : lv_has ls 2 [(0, .ref x), (1, .int c_)] := hl
  obtain ⟨hP, hK, hN⟩ := hB
  refine lv_iload_n hx hb dX0_isTold_0 rfl (lv_at hl 1 rfl) ?_
  refine lv_i2l (v := (c_ : Int32).toInt64) hx hb dX0_isTold_1 rfl ?_
  refine lv_lconst (v := 0) hx hb dX0_isTold_2 rfl ?_
  refine lv_ldc2 (v := 5) hx hb hown (hts _ q716) dX0_isTold_3 ?_
  refine cSi (As := [.long ((c_ : Int32).toInt64), .long 0, .long 5]) (rest := []) ⟨hx, hb, hml, hown, hts⟩ (mt_X0_in l ((c_ : Int32).toInt64) 0 5) (cw_X0_X0_in hts ⟨Nat.le_of_ble_eq_true rfl, Nat.le_of_ble_eq_true rfl⟩) w_blT (fun _ _ _ => trivial) rfl hl.1 rfl (Nat.le_of_ble_eq_true rfl) dX0_isTold_6 ⟨Nat.le_of_ble_eq_true rfl, Nat.le_of_ble_eq_true rfl⟩ ?_
  refine lv_if_eq (tgt := 25) hx hb dX0_isTold_9 rfl (fun h9 => ?_) (fun h9 => ?_)
  · have h9 : ¬ (inP ((c_ : Int32).toInt64) 0 5) := b01_0.mp h9
    refine lv_iconst (v := 0) hx hb dX0_isTold_25 rfl ?_
    exact q_z hQ hx hb hr hlocks rfl (Or.inl rfl) ((b01_f (by simp only [callP, eq_false h9, not_true_eq_false, not_false_eq_true, and_true, true_and, and_false, false_and, or_true, true_or, or_false, false_or, and_self, or_self, eq_self])).symm) dX0_isTold_26
  · have h9 : inP ((c_ : Int32).toInt64) 0 5 := b01_n h9
    obtain ⟨j, hj, rfl⟩ := in5 h9
    have hix_j : ix (nI j) = j := ix_nI hj (by decide)
    refine lv_aload_n hx hb dX0_isTold_12 rfl (lv_at hl 0 rfl) ?_
    refine va_get (D := D) (ci := 1) (v := .ref (ad 2)) (C := RX0) (T := TX0) (N := 11) hx hb hts in_X0 hown hK hP 0 rfl rfl 5 (by decide) (hts _ q218) (fun _ h9 => h9) rfl dX0_isTold_13 ?_
    refine lv_iload_n hx hb dX0_isTold_16 rfl (lv_at hl 1 rfl) ?_
    by_cases hT : hasP σ.told (nI j)
    · skip
      refine wa_aald (v := .ref (μ.cA j)) hx hb hK hP 3 5 rfl rfl rfl (j) (rfl) (by omega) (by decide) (cO_t hT) dX0_isTold_17 ?_
      refine lv_ifnull hx hb dX0_isTold_18 ?_
      refine lv_iconst (v := 1) hx hb dX0_isTold_21 rfl ?_
      refine lv_goto (tgt := 26) hx hb dX0_isTold_22 rfl ?_
      exact q_z hQ hx hb hr hlocks rfl (Or.inr rfl) ((b01_t (by simp only [callP, eq_true h9, eq_true hT, hix_j, not_true_eq_false, not_false_eq_true, and_true, true_and, and_false, false_and, or_true, true_or, or_false, false_or, and_self, or_self, eq_self])).symm) dX0_isTold_26
    · skip
      refine wa_aald (v := .null) hx hb hK hP 3 5 rfl rfl rfl (j) (rfl) (by omega) (by decide) (cO_n hT) dX0_isTold_17 ?_
      refine lv_ifnullN (tgt := 25) hx hb dX0_isTold_18 rfl ?_
      refine lv_iconst (v := 0) hx hb dX0_isTold_25 rfl ?_
      exact q_z hQ hx hb hr hlocks rfl (Or.inl rfl) ((b01_f (by simp only [callP, eq_true h9, eq_false hT, hix_j, not_true_eq_false, not_false_eq_true, and_true, true_and, and_false, false_and, or_true, true_or, or_false, false_or, and_self, or_self, eq_self])).symm) dX0_isTold_26

theorem cw_X0_X0_isTold {R : Room} {s : State} {args : Array Value} (hts : ∀ w ∈ lw_all, w.before args s = true) (hR : rmX0_isTold.frames + 1 ≤ R.frames ∧ 8 + (2 + 11) + rmX0_isTold.locals ≤ R.locals) : CallW R s args RX0 RX0 44 yX0_isTold cX0_isTold 2 (some .boolean) (ws_ yX0_isTold cX0_isTold 2 (some .boolean)) rmX0_isTold 0 0 1 := cwV 1 hts (lw_V q712 q714 qs12 q77 q715) rfl rfl rfl (by decide +kernel) hR
theorem cw_X0_J2_isEmpty {R : Room} {s : State} {args : Array Value} (hts : ∀ w ∈ lw_all, w.before args s = true) (hR : rmJ2_isEmpty.frames + 1 ≤ R.frames ∧ 8 + (1 + 11) + rmJ2_isEmpty.locals ≤ R.locals) : CallW R s args RX0 RJ2 54 yJ2_isEmpty cJ2_isEmpty 1 (some .boolean) (ws_ yJ2_isEmpty cJ2_isEmpty 1 (some .boolean)) rmJ2_isEmpty 0 0 0 := cwV 0 hts (lw_V q842 q843 q844 q81 q845) rfl rfl rfl (by decide +kernel) hR
def rmX0_isCall : Room := { frames := 2, cells := 0, slots := 0, locals := 46 }
set_option maxHeartbeats 1000000 in
theorem mt_X0_isCall (l : Launch) (D : va_G) (dA : Nat → ClassId) (x : Nat) (ad : Nat → Nat) (μ : Lay) (σ : St) (ω : Om) (c_ : Int32) (hI : Inv σ) (hR : Rel dA μ σ) : Met l yX0_isCall (ws_ yX0_isCall cX0_isCall 2 (some .boolean)) rmX0_isCall (va_Pc [.ref x, .int c_] (cB D dA x ad μ σ ω)) (roQ (.int (b01 (useP σ c_)))) 0 0 (fun _ => False) := by
  refine w_start (by decide) (Nat.le_of_ble_eq_true rfl) ?_
  intro p e s m args below meth c Q ls hQ hx hb hr hlocks hml hown hnm hts hB hl
  have hown : s.vm.findClass RX0 = some m.cls := hown
  have hl : lv_has ls 2 [(0, .ref x), (1, .int c_)] := hl
  obtain ⟨hP, hK, hN⟩ := hB
  refine lv_aload_n hx hb dX0_isCall_0 rfl (lv_at hl 0 rfl) ?_
  refine lv_iload_n hx hb dX0_isCall_1 rfl (lv_at hl 1 rfl) ?_
  refine dV (v := .int (b01 (callP σ c_))) (As := [.int c_]) (rest := []) ⟨hx, hb, hml, hown, hts⟩ (mt_X0_isTold l D dA x ad μ σ ω c_ hI hR) (cw_X0_X0_isTold hts ⟨Nat.le_of_ble_eq_true rfl, Nat.le_of_ble_eq_true rfl⟩) cB_bw (cB_now hK hN hP) (va_recv hK hP (ci := 1) (q0 := 0) rfl rfl) rfl hl.1 rfl (Nat.le_of_ble_eq_true rfl) dX0_isCall_2 ⟨Nat.le_of_ble_eq_true rfl, Nat.le_of_ble_eq_true rfl⟩ ?_
  refine lv_if_eq (tgt := 27) hx hb dX0_isCall_5 rfl (fun h5 => ?_) (fun h5 => ?_)
  · have h5 : ¬ (callP σ c_) := b01_0.mp h5
    refine lv_iconst (v := 0) hx hb dX0_isCall_27 rfl ?_
    exact q_z hQ hx hb hr hlocks rfl (Or.inl rfl) ((b01_f (by simp only [useP, Nat.le_zero_eq, eq_false h5, not_true_eq_false, not_false_eq_true, and_true, true_and, and_false, false_and, or_true, true_or, or_false, false_or, and_self, or_self, eq_self])).symm) dX0_isCall_28
  · have h5 : callP σ c_ := b01_n h5
    obtain ⟨j, hj, rfl⟩ := in5 h5.1
    have hix_j : ix (nI j) = j := ix_nI hj (by decide)
    have hsm := hI.sm j hj
    refine lv_aload_n hx hb dX0_isCall_8 rfl (lv_at hl 0 rfl) ?_
    refine va_get (D := D) (ci := 1) (v := .ref (ad 2)) (C := RX0) (T := TX0) (N := 11) hx hb hts in_X0 hown hK hP 0 rfl rfl 5 (by decide) (hts _ q218) (fun _ h9 => h9) rfl dX0_isCall_9 ?_
    refine lv_iload_n hx hb dX0_isCall_12 rfl (lv_at hl 1 rfl) ?_
    refine wa_aald (v := .ref (μ.cA j)) hx hb hK hP 3 5 rfl rfl rfl (j) (rfl) (by omega) (by decide) (cO_t h5.2) dX0_isCall_13 ?_
    refine va_get (D := D) (ci := 5) (v := .ref (μ.lA j)) (C := RX7) (T := TX7) (N := 3) hx hb hts in_X7 hown hK (pl1 hP (hR.2.1 j hj h5.2).1.1 (hR.2.1 j hj h5.2).1.2) 0 rfl rfl 1 (by decide) (hts _ q701) (fun _ h9 => h9) rfl dX0_isCall_14 ?_
    refine dV (v := .int (b01 ((σ.sm j) = 0))) (As := []) (rest := []) ⟨hx, hb, hml, hown, hts⟩ (mt_J2_isEmpty l D dA (μ.lA j) (μ.eA j) (μ.mA j) (σ.sm j) (by omega)) (cw_X0_J2_isEmpty hts ⟨Nat.le_of_ble_eq_true rfl, Nat.le_of_ble_eq_true rfl⟩) pB_bw (pB_now hK (pl1 hP (hR.2.1 j hj h5.2).2.2.1.1 (hR.2.1 j hj h5.2).2.2.1.2)) (va_recv hK (pl1 hP (hR.2.1 j hj h5.2).2.2.1.1 (hR.2.1 j hj h5.2).2.2.1.2) (ci := 8) (q0 := 0) rfl rfl) rfl hl.1 rfl (Nat.le_of_ble_eq_true rfl) dX0_isCall_17 ⟨Nat.le_of_ble_eq_true rfl, Nat.le_of_ble_eq_true rfl⟩ ?_
    refine lv_if_ne (tgt := 27) hx hb dX0_isCall_20 rfl (fun h20 => ?_) (fun h20 => ?_)
    · have h20 : (σ.sm j) = 0 := b01_n h20
      refine lv_iconst (v := 0) hx hb dX0_isCall_27 rfl ?_
      exact q_z hQ hx hb hr hlocks rfl (Or.inl rfl) ((b01_f (by simp only [useP, Nat.le_zero_eq, eq_true h5, eq_true h20, hix_j, not_true_eq_false, not_false_eq_true, and_true, true_and, and_false, false_and, or_true, true_or, or_false, false_or, and_self, or_self, eq_self])).symm) dX0_isCall_28
    · have h20 : ¬ ((σ.sm j) = 0) := b01_0.mp h20
      refine lv_iconst (v := 1) hx hb dX0_isCall_23 rfl ?_
      refine lv_goto (tgt := 28) hx hb dX0_isCall_24 rfl ?_
      exact q_z hQ hx hb hr hlocks rfl (Or.inr rfl) ((b01_t (by simp only [useP, Nat.le_zero_eq, eq_true h5, eq_false h20, hix_j, not_true_eq_false, not_false_eq_true, and_true, true_and, and_false, false_and, or_true, true_or, or_false, false_or, and_self, or_self, eq_self])).symm) dX0_isCall_28

theorem cw_X0_X0_isCall {R : Room} {s : State} {args : Array Value} (hts : ∀ w ∈ lw_all, w.before args s = true) (hR : rmX0_isCall.frames + 1 ≤ R.frames ∧ 8 + (2 + 11) + rmX0_isCall.locals ≤ R.locals) : CallW R s args RX0 RX0 101 yX0_isCall cX0_isCall 2 (some .boolean) (ws_ yX0_isCall cX0_isCall 2 (some .boolean)) rmX0_isCall 0 0 1 := cwV 1 hts (lw_V q838 q840 qs18 q77 q841) rfl rfl rfl (by decide +kernel) hR
theorem cw_X0_J2_size {R : Room} {s : State} {args : Array Value} (hts : ∀ w ∈ lw_all, w.before args s = true) (hR : rmJ2_size.frames + 1 ≤ R.frames ∧ 8 + (1 + 11) + rmJ2_size.locals ≤ R.locals) : CallW R s args RX0 RJ2 163 yJ2_size cJ2_size 1 (some .int) (ws_ yJ2_size cJ2_size 1 (some .int)) rmJ2_size 0 0 0 := cwV 0 hts (lw_V q829 q755 q756 q81 q757) rfl rfl rfl (by decide +kernel) hR
def rmX0_isSort : Room := { frames := 3, cells := 0, slots := 0, locals := 67 }
set_option maxHeartbeats 1000000 in
theorem mt_X0_isSort (l : Launch) (D : va_G) (dA : Nat → ClassId) (x : Nat) (ad : Nat → Nat) (μ : Lay) (σ : St) (ω : Om) (c_ : Int32) (s_ : Int32) (hI : Inv σ) (hR : Rel dA μ σ) : Met l yX0_isSort (ws_ yX0_isSort cX0_isSort 3 (some .boolean)) rmX0_isSort (va_Pc [.ref x, .int c_, .int s_] (cB D dA x ad μ σ ω)) (roQ (.int (b01 (sortP σ c_ s_)))) 0 0 (fun _ => False) := by
  refine w_start (by decide) (Nat.le_of_ble_eq_true rfl) ?_
  intro p e s m args below meth c Q ls hQ hx hb hr hlocks hml hown hnm hts hB hl
  have hown : s.vm.findClass RX0 = some m.cls := hown
  have hl : lv_has ls 3 [(0, .ref x), (1, .int c_), (2, .int s_)] := hl
  obtain ⟨hP, hK, hN⟩ := hB
  refine lv_aload_n hx hb dX0_isSort_0 rfl (lv_at hl 0 rfl) ?_
  refine lv_iload_n hx hb dX0_isSort_1 rfl (lv_at hl 1 rfl) ?_
  refine dV (v := .int (b01 (useP σ c_))) (As := [.int c_]) (rest := []) ⟨hx, hb, hml, hown, hts⟩ (mt_X0_isCall l D dA x ad μ σ ω c_ hI hR) (cw_X0_X0_isCall hts ⟨Nat.le_of_ble_eq_true rfl, Nat.le_of_ble_eq_true rfl⟩) cB_bw (cB_now hK hN hP) (va_recv hK hP (ci := 1) (q0 := 0) rfl rfl) rfl hl.1 rfl (Nat.le_of_ble_eq_true rfl) dX0_isSort_2 ⟨Nat.le_of_ble_eq_true rfl, Nat.le_of_ble_eq_true rfl⟩ ?_
  refine lv_if_eq (tgt := 36) hx hb dX0_isSort_5 rfl (fun h5 => ?_) (fun h5 => ?_)
  · have h5 : ¬ (useP σ c_) := b01_0.mp h5
    refine lv_iconst (v := 0) hx hb dX0_isSort_36 rfl ?_
    exact q_z hQ hx hb hr hlocks rfl (Or.inl rfl) ((b01_f (fun z => h5 (sort_use hI z))).symm) dX0_isSort_37
  · have h5 : useP σ c_ := b01_n h5
    obtain ⟨j, hj, rfl⟩ := in5 h5.1.1
    have hix_j : ix (nI j) = j := ix_nI hj (by decide)
    have hsm := hI.sm j hj
    refine lv_iload_n hx hb dX0_isSort_8 rfl (lv_at hl 2 rfl) ?_
    refine lv_i2l (v := (s_ : Int32).toInt64) hx hb dX0_isSort_9 rfl ?_
    refine lv_lconst (v := 0) hx hb dX0_isSort_10 rfl ?_
    refine lv_aload_n hx hb dX0_isSort_11 rfl (lv_at hl 0 rfl) ?_
    refine va_get (D := D) (ci := 1) (v := .ref (ad 2)) (C := RX0) (T := TX0) (N := 11) hx hb hts in_X0 hown hK hP 0 rfl rfl 5 (by decide) (hts _ q218) (fun _ h9 => h9) rfl dX0_isSort_12 ?_
    refine lv_iload_n hx hb dX0_isSort_15 rfl (lv_at hl 1 rfl) ?_
    refine wa_aald (v := .ref (μ.cA j)) hx hb hK hP 3 5 rfl rfl rfl (j) (rfl) (by omega) (by decide) (cO_t h5.1.2) dX0_isSort_16 ?_
    refine va_get (D := D) (ci := 5) (v := .ref (μ.lA j)) (C := RX7) (T := TX7) (N := 3) hx hb hts in_X7 hown hK (pl1 hP (hR.2.1 j hj h5.1.2).1.1 (hR.2.1 j hj h5.1.2).1.2) 0 rfl rfl 1 (by decide) (hts _ q701) (fun _ h9 => h9) rfl dX0_isSort_17 ?_
    refine dV (v := .int (nI (σ.sm j))) (As := []) (rest := [.long 0, .long ((s_ : Int32).toInt64)]) ⟨hx, hb, hml, hown, hts⟩ (mt_J2_size l D dA (μ.lA j) (μ.eA j) (μ.mA j) (σ.sm j)) (cw_X0_J2_size hts ⟨Nat.le_of_ble_eq_true rfl, Nat.le_of_ble_eq_true rfl⟩) pB_bw (pB_now hK (pl1 hP (hR.2.1 j hj h5.1.2).2.2.1.1 (hR.2.1 j hj h5.1.2).2.2.1.2)) (va_recv hK (pl1 hP (hR.2.1 j hj h5.1.2).2.2.1.1 (hR.2.1 j hj h5.1.2).2.2.1.2) (ci := 8) (q0 := 0) rfl rfl) rfl hl.1 rfl (Nat.le_of_ble_eq_true rfl) dX0_isSort_20 ⟨Nat.le_of_ble_eq_true rfl, Nat.le_of_ble_eq_true rfl⟩ ?_
    refine lv_iconst (v := 1) hx hb dX0_isSort_23 rfl ?_
    refine lv_isub hx hb dX0_isSort_24 ?_
    refine lv_i2l (v := ((nI (σ.sm j)) - 1 : Int32).toInt64) hx hb dX0_isSort_25 rfl ?_
    refine cSi (As := [.long ((s_ : Int32).toInt64), .long 0, .long (((nI (σ.sm j)) - 1 : Int32).toInt64)]) (rest := []) ⟨hx, hb, hml, hown, hts⟩ (mt_X0_in l ((s_ : Int32).toInt64) 0 (((nI (σ.sm j)) - 1 : Int32).toInt64)) (cw_X0_X0_in hts ⟨Nat.le_of_ble_eq_true rfl, Nat.le_of_ble_eq_true rfl⟩) w_blT (fun _ _ _ => trivial) rfl hl.1 rfl (Nat.le_of_ble_eq_true rfl) dX0_isSort_26 ⟨Nat.le_of_ble_eq_true rfl, Nat.le_of_ble_eq_true rfl⟩ ?_
    refine lv_if_eq (tgt := 36) hx hb dX0_isSort_29 rfl (fun h29 => ?_) (fun h29 => ?_)
    · have h29 : ¬ (inP ((s_ : Int32).toInt64) 0 (((nI (σ.sm j)) - 1 : Int32).toInt64)) := b01_0.mp h29
      refine lv_iconst (v := 0) hx hb dX0_isSort_36 rfl ?_
      exact q_z hQ hx hb hr hlocks rfl (Or.inl rfl) ((b01_f (by simp only [sortP, eq_true h5.1, hix_j, eq_false h29, not_true_eq_false, not_false_eq_true, and_true, true_and, and_false, false_and, or_true, true_or, or_false, false_or, and_self, or_self, eq_self])).symm) dX0_isSort_37
    · have h29 : inP ((s_ : Int32).toInt64) 0 (((nI (σ.sm j)) - 1 : Int32).toInt64) := b01_n h29
      refine lv_iconst (v := 1) hx hb dX0_isSort_32 rfl ?_
      refine lv_goto (tgt := 37) hx hb dX0_isSort_33 rfl ?_
      exact q_z hQ hx hb hr hlocks rfl (Or.inr rfl) ((b01_t (by simp only [sortP, eq_true h5.1, hix_j, eq_true h29, not_true_eq_false, not_false_eq_true, and_true, true_and, and_false, false_and, or_true, true_or, or_false, false_or, and_self, or_self, eq_self])).symm) dX0_isSort_37

theorem bit_n {x v : Int32} (h : ¬ hasP x v) : (x >>> (v &&& 31)) &&& 1 = 0 := (bit_cases (x >>> (v &&& 31))).resolve_right h
theorem call6 {w : Int32} (h : inP w.toInt64 0 6) (h6 : ¬ w = 6) : inP w.toInt64 0 5 := by
  obtain ⟨j, hj, rfl⟩ := inP_of 6 (by decide) h
  exact inP_nI (n := 5) (by decide) (Nat.le_of_lt_succ (Nat.lt_of_le_of_ne hj (fun q => h6 (by rw [q]; rfl)))) (by omega)
theorem call65 {w : Int32} (h : inP w.toInt64 0 5) : inP w.toInt64 0 6 := by
  obtain ⟨j, hj, rfl⟩ := inP_of 5 (by decide) h
  exact inP_nI (n := 6) (by decide) (by omega) (by omega)
theorem sortw {w : Int32} (h0 : ¬ w = 0) (h1 : ¬ w = 1) (h2 : ¬ w = 2) (h3 : ¬ w = 3) : ¬ inP w.toInt64 0 3 := by
  intro h
  obtain ⟨j, hj, rfl⟩ := in3 h
  rcases (show j = 0 ∨ j = 1 ∨ j = 2 ∨ j = 3 by omega) with rfl | rfl | rfl | rfl
  · exact h0 rfl
  · exact h1 rfl
  · exact h2 rfl
  · exact h3 rfl
theorem in03 : inP (0 : Int32).toInt64 0 3 ∧ inP (1 : Int32).toInt64 0 3 ∧ inP (2 : Int32).toInt64 0 3 ∧ inP (3 : Int32).toInt64 0 3 := by decide
theorem ix03 : ix 0 = 0 ∧ ix 1 = 1 ∧ ix 2 = 2 ∧ ix 3 = 3 := by decide
theorem not6 : ¬ inP (6 : Int32).toInt64 0 5 := by decide
theorem in06 : inP (6 : Int32).toInt64 0 6 := by decide

theorem cw_X0_X0_isThing {R : Room} {s : State} {args : Array Value} (hts : ∀ w ∈ lw_all, w.before args s = true) (hR : rmX0_isThing.frames + 1 ≤ R.frames ∧ 8 + (1 + 11) + rmX0_isThing.locals ≤ R.locals) : CallB R s args RX0 160 yX0_isThing cX0_isThing 1 (some .boolean) (ws_ yX0_isThing cX0_isThing 1 (some .boolean)) rmX0_isThing 0 0 1 ∧ (Cond.static yX0_isThing).before args s = true := va_cwS 1 hts (lw_S q807 q808 q77 q809) rfl rfl rfl (by decide +kernel) hR
def rmX0_thing : Room := { frames := 2, cells := 0, slots := 0, locals := 45 }
set_option maxHeartbeats 1000000 in
theorem mt_X0_thing (l : Launch) (D : va_G) (dA : Nat → ClassId) (x : Nat) (ad : Nat → Nat) (μ : Lay) (σ : St) (ω : Om) (t : Int32) (w : Int32) (hI : Inv σ) (hR : Rel dA μ σ) : Met l yX0_thing (ws_ yX0_thing cX0_thing 3 (some .int)) rmX0_thing (va_Pc [.ref x, .int t, .int w] (cB D dA x ad μ σ ω)) (roQ (.int (thingF σ t w))) 0 0 (fun _ => False) := by
  refine w_start (by decide) (Nat.le_of_ble_eq_true rfl) ?_
  intro p e s m args below meth c Q ls hQ hx hb hr hlocks hml hown hnm hts hB hl
  have hown : s.vm.findClass RX0 = some m.cls := hown
  have hl : lv_has ls 3 [(0, .ref x), (1, .int t), (2, .int w)] := hl
  obtain ⟨hP, hK, hN⟩ := hB
  refine lv_iload_n hx hb dX0_thing_0 rfl (lv_at hl 1 rfl) ?_
  refine cSi (As := [.int t]) (rest := []) ⟨hx, hb, hml, hown, hts⟩ (mt_X0_isThing l t) (cw_X0_X0_isThing hts ⟨Nat.le_of_ble_eq_true rfl, Nat.le_of_ble_eq_true rfl⟩) w_blT (fun _ _ _ => trivial) rfl hl.1 rfl (Nat.le_of_ble_eq_true rfl) dX0_thing_1 ⟨Nat.le_of_ble_eq_true rfl, Nat.le_of_ble_eq_true rfl⟩ ?_
  refine lv_if_ne (tgt := 10) hx hb dX0_thing_4 rfl (fun h4 => ?_) (fun h4 => ?_)
  · have h4 : thingP t := b01_n h4
    obtain ⟨j, hj, rfl⟩ := in7 h4
    have hix_j : ix (nI j) = j := ix_nI hj (by decide)
    refine lv_iload_n hx hb dX0_thing_10 rfl (lv_at hl 2 rfl) ?_
    refine lv_if_ne (tgt := 25) hx hb dX0_thing_11 rfl (fun h11 => ?_) (fun h11 => ?_)
    · have h11 : ¬ (w = 0) := h11
      refine lv_iload_n hx hb dX0_thing_25 rfl (lv_at hl 2 rfl) ?_
      refine lv_iconst (v := 1) hx hb dX0_thing_26 rfl ?_
      refine lv_icmp_ne (tgt := 41) hx hb dX0_thing_27 rfl (fun h27 => ?_) (fun h27 => ?_)
      · have h27 : ¬ (w = 1) := h27
        refine lv_iload_n hx hb dX0_thing_41 rfl (lv_at hl 2 rfl) ?_
        refine lv_iconst (v := 2) hx hb dX0_thing_42 rfl ?_
        refine lv_icmp_ne (tgt := 65) hx hb dX0_thing_43 rfl (fun h43 => ?_) (fun h43 => ?_)
        · have h43 : ¬ (w = 2) := h43
          refine lv_bipush (v := (-3)) hx hb dX0_thing_65 rfl ?_
          exact q_i hQ hx hb hr hlocks rfl (by simp only [thingF, eq_true h4, eq_false h11, eq_false h27, eq_false h43, hix_j, if_true, if_false, ite_true, ite_false, not_true_eq_false, not_false_eq_true, and_true, true_and, and_false, false_and, or_true, true_or, or_false, false_or, and_self, or_self, eq_self]) dX0_thing_67
        · have h43 : w = 2 := h43
          refine lv_aload_n hx hb dX0_thing_46 rfl (lv_at hl 0 rfl) ?_
          refine lv_iload_n hx hb dX0_thing_47 rfl (lv_at hl 1 rfl) ?_
          refine dV (v := .ref (μ.tA j)) (As := [.int (nI j)]) (rest := []) ⟨hx, hb, hml, hown, hts⟩ (mt_X0_thingAt l D dA x ad μ σ ω j hI hR (by omega)) (cw_X0_X0_thingAt hts ⟨Nat.le_of_ble_eq_true rfl, Nat.le_of_ble_eq_true rfl⟩) cB_bw (cB_now hK hN hP) (va_recv hK hP (ci := 1) (q0 := 0) rfl rfl) rfl hl.1 rfl (Nat.le_of_ble_eq_true rfl) dX0_thing_48 ⟨Nat.le_of_ble_eq_true rfl, Nat.le_of_ble_eq_true rfl⟩ ?_
          refine wt_used (t := j) (rest := []) ⟨hx, hb, hml, hown, hts⟩ hK hP hR (by omega) (cw_X0_X2_isUsed hts ⟨Nat.le_of_ble_eq_true rfl, Nat.le_of_ble_eq_true rfl⟩) (cw_X0_X6_isUsed hts ⟨Nat.le_of_ble_eq_true rfl, Nat.le_of_ble_eq_true rfl⟩) hl.1 rfl (Nat.le_of_ble_eq_true rfl) dX0_thing_51 ⟨Nat.le_of_ble_eq_true rfl, Nat.le_of_ble_eq_true rfl⟩ ?_
          refine lv_if_eq (tgt := 61) hx hb dX0_thing_54 rfl (fun h54 => ?_) (fun h54 => ?_)
          · have h54 : ¬ (¬ hasP σ.tools (nI j)) := b01_0.mp h54
            refine lv_iconst (v := 1) hx hb dX0_thing_61 rfl ?_
            refine lv_goto (tgt := 67) hx hb dX0_thing_62 rfl ?_
            exact q_i hQ hx hb hr hlocks rfl (by simp only [thingF, eq_true h4, eq_false h11, eq_false h27, eq_true h43, hix_j, if_true, if_false, ite_true, ite_false, not_true_eq_false, not_false_eq_true, and_true, true_and, and_false, false_and, or_true, true_or, or_false, false_or, and_self, or_self, eq_self, Classical.not_not.mp h54]) dX0_thing_67
          · have h54 : ¬ hasP σ.tools (nI j) := b01_n h54
            refine lv_iconst (v := 0) hx hb dX0_thing_57 rfl ?_
            refine lv_goto (tgt := 67) hx hb dX0_thing_58 rfl ?_
            exact q_i hQ hx hb hr hlocks rfl (by simp only [thingF, eq_true h4, eq_false h11, eq_false h27, eq_true h43, hix_j, if_true, if_false, ite_true, ite_false, not_true_eq_false, not_false_eq_true, and_true, true_and, and_false, false_and, or_true, true_or, or_false, false_or, and_self, or_self, eq_self, bit_n h54]) dX0_thing_67
      · have h27 : w = 1 := h27
        refine lv_aload_n hx hb dX0_thing_30 rfl (lv_at hl 0 rfl) ?_
        refine lv_iload_n hx hb dX0_thing_31 rfl (lv_at hl 1 rfl) ?_
        refine dV (v := .ref (μ.tA j)) (As := [.int (nI j)]) (rest := []) ⟨hx, hb, hml, hown, hts⟩ (mt_X0_thingAt l D dA x ad μ σ ω j hI hR (by omega)) (cw_X0_X0_thingAt hts ⟨Nat.le_of_ble_eq_true rfl, Nat.le_of_ble_eq_true rfl⟩) cB_bw (cB_now hK hN hP) (va_recv hK hP (ci := 1) (q0 := 0) rfl rfl) rfl hl.1 rfl (Nat.le_of_ble_eq_true rfl) dX0_thing_32 ⟨Nat.le_of_ble_eq_true rfl, Nat.le_of_ble_eq_true rfl⟩ ?_
        refine wt_get1 hx hb hts hown hK hP hR (by omega) (hts _ q204) dX0_thing_35 ?_
        refine lv_goto (tgt := 67) hx hb dX0_thing_38 rfl ?_
        exact q_i hQ hx hb hr hlocks rfl (by simp only [thingF, eq_true h4, eq_false h11, eq_true h27, hix_j, if_true, if_false, ite_true, ite_false, not_true_eq_false, not_false_eq_true, and_true, true_and, and_false, false_and, or_true, true_or, or_false, false_or, and_self, or_self, eq_self]) dX0_thing_67
    · have h11 : w = 0 := h11
      refine lv_aload_n hx hb dX0_thing_14 rfl (lv_at hl 0 rfl) ?_
      refine lv_iload_n hx hb dX0_thing_15 rfl (lv_at hl 1 rfl) ?_
      refine dV (v := .ref (μ.tA j)) (As := [.int (nI j)]) (rest := []) ⟨hx, hb, hml, hown, hts⟩ (mt_X0_thingAt l D dA x ad μ σ ω j hI hR (by omega)) (cw_X0_X0_thingAt hts ⟨Nat.le_of_ble_eq_true rfl, Nat.le_of_ble_eq_true rfl⟩) cB_bw (cB_now hK hN hP) (va_recv hK hP (ci := 1) (q0 := 0) rfl rfl) rfl hl.1 rfl (Nat.le_of_ble_eq_true rfl) dX0_thing_16 ⟨Nat.le_of_ble_eq_true rfl, Nat.le_of_ble_eq_true rfl⟩ ?_
      refine wt_get0 hx hb hts hown hK hP hR (by omega) (hts _ q202) dX0_thing_19 ?_
      refine lv_goto (tgt := 67) hx hb dX0_thing_22 rfl ?_
      exact q_i hQ hx hb hr hlocks rfl (by simp only [thingF, eq_true h4, eq_true h11, hix_j, if_true, if_false, ite_true, ite_false, not_true_eq_false, not_false_eq_true, and_true, true_and, and_false, false_and, or_true, true_or, or_false, false_or, and_self, or_self, eq_self]) dX0_thing_67
  · have h4 : ¬ (thingP t) := b01_0.mp h4
    refine lv_bipush (v := (-2)) hx hb dX0_thing_7 rfl ?_
    exact q_i hQ hx hb hr hlocks rfl (by simp only [thingF, eq_false h4, if_true, if_false, ite_true, ite_false, not_true_eq_false, not_false_eq_true, and_true, true_and, and_false, false_and, or_true, true_or, or_false, false_or, and_self, or_self, eq_self]) dX0_thing_9

def rmX0_call : Room := { frames := 2, cells := 0, slots := 0, locals := 46 }
set_option maxHeartbeats 1000000 in
theorem mt_X0_call (l : Launch) (D : va_G) (dA : Nat → ClassId) (x : Nat) (ad : Nat → Nat) (μ : Lay) (σ : St) (ω : Om) (c_ : Int32) (w : Int32) (hI : Inv σ) (hR : Rel dA μ σ) : Met l yX0_call (ws_ yX0_call cX0_call 3 (some .int)) rmX0_call (va_Pc [.ref x, .int c_, .int w] (cB D dA x ad μ σ ω)) (roQ (.int (callF σ c_ w))) 0 0 (fun _ => False) := by
  refine w_start (by decide) (Nat.le_of_ble_eq_true rfl) ?_
  intro p e s m args below meth c Q ls hQ hx hb hr hlocks hml hown hnm hts hB hl
  have hown : s.vm.findClass RX0 = some m.cls := hown
  have hl : lv_has ls 3 [(0, .ref x), (1, .int c_), (2, .int w)] := hl
  obtain ⟨hP, hK, hN⟩ := hB
  refine lv_aload_n hx hb dX0_call_0 rfl (lv_at hl 0 rfl) ?_
  refine lv_iload_n hx hb dX0_call_1 rfl (lv_at hl 1 rfl) ?_
  refine dV (v := .int (b01 (callP σ c_))) (As := [.int c_]) (rest := []) ⟨hx, hb, hml, hown, hts⟩ (mt_X0_isTold l D dA x ad μ σ ω c_ hI hR) (cw_X0_X0_isTold hts ⟨Nat.le_of_ble_eq_true rfl, Nat.le_of_ble_eq_true rfl⟩) cB_bw (cB_now hK hN hP) (va_recv hK hP (ci := 1) (q0 := 0) rfl rfl) rfl hl.1 rfl (Nat.le_of_ble_eq_true rfl) dX0_call_2 ⟨Nat.le_of_ble_eq_true rfl, Nat.le_of_ble_eq_true rfl⟩ ?_
  refine lv_if_ne (tgt := 11) hx hb dX0_call_5 rfl (fun h5 => ?_) (fun h5 => ?_)
  · have h5 : callP σ c_ := b01_n h5
    obtain ⟨j, hj, rfl⟩ := in5 h5.1
    have hix_j : ix (nI j) = j := ix_nI hj (by decide)
    have hsm := hI.sm j hj
    refine lv_iload_n hx hb dX0_call_11 rfl (lv_at hl 2 rfl) ?_
    refine lv_i2l (v := (w : Int32).toInt64) hx hb dX0_call_12 rfl ?_
    refine lv_lconst (v := 0) hx hb dX0_call_13 rfl ?_
    refine lv_ldc2 (v := 6) hx hb hown (hts _ q828) dX0_call_14 ?_
    refine cSi (As := [.long ((w : Int32).toInt64), .long 0, .long 6]) (rest := []) ⟨hx, hb, hml, hown, hts⟩ (mt_X0_in l ((w : Int32).toInt64) 0 6) (cw_X0_X0_in hts ⟨Nat.le_of_ble_eq_true rfl, Nat.le_of_ble_eq_true rfl⟩) w_blT (fun _ _ _ => trivial) rfl hl.1 rfl (Nat.le_of_ble_eq_true rfl) dX0_call_17 ⟨Nat.le_of_ble_eq_true rfl, Nat.le_of_ble_eq_true rfl⟩ ?_
    refine lv_if_ne (tgt := 28) hx hb dX0_call_20 rfl (fun h20 => ?_) (fun h20 => ?_)
    · have h20 : inP ((w : Int32).toInt64) 0 6 := b01_n h20
      refine lv_iload_n hx hb dX0_call_28 rfl (lv_at hl 2 rfl) ?_
      refine lv_bipush (v := 6) hx hb dX0_call_29 rfl ?_
      refine lv_icmp_ne (tgt := 49) hx hb dX0_call_31 rfl (fun h31 => ?_) (fun h31 => ?_)
      · have h31 : ¬ (w = 6) := h31
        obtain ⟨i, hi, rfl⟩ := in5 (call6 h20 h31)
        have hix_i : ix (nI i) = i := ix_nI hi (by decide)
        refine lv_aload_n hx hb dX0_call_49 rfl (lv_at hl 0 rfl) ?_
        refine va_get (D := D) (ci := 1) (v := .ref (ad 2)) (C := RX0) (T := TX0) (N := 11) hx hb hts in_X0 hown hK hP 0 rfl rfl 5 (by decide) (hts _ q218) (fun _ h9 => h9) rfl dX0_call_50 ?_
        refine lv_iload_n hx hb dX0_call_53 rfl (lv_at hl 1 rfl) ?_
        refine wa_aald (v := .ref (μ.cA j)) hx hb hK hP 3 5 rfl rfl rfl (j) (rfl) (by omega) (by decide) (cO_t h5.2) dX0_call_54 ?_
        refine va_get (D := D) (ci := 5) (v := .ref (μ.kA j)) (C := RX7) (T := TX7) (N := 3) hx hb hts in_X7 hown hK (pl1 hP (hR.2.1 j hj h5.2).1.1 (hR.2.1 j hj h5.2).1.2) 0 rfl rfl 0 (by decide) (hts _ q698) (fun _ h9 => h9) rfl dX0_call_55 ?_
        refine lv_iload_n hx hb dX0_call_58 rfl (lv_at hl 2 rfl) ?_
        refine wa_iald1 (v := σ.calls (6 * j + i)) hx hb hK (pl1 hP (hR.2.1 j hj h5.2).2.1.1 (hR.2.1 j hj h5.2).2.1.2) 0 0 rfl rfl (i) (rfl) (by omega) (by decide) (rfl) dX0_call_59 ?_
        exact q_i hQ hx hb hr hlocks rfl (by simp only [callF, eq_true h5, if_true, if_false, ite_true, ite_false, not_true_eq_false, not_false_eq_true, and_true, true_and, and_false, false_and, or_true, true_or, or_false, false_or, and_self, or_self, eq_self]; rw [if_pos (call6 h20 h31), hix_j, hix_i]) dX0_call_60
      · have h31 : w = 6 := h31
        refine lv_aload_n hx hb dX0_call_34 rfl (lv_at hl 0 rfl) ?_
        refine va_get (D := D) (ci := 1) (v := .ref (ad 2)) (C := RX0) (T := TX0) (N := 11) hx hb hts in_X0 hown hK hP 0 rfl rfl 5 (by decide) (hts _ q218) (fun _ h9 => h9) rfl dX0_call_35 ?_
        refine lv_iload_n hx hb dX0_call_38 rfl (lv_at hl 1 rfl) ?_
        refine wa_aald (v := .ref (μ.cA j)) hx hb hK hP 3 5 rfl rfl rfl (j) (rfl) (by omega) (by decide) (cO_t h5.2) dX0_call_39 ?_
        refine va_get (D := D) (ci := 5) (v := .ref (μ.lA j)) (C := RX7) (T := TX7) (N := 3) hx hb hts in_X7 hown hK (pl1 hP (hR.2.1 j hj h5.2).1.1 (hR.2.1 j hj h5.2).1.2) 0 rfl rfl 1 (by decide) (hts _ q701) (fun _ h9 => h9) rfl dX0_call_40 ?_
        refine dV (v := .int (nI (σ.sm j))) (As := []) (rest := []) ⟨hx, hb, hml, hown, hts⟩ (mt_J2_size l D dA (μ.lA j) (μ.eA j) (μ.mA j) (σ.sm j)) (cw_X0_J2_size hts ⟨Nat.le_of_ble_eq_true rfl, Nat.le_of_ble_eq_true rfl⟩) pB_bw (pB_now hK (pl1 hP (hR.2.1 j hj h5.2).2.2.1.1 (hR.2.1 j hj h5.2).2.2.1.2)) (va_recv hK (pl1 hP (hR.2.1 j hj h5.2).2.2.1.1 (hR.2.1 j hj h5.2).2.2.1.2) (ci := 8) (q0 := 0) rfl rfl) rfl hl.1 rfl (Nat.le_of_ble_eq_true rfl) dX0_call_43 ⟨Nat.le_of_ble_eq_true rfl, Nat.le_of_ble_eq_true rfl⟩ ?_
        refine lv_goto (tgt := 60) hx hb dX0_call_46 rfl ?_
        exact q_i hQ hx hb hr hlocks rfl (by simp only [callF, eq_true h5, if_true, if_false, ite_true, ite_false, not_true_eq_false, not_false_eq_true, and_true, true_and, and_false, false_and, or_true, true_or, or_false, false_or, and_self, or_self, eq_self]; subst h31; rw [if_neg not6, if_pos rfl, hix_j]) dX0_call_60
    · have h20 : ¬ (inP ((w : Int32).toInt64) 0 6) := b01_0.mp h20
      refine lv_bipush (v := (-3)) hx hb dX0_call_23 rfl ?_
      refine lv_goto (tgt := 60) hx hb dX0_call_25 rfl ?_
      exact q_i hQ hx hb hr hlocks rfl (by simp only [callF, eq_true h5, if_true, if_false, ite_true, ite_false, not_true_eq_false, not_false_eq_true, and_true, true_and, and_false, false_and, or_true, true_or, or_false, false_or, and_self, or_self, eq_self]; rw [if_neg (fun q => h20 (call65 q)), if_neg (fun q => h20 (by rw [q]; exact in06))]) dX0_call_60
  · have h5 : ¬ (callP σ c_) := b01_0.mp h5
    refine lv_bipush (v := (-2)) hx hb dX0_call_8 rfl ?_
    exact q_i hQ hx hb hr hlocks rfl (by simp only [callF, eq_false h5, if_true, if_false, ite_true, ite_false, not_true_eq_false, not_false_eq_true, and_true, true_and, and_false, false_and, or_true, true_or, or_false, false_or, and_self, or_self, eq_self]) dX0_call_10

theorem cw_X0_X0_isSort {R : Room} {s : State} {args : Array Value} (hts : ∀ w ∈ lw_all, w.before args s = true) (hR : rmX0_isSort.frames + 1 ≤ R.frames ∧ 8 + (3 + 11) + rmX0_isSort.locals ≤ R.locals) : CallW R s args RX0 RX0 170 yX0_isSort cX0_isSort 3 (some .boolean) (ws_ yX0_isSort cX0_isSort 3 (some .boolean)) rmX0_isSort 0 0 2 := cwV 2 hts (lw_V q834 q836 qs17 q77 q837) rfl rfl rfl (by decide +kernel) hR
theorem cw_X0_J2_get {R : Room} {s : State} {args : Array Value} (hts : ∀ w ∈ lw_all, w.before args s = true) (hR : rmJ2_get.frames + 1 ≤ R.frames ∧ 8 + (2 + 11) + rmJ2_get.locals ≤ R.locals) : CallW R s args RX0 RJ2 174 yJ2_get cJ2_get 2 (some (.object "java/lang/Object")) (ws_ yJ2_get cJ2_get 2 (some (.object "java/lang/Object"))) rmJ2_get 0 0 1 := cwV 1 hts (lw_V q846 q847 q848 q81 q849) rfl rfl rfl (by decide +kernel) hR
def rmX0_sort : Room := { frames := 4, cells := 0, slots := 0, locals := 89 }
set_option maxHeartbeats 1000000 in
theorem mt_X0_sort (l : Launch) (D : va_G) (dA : Nat → ClassId) (x : Nat) (ad : Nat → Nat) (μ : Lay) (σ : St) (ω : Om) (c_ : Int32) (s_ : Int32) (w : Int32) (hI : Inv σ) (hR : Rel dA μ σ) : Met l yX0_sort (ws_ yX0_sort cX0_sort 5 (some .int)) rmX0_sort (va_Pc [.ref x, .int c_, .int s_, .int w] (cB D dA x ad μ σ ω)) (roQ (.int (sortF σ c_ s_ w))) 0 0 (fun _ => False) := by
  refine w_start (by decide) (Nat.le_of_ble_eq_true rfl) ?_
  intro p e s m args below meth c Q ls hQ hx hb hr hlocks hml hown hnm hts hB hl
  have hown : s.vm.findClass RX0 = some m.cls := hown
  have hl : lv_has ls 5 [(0, .ref x), (1, .int c_), (2, .int s_), (3, .int w)] := hl
  obtain ⟨hP, hK, hN⟩ := hB
  refine lv_aload_n hx hb dX0_sort_0 rfl (lv_at hl 0 rfl) ?_
  refine lv_iload_n hx hb dX0_sort_1 rfl (lv_at hl 1 rfl) ?_
  refine lv_iload_n hx hb dX0_sort_2 rfl (lv_at hl 2 rfl) ?_
  refine dV (v := .int (b01 (sortP σ c_ s_))) (As := [.int c_, .int s_]) (rest := []) ⟨hx, hb, hml, hown, hts⟩ (mt_X0_isSort l D dA x ad μ σ ω c_ s_ hI hR) (cw_X0_X0_isSort hts ⟨Nat.le_of_ble_eq_true rfl, Nat.le_of_ble_eq_true rfl⟩) cB_bw (cB_now hK hN hP) (va_recv hK hP (ci := 1) (q0 := 0) rfl rfl) rfl hl.1 rfl (Nat.le_of_ble_eq_true rfl) dX0_sort_3 ⟨Nat.le_of_ble_eq_true rfl, Nat.le_of_ble_eq_true rfl⟩ ?_
  refine lv_if_ne (tgt := 12) hx hb dX0_sort_6 rfl (fun h6 => ?_) (fun h6 => ?_)
  · have h6 : sortP σ c_ s_ := b01_n h6
    obtain ⟨j, hj, rfl⟩ := in5 h6.1.1
    have hix_j : ix (nI j) = j := ix_nI hj (by decide)
    have hsm := hI.sm j hj
    obtain ⟨i, hi, rfl⟩ := in_sm hsm (by have q := h6.2; rw [hix_j] at q; exact q)
    have his : ix (nI i) = i := ix_nI hi (by omega)
    refine lv_aload_n hx hb dX0_sort_12 rfl (lv_at hl 0 rfl) ?_
    refine va_get (D := D) (ci := 1) (v := .ref (ad 2)) (C := RX0) (T := TX0) (N := 11) hx hb hts in_X0 hown hK hP 0 rfl rfl 5 (by decide) (hts _ q218) (fun _ h9 => h9) rfl dX0_sort_13 ?_
    refine lv_iload_n hx hb dX0_sort_16 rfl (lv_at hl 1 rfl) ?_
    refine wa_aald (v := .ref (μ.cA j)) hx hb hK hP 3 5 rfl rfl rfl (j) (rfl) (by omega) (by decide) (cO_t h6.1.2) dX0_sort_17 ?_
    refine va_get (D := D) (ci := 5) (v := .ref (μ.lA j)) (C := RX7) (T := TX7) (N := 3) hx hb hts in_X7 hown hK (pl1 hP (hR.2.1 j hj h6.1.2).1.1 (hR.2.1 j hj h6.1.2).1.2) 0 rfl rfl 1 (by decide) (hts _ q701) (fun _ h9 => h9) rfl dX0_sort_18 ?_
    refine lv_iload_n hx hb dX0_sort_21 rfl (lv_at hl 2 rfl) ?_
    refine g_sort (rest := []) ⟨hx, hb, hml, hown, hts⟩ (cw_X0_J2_get hts ⟨Nat.le_of_ble_eq_true rfl, Nat.le_of_ble_eq_true rfl⟩) hK hP (hR.2.1 j hj h6.1.2) (hI.sm j hj) hi hl.1 rfl (Nat.le_of_ble_eq_true rfl) dX0_sort_22 ⟨Nat.le_of_ble_eq_true rfl, Nat.le_of_ble_eq_true rfl⟩ ?_
    refine va_castS hx hb hown (hts _ q717) (hK.1 6 _ rfl).2 (va_recv hK (pl1 hP ((hR.2.1 j hj h6.1.2).2.2.2.2 i hi).1 ((hR.2.1 j hj h6.1.2).2.2.2.2 i hi).2) (ci := 6) (q0 := 0) rfl rfl) dX0_sort_25 ?_
    refine lv_astore (lv' := [(4, .ref (μ.sA j i)), (0, .ref x), (1, .int (nI j)), (2, .int (nI i)), (3, .int w)]) hx hb dX0_sort_28 hl (by decide) rfl (fun ls hl => ?_)
    refine lv_iload_n hx hb dX0_sort_30 rfl (lv_at hl 4 rfl) ?_
    refine lv_if_ne (tgt := 42) hx hb dX0_sort_31 rfl (fun h31 => ?_) (fun h31 => ?_)
    · have h31 : ¬ (w = 0) := h31
      refine lv_iload_n hx hb dX0_sort_42 rfl (lv_at hl 4 rfl) ?_
      refine lv_iconst (v := 1) hx hb dX0_sort_43 rfl ?_
      refine lv_icmp_ne (tgt := 55) hx hb dX0_sort_44 rfl (fun h44 => ?_) (fun h44 => ?_)
      · have h44 : ¬ (w = 1) := h44
        refine lv_iload_n hx hb dX0_sort_55 rfl (lv_at hl 4 rfl) ?_
        refine lv_iconst (v := 2) hx hb dX0_sort_56 rfl ?_
        refine lv_icmp_ne (tgt := 68) hx hb dX0_sort_57 rfl (fun h57 => ?_) (fun h57 => ?_)
        · have h57 : ¬ (w = 2) := h57
          refine lv_iload_n hx hb dX0_sort_68 rfl (lv_at hl 4 rfl) ?_
          refine lv_iconst (v := 3) hx hb dX0_sort_69 rfl ?_
          refine lv_icmp_ne (tgt := 81) hx hb dX0_sort_70 rfl (fun h70 => ?_) (fun h70 => ?_)
          · have h70 : ¬ (w = 3) := h70
            refine lv_bipush (v := (-3)) hx hb dX0_sort_81 rfl ?_
            exact q_i hQ hx hb hr hlocks rfl (by simp only [sortF, eq_true h6, hix_j, his, if_true, if_false, ite_true, ite_false, not_true_eq_false, not_false_eq_true, and_true, true_and, and_false, false_and, or_true, true_or, or_false, false_or, and_self, or_self, eq_self]; rw [if_neg (sortw h31 h44 h57 h70)]) dX0_sort_83
          · have h70 : w = 3 := h70
            refine lv_aload hx hb dX0_sort_73 (lv_at hl 0 rfl) ?_
            refine va_get (D := D) (ci := 6) (v := .int (σ.sorts (16 * j + 4 * i + 3))) (C := RX9) (T := TX9) (N := 4) hx hb hts in_X9 hown hK (pl1 hP ((hR.2.1 j hj h6.1.2).2.2.2.2 i hi).1 ((hR.2.1 j hj h6.1.2).2.2.2.2 i hi).2) 0 rfl rfl 1 (by decide) (hts _ q739) (fun x9 h9 => u_same (hts _ q740) x9 h9) rfl dX0_sort_75 ?_
            refine lv_goto (tgt := 83) hx hb dX0_sort_78 rfl ?_
            exact q_i hQ hx hb hr hlocks rfl (by simp only [sortF, eq_true h6, hix_j, his, if_true, if_false, ite_true, ite_false, not_true_eq_false, not_false_eq_true, and_true, true_and, and_false, false_and, or_true, true_or, or_false, false_or, and_self, or_self, eq_self]; subst h70; rw [if_pos in03.2.2.2]; rfl) dX0_sort_83
        · have h57 : w = 2 := h57
          refine lv_aload hx hb dX0_sort_60 (lv_at hl 0 rfl) ?_
          refine va_get (D := D) (ci := 6) (v := .int (σ.sorts (16 * j + 4 * i + 2))) (C := RX9) (T := TX9) (N := 4) hx hb hts in_X9 hown hK (pl1 hP ((hR.2.1 j hj h6.1.2).2.2.2.2 i hi).1 ((hR.2.1 j hj h6.1.2).2.2.2.2 i hi).2) 0 rfl rfl 0 (by decide) (hts _ q735) (fun x9 h9 => u_same (hts _ q736) x9 h9) rfl dX0_sort_62 ?_
          refine lv_goto (tgt := 83) hx hb dX0_sort_65 rfl ?_
          exact q_i hQ hx hb hr hlocks rfl (by simp only [sortF, eq_true h6, hix_j, his, if_true, if_false, ite_true, ite_false, not_true_eq_false, not_false_eq_true, and_true, true_and, and_false, false_and, or_true, true_or, or_false, false_or, and_self, or_self, eq_self]; subst h57; rw [if_pos in03.2.2.1]; rfl) dX0_sort_83
      · have h44 : w = 1 := h44
        refine lv_aload hx hb dX0_sort_47 (lv_at hl 0 rfl) ?_
        refine va_get (D := D) (ci := 6) (v := .int (σ.sorts (16 * j + 4 * i + 1))) (C := RX9) (T := TX9) (N := 4) hx hb hts in_X9 hown hK (pl1 hP ((hR.2.1 j hj h6.1.2).2.2.2.2 i hi).1 ((hR.2.1 j hj h6.1.2).2.2.2.2 i hi).2) 0 rfl rfl 3 (by decide) (hts _ q732) (fun _ h9 => h9) rfl dX0_sort_49 ?_
        refine lv_goto (tgt := 83) hx hb dX0_sort_52 rfl ?_
        exact q_i hQ hx hb hr hlocks rfl (by simp only [sortF, eq_true h6, hix_j, his, if_true, if_false, ite_true, ite_false, not_true_eq_false, not_false_eq_true, and_true, true_and, and_false, false_and, or_true, true_or, or_false, false_or, and_self, or_self, eq_self]; subst h44; rw [if_pos in03.2.1]; rfl) dX0_sort_83
    · have h31 : w = 0 := h31
      refine lv_aload hx hb dX0_sort_34 (lv_at hl 0 rfl) ?_
      refine va_get (D := D) (ci := 6) (v := .int (σ.sorts (16 * j + 4 * i))) (C := RX9) (T := TX9) (N := 4) hx hb hts in_X9 hown hK (pl1 hP ((hR.2.1 j hj h6.1.2).2.2.2.2 i hi).1 ((hR.2.1 j hj h6.1.2).2.2.2.2 i hi).2) 0 rfl rfl 2 (by decide) (hts _ q729) (fun _ h9 => h9) rfl dX0_sort_36 ?_
      refine lv_goto (tgt := 83) hx hb dX0_sort_39 rfl ?_
      exact q_i hQ hx hb hr hlocks rfl (by simp only [sortF, eq_true h6, hix_j, his, if_true, if_false, ite_true, ite_false, not_true_eq_false, not_false_eq_true, and_true, true_and, and_false, false_and, or_true, true_or, or_false, false_or, and_self, or_self, eq_self]; subst h31; rw [if_pos in03.1]; rfl) dX0_sort_83
  · have h6 : ¬ (sortP σ c_ s_) := b01_0.mp h6
    refine lv_bipush (v := (-2)) hx hb dX0_sort_9 rfl ?_
    exact q_i hQ hx hb hr hlocks rfl (by simp only [sortF, eq_false h6, if_true, if_false, ite_true, ite_false, not_true_eq_false, not_false_eq_true, and_true, true_and, and_false, false_and, or_true, true_or, or_false, false_or, and_self, or_self, eq_self]) dX0_sort_11

def rmX0_way : Room := { frames := 1, cells := 0, slots := 0, locals := 25 }
set_option maxHeartbeats 1000000 in
theorem mt_X0_way (l : Launch) (D : va_G) (dA : Nat → ClassId) (x : Nat) (ad : Nat → Nat) (μ : Lay) (σ : St) (ω : Om) (a : Int32) (b : Int32) (hI : Inv σ) (hR : Rel dA μ σ) : Met l yX0_way (ws_ yX0_way cX0_way 3 (some .int)) rmX0_way (va_Pc [.ref x, .int a, .int b] (cB D dA x ad μ σ ω)) (roQ (.int (wayF σ a b))) 0 0 (fun _ => False) := by
  refine w_start (by decide) (Nat.le_of_ble_eq_true rfl) ?_
  intro p e s m args below meth c Q ls hQ hx hb hr hlocks hml hown hnm hts hB hl
  have hown : s.vm.findClass RX0 = some m.cls := hown
  have hl : lv_has ls 3 [(0, .ref x), (1, .int a), (2, .int b)] := hl
  obtain ⟨hP, hK, hN⟩ := hB
  refine lv_iload_n hx hb dX0_way_0 rfl (lv_at hl 1 rfl) ?_
  refine lv_i2l (v := (a : Int32).toInt64) hx hb dX0_way_1 rfl ?_
  refine lv_lconst (v := 0) hx hb dX0_way_2 rfl ?_
  refine lv_ldc2 (v := 5) hx hb hown (hts _ q716) dX0_way_3 ?_
  refine cSi (As := [.long ((a : Int32).toInt64), .long 0, .long 5]) (rest := []) ⟨hx, hb, hml, hown, hts⟩ (mt_X0_in l ((a : Int32).toInt64) 0 5) (cw_X0_X0_in hts ⟨Nat.le_of_ble_eq_true rfl, Nat.le_of_ble_eq_true rfl⟩) w_blT (fun _ _ _ => trivial) rfl hl.1 rfl (Nat.le_of_ble_eq_true rfl) dX0_way_6 ⟨Nat.le_of_ble_eq_true rfl, Nat.le_of_ble_eq_true rfl⟩ ?_
  refine lv_if_eq (tgt := 35) hx hb dX0_way_9 rfl (fun h9 => ?_) (fun h9 => ?_)
  · have h9 : ¬ (inP ((a : Int32).toInt64) 0 5) := b01_0.mp h9
    refine lv_bipush (v := (-2)) hx hb dX0_way_35 rfl ?_
    exact q_i hQ hx hb hr hlocks rfl (by simp only [wayF, eq_false h9, if_true, if_false, ite_true, ite_false, not_true_eq_false, not_false_eq_true, and_true, true_and, and_false, false_and, or_true, true_or, or_false, false_or, and_self, or_self, eq_self]) dX0_way_37
  · have h9 : inP ((a : Int32).toInt64) 0 5 := b01_n h9
    obtain ⟨i, hi, rfl⟩ := in5 h9
    have hix_i : ix (nI i) = i := ix_nI hi (by decide)
    refine lv_iload_n hx hb dX0_way_12 rfl (lv_at hl 2 rfl) ?_
    refine lv_i2l (v := (b : Int32).toInt64) hx hb dX0_way_13 rfl ?_
    refine lv_lconst (v := 0) hx hb dX0_way_14 rfl ?_
    refine lv_ldc2 (v := 5) hx hb hown (hts _ q716) dX0_way_15 ?_
    refine cSi (As := [.long ((b : Int32).toInt64), .long 0, .long 5]) (rest := []) ⟨hx, hb, hml, hown, hts⟩ (mt_X0_in l ((b : Int32).toInt64) 0 5) (cw_X0_X0_in hts ⟨Nat.le_of_ble_eq_true rfl, Nat.le_of_ble_eq_true rfl⟩) w_blT (fun _ _ _ => trivial) rfl hl.1 rfl (Nat.le_of_ble_eq_true rfl) dX0_way_18 ⟨Nat.le_of_ble_eq_true rfl, Nat.le_of_ble_eq_true rfl⟩ ?_
    refine lv_if_eq (tgt := 35) hx hb dX0_way_21 rfl (fun h21 => ?_) (fun h21 => ?_)
    · have h21 : ¬ (inP ((b : Int32).toInt64) 0 5) := b01_0.mp h21
      refine lv_bipush (v := (-2)) hx hb dX0_way_35 rfl ?_
      exact q_i hQ hx hb hr hlocks rfl (by simp only [wayF, eq_true h9, eq_false h21, hix_i, if_true, if_false, ite_true, ite_false, not_true_eq_false, not_false_eq_true, and_true, true_and, and_false, false_and, or_true, true_or, or_false, false_or, and_self, or_self, eq_self]) dX0_way_37
    · have h21 : inP ((b : Int32).toInt64) 0 5 := b01_n h21
      obtain ⟨j, hj, rfl⟩ := in5 h21
      have hix_j : ix (nI j) = j := ix_nI hj (by decide)
      refine lv_aload_n hx hb dX0_way_24 rfl (lv_at hl 0 rfl) ?_
      refine va_get (D := D) (ci := 1) (v := .ref (ad 1)) (C := RX0) (T := TX0) (N := 11) hx hb hts in_X0 hown hK hP 0 rfl rfl 4 (by decide) (hts _ q216) (fun _ h9 => h9) rfl dX0_way_25 ?_
      refine lv_iload_n hx hb dX0_way_28 rfl (lv_at hl 1 rfl) ?_
      refine wa_aald (v := .ref (ad (6 + i))) hx hb hK hP 2 4 rfl rfl rfl (i) (rfl) (by omega) (by decide) (rfl) dX0_way_29 ?_
      refine lv_iload_n hx hb dX0_way_30 rfl (lv_at hl 2 rfl) ?_
      refine wa_sald (v := σ.ways (6 * i + j)) hx hb hK (way_row hP (i := i) (by omega)) 0 2 rfl rfl (j) (rfl) (by omega) (by decide) (rfl) dX0_way_31 ?_
      refine lv_goto (tgt := 37) hx hb dX0_way_32 rfl ?_
      exact q_i hQ hx hb hr hlocks rfl (by simp only [wayF, eq_true h9, eq_true h21, hix_i, hix_j, if_true, if_false, ite_true, ite_false, not_true_eq_false, not_false_eq_true, and_true, true_and, and_false, false_and, or_true, true_or, or_false, false_or, and_self, or_self, eq_self]) dX0_way_37

theorem cw_X0_X0_isBag {R : Room} {s : State} {args : Array Value} (hts : ∀ w ∈ lw_all, w.before args s = true) (hR : rmX0_isBag.frames + 1 ≤ R.frames ∧ 8 + (1 + 11) + rmX0_isBag.locals ≤ R.locals) : CallB R s args RX0 190 yX0_isBag cX0_isBag 1 (some .boolean) (ws_ yX0_isBag cX0_isBag 1 (some .boolean)) rmX0_isBag 0 0 1 ∧ (Cond.static yX0_isBag).before args s = true := va_cwS 1 hts (lw_S q866 q867 q77 q868) rfl rfl rfl (by decide +kernel) hR
theorem cw_X0_X0_mayBe {R : Room} {s : State} {args : Array Value} (hts : ∀ w ∈ lw_all, w.before args s = true) (hR : rmX0_mayBe.frames + 1 ≤ R.frames ∧ 8 + (4 + 11) + rmX0_mayBe.locals ≤ R.locals) : CallW R s args RX0 RX0 193 yX0_mayBe cX0_mayBe 4 (some .boolean) (ws_ yX0_mayBe cX0_mayBe 4 (some .boolean)) rmX0_mayBe 0 0 1 := cwV 1 hts (lw_V q870 q872 qs19 q77 q873) rfl rfl rfl (by decide +kernel) hR
def rmX0_may : Room := { frames := 3, cells := 0, slots := 0, locals := 67 }
set_option maxHeartbeats 1000000 in
theorem mt_X0_may (l : Launch) (D : va_G) (dA : Nat → ClassId) (x : Nat) (ad : Nat → Nat) (μ : Lay) (σ : St) (ω : Om) (bag : Int32) (hI : Inv σ) (hR : Rel dA μ σ) : Met l yX0_may (ws_ yX0_may cX0_may 2 (some .int)) rmX0_may (va_Pc [.ref x, .int bag] (cB D dA x ad μ σ ω)) (roQ (.int (mayF σ bag))) 0 0 (fun _ => False) := by
  refine w_start (by decide) (Nat.le_of_ble_eq_true rfl) ?_
  intro p e s m args below meth c Q ls hQ hx hb hr hlocks hml hown hnm hts hB hl
  have hown : s.vm.findClass RX0 = some m.cls := hown
  have hl : lv_has ls 2 [(0, .ref x), (1, .int bag)] := hl
  obtain ⟨hP, hK, hN⟩ := hB
  refine lv_iload_n hx hb dX0_may_0 rfl (lv_at hl 1 rfl) ?_
  refine cSi (As := [.int bag]) (rest := []) ⟨hx, hb, hml, hown, hts⟩ (mt_X0_isBag l bag) (cw_X0_X0_isBag hts ⟨Nat.le_of_ble_eq_true rfl, Nat.le_of_ble_eq_true rfl⟩) w_blT (fun _ _ _ => trivial) rfl hl.1 rfl (Nat.le_of_ble_eq_true rfl) dX0_may_1 ⟨Nat.le_of_ble_eq_true rfl, Nat.le_of_ble_eq_true rfl⟩ ?_
  refine lv_if_ne (tgt := 12) hx hb dX0_may_4 rfl (fun h4 => ?_) (fun h4 => ?_)
  · have h4 : bagP bag := b01_n h4
    refine lv_aload_n hx hb dX0_may_12 rfl (lv_at hl 0 rfl) ?_
    refine lv_iload_n hx hb dX0_may_13 rfl (lv_at hl 1 rfl) ?_
    refine dV (v := .int (b01 (mayP σ bag))) (As := [.int bag]) (rest := []) ⟨hx, hb, hml, hown, hts⟩ (mt_X0_mayBe l D dA x ad μ σ ω bag hI hR) (cw_X0_X0_mayBe hts ⟨Nat.le_of_ble_eq_true rfl, Nat.le_of_ble_eq_true rfl⟩) cB_bw (cB_now hK hN hP) (va_recv hK hP (ci := 1) (q0 := 0) rfl rfl) rfl hl.1 rfl (Nat.le_of_ble_eq_true rfl) dX0_may_14 ⟨Nat.le_of_ble_eq_true rfl, Nat.le_of_ble_eq_true rfl⟩ ?_
    refine lv_if_eq (tgt := 24) hx hb dX0_may_17 rfl (fun h17 => ?_) (fun h17 => ?_)
    · have h17 : ¬ (mayP σ bag) := b01_0.mp h17
      refine lv_iconst (v := 0) hx hb dX0_may_24 rfl ?_
      exact q_i hQ hx hb hr hlocks rfl (by simp only [mayF, b01, eq_true h4, eq_false h17, if_true, if_false, ite_true, ite_false, not_true_eq_false, not_false_eq_true, and_true, true_and, and_false, false_and, or_true, true_or, or_false, false_or, and_self, or_self, eq_self]) dX0_may_25
    · have h17 : mayP σ bag := b01_n h17
      refine lv_iconst (v := 1) hx hb dX0_may_20 rfl ?_
      refine lv_goto (tgt := 25) hx hb dX0_may_21 rfl ?_
      exact q_i hQ hx hb hr hlocks rfl (by simp only [mayF, b01, eq_true h4, eq_true h17, if_true, if_false, ite_true, ite_false, not_true_eq_false, not_false_eq_true, and_true, true_and, and_false, false_and, or_true, true_or, or_false, false_or, and_self, or_self, eq_self]) dX0_may_25
  · have h4 : ¬ (bagP bag) := b01_0.mp h4
    refine lv_bipush (v := (-3)) hx hb dX0_may_7 rfl ?_
    refine lv_goto (tgt := 25) hx hb dX0_may_9 rfl ?_
    exact q_i hQ hx hb hr hlocks rfl (by simp only [mayF, b01, eq_false h4, if_true, if_false, ite_true, ite_false, not_true_eq_false, not_false_eq_true, and_true, true_and, and_false, false_and, or_true, true_or, or_false, false_or, and_self, or_self, eq_self]) dX0_may_25

theorem cw_X0_X8_isMet_S_X9 {R : Room} {s : State} {args : Array Value} (hts : ∀ w ∈ lw_all, w.before args s = true) (hR : rmX8_isMet_S.frames + 1 ≤ R.frames ∧ 8 + (2 + 11) + rmX8_isMet_S.locals ≤ R.locals) : va_CU R s args RX0 RX9 "CarryUp$Want" 196 ⟨"CarryUp$Sort", "isMet", "(I)Z"⟩ yX8_isMet cX8_isMet 2 (some .boolean) (ws_ yX8_isMet cX8_isMet 2 (some .boolean)) rmX8_isMet_S 0 0 1 := va_cwU 1 hts (lw_app (lwm5 q882 q883 q885 q886 q105) (lw_meth q887)) rfl rfl rfl rfl (by decide +kernel) hR
theorem cw_X0_X0_parts {R : Room} {s : State} {args : Array Value} (hts : ∀ w ∈ lw_all, w.before args s = true) (hR : rmX0_parts.frames + 1 ≤ R.frames ∧ 8 + (3 + 11) + rmX0_parts.locals ≤ R.locals) : CallW R s args RX0 RX0 199 yX0_parts cX0_parts 3 (some .int) (ws_ yX0_parts cX0_parts 3 (some .int)) rmX0_parts 0 0 0 := cwV 0 hts (lw_V q888 q890 qs21 q77 q891) rfl rfl rfl (by decide +kernel) hR
theorem cw_X0_X8_left_S_X9 {R : Room} {s : State} {args : Array Value} (hts : ∀ w ∈ lw_all, w.before args s = true) (hR : rmX8_left_S.frames + 1 ≤ R.frames ∧ 8 + (4 + 11) + rmX8_left_S.locals ≤ R.locals) : va_CU R s args RX0 RX9 "CarryUp$Want" 202 ⟨"CarryUp$Sort", "left", "(II)I"⟩ yX8_left cX8_left 4 (some .int) (ws_ yX8_left cX8_left 4 (some .int)) rmX8_left_S 0 0 2 := va_cwU 2 hts (lw_app (lwm5 q892 q893 q895 q896 q105) (lw_meth q897)) rfl rfl rfl rfl (by decide +kernel) hR
def rmX0_does : Room := { frames := 4, cells := 0, slots := 0, locals := 89 }
set_option maxHeartbeats 1000000 in
theorem mt_X0_does (l : Launch) (D : va_G) (dA : Nat → ClassId) (x : Nat) (ad : Nat → Nat) (μ : Lay) (σ : St) (ω : Om) (bag : Int32) (c_ : Int32) (s_ : Int32) (hI : Inv σ) (hR : Rel dA μ σ) : Met l yX0_does (ws_ yX0_does cX0_does 5 (some .int)) rmX0_does (va_Pc [.ref x, .int bag, .int c_, .int s_] (cB D dA x ad μ σ ω)) (roQ (.int (doesF σ bag c_ s_))) 0 0 (fun _ => False) := by
  refine w_start (by decide) (Nat.le_of_ble_eq_true rfl) ?_
  intro p e s m args below meth c Q ls hQ hx hb hr hlocks hml hown hnm hts hB hl
  have hown : s.vm.findClass RX0 = some m.cls := hown
  have hl : lv_has ls 5 [(0, .ref x), (1, .int bag), (2, .int c_), (3, .int s_)] := hl
  obtain ⟨hP, hK, hN⟩ := hB
  refine lv_aload_n hx hb dX0_does_0 rfl (lv_at hl 0 rfl) ?_
  refine lv_iload_n hx hb dX0_does_1 rfl (lv_at hl 2 rfl) ?_
  refine lv_iload_n hx hb dX0_does_2 rfl (lv_at hl 3 rfl) ?_
  refine dV (v := .int (b01 (sortP σ c_ s_))) (As := [.int c_, .int s_]) (rest := []) ⟨hx, hb, hml, hown, hts⟩ (mt_X0_isSort l D dA x ad μ σ ω c_ s_ hI hR) (cw_X0_X0_isSort hts ⟨Nat.le_of_ble_eq_true rfl, Nat.le_of_ble_eq_true rfl⟩) cB_bw (cB_now hK hN hP) (va_recv hK hP (ci := 1) (q0 := 0) rfl rfl) rfl hl.1 rfl (Nat.le_of_ble_eq_true rfl) dX0_does_3 ⟨Nat.le_of_ble_eq_true rfl, Nat.le_of_ble_eq_true rfl⟩ ?_
  refine lv_if_ne (tgt := 12) hx hb dX0_does_6 rfl (fun h6 => ?_) (fun h6 => ?_)
  · have h6 : sortP σ c_ s_ := b01_n h6
    obtain ⟨j, hj, rfl⟩ := in5 h6.1.1
    have hix_j : ix (nI j) = j := ix_nI hj (by decide)
    have hsm := hI.sm j hj
    obtain ⟨i, hi, rfl⟩ := in_sm hsm (by have q := h6.2; rw [hix_j] at q; exact q)
    have his : ix (nI i) = i := ix_nI hi (by omega)
    refine lv_iload_n hx hb dX0_does_12 rfl (lv_at hl 1 rfl) ?_
    refine cSi (As := [.int bag]) (rest := []) ⟨hx, hb, hml, hown, hts⟩ (mt_X0_isBag l bag) (cw_X0_X0_isBag hts ⟨Nat.le_of_ble_eq_true rfl, Nat.le_of_ble_eq_true rfl⟩) w_blT (fun _ _ _ => trivial) rfl hl.1 rfl (Nat.le_of_ble_eq_true rfl) dX0_does_13 ⟨Nat.le_of_ble_eq_true rfl, Nat.le_of_ble_eq_true rfl⟩ ?_
    refine lv_if_ne (tgt := 22) hx hb dX0_does_16 rfl (fun h16 => ?_) (fun h16 => ?_)
    · have h16 : bagP bag := b01_n h16
      refine lv_aload_n hx hb dX0_does_22 rfl (lv_at hl 0 rfl) ?_
      refine va_get (D := D) (ci := 1) (v := .ref (ad 2)) (C := RX0) (T := TX0) (N := 11) hx hb hts in_X0 hown hK hP 0 rfl rfl 5 (by decide) (hts _ q218) (fun _ h9 => h9) rfl dX0_does_23 ?_
      refine lv_iload_n hx hb dX0_does_26 rfl (lv_at hl 2 rfl) ?_
      refine wa_aald (v := .ref (μ.cA j)) hx hb hK hP 3 5 rfl rfl rfl (j) (rfl) (by omega) (by decide) (cO_t h6.1.2) dX0_does_27 ?_
      refine va_get (D := D) (ci := 5) (v := .ref (μ.lA j)) (C := RX7) (T := TX7) (N := 3) hx hb hts in_X7 hown hK (pl1 hP (hR.2.1 j hj h6.1.2).1.1 (hR.2.1 j hj h6.1.2).1.2) 0 rfl rfl 1 (by decide) (hts _ q701) (fun _ h9 => h9) rfl dX0_does_28 ?_
      refine lv_iload_n hx hb dX0_does_31 rfl (lv_at hl 3 rfl) ?_
      refine g_sort (rest := []) ⟨hx, hb, hml, hown, hts⟩ (cw_X0_J2_get hts ⟨Nat.le_of_ble_eq_true rfl, Nat.le_of_ble_eq_true rfl⟩) hK hP (hR.2.1 j hj h6.1.2) (hI.sm j hj) hi hl.1 rfl (Nat.le_of_ble_eq_true rfl) dX0_does_32 ⟨Nat.le_of_ble_eq_true rfl, Nat.le_of_ble_eq_true rfl⟩ ?_
      refine va_castS hx hb hown (hts _ q717) (hK.1 6 _ rfl).2 (va_recv hK (pl1 hP ((hR.2.1 j hj h6.1.2).2.2.2.2 i hi).1 ((hR.2.1 j hj h6.1.2).2.2.2.2 i hi).2) (ci := 6) (q0 := 0) rfl rfl) dX0_does_35 ?_
      refine lv_astore (lv' := [(4, .ref (μ.sA j i)), (0, .ref x), (1, .int bag), (2, .int (nI j)), (3, .int (nI i))]) hx hb dX0_does_38 hl (by decide) rfl (fun ls hl => ?_)
      refine lv_aload hx hb dX0_does_40 (lv_at hl 0 rfl) ?_
      refine lv_iload_n hx hb dX0_does_42 rfl (lv_at hl 2 rfl) ?_
      refine dU (v := .int (b01 (metP bag (σ.sorts (16 * j + 4 * i + 2)) (σ.sorts (16 * j + 4 * i + 3))))) (As := [.int bag]) (rest := []) ⟨hx, hb, hml, hown, hts⟩ (mt_X8_isMet_S l D dA (μ.sA j i) (σ.sorts (16 * j + 4 * i + 2)) (σ.sorts (16 * j + 4 * i + 3)) (σ.sorts (16 * j + 4 * i)) (σ.sorts (16 * j + 4 * i + 1)) bag) (cw_X0_X8_isMet_S_X9 hts ⟨Nat.le_of_ble_eq_true rfl, Nat.le_of_ble_eq_true rfl⟩) pB_bw (pB_now hK (pl1 hP ((hR.2.1 j hj h6.1.2).2.2.2.2 i hi).1 ((hR.2.1 j hj h6.1.2).2.2.2.2 i hi).2)) (va_recv hK (pl1 hP ((hR.2.1 j hj h6.1.2).2.2.2.2 i hi).1 ((hR.2.1 j hj h6.1.2).2.2.2.2 i hi).2) (ci := 6) (q0 := 0) rfl rfl) rfl hl.1 rfl (Nat.le_of_ble_eq_true rfl) dX0_does_43 ⟨Nat.le_of_ble_eq_true rfl, Nat.le_of_ble_eq_true rfl⟩ ?_
      refine w_topi (y := b01 (¬ leftF σ bag j i = -1)) (b01_iff (met_left (bag_by h16) j i)) ?_
      refine lv_if_eq (tgt := 62) hx hb dX0_does_46 rfl (fun h46 => ?_) (fun h46 => ?_)
      · have h46 : ¬ (¬ leftF σ bag j i = -1) := b01_0.mp h46
        refine lv_iconst (v := (-1)) hx hb dX0_does_62 rfl ?_
        exact q_i hQ hx hb hr hlocks rfl (by simp only [doesF, eq_true h6, eq_true h16, hix_j, his, if_true, if_false, ite_true, ite_false, not_true_eq_false, not_false_eq_true, and_true, true_and, and_false, false_and, or_true, true_or, or_false, false_or, and_self, or_self, eq_self]; exact (Classical.not_not.mp h46).symm) dX0_does_63
      · have h46 : ¬ leftF σ bag j i = -1 := b01_n h46
        refine lv_aload hx hb dX0_does_49 (lv_at hl 0 rfl) ?_
        refine lv_iload_n hx hb dX0_does_51 rfl (lv_at hl 2 rfl) ?_
        refine lv_aload_n hx hb dX0_does_52 rfl (lv_at hl 1 rfl) ?_
        refine dV (v := .int (ptF σ.tools 8)) (As := []) (rest := [.int bag, .ref (μ.sA j i)]) ⟨hx, hb, hml, hown, hts⟩ (mt_X0_parts l D dA x ad μ σ ω hI hR) (cw_X0_X0_parts hts ⟨Nat.le_of_ble_eq_true rfl, Nat.le_of_ble_eq_true rfl⟩) cB_bw (cB_now hK hN hP) (va_recv hK hP (ci := 1) (q0 := 0) rfl rfl) rfl hl.1 rfl (Nat.le_of_ble_eq_true rfl) dX0_does_53 ⟨Nat.le_of_ble_eq_true rfl, Nat.le_of_ble_eq_true rfl⟩ ?_
        refine dU (v := .int (lefW bag (σ.sorts (16 * j + 4 * i + 2)) (σ.sorts (16 * j + 4 * i + 3)) (ptF σ.tools 8))) (As := [.int bag, .int (ptF σ.tools 8)]) (rest := []) ⟨hx, hb, hml, hown, hts⟩ (mt_X8_left_S l D dA (μ.sA j i) (σ.sorts (16 * j + 4 * i + 2)) (σ.sorts (16 * j + 4 * i + 3)) (σ.sorts (16 * j + 4 * i)) (σ.sorts (16 * j + 4 * i + 1)) bag (ptF σ.tools 8)) (cw_X0_X8_left_S_X9 hts ⟨Nat.le_of_ble_eq_true rfl, Nat.le_of_ble_eq_true rfl⟩) pB_bw (pB_now hK (pl1 hP ((hR.2.1 j hj h6.1.2).2.2.2.2 i hi).1 ((hR.2.1 j hj h6.1.2).2.2.2.2 i hi).2)) (va_recv hK (pl1 hP ((hR.2.1 j hj h6.1.2).2.2.2.2 i hi).1 ((hR.2.1 j hj h6.1.2).2.2.2.2 i hi).2) (ci := 6) (q0 := 0) rfl rfl) rfl hl.1 rfl (Nat.le_of_ble_eq_true rfl) dX0_does_56 ⟨Nat.le_of_ble_eq_true rfl, Nat.le_of_ble_eq_true rfl⟩ ?_
        refine w_topi (y := leftF σ bag j i) (lef_eq hI (bag_by h16) hj (by omega) ((met_left (bag_by h16) j i).mpr h46)) ?_
        refine lv_goto (tgt := 63) hx hb dX0_does_59 rfl ?_
        exact q_i hQ hx hb hr hlocks rfl (by simp only [doesF, eq_true h6, eq_true h16, hix_j, his, if_true, if_false, ite_true, ite_false, not_true_eq_false, not_false_eq_true, and_true, true_and, and_false, false_and, or_true, true_or, or_false, false_or, and_self, or_self, eq_self]) dX0_does_63
    · have h16 : ¬ (bagP bag) := b01_0.mp h16
      refine lv_bipush (v := (-3)) hx hb dX0_does_19 rfl ?_
      exact q_i hQ hx hb hr hlocks rfl (by simp only [doesF, eq_true h6, eq_false h16, hix_j, his, if_true, if_false, ite_true, ite_false, not_true_eq_false, not_false_eq_true, and_true, true_and, and_false, false_and, or_true, true_or, or_false, false_or, and_self, or_self, eq_self]) dX0_does_21
  · have h6 : ¬ (sortP σ c_ s_) := b01_0.mp h6
    refine lv_bipush (v := (-2)) hx hb dX0_does_9 rfl ?_
    exact q_i hQ hx hb hr hlocks rfl (by simp only [doesF, eq_false h6, if_true, if_false, ite_true, ite_false, not_true_eq_false, not_false_eq_true, and_true, true_and, and_false, false_and, or_true, true_or, or_false, false_or, and_self, or_self, eq_self]) dX0_does_11

theorem cw_X0_X0_part {R : Room} {s : State} {args : Array Value} (hts : ∀ w ∈ lw_all, w.before args s = true) (hR : rmX0_part.frames + 1 ≤ R.frames ∧ 8 + (11 + 11) + rmX0_part.locals ≤ R.locals) : CallB R s args RX0 207 yX0_part cX0_part 11 (some .long) (ws_ yX0_part cX0_part 11 (some .long)) rmX0_part 0 0 3 ∧ (Cond.static yX0_part).before args s = true := va_cwS 3 hts (lw_S q905 q906 q77 q907) rfl rfl rfl (by decide +kernel) hR
def rmX0_chance : Room := { frames := 3, cells := 0, slots := 0, locals := 67 }
set_option maxHeartbeats 1000000 in
theorem mt_X0_chance (l : Launch) (D : va_G) (dA : Nat → ClassId) (x : Nat) (ad : Nat → Nat) (μ : Lay) (σ : St) (ω : Om) (bag : Int32) (c_ : Int32) (w : Int32) (hI : Inv σ) (hR : Rel dA μ σ) : Met l yX0_chance (ws_ yX0_chance cX0_chance 6 (some .int)) rmX0_chance (va_Pc [.ref x, .int bag, .int c_, .int w] (cB D dA x ad μ σ ω)) (roQ (.int (chanceF σ bag c_ w))) 0 0 (fun _ => False) := by
  refine w_start (by decide) (Nat.le_of_ble_eq_true rfl) ?_
  intro p e s m args below meth c Q ls hQ hx hb hr hlocks hml hown hnm hts hB hl
  have hown : s.vm.findClass RX0 = some m.cls := hown
  have hl : lv_has ls 6 [(0, .ref x), (1, .int bag), (2, .int c_), (3, .int w)] := hl
  obtain ⟨hP, hK, hN⟩ := hB
  refine lv_aload_n hx hb dX0_chance_0 rfl (lv_at hl 0 rfl) ?_
  refine lv_iload_n hx hb dX0_chance_1 rfl (lv_at hl 2 rfl) ?_
  refine dV (v := .int (b01 (useP σ c_))) (As := [.int c_]) (rest := []) ⟨hx, hb, hml, hown, hts⟩ (mt_X0_isCall l D dA x ad μ σ ω c_ hI hR) (cw_X0_X0_isCall hts ⟨Nat.le_of_ble_eq_true rfl, Nat.le_of_ble_eq_true rfl⟩) cB_bw (cB_now hK hN hP) (va_recv hK hP (ci := 1) (q0 := 0) rfl rfl) rfl hl.1 rfl (Nat.le_of_ble_eq_true rfl) dX0_chance_2 ⟨Nat.le_of_ble_eq_true rfl, Nat.le_of_ble_eq_true rfl⟩ ?_
  refine lv_if_ne (tgt := 11) hx hb dX0_chance_5 rfl (fun h5 => ?_) (fun h5 => ?_)
  · have h5 : useP σ c_ := b01_n h5
    obtain ⟨j, hj, rfl⟩ := in5 h5.1.1
    have hix_j : ix (nI j) = j := ix_nI hj (by decide)
    have hsm := hI.sm j hj
    refine lv_iload_n hx hb dX0_chance_11 rfl (lv_at hl 1 rfl) ?_
    refine cSi (As := [.int bag]) (rest := []) ⟨hx, hb, hml, hown, hts⟩ (mt_X0_isBag l bag) (cw_X0_X0_isBag hts ⟨Nat.le_of_ble_eq_true rfl, Nat.le_of_ble_eq_true rfl⟩) w_blT (fun _ _ _ => trivial) rfl hl.1 rfl (Nat.le_of_ble_eq_true rfl) dX0_chance_12 ⟨Nat.le_of_ble_eq_true rfl, Nat.le_of_ble_eq_true rfl⟩ ?_
    refine lv_if_eq (tgt := 28) hx hb dX0_chance_15 rfl (fun h15 => ?_) (fun h15 => ?_)
    · have h15 : ¬ (bagP bag) := b01_0.mp h15
      refine lv_bipush (v := (-3)) hx hb dX0_chance_28 rfl ?_
      exact q_i hQ hx hb hr hlocks rfl (by simp only [chanceF, eq_true h5, eq_false h15, hix_j, if_true, if_false, ite_true, ite_false, not_true_eq_false, not_false_eq_true, and_true, true_and, and_false, false_and, or_true, true_or, or_false, false_or, and_self, or_self, eq_self]) dX0_chance_30
    · have h15 : bagP bag := b01_n h15
      refine lv_iload_n hx hb dX0_chance_18 rfl (lv_at hl 3 rfl) ?_
      refine lv_i2l (v := (w : Int32).toInt64) hx hb dX0_chance_19 rfl ?_
      refine lv_lconst (v := 0) hx hb dX0_chance_20 rfl ?_
      refine lv_lconst (v := 1) hx hb dX0_chance_21 rfl ?_
      refine cSi (As := [.long ((w : Int32).toInt64), .long 0, .long 1]) (rest := []) ⟨hx, hb, hml, hown, hts⟩ (mt_X0_in l ((w : Int32).toInt64) 0 1) (cw_X0_X0_in hts ⟨Nat.le_of_ble_eq_true rfl, Nat.le_of_ble_eq_true rfl⟩) w_blT (fun _ _ _ => trivial) rfl hl.1 rfl (Nat.le_of_ble_eq_true rfl) dX0_chance_22 ⟨Nat.le_of_ble_eq_true rfl, Nat.le_of_ble_eq_true rfl⟩ ?_
      refine lv_if_ne (tgt := 31) hx hb dX0_chance_25 rfl (fun h25 => ?_) (fun h25 => ?_)
      · have h25 : inP ((w : Int32).toInt64) 0 1 := b01_n h25
        refine lv_iconst (v := 0) hx hb dX0_chance_31 rfl ?_
        refine lv_istore (lv' := [(4, .int 0), (0, .ref x), (1, .int bag), (2, .int (nI j)), (3, .int w)]) hx hb dX0_chance_32 hl (by decide) rfl (fun ls hl => ?_)
        refine lv_iconst (v := 0) hx hb dX0_chance_34 rfl ?_
        refine lv_istore (lv' := [(5, .int 0), (4, .int 0), (0, .ref x), (1, .int bag), (2, .int (nI j)), (3, .int w)]) hx hb dX0_chance_35 hl (by decide) rfl (fun ls hl => ?_)
        have hL37_1 : ∀ (n_2 : Nat) (k : Nat) (x5 : Int32) (x4 : Int32) (ls : Array Slot), (4 - k) < n_2 → (k ≤ σ.sm j) → x5 = (nI k) → x4 = (chS σ bag j k) → lv_has ls 6 [(5, .int x5), (4, .int x4), (0, .ref x), (1, .int bag), (2, .int (nI j)), (3, .int w)] → W p l e rmX0_chance s m args below meth c s.heap [] 0 0 Q (F0 m 37 ls []) := by
          intro n_2
          induction n_2 with
          | zero => intro k x5 x4 ls hm_4; exact absurd hm_4 (Nat.not_lt_zero _)
          | succ n_2 ih_3 =>
            intro k x5 x4 ls hm_4 hk ex5 ex4 hl
            subst ex5 ex4
            refine lv_iload hx hb dX0_chance_37 (lv_at hl 0 rfl) ?_
            refine lv_aload_n hx hb dX0_chance_39 rfl (lv_at hl 2 rfl) ?_
            refine va_get (D := D) (ci := 1) (v := .ref (ad 2)) (C := RX0) (T := TX0) (N := 11) hx hb hts in_X0 hown hK hP 0 rfl rfl 5 (by decide) (hts _ q218) (fun _ h9 => h9) rfl dX0_chance_40 ?_
            refine lv_iload_n hx hb dX0_chance_43 rfl (lv_at hl 4 rfl) ?_
            refine wa_aald (v := .ref (μ.cA j)) hx hb hK hP 3 5 rfl rfl rfl (j) (rfl) (by omega) (by decide) (cO_t h5.1.2) dX0_chance_44 ?_
            refine va_get (D := D) (ci := 5) (v := .ref (μ.lA j)) (C := RX7) (T := TX7) (N := 3) hx hb hts in_X7 hown hK (pl1 hP (hR.2.1 j hj h5.1.2).1.1 (hR.2.1 j hj h5.1.2).1.2) 0 rfl rfl 1 (by decide) (hts _ q701) (fun _ h9 => h9) rfl dX0_chance_45 ?_
            refine dV (v := .int (nI (σ.sm j))) (As := []) (rest := [.int (nI k)]) ⟨hx, hb, hml, hown, hts⟩ (mt_J2_size l D dA (μ.lA j) (μ.eA j) (μ.mA j) (σ.sm j)) (cw_X0_J2_size hts ⟨Nat.le_of_ble_eq_true rfl, Nat.le_of_ble_eq_true rfl⟩) pB_bw (pB_now hK (pl1 hP (hR.2.1 j hj h5.1.2).2.2.1.1 (hR.2.1 j hj h5.1.2).2.2.1.2)) (va_recv hK (pl1 hP (hR.2.1 j hj h5.1.2).2.2.1.1 (hR.2.1 j hj h5.1.2).2.2.1.2) (ci := 8) (q0 := 0) rfl rfl) rfl hl.1 rfl (Nat.le_of_ble_eq_true rfl) dX0_chance_48 ⟨Nat.le_of_ble_eq_true rfl, Nat.le_of_ble_eq_true rfl⟩ ?_
            refine lv_icmp_ge (tgt := 113) hx hb dX0_chance_51 rfl (fun h51 => ?_) (fun h51 => ?_)
            · have h51 : (σ.sm j) ≤ k := (nz_le (a := (σ.sm j)) (b := k) rfl rfl (by omega) (by omega)).mp h51
              have hk_ : k = σ.sm j := by omega
              subst hk_
              refine lv_iload hx hb dX0_chance_113 (lv_at hl 1 rfl) ?_
              refine lv_i2l (v := (chS σ bag j (σ.sm j) : Int32).toInt64) hx hb dX0_chance_115 rfl ?_
              refine lv_aload_n hx hb dX0_chance_116 rfl (lv_at hl 2 rfl) ?_
              refine va_get (D := D) (ci := 1) (v := .ref (ad 2)) (C := RX0) (T := TX0) (N := 11) hx hb hts in_X0 hown hK hP 0 rfl rfl 5 (by decide) (hts _ q218) (fun _ h9 => h9) rfl dX0_chance_117 ?_
              refine lv_iload_n hx hb dX0_chance_120 rfl (lv_at hl 4 rfl) ?_
              refine wa_aald (v := .ref (μ.cA j)) hx hb hK hP 3 5 rfl rfl rfl (j) (rfl) (by omega) (by decide) (cO_t h5.1.2) dX0_chance_121 ?_
              refine va_get (D := D) (ci := 5) (v := .int (total σ j)) (C := RX7) (T := TX7) (N := 3) hx hb hts in_X7 hown hK (pl1 hP (hR.2.1 j hj h5.1.2).1.1 (hR.2.1 j hj h5.1.2).1.2) 0 rfl rfl 2 (by decide) (hts _ q704) (fun _ h9 => h9) rfl dX0_chance_122 ?_
              refine lv_i2l (v := (total σ j : Int32).toInt64) hx hb dX0_chance_125 rfl ?_
              refine lv_iload_n hx hb dX0_chance_126 rfl (lv_at hl 5 rfl) ?_
              refine cSl (As := [.long ((chS σ bag j (σ.sm j) : Int32).toInt64), .long ((total σ j : Int32).toInt64), .int w]) (rest := []) ⟨hx, hb, hml, hown, hts⟩ (mt_X0_part l ((chS σ bag j (σ.sm j) : Int32).toInt64) ((total σ j : Int32).toInt64) w (total_ne hI hj (by have q := h5.2; rw [hix_j] at q; exact q))) (cw_X0_X0_part hts ⟨Nat.le_of_ble_eq_true rfl, Nat.le_of_ble_eq_true rfl⟩) w_blT (fun _ _ _ => trivial) rfl hl.1 rfl (Nat.le_of_ble_eq_true rfl) dX0_chance_127 ⟨Nat.le_of_ble_eq_true rfl, Nat.le_of_ble_eq_true rfl⟩ ?_
              refine lv_l2i (v := (lowF ((chS σ bag j (σ.sm j) : Int32).toInt64) ((total σ j : Int32).toInt64) w : Int64).toInt32) hx hb dX0_chance_130 rfl ?_
              exact q_i hQ hx hb hr hlocks rfl (by simp only [chanceF, eq_true h5, eq_true h15, eq_true h25, eq_true h51, hix_j, if_true, if_false, ite_true, ite_false, not_true_eq_false, not_false_eq_true, and_true, true_and, and_false, false_and, or_true, true_or, or_false, false_or, and_self, or_self, eq_self]) dX0_chance_131
            · have h51 : ¬ ((σ.sm j) ≤ k) := fun z9 => h51 ((nz_le (a := (σ.sm j)) (b := k) rfl rfl (by omega) (by omega)).mpr z9)
              refine lv_iload hx hb dX0_chance_54 (lv_at hl 1 rfl) ?_
              refine lv_aload_n hx hb dX0_chance_56 rfl (lv_at hl 2 rfl) ?_
              refine va_get (D := D) (ci := 1) (v := .ref (ad 2)) (C := RX0) (T := TX0) (N := 11) hx hb hts in_X0 hown hK hP 0 rfl rfl 5 (by decide) (hts _ q218) (fun _ h9 => h9) rfl dX0_chance_57 ?_
              refine lv_iload_n hx hb dX0_chance_60 rfl (lv_at hl 4 rfl) ?_
              refine wa_aald (v := .ref (μ.cA j)) hx hb hK hP 3 5 rfl rfl rfl (j) (rfl) (by omega) (by decide) (cO_t h5.1.2) dX0_chance_61 ?_
              refine va_get (D := D) (ci := 5) (v := .ref (μ.lA j)) (C := RX7) (T := TX7) (N := 3) hx hb hts in_X7 hown hK (pl1 hP (hR.2.1 j hj h5.1.2).1.1 (hR.2.1 j hj h5.1.2).1.2) 0 rfl rfl 1 (by decide) (hts _ q701) (fun _ h9 => h9) rfl dX0_chance_62 ?_
              refine lv_iload hx hb dX0_chance_65 (lv_at hl 0 rfl) ?_
              refine g_sort (rest := [.int (chS σ bag j k)]) ⟨hx, hb, hml, hown, hts⟩ (cw_X0_J2_get hts ⟨Nat.le_of_ble_eq_true rfl, Nat.le_of_ble_eq_true rfl⟩) hK hP (hR.2.1 j hj h5.1.2) (hI.sm j hj) (by omega) hl.1 rfl (Nat.le_of_ble_eq_true rfl) dX0_chance_67 ⟨Nat.le_of_ble_eq_true rfl, Nat.le_of_ble_eq_true rfl⟩ ?_
              refine va_castS hx hb hown (hts _ q717) (hK.1 6 _ rfl).2 (va_recv hK (pl1 hP ((hR.2.1 j hj h5.1.2).2.2.2.2 k (by omega)).1 ((hR.2.1 j hj h5.1.2).2.2.2.2 k (by omega)).2) (ci := 6) (q0 := 0) rfl rfl) dX0_chance_70 ?_
              refine lv_iload_n hx hb dX0_chance_73 rfl (lv_at hl 3 rfl) ?_
              refine dU (v := .int (b01 (metP bag (σ.sorts (16 * j + 4 * k + 2)) (σ.sorts (16 * j + 4 * k + 3))))) (As := [.int bag]) (rest := [.int (chS σ bag j k)]) ⟨hx, hb, hml, hown, hts⟩ (mt_X8_isMet_S l D dA (μ.sA j k) (σ.sorts (16 * j + 4 * k + 2)) (σ.sorts (16 * j + 4 * k + 3)) (σ.sorts (16 * j + 4 * k)) (σ.sorts (16 * j + 4 * k + 1)) bag) (cw_X0_X8_isMet_S_X9 hts ⟨Nat.le_of_ble_eq_true rfl, Nat.le_of_ble_eq_true rfl⟩) pB_bw (pB_now hK (pl1 hP ((hR.2.1 j hj h5.1.2).2.2.2.2 k (by omega)).1 ((hR.2.1 j hj h5.1.2).2.2.2.2 k (by omega)).2)) (va_recv hK (pl1 hP ((hR.2.1 j hj h5.1.2).2.2.2.2 k (by omega)).1 ((hR.2.1 j hj h5.1.2).2.2.2.2 k (by omega)).2) (ci := 6) (q0 := 0) rfl rfl) rfl hl.1 rfl (Nat.le_of_ble_eq_true rfl) dX0_chance_74 ⟨Nat.le_of_ble_eq_true rfl, Nat.le_of_ble_eq_true rfl⟩ ?_
              refine w_topi (y := b01 (¬ leftF σ bag j k = -1)) (b01_iff (met_left (bag_by h15) j k)) ?_
              have hJ104_5 : ∀ (v_6 : Int32) (ls : Array Slot), v_6 = (if ¬ leftF σ bag j k = -1 then σ.sorts (16 * j + 4 * k) else 0) → lv_has ls 6 [(5, .int (nI k)), (4, .int (chS σ bag j k)), (0, .ref x), (1, .int bag), (2, .int (nI j)), (3, .int w)] → W p l e rmX0_chance s m args below meth c s.heap [] 0 0 Q (F0 m 104 ls [.int v_6, .int (chS σ bag j k)]) := by
                intro v_6 ls ev_6 hl
                refine lv_iadd hx hb dX0_chance_104 ?_
                refine lv_istore (lv' := [(4, .int ((chS σ bag j k) + v_6)), (5, .int (nI k)), (0, .ref x), (1, .int bag), (2, .int (nI j)), (3, .int w)]) hx hb dX0_chance_105 hl (by decide) rfl (fun ls hl => ?_)
                refine lv_iinc (v := nI (k + 1)) (lv' := [(5, .int (nI (k + 1))), (4, .int ((chS σ bag j k) + v_6)), (0, .ref x), (1, .int bag), (2, .int (nI j)), (3, .int w)]) hx hb dX0_chance_107 hl (k := 1) rfl (nI_1 k) (by decide) rfl (fun ls hl => ?_)
                refine lv_goto (tgt := 37) hx hb dX0_chance_110 rfl ?_
                exact ih_3 (k + 1) (nI (k + 1)) ((chS σ bag j k) + v_6) ls (by omega) (by omega) rfl (by subst_vars; rw [chS, ite_not]) (lv_sub hl [0, 1, 2, 3, 4, 5] rfl)
              refine lv_if_eq (tgt := 103) hx hb dX0_chance_77 rfl (fun h77 => ?_) (fun h77 => ?_)
              · have h77 : ¬ (¬ leftF σ bag j k = -1) := b01_0.mp h77
                refine lv_iconst (v := 0) hx hb dX0_chance_103 rfl ?_
                exact hJ104_5 (0) ls (by rw [if_neg h77]) (lv_sub hl [0, 1, 2, 3, 4, 5] rfl)
              · have h77 : ¬ leftF σ bag j k = -1 := b01_n h77
                refine lv_aload_n hx hb dX0_chance_80 rfl (lv_at hl 2 rfl) ?_
                refine va_get (D := D) (ci := 1) (v := .ref (ad 2)) (C := RX0) (T := TX0) (N := 11) hx hb hts in_X0 hown hK hP 0 rfl rfl 5 (by decide) (hts _ q218) (fun _ h9 => h9) rfl dX0_chance_81 ?_
                refine lv_iload_n hx hb dX0_chance_84 rfl (lv_at hl 4 rfl) ?_
                refine wa_aald (v := .ref (μ.cA j)) hx hb hK hP 3 5 rfl rfl rfl (j) (rfl) (by omega) (by decide) (cO_t h5.1.2) dX0_chance_85 ?_
                refine va_get (D := D) (ci := 5) (v := .ref (μ.lA j)) (C := RX7) (T := TX7) (N := 3) hx hb hts in_X7 hown hK (pl1 hP (hR.2.1 j hj h5.1.2).1.1 (hR.2.1 j hj h5.1.2).1.2) 0 rfl rfl 1 (by decide) (hts _ q701) (fun _ h9 => h9) rfl dX0_chance_86 ?_
                refine lv_iload hx hb dX0_chance_89 (lv_at hl 0 rfl) ?_
                refine g_sort (rest := [.int (chS σ bag j k)]) ⟨hx, hb, hml, hown, hts⟩ (cw_X0_J2_get hts ⟨Nat.le_of_ble_eq_true rfl, Nat.le_of_ble_eq_true rfl⟩) hK hP (hR.2.1 j hj h5.1.2) (hI.sm j hj) (by omega) hl.1 rfl (Nat.le_of_ble_eq_true rfl) dX0_chance_91 ⟨Nat.le_of_ble_eq_true rfl, Nat.le_of_ble_eq_true rfl⟩ ?_
                refine va_castS hx hb hown (hts _ q717) (hK.1 6 _ rfl).2 (va_recv hK (pl1 hP ((hR.2.1 j hj h5.1.2).2.2.2.2 k (by omega)).1 ((hR.2.1 j hj h5.1.2).2.2.2.2 k (by omega)).2) (ci := 6) (q0 := 0) rfl rfl) dX0_chance_94 ?_
                refine va_get (D := D) (ci := 6) (v := .int (σ.sorts (16 * j + 4 * k))) (C := RX9) (T := TX9) (N := 4) hx hb hts in_X9 hown hK (pl1 hP ((hR.2.1 j hj h5.1.2).2.2.2.2 k (by omega)).1 ((hR.2.1 j hj h5.1.2).2.2.2.2 k (by omega)).2) 0 rfl rfl 2 (by decide) (hts _ q729) (fun _ h9 => h9) rfl dX0_chance_97 ?_
                refine lv_goto (tgt := 104) hx hb dX0_chance_100 rfl ?_
                exact hJ104_5 (σ.sorts (16 * j + 4 * k)) ls (by rw [if_pos h77]) (lv_sub hl [0, 1, 2, 3, 4, 5] rfl)
        exact hL37_1 _ 0 0 0 ls (Nat.lt_succ_self _) (by omega) rfl (by subst_vars; rw [chS]) (lv_sub hl [0, 1, 2, 3, 4, 5] rfl)
      · have h25 : ¬ (inP ((w : Int32).toInt64) 0 1) := b01_0.mp h25
        refine lv_bipush (v := (-3)) hx hb dX0_chance_28 rfl ?_
        exact q_i hQ hx hb hr hlocks rfl (by simp only [chanceF, eq_true h5, eq_true h15, eq_false h25, hix_j, if_true, if_false, ite_true, ite_false, not_true_eq_false, not_false_eq_true, and_true, true_and, and_false, false_and, or_true, true_or, or_false, false_or, and_self, or_self, eq_self]) dX0_chance_30
  · have h5 : ¬ (useP σ c_) := b01_0.mp h5
    refine lv_bipush (v := (-2)) hx hb dX0_chance_8 rfl ?_
    exact q_i hQ hx hb hr hlocks rfl (by simp only [chanceF, eq_false h5, if_true, if_false, ite_true, ite_false, not_true_eq_false, not_false_eq_true, and_true, true_and, and_false, false_and, or_true, true_or, or_false, false_or, and_self, or_self, eq_self]) dX0_chance_10

def metR (row : Int32) : Nat → Int32
  | 0 => 0
  | k + 1 => metR row k ||| ((1 : Int32) <<< (entF row k &&& 31))
theorem ent16 (row : Int32) (k : Nat) : ∃ j, j < 16 ∧ entF row k = nI j := pk_andE _ 4 (by decide)
theorem has_or (a b c : Int32) : hasP (a ||| b) c ↔ hasP a c ∨ hasP b c := by
  unfold hasP
  have e0 : (a ||| b) >>> (c &&& 31) = (a >>> (c &&& 31)) ||| (b >>> (c &&& 31)) := by
    apply Int32.toBitVec_inj.mp
    simp only [Int32.toBitVec_shiftRight, Int32.toBitVec_or, BitVec.sshiftRight_eq', BitVec.sshiftRight_or_distrib]
  rw [e0]
  have e : ((a >>> (c &&& 31)) ||| (b >>> (c &&& 31))) &&& 1 = ((a >>> (c &&& 31)) &&& 1) ||| ((b >>> (c &&& 31)) &&& 1) := by
    generalize a >>> (c &&& 31) = u
    generalize b >>> (c &&& 31) = v
    apply Int32.toBitVec_inj.mp
    simp only [Int32.toBitVec_and, Int32.toBitVec_or]
    ext i hi
    simp only [← BitVec.getLsbD_eq_getElem, BitVec.getLsbD_and, BitVec.getLsbD_or]
    generalize u.toBitVec.getLsbD i = a
    generalize v.toBitVec.getLsbD i = b
    generalize (1 : Int32).toBitVec.getLsbD i = c
    revert a b c; decide
  rw [e]
  rcases bit_cases (a >>> (c &&& 31)) with h1 | h1 <;> rcases bit_cases (b >>> (c &&& 31)) with h2 | h2 <;> rw [h1, h2] <;> decide
theorem has0 (c : Nat) (hc : c < 16) : ¬ hasP 0 (nI c) := by revert c; decide +kernel
theorem has6 : ∀ c, c < 16 → ¬ c = 6 → ¬ hasP ((1 : Int32) <<< ((6 : Int32) &&& 31)) (nI c) := by decide +kernel
theorem met_seen (row : Int32) {c : Nat} (hc : c < 16) (h6 : ¬ c = 6) : ∀ k, hasP (metR row k) (nI c) ↔ hasP (seenF row k) (nI c) := by
  intro k
  induction k with
  | zero => exact Iff.rfl
  | succ k ih =>
    show hasP (metR row k ||| _) _ ↔ hasP (seenF row k ||| _) _
    rw [has_or, has_or, ih]
    by_cases h : entF row k = 6
    · rw [if_pos h, h]
      have h1 := has6 c hc h6
      have h2 := has0 c hc
      exact ⟨fun q => q.imp id (fun z => absurd z h1), fun q => q.imp id (fun z => absurd z h2)⟩
    · rw [if_neg h]
theorem tw01 (row : Int32) : ∀ k, twF row k = 0 ∨ twF row k = 1 := by
  intro k
  cases k with
  | zero => exact Or.inl rfl
  | succ k => rw [twF]; split <;> (try split) <;> (try split) <;> simp
theorem tw_s (row : Int32) (k : Nat) : twF row (k + 1) = (twF row k) ||| (if entF row k = 6 then 0 else if hasP (metR row k) (entF row k) then 1 else 0) := by
  have e : (if entF row k = 6 then (0 : Int32) else if hasP (metR row k) (entF row k) then 1 else 0) = if entF row k = 6 then 0 else if hasP (seenF row k) (entF row k) then 1 else 0 := by
    by_cases h : entF row k = 6
    · rw [if_pos h, if_pos h]
    · rw [if_neg h, if_neg h]
      obtain ⟨j, hj, e⟩ := ent16 row k
      have h6 : ¬ j = 6 := fun q => h (by rw [e, q]; rfl)
      rw [e]
      by_cases q : hasP (seenF row k) (nI j)
      · rw [if_pos ((met_seen row hj h6 k).mpr q), if_pos q]
      · rw [if_neg (fun z => q ((met_seen row hj h6 k).mp z)), if_neg q]
  rw [e, twF]
  rcases tw01 row k with h | h <;> rw [h]
  · rw [if_pos rfl, Int32.zero_or]
  · rw [if_neg (by decide)]
    split
    · decide
    · split <;> decide
def refW (σ : St) (bag row n w : Int32) : Int32 := if refF σ row n = 0 then (if bagP bag then (if partP w then 0 else -3) else -3) else refF σ row n

def rmX0_faultOf_2 : Room := { frames := 3, cells := 0, slots := 0, locals := 67 }
set_option maxHeartbeats 1000000 in
theorem mt_X0_faultOf_2 (l : Launch) (D : va_G) (dA : Nat → ClassId) (x : Nat) (ad : Nat → Nat) (μ : Lay) (σ : St) (ω : Om) (row : Int32) (n : Int32) (hI : Inv σ) (hR : Rel dA μ σ) : Met l yX0_faultOf_2 (ws_ yX0_faultOf_2 cX0_faultOf_2 7 (some .int)) rmX0_faultOf_2 (va_Pc [.ref x, .int row, .int n] (cB D dA x ad μ σ ω)) (roQ (.int (refF σ row n))) 0 0 (fun _ => False) := by
  refine w_start (by decide) (Nat.le_of_ble_eq_true rfl) ?_
  intro p e s m args below meth c Q ls hQ hx hb hr hlocks hml hown hnm hts hB hl
  have hown : s.vm.findClass RX0 = some m.cls := hown
  have hl : lv_has ls 7 [(0, .ref x), (1, .int row), (2, .int n)] := hl
  obtain ⟨hP, hK, hN⟩ := hB
  refine lv_iload_n hx hb dX0_faultOf_2_0 rfl (lv_at hl 2 rfl) ?_
  refine lv_i2l (v := (n : Int32).toInt64) hx hb dX0_faultOf_2_1 rfl ?_
  refine lv_lconst (v := 1) hx hb dX0_faultOf_2_2 rfl ?_
  refine lv_ldc2 (v := 6) hx hb hown (hts _ q828) dX0_faultOf_2_3 ?_
  refine cSi (As := [.long ((n : Int32).toInt64), .long 1, .long 6]) (rest := []) ⟨hx, hb, hml, hown, hts⟩ (mt_X0_in l ((n : Int32).toInt64) 1 6) (cw_X0_X0_in hts ⟨Nat.le_of_ble_eq_true rfl, Nat.le_of_ble_eq_true rfl⟩) w_blT (fun _ _ _ => trivial) rfl hl.1 rfl (Nat.le_of_ble_eq_true rfl) dX0_faultOf_2_6 ⟨Nat.le_of_ble_eq_true rfl, Nat.le_of_ble_eq_true rfl⟩ ?_
  refine lv_if_ne (tgt := 15) hx hb dX0_faultOf_2_9 rfl (fun h9 => ?_) (fun h9 => ?_)
  · have h9 : inP ((n : Int32).toInt64) 1 6 := b01_n h9
    obtain ⟨j, hj1, hj, rfl⟩ := in16 h9
    have hix : ix (nI j) = j := ix_nI (Nat.lt_succ_of_le hj) (by decide)
    refine lv_iconst (v := 0) hx hb dX0_faultOf_2_15 rfl ?_
    refine lv_istore_n (lv' := [(3, .int 0), (0, .ref x), (1, .int row), (2, .int (nI j))]) hx hb dX0_faultOf_2_16 rfl hl (by decide) rfl (fun ls hl => ?_)
    refine lv_iconst (v := 0) hx hb dX0_faultOf_2_17 rfl ?_
    refine lv_istore (lv' := [(4, .int 0), (3, .int 0), (0, .ref x), (1, .int row), (2, .int (nI j))]) hx hb dX0_faultOf_2_18 hl (by decide) rfl (fun ls hl => ?_)
    refine lv_iconst (v := 0) hx hb dX0_faultOf_2_20 rfl ?_
    refine lv_istore (lv' := [(5, .int 0), (4, .int 0), (3, .int 0), (0, .ref x), (1, .int row), (2, .int (nI j))]) hx hb dX0_faultOf_2_21 hl (by decide) rfl (fun ls hl => ?_)
    have hL23_1 : ∀ (n_2 : Nat) (k : Nat) (x5 : Int32) (x4 : Int32) (x3 : Int32) (ls : Array Slot), (6 - k) < n_2 → (k ≤ j) → (badU σ row k = false) → x5 = (nI k) → x4 = (twF row k) → x3 = (metR row k) → lv_has ls 7 [(5, .int x5), (4, .int x4), (3, .int x3), (0, .ref x), (1, .int row), (2, .int (nI j))] → W p l e rmX0_faultOf_2 s m args below meth c s.heap [] 0 0 Q (F0 m 23 ls []) := by
      intro n_2
      induction n_2 with
      | zero => intro k x5 x4 x3 ls hm_4; exact absurd hm_4 (Nat.not_lt_zero _)
      | succ n_2 ih_3 =>
        intro k x5 x4 x3 ls hm_4 hk hbu ex5 ex4 ex3 hl
        subst ex5 ex4 ex3
        refine lv_iload hx hb dX0_faultOf_2_23 (lv_at hl 0 rfl) ?_
        refine lv_iload_n hx hb dX0_faultOf_2_25 rfl (lv_at hl 5 rfl) ?_
        refine lv_icmp_ge (tgt := 99) hx hb dX0_faultOf_2_26 rfl (fun h26 => ?_) (fun h26 => ?_)
        · have h26 : j ≤ k := (nz_le (a := j) (b := k) rfl rfl (by omega) (by omega)).mp h26
          obtain rfl : k = j := by omega
          refine lv_iload hx hb dX0_faultOf_2_99 (lv_at hl 1 rfl) ?_
          refine lv_if_eq (tgt := 109) hx hb dX0_faultOf_2_101 rfl (fun h101 => ?_) (fun h101 => ?_)
          · have h101 : (twF row k) = 0 := h101
            refine lv_iconst (v := 0) hx hb dX0_faultOf_2_109 rfl ?_
            exact q_i hQ hx hb hr hlocks rfl (by simp only [refF, hbu, Bool.false_eq_true, eq_true h9, eq_true h26, eq_true h101, hix, if_true, if_false, ite_true, ite_false, not_true_eq_false, not_false_eq_true, and_true, true_and, and_false, false_and, or_true, true_or, or_false, false_or, and_self, or_self, eq_self]) dX0_faultOf_2_110
          · have h101 : ¬ ((twF row k) = 0) := h101
            refine lv_bipush (v := (-3)) hx hb dX0_faultOf_2_104 rfl ?_
            refine lv_goto (tgt := 110) hx hb dX0_faultOf_2_106 rfl ?_
            exact q_i hQ hx hb hr hlocks rfl (by simp only [refF, hbu, Bool.false_eq_true, eq_true h9, eq_true h26, eq_false h101, hix, if_true, if_false, ite_true, ite_false, not_true_eq_false, not_false_eq_true, and_true, true_and, and_false, false_and, or_true, true_or, or_false, false_or, and_self, or_self, eq_self]) dX0_faultOf_2_110
        · have h26 : ¬ (j ≤ k) := fun z9 => h26 ((nz_le (a := j) (b := k) rfl rfl (by omega) (by omega)).mpr z9)
          refine lv_iload_n hx hb dX0_faultOf_2_29 rfl (lv_at hl 4 rfl) ?_
          refine lv_iconst (v := 4) hx hb dX0_faultOf_2_30 rfl ?_
          refine lv_iload hx hb dX0_faultOf_2_31 (lv_at hl 0 rfl) ?_
          refine lv_imul hx hb dX0_faultOf_2_33 ?_
          refine lv_ishr hx hb dX0_faultOf_2_34 ?_
          refine lv_bipush (v := 15) hx hb dX0_faultOf_2_35 rfl ?_
          refine lv_iand hx hb dX0_faultOf_2_37 ?_
          refine w_topi (y := entF row k) (rfl) ?_
          refine lv_istore (lv' := [(6, .int (entF row k)), (5, .int (nI k)), (4, .int (twF row k)), (3, .int (metR row k)), (0, .ref x), (1, .int row), (2, .int (nI j))]) hx hb dX0_faultOf_2_38 hl (by decide) rfl (fun ls hl => ?_)
          refine lv_iload hx hb dX0_faultOf_2_40 (lv_at hl 0 rfl) ?_
          refine lv_bipush (v := 6) hx hb dX0_faultOf_2_42 rfl ?_
          have hJ59_5 : ∀ (ls : Array Slot), (¬ (¬ entF row k = 6 ∧ ¬ useP σ (entF row k))) → lv_has ls 7 [(6, .int (entF row k)), (5, .int (nI k)), (4, .int (twF row k)), (3, .int (metR row k)), (0, .ref x), (1, .int row), (2, .int (nI j))] → W p l e rmX0_faultOf_2 s m args below meth c s.heap [] 0 0 Q (F0 m 59 ls []) := by
            intro  ls hgood hl
            refine lv_iload hx hb dX0_faultOf_2_59 (lv_at hl 2 rfl) ?_
            refine lv_iload hx hb dX0_faultOf_2_61 (lv_at hl 0 rfl) ?_
            refine lv_bipush (v := 6) hx hb dX0_faultOf_2_63 rfl ?_
            have hJ83_6 : ∀ (v_7 : Int32) (ls : Array Slot), v_7 = (if (entF row k) = 6 then 0 else if (((metR row k) >>> ((entF row k) &&& 31)) &&& 1) = 1 then 1 else 0) → lv_has ls 7 [(6, .int (entF row k)), (5, .int (nI k)), (4, .int (twF row k)), (3, .int (metR row k)), (0, .ref x), (1, .int row), (2, .int (nI j))] → W p l e rmX0_faultOf_2 s m args below meth c s.heap [] 0 0 Q (F0 m 83 ls [.int v_7, .int (twF row k)]) := by
              intro v_7 ls ev_7 hl
              refine lv_ior hx hb dX0_faultOf_2_83 ?_
              refine lv_istore (lv' := [(4, .int ((twF row k) ||| v_7)), (6, .int (entF row k)), (5, .int (nI k)), (3, .int (metR row k)), (0, .ref x), (1, .int row), (2, .int (nI j))]) hx hb dX0_faultOf_2_84 hl (by decide) rfl (fun ls hl => ?_)
              refine lv_iload_n hx hb dX0_faultOf_2_86 rfl (lv_at hl 3 rfl) ?_
              refine lv_iconst (v := 1) hx hb dX0_faultOf_2_87 rfl ?_
              refine lv_iload hx hb dX0_faultOf_2_88 (lv_at hl 1 rfl) ?_
              refine lv_ishl hx hb dX0_faultOf_2_90 ?_
              refine lv_ior hx hb dX0_faultOf_2_91 ?_
              refine lv_istore_n (lv' := [(3, .int ((metR row k) ||| ((1 : Int32) <<< ((entF row k) &&& 31)))), (4, .int ((twF row k) ||| v_7)), (6, .int (entF row k)), (5, .int (nI k)), (0, .ref x), (1, .int row), (2, .int (nI j))]) hx hb dX0_faultOf_2_92 rfl hl (by decide) rfl (fun ls hl => ?_)
              refine lv_iinc (v := nI (k + 1)) (lv' := [(5, .int (nI (k + 1))), (3, .int ((metR row k) ||| ((1 : Int32) <<< ((entF row k) &&& 31)))), (4, .int ((twF row k) ||| v_7)), (6, .int (entF row k)), (0, .ref x), (1, .int row), (2, .int (nI j))]) hx hb dX0_faultOf_2_93 hl (k := 3) rfl (nI_1 k) (by decide) rfl (fun ls hl => ?_)
              refine lv_goto (tgt := 23) hx hb dX0_faultOf_2_96 rfl ?_
              exact ih_3 (k + 1) (nI (k + 1)) ((twF row k) ||| v_7) ((metR row k) ||| ((1 : Int32) <<< ((entF row k) &&& 31))) ls (by omega) (by omega) (by rw [badU, hbu, decide_eq_false hgood]; rfl) rfl (by subst_vars; exact (tw_s row k).symm) (by subst_vars; rw [metR]) (lv_sub hl [0, 2, 1, 4, 5, 6] rfl)
            refine lv_icmp_eq (tgt := 82) hx hb dX0_faultOf_2_65 rfl (fun h65 => ?_) (fun h65 => ?_)
            · have h65 : (entF row k) = 6 := h65
              refine lv_iconst (v := 0) hx hb dX0_faultOf_2_82 rfl ?_
              exact hJ83_6 (0) ls (by rw [if_pos h65]) (lv_sub hl [0, 1, 2, 3, 4, 5, 6] rfl)
            · have h65 : ¬ ((entF row k) = 6) := h65
              refine lv_iload_n hx hb dX0_faultOf_2_68 rfl (lv_at hl 3 rfl) ?_
              refine lv_iload hx hb dX0_faultOf_2_69 (lv_at hl 0 rfl) ?_
              refine lv_ishr hx hb dX0_faultOf_2_71 ?_
              refine lv_iconst (v := 1) hx hb dX0_faultOf_2_72 rfl ?_
              refine lv_iand hx hb dX0_faultOf_2_73 ?_
              refine lv_iconst (v := 1) hx hb dX0_faultOf_2_74 rfl ?_
              refine lv_icmp_ne (tgt := 82) hx hb dX0_faultOf_2_75 rfl (fun h75 => ?_) (fun h75 => ?_)
              · have h75 : ¬ ((((metR row k) >>> ((entF row k) &&& 31)) &&& 1) = 1) := h75
                refine lv_iconst (v := 0) hx hb dX0_faultOf_2_82 rfl ?_
                exact hJ83_6 (0) ls (by rw [if_neg h65, if_neg h75]) (lv_sub hl [0, 1, 2, 3, 4, 5, 6] rfl)
              · have h75 : (((metR row k) >>> ((entF row k) &&& 31)) &&& 1) = 1 := h75
                refine lv_iconst (v := 1) hx hb dX0_faultOf_2_78 rfl ?_
                refine lv_goto (tgt := 83) hx hb dX0_faultOf_2_79 rfl ?_
                exact hJ83_6 (1) ls (by rw [if_neg h65, if_pos h75]) (lv_sub hl [0, 1, 2, 3, 4, 5, 6] rfl)
          refine lv_icmp_eq (tgt := 59) hx hb dX0_faultOf_2_44 rfl (fun h44 => ?_) (fun h44 => ?_)
          · have h44 : (entF row k) = 6 := h44
            exact hJ59_5  ls (fun q => q.1 h44) (lv_sub hl [0, 1, 2, 3, 4, 5, 6] rfl)
          · have h44 : ¬ ((entF row k) = 6) := h44
            refine lv_aload_n hx hb dX0_faultOf_2_47 rfl (lv_at hl 4 rfl) ?_
            refine lv_iload hx hb dX0_faultOf_2_48 (lv_at hl 0 rfl) ?_
            refine dV (v := .int (b01 (useP σ (entF row k)))) (As := [.int (entF row k)]) (rest := []) ⟨hx, hb, hml, hown, hts⟩ (mt_X0_isCall l D dA x ad μ σ ω (entF row k) hI hR) (cw_X0_X0_isCall hts ⟨Nat.le_of_ble_eq_true rfl, Nat.le_of_ble_eq_true rfl⟩) cB_bw (cB_now hK hN hP) (va_recv hK hP (ci := 1) (q0 := 0) rfl rfl) rfl hl.1 rfl (Nat.le_of_ble_eq_true rfl) dX0_faultOf_2_50 ⟨Nat.le_of_ble_eq_true rfl, Nat.le_of_ble_eq_true rfl⟩ ?_
            refine lv_if_ne (tgt := 59) hx hb dX0_faultOf_2_53 rfl (fun h53 => ?_) (fun h53 => ?_)
            · have h53 : useP σ (entF row k) := b01_n h53
              exact hJ59_5  ls (fun q => q.2 h53) (lv_sub hl [0, 1, 2, 3, 4, 5, 6] rfl)
            · have h53 : ¬ (useP σ (entF row k)) := b01_0.mp h53
              refine lv_bipush (v := (-2)) hx hb dX0_faultOf_2_56 rfl ?_
              exact q_i hQ hx hb hr hlocks rfl (by rw [refF, if_pos h9, hix, if_pos (badU_le (k := k + 1) (by rw [badU, hbu, decide_eq_true (show _ from ⟨h44, h53⟩)]; rfl) (by omega))]) dX0_faultOf_2_58
    exact hL23_1 _ 0 0 0 0 ls (Nat.lt_succ_self _) (by omega) rfl rfl (by subst_vars; rw [twF]) (by subst_vars; rw [metR]) (lv_sub hl [0, 1, 2, 3, 4, 5] rfl)
  · have h9 : ¬ (inP ((n : Int32).toInt64) 1 6) := b01_0.mp h9
    refine lv_bipush (v := (-3)) hx hb dX0_faultOf_2_12 rfl ?_
    exact q_i hQ hx hb hr hlocks rfl (by simp only [refF, eq_false h9, if_true, if_false, ite_true, ite_false, not_true_eq_false, not_false_eq_true, and_true, true_and, and_false, false_and, or_true, true_or, or_false, false_or, and_self, or_self, eq_self]) dX0_faultOf_2_14

theorem cw_X0_X0_faultOf_2 {R : Room} {s : State} {args : Array Value} (hts : ∀ w ∈ lw_all, w.before args s = true) (hR : rmX0_faultOf_2.frames + 1 ≤ R.frames ∧ 8 + (7 + 11) + rmX0_faultOf_2.locals ≤ R.locals) : CallW R s args RX0 RX0 211 yX0_faultOf_2 cX0_faultOf_2 7 (some .int) (ws_ yX0_faultOf_2 cX0_faultOf_2 7 (some .int)) rmX0_faultOf_2 0 0 2 := cwV 2 hts (lw_V q919 q921 qs23 q77 q922) rfl rfl rfl (by decide +kernel) hR
def rmX0_faultOf : Room := { frames := 4, cells := 0, slots := 0, locals := 93 }
set_option maxHeartbeats 1000000 in
theorem mt_X0_faultOf (l : Launch) (D : va_G) (dA : Nat → ClassId) (x : Nat) (ad : Nat → Nat) (μ : Lay) (σ : St) (ω : Om) (bag : Int32) (row : Int32) (n : Int32) (w : Int32) (hI : Inv σ) (hR : Rel dA μ σ) : Met l yX0_faultOf (ws_ yX0_faultOf cX0_faultOf 6 (some .int)) rmX0_faultOf (va_Pc [.ref x, .int bag, .int row, .int n, .int w] (cB D dA x ad μ σ ω)) (roQ (.int (refW σ bag row n w))) 0 0 (fun _ => False) := by
  refine w_start (by decide) (Nat.le_of_ble_eq_true rfl) ?_
  intro p e s m args below meth c Q ls hQ hx hb hr hlocks hml hown hnm hts hB hl
  have hown : s.vm.findClass RX0 = some m.cls := hown
  have hl : lv_has ls 6 [(0, .ref x), (1, .int bag), (2, .int row), (3, .int n), (4, .int w)] := hl
  obtain ⟨hP, hK, hN⟩ := hB
  refine lv_aload_n hx hb dX0_faultOf_0 rfl (lv_at hl 0 rfl) ?_
  refine lv_iload_n hx hb dX0_faultOf_1 rfl (lv_at hl 2 rfl) ?_
  refine lv_iload_n hx hb dX0_faultOf_2 rfl (lv_at hl 3 rfl) ?_
  refine dV (v := .int (refF σ row n)) (As := [.int row, .int n]) (rest := []) ⟨hx, hb, hml, hown, hts⟩ (mt_X0_faultOf_2 l D dA x ad μ σ ω row n hI hR) (cw_X0_X0_faultOf_2 hts ⟨Nat.le_of_ble_eq_true rfl, Nat.le_of_ble_eq_true rfl⟩) cB_bw (cB_now hK hN hP) (va_recv hK hP (ci := 1) (q0 := 0) rfl rfl) rfl hl.1 rfl (Nat.le_of_ble_eq_true rfl) dX0_faultOf_3 ⟨Nat.le_of_ble_eq_true rfl, Nat.le_of_ble_eq_true rfl⟩ ?_
  refine lv_istore (lv' := [(5, .int (refF σ row n)), (0, .ref x), (1, .int bag), (2, .int row), (3, .int n), (4, .int w)]) hx hb dX0_faultOf_6 hl (by decide) rfl (fun ls hl => ?_)
  refine lv_iload hx hb dX0_faultOf_8 (lv_at hl 0 rfl) ?_
  refine lv_if_eq (tgt := 18) hx hb dX0_faultOf_10 rfl (fun h10 => ?_) (fun h10 => ?_)
  · have h10 : (refF σ row n) = 0 := h10
    refine lv_iload_n hx hb dX0_faultOf_18 rfl (lv_at hl 2 rfl) ?_
    refine cSi (As := [.int bag]) (rest := []) ⟨hx, hb, hml, hown, hts⟩ (mt_X0_isBag l bag) (cw_X0_X0_isBag hts ⟨Nat.le_of_ble_eq_true rfl, Nat.le_of_ble_eq_true rfl⟩) w_blT (fun _ _ _ => trivial) rfl hl.1 rfl (Nat.le_of_ble_eq_true rfl) dX0_faultOf_19 ⟨Nat.le_of_ble_eq_true rfl, Nat.le_of_ble_eq_true rfl⟩ ?_
    refine lv_if_eq (tgt := 40) hx hb dX0_faultOf_22 rfl (fun h22 => ?_) (fun h22 => ?_)
    · have h22 : ¬ (bagP bag) := b01_0.mp h22
      refine lv_bipush (v := (-3)) hx hb dX0_faultOf_40 rfl ?_
      exact q_i hQ hx hb hr hlocks rfl (by simp only [refW, eq_true h10, eq_false h22, if_true, if_false, ite_true, ite_false, not_true_eq_false, not_false_eq_true, and_true, true_and, and_false, false_and, or_true, true_or, or_false, false_or, and_self, or_self, eq_self]) dX0_faultOf_42
    · have h22 : bagP bag := b01_n h22
      refine lv_iload hx hb dX0_faultOf_25 (lv_at hl 5 rfl) ?_
      refine lv_i2l (v := (w : Int32).toInt64) hx hb dX0_faultOf_27 rfl ?_
      refine lv_lconst (v := 0) hx hb dX0_faultOf_28 rfl ?_
      refine lv_lconst (v := 1) hx hb dX0_faultOf_29 rfl ?_
      refine cSi (As := [.long ((w : Int32).toInt64), .long 0, .long 1]) (rest := []) ⟨hx, hb, hml, hown, hts⟩ (mt_X0_in l ((w : Int32).toInt64) 0 1) (cw_X0_X0_in hts ⟨Nat.le_of_ble_eq_true rfl, Nat.le_of_ble_eq_true rfl⟩) w_blT (fun _ _ _ => trivial) rfl hl.1 rfl (Nat.le_of_ble_eq_true rfl) dX0_faultOf_30 ⟨Nat.le_of_ble_eq_true rfl, Nat.le_of_ble_eq_true rfl⟩ ?_
      refine lv_if_eq (tgt := 40) hx hb dX0_faultOf_33 rfl (fun h33 => ?_) (fun h33 => ?_)
      · have h33 : ¬ (inP ((w : Int32).toInt64) 0 1) := b01_0.mp h33
        refine lv_bipush (v := (-3)) hx hb dX0_faultOf_40 rfl ?_
        exact q_i hQ hx hb hr hlocks rfl (by simp only [refW, eq_true h10, eq_true h22, eq_false h33, if_true, if_false, ite_true, ite_false, not_true_eq_false, not_false_eq_true, and_true, true_and, and_false, false_and, or_true, true_or, or_false, false_or, and_self, or_self, eq_self]) dX0_faultOf_42
      · have h33 : inP ((w : Int32).toInt64) 0 1 := b01_n h33
        refine lv_iconst (v := 0) hx hb dX0_faultOf_36 rfl ?_
        refine lv_goto (tgt := 42) hx hb dX0_faultOf_37 rfl ?_
        exact q_i hQ hx hb hr hlocks rfl (by simp only [refW, eq_true h10, eq_true h22, eq_true h33, if_true, if_false, ite_true, ite_false, not_true_eq_false, not_false_eq_true, and_true, true_and, and_false, false_and, or_true, true_or, or_false, false_or, and_self, or_self, eq_self]) dX0_faultOf_42
  · have h10 : ¬ ((refF σ row n) = 0) := h10
    refine lv_iload hx hb dX0_faultOf_13 (lv_at hl 0 rfl) ?_
    refine lv_goto (tgt := 42) hx hb dX0_faultOf_15 rfl ?_
    exact q_i hQ hx hb hr hlocks rfl (by simp only [refW, eq_false h10, if_true, if_false, ite_true, ite_false, not_true_eq_false, not_false_eq_true, and_true, true_and, and_false, false_and, or_true, true_or, or_false, false_or, and_self, or_self, eq_self]) dX0_faultOf_42
