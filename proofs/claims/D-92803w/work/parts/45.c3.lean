/-! THE COMPONENT's METHODS 3: now -/
set_option maxRecDepth 100000

def bcW1 (a : Int32) : Int32 := a - (((a : Int32).toUInt32 >>> ((1 : Int32).toUInt32 &&& Int32.toUInt32 31)).toInt32 &&& 1431655765)
def bcW2 (a : Int32) : Int32 := (a &&& 858993459) + (((a : Int32).toUInt32 >>> ((2 : Int32).toUInt32 &&& Int32.toUInt32 31)).toInt32 &&& 858993459)
def bcW3 (a : Int32) : Int32 := (a + ((a : Int32).toUInt32 >>> ((4 : Int32).toUInt32 &&& Int32.toUInt32 31)).toInt32) &&& 252645135
def bcW4 (a : Int32) : Int32 := a + ((a : Int32).toUInt32 >>> ((8 : Int32).toUInt32 &&& Int32.toUInt32 31)).toInt32
def bcW5 (a : Int32) : Int32 := a + ((a : Int32).toUInt32 >>> ((16 : Int32).toUInt32 &&& Int32.toUInt32 31)).toInt32
def bcW (a : Int32) : Int32 := bcW5 (bcW4 (bcW3 (bcW2 (bcW1 a)))) &&& 63
theorem kn_s {σ : St} {set : Int32} {k : Nat} (h : knF σ set k = 1) (hg : hasP set (nI k) → useP σ (nI k)) : knF σ set (k + 1) = 1 := by
  rw [knF, h, if_neg (by decide)]
  by_cases q : hasP set (nI k)
  · rw [if_pos q, if_pos (hg q)]
  · rw [if_neg q]
theorem kn_b {σ : St} {set : Int32} {k : Nat} (h : knF σ set k = 1) (hk : k < 6) (hh : hasP set (nI k)) (hn : ¬ useP σ (nI k)) : knF σ set 6 = 0 := by
  have q : knF σ set (k + 1) = 0 := by rw [knF, h, if_neg (by decide), if_pos hh, if_neg hn]
  have := kn_le q (6 - (k + 1))
  rwa [show k + 1 + (6 - (k + 1)) = 6 by omega] at this
theorem bc_many : ∀ v, v < 256 → bcW (nI v) = manyF (nI v) 8 := by decide +kernel
theorem bc_cn : ∀ v, v < 64 → bcW (nI v) = cnF (nI v) 6 := by decide +kernel

def rmJ14_bitCount : Room := { frames := 0, cells := 0, slots := 0, locals := 0 }
set_option maxHeartbeats 1000000 in
theorem mt_J14_bitCount (l : Launch) (a : Int32) : Met l yJ14_bitCount (ws_ yJ14_bitCount cJ14_bitCount 1 (some .int)) rmJ14_bitCount (va_Pc [.int a] (fun _ => True)) (vp_Si (fun r => r = bcW a)) 0 0 (fun _ => False) := by
  refine w_start (by decide) (Nat.le_of_ble_eq_true rfl) ?_
  intro p e s m args below meth c Q ls hQ hx hb hr hlocks hml hown hnm hts hB hl
  have hown : s.vm.findClass RJ14 = some m.cls := hown
  have hl : lv_has ls 1 [(0, .int a)] := hl
  refine lv_iload_n hx hb dJ14_bitCount_0 rfl (lv_at hl 0 rfl) ?_
  refine lv_iload_n hx hb dJ14_bitCount_1 rfl (lv_at hl 0 rfl) ?_
  refine lv_iconst (v := 1) hx hb dJ14_bitCount_2 rfl ?_
  refine lv_iushr (v := ((a : Int32).toUInt32 >>> ((1 : Int32).toUInt32 &&& Int32.toUInt32 31)).toInt32) hx hb dJ14_bitCount_3 rfl ?_
  refine lv_ldcw (v := 1431655765) hx hb hown (hts _ q1017) dJ14_bitCount_4 ?_
  refine lv_iand hx hb dJ14_bitCount_7 ?_
  refine lv_isub hx hb dJ14_bitCount_8 ?_
  refine w_topi (y := bcW1 a) (rfl) ?_
  refine lv_istore_n (lv' := [(0, .int (bcW1 a))]) hx hb dJ14_bitCount_9 rfl hl (by decide) rfl (fun ls hl => ?_)
  refine lv_iload_n hx hb dJ14_bitCount_10 rfl (lv_at hl 0 rfl) ?_
  refine lv_ldcw (v := 858993459) hx hb hown (hts _ q1018) dJ14_bitCount_11 ?_
  refine lv_iand hx hb dJ14_bitCount_14 ?_
  refine lv_iload_n hx hb dJ14_bitCount_15 rfl (lv_at hl 0 rfl) ?_
  refine lv_iconst (v := 2) hx hb dJ14_bitCount_16 rfl ?_
  refine lv_iushr (v := ((bcW1 a : Int32).toUInt32 >>> ((2 : Int32).toUInt32 &&& Int32.toUInt32 31)).toInt32) hx hb dJ14_bitCount_17 rfl ?_
  refine lv_ldcw (v := 858993459) hx hb hown (hts _ q1018) dJ14_bitCount_18 ?_
  refine lv_iand hx hb dJ14_bitCount_21 ?_
  refine lv_iadd hx hb dJ14_bitCount_22 ?_
  refine w_topi (y := bcW2 (bcW1 a)) (rfl) ?_
  refine lv_istore_n (lv' := [(0, .int (bcW2 (bcW1 a)))]) hx hb dJ14_bitCount_23 rfl hl (by decide) rfl (fun ls hl => ?_)
  refine lv_iload_n hx hb dJ14_bitCount_24 rfl (lv_at hl 0 rfl) ?_
  refine lv_iload_n hx hb dJ14_bitCount_25 rfl (lv_at hl 0 rfl) ?_
  refine lv_iconst (v := 4) hx hb dJ14_bitCount_26 rfl ?_
  refine lv_iushr (v := ((bcW2 (bcW1 a) : Int32).toUInt32 >>> ((4 : Int32).toUInt32 &&& Int32.toUInt32 31)).toInt32) hx hb dJ14_bitCount_27 rfl ?_
  refine lv_iadd hx hb dJ14_bitCount_28 ?_
  refine lv_ldcw (v := 252645135) hx hb hown (hts _ q1019) dJ14_bitCount_29 ?_
  refine lv_iand hx hb dJ14_bitCount_32 ?_
  refine w_topi (y := bcW3 (bcW2 (bcW1 a))) (rfl) ?_
  refine lv_istore_n (lv' := [(0, .int (bcW3 (bcW2 (bcW1 a))))]) hx hb dJ14_bitCount_33 rfl hl (by decide) rfl (fun ls hl => ?_)
  refine lv_iload_n hx hb dJ14_bitCount_34 rfl (lv_at hl 0 rfl) ?_
  refine lv_iload_n hx hb dJ14_bitCount_35 rfl (lv_at hl 0 rfl) ?_
  refine lv_bipush (v := 8) hx hb dJ14_bitCount_36 rfl ?_
  refine lv_iushr (v := ((bcW3 (bcW2 (bcW1 a)) : Int32).toUInt32 >>> ((8 : Int32).toUInt32 &&& Int32.toUInt32 31)).toInt32) hx hb dJ14_bitCount_38 rfl ?_
  refine lv_iadd hx hb dJ14_bitCount_39 ?_
  refine w_topi (y := bcW4 (bcW3 (bcW2 (bcW1 a)))) (rfl) ?_
  refine lv_istore_n (lv' := [(0, .int (bcW4 (bcW3 (bcW2 (bcW1 a)))))]) hx hb dJ14_bitCount_40 rfl hl (by decide) rfl (fun ls hl => ?_)
  refine lv_iload_n hx hb dJ14_bitCount_41 rfl (lv_at hl 0 rfl) ?_
  refine lv_iload_n hx hb dJ14_bitCount_42 rfl (lv_at hl 0 rfl) ?_
  refine lv_bipush (v := 16) hx hb dJ14_bitCount_43 rfl ?_
  refine lv_iushr (v := ((bcW4 (bcW3 (bcW2 (bcW1 a))) : Int32).toUInt32 >>> ((16 : Int32).toUInt32 &&& Int32.toUInt32 31)).toInt32) hx hb dJ14_bitCount_45 rfl ?_
  refine lv_iadd hx hb dJ14_bitCount_46 ?_
  refine w_topi (y := bcW5 (bcW4 (bcW3 (bcW2 (bcW1 a))))) (rfl) ?_
  refine lv_istore_n (lv' := [(0, .int (bcW5 (bcW4 (bcW3 (bcW2 (bcW1 a))))))]) hx hb dJ14_bitCount_47 rfl hl (by decide) rfl (fun ls hl => ?_)
  refine lv_iload_n hx hb dJ14_bitCount_48 rfl (lv_at hl 0 rfl) ?_
  refine lv_bipush (v := 63) hx hb dJ14_bitCount_49 rfl ?_
  refine lv_iand hx hb dJ14_bitCount_51 ?_
  exact r_i hQ hx hb hr hlocks rfl (rfl) dJ14_bitCount_52

def rmX0_productOf : Room := { frames := 0, cells := 0, slots := 0, locals := 0 }
set_option maxHeartbeats 1000000 in
theorem mt_X0_productOf (l : Launch) (D : va_G) (dA : Nat → ClassId) (x : Nat) (ad : Nat → Nat) (μ : Lay) (σ : St) (ω : Om) (set_ : Int32) (hI : Inv σ) (hR : Rel dA μ σ) (hU : setU σ set_) : Met l yX0_productOf (ws_ yX0_productOf cX0_productOf 5 (some .long)) rmX0_productOf (va_Pc [.ref x, .int set_] (cB D dA x ad μ σ ω)) (roQ (.long (tosF σ set_ 6))) 0 0 (fun _ => False) := by
  refine w_start (by decide) (Nat.le_of_ble_eq_true rfl) ?_
  intro p e s m args below meth c Q ls hQ hx hb hr hlocks hml hown hnm hts hB hl
  have hown : s.vm.findClass RX0 = some m.cls := hown
  have hl : lv_has ls 5 [(0, .ref x), (1, .int set_)] := hl
  obtain ⟨hP, hK, hN⟩ := hB
  refine lv_lconst (v := 1) hx hb dX0_productOf_0 rfl ?_
  refine lv_lstore_n (lv' := [(2, .long 1), (0, .ref x), (1, .int set_)]) hx hb dX0_productOf_1 rfl hl (by decide) rfl (fun ls hl => ?_)
  refine lv_iconst (v := 0) hx hb dX0_productOf_2 rfl ?_
  refine lv_istore (lv' := [(4, .int 0), (2, .long 1), (0, .ref x), (1, .int set_)]) hx hb dX0_productOf_3 hl (by decide) rfl (fun ls hl => ?_)
  have hL5_1 : ∀ (n_2 : Nat) (k : Nat) (x4 : Int32) (x2 : Int64) (ls : Array Slot), (6 - k) < n_2 → (k ≤ 6) → x4 = (nI k) → x2 = (tosF σ set_ k) → lv_has ls 5 [(4, .int x4), (2, .long x2), (0, .ref x), (1, .int set_)] → W p l e rmX0_productOf s m args below meth c s.heap [] 0 0 Q (F0 m 5 ls []) := by
    intro n_2
    induction n_2 with
    | zero => intro k x4 x2 ls hm_4; exact absurd hm_4 (Nat.not_lt_zero _)
    | succ n_2 ih_3 =>
      intro k x4 x2 ls hm_4 hk ex4 ex2 hl
      subst ex4 ex2
      refine lv_iload hx hb dX0_productOf_5 (lv_at hl 0 rfl) ?_
      refine lv_bipush (v := 6) hx hb dX0_productOf_7 rfl ?_
      refine lv_icmp_ge (tgt := 46) hx hb dX0_productOf_9 rfl (fun h9 => ?_) (fun h9 => ?_)
      · have h9 : 6 ≤ k := (nz_le (a := 6) (b := k) rfl rfl (by omega) (by omega)).mp h9
        have hk_ : k = 6 := by omega
        subst hk_
        refine lv_lload_n hx hb dX0_productOf_46 rfl (lv_at hl 1 rfl) ?_
        exact q_l hQ hx hb hr hlocks rfl (rfl) dX0_productOf_47
      · have h9 : ¬ (6 ≤ k) := fun z9 => h9 ((nz_le (a := 6) (b := k) rfl rfl (by omega) (by omega)).mpr z9)
        refine lv_lload_n hx hb dX0_productOf_12 rfl (lv_at hl 1 rfl) ?_
        refine lv_iload_n hx hb dX0_productOf_13 rfl (lv_at hl 3 rfl) ?_
        refine lv_iload hx hb dX0_productOf_14 (lv_at hl 0 rfl) ?_
        refine lv_ishr hx hb dX0_productOf_16 ?_
        refine lv_iconst (v := 1) hx hb dX0_productOf_17 rfl ?_
        refine lv_iand hx hb dX0_productOf_18 ?_
        refine lv_iconst (v := 1) hx hb dX0_productOf_19 rfl ?_
        have hJ38_5 : ∀ (v_6 : Int64) (ls : Array Slot), v_6 = (if ((set_ >>> ((nI k) &&& 31)) &&& 1) = 1 then (total σ k : Int32).toInt64 else 1) → lv_has ls 5 [(4, .int (nI k)), (2, .long (tosF σ set_ k)), (0, .ref x), (1, .int set_)] → W p l e rmX0_productOf s m args below meth c s.heap [] 0 0 Q (F0 m 38 ls [.long v_6, .long (tosF σ set_ k)]) := by
          intro v_6 ls ev_6 hl
          refine lv_lmul hx hb dX0_productOf_38 ?_
          refine lv_lstore_n (lv' := [(2, .long ((tosF σ set_ k) * v_6)), (4, .int (nI k)), (0, .ref x), (1, .int set_)]) hx hb dX0_productOf_39 rfl hl (by decide) rfl (fun ls hl => ?_)
          refine lv_iinc (v := nI (k + 1)) (lv' := [(4, .int (nI (k + 1))), (2, .long ((tosF σ set_ k) * v_6)), (0, .ref x), (1, .int set_)]) hx hb dX0_productOf_40 hl (k := 1) rfl (nI_1 k) (by decide) rfl (fun ls hl => ?_)
          refine lv_goto (tgt := 5) hx hb dX0_productOf_43 rfl ?_
          exact ih_3 (k + 1) (nI (k + 1)) ((tosF σ set_ k) * v_6) ls (by omega) (by omega) rfl (by subst_vars; rw [tosF]) (lv_sub hl [0, 1, 2, 3] rfl)
        refine lv_icmp_ne (tgt := 37) hx hb dX0_productOf_20 rfl (fun h20 => ?_) (fun h20 => ?_)
        · have h20 : ¬ (((set_ >>> ((nI k) &&& 31)) &&& 1) = 1) := h20
          refine lv_lconst (v := 1) hx hb dX0_productOf_37 rfl ?_
          exact hJ38_5 (1) ls (by rw [if_neg h20]) (lv_sub hl [0, 1, 2, 3] rfl)
        · have h20 : ((set_ >>> ((nI k) &&& 31)) &&& 1) = 1 := h20
          refine lv_aload_n hx hb dX0_productOf_23 rfl (lv_at hl 2 rfl) ?_
          refine va_get (D := D) (ci := 1) (v := .ref (ad 2)) (C := RX0) (T := TX0) (N := 11) hx hb hts in_X0 hown hK hP 0 rfl rfl 5 (by decide) (hts _ q218) (fun _ h9 => h9) rfl dX0_productOf_24 ?_
          refine lv_iload hx hb dX0_productOf_27 (lv_at hl 0 rfl) ?_
          refine wa_aald (v := .ref (μ.cA k)) hx hb hK hP 3 5 rfl rfl rfl (k) (rfl) (by omega) (by decide) (cO_t (hU k (by omega) h20).1) dX0_productOf_29 ?_
          refine va_get (D := D) (ci := 5) (v := .int (total σ k)) (C := RX7) (T := TX7) (N := 3) hx hb hts in_X7 hown hK (pl1 hP (hR.2.1 k (show k < 6 by omega) (hU k (by omega) h20).1).1.1 (hR.2.1 k (show k < 6 by omega) (hU k (by omega) h20).1).1.2) 0 rfl rfl 2 (by decide) (hts _ q704) (fun _ h9 => h9) rfl dX0_productOf_30 ?_
          refine lv_i2l (v := (total σ k : Int32).toInt64) hx hb dX0_productOf_33 rfl ?_
          refine lv_goto (tgt := 38) hx hb dX0_productOf_34 rfl ?_
          exact hJ38_5 ((total σ k : Int32).toInt64) ls (by rw [if_pos h20]) (lv_sub hl [0, 1, 2, 3] rfl)
  exact hL5_1 _ 0 0 1 ls (Nat.lt_succ_self _) (by omega) rfl (by subst_vars; rw [tosF]) (lv_sub hl [0, 1, 2, 3] rfl)

theorem cw_X0_J14_bitCount {R : Room} {s : State} {args : Array Value} (hts : ∀ w ∈ lw_all, w.before args s = true) (hR : rmJ14_bitCount.frames + 1 ≤ R.frames ∧ 8 + (1 + 11) + rmJ14_bitCount.locals ≤ R.locals) : CallB R s args RX0 280 yJ14_bitCount cJ14_bitCount 1 (some .int) (ws_ yJ14_bitCount cJ14_bitCount 1 (some .int)) rmJ14_bitCount 0 0 1 ∧ (Cond.static yJ14_bitCount).before args s = true := va_cwS 1 hts (lw_S q1014 q1015 q99 q1016) rfl rfl rfl (by decide +kernel) hR
def rmX0_faultOfNow : Room := { frames := 3, cells := 0, slots := 0, locals := 67 }
set_option maxHeartbeats 1000000 in
theorem mt_X0_faultOfNow (l : Launch) (D : va_G) (dA : Nat → ClassId) (x : Nat) (ad : Nat → Nat) (μ : Lay) (σ : St) (ω : Om) (x_ : Int32) (m_ : Int32) (bag : Int32) (set_ : Int32) (hI : Inv σ) (hR : Rel dA μ σ) : Met l yX0_faultOfNow (ws_ yX0_faultOfNow cX0_faultOfNow 6 (some .int)) rmX0_faultOfNow (va_Pc [.ref x, .int x_, .int m_, .int bag, .int set_] (cB D dA x ad μ σ ω)) (roQ (.int (refNowF σ x_ m_ bag set_))) 0 0 (fun _ => False) := by
  refine w_start (by decide) (Nat.le_of_ble_eq_true rfl) ?_
  intro p e s m args below meth c Q ls hQ hx hb hr hlocks hml hown hnm hts hB hl
  have hown : s.vm.findClass RX0 = some m.cls := hown
  have hl : lv_has ls 6 [(0, .ref x), (1, .int x_), (2, .int m_), (3, .int bag), (4, .int set_)] := hl
  obtain ⟨hP, hK, hN⟩ := hB
  refine lv_iload_n hx hb dX0_faultOfNow_0 rfl (lv_at hl 1 rfl) ?_
  refine lv_i2l (v := (x_ : Int32).toInt64) hx hb dX0_faultOfNow_1 rfl ?_
  refine lv_lconst (v := 0) hx hb dX0_faultOfNow_2 rfl ?_
  refine lv_ldc2 (v := 5) hx hb hown (hts _ q716) dX0_faultOfNow_3 ?_
  refine cSi (As := [.long ((x_ : Int32).toInt64), .long 0, .long 5]) (rest := []) ⟨hx, hb, hml, hown, hts⟩ (mt_X0_in l ((x_ : Int32).toInt64) 0 5) (cw_X0_X0_in hts ⟨Nat.le_of_ble_eq_true rfl, Nat.le_of_ble_eq_true rfl⟩) w_blT (fun _ _ _ => trivial) rfl hl.1 rfl (Nat.le_of_ble_eq_true rfl) dX0_faultOfNow_6 ⟨Nat.le_of_ble_eq_true rfl, Nat.le_of_ble_eq_true rfl⟩ ?_
  refine lv_if_ne (tgt := 15) hx hb dX0_faultOfNow_9 rfl (fun h9 => ?_) (fun h9 => ?_)
  · have h9 : inP ((x_ : Int32).toInt64) 0 5 := b01_n h9
    refine lv_iload hx hb dX0_faultOfNow_15 (lv_at hl 4 rfl) ?_
    refine lv_i2l (v := (set_ : Int32).toInt64) hx hb dX0_faultOfNow_17 rfl ?_
    refine lv_lconst (v := 0) hx hb dX0_faultOfNow_18 rfl ?_
    refine lv_ldc2 (v := 63) hx hb hown (hts _ q1013) dX0_faultOfNow_19 ?_
    refine cSi (As := [.long ((set_ : Int32).toInt64), .long 0, .long 63]) (rest := []) ⟨hx, hb, hml, hown, hts⟩ (mt_X0_in l ((set_ : Int32).toInt64) 0 63) (cw_X0_X0_in hts ⟨Nat.le_of_ble_eq_true rfl, Nat.le_of_ble_eq_true rfl⟩) w_blT (fun _ _ _ => trivial) rfl hl.1 rfl (Nat.le_of_ble_eq_true rfl) dX0_faultOfNow_22 ⟨Nat.le_of_ble_eq_true rfl, Nat.le_of_ble_eq_true rfl⟩ ?_
    refine lv_if_ne (tgt := 31) hx hb dX0_faultOfNow_25 rfl (fun h25 => ?_) (fun h25 => ?_)
    · have h25 : inP ((set_ : Int32).toInt64) 0 63 := b01_n h25
      refine lv_iconst (v := 0) hx hb dX0_faultOfNow_31 rfl ?_
      refine lv_istore (lv' := [(5, .int 0), (0, .ref x), (1, .int x_), (2, .int m_), (3, .int bag), (4, .int set_)]) hx hb dX0_faultOfNow_32 hl (by decide) rfl (fun ls hl => ?_)
      have hL34_1 : ∀ (n_2 : Nat) (k : Nat) (x5 : Int32) (ls : Array Slot), (6 - k) < n_2 → (k ≤ 6) → (knF σ set_ k = 1) → x5 = (nI k) → lv_has ls 6 [(5, .int x5), (0, .ref x), (1, .int x_), (2, .int m_), (3, .int bag), (4, .int set_)] → W p l e rmX0_faultOfNow s m args below meth c s.heap [] 0 0 Q (F0 m 34 ls []) := by
        intro n_2
        induction n_2 with
        | zero => intro k x5 ls hm_4; exact absurd hm_4 (Nat.not_lt_zero _)
        | succ n_2 ih_3 =>
          intro k x5 ls hm_4 hk hkn ex5 hl
          subst ex5
          refine lv_iload hx hb dX0_faultOfNow_34 (lv_at hl 0 rfl) ?_
          refine lv_bipush (v := 6) hx hb dX0_faultOfNow_36 rfl ?_
          refine lv_icmp_ge (tgt := 70) hx hb dX0_faultOfNow_38 rfl (fun h38 => ?_) (fun h38 => ?_)
          · have h38 : 6 ≤ k := (nz_le (a := 6) (b := k) rfl rfl (by omega) (by omega)).mp h38
            have hk_ : k = 6 := by omega
            subst hk_
            refine lv_iload hx hb dX0_faultOfNow_70 (lv_at hl 5 rfl) ?_
            refine cSi (As := [.int set_]) (rest := []) ⟨hx, hb, hml, hown, hts⟩ (mt_J14_bitCount l set_) (cw_X0_J14_bitCount hts ⟨Nat.le_of_ble_eq_true rfl, Nat.le_of_ble_eq_true rfl⟩) w_blT (fun _ _ _ => trivial) rfl hl.1 rfl (Nat.le_of_ble_eq_true rfl) dX0_faultOfNow_72 ⟨Nat.le_of_ble_eq_true rfl, Nat.le_of_ble_eq_true rfl⟩ ?_
            refine w_topi (y := cnF set_ 6) ((by obtain ⟨v, hv, e⟩ := inP_of 63 (by decide) h25; rw [e]; exact bc_cn v (by omega))) ?_
            refine lv_iconst (v := 4) hx hb dX0_faultOfNow_75 rfl ?_
            refine lv_icmp_gt (tgt := 98) hx hb dX0_faultOfNow_76 rfl (fun h76 => ?_) (fun h76 => ?_)
            · have h76 : (4 : Int32) < (cnF set_ 6) := h76
              refine lv_bipush (v := (-3)) hx hb dX0_faultOfNow_98 rfl ?_
              refine lv_goto (tgt := 104) hx hb dX0_faultOfNow_100 rfl ?_
              exact q_i hQ hx hb hr hlocks rfl (by simp only [refNowF, eq_true h9, eq_true h25, eq_false (Int32.not_le.mpr h76), hkn, show ((1 : Int32) = 0) = False from eq_false (by decide), if_true, if_false, ite_true, ite_false, not_true_eq_false, not_false_eq_true, and_true, true_and, and_false, false_and, or_true, true_or, or_false, false_or, and_self, or_self, eq_self, ite_self]) dX0_faultOfNow_104
            · have h76 : ¬ ((4 : Int32) < (cnF set_ 6)) := h76
              refine lv_iload_n hx hb dX0_faultOfNow_79 rfl (lv_at hl 3 rfl) ?_
              refine lv_i2l (v := (m_ : Int32).toInt64) hx hb dX0_faultOfNow_80 rfl ?_
              refine lv_lconst (v := 0) hx hb dX0_faultOfNow_81 rfl ?_
              refine lv_ldc2 (v := 1439) hx hb hown (hts _ q1020) dX0_faultOfNow_82 ?_
              refine cSi (As := [.long ((m_ : Int32).toInt64), .long 0, .long 1439]) (rest := []) ⟨hx, hb, hml, hown, hts⟩ (mt_X0_in l ((m_ : Int32).toInt64) 0 1439) (cw_X0_X0_in hts ⟨Nat.le_of_ble_eq_true rfl, Nat.le_of_ble_eq_true rfl⟩) w_blT (fun _ _ _ => trivial) rfl hl.1 rfl (Nat.le_of_ble_eq_true rfl) dX0_faultOfNow_85 ⟨Nat.le_of_ble_eq_true rfl, Nat.le_of_ble_eq_true rfl⟩ ?_
              refine lv_if_eq (tgt := 98) hx hb dX0_faultOfNow_88 rfl (fun h88 => ?_) (fun h88 => ?_)
              · have h88 : ¬ (inP ((m_ : Int32).toInt64) 0 1439) := b01_0.mp h88
                refine lv_bipush (v := (-3)) hx hb dX0_faultOfNow_98 rfl ?_
                refine lv_goto (tgt := 104) hx hb dX0_faultOfNow_100 rfl ?_
                exact q_i hQ hx hb hr hlocks rfl (by simp only [refNowF, eq_true h9, eq_true h25, eq_false h88, eq_true (Int32.not_lt.mp h76), hkn, show ((1 : Int32) = 0) = False from eq_false (by decide), if_true, if_false, ite_true, ite_false, not_true_eq_false, not_false_eq_true, and_true, true_and, and_false, false_and, or_true, true_or, or_false, false_or, and_self, or_self, eq_self, ite_self]) dX0_faultOfNow_104
              · have h88 : inP ((m_ : Int32).toInt64) 0 1439 := b01_n h88
                refine lv_iload_n hx hb dX0_faultOfNow_91 rfl (lv_at hl 4 rfl) ?_
                refine cSi (As := [.int bag]) (rest := []) ⟨hx, hb, hml, hown, hts⟩ (mt_X0_isBag l bag) (cw_X0_X0_isBag hts ⟨Nat.le_of_ble_eq_true rfl, Nat.le_of_ble_eq_true rfl⟩) w_blT (fun _ _ _ => trivial) rfl hl.1 rfl (Nat.le_of_ble_eq_true rfl) dX0_faultOfNow_92 ⟨Nat.le_of_ble_eq_true rfl, Nat.le_of_ble_eq_true rfl⟩ ?_
                refine lv_if_ne (tgt := 103) hx hb dX0_faultOfNow_95 rfl (fun h95 => ?_) (fun h95 => ?_)
                · have h95 : bagP bag := b01_n h95
                  refine lv_iconst (v := 0) hx hb dX0_faultOfNow_103 rfl ?_
                  exact q_i hQ hx hb hr hlocks rfl (by simp only [refNowF, eq_true h9, eq_true h25, eq_true h88, eq_true h95, eq_true (Int32.not_lt.mp h76), hkn, show ((1 : Int32) = 0) = False from eq_false (by decide), if_true, if_false, ite_true, ite_false, not_true_eq_false, not_false_eq_true, and_true, true_and, and_false, false_and, or_true, true_or, or_false, false_or, and_self, or_self, eq_self, ite_self]) dX0_faultOfNow_104
                · have h95 : ¬ (bagP bag) := b01_0.mp h95
                  refine lv_bipush (v := (-3)) hx hb dX0_faultOfNow_98 rfl ?_
                  refine lv_goto (tgt := 104) hx hb dX0_faultOfNow_100 rfl ?_
                  exact q_i hQ hx hb hr hlocks rfl (by simp only [refNowF, eq_true h9, eq_true h25, eq_true h88, eq_false h95, eq_true (Int32.not_lt.mp h76), hkn, show ((1 : Int32) = 0) = False from eq_false (by decide), if_true, if_false, ite_true, ite_false, not_true_eq_false, not_false_eq_true, and_true, true_and, and_false, false_and, or_true, true_or, or_false, false_or, and_self, or_self, eq_self, ite_self]) dX0_faultOfNow_104
          · have h38 : ¬ (6 ≤ k) := fun z9 => h38 ((nz_le (a := 6) (b := k) rfl rfl (by omega) (by omega)).mpr z9)
            refine lv_iload hx hb dX0_faultOfNow_41 (lv_at hl 5 rfl) ?_
            refine lv_iload hx hb dX0_faultOfNow_43 (lv_at hl 0 rfl) ?_
            refine lv_ishr hx hb dX0_faultOfNow_45 ?_
            refine lv_iconst (v := 1) hx hb dX0_faultOfNow_46 rfl ?_
            refine lv_iand hx hb dX0_faultOfNow_47 ?_
            refine lv_iconst (v := 1) hx hb dX0_faultOfNow_48 rfl ?_
            have hJ64_5 : ∀ (ls : Array Slot), (hasP set_ (nI k) → useP σ (nI k)) → lv_has ls 6 [(5, .int (nI k)), (0, .ref x), (1, .int x_), (2, .int m_), (3, .int bag), (4, .int set_)] → W p l e rmX0_faultOfNow s m args below meth c s.heap [] 0 0 Q (F0 m 64 ls []) := by
              intro  ls hgood hl
              refine lv_iinc (v := nI (k + 1)) (lv' := [(5, .int (nI (k + 1))), (0, .ref x), (1, .int x_), (2, .int m_), (3, .int bag), (4, .int set_)]) hx hb dX0_faultOfNow_64 hl (k := 0) rfl (nI_1 k) (by decide) rfl (fun ls hl => ?_)
              refine lv_goto (tgt := 34) hx hb dX0_faultOfNow_67 rfl ?_
              exact ih_3 (k + 1) (nI (k + 1)) ls (by omega) (by omega) (kn_s hkn hgood) rfl (lv_sub hl [0, 1, 2, 3, 4, 5] rfl)
            refine lv_icmp_ne (tgt := 64) hx hb dX0_faultOfNow_49 rfl (fun h49 => ?_) (fun h49 => ?_)
            · have h49 : ¬ (((set_ >>> ((nI k) &&& 31)) &&& 1) = 1) := h49
              exact hJ64_5  ls (fun q => absurd q h49) (lv_sub hl [0, 1, 2, 3, 4, 5] rfl)
            · have h49 : ((set_ >>> ((nI k) &&& 31)) &&& 1) = 1 := h49
              refine lv_aload_n hx hb dX0_faultOfNow_52 rfl (lv_at hl 1 rfl) ?_
              refine lv_iload hx hb dX0_faultOfNow_53 (lv_at hl 0 rfl) ?_
              refine dV (v := .int (b01 (useP σ (nI k)))) (As := [.int (nI k)]) (rest := []) ⟨hx, hb, hml, hown, hts⟩ (mt_X0_isCall l D dA x ad μ σ ω (nI k) hI hR) (cw_X0_X0_isCall hts ⟨Nat.le_of_ble_eq_true rfl, Nat.le_of_ble_eq_true rfl⟩) cB_bw (cB_now hK hN hP) (va_recv hK hP (ci := 1) (q0 := 0) rfl rfl) rfl hl.1 rfl (Nat.le_of_ble_eq_true rfl) dX0_faultOfNow_55 ⟨Nat.le_of_ble_eq_true rfl, Nat.le_of_ble_eq_true rfl⟩ ?_
              refine lv_if_ne (tgt := 64) hx hb dX0_faultOfNow_58 rfl (fun h58 => ?_) (fun h58 => ?_)
              · have h58 : useP σ (nI k) := b01_n h58
                exact hJ64_5  ls (fun _ => h58) (lv_sub hl [0, 1, 2, 3, 4, 5] rfl)
              · have h58 : ¬ (useP σ (nI k)) := b01_0.mp h58
                refine lv_bipush (v := (-2)) hx hb dX0_faultOfNow_61 rfl ?_
                exact q_i hQ hx hb hr hlocks rfl (by rw [refNowF, if_pos h9, if_pos h25, if_pos (kn_b hkn (by omega) h49 h58)]) dX0_faultOfNow_63
      exact hL34_1 _ 0 0 ls (Nat.lt_succ_self _) (by omega) rfl rfl (lv_sub hl [0, 1, 2, 3, 4, 5] rfl)
    · have h25 : ¬ (inP ((set_ : Int32).toInt64) 0 63) := b01_0.mp h25
      refine lv_bipush (v := (-3)) hx hb dX0_faultOfNow_28 rfl ?_
      exact q_i hQ hx hb hr hlocks rfl (by simp only [refNowF, eq_true h9, eq_false h25, if_true, if_false, ite_true, ite_false, not_true_eq_false, not_false_eq_true, and_true, true_and, and_false, false_and, or_true, true_or, or_false, false_or, and_self, or_self, eq_self]) dX0_faultOfNow_30
  · have h9 : ¬ (inP ((x_ : Int32).toInt64) 0 5) := b01_0.mp h9
    refine lv_bipush (v := (-2)) hx hb dX0_faultOfNow_12 rfl ?_
    exact q_i hQ hx hb hr hlocks rfl (by simp only [refNowF, eq_false h9, if_true, if_false, ite_true, ite_false, not_true_eq_false, not_false_eq_true, and_true, true_and, and_false, false_and, or_true, true_or, or_false, false_or, and_self, or_self, eq_self]) dX0_faultOfNow_14

def rmX0_valueOf_0 : Room := { frames := 0, cells := 0, slots := 0, locals := 0 }
set_option maxHeartbeats 1000000 in
theorem mt_X0_valueOf_0 (l : Launch) (D : va_G) (dA : Nat → ClassId) (x : Nat) (ad : Nat → Nat) (μ : Lay) (σ : St) (ω : Om) (x_ : Nat) (m_ : Int32) (bag : Int32) (set_ : Int32) (hI : Inv σ) (hR : Rel dA μ σ) (hJ : Inv2 σ) (hx6 : x_ < 6) (hy : byP bag) (hs : setN set_ 0) (hU : setU σ set_) : Met l yX0_valueOf (ws_ yX0_valueOf cX0_valueOf 9 (some .long)) rmX0_valueOf_0 (va_Pc [.ref x, .int (nI x_), .int m_, .int bag, .int set_, .int (ptF σ.tools 8)] (cB D dA x ad μ σ ω)) (roQ (.long (mV σ 0 x_ m_ bag set_))) 0 0 (fun _ => False) := by
  refine w_start (by decide) (Nat.le_of_ble_eq_true rfl) ?_
  intro p e s m args below meth c Q ls hQ hx hb hr hlocks hml hown hnm hts hB hl
  have hown : s.vm.findClass RX0 = some m.cls := hown
  have hl : lv_has ls 9 [(0, .ref x), (1, .int (nI x_)), (2, .int m_), (3, .int bag), (4, .int set_), (5, .int (ptF σ.tools 8))] := hl
  obtain ⟨hP, hK, hN⟩ := hB
  refine lv_lconst (v := 0) hx hb dX0_valueOf_0 rfl ?_
  refine lv_lstore (lv' := [(6, .long 0), (0, .ref x), (1, .int (nI x_)), (2, .int m_), (3, .int bag), (4, .int set_), (5, .int (ptF σ.tools 8))]) hx hb dX0_valueOf_1 hl (by decide) rfl (fun ls hl => ?_)
  refine lv_iconst (v := 0) hx hb dX0_valueOf_3 rfl ?_
  refine lv_istore (lv' := [(8, .int 0), (6, .long 0), (0, .ref x), (1, .int (nI x_)), (2, .int m_), (3, .int bag), (4, .int set_), (5, .int (ptF σ.tools 8))]) hx hb dX0_valueOf_4 hl (by decide) rfl (fun ls hl => ?_)
  have hL6_1 : ∀ (n_2 : Nat) (k : Nat) (x8 : Int32) (ls : Array Slot), (6 - k) < n_2 → (k ≤ 6) → x8 = (nI k) → lv_has ls 9 [(8, .int x8), (6, .long 0), (0, .ref x), (1, .int (nI x_)), (2, .int m_), (3, .int bag), (4, .int set_), (5, .int (ptF σ.tools 8))] → W p l e rmX0_valueOf_0 s m args below meth c s.heap [] 0 0 Q (F0 m 6 ls []) := by
    intro n_2
    induction n_2 with
    | zero => intro k x8 ls hm_4; exact absurd hm_4 (Nat.not_lt_zero _)
    | succ n_2 ih_3 =>
      intro k x8 ls hm_4 hk ex8 hl
      subst ex8
      refine lv_iload hx hb dX0_valueOf_6 (lv_at hl 0 rfl) ?_
      refine lv_bipush (v := 6) hx hb dX0_valueOf_8 rfl ?_
      refine lv_icmp_ge (tgt := 55) hx hb dX0_valueOf_10 rfl (fun h10 => ?_) (fun h10 => ?_)
      · have h10 : 6 ≤ k := (nz_le (a := 6) (b := k) rfl rfl (by omega) (by omega)).mp h10
        have hk_ : k = 6 := by omega
        subst hk_
        refine lv_lload hx hb dX0_valueOf_55 (lv_at hl 1 rfl) ?_
        exact q_l hQ hx hb hr hlocks rfl (rfl) dX0_valueOf_57
      · have h10 : ¬ (6 ≤ k) := fun z9 => h10 ((nz_le (a := 6) (b := k) rfl rfl (by omega) (by omega)).mpr z9)
        refine lv_iload hx hb dX0_valueOf_13 (lv_at hl 6 rfl) ?_
        refine lv_iload hx hb dX0_valueOf_15 (lv_at hl 0 rfl) ?_
        refine lv_ishr hx hb dX0_valueOf_17 ?_
        refine lv_iconst (v := 1) hx hb dX0_valueOf_18 rfl ?_
        refine lv_iand hx hb dX0_valueOf_19 ?_
        refine lv_iconst (v := 1) hx hb dX0_valueOf_20 rfl ?_
        refine lv_icmp_ne (tgt := 45) hx hb dX0_valueOf_21 rfl (fun h21 => ?_) (fun h21 => ?_)
        · have h21 : ¬ (((set_ >>> ((nI k) &&& 31)) &&& 1) = 1) := h21
          refine lv_lload hx hb dX0_valueOf_45 (lv_at hl 1 rfl) ?_
          refine lv_lstore (lv' := [(6, .long 0), (8, .int (nI k)), (0, .ref x), (1, .int (nI x_)), (2, .int m_), (3, .int bag), (4, .int set_), (5, .int (ptF σ.tools 8))]) hx hb dX0_valueOf_47 hl (by decide) rfl (fun ls hl => ?_)
          refine lv_iinc (v := nI (k + 1)) (lv' := [(8, .int (nI (k + 1))), (6, .long 0), (0, .ref x), (1, .int (nI x_)), (2, .int m_), (3, .int bag), (4, .int set_), (5, .int (ptF σ.tools 8))]) hx hb dX0_valueOf_49 hl (k := 1) rfl (nI_1 k) (by decide) rfl (fun ls hl => ?_)
          refine lv_goto (tgt := 6) hx hb dX0_valueOf_52 rfl ?_
          exact ih_3 (k + 1) (nI (k + 1)) ls (by omega) (by omega) rfl (lv_sub hl [0, 1, 2, 3, 4, 5, 6, 7] rfl)
        · have h21 : ((set_ >>> ((nI k) &&& 31)) &&& 1) = 1 := h21
          exact absurd h21 (set0 hs (by omega))
  exact hL6_1 _ 0 0 ls (Nat.lt_succ_self _) (by omega) rfl (lv_sub hl [0, 1, 2, 3, 4, 5, 6, 7] rfl)

theorem cw_X0_X7_place {R : Room} {s : State} {args : Array Value} (hts : ∀ w ∈ lw_all, w.before args s = true) (hR : rmX7_place.frames + 1 ≤ R.frames ∧ 8 + (1 + 11) + rmX7_place.locals ≤ R.locals) : CallW R s args RX0 RX7 259 yX7_place cX7_place 1 (some .int) (ws_ yX7_place cX7_place 1 (some .int)) rmX7_place 0 0 0 := cwV 0 hts (lw_V q1029 q950 q951 q104 q952) rfl rfl rfl (by decide +kernel) hR
theorem cw_X0_X7_begins {R : Room} {s : State} {args : Array Value} (hts : ∀ w ∈ lw_all, w.before args s = true) (hR : rmX7_begins.frames + 1 ≤ R.frames ∧ 8 + (2 + 11) + rmX7_begins.locals ≤ R.locals) : CallW R s args RX0 RX7 262 yX7_begins cX7_begins 2 (some .int) (ws_ yX7_begins cX7_begins 2 (some .int)) rmX7_begins 0 0 1 := cwV 1 hts (lw_V q1030 q954 q955 q104 q956) rfl rfl rfl (by decide +kernel) hR
theorem cw_X0_X0_productOf {R : Room} {s : State} {args : Array Value} (hts : ∀ w ∈ lw_all, w.before args s = true) (hR : rmX0_productOf.frames + 1 ≤ R.frames ∧ 8 + (5 + 11) + rmX0_productOf.locals ≤ R.locals) : CallW R s args RX0 RX0 265 yX0_productOf cX0_productOf 5 (some .long) (ws_ yX0_productOf cX0_productOf 5 (some .long)) rmX0_productOf 0 0 1 := cwV 1 hts (lw_V q1031 q1033 qs32 q77 q1034) rfl rfl rfl (by decide +kernel) hR
theorem cw_X0_X0_valueOf_0 {R : Room} {s : State} {args : Array Value} (hts : ∀ w ∈ lw_all, w.before args s = true) (hR : rmX0_valueOf_0.frames + 1 ≤ R.frames ∧ 8 + (9 + 11) + rmX0_valueOf_0.locals ≤ R.locals) : CallW R s args RX0 RX0 268 yX0_valueOf cX0_valueOf 9 (some .long) (ws_ yX0_valueOf cX0_valueOf 9 (some .long)) rmX0_valueOf_0 0 0 5 := cwV 5 hts (lw_V q1021 q1023 qs30 q77 q1024) rfl rfl rfl (by decide +kernel) hR
theorem cw_X0_X7_again {R : Room} {s : State} {args : Array Value} (hts : ∀ w ∈ lw_all, w.before args s = true) (hR : rmX7_again.frames + 1 ≤ R.frames ∧ 8 + (1 + 11) + rmX7_again.locals ≤ R.locals) : CallW R s args RX0 RX7 272 yX7_again cX7_again 1 (some .int) (ws_ yX7_again cX7_again 1 (some .int)) rmX7_again 0 0 0 := cwV 0 hts (lw_V q1035 q959 q960 q104 q961) rfl rfl rfl (by decide +kernel) hR
theorem cw_X0_X7_worth {R : Room} {s : State} {args : Array Value} (hts : ∀ w ∈ lw_all, w.before args s = true) (hR : rmX7_worth.frames + 1 ≤ R.frames ∧ 8 + (1 + 11) + rmX7_worth.locals ≤ R.locals) : CallW R s args RX0 RX7 275 yX7_worth cX7_worth 1 (some .int) (ws_ yX7_worth cX7_worth 1 (some .int)) rmX7_worth 0 0 0 := cwV 0 hts (lw_V q1036 q968 q969 q104 q970) rfl rfl rfl (by decide +kernel) hR
def rmX0_valueBy_1 : Room := { frames := 3, cells := 0, slots := 0, locals := 64 }
set_option maxHeartbeats 1000000 in
theorem mt_X0_valueBy_1 (l : Launch) (D : va_G) (dA : Nat → ClassId) (x : Nat) (ad : Nat → Nat) (μ : Lay) (σ : St) (ω : Om) (c_ : Nat) (x_ : Nat) (m_ : Int32) (bag : Int32) (set_ : Int32) (hI : Inv σ) (hR : Rel dA μ σ) (hJ : Inv2 σ) (hc : c_ < 6) (hx6 : x_ < 6) (hy : byP bag) (hs : setN set_ 1) (hU : setU σ set_) (hh : hasP set_ (nI c_)) : Met l yX0_valueBy (ws_ yX0_valueBy cX0_valueBy 19 (some .long)) rmX0_valueBy_1 (va_Pc [.ref x, .int (nI c_), .int (nI x_), .int m_, .int bag, .int set_, .int (ptF σ.tools 8)] (cB D dA x ad μ σ ω)) (roQ (.long (goV σ (mV σ 0) x_ m_ bag set_ c_))) 0 0 (fun _ => False) := by
  refine w_start (by decide) (Nat.le_of_ble_eq_true rfl) ?_
  intro p e s m args below meth c Q ls hQ hx hb hr hlocks hml hown hnm hts hB hl
  have hown : s.vm.findClass RX0 = some m.cls := hown
  have hl : lv_has ls 19 [(0, .ref x), (1, .int (nI c_)), (2, .int (nI x_)), (3, .int m_), (4, .int bag), (5, .int set_), (6, .int (ptF σ.tools 8))] := hl
  obtain ⟨hP, hK, hN⟩ := hB
  obtain ⟨hTc, hs0⟩ := hU c_ hc hh
  have hsm := hI.sm c_ hc
  have hpl := (hI.pl2 c_ hc).1
  refine lv_aload_n hx hb dX0_valueBy_0 rfl (lv_at hl 0 rfl) ?_
  refine va_get (D := D) (ci := 1) (v := .ref (ad 2)) (C := RX0) (T := TX0) (N := 11) hx hb hts in_X0 hown hK hP 0 rfl rfl 5 (by decide) (hts _ q218) (fun _ h9 => h9) rfl dX0_valueBy_1 ?_
  refine lv_iload_n hx hb dX0_valueBy_4 rfl (lv_at hl 1 rfl) ?_
  refine wa_aald (v := .ref (μ.cA c_)) hx hb hK hP 3 5 rfl rfl rfl (c_) (rfl) (by omega) (by decide) (cO_t hTc) dX0_valueBy_5 ?_
  refine lv_astore (lv' := [(7, .ref (μ.cA c_)), (0, .ref x), (1, .int (nI c_)), (2, .int (nI x_)), (3, .int m_), (4, .int bag), (5, .int set_), (6, .int (ptF σ.tools 8))]) hx hb dX0_valueBy_6 hl (by decide) rfl (fun ls hl => ?_)
  refine lv_iload hx hb dX0_valueBy_8 (lv_at hl 6 rfl) ?_
  refine lv_iconst (v := 1) hx hb dX0_valueBy_10 rfl ?_
  refine lv_iload_n hx hb dX0_valueBy_11 rfl (lv_at hl 2 rfl) ?_
  refine lv_ishl hx hb dX0_valueBy_12 ?_
  refine lv_iconst (v := (-1)) hx hb dX0_valueBy_13 rfl ?_
  refine lv_ixor hx hb dX0_valueBy_14 ?_
  refine lv_iand hx hb dX0_valueBy_15 ?_
  refine w_topi (y := restF set_ c_) (rfl) ?_
  refine lv_istore (lv' := [(8, .int (restF set_ c_)), (7, .ref (μ.cA c_)), (0, .ref x), (1, .int (nI c_)), (2, .int (nI x_)), (3, .int m_), (4, .int bag), (5, .int set_), (6, .int (ptF σ.tools 8))]) hx hb dX0_valueBy_16 hl (by decide) rfl (fun ls hl => ?_)
  refine lv_iload_n hx hb dX0_valueBy_18 rfl (lv_at hl 5 rfl) ?_
  refine lv_aload_n hx hb dX0_valueBy_19 rfl (lv_at hl 2 rfl) ?_
  refine va_get (D := D) (ci := 1) (v := .ref (ad 1)) (C := RX0) (T := TX0) (N := 11) hx hb hts in_X0 hown hK hP 0 rfl rfl 4 (by decide) (hts _ q216) (fun _ h9 => h9) rfl dX0_valueBy_20 ?_
  refine lv_iload_n hx hb dX0_valueBy_23 rfl (lv_at hl 4 rfl) ?_
  refine wa_aald (v := .ref (ad (6 + x_))) hx hb hK hP 2 4 rfl rfl rfl (x_) (rfl) (by omega) (by decide) (rfl) dX0_valueBy_24 ?_
  refine lv_aload hx hb dX0_valueBy_25 (lv_at hl 1 rfl) ?_
  refine dV (v := .int ((fun k0_ => σ.calls (6 * c_ + k0_)) 0)) (As := []) (rest := [.ref (ad (6 + x_)), .int m_]) ⟨hx, hb, hml, hown, hts⟩ (mt_X7_place l D dA (μ.cA c_) (μ.kA c_) (μ.lA c_) (total σ c_) (fun k0_ => σ.calls (6 * c_ + k0_))) (cw_X0_X7_place hts ⟨Nat.le_of_ble_eq_true rfl, Nat.le_of_ble_eq_true rfl⟩) pB_bw (pB_now hK (pl2 (pl1 hP (hR.2.1 c_ hc hTc).1.1 (hR.2.1 c_ hc hTc).1.2) (pl1 hP (hR.2.1 c_ hc hTc).2.1.1 (hR.2.1 c_ hc hTc).2.1.2))) (va_recv hK (pl1 hP (hR.2.1 c_ hc hTc).1.1 (hR.2.1 c_ hc hTc).1.2) (ci := 5) (q0 := 0) rfl rfl) rfl hl.1 rfl (Nat.le_of_ble_eq_true rfl) dX0_valueBy_27 ⟨Nat.le_of_ble_eq_true rfl, Nat.le_of_ble_eq_true rfl⟩ ?_
  refine w_topi (y := nI (plF σ c_)) ((hI.pl2 c_ hc).2) ?_
  refine wa_sald (v := σ.ways (6 * x_ + (plF σ c_))) hx hb hK (way_row hP (i := x_) (by omega)) 0 2 rfl rfl (plF σ c_) (rfl) (by omega) (by decide) (rfl) dX0_valueBy_30 ?_
  refine lv_iadd hx hb dX0_valueBy_31 ?_
  refine lv_istore (lv' := [(9, .int (m_ + (σ.ways (6 * x_ + (plF σ c_))))), (8, .int (restF set_ c_)), (7, .ref (μ.cA c_)), (0, .ref x), (1, .int (nI c_)), (2, .int (nI x_)), (3, .int m_), (4, .int bag), (5, .int set_), (6, .int (ptF σ.tools 8))]) hx hb dX0_valueBy_32 hl (by decide) rfl (fun ls hl => ?_)
  refine lv_aload hx hb dX0_valueBy_34 (lv_at hl 2 rfl) ?_
  refine lv_iload hx hb dX0_valueBy_36 (lv_at hl 0 rfl) ?_
  refine dV (v := .int (begW (fun k0_ => σ.calls (6 * c_ + k0_)) (m_ + (σ.ways (6 * x_ + (plF σ c_)))))) (As := [.int (m_ + (σ.ways (6 * x_ + (plF σ c_))))]) (rest := []) ⟨hx, hb, hml, hown, hts⟩ (mt_X7_begins l D dA (μ.cA c_) (μ.kA c_) (μ.lA c_) (total σ c_) (fun k0_ => σ.calls (6 * c_ + k0_)) (m_ + (σ.ways (6 * x_ + (plF σ c_))))) (cw_X0_X7_begins hts ⟨Nat.le_of_ble_eq_true rfl, Nat.le_of_ble_eq_true rfl⟩) pB_bw (pB_now hK (pl2 (pl1 hP (hR.2.1 c_ hc hTc).1.1 (hR.2.1 c_ hc hTc).1.2) (pl1 hP (hR.2.1 c_ hc hTc).2.1.1 (hR.2.1 c_ hc hTc).2.1.2))) (va_recv hK (pl1 hP (hR.2.1 c_ hc hTc).1.1 (hR.2.1 c_ hc hTc).1.2) (ci := 5) (q0 := 0) rfl rfl) rfl hl.1 rfl (Nat.le_of_ble_eq_true rfl) dX0_valueBy_38 ⟨Nat.le_of_ble_eq_true rfl, Nat.le_of_ble_eq_true rfl⟩ ?_
  refine w_topi (y := bgF σ x_ m_ c_) (beg_eq hI hc m_) ?_
  refine lv_istore (lv' := [(10, .int (bgF σ x_ m_ c_)), (9, .int (m_ + (σ.ways (6 * x_ + (plF σ c_))))), (8, .int (restF set_ c_)), (7, .ref (μ.cA c_)), (0, .ref x), (1, .int (nI c_)), (2, .int (nI x_)), (3, .int m_), (4, .int bag), (5, .int set_), (6, .int (ptF σ.tools 8))]) hx hb dX0_valueBy_41 hl (by decide) rfl (fun ls hl => ?_)
  refine lv_aload_n hx hb dX0_valueBy_43 rfl (lv_at hl 4 rfl) ?_
  refine lv_iload hx hb dX0_valueBy_44 (lv_at hl 2 rfl) ?_
  refine dV (v := .long (tosF σ (restF set_ c_) 6)) (As := [.int (restF set_ c_)]) (rest := []) ⟨hx, hb, hml, hown, hts⟩ (mt_X0_productOf l D dA x ad μ σ ω (restF set_ c_) hI hR (rest_U hs hU hc hh)) (cw_X0_X0_productOf hts ⟨Nat.le_of_ble_eq_true rfl, Nat.le_of_ble_eq_true rfl⟩) cB_bw (cB_now hK hN hP) (va_recv hK hP (ci := 1) (q0 := 0) rfl rfl) rfl hl.1 rfl (Nat.le_of_ble_eq_true rfl) dX0_valueBy_46 ⟨Nat.le_of_ble_eq_true rfl, Nat.le_of_ble_eq_true rfl⟩ ?_
  refine lv_lstore (lv' := [(11, .long (tosF σ (restF set_ c_) 6)), (10, .int (bgF σ x_ m_ c_)), (9, .int (m_ + (σ.ways (6 * x_ + (plF σ c_))))), (8, .int (restF set_ c_)), (7, .ref (μ.cA c_)), (0, .ref x), (1, .int (nI c_)), (2, .int (nI x_)), (3, .int m_), (4, .int bag), (5, .int set_), (6, .int (ptF σ.tools 8))]) hx hb dX0_valueBy_49 hl (by decide) rfl (fun ls hl => ?_)
  refine lv_iload hx hb dX0_valueBy_51 (lv_at hl 1 rfl) ?_
  refine lv_iconst (v := (-1)) hx hb dX0_valueBy_53 rfl ?_
  refine lv_icmp_ne (tgt := 92) hx hb dX0_valueBy_54 rfl (fun h54 => ?_) (fun h54 => ?_)
  · have h54 : ¬ ((bgF σ x_ m_ c_) = (-1)) := h54
    obtain ⟨hnl, hbg⟩ := bg_n hI hc h54
    refine lv_lconst (v := 0) hx hb dX0_valueBy_92 rfl ?_
    refine lv_lstore (lv' := [(13, .long 0), (11, .long (tosF σ (restF set_ c_) 6)), (10, .int (bgF σ x_ m_ c_)), (9, .int (m_ + (σ.ways (6 * x_ + (plF σ c_))))), (8, .int (restF set_ c_)), (7, .ref (μ.cA c_)), (0, .ref x), (1, .int (nI c_)), (2, .int (nI x_)), (3, .int m_), (4, .int bag), (5, .int set_), (6, .int (ptF σ.tools 8))]) hx hb dX0_valueBy_93 hl (by decide) rfl (fun ls hl => ?_)
    refine lv_iconst (v := 0) hx hb dX0_valueBy_95 rfl ?_
    refine lv_istore (lv' := [(15, .int 0), (13, .long 0), (11, .long (tosF σ (restF set_ c_) 6)), (10, .int (bgF σ x_ m_ c_)), (9, .int (m_ + (σ.ways (6 * x_ + (plF σ c_))))), (8, .int (restF set_ c_)), (7, .ref (μ.cA c_)), (0, .ref x), (1, .int (nI c_)), (2, .int (nI x_)), (3, .int m_), (4, .int bag), (5, .int set_), (6, .int (ptF σ.tools 8))]) hx hb dX0_valueBy_96 hl (by decide) rfl (fun ls hl => ?_)
    have hL98_1 : ∀ (n_2 : Nat) (k : Nat) (x15 : Int32) (x13 : Int64) (ls : Array Slot), (4 - k) < n_2 → (k ≤ σ.sm c_) → x15 = (nI k) → x13 = (gosS σ (mV σ 0) (arrF σ x_ m_ c_) bag (restF set_ c_) (tosF σ (restF set_ c_) 6) c_ k) → lv_has ls 19 [(15, .int x15), (13, .long x13), (11, .long (tosF σ (restF set_ c_) 6)), (10, .int (bgF σ x_ m_ c_)), (9, .int (m_ + (σ.ways (6 * x_ + (plF σ c_))))), (8, .int (restF set_ c_)), (7, .ref (μ.cA c_)), (0, .ref x), (1, .int (nI c_)), (2, .int (nI x_)), (3, .int m_), (4, .int bag), (5, .int set_), (6, .int (ptF σ.tools 8))] → W p l e rmX0_valueBy_1 s m args below meth c s.heap [] 0 0 Q (F0 m 98 ls []) := by
      intro n_2
      induction n_2 with
      | zero => intro k x15 x13 ls hm_4; exact absurd hm_4 (Nat.not_lt_zero _)
      | succ n_2 ih_3 =>
        intro k x15 x13 ls hm_4 hk ex15 ex13 hl
        subst ex15 ex13
        refine lv_iload hx hb dX0_valueBy_98 (lv_at hl 0 rfl) ?_
        refine lv_aload hx hb dX0_valueBy_100 (lv_at hl 6 rfl) ?_
        refine va_get (D := D) (ci := 5) (v := .ref (μ.lA c_)) (C := RX7) (T := TX7) (N := 3) hx hb hts in_X7 hown hK (pl1 hP (hR.2.1 c_ hc hTc).1.1 (hR.2.1 c_ hc hTc).1.2) 0 rfl rfl 1 (by decide) (hts _ q701) (fun _ h9 => h9) rfl dX0_valueBy_102 ?_
        refine dV (v := .int (nI (σ.sm c_))) (As := []) (rest := [.int (nI k)]) ⟨hx, hb, hml, hown, hts⟩ (mt_J2_size l D dA (μ.lA c_) (μ.eA c_) (μ.mA c_) (σ.sm c_)) (cw_X0_J2_size hts ⟨Nat.le_of_ble_eq_true rfl, Nat.le_of_ble_eq_true rfl⟩) pB_bw (pB_now hK (pl1 hP (hR.2.1 c_ hc hTc).2.2.1.1 (hR.2.1 c_ hc hTc).2.2.1.2)) (va_recv hK (pl1 hP (hR.2.1 c_ hc hTc).2.2.1.1 (hR.2.1 c_ hc hTc).2.2.1.2) (ci := 8) (q0 := 0) rfl rfl) rfl hl.1 rfl (Nat.le_of_ble_eq_true rfl) dX0_valueBy_105 ⟨Nat.le_of_ble_eq_true rfl, Nat.le_of_ble_eq_true rfl⟩ ?_
        refine lv_icmp_ge (tgt := 236) hx hb dX0_valueBy_108 rfl (fun h108 => ?_) (fun h108 => ?_)
        · have h108 : (σ.sm c_) ≤ k := (nz_le (a := (σ.sm c_)) (b := k) rfl rfl (by omega) (by omega)).mp h108
          have hk_ : k = σ.sm c_ := by omega
          subst hk_
          refine lv_lload hx hb dX0_valueBy_236 (lv_at hl 1 rfl) ?_
          exact q_l hQ hx hb hr hlocks rfl (by unfold goV; rw [if_neg hnl]) dX0_valueBy_238
        · have h108 : ¬ ((σ.sm c_) ≤ k) := fun z9 => h108 ((nz_le (a := (σ.sm c_)) (b := k) rfl rfl (by omega) (by omega)).mpr z9)
          refine lv_aload hx hb dX0_valueBy_111 (lv_at hl 6 rfl) ?_
          refine va_get (D := D) (ci := 5) (v := .ref (μ.lA c_)) (C := RX7) (T := TX7) (N := 3) hx hb hts in_X7 hown hK (pl1 hP (hR.2.1 c_ hc hTc).1.1 (hR.2.1 c_ hc hTc).1.2) 0 rfl rfl 1 (by decide) (hts _ q701) (fun _ h9 => h9) rfl dX0_valueBy_113 ?_
          refine lv_iload hx hb dX0_valueBy_116 (lv_at hl 0 rfl) ?_
          refine g_sort (rest := []) ⟨hx, hb, hml, hown, hts⟩ (cw_X0_J2_get hts ⟨Nat.le_of_ble_eq_true rfl, Nat.le_of_ble_eq_true rfl⟩) hK hP (hR.2.1 c_ hc hTc) (hI.sm c_ hc) (show k < σ.sm c_ by omega) hl.1 rfl (Nat.le_of_ble_eq_true rfl) dX0_valueBy_118 ⟨Nat.le_of_ble_eq_true rfl, Nat.le_of_ble_eq_true rfl⟩ ?_
          refine va_castS hx hb hown (hts _ q717) (hK.1 6 _ rfl).2 (va_recv hK (pl1 hP ((hR.2.1 c_ hc hTc).2.2.2.2 k (show k < σ.sm c_ by omega)).1 ((hR.2.1 c_ hc hTc).2.2.2.2 k (show k < σ.sm c_ by omega)).2) (ci := 6) (q0 := 0) rfl rfl) dX0_valueBy_121 ?_
          refine lv_astore (lv' := [(16, .ref (μ.sA c_ k)), (15, .int (nI k)), (13, .long (gosS σ (mV σ 0) (arrF σ x_ m_ c_) bag (restF set_ c_) (tosF σ (restF set_ c_) 6) c_ k)), (11, .long (tosF σ (restF set_ c_) 6)), (10, .int (bgF σ x_ m_ c_)), (9, .int (m_ + (σ.ways (6 * x_ + (plF σ c_))))), (8, .int (restF set_ c_)), (7, .ref (μ.cA c_)), (0, .ref x), (1, .int (nI c_)), (2, .int (nI x_)), (3, .int m_), (4, .int bag), (5, .int set_), (6, .int (ptF σ.tools 8))]) hx hb dX0_valueBy_124 hl (by decide) rfl (fun ls hl => ?_)
          refine lv_aload hx hb dX0_valueBy_126 (lv_at hl 0 rfl) ?_
          refine lv_iload hx hb dX0_valueBy_128 (lv_at hl 12 rfl) ?_
          refine dU (v := .int (b01 (metP bag (σ.sorts (16 * c_ + 4 * k + 2)) (σ.sorts (16 * c_ + 4 * k + 3))))) (As := [.int bag]) (rest := []) ⟨hx, hb, hml, hown, hts⟩ (mt_X8_isMet_S l D dA (μ.sA c_ k) (σ.sorts (16 * c_ + 4 * k + 2)) (σ.sorts (16 * c_ + 4 * k + 3)) (σ.sorts (16 * c_ + 4 * k)) (σ.sorts (16 * c_ + 4 * k + 1)) bag) (cw_X0_X8_isMet_S_X9 hts ⟨Nat.le_of_ble_eq_true rfl, Nat.le_of_ble_eq_true rfl⟩) pB_bw (pB_now hK (pl1 hP ((hR.2.1 c_ hc hTc).2.2.2.2 k (show k < σ.sm c_ by omega)).1 ((hR.2.1 c_ hc hTc).2.2.2.2 k (show k < σ.sm c_ by omega)).2)) (va_recv hK (pl1 hP ((hR.2.1 c_ hc hTc).2.2.2.2 k (show k < σ.sm c_ by omega)).1 ((hR.2.1 c_ hc hTc).2.2.2.2 k (show k < σ.sm c_ by omega)).2) (ci := 6) (q0 := 0) rfl rfl) rfl hl.1 rfl (Nat.le_of_ble_eq_true rfl) dX0_valueBy_130 ⟨Nat.le_of_ble_eq_true rfl, Nat.le_of_ble_eq_true rfl⟩ ?_
          refine w_topi (y := b01 (¬ leftF σ bag c_ k = -1)) (b01_iff (met_left hy c_ k)) ?_
          have hJ214_5 : ∀ (v_6 : Int64) (ls : Array Slot), v_6 = (if ¬ leftF σ bag c_ k = -1 then (((σ.calls (6 * c_ + 3) : Int32).toInt64) * (tosF σ (restF set_ c_) 6)) + (mV σ 0 (plF σ c_) ((bgF σ x_ m_ c_) + (σ.sorts (16 * c_ + 4 * k + 1))) (leftF σ bag c_ k) (restF set_ c_)) else (mV σ 0 (plF σ c_) ((bgF σ x_ m_ c_) + (σ.calls (6 * c_ + 5))) bag (restF set_ c_)) - (((σ.calls (6 * c_ + 4) : Int32).toInt64) * (tosF σ (restF set_ c_) 6))) → lv_has ls 19 [(16, .ref (μ.sA c_ k)), (15, .int (nI k)), (13, .long (gosS σ (mV σ 0) (arrF σ x_ m_ c_) bag (restF set_ c_) (tosF σ (restF set_ c_) 6) c_ k)), (11, .long (tosF σ (restF set_ c_) 6)), (10, .int (bgF σ x_ m_ c_)), (9, .int (m_ + (σ.ways (6 * x_ + (plF σ c_))))), (8, .int (restF set_ c_)), (7, .ref (μ.cA c_)), (0, .ref x), (1, .int (nI c_)), (2, .int (nI x_)), (3, .int m_), (4, .int bag), (5, .int set_), (6, .int (ptF σ.tools 8))] → W p l e rmX0_valueBy_1 s m args below meth c s.heap [] 0 0 Q (F0 m 214 ls [.long v_6]) := by
            intro v_6 ls ev_6 hl
            refine lv_lstore (lv' := [(17, .long v_6), (16, .ref (μ.sA c_ k)), (15, .int (nI k)), (13, .long (gosS σ (mV σ 0) (arrF σ x_ m_ c_) bag (restF set_ c_) (tosF σ (restF set_ c_) 6) c_ k)), (11, .long (tosF σ (restF set_ c_) 6)), (10, .int (bgF σ x_ m_ c_)), (9, .int (m_ + (σ.ways (6 * x_ + (plF σ c_))))), (8, .int (restF set_ c_)), (7, .ref (μ.cA c_)), (0, .ref x), (1, .int (nI c_)), (2, .int (nI x_)), (3, .int m_), (4, .int bag), (5, .int set_), (6, .int (ptF σ.tools 8))]) hx hb dX0_valueBy_214 hl (by decide) rfl (fun ls hl => ?_)
            refine lv_lload hx hb dX0_valueBy_216 (lv_at hl 3 rfl) ?_
            refine lv_aload hx hb dX0_valueBy_218 (lv_at hl 1 rfl) ?_
            refine va_get (D := D) (ci := 6) (v := .int (σ.sorts (16 * c_ + 4 * k))) (C := RX9) (T := TX9) (N := 4) hx hb hts in_X9 hown hK (pl1 hP ((hR.2.1 c_ hc hTc).2.2.2.2 k (show k < σ.sm c_ by omega)).1 ((hR.2.1 c_ hc hTc).2.2.2.2 k (show k < σ.sm c_ by omega)).2) 0 rfl rfl 2 (by decide) (hts _ q729) (fun _ h9 => h9) rfl dX0_valueBy_220 ?_
            refine lv_i2l (v := (σ.sorts (16 * c_ + 4 * k) : Int32).toInt64) hx hb dX0_valueBy_223 rfl ?_
            refine lv_lload hx hb dX0_valueBy_224 (lv_at hl 0 rfl) ?_
            refine lv_lmul hx hb dX0_valueBy_226 ?_
            refine lv_ladd hx hb dX0_valueBy_227 ?_
            refine lv_lstore (lv' := [(13, .long ((gosS σ (mV σ 0) (arrF σ x_ m_ c_) bag (restF set_ c_) (tosF σ (restF set_ c_) 6) c_ k) + (((σ.sorts (16 * c_ + 4 * k) : Int32).toInt64) * v_6))), (17, .long v_6), (16, .ref (μ.sA c_ k)), (15, .int (nI k)), (11, .long (tosF σ (restF set_ c_) 6)), (10, .int (bgF σ x_ m_ c_)), (9, .int (m_ + (σ.ways (6 * x_ + (plF σ c_))))), (8, .int (restF set_ c_)), (7, .ref (μ.cA c_)), (0, .ref x), (1, .int (nI c_)), (2, .int (nI x_)), (3, .int m_), (4, .int bag), (5, .int set_), (6, .int (ptF σ.tools 8))]) hx hb dX0_valueBy_228 hl (by decide) rfl (fun ls hl => ?_)
            refine lv_iinc (v := nI (k + 1)) (lv' := [(15, .int (nI (k + 1))), (13, .long ((gosS σ (mV σ 0) (arrF σ x_ m_ c_) bag (restF set_ c_) (tosF σ (restF set_ c_) 6) c_ k) + (((σ.sorts (16 * c_ + 4 * k) : Int32).toInt64) * v_6))), (17, .long v_6), (16, .ref (μ.sA c_ k)), (11, .long (tosF σ (restF set_ c_) 6)), (10, .int (bgF σ x_ m_ c_)), (9, .int (m_ + (σ.ways (6 * x_ + (plF σ c_))))), (8, .int (restF set_ c_)), (7, .ref (μ.cA c_)), (0, .ref x), (1, .int (nI c_)), (2, .int (nI x_)), (3, .int m_), (4, .int bag), (5, .int set_), (6, .int (ptF σ.tools 8))]) hx hb dX0_valueBy_230 hl (k := 3) rfl (nI_1 k) (by decide) rfl (fun ls hl => ?_)
            refine lv_goto (tgt := 98) hx hb dX0_valueBy_233 rfl ?_
            exact ih_3 (k + 1) (nI (k + 1)) ((gosS σ (mV σ 0) (arrF σ x_ m_ c_) bag (restF set_ c_) (tosF σ (restF set_ c_) 6) c_ k) + (((σ.sorts (16 * c_ + 4 * k) : Int32).toInt64) * v_6)) ls (by omega) (by omega) rfl (by subst_vars; rw [gos_s hJ hc, hbg]) (lv_sub hl [0, 1, 4, 5, 6, 7, 8, 9, 10, 11, 12, 13, 14, 15] rfl)
          refine lv_if_eq (tgt := 179) hx hb dX0_valueBy_133 rfl (fun h133 => ?_) (fun h133 => ?_)
          · have h133 : ¬ (¬ leftF σ bag c_ k = -1) := b01_0.mp h133
            refine lv_aload_n hx hb dX0_valueBy_179 rfl (lv_at hl 8 rfl) ?_
            refine lv_aload hx hb dX0_valueBy_180 (lv_at hl 7 rfl) ?_
            refine dV (v := .int ((fun k0_ => σ.calls (6 * c_ + k0_)) 0)) (As := []) (rest := [.ref x]) ⟨hx, hb, hml, hown, hts⟩ (mt_X7_place l D dA (μ.cA c_) (μ.kA c_) (μ.lA c_) (total σ c_) (fun k0_ => σ.calls (6 * c_ + k0_))) (cw_X0_X7_place hts ⟨Nat.le_of_ble_eq_true rfl, Nat.le_of_ble_eq_true rfl⟩) pB_bw (pB_now hK (pl2 (pl1 hP (hR.2.1 c_ hc hTc).1.1 (hR.2.1 c_ hc hTc).1.2) (pl1 hP (hR.2.1 c_ hc hTc).2.1.1 (hR.2.1 c_ hc hTc).2.1.2))) (va_recv hK (pl1 hP (hR.2.1 c_ hc hTc).1.1 (hR.2.1 c_ hc hTc).1.2) (ci := 5) (q0 := 0) rfl rfl) rfl hl.1 rfl (Nat.le_of_ble_eq_true rfl) dX0_valueBy_182 ⟨Nat.le_of_ble_eq_true rfl, Nat.le_of_ble_eq_true rfl⟩ ?_
            refine w_topi (y := nI (plF σ c_)) ((hI.pl2 c_ hc).2) ?_
            refine lv_iload hx hb dX0_valueBy_185 (lv_at hl 4 rfl) ?_
            refine lv_aload hx hb dX0_valueBy_187 (lv_at hl 7 rfl) ?_
            refine va_get (D := D) (ci := 5) (v := .ref (μ.kA c_)) (C := RX7) (T := TX7) (N := 3) hx hb hts in_X7 hown hK (pl1 hP (hR.2.1 c_ hc hTc).1.1 (hR.2.1 c_ hc hTc).1.2) 0 rfl rfl 0 (by decide) (hts _ q698) (fun _ h9 => h9) rfl dX0_valueBy_189 ?_
            refine lv_iconst (v := 5) hx hb dX0_valueBy_192 rfl ?_
            refine wa_iald1 (v := σ.calls (6 * c_ + 5)) hx hb hK (pl1 hP (hR.2.1 c_ hc hTc).2.1.1 (hR.2.1 c_ hc hTc).2.1.2) 0 0 rfl rfl (5) (rfl) (by omega) (by decide) (rfl) dX0_valueBy_193 ?_
            refine lv_iadd hx hb dX0_valueBy_194 ?_
            refine lv_iload hx hb dX0_valueBy_195 (lv_at hl 12 rfl) ?_
            refine lv_iload hx hb dX0_valueBy_197 (lv_at hl 6 rfl) ?_
            refine lv_iload hx hb dX0_valueBy_199 (lv_at hl 14 rfl) ?_
            refine dV (v := .long (mV σ 0 (plF σ c_) ((bgF σ x_ m_ c_) + (σ.calls (6 * c_ + 5))) bag (restF set_ c_))) (As := [.int (nI (plF σ c_)), .int ((bgF σ x_ m_ c_) + (σ.calls (6 * c_ + 5))), .int bag, .int (restF set_ c_), .int (ptF σ.tools 8)]) (rest := []) ⟨hx, hb, hml, hown, hts⟩ (mt_X0_valueOf_0 l D dA x ad μ σ ω (plF σ c_) ((bgF σ x_ m_ c_) + (σ.calls (6 * c_ + 5))) bag (restF set_ c_) hI hR hJ hpl hy (rest_N hs hc hh) (rest_U hs hU hc hh)) (cw_X0_X0_valueOf_0 hts ⟨Nat.le_of_ble_eq_true rfl, Nat.le_of_ble_eq_true rfl⟩) cB_bw (cB_now hK hN hP) (va_recv hK hP (ci := 1) (q0 := 0) rfl rfl) rfl hl.1 rfl (Nat.le_of_ble_eq_true rfl) dX0_valueBy_201 ⟨Nat.le_of_ble_eq_true rfl, Nat.le_of_ble_eq_true rfl⟩ ?_
            refine lv_aload hx hb dX0_valueBy_204 (lv_at hl 7 rfl) ?_
            refine dV (v := .int ((fun k0_ => σ.calls (6 * c_ + k0_)) 4)) (As := []) (rest := [.long (mV σ 0 (plF σ c_) ((bgF σ x_ m_ c_) + (σ.calls (6 * c_ + 5))) bag (restF set_ c_))]) ⟨hx, hb, hml, hown, hts⟩ (mt_X7_again l D dA (μ.cA c_) (μ.kA c_) (μ.lA c_) (total σ c_) (fun k0_ => σ.calls (6 * c_ + k0_))) (cw_X0_X7_again hts ⟨Nat.le_of_ble_eq_true rfl, Nat.le_of_ble_eq_true rfl⟩) pB_bw (pB_now hK (pl2 (pl1 hP (hR.2.1 c_ hc hTc).1.1 (hR.2.1 c_ hc hTc).1.2) (pl1 hP (hR.2.1 c_ hc hTc).2.1.1 (hR.2.1 c_ hc hTc).2.1.2))) (va_recv hK (pl1 hP (hR.2.1 c_ hc hTc).1.1 (hR.2.1 c_ hc hTc).1.2) (ci := 5) (q0 := 0) rfl rfl) rfl hl.1 rfl (Nat.le_of_ble_eq_true rfl) dX0_valueBy_206 ⟨Nat.le_of_ble_eq_true rfl, Nat.le_of_ble_eq_true rfl⟩ ?_
            refine w_topi (y := σ.calls (6 * c_ + 4)) (rfl) ?_
            refine lv_i2l (v := (σ.calls (6 * c_ + 4) : Int32).toInt64) hx hb dX0_valueBy_209 rfl ?_
            refine lv_lload hx hb dX0_valueBy_210 (lv_at hl 3 rfl) ?_
            refine lv_lmul hx hb dX0_valueBy_212 ?_
            refine lv_lsub hx hb dX0_valueBy_213 ?_
            exact hJ214_5 ((mV σ 0 (plF σ c_) ((bgF σ x_ m_ c_) + (σ.calls (6 * c_ + 5))) bag (restF set_ c_)) - (((σ.calls (6 * c_ + 4) : Int32).toInt64) * (tosF σ (restF set_ c_) 6))) ls (by rw [if_neg h133]) (lv_sub hl [0, 1, 2, 3, 4, 5, 6, 7, 8, 9, 10, 11, 12, 13, 14] rfl)
          · have h133 : ¬ leftF σ bag c_ k = -1 := b01_n h133
            refine lv_aload hx hb dX0_valueBy_136 (lv_at hl 7 rfl) ?_
            refine dV (v := .int ((fun k0_ => σ.calls (6 * c_ + k0_)) 3)) (As := []) (rest := []) ⟨hx, hb, hml, hown, hts⟩ (mt_X7_worth l D dA (μ.cA c_) (μ.kA c_) (μ.lA c_) (total σ c_) (fun k0_ => σ.calls (6 * c_ + k0_))) (cw_X0_X7_worth hts ⟨Nat.le_of_ble_eq_true rfl, Nat.le_of_ble_eq_true rfl⟩) pB_bw (pB_now hK (pl2 (pl1 hP (hR.2.1 c_ hc hTc).1.1 (hR.2.1 c_ hc hTc).1.2) (pl1 hP (hR.2.1 c_ hc hTc).2.1.1 (hR.2.1 c_ hc hTc).2.1.2))) (va_recv hK (pl1 hP (hR.2.1 c_ hc hTc).1.1 (hR.2.1 c_ hc hTc).1.2) (ci := 5) (q0 := 0) rfl rfl) rfl hl.1 rfl (Nat.le_of_ble_eq_true rfl) dX0_valueBy_138 ⟨Nat.le_of_ble_eq_true rfl, Nat.le_of_ble_eq_true rfl⟩ ?_
            refine w_topi (y := σ.calls (6 * c_ + 3)) (rfl) ?_
            refine lv_i2l (v := (σ.calls (6 * c_ + 3) : Int32).toInt64) hx hb dX0_valueBy_141 rfl ?_
            refine lv_lload hx hb dX0_valueBy_142 (lv_at hl 3 rfl) ?_
            refine lv_lmul hx hb dX0_valueBy_144 ?_
            refine lv_aload_n hx hb dX0_valueBy_145 rfl (lv_at hl 8 rfl) ?_
            refine lv_aload hx hb dX0_valueBy_146 (lv_at hl 7 rfl) ?_
            refine dV (v := .int ((fun k0_ => σ.calls (6 * c_ + k0_)) 0)) (As := []) (rest := [.ref x, .long (((σ.calls (6 * c_ + 3) : Int32).toInt64) * (tosF σ (restF set_ c_) 6))]) ⟨hx, hb, hml, hown, hts⟩ (mt_X7_place l D dA (μ.cA c_) (μ.kA c_) (μ.lA c_) (total σ c_) (fun k0_ => σ.calls (6 * c_ + k0_))) (cw_X0_X7_place hts ⟨Nat.le_of_ble_eq_true rfl, Nat.le_of_ble_eq_true rfl⟩) pB_bw (pB_now hK (pl2 (pl1 hP (hR.2.1 c_ hc hTc).1.1 (hR.2.1 c_ hc hTc).1.2) (pl1 hP (hR.2.1 c_ hc hTc).2.1.1 (hR.2.1 c_ hc hTc).2.1.2))) (va_recv hK (pl1 hP (hR.2.1 c_ hc hTc).1.1 (hR.2.1 c_ hc hTc).1.2) (ci := 5) (q0 := 0) rfl rfl) rfl hl.1 rfl (Nat.le_of_ble_eq_true rfl) dX0_valueBy_148 ⟨Nat.le_of_ble_eq_true rfl, Nat.le_of_ble_eq_true rfl⟩ ?_
            refine w_topi (y := nI (plF σ c_)) ((hI.pl2 c_ hc).2) ?_
            refine lv_iload hx hb dX0_valueBy_151 (lv_at hl 4 rfl) ?_
            refine lv_aload hx hb dX0_valueBy_153 (lv_at hl 0 rfl) ?_
            refine va_get (D := D) (ci := 6) (v := .int (σ.sorts (16 * c_ + 4 * k + 1))) (C := RX9) (T := TX9) (N := 4) hx hb hts in_X9 hown hK (pl1 hP ((hR.2.1 c_ hc hTc).2.2.2.2 k (show k < σ.sm c_ by omega)).1 ((hR.2.1 c_ hc hTc).2.2.2.2 k (show k < σ.sm c_ by omega)).2) 0 rfl rfl 3 (by decide) (hts _ q732) (fun _ h9 => h9) rfl dX0_valueBy_155 ?_
            refine lv_iadd hx hb dX0_valueBy_158 ?_
            refine lv_aload hx hb dX0_valueBy_159 (lv_at hl 0 rfl) ?_
            refine lv_iload hx hb dX0_valueBy_161 (lv_at hl 12 rfl) ?_
            refine lv_iload hx hb dX0_valueBy_163 (lv_at hl 14 rfl) ?_
            refine dU (v := .int (lefW bag (σ.sorts (16 * c_ + 4 * k + 2)) (σ.sorts (16 * c_ + 4 * k + 3)) (ptF σ.tools 8))) (As := [.int bag, .int (ptF σ.tools 8)]) (rest := [.int ((bgF σ x_ m_ c_) + (σ.sorts (16 * c_ + 4 * k + 1))), .int (nI (plF σ c_)), .ref x, .long (((σ.calls (6 * c_ + 3) : Int32).toInt64) * (tosF σ (restF set_ c_) 6))]) ⟨hx, hb, hml, hown, hts⟩ (mt_X8_left_S l D dA (μ.sA c_ k) (σ.sorts (16 * c_ + 4 * k + 2)) (σ.sorts (16 * c_ + 4 * k + 3)) (σ.sorts (16 * c_ + 4 * k)) (σ.sorts (16 * c_ + 4 * k + 1)) bag (ptF σ.tools 8)) (cw_X0_X8_left_S_X9 hts ⟨Nat.le_of_ble_eq_true rfl, Nat.le_of_ble_eq_true rfl⟩) pB_bw (pB_now hK (pl1 hP ((hR.2.1 c_ hc hTc).2.2.2.2 k (show k < σ.sm c_ by omega)).1 ((hR.2.1 c_ hc hTc).2.2.2.2 k (show k < σ.sm c_ by omega)).2)) (va_recv hK (pl1 hP ((hR.2.1 c_ hc hTc).2.2.2.2 k (show k < σ.sm c_ by omega)).1 ((hR.2.1 c_ hc hTc).2.2.2.2 k (show k < σ.sm c_ by omega)).2) (ci := 6) (q0 := 0) rfl rfl) rfl hl.1 rfl (Nat.le_of_ble_eq_true rfl) dX0_valueBy_165 ⟨Nat.le_of_ble_eq_true rfl, Nat.le_of_ble_eq_true rfl⟩ ?_
            refine w_topi (y := leftF σ bag c_ k) (lef_eq hI hy hc (by omega) ((met_left hy c_ k).mpr h133)) ?_
            refine lv_iload hx hb dX0_valueBy_168 (lv_at hl 6 rfl) ?_
            refine lv_iload hx hb dX0_valueBy_170 (lv_at hl 14 rfl) ?_
            refine dV (v := .long (mV σ 0 (plF σ c_) ((bgF σ x_ m_ c_) + (σ.sorts (16 * c_ + 4 * k + 1))) (leftF σ bag c_ k) (restF set_ c_))) (As := [.int (nI (plF σ c_)), .int ((bgF σ x_ m_ c_) + (σ.sorts (16 * c_ + 4 * k + 1))), .int (leftF σ bag c_ k), .int (restF set_ c_), .int (ptF σ.tools 8)]) (rest := [.long (((σ.calls (6 * c_ + 3) : Int32).toInt64) * (tosF σ (restF set_ c_) 6))]) ⟨hx, hb, hml, hown, hts⟩ (mt_X0_valueOf_0 l D dA x ad μ σ ω (plF σ c_) ((bgF σ x_ m_ c_) + (σ.sorts (16 * c_ + 4 * k + 1))) (leftF σ bag c_ k) (restF set_ c_) hI hR hJ hpl (left_by hy h133) (rest_N hs hc hh) (rest_U hs hU hc hh)) (cw_X0_X0_valueOf_0 hts ⟨Nat.le_of_ble_eq_true rfl, Nat.le_of_ble_eq_true rfl⟩) cB_bw (cB_now hK hN hP) (va_recv hK hP (ci := 1) (q0 := 0) rfl rfl) rfl hl.1 rfl (Nat.le_of_ble_eq_true rfl) dX0_valueBy_172 ⟨Nat.le_of_ble_eq_true rfl, Nat.le_of_ble_eq_true rfl⟩ ?_
            refine lv_ladd hx hb dX0_valueBy_175 ?_
            refine lv_goto (tgt := 214) hx hb dX0_valueBy_176 rfl ?_
            exact hJ214_5 ((((σ.calls (6 * c_ + 3) : Int32).toInt64) * (tosF σ (restF set_ c_) 6)) + (mV σ 0 (plF σ c_) ((bgF σ x_ m_ c_) + (σ.sorts (16 * c_ + 4 * k + 1))) (leftF σ bag c_ k) (restF set_ c_))) ls (by rw [if_pos h133]) (lv_sub hl [0, 1, 2, 3, 4, 5, 6, 7, 8, 9, 10, 11, 12, 13, 14] rfl)
    exact hL98_1 _ 0 0 0 ls (Nat.lt_succ_self _) (by omega) rfl (by subst_vars; rw [gosS]) (lv_sub hl [0, 1, 2, 3, 4, 5, 6, 7, 8, 9, 10, 11, 12, 13] rfl)
  · have h54 : (bgF σ x_ m_ c_) = (-1) := h54
    have hlt := (bg_late hI hc).mp h54
    refine lv_aload hx hb dX0_valueBy_57 (lv_at hl 4 rfl) ?_
    refine va_get (D := D) (ci := 5) (v := .int (total σ c_)) (C := RX7) (T := TX7) (N := 3) hx hb hts in_X7 hown hK (pl1 hP (hR.2.1 c_ hc hTc).1.1 (hR.2.1 c_ hc hTc).1.2) 0 rfl rfl 2 (by decide) (hts _ q704) (fun _ h9 => h9) rfl dX0_valueBy_59 ?_
    refine lv_i2l (v := (total σ c_ : Int32).toInt64) hx hb dX0_valueBy_62 rfl ?_
    refine lv_aload_n hx hb dX0_valueBy_63 rfl (lv_at hl 5 rfl) ?_
    refine lv_aload hx hb dX0_valueBy_64 (lv_at hl 4 rfl) ?_
    refine dV (v := .int ((fun k0_ => σ.calls (6 * c_ + k0_)) 0)) (As := []) (rest := [.ref x, .long ((total σ c_ : Int32).toInt64)]) ⟨hx, hb, hml, hown, hts⟩ (mt_X7_place l D dA (μ.cA c_) (μ.kA c_) (μ.lA c_) (total σ c_) (fun k0_ => σ.calls (6 * c_ + k0_))) (cw_X0_X7_place hts ⟨Nat.le_of_ble_eq_true rfl, Nat.le_of_ble_eq_true rfl⟩) pB_bw (pB_now hK (pl2 (pl1 hP (hR.2.1 c_ hc hTc).1.1 (hR.2.1 c_ hc hTc).1.2) (pl1 hP (hR.2.1 c_ hc hTc).2.1.1 (hR.2.1 c_ hc hTc).2.1.2))) (va_recv hK (pl1 hP (hR.2.1 c_ hc hTc).1.1 (hR.2.1 c_ hc hTc).1.2) (ci := 5) (q0 := 0) rfl rfl) rfl hl.1 rfl (Nat.le_of_ble_eq_true rfl) dX0_valueBy_66 ⟨Nat.le_of_ble_eq_true rfl, Nat.le_of_ble_eq_true rfl⟩ ?_
    refine w_topi (y := nI (plF σ c_)) ((hI.pl2 c_ hc).2) ?_
    refine lv_iload hx hb dX0_valueBy_69 (lv_at hl 2 rfl) ?_
    refine lv_iload hx hb dX0_valueBy_71 (lv_at hl 9 rfl) ?_
    refine lv_iload hx hb dX0_valueBy_73 (lv_at hl 3 rfl) ?_
    refine lv_iload hx hb dX0_valueBy_75 (lv_at hl 11 rfl) ?_
    refine dV (v := .long (mV σ 0 (plF σ c_) (m_ + (σ.ways (6 * x_ + (plF σ c_)))) bag (restF set_ c_))) (As := [.int (nI (plF σ c_)), .int (m_ + (σ.ways (6 * x_ + (plF σ c_)))), .int bag, .int (restF set_ c_), .int (ptF σ.tools 8)]) (rest := [.long ((total σ c_ : Int32).toInt64)]) ⟨hx, hb, hml, hown, hts⟩ (mt_X0_valueOf_0 l D dA x ad μ σ ω (plF σ c_) (m_ + (σ.ways (6 * x_ + (plF σ c_)))) bag (restF set_ c_) hI hR hJ hpl hy (rest_N hs hc hh) (rest_U hs hU hc hh)) (cw_X0_X0_valueOf_0 hts ⟨Nat.le_of_ble_eq_true rfl, Nat.le_of_ble_eq_true rfl⟩) cB_bw (cB_now hK hN hP) (va_recv hK hP (ci := 1) (q0 := 0) rfl rfl) rfl hl.1 rfl (Nat.le_of_ble_eq_true rfl) dX0_valueBy_77 ⟨Nat.le_of_ble_eq_true rfl, Nat.le_of_ble_eq_true rfl⟩ ?_
    refine lv_aload hx hb dX0_valueBy_80 (lv_at hl 4 rfl) ?_
    refine dV (v := .int ((fun k0_ => σ.calls (6 * c_ + k0_)) 4)) (As := []) (rest := [.long (mV σ 0 (plF σ c_) (m_ + (σ.ways (6 * x_ + (plF σ c_)))) bag (restF set_ c_)), .long ((total σ c_ : Int32).toInt64)]) ⟨hx, hb, hml, hown, hts⟩ (mt_X7_again l D dA (μ.cA c_) (μ.kA c_) (μ.lA c_) (total σ c_) (fun k0_ => σ.calls (6 * c_ + k0_))) (cw_X0_X7_again hts ⟨Nat.le_of_ble_eq_true rfl, Nat.le_of_ble_eq_true rfl⟩) pB_bw (pB_now hK (pl2 (pl1 hP (hR.2.1 c_ hc hTc).1.1 (hR.2.1 c_ hc hTc).1.2) (pl1 hP (hR.2.1 c_ hc hTc).2.1.1 (hR.2.1 c_ hc hTc).2.1.2))) (va_recv hK (pl1 hP (hR.2.1 c_ hc hTc).1.1 (hR.2.1 c_ hc hTc).1.2) (ci := 5) (q0 := 0) rfl rfl) rfl hl.1 rfl (Nat.le_of_ble_eq_true rfl) dX0_valueBy_82 ⟨Nat.le_of_ble_eq_true rfl, Nat.le_of_ble_eq_true rfl⟩ ?_
    refine w_topi (y := σ.calls (6 * c_ + 4)) (rfl) ?_
    refine lv_i2l (v := (σ.calls (6 * c_ + 4) : Int32).toInt64) hx hb dX0_valueBy_85 rfl ?_
    refine lv_lload hx hb dX0_valueBy_86 (lv_at hl 0 rfl) ?_
    refine lv_lmul hx hb dX0_valueBy_88 ?_
    refine lv_lsub hx hb dX0_valueBy_89 ?_
    refine lv_lmul hx hb dX0_valueBy_90 ?_
    exact q_l hQ hx hb hr hlocks rfl (late_eq hI hJ hc hlt) dX0_valueBy_91

theorem cw_X0_X0_valueBy_1 {R : Room} {s : State} {args : Array Value} (hts : ∀ w ∈ lw_all, w.before args s = true) (hR : rmX0_valueBy_1.frames + 1 ≤ R.frames ∧ 8 + (19 + 11) + rmX0_valueBy_1.locals ≤ R.locals) : CallW R s args RX0 RX0 251 yX0_valueBy cX0_valueBy 19 (some .long) (ws_ yX0_valueBy cX0_valueBy 19 (some .long)) rmX0_valueBy_1 0 0 6 := cwV 6 hts (lw_V q1025 q1027 qs31 q77 q1028) rfl rfl rfl (by decide +kernel) hR
def rmX0_valueOf_1 : Room := { frames := 4, cells := 0, slots := 0, locals := 102 }
set_option maxHeartbeats 1000000 in
theorem mt_X0_valueOf_1 (l : Launch) (D : va_G) (dA : Nat → ClassId) (x : Nat) (ad : Nat → Nat) (μ : Lay) (σ : St) (ω : Om) (x_ : Nat) (m_ : Int32) (bag : Int32) (set_ : Int32) (hI : Inv σ) (hR : Rel dA μ σ) (hJ : Inv2 σ) (hx6 : x_ < 6) (hy : byP bag) (hs : setN set_ 1) (hU : setU σ set_) : Met l yX0_valueOf (ws_ yX0_valueOf cX0_valueOf 9 (some .long)) rmX0_valueOf_1 (va_Pc [.ref x, .int (nI x_), .int m_, .int bag, .int set_, .int (ptF σ.tools 8)] (cB D dA x ad μ σ ω)) (roQ (.long (mV σ 1 x_ m_ bag set_))) 0 0 (fun _ => False) := by
  refine w_start (by decide) (Nat.le_of_ble_eq_true rfl) ?_
  intro p e s m args below meth c Q ls hQ hx hb hr hlocks hml hown hnm hts hB hl
  have hown : s.vm.findClass RX0 = some m.cls := hown
  have hl : lv_has ls 9 [(0, .ref x), (1, .int (nI x_)), (2, .int m_), (3, .int bag), (4, .int set_), (5, .int (ptF σ.tools 8))] := hl
  obtain ⟨hP, hK, hN⟩ := hB
  refine lv_lconst (v := 0) hx hb dX0_valueOf_0 rfl ?_
  refine lv_lstore (lv' := [(6, .long 0), (0, .ref x), (1, .int (nI x_)), (2, .int m_), (3, .int bag), (4, .int set_), (5, .int (ptF σ.tools 8))]) hx hb dX0_valueOf_1 hl (by decide) rfl (fun ls hl => ?_)
  refine lv_iconst (v := 0) hx hb dX0_valueOf_3 rfl ?_
  refine lv_istore (lv' := [(8, .int 0), (6, .long 0), (0, .ref x), (1, .int (nI x_)), (2, .int m_), (3, .int bag), (4, .int set_), (5, .int (ptF σ.tools 8))]) hx hb dX0_valueOf_4 hl (by decide) rfl (fun ls hl => ?_)
  have hL6_1 : ∀ (n_2 : Nat) (k : Nat) (x8 : Int32) (x6 : Int64) (ls : Array Slot), (6 - k) < n_2 → (k ≤ 6) → x8 = (nI k) → x6 = (maxG σ (mV σ 0) x_ m_ bag set_ k) → lv_has ls 9 [(8, .int x8), (6, .long x6), (0, .ref x), (1, .int (nI x_)), (2, .int m_), (3, .int bag), (4, .int set_), (5, .int (ptF σ.tools 8))] → W p l e rmX0_valueOf_1 s m args below meth c s.heap [] 0 0 Q (F0 m 6 ls []) := by
    intro n_2
    induction n_2 with
    | zero => intro k x8 x6 ls hm_4; exact absurd hm_4 (Nat.not_lt_zero _)
    | succ n_2 ih_3 =>
      intro k x8 x6 ls hm_4 hk ex8 ex6 hl
      subst ex8 ex6
      refine lv_iload hx hb dX0_valueOf_6 (lv_at hl 0 rfl) ?_
      refine lv_bipush (v := 6) hx hb dX0_valueOf_8 rfl ?_
      refine lv_icmp_ge (tgt := 55) hx hb dX0_valueOf_10 rfl (fun h10 => ?_) (fun h10 => ?_)
      · have h10 : 6 ≤ k := (nz_le (a := 6) (b := k) rfl rfl (by omega) (by omega)).mp h10
        have hk_ : k = 6 := by omega
        subst hk_
        refine lv_lload hx hb dX0_valueOf_55 (lv_at hl 1 rfl) ?_
        exact q_l hQ hx hb hr hlocks rfl (rfl) dX0_valueOf_57
      · have h10 : ¬ (6 ≤ k) := fun z9 => h10 ((nz_le (a := 6) (b := k) rfl rfl (by omega) (by omega)).mpr z9)
        refine lv_iload hx hb dX0_valueOf_13 (lv_at hl 6 rfl) ?_
        refine lv_iload hx hb dX0_valueOf_15 (lv_at hl 0 rfl) ?_
        refine lv_ishr hx hb dX0_valueOf_17 ?_
        refine lv_iconst (v := 1) hx hb dX0_valueOf_18 rfl ?_
        refine lv_iand hx hb dX0_valueOf_19 ?_
        refine lv_iconst (v := 1) hx hb dX0_valueOf_20 rfl ?_
        have hJ47_5 : ∀ (v_6 : Int64) (ls : Array Slot), v_6 = (if ((set_ >>> ((nI k) &&& 31)) &&& 1) = 1 then if (goV σ (mV σ 0) x_ m_ bag set_ k) < (maxG σ (mV σ 0) x_ m_ bag set_ k) then (maxG σ (mV σ 0) x_ m_ bag set_ k) else (goV σ (mV σ 0) x_ m_ bag set_ k) else maxG σ (mV σ 0) x_ m_ bag set_ k) → lv_has ls 9 [(8, .int (nI k)), (6, .long (maxG σ (mV σ 0) x_ m_ bag set_ k)), (0, .ref x), (1, .int (nI x_)), (2, .int m_), (3, .int bag), (4, .int set_), (5, .int (ptF σ.tools 8))] → W p l e rmX0_valueOf_1 s m args below meth c s.heap [] 0 0 Q (F0 m 47 ls [.long v_6]) := by
          intro v_6 ls ev_6 hl
          refine lv_lstore (lv' := [(6, .long v_6), (8, .int (nI k)), (0, .ref x), (1, .int (nI x_)), (2, .int m_), (3, .int bag), (4, .int set_), (5, .int (ptF σ.tools 8))]) hx hb dX0_valueOf_47 hl (by decide) rfl (fun ls hl => ?_)
          refine lv_iinc (v := nI (k + 1)) (lv' := [(8, .int (nI (k + 1))), (6, .long v_6), (0, .ref x), (1, .int (nI x_)), (2, .int m_), (3, .int bag), (4, .int set_), (5, .int (ptF σ.tools 8))]) hx hb dX0_valueOf_49 hl (k := 1) rfl (nI_1 k) (by decide) rfl (fun ls hl => ?_)
          refine lv_goto (tgt := 6) hx hb dX0_valueOf_52 rfl ?_
          exact ih_3 (k + 1) (nI (k + 1)) v_6 ls (by omega) (by omega) rfl (by subst_vars; exact (max_s σ (mV σ 0) x_ m_ bag set_ k).symm) (lv_sub hl [0, 1, 2, 3, 4, 5, 6, 7] rfl)
        refine lv_icmp_ne (tgt := 45) hx hb dX0_valueOf_21 rfl (fun h21 => ?_) (fun h21 => ?_)
        · have h21 : ¬ (((set_ >>> ((nI k) &&& 31)) &&& 1) = 1) := h21
          refine lv_lload hx hb dX0_valueOf_45 (lv_at hl 1 rfl) ?_
          exact hJ47_5 (maxG σ (mV σ 0) x_ m_ bag set_ k) ls (by rw [if_neg h21]) (lv_sub hl [0, 1, 2, 3, 4, 5, 6, 7] rfl)
        · have h21 : ((set_ >>> ((nI k) &&& 31)) &&& 1) = 1 := h21
          refine lv_lload hx hb dX0_valueOf_24 (lv_at hl 1 rfl) ?_
          refine lv_aload_n hx hb dX0_valueOf_26 rfl (lv_at hl 2 rfl) ?_
          refine lv_iload hx hb dX0_valueOf_27 (lv_at hl 0 rfl) ?_
          refine lv_iload_n hx hb dX0_valueOf_29 rfl (lv_at hl 3 rfl) ?_
          refine lv_iload_n hx hb dX0_valueOf_30 rfl (lv_at hl 4 rfl) ?_
          refine lv_iload_n hx hb dX0_valueOf_31 rfl (lv_at hl 5 rfl) ?_
          refine lv_iload hx hb dX0_valueOf_32 (lv_at hl 6 rfl) ?_
          refine lv_iload hx hb dX0_valueOf_34 (lv_at hl 7 rfl) ?_
          refine dV (v := .long (goV σ (mV σ 0) x_ m_ bag set_ k)) (As := [.int (nI k), .int (nI x_), .int m_, .int bag, .int set_, .int (ptF σ.tools 8)]) (rest := [.long (maxG σ (mV σ 0) x_ m_ bag set_ k)]) ⟨hx, hb, hml, hown, hts⟩ (mt_X0_valueBy_1 l D dA x ad μ σ ω k x_ m_ bag set_ hI hR (by omega) (by omega) (by omega) (by omega) hs (by omega) h21) (cw_X0_X0_valueBy_1 hts ⟨Nat.le_of_ble_eq_true rfl, Nat.le_of_ble_eq_true rfl⟩) cB_bw (cB_now hK hN hP) (va_recv hK hP (ci := 1) (q0 := 0) rfl rfl) rfl hl.1 rfl (Nat.le_of_ble_eq_true rfl) dX0_valueOf_36 ⟨Nat.le_of_ble_eq_true rfl, Nat.le_of_ble_eq_true rfl⟩ ?_
          refine va_mmax_long hx hb (hml.trans hl.1.symm) hown (hts _ q1037) (hts _ q1038) (hts _ q90) (hts _ q1039) (Nat.le_of_ble_eq_true rfl) (Nat.le_of_ble_eq_true rfl) (Nat.le_of_ble_eq_true rfl) (Nat.le_of_ble_eq_true rfl) dX0_valueOf_39 ?_
          refine lv_goto (tgt := 47) hx hb dX0_valueOf_42 rfl ?_
          exact hJ47_5 (if (goV σ (mV σ 0) x_ m_ bag set_ k) < (maxG σ (mV σ 0) x_ m_ bag set_ k) then (maxG σ (mV σ 0) x_ m_ bag set_ k) else (goV σ (mV σ 0) x_ m_ bag set_ k)) ls (by rw [if_pos h21]) (lv_sub hl [0, 1, 2, 3, 4, 5, 6, 7] rfl)
  exact hL6_1 _ 0 0 0 ls (Nat.lt_succ_self _) (by omega) rfl (by subst_vars; rw [maxG]) (lv_sub hl [0, 1, 2, 3, 4, 5, 6, 7] rfl)

theorem cw_X0_X0_valueOf_1 {R : Room} {s : State} {args : Array Value} (hts : ∀ w ∈ lw_all, w.before args s = true) (hR : rmX0_valueOf_1.frames + 1 ≤ R.frames ∧ 8 + (9 + 11) + rmX0_valueOf_1.locals ≤ R.locals) : CallW R s args RX0 RX0 268 yX0_valueOf cX0_valueOf 9 (some .long) (ws_ yX0_valueOf cX0_valueOf 9 (some .long)) rmX0_valueOf_1 0 0 5 := cwV 5 hts (lw_V q1021 q1023 qs30 q77 q1024) rfl rfl rfl (by decide +kernel) hR
def rmX0_valueBy_2 : Room := { frames := 5, cells := 0, slots := 0, locals := 130 }
set_option maxHeartbeats 1000000 in
theorem mt_X0_valueBy_2 (l : Launch) (D : va_G) (dA : Nat → ClassId) (x : Nat) (ad : Nat → Nat) (μ : Lay) (σ : St) (ω : Om) (c_ : Nat) (x_ : Nat) (m_ : Int32) (bag : Int32) (set_ : Int32) (hI : Inv σ) (hR : Rel dA μ σ) (hJ : Inv2 σ) (hc : c_ < 6) (hx6 : x_ < 6) (hy : byP bag) (hs : setN set_ 2) (hU : setU σ set_) (hh : hasP set_ (nI c_)) : Met l yX0_valueBy (ws_ yX0_valueBy cX0_valueBy 19 (some .long)) rmX0_valueBy_2 (va_Pc [.ref x, .int (nI c_), .int (nI x_), .int m_, .int bag, .int set_, .int (ptF σ.tools 8)] (cB D dA x ad μ σ ω)) (roQ (.long (goV σ (mV σ 1) x_ m_ bag set_ c_))) 0 0 (fun _ => False) := by
  refine w_start (by decide) (Nat.le_of_ble_eq_true rfl) ?_
  intro p e s m args below meth c Q ls hQ hx hb hr hlocks hml hown hnm hts hB hl
  have hown : s.vm.findClass RX0 = some m.cls := hown
  have hl : lv_has ls 19 [(0, .ref x), (1, .int (nI c_)), (2, .int (nI x_)), (3, .int m_), (4, .int bag), (5, .int set_), (6, .int (ptF σ.tools 8))] := hl
  obtain ⟨hP, hK, hN⟩ := hB
  obtain ⟨hTc, hs0⟩ := hU c_ hc hh
  have hsm := hI.sm c_ hc
  have hpl := (hI.pl2 c_ hc).1
  refine lv_aload_n hx hb dX0_valueBy_0 rfl (lv_at hl 0 rfl) ?_
  refine va_get (D := D) (ci := 1) (v := .ref (ad 2)) (C := RX0) (T := TX0) (N := 11) hx hb hts in_X0 hown hK hP 0 rfl rfl 5 (by decide) (hts _ q218) (fun _ h9 => h9) rfl dX0_valueBy_1 ?_
  refine lv_iload_n hx hb dX0_valueBy_4 rfl (lv_at hl 1 rfl) ?_
  refine wa_aald (v := .ref (μ.cA c_)) hx hb hK hP 3 5 rfl rfl rfl (c_) (rfl) (by omega) (by decide) (cO_t hTc) dX0_valueBy_5 ?_
  refine lv_astore (lv' := [(7, .ref (μ.cA c_)), (0, .ref x), (1, .int (nI c_)), (2, .int (nI x_)), (3, .int m_), (4, .int bag), (5, .int set_), (6, .int (ptF σ.tools 8))]) hx hb dX0_valueBy_6 hl (by decide) rfl (fun ls hl => ?_)
  refine lv_iload hx hb dX0_valueBy_8 (lv_at hl 6 rfl) ?_
  refine lv_iconst (v := 1) hx hb dX0_valueBy_10 rfl ?_
  refine lv_iload_n hx hb dX0_valueBy_11 rfl (lv_at hl 2 rfl) ?_
  refine lv_ishl hx hb dX0_valueBy_12 ?_
  refine lv_iconst (v := (-1)) hx hb dX0_valueBy_13 rfl ?_
  refine lv_ixor hx hb dX0_valueBy_14 ?_
  refine lv_iand hx hb dX0_valueBy_15 ?_
  refine w_topi (y := restF set_ c_) (rfl) ?_
  refine lv_istore (lv' := [(8, .int (restF set_ c_)), (7, .ref (μ.cA c_)), (0, .ref x), (1, .int (nI c_)), (2, .int (nI x_)), (3, .int m_), (4, .int bag), (5, .int set_), (6, .int (ptF σ.tools 8))]) hx hb dX0_valueBy_16 hl (by decide) rfl (fun ls hl => ?_)
  refine lv_iload_n hx hb dX0_valueBy_18 rfl (lv_at hl 5 rfl) ?_
  refine lv_aload_n hx hb dX0_valueBy_19 rfl (lv_at hl 2 rfl) ?_
  refine va_get (D := D) (ci := 1) (v := .ref (ad 1)) (C := RX0) (T := TX0) (N := 11) hx hb hts in_X0 hown hK hP 0 rfl rfl 4 (by decide) (hts _ q216) (fun _ h9 => h9) rfl dX0_valueBy_20 ?_
  refine lv_iload_n hx hb dX0_valueBy_23 rfl (lv_at hl 4 rfl) ?_
  refine wa_aald (v := .ref (ad (6 + x_))) hx hb hK hP 2 4 rfl rfl rfl (x_) (rfl) (by omega) (by decide) (rfl) dX0_valueBy_24 ?_
  refine lv_aload hx hb dX0_valueBy_25 (lv_at hl 1 rfl) ?_
  refine dV (v := .int ((fun k0_ => σ.calls (6 * c_ + k0_)) 0)) (As := []) (rest := [.ref (ad (6 + x_)), .int m_]) ⟨hx, hb, hml, hown, hts⟩ (mt_X7_place l D dA (μ.cA c_) (μ.kA c_) (μ.lA c_) (total σ c_) (fun k0_ => σ.calls (6 * c_ + k0_))) (cw_X0_X7_place hts ⟨Nat.le_of_ble_eq_true rfl, Nat.le_of_ble_eq_true rfl⟩) pB_bw (pB_now hK (pl2 (pl1 hP (hR.2.1 c_ hc hTc).1.1 (hR.2.1 c_ hc hTc).1.2) (pl1 hP (hR.2.1 c_ hc hTc).2.1.1 (hR.2.1 c_ hc hTc).2.1.2))) (va_recv hK (pl1 hP (hR.2.1 c_ hc hTc).1.1 (hR.2.1 c_ hc hTc).1.2) (ci := 5) (q0 := 0) rfl rfl) rfl hl.1 rfl (Nat.le_of_ble_eq_true rfl) dX0_valueBy_27 ⟨Nat.le_of_ble_eq_true rfl, Nat.le_of_ble_eq_true rfl⟩ ?_
  refine w_topi (y := nI (plF σ c_)) ((hI.pl2 c_ hc).2) ?_
  refine wa_sald (v := σ.ways (6 * x_ + (plF σ c_))) hx hb hK (way_row hP (i := x_) (by omega)) 0 2 rfl rfl (plF σ c_) (rfl) (by omega) (by decide) (rfl) dX0_valueBy_30 ?_
  refine lv_iadd hx hb dX0_valueBy_31 ?_
  refine lv_istore (lv' := [(9, .int (m_ + (σ.ways (6 * x_ + (plF σ c_))))), (8, .int (restF set_ c_)), (7, .ref (μ.cA c_)), (0, .ref x), (1, .int (nI c_)), (2, .int (nI x_)), (3, .int m_), (4, .int bag), (5, .int set_), (6, .int (ptF σ.tools 8))]) hx hb dX0_valueBy_32 hl (by decide) rfl (fun ls hl => ?_)
  refine lv_aload hx hb dX0_valueBy_34 (lv_at hl 2 rfl) ?_
  refine lv_iload hx hb dX0_valueBy_36 (lv_at hl 0 rfl) ?_
  refine dV (v := .int (begW (fun k0_ => σ.calls (6 * c_ + k0_)) (m_ + (σ.ways (6 * x_ + (plF σ c_)))))) (As := [.int (m_ + (σ.ways (6 * x_ + (plF σ c_))))]) (rest := []) ⟨hx, hb, hml, hown, hts⟩ (mt_X7_begins l D dA (μ.cA c_) (μ.kA c_) (μ.lA c_) (total σ c_) (fun k0_ => σ.calls (6 * c_ + k0_)) (m_ + (σ.ways (6 * x_ + (plF σ c_))))) (cw_X0_X7_begins hts ⟨Nat.le_of_ble_eq_true rfl, Nat.le_of_ble_eq_true rfl⟩) pB_bw (pB_now hK (pl2 (pl1 hP (hR.2.1 c_ hc hTc).1.1 (hR.2.1 c_ hc hTc).1.2) (pl1 hP (hR.2.1 c_ hc hTc).2.1.1 (hR.2.1 c_ hc hTc).2.1.2))) (va_recv hK (pl1 hP (hR.2.1 c_ hc hTc).1.1 (hR.2.1 c_ hc hTc).1.2) (ci := 5) (q0 := 0) rfl rfl) rfl hl.1 rfl (Nat.le_of_ble_eq_true rfl) dX0_valueBy_38 ⟨Nat.le_of_ble_eq_true rfl, Nat.le_of_ble_eq_true rfl⟩ ?_
  refine w_topi (y := bgF σ x_ m_ c_) (beg_eq hI hc m_) ?_
  refine lv_istore (lv' := [(10, .int (bgF σ x_ m_ c_)), (9, .int (m_ + (σ.ways (6 * x_ + (plF σ c_))))), (8, .int (restF set_ c_)), (7, .ref (μ.cA c_)), (0, .ref x), (1, .int (nI c_)), (2, .int (nI x_)), (3, .int m_), (4, .int bag), (5, .int set_), (6, .int (ptF σ.tools 8))]) hx hb dX0_valueBy_41 hl (by decide) rfl (fun ls hl => ?_)
  refine lv_aload_n hx hb dX0_valueBy_43 rfl (lv_at hl 4 rfl) ?_
  refine lv_iload hx hb dX0_valueBy_44 (lv_at hl 2 rfl) ?_
  refine dV (v := .long (tosF σ (restF set_ c_) 6)) (As := [.int (restF set_ c_)]) (rest := []) ⟨hx, hb, hml, hown, hts⟩ (mt_X0_productOf l D dA x ad μ σ ω (restF set_ c_) hI hR (rest_U hs hU hc hh)) (cw_X0_X0_productOf hts ⟨Nat.le_of_ble_eq_true rfl, Nat.le_of_ble_eq_true rfl⟩) cB_bw (cB_now hK hN hP) (va_recv hK hP (ci := 1) (q0 := 0) rfl rfl) rfl hl.1 rfl (Nat.le_of_ble_eq_true rfl) dX0_valueBy_46 ⟨Nat.le_of_ble_eq_true rfl, Nat.le_of_ble_eq_true rfl⟩ ?_
  refine lv_lstore (lv' := [(11, .long (tosF σ (restF set_ c_) 6)), (10, .int (bgF σ x_ m_ c_)), (9, .int (m_ + (σ.ways (6 * x_ + (plF σ c_))))), (8, .int (restF set_ c_)), (7, .ref (μ.cA c_)), (0, .ref x), (1, .int (nI c_)), (2, .int (nI x_)), (3, .int m_), (4, .int bag), (5, .int set_), (6, .int (ptF σ.tools 8))]) hx hb dX0_valueBy_49 hl (by decide) rfl (fun ls hl => ?_)
  refine lv_iload hx hb dX0_valueBy_51 (lv_at hl 1 rfl) ?_
  refine lv_iconst (v := (-1)) hx hb dX0_valueBy_53 rfl ?_
  refine lv_icmp_ne (tgt := 92) hx hb dX0_valueBy_54 rfl (fun h54 => ?_) (fun h54 => ?_)
  · have h54 : ¬ ((bgF σ x_ m_ c_) = (-1)) := h54
    obtain ⟨hnl, hbg⟩ := bg_n hI hc h54
    refine lv_lconst (v := 0) hx hb dX0_valueBy_92 rfl ?_
    refine lv_lstore (lv' := [(13, .long 0), (11, .long (tosF σ (restF set_ c_) 6)), (10, .int (bgF σ x_ m_ c_)), (9, .int (m_ + (σ.ways (6 * x_ + (plF σ c_))))), (8, .int (restF set_ c_)), (7, .ref (μ.cA c_)), (0, .ref x), (1, .int (nI c_)), (2, .int (nI x_)), (3, .int m_), (4, .int bag), (5, .int set_), (6, .int (ptF σ.tools 8))]) hx hb dX0_valueBy_93 hl (by decide) rfl (fun ls hl => ?_)
    refine lv_iconst (v := 0) hx hb dX0_valueBy_95 rfl ?_
    refine lv_istore (lv' := [(15, .int 0), (13, .long 0), (11, .long (tosF σ (restF set_ c_) 6)), (10, .int (bgF σ x_ m_ c_)), (9, .int (m_ + (σ.ways (6 * x_ + (plF σ c_))))), (8, .int (restF set_ c_)), (7, .ref (μ.cA c_)), (0, .ref x), (1, .int (nI c_)), (2, .int (nI x_)), (3, .int m_), (4, .int bag), (5, .int set_), (6, .int (ptF σ.tools 8))]) hx hb dX0_valueBy_96 hl (by decide) rfl (fun ls hl => ?_)
    have hL98_1 : ∀ (n_2 : Nat) (k : Nat) (x15 : Int32) (x13 : Int64) (ls : Array Slot), (4 - k) < n_2 → (k ≤ σ.sm c_) → x15 = (nI k) → x13 = (gosS σ (mV σ 1) (arrF σ x_ m_ c_) bag (restF set_ c_) (tosF σ (restF set_ c_) 6) c_ k) → lv_has ls 19 [(15, .int x15), (13, .long x13), (11, .long (tosF σ (restF set_ c_) 6)), (10, .int (bgF σ x_ m_ c_)), (9, .int (m_ + (σ.ways (6 * x_ + (plF σ c_))))), (8, .int (restF set_ c_)), (7, .ref (μ.cA c_)), (0, .ref x), (1, .int (nI c_)), (2, .int (nI x_)), (3, .int m_), (4, .int bag), (5, .int set_), (6, .int (ptF σ.tools 8))] → W p l e rmX0_valueBy_2 s m args below meth c s.heap [] 0 0 Q (F0 m 98 ls []) := by
      intro n_2
      induction n_2 with
      | zero => intro k x15 x13 ls hm_4; exact absurd hm_4 (Nat.not_lt_zero _)
      | succ n_2 ih_3 =>
        intro k x15 x13 ls hm_4 hk ex15 ex13 hl
        subst ex15 ex13
        refine lv_iload hx hb dX0_valueBy_98 (lv_at hl 0 rfl) ?_
        refine lv_aload hx hb dX0_valueBy_100 (lv_at hl 6 rfl) ?_
        refine va_get (D := D) (ci := 5) (v := .ref (μ.lA c_)) (C := RX7) (T := TX7) (N := 3) hx hb hts in_X7 hown hK (pl1 hP (hR.2.1 c_ hc hTc).1.1 (hR.2.1 c_ hc hTc).1.2) 0 rfl rfl 1 (by decide) (hts _ q701) (fun _ h9 => h9) rfl dX0_valueBy_102 ?_
        refine dV (v := .int (nI (σ.sm c_))) (As := []) (rest := [.int (nI k)]) ⟨hx, hb, hml, hown, hts⟩ (mt_J2_size l D dA (μ.lA c_) (μ.eA c_) (μ.mA c_) (σ.sm c_)) (cw_X0_J2_size hts ⟨Nat.le_of_ble_eq_true rfl, Nat.le_of_ble_eq_true rfl⟩) pB_bw (pB_now hK (pl1 hP (hR.2.1 c_ hc hTc).2.2.1.1 (hR.2.1 c_ hc hTc).2.2.1.2)) (va_recv hK (pl1 hP (hR.2.1 c_ hc hTc).2.2.1.1 (hR.2.1 c_ hc hTc).2.2.1.2) (ci := 8) (q0 := 0) rfl rfl) rfl hl.1 rfl (Nat.le_of_ble_eq_true rfl) dX0_valueBy_105 ⟨Nat.le_of_ble_eq_true rfl, Nat.le_of_ble_eq_true rfl⟩ ?_
        refine lv_icmp_ge (tgt := 236) hx hb dX0_valueBy_108 rfl (fun h108 => ?_) (fun h108 => ?_)
        · have h108 : (σ.sm c_) ≤ k := (nz_le (a := (σ.sm c_)) (b := k) rfl rfl (by omega) (by omega)).mp h108
          have hk_ : k = σ.sm c_ := by omega
          subst hk_
          refine lv_lload hx hb dX0_valueBy_236 (lv_at hl 1 rfl) ?_
          exact q_l hQ hx hb hr hlocks rfl (by unfold goV; rw [if_neg hnl]) dX0_valueBy_238
        · have h108 : ¬ ((σ.sm c_) ≤ k) := fun z9 => h108 ((nz_le (a := (σ.sm c_)) (b := k) rfl rfl (by omega) (by omega)).mpr z9)
          refine lv_aload hx hb dX0_valueBy_111 (lv_at hl 6 rfl) ?_
          refine va_get (D := D) (ci := 5) (v := .ref (μ.lA c_)) (C := RX7) (T := TX7) (N := 3) hx hb hts in_X7 hown hK (pl1 hP (hR.2.1 c_ hc hTc).1.1 (hR.2.1 c_ hc hTc).1.2) 0 rfl rfl 1 (by decide) (hts _ q701) (fun _ h9 => h9) rfl dX0_valueBy_113 ?_
          refine lv_iload hx hb dX0_valueBy_116 (lv_at hl 0 rfl) ?_
          refine g_sort (rest := []) ⟨hx, hb, hml, hown, hts⟩ (cw_X0_J2_get hts ⟨Nat.le_of_ble_eq_true rfl, Nat.le_of_ble_eq_true rfl⟩) hK hP (hR.2.1 c_ hc hTc) (hI.sm c_ hc) (show k < σ.sm c_ by omega) hl.1 rfl (Nat.le_of_ble_eq_true rfl) dX0_valueBy_118 ⟨Nat.le_of_ble_eq_true rfl, Nat.le_of_ble_eq_true rfl⟩ ?_
          refine va_castS hx hb hown (hts _ q717) (hK.1 6 _ rfl).2 (va_recv hK (pl1 hP ((hR.2.1 c_ hc hTc).2.2.2.2 k (show k < σ.sm c_ by omega)).1 ((hR.2.1 c_ hc hTc).2.2.2.2 k (show k < σ.sm c_ by omega)).2) (ci := 6) (q0 := 0) rfl rfl) dX0_valueBy_121 ?_
          refine lv_astore (lv' := [(16, .ref (μ.sA c_ k)), (15, .int (nI k)), (13, .long (gosS σ (mV σ 1) (arrF σ x_ m_ c_) bag (restF set_ c_) (tosF σ (restF set_ c_) 6) c_ k)), (11, .long (tosF σ (restF set_ c_) 6)), (10, .int (bgF σ x_ m_ c_)), (9, .int (m_ + (σ.ways (6 * x_ + (plF σ c_))))), (8, .int (restF set_ c_)), (7, .ref (μ.cA c_)), (0, .ref x), (1, .int (nI c_)), (2, .int (nI x_)), (3, .int m_), (4, .int bag), (5, .int set_), (6, .int (ptF σ.tools 8))]) hx hb dX0_valueBy_124 hl (by decide) rfl (fun ls hl => ?_)
          refine lv_aload hx hb dX0_valueBy_126 (lv_at hl 0 rfl) ?_
          refine lv_iload hx hb dX0_valueBy_128 (lv_at hl 12 rfl) ?_
          refine dU (v := .int (b01 (metP bag (σ.sorts (16 * c_ + 4 * k + 2)) (σ.sorts (16 * c_ + 4 * k + 3))))) (As := [.int bag]) (rest := []) ⟨hx, hb, hml, hown, hts⟩ (mt_X8_isMet_S l D dA (μ.sA c_ k) (σ.sorts (16 * c_ + 4 * k + 2)) (σ.sorts (16 * c_ + 4 * k + 3)) (σ.sorts (16 * c_ + 4 * k)) (σ.sorts (16 * c_ + 4 * k + 1)) bag) (cw_X0_X8_isMet_S_X9 hts ⟨Nat.le_of_ble_eq_true rfl, Nat.le_of_ble_eq_true rfl⟩) pB_bw (pB_now hK (pl1 hP ((hR.2.1 c_ hc hTc).2.2.2.2 k (show k < σ.sm c_ by omega)).1 ((hR.2.1 c_ hc hTc).2.2.2.2 k (show k < σ.sm c_ by omega)).2)) (va_recv hK (pl1 hP ((hR.2.1 c_ hc hTc).2.2.2.2 k (show k < σ.sm c_ by omega)).1 ((hR.2.1 c_ hc hTc).2.2.2.2 k (show k < σ.sm c_ by omega)).2) (ci := 6) (q0 := 0) rfl rfl) rfl hl.1 rfl (Nat.le_of_ble_eq_true rfl) dX0_valueBy_130 ⟨Nat.le_of_ble_eq_true rfl, Nat.le_of_ble_eq_true rfl⟩ ?_
          refine w_topi (y := b01 (¬ leftF σ bag c_ k = -1)) (b01_iff (met_left hy c_ k)) ?_
          have hJ214_5 : ∀ (v_6 : Int64) (ls : Array Slot), v_6 = (if ¬ leftF σ bag c_ k = -1 then (((σ.calls (6 * c_ + 3) : Int32).toInt64) * (tosF σ (restF set_ c_) 6)) + (mV σ 1 (plF σ c_) ((bgF σ x_ m_ c_) + (σ.sorts (16 * c_ + 4 * k + 1))) (leftF σ bag c_ k) (restF set_ c_)) else (mV σ 1 (plF σ c_) ((bgF σ x_ m_ c_) + (σ.calls (6 * c_ + 5))) bag (restF set_ c_)) - (((σ.calls (6 * c_ + 4) : Int32).toInt64) * (tosF σ (restF set_ c_) 6))) → lv_has ls 19 [(16, .ref (μ.sA c_ k)), (15, .int (nI k)), (13, .long (gosS σ (mV σ 1) (arrF σ x_ m_ c_) bag (restF set_ c_) (tosF σ (restF set_ c_) 6) c_ k)), (11, .long (tosF σ (restF set_ c_) 6)), (10, .int (bgF σ x_ m_ c_)), (9, .int (m_ + (σ.ways (6 * x_ + (plF σ c_))))), (8, .int (restF set_ c_)), (7, .ref (μ.cA c_)), (0, .ref x), (1, .int (nI c_)), (2, .int (nI x_)), (3, .int m_), (4, .int bag), (5, .int set_), (6, .int (ptF σ.tools 8))] → W p l e rmX0_valueBy_2 s m args below meth c s.heap [] 0 0 Q (F0 m 214 ls [.long v_6]) := by
            intro v_6 ls ev_6 hl
            refine lv_lstore (lv' := [(17, .long v_6), (16, .ref (μ.sA c_ k)), (15, .int (nI k)), (13, .long (gosS σ (mV σ 1) (arrF σ x_ m_ c_) bag (restF set_ c_) (tosF σ (restF set_ c_) 6) c_ k)), (11, .long (tosF σ (restF set_ c_) 6)), (10, .int (bgF σ x_ m_ c_)), (9, .int (m_ + (σ.ways (6 * x_ + (plF σ c_))))), (8, .int (restF set_ c_)), (7, .ref (μ.cA c_)), (0, .ref x), (1, .int (nI c_)), (2, .int (nI x_)), (3, .int m_), (4, .int bag), (5, .int set_), (6, .int (ptF σ.tools 8))]) hx hb dX0_valueBy_214 hl (by decide) rfl (fun ls hl => ?_)
            refine lv_lload hx hb dX0_valueBy_216 (lv_at hl 3 rfl) ?_
            refine lv_aload hx hb dX0_valueBy_218 (lv_at hl 1 rfl) ?_
            refine va_get (D := D) (ci := 6) (v := .int (σ.sorts (16 * c_ + 4 * k))) (C := RX9) (T := TX9) (N := 4) hx hb hts in_X9 hown hK (pl1 hP ((hR.2.1 c_ hc hTc).2.2.2.2 k (show k < σ.sm c_ by omega)).1 ((hR.2.1 c_ hc hTc).2.2.2.2 k (show k < σ.sm c_ by omega)).2) 0 rfl rfl 2 (by decide) (hts _ q729) (fun _ h9 => h9) rfl dX0_valueBy_220 ?_
            refine lv_i2l (v := (σ.sorts (16 * c_ + 4 * k) : Int32).toInt64) hx hb dX0_valueBy_223 rfl ?_
            refine lv_lload hx hb dX0_valueBy_224 (lv_at hl 0 rfl) ?_
            refine lv_lmul hx hb dX0_valueBy_226 ?_
            refine lv_ladd hx hb dX0_valueBy_227 ?_
            refine lv_lstore (lv' := [(13, .long ((gosS σ (mV σ 1) (arrF σ x_ m_ c_) bag (restF set_ c_) (tosF σ (restF set_ c_) 6) c_ k) + (((σ.sorts (16 * c_ + 4 * k) : Int32).toInt64) * v_6))), (17, .long v_6), (16, .ref (μ.sA c_ k)), (15, .int (nI k)), (11, .long (tosF σ (restF set_ c_) 6)), (10, .int (bgF σ x_ m_ c_)), (9, .int (m_ + (σ.ways (6 * x_ + (plF σ c_))))), (8, .int (restF set_ c_)), (7, .ref (μ.cA c_)), (0, .ref x), (1, .int (nI c_)), (2, .int (nI x_)), (3, .int m_), (4, .int bag), (5, .int set_), (6, .int (ptF σ.tools 8))]) hx hb dX0_valueBy_228 hl (by decide) rfl (fun ls hl => ?_)
            refine lv_iinc (v := nI (k + 1)) (lv' := [(15, .int (nI (k + 1))), (13, .long ((gosS σ (mV σ 1) (arrF σ x_ m_ c_) bag (restF set_ c_) (tosF σ (restF set_ c_) 6) c_ k) + (((σ.sorts (16 * c_ + 4 * k) : Int32).toInt64) * v_6))), (17, .long v_6), (16, .ref (μ.sA c_ k)), (11, .long (tosF σ (restF set_ c_) 6)), (10, .int (bgF σ x_ m_ c_)), (9, .int (m_ + (σ.ways (6 * x_ + (plF σ c_))))), (8, .int (restF set_ c_)), (7, .ref (μ.cA c_)), (0, .ref x), (1, .int (nI c_)), (2, .int (nI x_)), (3, .int m_), (4, .int bag), (5, .int set_), (6, .int (ptF σ.tools 8))]) hx hb dX0_valueBy_230 hl (k := 3) rfl (nI_1 k) (by decide) rfl (fun ls hl => ?_)
            refine lv_goto (tgt := 98) hx hb dX0_valueBy_233 rfl ?_
            exact ih_3 (k + 1) (nI (k + 1)) ((gosS σ (mV σ 1) (arrF σ x_ m_ c_) bag (restF set_ c_) (tosF σ (restF set_ c_) 6) c_ k) + (((σ.sorts (16 * c_ + 4 * k) : Int32).toInt64) * v_6)) ls (by omega) (by omega) rfl (by subst_vars; rw [gos_s hJ hc, hbg]) (lv_sub hl [0, 1, 4, 5, 6, 7, 8, 9, 10, 11, 12, 13, 14, 15] rfl)
          refine lv_if_eq (tgt := 179) hx hb dX0_valueBy_133 rfl (fun h133 => ?_) (fun h133 => ?_)
          · have h133 : ¬ (¬ leftF σ bag c_ k = -1) := b01_0.mp h133
            refine lv_aload_n hx hb dX0_valueBy_179 rfl (lv_at hl 8 rfl) ?_
            refine lv_aload hx hb dX0_valueBy_180 (lv_at hl 7 rfl) ?_
            refine dV (v := .int ((fun k0_ => σ.calls (6 * c_ + k0_)) 0)) (As := []) (rest := [.ref x]) ⟨hx, hb, hml, hown, hts⟩ (mt_X7_place l D dA (μ.cA c_) (μ.kA c_) (μ.lA c_) (total σ c_) (fun k0_ => σ.calls (6 * c_ + k0_))) (cw_X0_X7_place hts ⟨Nat.le_of_ble_eq_true rfl, Nat.le_of_ble_eq_true rfl⟩) pB_bw (pB_now hK (pl2 (pl1 hP (hR.2.1 c_ hc hTc).1.1 (hR.2.1 c_ hc hTc).1.2) (pl1 hP (hR.2.1 c_ hc hTc).2.1.1 (hR.2.1 c_ hc hTc).2.1.2))) (va_recv hK (pl1 hP (hR.2.1 c_ hc hTc).1.1 (hR.2.1 c_ hc hTc).1.2) (ci := 5) (q0 := 0) rfl rfl) rfl hl.1 rfl (Nat.le_of_ble_eq_true rfl) dX0_valueBy_182 ⟨Nat.le_of_ble_eq_true rfl, Nat.le_of_ble_eq_true rfl⟩ ?_
            refine w_topi (y := nI (plF σ c_)) ((hI.pl2 c_ hc).2) ?_
            refine lv_iload hx hb dX0_valueBy_185 (lv_at hl 4 rfl) ?_
            refine lv_aload hx hb dX0_valueBy_187 (lv_at hl 7 rfl) ?_
            refine va_get (D := D) (ci := 5) (v := .ref (μ.kA c_)) (C := RX7) (T := TX7) (N := 3) hx hb hts in_X7 hown hK (pl1 hP (hR.2.1 c_ hc hTc).1.1 (hR.2.1 c_ hc hTc).1.2) 0 rfl rfl 0 (by decide) (hts _ q698) (fun _ h9 => h9) rfl dX0_valueBy_189 ?_
            refine lv_iconst (v := 5) hx hb dX0_valueBy_192 rfl ?_
            refine wa_iald1 (v := σ.calls (6 * c_ + 5)) hx hb hK (pl1 hP (hR.2.1 c_ hc hTc).2.1.1 (hR.2.1 c_ hc hTc).2.1.2) 0 0 rfl rfl (5) (rfl) (by omega) (by decide) (rfl) dX0_valueBy_193 ?_
            refine lv_iadd hx hb dX0_valueBy_194 ?_
            refine lv_iload hx hb dX0_valueBy_195 (lv_at hl 12 rfl) ?_
            refine lv_iload hx hb dX0_valueBy_197 (lv_at hl 6 rfl) ?_
            refine lv_iload hx hb dX0_valueBy_199 (lv_at hl 14 rfl) ?_
            refine dV (v := .long (mV σ 1 (plF σ c_) ((bgF σ x_ m_ c_) + (σ.calls (6 * c_ + 5))) bag (restF set_ c_))) (As := [.int (nI (plF σ c_)), .int ((bgF σ x_ m_ c_) + (σ.calls (6 * c_ + 5))), .int bag, .int (restF set_ c_), .int (ptF σ.tools 8)]) (rest := []) ⟨hx, hb, hml, hown, hts⟩ (mt_X0_valueOf_1 l D dA x ad μ σ ω (plF σ c_) ((bgF σ x_ m_ c_) + (σ.calls (6 * c_ + 5))) bag (restF set_ c_) hI hR hJ hpl hy (rest_N hs hc hh) (rest_U hs hU hc hh)) (cw_X0_X0_valueOf_1 hts ⟨Nat.le_of_ble_eq_true rfl, Nat.le_of_ble_eq_true rfl⟩) cB_bw (cB_now hK hN hP) (va_recv hK hP (ci := 1) (q0 := 0) rfl rfl) rfl hl.1 rfl (Nat.le_of_ble_eq_true rfl) dX0_valueBy_201 ⟨Nat.le_of_ble_eq_true rfl, Nat.le_of_ble_eq_true rfl⟩ ?_
            refine lv_aload hx hb dX0_valueBy_204 (lv_at hl 7 rfl) ?_
            refine dV (v := .int ((fun k0_ => σ.calls (6 * c_ + k0_)) 4)) (As := []) (rest := [.long (mV σ 1 (plF σ c_) ((bgF σ x_ m_ c_) + (σ.calls (6 * c_ + 5))) bag (restF set_ c_))]) ⟨hx, hb, hml, hown, hts⟩ (mt_X7_again l D dA (μ.cA c_) (μ.kA c_) (μ.lA c_) (total σ c_) (fun k0_ => σ.calls (6 * c_ + k0_))) (cw_X0_X7_again hts ⟨Nat.le_of_ble_eq_true rfl, Nat.le_of_ble_eq_true rfl⟩) pB_bw (pB_now hK (pl2 (pl1 hP (hR.2.1 c_ hc hTc).1.1 (hR.2.1 c_ hc hTc).1.2) (pl1 hP (hR.2.1 c_ hc hTc).2.1.1 (hR.2.1 c_ hc hTc).2.1.2))) (va_recv hK (pl1 hP (hR.2.1 c_ hc hTc).1.1 (hR.2.1 c_ hc hTc).1.2) (ci := 5) (q0 := 0) rfl rfl) rfl hl.1 rfl (Nat.le_of_ble_eq_true rfl) dX0_valueBy_206 ⟨Nat.le_of_ble_eq_true rfl, Nat.le_of_ble_eq_true rfl⟩ ?_
            refine w_topi (y := σ.calls (6 * c_ + 4)) (rfl) ?_
            refine lv_i2l (v := (σ.calls (6 * c_ + 4) : Int32).toInt64) hx hb dX0_valueBy_209 rfl ?_
            refine lv_lload hx hb dX0_valueBy_210 (lv_at hl 3 rfl) ?_
            refine lv_lmul hx hb dX0_valueBy_212 ?_
            refine lv_lsub hx hb dX0_valueBy_213 ?_
            exact hJ214_5 ((mV σ 1 (plF σ c_) ((bgF σ x_ m_ c_) + (σ.calls (6 * c_ + 5))) bag (restF set_ c_)) - (((σ.calls (6 * c_ + 4) : Int32).toInt64) * (tosF σ (restF set_ c_) 6))) ls (by rw [if_neg h133]) (lv_sub hl [0, 1, 2, 3, 4, 5, 6, 7, 8, 9, 10, 11, 12, 13, 14] rfl)
          · have h133 : ¬ leftF σ bag c_ k = -1 := b01_n h133
            refine lv_aload hx hb dX0_valueBy_136 (lv_at hl 7 rfl) ?_
            refine dV (v := .int ((fun k0_ => σ.calls (6 * c_ + k0_)) 3)) (As := []) (rest := []) ⟨hx, hb, hml, hown, hts⟩ (mt_X7_worth l D dA (μ.cA c_) (μ.kA c_) (μ.lA c_) (total σ c_) (fun k0_ => σ.calls (6 * c_ + k0_))) (cw_X0_X7_worth hts ⟨Nat.le_of_ble_eq_true rfl, Nat.le_of_ble_eq_true rfl⟩) pB_bw (pB_now hK (pl2 (pl1 hP (hR.2.1 c_ hc hTc).1.1 (hR.2.1 c_ hc hTc).1.2) (pl1 hP (hR.2.1 c_ hc hTc).2.1.1 (hR.2.1 c_ hc hTc).2.1.2))) (va_recv hK (pl1 hP (hR.2.1 c_ hc hTc).1.1 (hR.2.1 c_ hc hTc).1.2) (ci := 5) (q0 := 0) rfl rfl) rfl hl.1 rfl (Nat.le_of_ble_eq_true rfl) dX0_valueBy_138 ⟨Nat.le_of_ble_eq_true rfl, Nat.le_of_ble_eq_true rfl⟩ ?_
            refine w_topi (y := σ.calls (6 * c_ + 3)) (rfl) ?_
            refine lv_i2l (v := (σ.calls (6 * c_ + 3) : Int32).toInt64) hx hb dX0_valueBy_141 rfl ?_
            refine lv_lload hx hb dX0_valueBy_142 (lv_at hl 3 rfl) ?_
            refine lv_lmul hx hb dX0_valueBy_144 ?_
            refine lv_aload_n hx hb dX0_valueBy_145 rfl (lv_at hl 8 rfl) ?_
            refine lv_aload hx hb dX0_valueBy_146 (lv_at hl 7 rfl) ?_
            refine dV (v := .int ((fun k0_ => σ.calls (6 * c_ + k0_)) 0)) (As := []) (rest := [.ref x, .long (((σ.calls (6 * c_ + 3) : Int32).toInt64) * (tosF σ (restF set_ c_) 6))]) ⟨hx, hb, hml, hown, hts⟩ (mt_X7_place l D dA (μ.cA c_) (μ.kA c_) (μ.lA c_) (total σ c_) (fun k0_ => σ.calls (6 * c_ + k0_))) (cw_X0_X7_place hts ⟨Nat.le_of_ble_eq_true rfl, Nat.le_of_ble_eq_true rfl⟩) pB_bw (pB_now hK (pl2 (pl1 hP (hR.2.1 c_ hc hTc).1.1 (hR.2.1 c_ hc hTc).1.2) (pl1 hP (hR.2.1 c_ hc hTc).2.1.1 (hR.2.1 c_ hc hTc).2.1.2))) (va_recv hK (pl1 hP (hR.2.1 c_ hc hTc).1.1 (hR.2.1 c_ hc hTc).1.2) (ci := 5) (q0 := 0) rfl rfl) rfl hl.1 rfl (Nat.le_of_ble_eq_true rfl) dX0_valueBy_148 ⟨Nat.le_of_ble_eq_true rfl, Nat.le_of_ble_eq_true rfl⟩ ?_
            refine w_topi (y := nI (plF σ c_)) ((hI.pl2 c_ hc).2) ?_
            refine lv_iload hx hb dX0_valueBy_151 (lv_at hl 4 rfl) ?_
            refine lv_aload hx hb dX0_valueBy_153 (lv_at hl 0 rfl) ?_
            refine va_get (D := D) (ci := 6) (v := .int (σ.sorts (16 * c_ + 4 * k + 1))) (C := RX9) (T := TX9) (N := 4) hx hb hts in_X9 hown hK (pl1 hP ((hR.2.1 c_ hc hTc).2.2.2.2 k (show k < σ.sm c_ by omega)).1 ((hR.2.1 c_ hc hTc).2.2.2.2 k (show k < σ.sm c_ by omega)).2) 0 rfl rfl 3 (by decide) (hts _ q732) (fun _ h9 => h9) rfl dX0_valueBy_155 ?_
            refine lv_iadd hx hb dX0_valueBy_158 ?_
            refine lv_aload hx hb dX0_valueBy_159 (lv_at hl 0 rfl) ?_
            refine lv_iload hx hb dX0_valueBy_161 (lv_at hl 12 rfl) ?_
            refine lv_iload hx hb dX0_valueBy_163 (lv_at hl 14 rfl) ?_
            refine dU (v := .int (lefW bag (σ.sorts (16 * c_ + 4 * k + 2)) (σ.sorts (16 * c_ + 4 * k + 3)) (ptF σ.tools 8))) (As := [.int bag, .int (ptF σ.tools 8)]) (rest := [.int ((bgF σ x_ m_ c_) + (σ.sorts (16 * c_ + 4 * k + 1))), .int (nI (plF σ c_)), .ref x, .long (((σ.calls (6 * c_ + 3) : Int32).toInt64) * (tosF σ (restF set_ c_) 6))]) ⟨hx, hb, hml, hown, hts⟩ (mt_X8_left_S l D dA (μ.sA c_ k) (σ.sorts (16 * c_ + 4 * k + 2)) (σ.sorts (16 * c_ + 4 * k + 3)) (σ.sorts (16 * c_ + 4 * k)) (σ.sorts (16 * c_ + 4 * k + 1)) bag (ptF σ.tools 8)) (cw_X0_X8_left_S_X9 hts ⟨Nat.le_of_ble_eq_true rfl, Nat.le_of_ble_eq_true rfl⟩) pB_bw (pB_now hK (pl1 hP ((hR.2.1 c_ hc hTc).2.2.2.2 k (show k < σ.sm c_ by omega)).1 ((hR.2.1 c_ hc hTc).2.2.2.2 k (show k < σ.sm c_ by omega)).2)) (va_recv hK (pl1 hP ((hR.2.1 c_ hc hTc).2.2.2.2 k (show k < σ.sm c_ by omega)).1 ((hR.2.1 c_ hc hTc).2.2.2.2 k (show k < σ.sm c_ by omega)).2) (ci := 6) (q0 := 0) rfl rfl) rfl hl.1 rfl (Nat.le_of_ble_eq_true rfl) dX0_valueBy_165 ⟨Nat.le_of_ble_eq_true rfl, Nat.le_of_ble_eq_true rfl⟩ ?_
            refine w_topi (y := leftF σ bag c_ k) (lef_eq hI hy hc (by omega) ((met_left hy c_ k).mpr h133)) ?_
            refine lv_iload hx hb dX0_valueBy_168 (lv_at hl 6 rfl) ?_
            refine lv_iload hx hb dX0_valueBy_170 (lv_at hl 14 rfl) ?_
            refine dV (v := .long (mV σ 1 (plF σ c_) ((bgF σ x_ m_ c_) + (σ.sorts (16 * c_ + 4 * k + 1))) (leftF σ bag c_ k) (restF set_ c_))) (As := [.int (nI (plF σ c_)), .int ((bgF σ x_ m_ c_) + (σ.sorts (16 * c_ + 4 * k + 1))), .int (leftF σ bag c_ k), .int (restF set_ c_), .int (ptF σ.tools 8)]) (rest := [.long (((σ.calls (6 * c_ + 3) : Int32).toInt64) * (tosF σ (restF set_ c_) 6))]) ⟨hx, hb, hml, hown, hts⟩ (mt_X0_valueOf_1 l D dA x ad μ σ ω (plF σ c_) ((bgF σ x_ m_ c_) + (σ.sorts (16 * c_ + 4 * k + 1))) (leftF σ bag c_ k) (restF set_ c_) hI hR hJ hpl (left_by hy h133) (rest_N hs hc hh) (rest_U hs hU hc hh)) (cw_X0_X0_valueOf_1 hts ⟨Nat.le_of_ble_eq_true rfl, Nat.le_of_ble_eq_true rfl⟩) cB_bw (cB_now hK hN hP) (va_recv hK hP (ci := 1) (q0 := 0) rfl rfl) rfl hl.1 rfl (Nat.le_of_ble_eq_true rfl) dX0_valueBy_172 ⟨Nat.le_of_ble_eq_true rfl, Nat.le_of_ble_eq_true rfl⟩ ?_
            refine lv_ladd hx hb dX0_valueBy_175 ?_
            refine lv_goto (tgt := 214) hx hb dX0_valueBy_176 rfl ?_
            exact hJ214_5 ((((σ.calls (6 * c_ + 3) : Int32).toInt64) * (tosF σ (restF set_ c_) 6)) + (mV σ 1 (plF σ c_) ((bgF σ x_ m_ c_) + (σ.sorts (16 * c_ + 4 * k + 1))) (leftF σ bag c_ k) (restF set_ c_))) ls (by rw [if_pos h133]) (lv_sub hl [0, 1, 2, 3, 4, 5, 6, 7, 8, 9, 10, 11, 12, 13, 14] rfl)
    exact hL98_1 _ 0 0 0 ls (Nat.lt_succ_self _) (by omega) rfl (by subst_vars; rw [gosS]) (lv_sub hl [0, 1, 2, 3, 4, 5, 6, 7, 8, 9, 10, 11, 12, 13] rfl)
  · have h54 : (bgF σ x_ m_ c_) = (-1) := h54
    have hlt := (bg_late hI hc).mp h54
    refine lv_aload hx hb dX0_valueBy_57 (lv_at hl 4 rfl) ?_
    refine va_get (D := D) (ci := 5) (v := .int (total σ c_)) (C := RX7) (T := TX7) (N := 3) hx hb hts in_X7 hown hK (pl1 hP (hR.2.1 c_ hc hTc).1.1 (hR.2.1 c_ hc hTc).1.2) 0 rfl rfl 2 (by decide) (hts _ q704) (fun _ h9 => h9) rfl dX0_valueBy_59 ?_
    refine lv_i2l (v := (total σ c_ : Int32).toInt64) hx hb dX0_valueBy_62 rfl ?_
    refine lv_aload_n hx hb dX0_valueBy_63 rfl (lv_at hl 5 rfl) ?_
    refine lv_aload hx hb dX0_valueBy_64 (lv_at hl 4 rfl) ?_
    refine dV (v := .int ((fun k0_ => σ.calls (6 * c_ + k0_)) 0)) (As := []) (rest := [.ref x, .long ((total σ c_ : Int32).toInt64)]) ⟨hx, hb, hml, hown, hts⟩ (mt_X7_place l D dA (μ.cA c_) (μ.kA c_) (μ.lA c_) (total σ c_) (fun k0_ => σ.calls (6 * c_ + k0_))) (cw_X0_X7_place hts ⟨Nat.le_of_ble_eq_true rfl, Nat.le_of_ble_eq_true rfl⟩) pB_bw (pB_now hK (pl2 (pl1 hP (hR.2.1 c_ hc hTc).1.1 (hR.2.1 c_ hc hTc).1.2) (pl1 hP (hR.2.1 c_ hc hTc).2.1.1 (hR.2.1 c_ hc hTc).2.1.2))) (va_recv hK (pl1 hP (hR.2.1 c_ hc hTc).1.1 (hR.2.1 c_ hc hTc).1.2) (ci := 5) (q0 := 0) rfl rfl) rfl hl.1 rfl (Nat.le_of_ble_eq_true rfl) dX0_valueBy_66 ⟨Nat.le_of_ble_eq_true rfl, Nat.le_of_ble_eq_true rfl⟩ ?_
    refine w_topi (y := nI (plF σ c_)) ((hI.pl2 c_ hc).2) ?_
    refine lv_iload hx hb dX0_valueBy_69 (lv_at hl 2 rfl) ?_
    refine lv_iload hx hb dX0_valueBy_71 (lv_at hl 9 rfl) ?_
    refine lv_iload hx hb dX0_valueBy_73 (lv_at hl 3 rfl) ?_
    refine lv_iload hx hb dX0_valueBy_75 (lv_at hl 11 rfl) ?_
    refine dV (v := .long (mV σ 1 (plF σ c_) (m_ + (σ.ways (6 * x_ + (plF σ c_)))) bag (restF set_ c_))) (As := [.int (nI (plF σ c_)), .int (m_ + (σ.ways (6 * x_ + (plF σ c_)))), .int bag, .int (restF set_ c_), .int (ptF σ.tools 8)]) (rest := [.long ((total σ c_ : Int32).toInt64)]) ⟨hx, hb, hml, hown, hts⟩ (mt_X0_valueOf_1 l D dA x ad μ σ ω (plF σ c_) (m_ + (σ.ways (6 * x_ + (plF σ c_)))) bag (restF set_ c_) hI hR hJ hpl hy (rest_N hs hc hh) (rest_U hs hU hc hh)) (cw_X0_X0_valueOf_1 hts ⟨Nat.le_of_ble_eq_true rfl, Nat.le_of_ble_eq_true rfl⟩) cB_bw (cB_now hK hN hP) (va_recv hK hP (ci := 1) (q0 := 0) rfl rfl) rfl hl.1 rfl (Nat.le_of_ble_eq_true rfl) dX0_valueBy_77 ⟨Nat.le_of_ble_eq_true rfl, Nat.le_of_ble_eq_true rfl⟩ ?_
    refine lv_aload hx hb dX0_valueBy_80 (lv_at hl 4 rfl) ?_
    refine dV (v := .int ((fun k0_ => σ.calls (6 * c_ + k0_)) 4)) (As := []) (rest := [.long (mV σ 1 (plF σ c_) (m_ + (σ.ways (6 * x_ + (plF σ c_)))) bag (restF set_ c_)), .long ((total σ c_ : Int32).toInt64)]) ⟨hx, hb, hml, hown, hts⟩ (mt_X7_again l D dA (μ.cA c_) (μ.kA c_) (μ.lA c_) (total σ c_) (fun k0_ => σ.calls (6 * c_ + k0_))) (cw_X0_X7_again hts ⟨Nat.le_of_ble_eq_true rfl, Nat.le_of_ble_eq_true rfl⟩) pB_bw (pB_now hK (pl2 (pl1 hP (hR.2.1 c_ hc hTc).1.1 (hR.2.1 c_ hc hTc).1.2) (pl1 hP (hR.2.1 c_ hc hTc).2.1.1 (hR.2.1 c_ hc hTc).2.1.2))) (va_recv hK (pl1 hP (hR.2.1 c_ hc hTc).1.1 (hR.2.1 c_ hc hTc).1.2) (ci := 5) (q0 := 0) rfl rfl) rfl hl.1 rfl (Nat.le_of_ble_eq_true rfl) dX0_valueBy_82 ⟨Nat.le_of_ble_eq_true rfl, Nat.le_of_ble_eq_true rfl⟩ ?_
    refine w_topi (y := σ.calls (6 * c_ + 4)) (rfl) ?_
    refine lv_i2l (v := (σ.calls (6 * c_ + 4) : Int32).toInt64) hx hb dX0_valueBy_85 rfl ?_
    refine lv_lload hx hb dX0_valueBy_86 (lv_at hl 0 rfl) ?_
    refine lv_lmul hx hb dX0_valueBy_88 ?_
    refine lv_lsub hx hb dX0_valueBy_89 ?_
    refine lv_lmul hx hb dX0_valueBy_90 ?_
    exact q_l hQ hx hb hr hlocks rfl (late_eq hI hJ hc hlt) dX0_valueBy_91

theorem cw_X0_X0_valueBy_2 {R : Room} {s : State} {args : Array Value} (hts : ∀ w ∈ lw_all, w.before args s = true) (hR : rmX0_valueBy_2.frames + 1 ≤ R.frames ∧ 8 + (19 + 11) + rmX0_valueBy_2.locals ≤ R.locals) : CallW R s args RX0 RX0 251 yX0_valueBy cX0_valueBy 19 (some .long) (ws_ yX0_valueBy cX0_valueBy 19 (some .long)) rmX0_valueBy_2 0 0 6 := cwV 6 hts (lw_V q1025 q1027 qs31 q77 q1028) rfl rfl rfl (by decide +kernel) hR
def rmX0_valueOf_2 : Room := { frames := 6, cells := 0, slots := 0, locals := 168 }
set_option maxHeartbeats 1000000 in
theorem mt_X0_valueOf_2 (l : Launch) (D : va_G) (dA : Nat → ClassId) (x : Nat) (ad : Nat → Nat) (μ : Lay) (σ : St) (ω : Om) (x_ : Nat) (m_ : Int32) (bag : Int32) (set_ : Int32) (hI : Inv σ) (hR : Rel dA μ σ) (hJ : Inv2 σ) (hx6 : x_ < 6) (hy : byP bag) (hs : setN set_ 2) (hU : setU σ set_) : Met l yX0_valueOf (ws_ yX0_valueOf cX0_valueOf 9 (some .long)) rmX0_valueOf_2 (va_Pc [.ref x, .int (nI x_), .int m_, .int bag, .int set_, .int (ptF σ.tools 8)] (cB D dA x ad μ σ ω)) (roQ (.long (mV σ 2 x_ m_ bag set_))) 0 0 (fun _ => False) := by
  refine w_start (by decide) (Nat.le_of_ble_eq_true rfl) ?_
  intro p e s m args below meth c Q ls hQ hx hb hr hlocks hml hown hnm hts hB hl
  have hown : s.vm.findClass RX0 = some m.cls := hown
  have hl : lv_has ls 9 [(0, .ref x), (1, .int (nI x_)), (2, .int m_), (3, .int bag), (4, .int set_), (5, .int (ptF σ.tools 8))] := hl
  obtain ⟨hP, hK, hN⟩ := hB
  refine lv_lconst (v := 0) hx hb dX0_valueOf_0 rfl ?_
  refine lv_lstore (lv' := [(6, .long 0), (0, .ref x), (1, .int (nI x_)), (2, .int m_), (3, .int bag), (4, .int set_), (5, .int (ptF σ.tools 8))]) hx hb dX0_valueOf_1 hl (by decide) rfl (fun ls hl => ?_)
  refine lv_iconst (v := 0) hx hb dX0_valueOf_3 rfl ?_
  refine lv_istore (lv' := [(8, .int 0), (6, .long 0), (0, .ref x), (1, .int (nI x_)), (2, .int m_), (3, .int bag), (4, .int set_), (5, .int (ptF σ.tools 8))]) hx hb dX0_valueOf_4 hl (by decide) rfl (fun ls hl => ?_)
  have hL6_1 : ∀ (n_2 : Nat) (k : Nat) (x8 : Int32) (x6 : Int64) (ls : Array Slot), (6 - k) < n_2 → (k ≤ 6) → x8 = (nI k) → x6 = (maxG σ (mV σ 1) x_ m_ bag set_ k) → lv_has ls 9 [(8, .int x8), (6, .long x6), (0, .ref x), (1, .int (nI x_)), (2, .int m_), (3, .int bag), (4, .int set_), (5, .int (ptF σ.tools 8))] → W p l e rmX0_valueOf_2 s m args below meth c s.heap [] 0 0 Q (F0 m 6 ls []) := by
    intro n_2
    induction n_2 with
    | zero => intro k x8 x6 ls hm_4; exact absurd hm_4 (Nat.not_lt_zero _)
    | succ n_2 ih_3 =>
      intro k x8 x6 ls hm_4 hk ex8 ex6 hl
      subst ex8 ex6
      refine lv_iload hx hb dX0_valueOf_6 (lv_at hl 0 rfl) ?_
      refine lv_bipush (v := 6) hx hb dX0_valueOf_8 rfl ?_
      refine lv_icmp_ge (tgt := 55) hx hb dX0_valueOf_10 rfl (fun h10 => ?_) (fun h10 => ?_)
      · have h10 : 6 ≤ k := (nz_le (a := 6) (b := k) rfl rfl (by omega) (by omega)).mp h10
        have hk_ : k = 6 := by omega
        subst hk_
        refine lv_lload hx hb dX0_valueOf_55 (lv_at hl 1 rfl) ?_
        exact q_l hQ hx hb hr hlocks rfl (rfl) dX0_valueOf_57
      · have h10 : ¬ (6 ≤ k) := fun z9 => h10 ((nz_le (a := 6) (b := k) rfl rfl (by omega) (by omega)).mpr z9)
        refine lv_iload hx hb dX0_valueOf_13 (lv_at hl 6 rfl) ?_
        refine lv_iload hx hb dX0_valueOf_15 (lv_at hl 0 rfl) ?_
        refine lv_ishr hx hb dX0_valueOf_17 ?_
        refine lv_iconst (v := 1) hx hb dX0_valueOf_18 rfl ?_
        refine lv_iand hx hb dX0_valueOf_19 ?_
        refine lv_iconst (v := 1) hx hb dX0_valueOf_20 rfl ?_
        have hJ47_5 : ∀ (v_6 : Int64) (ls : Array Slot), v_6 = (if ((set_ >>> ((nI k) &&& 31)) &&& 1) = 1 then if (goV σ (mV σ 1) x_ m_ bag set_ k) < (maxG σ (mV σ 1) x_ m_ bag set_ k) then (maxG σ (mV σ 1) x_ m_ bag set_ k) else (goV σ (mV σ 1) x_ m_ bag set_ k) else maxG σ (mV σ 1) x_ m_ bag set_ k) → lv_has ls 9 [(8, .int (nI k)), (6, .long (maxG σ (mV σ 1) x_ m_ bag set_ k)), (0, .ref x), (1, .int (nI x_)), (2, .int m_), (3, .int bag), (4, .int set_), (5, .int (ptF σ.tools 8))] → W p l e rmX0_valueOf_2 s m args below meth c s.heap [] 0 0 Q (F0 m 47 ls [.long v_6]) := by
          intro v_6 ls ev_6 hl
          refine lv_lstore (lv' := [(6, .long v_6), (8, .int (nI k)), (0, .ref x), (1, .int (nI x_)), (2, .int m_), (3, .int bag), (4, .int set_), (5, .int (ptF σ.tools 8))]) hx hb dX0_valueOf_47 hl (by decide) rfl (fun ls hl => ?_)
          refine lv_iinc (v := nI (k + 1)) (lv' := [(8, .int (nI (k + 1))), (6, .long v_6), (0, .ref x), (1, .int (nI x_)), (2, .int m_), (3, .int bag), (4, .int set_), (5, .int (ptF σ.tools 8))]) hx hb dX0_valueOf_49 hl (k := 1) rfl (nI_1 k) (by decide) rfl (fun ls hl => ?_)
          refine lv_goto (tgt := 6) hx hb dX0_valueOf_52 rfl ?_
          exact ih_3 (k + 1) (nI (k + 1)) v_6 ls (by omega) (by omega) rfl (by subst_vars; exact (max_s σ (mV σ 1) x_ m_ bag set_ k).symm) (lv_sub hl [0, 1, 2, 3, 4, 5, 6, 7] rfl)
        refine lv_icmp_ne (tgt := 45) hx hb dX0_valueOf_21 rfl (fun h21 => ?_) (fun h21 => ?_)
        · have h21 : ¬ (((set_ >>> ((nI k) &&& 31)) &&& 1) = 1) := h21
          refine lv_lload hx hb dX0_valueOf_45 (lv_at hl 1 rfl) ?_
          exact hJ47_5 (maxG σ (mV σ 1) x_ m_ bag set_ k) ls (by rw [if_neg h21]) (lv_sub hl [0, 1, 2, 3, 4, 5, 6, 7] rfl)
        · have h21 : ((set_ >>> ((nI k) &&& 31)) &&& 1) = 1 := h21
          refine lv_lload hx hb dX0_valueOf_24 (lv_at hl 1 rfl) ?_
          refine lv_aload_n hx hb dX0_valueOf_26 rfl (lv_at hl 2 rfl) ?_
          refine lv_iload hx hb dX0_valueOf_27 (lv_at hl 0 rfl) ?_
          refine lv_iload_n hx hb dX0_valueOf_29 rfl (lv_at hl 3 rfl) ?_
          refine lv_iload_n hx hb dX0_valueOf_30 rfl (lv_at hl 4 rfl) ?_
          refine lv_iload_n hx hb dX0_valueOf_31 rfl (lv_at hl 5 rfl) ?_
          refine lv_iload hx hb dX0_valueOf_32 (lv_at hl 6 rfl) ?_
          refine lv_iload hx hb dX0_valueOf_34 (lv_at hl 7 rfl) ?_
          refine dV (v := .long (goV σ (mV σ 1) x_ m_ bag set_ k)) (As := [.int (nI k), .int (nI x_), .int m_, .int bag, .int set_, .int (ptF σ.tools 8)]) (rest := [.long (maxG σ (mV σ 1) x_ m_ bag set_ k)]) ⟨hx, hb, hml, hown, hts⟩ (mt_X0_valueBy_2 l D dA x ad μ σ ω k x_ m_ bag set_ hI hR (by omega) (by omega) (by omega) (by omega) hs (by omega) h21) (cw_X0_X0_valueBy_2 hts ⟨Nat.le_of_ble_eq_true rfl, Nat.le_of_ble_eq_true rfl⟩) cB_bw (cB_now hK hN hP) (va_recv hK hP (ci := 1) (q0 := 0) rfl rfl) rfl hl.1 rfl (Nat.le_of_ble_eq_true rfl) dX0_valueOf_36 ⟨Nat.le_of_ble_eq_true rfl, Nat.le_of_ble_eq_true rfl⟩ ?_
          refine va_mmax_long hx hb (hml.trans hl.1.symm) hown (hts _ q1037) (hts _ q1038) (hts _ q90) (hts _ q1039) (Nat.le_of_ble_eq_true rfl) (Nat.le_of_ble_eq_true rfl) (Nat.le_of_ble_eq_true rfl) (Nat.le_of_ble_eq_true rfl) dX0_valueOf_39 ?_
          refine lv_goto (tgt := 47) hx hb dX0_valueOf_42 rfl ?_
          exact hJ47_5 (if (goV σ (mV σ 1) x_ m_ bag set_ k) < (maxG σ (mV σ 1) x_ m_ bag set_ k) then (maxG σ (mV σ 1) x_ m_ bag set_ k) else (goV σ (mV σ 1) x_ m_ bag set_ k)) ls (by rw [if_pos h21]) (lv_sub hl [0, 1, 2, 3, 4, 5, 6, 7] rfl)
  exact hL6_1 _ 0 0 0 ls (Nat.lt_succ_self _) (by omega) rfl (by subst_vars; rw [maxG]) (lv_sub hl [0, 1, 2, 3, 4, 5, 6, 7] rfl)

theorem cw_X0_X0_valueOf_2 {R : Room} {s : State} {args : Array Value} (hts : ∀ w ∈ lw_all, w.before args s = true) (hR : rmX0_valueOf_2.frames + 1 ≤ R.frames ∧ 8 + (9 + 11) + rmX0_valueOf_2.locals ≤ R.locals) : CallW R s args RX0 RX0 268 yX0_valueOf cX0_valueOf 9 (some .long) (ws_ yX0_valueOf cX0_valueOf 9 (some .long)) rmX0_valueOf_2 0 0 5 := cwV 5 hts (lw_V q1021 q1023 qs30 q77 q1024) rfl rfl rfl (by decide +kernel) hR
def rmX0_valueBy_3 : Room := { frames := 7, cells := 0, slots := 0, locals := 196 }
set_option maxHeartbeats 1000000 in
theorem mt_X0_valueBy_3 (l : Launch) (D : va_G) (dA : Nat → ClassId) (x : Nat) (ad : Nat → Nat) (μ : Lay) (σ : St) (ω : Om) (c_ : Nat) (x_ : Nat) (m_ : Int32) (bag : Int32) (set_ : Int32) (hI : Inv σ) (hR : Rel dA μ σ) (hJ : Inv2 σ) (hc : c_ < 6) (hx6 : x_ < 6) (hy : byP bag) (hs : setN set_ 3) (hU : setU σ set_) (hh : hasP set_ (nI c_)) : Met l yX0_valueBy (ws_ yX0_valueBy cX0_valueBy 19 (some .long)) rmX0_valueBy_3 (va_Pc [.ref x, .int (nI c_), .int (nI x_), .int m_, .int bag, .int set_, .int (ptF σ.tools 8)] (cB D dA x ad μ σ ω)) (roQ (.long (goV σ (mV σ 2) x_ m_ bag set_ c_))) 0 0 (fun _ => False) := by
  refine w_start (by decide) (Nat.le_of_ble_eq_true rfl) ?_
  intro p e s m args below meth c Q ls hQ hx hb hr hlocks hml hown hnm hts hB hl
  have hown : s.vm.findClass RX0 = some m.cls := hown
  have hl : lv_has ls 19 [(0, .ref x), (1, .int (nI c_)), (2, .int (nI x_)), (3, .int m_), (4, .int bag), (5, .int set_), (6, .int (ptF σ.tools 8))] := hl
  obtain ⟨hP, hK, hN⟩ := hB
  obtain ⟨hTc, hs0⟩ := hU c_ hc hh
  have hsm := hI.sm c_ hc
  have hpl := (hI.pl2 c_ hc).1
  refine lv_aload_n hx hb dX0_valueBy_0 rfl (lv_at hl 0 rfl) ?_
  refine va_get (D := D) (ci := 1) (v := .ref (ad 2)) (C := RX0) (T := TX0) (N := 11) hx hb hts in_X0 hown hK hP 0 rfl rfl 5 (by decide) (hts _ q218) (fun _ h9 => h9) rfl dX0_valueBy_1 ?_
  refine lv_iload_n hx hb dX0_valueBy_4 rfl (lv_at hl 1 rfl) ?_
  refine wa_aald (v := .ref (μ.cA c_)) hx hb hK hP 3 5 rfl rfl rfl (c_) (rfl) (by omega) (by decide) (cO_t hTc) dX0_valueBy_5 ?_
  refine lv_astore (lv' := [(7, .ref (μ.cA c_)), (0, .ref x), (1, .int (nI c_)), (2, .int (nI x_)), (3, .int m_), (4, .int bag), (5, .int set_), (6, .int (ptF σ.tools 8))]) hx hb dX0_valueBy_6 hl (by decide) rfl (fun ls hl => ?_)
  refine lv_iload hx hb dX0_valueBy_8 (lv_at hl 6 rfl) ?_
  refine lv_iconst (v := 1) hx hb dX0_valueBy_10 rfl ?_
  refine lv_iload_n hx hb dX0_valueBy_11 rfl (lv_at hl 2 rfl) ?_
  refine lv_ishl hx hb dX0_valueBy_12 ?_
  refine lv_iconst (v := (-1)) hx hb dX0_valueBy_13 rfl ?_
  refine lv_ixor hx hb dX0_valueBy_14 ?_
  refine lv_iand hx hb dX0_valueBy_15 ?_
  refine w_topi (y := restF set_ c_) (rfl) ?_
  refine lv_istore (lv' := [(8, .int (restF set_ c_)), (7, .ref (μ.cA c_)), (0, .ref x), (1, .int (nI c_)), (2, .int (nI x_)), (3, .int m_), (4, .int bag), (5, .int set_), (6, .int (ptF σ.tools 8))]) hx hb dX0_valueBy_16 hl (by decide) rfl (fun ls hl => ?_)
  refine lv_iload_n hx hb dX0_valueBy_18 rfl (lv_at hl 5 rfl) ?_
  refine lv_aload_n hx hb dX0_valueBy_19 rfl (lv_at hl 2 rfl) ?_
  refine va_get (D := D) (ci := 1) (v := .ref (ad 1)) (C := RX0) (T := TX0) (N := 11) hx hb hts in_X0 hown hK hP 0 rfl rfl 4 (by decide) (hts _ q216) (fun _ h9 => h9) rfl dX0_valueBy_20 ?_
  refine lv_iload_n hx hb dX0_valueBy_23 rfl (lv_at hl 4 rfl) ?_
  refine wa_aald (v := .ref (ad (6 + x_))) hx hb hK hP 2 4 rfl rfl rfl (x_) (rfl) (by omega) (by decide) (rfl) dX0_valueBy_24 ?_
  refine lv_aload hx hb dX0_valueBy_25 (lv_at hl 1 rfl) ?_
  refine dV (v := .int ((fun k0_ => σ.calls (6 * c_ + k0_)) 0)) (As := []) (rest := [.ref (ad (6 + x_)), .int m_]) ⟨hx, hb, hml, hown, hts⟩ (mt_X7_place l D dA (μ.cA c_) (μ.kA c_) (μ.lA c_) (total σ c_) (fun k0_ => σ.calls (6 * c_ + k0_))) (cw_X0_X7_place hts ⟨Nat.le_of_ble_eq_true rfl, Nat.le_of_ble_eq_true rfl⟩) pB_bw (pB_now hK (pl2 (pl1 hP (hR.2.1 c_ hc hTc).1.1 (hR.2.1 c_ hc hTc).1.2) (pl1 hP (hR.2.1 c_ hc hTc).2.1.1 (hR.2.1 c_ hc hTc).2.1.2))) (va_recv hK (pl1 hP (hR.2.1 c_ hc hTc).1.1 (hR.2.1 c_ hc hTc).1.2) (ci := 5) (q0 := 0) rfl rfl) rfl hl.1 rfl (Nat.le_of_ble_eq_true rfl) dX0_valueBy_27 ⟨Nat.le_of_ble_eq_true rfl, Nat.le_of_ble_eq_true rfl⟩ ?_
  refine w_topi (y := nI (plF σ c_)) ((hI.pl2 c_ hc).2) ?_
  refine wa_sald (v := σ.ways (6 * x_ + (plF σ c_))) hx hb hK (way_row hP (i := x_) (by omega)) 0 2 rfl rfl (plF σ c_) (rfl) (by omega) (by decide) (rfl) dX0_valueBy_30 ?_
  refine lv_iadd hx hb dX0_valueBy_31 ?_
  refine lv_istore (lv' := [(9, .int (m_ + (σ.ways (6 * x_ + (plF σ c_))))), (8, .int (restF set_ c_)), (7, .ref (μ.cA c_)), (0, .ref x), (1, .int (nI c_)), (2, .int (nI x_)), (3, .int m_), (4, .int bag), (5, .int set_), (6, .int (ptF σ.tools 8))]) hx hb dX0_valueBy_32 hl (by decide) rfl (fun ls hl => ?_)
  refine lv_aload hx hb dX0_valueBy_34 (lv_at hl 2 rfl) ?_
  refine lv_iload hx hb dX0_valueBy_36 (lv_at hl 0 rfl) ?_
  refine dV (v := .int (begW (fun k0_ => σ.calls (6 * c_ + k0_)) (m_ + (σ.ways (6 * x_ + (plF σ c_)))))) (As := [.int (m_ + (σ.ways (6 * x_ + (plF σ c_))))]) (rest := []) ⟨hx, hb, hml, hown, hts⟩ (mt_X7_begins l D dA (μ.cA c_) (μ.kA c_) (μ.lA c_) (total σ c_) (fun k0_ => σ.calls (6 * c_ + k0_)) (m_ + (σ.ways (6 * x_ + (plF σ c_))))) (cw_X0_X7_begins hts ⟨Nat.le_of_ble_eq_true rfl, Nat.le_of_ble_eq_true rfl⟩) pB_bw (pB_now hK (pl2 (pl1 hP (hR.2.1 c_ hc hTc).1.1 (hR.2.1 c_ hc hTc).1.2) (pl1 hP (hR.2.1 c_ hc hTc).2.1.1 (hR.2.1 c_ hc hTc).2.1.2))) (va_recv hK (pl1 hP (hR.2.1 c_ hc hTc).1.1 (hR.2.1 c_ hc hTc).1.2) (ci := 5) (q0 := 0) rfl rfl) rfl hl.1 rfl (Nat.le_of_ble_eq_true rfl) dX0_valueBy_38 ⟨Nat.le_of_ble_eq_true rfl, Nat.le_of_ble_eq_true rfl⟩ ?_
  refine w_topi (y := bgF σ x_ m_ c_) (beg_eq hI hc m_) ?_
  refine lv_istore (lv' := [(10, .int (bgF σ x_ m_ c_)), (9, .int (m_ + (σ.ways (6 * x_ + (plF σ c_))))), (8, .int (restF set_ c_)), (7, .ref (μ.cA c_)), (0, .ref x), (1, .int (nI c_)), (2, .int (nI x_)), (3, .int m_), (4, .int bag), (5, .int set_), (6, .int (ptF σ.tools 8))]) hx hb dX0_valueBy_41 hl (by decide) rfl (fun ls hl => ?_)
  refine lv_aload_n hx hb dX0_valueBy_43 rfl (lv_at hl 4 rfl) ?_
  refine lv_iload hx hb dX0_valueBy_44 (lv_at hl 2 rfl) ?_
  refine dV (v := .long (tosF σ (restF set_ c_) 6)) (As := [.int (restF set_ c_)]) (rest := []) ⟨hx, hb, hml, hown, hts⟩ (mt_X0_productOf l D dA x ad μ σ ω (restF set_ c_) hI hR (rest_U hs hU hc hh)) (cw_X0_X0_productOf hts ⟨Nat.le_of_ble_eq_true rfl, Nat.le_of_ble_eq_true rfl⟩) cB_bw (cB_now hK hN hP) (va_recv hK hP (ci := 1) (q0 := 0) rfl rfl) rfl hl.1 rfl (Nat.le_of_ble_eq_true rfl) dX0_valueBy_46 ⟨Nat.le_of_ble_eq_true rfl, Nat.le_of_ble_eq_true rfl⟩ ?_
  refine lv_lstore (lv' := [(11, .long (tosF σ (restF set_ c_) 6)), (10, .int (bgF σ x_ m_ c_)), (9, .int (m_ + (σ.ways (6 * x_ + (plF σ c_))))), (8, .int (restF set_ c_)), (7, .ref (μ.cA c_)), (0, .ref x), (1, .int (nI c_)), (2, .int (nI x_)), (3, .int m_), (4, .int bag), (5, .int set_), (6, .int (ptF σ.tools 8))]) hx hb dX0_valueBy_49 hl (by decide) rfl (fun ls hl => ?_)
  refine lv_iload hx hb dX0_valueBy_51 (lv_at hl 1 rfl) ?_
  refine lv_iconst (v := (-1)) hx hb dX0_valueBy_53 rfl ?_
  refine lv_icmp_ne (tgt := 92) hx hb dX0_valueBy_54 rfl (fun h54 => ?_) (fun h54 => ?_)
  · have h54 : ¬ ((bgF σ x_ m_ c_) = (-1)) := h54
    obtain ⟨hnl, hbg⟩ := bg_n hI hc h54
    refine lv_lconst (v := 0) hx hb dX0_valueBy_92 rfl ?_
    refine lv_lstore (lv' := [(13, .long 0), (11, .long (tosF σ (restF set_ c_) 6)), (10, .int (bgF σ x_ m_ c_)), (9, .int (m_ + (σ.ways (6 * x_ + (plF σ c_))))), (8, .int (restF set_ c_)), (7, .ref (μ.cA c_)), (0, .ref x), (1, .int (nI c_)), (2, .int (nI x_)), (3, .int m_), (4, .int bag), (5, .int set_), (6, .int (ptF σ.tools 8))]) hx hb dX0_valueBy_93 hl (by decide) rfl (fun ls hl => ?_)
    refine lv_iconst (v := 0) hx hb dX0_valueBy_95 rfl ?_
    refine lv_istore (lv' := [(15, .int 0), (13, .long 0), (11, .long (tosF σ (restF set_ c_) 6)), (10, .int (bgF σ x_ m_ c_)), (9, .int (m_ + (σ.ways (6 * x_ + (plF σ c_))))), (8, .int (restF set_ c_)), (7, .ref (μ.cA c_)), (0, .ref x), (1, .int (nI c_)), (2, .int (nI x_)), (3, .int m_), (4, .int bag), (5, .int set_), (6, .int (ptF σ.tools 8))]) hx hb dX0_valueBy_96 hl (by decide) rfl (fun ls hl => ?_)
    have hL98_1 : ∀ (n_2 : Nat) (k : Nat) (x15 : Int32) (x13 : Int64) (ls : Array Slot), (4 - k) < n_2 → (k ≤ σ.sm c_) → x15 = (nI k) → x13 = (gosS σ (mV σ 2) (arrF σ x_ m_ c_) bag (restF set_ c_) (tosF σ (restF set_ c_) 6) c_ k) → lv_has ls 19 [(15, .int x15), (13, .long x13), (11, .long (tosF σ (restF set_ c_) 6)), (10, .int (bgF σ x_ m_ c_)), (9, .int (m_ + (σ.ways (6 * x_ + (plF σ c_))))), (8, .int (restF set_ c_)), (7, .ref (μ.cA c_)), (0, .ref x), (1, .int (nI c_)), (2, .int (nI x_)), (3, .int m_), (4, .int bag), (5, .int set_), (6, .int (ptF σ.tools 8))] → W p l e rmX0_valueBy_3 s m args below meth c s.heap [] 0 0 Q (F0 m 98 ls []) := by
      intro n_2
      induction n_2 with
      | zero => intro k x15 x13 ls hm_4; exact absurd hm_4 (Nat.not_lt_zero _)
      | succ n_2 ih_3 =>
        intro k x15 x13 ls hm_4 hk ex15 ex13 hl
        subst ex15 ex13
        refine lv_iload hx hb dX0_valueBy_98 (lv_at hl 0 rfl) ?_
        refine lv_aload hx hb dX0_valueBy_100 (lv_at hl 6 rfl) ?_
        refine va_get (D := D) (ci := 5) (v := .ref (μ.lA c_)) (C := RX7) (T := TX7) (N := 3) hx hb hts in_X7 hown hK (pl1 hP (hR.2.1 c_ hc hTc).1.1 (hR.2.1 c_ hc hTc).1.2) 0 rfl rfl 1 (by decide) (hts _ q701) (fun _ h9 => h9) rfl dX0_valueBy_102 ?_
        refine dV (v := .int (nI (σ.sm c_))) (As := []) (rest := [.int (nI k)]) ⟨hx, hb, hml, hown, hts⟩ (mt_J2_size l D dA (μ.lA c_) (μ.eA c_) (μ.mA c_) (σ.sm c_)) (cw_X0_J2_size hts ⟨Nat.le_of_ble_eq_true rfl, Nat.le_of_ble_eq_true rfl⟩) pB_bw (pB_now hK (pl1 hP (hR.2.1 c_ hc hTc).2.2.1.1 (hR.2.1 c_ hc hTc).2.2.1.2)) (va_recv hK (pl1 hP (hR.2.1 c_ hc hTc).2.2.1.1 (hR.2.1 c_ hc hTc).2.2.1.2) (ci := 8) (q0 := 0) rfl rfl) rfl hl.1 rfl (Nat.le_of_ble_eq_true rfl) dX0_valueBy_105 ⟨Nat.le_of_ble_eq_true rfl, Nat.le_of_ble_eq_true rfl⟩ ?_
        refine lv_icmp_ge (tgt := 236) hx hb dX0_valueBy_108 rfl (fun h108 => ?_) (fun h108 => ?_)
        · have h108 : (σ.sm c_) ≤ k := (nz_le (a := (σ.sm c_)) (b := k) rfl rfl (by omega) (by omega)).mp h108
          have hk_ : k = σ.sm c_ := by omega
          subst hk_
          refine lv_lload hx hb dX0_valueBy_236 (lv_at hl 1 rfl) ?_
          exact q_l hQ hx hb hr hlocks rfl (by unfold goV; rw [if_neg hnl]) dX0_valueBy_238
        · have h108 : ¬ ((σ.sm c_) ≤ k) := fun z9 => h108 ((nz_le (a := (σ.sm c_)) (b := k) rfl rfl (by omega) (by omega)).mpr z9)
          refine lv_aload hx hb dX0_valueBy_111 (lv_at hl 6 rfl) ?_
          refine va_get (D := D) (ci := 5) (v := .ref (μ.lA c_)) (C := RX7) (T := TX7) (N := 3) hx hb hts in_X7 hown hK (pl1 hP (hR.2.1 c_ hc hTc).1.1 (hR.2.1 c_ hc hTc).1.2) 0 rfl rfl 1 (by decide) (hts _ q701) (fun _ h9 => h9) rfl dX0_valueBy_113 ?_
          refine lv_iload hx hb dX0_valueBy_116 (lv_at hl 0 rfl) ?_
          refine g_sort (rest := []) ⟨hx, hb, hml, hown, hts⟩ (cw_X0_J2_get hts ⟨Nat.le_of_ble_eq_true rfl, Nat.le_of_ble_eq_true rfl⟩) hK hP (hR.2.1 c_ hc hTc) (hI.sm c_ hc) (show k < σ.sm c_ by omega) hl.1 rfl (Nat.le_of_ble_eq_true rfl) dX0_valueBy_118 ⟨Nat.le_of_ble_eq_true rfl, Nat.le_of_ble_eq_true rfl⟩ ?_
          refine va_castS hx hb hown (hts _ q717) (hK.1 6 _ rfl).2 (va_recv hK (pl1 hP ((hR.2.1 c_ hc hTc).2.2.2.2 k (show k < σ.sm c_ by omega)).1 ((hR.2.1 c_ hc hTc).2.2.2.2 k (show k < σ.sm c_ by omega)).2) (ci := 6) (q0 := 0) rfl rfl) dX0_valueBy_121 ?_
          refine lv_astore (lv' := [(16, .ref (μ.sA c_ k)), (15, .int (nI k)), (13, .long (gosS σ (mV σ 2) (arrF σ x_ m_ c_) bag (restF set_ c_) (tosF σ (restF set_ c_) 6) c_ k)), (11, .long (tosF σ (restF set_ c_) 6)), (10, .int (bgF σ x_ m_ c_)), (9, .int (m_ + (σ.ways (6 * x_ + (plF σ c_))))), (8, .int (restF set_ c_)), (7, .ref (μ.cA c_)), (0, .ref x), (1, .int (nI c_)), (2, .int (nI x_)), (3, .int m_), (4, .int bag), (5, .int set_), (6, .int (ptF σ.tools 8))]) hx hb dX0_valueBy_124 hl (by decide) rfl (fun ls hl => ?_)
          refine lv_aload hx hb dX0_valueBy_126 (lv_at hl 0 rfl) ?_
          refine lv_iload hx hb dX0_valueBy_128 (lv_at hl 12 rfl) ?_
          refine dU (v := .int (b01 (metP bag (σ.sorts (16 * c_ + 4 * k + 2)) (σ.sorts (16 * c_ + 4 * k + 3))))) (As := [.int bag]) (rest := []) ⟨hx, hb, hml, hown, hts⟩ (mt_X8_isMet_S l D dA (μ.sA c_ k) (σ.sorts (16 * c_ + 4 * k + 2)) (σ.sorts (16 * c_ + 4 * k + 3)) (σ.sorts (16 * c_ + 4 * k)) (σ.sorts (16 * c_ + 4 * k + 1)) bag) (cw_X0_X8_isMet_S_X9 hts ⟨Nat.le_of_ble_eq_true rfl, Nat.le_of_ble_eq_true rfl⟩) pB_bw (pB_now hK (pl1 hP ((hR.2.1 c_ hc hTc).2.2.2.2 k (show k < σ.sm c_ by omega)).1 ((hR.2.1 c_ hc hTc).2.2.2.2 k (show k < σ.sm c_ by omega)).2)) (va_recv hK (pl1 hP ((hR.2.1 c_ hc hTc).2.2.2.2 k (show k < σ.sm c_ by omega)).1 ((hR.2.1 c_ hc hTc).2.2.2.2 k (show k < σ.sm c_ by omega)).2) (ci := 6) (q0 := 0) rfl rfl) rfl hl.1 rfl (Nat.le_of_ble_eq_true rfl) dX0_valueBy_130 ⟨Nat.le_of_ble_eq_true rfl, Nat.le_of_ble_eq_true rfl⟩ ?_
          refine w_topi (y := b01 (¬ leftF σ bag c_ k = -1)) (b01_iff (met_left hy c_ k)) ?_
          have hJ214_5 : ∀ (v_6 : Int64) (ls : Array Slot), v_6 = (if ¬ leftF σ bag c_ k = -1 then (((σ.calls (6 * c_ + 3) : Int32).toInt64) * (tosF σ (restF set_ c_) 6)) + (mV σ 2 (plF σ c_) ((bgF σ x_ m_ c_) + (σ.sorts (16 * c_ + 4 * k + 1))) (leftF σ bag c_ k) (restF set_ c_)) else (mV σ 2 (plF σ c_) ((bgF σ x_ m_ c_) + (σ.calls (6 * c_ + 5))) bag (restF set_ c_)) - (((σ.calls (6 * c_ + 4) : Int32).toInt64) * (tosF σ (restF set_ c_) 6))) → lv_has ls 19 [(16, .ref (μ.sA c_ k)), (15, .int (nI k)), (13, .long (gosS σ (mV σ 2) (arrF σ x_ m_ c_) bag (restF set_ c_) (tosF σ (restF set_ c_) 6) c_ k)), (11, .long (tosF σ (restF set_ c_) 6)), (10, .int (bgF σ x_ m_ c_)), (9, .int (m_ + (σ.ways (6 * x_ + (plF σ c_))))), (8, .int (restF set_ c_)), (7, .ref (μ.cA c_)), (0, .ref x), (1, .int (nI c_)), (2, .int (nI x_)), (3, .int m_), (4, .int bag), (5, .int set_), (6, .int (ptF σ.tools 8))] → W p l e rmX0_valueBy_3 s m args below meth c s.heap [] 0 0 Q (F0 m 214 ls [.long v_6]) := by
            intro v_6 ls ev_6 hl
            refine lv_lstore (lv' := [(17, .long v_6), (16, .ref (μ.sA c_ k)), (15, .int (nI k)), (13, .long (gosS σ (mV σ 2) (arrF σ x_ m_ c_) bag (restF set_ c_) (tosF σ (restF set_ c_) 6) c_ k)), (11, .long (tosF σ (restF set_ c_) 6)), (10, .int (bgF σ x_ m_ c_)), (9, .int (m_ + (σ.ways (6 * x_ + (plF σ c_))))), (8, .int (restF set_ c_)), (7, .ref (μ.cA c_)), (0, .ref x), (1, .int (nI c_)), (2, .int (nI x_)), (3, .int m_), (4, .int bag), (5, .int set_), (6, .int (ptF σ.tools 8))]) hx hb dX0_valueBy_214 hl (by decide) rfl (fun ls hl => ?_)
            refine lv_lload hx hb dX0_valueBy_216 (lv_at hl 3 rfl) ?_
            refine lv_aload hx hb dX0_valueBy_218 (lv_at hl 1 rfl) ?_
            refine va_get (D := D) (ci := 6) (v := .int (σ.sorts (16 * c_ + 4 * k))) (C := RX9) (T := TX9) (N := 4) hx hb hts in_X9 hown hK (pl1 hP ((hR.2.1 c_ hc hTc).2.2.2.2 k (show k < σ.sm c_ by omega)).1 ((hR.2.1 c_ hc hTc).2.2.2.2 k (show k < σ.sm c_ by omega)).2) 0 rfl rfl 2 (by decide) (hts _ q729) (fun _ h9 => h9) rfl dX0_valueBy_220 ?_
            refine lv_i2l (v := (σ.sorts (16 * c_ + 4 * k) : Int32).toInt64) hx hb dX0_valueBy_223 rfl ?_
            refine lv_lload hx hb dX0_valueBy_224 (lv_at hl 0 rfl) ?_
            refine lv_lmul hx hb dX0_valueBy_226 ?_
            refine lv_ladd hx hb dX0_valueBy_227 ?_
            refine lv_lstore (lv' := [(13, .long ((gosS σ (mV σ 2) (arrF σ x_ m_ c_) bag (restF set_ c_) (tosF σ (restF set_ c_) 6) c_ k) + (((σ.sorts (16 * c_ + 4 * k) : Int32).toInt64) * v_6))), (17, .long v_6), (16, .ref (μ.sA c_ k)), (15, .int (nI k)), (11, .long (tosF σ (restF set_ c_) 6)), (10, .int (bgF σ x_ m_ c_)), (9, .int (m_ + (σ.ways (6 * x_ + (plF σ c_))))), (8, .int (restF set_ c_)), (7, .ref (μ.cA c_)), (0, .ref x), (1, .int (nI c_)), (2, .int (nI x_)), (3, .int m_), (4, .int bag), (5, .int set_), (6, .int (ptF σ.tools 8))]) hx hb dX0_valueBy_228 hl (by decide) rfl (fun ls hl => ?_)
            refine lv_iinc (v := nI (k + 1)) (lv' := [(15, .int (nI (k + 1))), (13, .long ((gosS σ (mV σ 2) (arrF σ x_ m_ c_) bag (restF set_ c_) (tosF σ (restF set_ c_) 6) c_ k) + (((σ.sorts (16 * c_ + 4 * k) : Int32).toInt64) * v_6))), (17, .long v_6), (16, .ref (μ.sA c_ k)), (11, .long (tosF σ (restF set_ c_) 6)), (10, .int (bgF σ x_ m_ c_)), (9, .int (m_ + (σ.ways (6 * x_ + (plF σ c_))))), (8, .int (restF set_ c_)), (7, .ref (μ.cA c_)), (0, .ref x), (1, .int (nI c_)), (2, .int (nI x_)), (3, .int m_), (4, .int bag), (5, .int set_), (6, .int (ptF σ.tools 8))]) hx hb dX0_valueBy_230 hl (k := 3) rfl (nI_1 k) (by decide) rfl (fun ls hl => ?_)
            refine lv_goto (tgt := 98) hx hb dX0_valueBy_233 rfl ?_
            exact ih_3 (k + 1) (nI (k + 1)) ((gosS σ (mV σ 2) (arrF σ x_ m_ c_) bag (restF set_ c_) (tosF σ (restF set_ c_) 6) c_ k) + (((σ.sorts (16 * c_ + 4 * k) : Int32).toInt64) * v_6)) ls (by omega) (by omega) rfl (by subst_vars; rw [gos_s hJ hc, hbg]) (lv_sub hl [0, 1, 4, 5, 6, 7, 8, 9, 10, 11, 12, 13, 14, 15] rfl)
          refine lv_if_eq (tgt := 179) hx hb dX0_valueBy_133 rfl (fun h133 => ?_) (fun h133 => ?_)
          · have h133 : ¬ (¬ leftF σ bag c_ k = -1) := b01_0.mp h133
            refine lv_aload_n hx hb dX0_valueBy_179 rfl (lv_at hl 8 rfl) ?_
            refine lv_aload hx hb dX0_valueBy_180 (lv_at hl 7 rfl) ?_
            refine dV (v := .int ((fun k0_ => σ.calls (6 * c_ + k0_)) 0)) (As := []) (rest := [.ref x]) ⟨hx, hb, hml, hown, hts⟩ (mt_X7_place l D dA (μ.cA c_) (μ.kA c_) (μ.lA c_) (total σ c_) (fun k0_ => σ.calls (6 * c_ + k0_))) (cw_X0_X7_place hts ⟨Nat.le_of_ble_eq_true rfl, Nat.le_of_ble_eq_true rfl⟩) pB_bw (pB_now hK (pl2 (pl1 hP (hR.2.1 c_ hc hTc).1.1 (hR.2.1 c_ hc hTc).1.2) (pl1 hP (hR.2.1 c_ hc hTc).2.1.1 (hR.2.1 c_ hc hTc).2.1.2))) (va_recv hK (pl1 hP (hR.2.1 c_ hc hTc).1.1 (hR.2.1 c_ hc hTc).1.2) (ci := 5) (q0 := 0) rfl rfl) rfl hl.1 rfl (Nat.le_of_ble_eq_true rfl) dX0_valueBy_182 ⟨Nat.le_of_ble_eq_true rfl, Nat.le_of_ble_eq_true rfl⟩ ?_
            refine w_topi (y := nI (plF σ c_)) ((hI.pl2 c_ hc).2) ?_
            refine lv_iload hx hb dX0_valueBy_185 (lv_at hl 4 rfl) ?_
            refine lv_aload hx hb dX0_valueBy_187 (lv_at hl 7 rfl) ?_
            refine va_get (D := D) (ci := 5) (v := .ref (μ.kA c_)) (C := RX7) (T := TX7) (N := 3) hx hb hts in_X7 hown hK (pl1 hP (hR.2.1 c_ hc hTc).1.1 (hR.2.1 c_ hc hTc).1.2) 0 rfl rfl 0 (by decide) (hts _ q698) (fun _ h9 => h9) rfl dX0_valueBy_189 ?_
            refine lv_iconst (v := 5) hx hb dX0_valueBy_192 rfl ?_
            refine wa_iald1 (v := σ.calls (6 * c_ + 5)) hx hb hK (pl1 hP (hR.2.1 c_ hc hTc).2.1.1 (hR.2.1 c_ hc hTc).2.1.2) 0 0 rfl rfl (5) (rfl) (by omega) (by decide) (rfl) dX0_valueBy_193 ?_
            refine lv_iadd hx hb dX0_valueBy_194 ?_
            refine lv_iload hx hb dX0_valueBy_195 (lv_at hl 12 rfl) ?_
            refine lv_iload hx hb dX0_valueBy_197 (lv_at hl 6 rfl) ?_
            refine lv_iload hx hb dX0_valueBy_199 (lv_at hl 14 rfl) ?_
            refine dV (v := .long (mV σ 2 (plF σ c_) ((bgF σ x_ m_ c_) + (σ.calls (6 * c_ + 5))) bag (restF set_ c_))) (As := [.int (nI (plF σ c_)), .int ((bgF σ x_ m_ c_) + (σ.calls (6 * c_ + 5))), .int bag, .int (restF set_ c_), .int (ptF σ.tools 8)]) (rest := []) ⟨hx, hb, hml, hown, hts⟩ (mt_X0_valueOf_2 l D dA x ad μ σ ω (plF σ c_) ((bgF σ x_ m_ c_) + (σ.calls (6 * c_ + 5))) bag (restF set_ c_) hI hR hJ hpl hy (rest_N hs hc hh) (rest_U hs hU hc hh)) (cw_X0_X0_valueOf_2 hts ⟨Nat.le_of_ble_eq_true rfl, Nat.le_of_ble_eq_true rfl⟩) cB_bw (cB_now hK hN hP) (va_recv hK hP (ci := 1) (q0 := 0) rfl rfl) rfl hl.1 rfl (Nat.le_of_ble_eq_true rfl) dX0_valueBy_201 ⟨Nat.le_of_ble_eq_true rfl, Nat.le_of_ble_eq_true rfl⟩ ?_
            refine lv_aload hx hb dX0_valueBy_204 (lv_at hl 7 rfl) ?_
            refine dV (v := .int ((fun k0_ => σ.calls (6 * c_ + k0_)) 4)) (As := []) (rest := [.long (mV σ 2 (plF σ c_) ((bgF σ x_ m_ c_) + (σ.calls (6 * c_ + 5))) bag (restF set_ c_))]) ⟨hx, hb, hml, hown, hts⟩ (mt_X7_again l D dA (μ.cA c_) (μ.kA c_) (μ.lA c_) (total σ c_) (fun k0_ => σ.calls (6 * c_ + k0_))) (cw_X0_X7_again hts ⟨Nat.le_of_ble_eq_true rfl, Nat.le_of_ble_eq_true rfl⟩) pB_bw (pB_now hK (pl2 (pl1 hP (hR.2.1 c_ hc hTc).1.1 (hR.2.1 c_ hc hTc).1.2) (pl1 hP (hR.2.1 c_ hc hTc).2.1.1 (hR.2.1 c_ hc hTc).2.1.2))) (va_recv hK (pl1 hP (hR.2.1 c_ hc hTc).1.1 (hR.2.1 c_ hc hTc).1.2) (ci := 5) (q0 := 0) rfl rfl) rfl hl.1 rfl (Nat.le_of_ble_eq_true rfl) dX0_valueBy_206 ⟨Nat.le_of_ble_eq_true rfl, Nat.le_of_ble_eq_true rfl⟩ ?_
            refine w_topi (y := σ.calls (6 * c_ + 4)) (rfl) ?_
            refine lv_i2l (v := (σ.calls (6 * c_ + 4) : Int32).toInt64) hx hb dX0_valueBy_209 rfl ?_
            refine lv_lload hx hb dX0_valueBy_210 (lv_at hl 3 rfl) ?_
            refine lv_lmul hx hb dX0_valueBy_212 ?_
            refine lv_lsub hx hb dX0_valueBy_213 ?_
            exact hJ214_5 ((mV σ 2 (plF σ c_) ((bgF σ x_ m_ c_) + (σ.calls (6 * c_ + 5))) bag (restF set_ c_)) - (((σ.calls (6 * c_ + 4) : Int32).toInt64) * (tosF σ (restF set_ c_) 6))) ls (by rw [if_neg h133]) (lv_sub hl [0, 1, 2, 3, 4, 5, 6, 7, 8, 9, 10, 11, 12, 13, 14] rfl)
          · have h133 : ¬ leftF σ bag c_ k = -1 := b01_n h133
            refine lv_aload hx hb dX0_valueBy_136 (lv_at hl 7 rfl) ?_
            refine dV (v := .int ((fun k0_ => σ.calls (6 * c_ + k0_)) 3)) (As := []) (rest := []) ⟨hx, hb, hml, hown, hts⟩ (mt_X7_worth l D dA (μ.cA c_) (μ.kA c_) (μ.lA c_) (total σ c_) (fun k0_ => σ.calls (6 * c_ + k0_))) (cw_X0_X7_worth hts ⟨Nat.le_of_ble_eq_true rfl, Nat.le_of_ble_eq_true rfl⟩) pB_bw (pB_now hK (pl2 (pl1 hP (hR.2.1 c_ hc hTc).1.1 (hR.2.1 c_ hc hTc).1.2) (pl1 hP (hR.2.1 c_ hc hTc).2.1.1 (hR.2.1 c_ hc hTc).2.1.2))) (va_recv hK (pl1 hP (hR.2.1 c_ hc hTc).1.1 (hR.2.1 c_ hc hTc).1.2) (ci := 5) (q0 := 0) rfl rfl) rfl hl.1 rfl (Nat.le_of_ble_eq_true rfl) dX0_valueBy_138 ⟨Nat.le_of_ble_eq_true rfl, Nat.le_of_ble_eq_true rfl⟩ ?_
            refine w_topi (y := σ.calls (6 * c_ + 3)) (rfl) ?_
            refine lv_i2l (v := (σ.calls (6 * c_ + 3) : Int32).toInt64) hx hb dX0_valueBy_141 rfl ?_
            refine lv_lload hx hb dX0_valueBy_142 (lv_at hl 3 rfl) ?_
            refine lv_lmul hx hb dX0_valueBy_144 ?_
            refine lv_aload_n hx hb dX0_valueBy_145 rfl (lv_at hl 8 rfl) ?_
            refine lv_aload hx hb dX0_valueBy_146 (lv_at hl 7 rfl) ?_
            refine dV (v := .int ((fun k0_ => σ.calls (6 * c_ + k0_)) 0)) (As := []) (rest := [.ref x, .long (((σ.calls (6 * c_ + 3) : Int32).toInt64) * (tosF σ (restF set_ c_) 6))]) ⟨hx, hb, hml, hown, hts⟩ (mt_X7_place l D dA (μ.cA c_) (μ.kA c_) (μ.lA c_) (total σ c_) (fun k0_ => σ.calls (6 * c_ + k0_))) (cw_X0_X7_place hts ⟨Nat.le_of_ble_eq_true rfl, Nat.le_of_ble_eq_true rfl⟩) pB_bw (pB_now hK (pl2 (pl1 hP (hR.2.1 c_ hc hTc).1.1 (hR.2.1 c_ hc hTc).1.2) (pl1 hP (hR.2.1 c_ hc hTc).2.1.1 (hR.2.1 c_ hc hTc).2.1.2))) (va_recv hK (pl1 hP (hR.2.1 c_ hc hTc).1.1 (hR.2.1 c_ hc hTc).1.2) (ci := 5) (q0 := 0) rfl rfl) rfl hl.1 rfl (Nat.le_of_ble_eq_true rfl) dX0_valueBy_148 ⟨Nat.le_of_ble_eq_true rfl, Nat.le_of_ble_eq_true rfl⟩ ?_
            refine w_topi (y := nI (plF σ c_)) ((hI.pl2 c_ hc).2) ?_
            refine lv_iload hx hb dX0_valueBy_151 (lv_at hl 4 rfl) ?_
            refine lv_aload hx hb dX0_valueBy_153 (lv_at hl 0 rfl) ?_
            refine va_get (D := D) (ci := 6) (v := .int (σ.sorts (16 * c_ + 4 * k + 1))) (C := RX9) (T := TX9) (N := 4) hx hb hts in_X9 hown hK (pl1 hP ((hR.2.1 c_ hc hTc).2.2.2.2 k (show k < σ.sm c_ by omega)).1 ((hR.2.1 c_ hc hTc).2.2.2.2 k (show k < σ.sm c_ by omega)).2) 0 rfl rfl 3 (by decide) (hts _ q732) (fun _ h9 => h9) rfl dX0_valueBy_155 ?_
            refine lv_iadd hx hb dX0_valueBy_158 ?_
            refine lv_aload hx hb dX0_valueBy_159 (lv_at hl 0 rfl) ?_
            refine lv_iload hx hb dX0_valueBy_161 (lv_at hl 12 rfl) ?_
            refine lv_iload hx hb dX0_valueBy_163 (lv_at hl 14 rfl) ?_
            refine dU (v := .int (lefW bag (σ.sorts (16 * c_ + 4 * k + 2)) (σ.sorts (16 * c_ + 4 * k + 3)) (ptF σ.tools 8))) (As := [.int bag, .int (ptF σ.tools 8)]) (rest := [.int ((bgF σ x_ m_ c_) + (σ.sorts (16 * c_ + 4 * k + 1))), .int (nI (plF σ c_)), .ref x, .long (((σ.calls (6 * c_ + 3) : Int32).toInt64) * (tosF σ (restF set_ c_) 6))]) ⟨hx, hb, hml, hown, hts⟩ (mt_X8_left_S l D dA (μ.sA c_ k) (σ.sorts (16 * c_ + 4 * k + 2)) (σ.sorts (16 * c_ + 4 * k + 3)) (σ.sorts (16 * c_ + 4 * k)) (σ.sorts (16 * c_ + 4 * k + 1)) bag (ptF σ.tools 8)) (cw_X0_X8_left_S_X9 hts ⟨Nat.le_of_ble_eq_true rfl, Nat.le_of_ble_eq_true rfl⟩) pB_bw (pB_now hK (pl1 hP ((hR.2.1 c_ hc hTc).2.2.2.2 k (show k < σ.sm c_ by omega)).1 ((hR.2.1 c_ hc hTc).2.2.2.2 k (show k < σ.sm c_ by omega)).2)) (va_recv hK (pl1 hP ((hR.2.1 c_ hc hTc).2.2.2.2 k (show k < σ.sm c_ by omega)).1 ((hR.2.1 c_ hc hTc).2.2.2.2 k (show k < σ.sm c_ by omega)).2) (ci := 6) (q0 := 0) rfl rfl) rfl hl.1 rfl (Nat.le_of_ble_eq_true rfl) dX0_valueBy_165 ⟨Nat.le_of_ble_eq_true rfl, Nat.le_of_ble_eq_true rfl⟩ ?_
            refine w_topi (y := leftF σ bag c_ k) (lef_eq hI hy hc (by omega) ((met_left hy c_ k).mpr h133)) ?_
            refine lv_iload hx hb dX0_valueBy_168 (lv_at hl 6 rfl) ?_
            refine lv_iload hx hb dX0_valueBy_170 (lv_at hl 14 rfl) ?_
            refine dV (v := .long (mV σ 2 (plF σ c_) ((bgF σ x_ m_ c_) + (σ.sorts (16 * c_ + 4 * k + 1))) (leftF σ bag c_ k) (restF set_ c_))) (As := [.int (nI (plF σ c_)), .int ((bgF σ x_ m_ c_) + (σ.sorts (16 * c_ + 4 * k + 1))), .int (leftF σ bag c_ k), .int (restF set_ c_), .int (ptF σ.tools 8)]) (rest := [.long (((σ.calls (6 * c_ + 3) : Int32).toInt64) * (tosF σ (restF set_ c_) 6))]) ⟨hx, hb, hml, hown, hts⟩ (mt_X0_valueOf_2 l D dA x ad μ σ ω (plF σ c_) ((bgF σ x_ m_ c_) + (σ.sorts (16 * c_ + 4 * k + 1))) (leftF σ bag c_ k) (restF set_ c_) hI hR hJ hpl (left_by hy h133) (rest_N hs hc hh) (rest_U hs hU hc hh)) (cw_X0_X0_valueOf_2 hts ⟨Nat.le_of_ble_eq_true rfl, Nat.le_of_ble_eq_true rfl⟩) cB_bw (cB_now hK hN hP) (va_recv hK hP (ci := 1) (q0 := 0) rfl rfl) rfl hl.1 rfl (Nat.le_of_ble_eq_true rfl) dX0_valueBy_172 ⟨Nat.le_of_ble_eq_true rfl, Nat.le_of_ble_eq_true rfl⟩ ?_
            refine lv_ladd hx hb dX0_valueBy_175 ?_
            refine lv_goto (tgt := 214) hx hb dX0_valueBy_176 rfl ?_
            exact hJ214_5 ((((σ.calls (6 * c_ + 3) : Int32).toInt64) * (tosF σ (restF set_ c_) 6)) + (mV σ 2 (plF σ c_) ((bgF σ x_ m_ c_) + (σ.sorts (16 * c_ + 4 * k + 1))) (leftF σ bag c_ k) (restF set_ c_))) ls (by rw [if_pos h133]) (lv_sub hl [0, 1, 2, 3, 4, 5, 6, 7, 8, 9, 10, 11, 12, 13, 14] rfl)
    exact hL98_1 _ 0 0 0 ls (Nat.lt_succ_self _) (by omega) rfl (by subst_vars; rw [gosS]) (lv_sub hl [0, 1, 2, 3, 4, 5, 6, 7, 8, 9, 10, 11, 12, 13] rfl)
  · have h54 : (bgF σ x_ m_ c_) = (-1) := h54
    have hlt := (bg_late hI hc).mp h54
    refine lv_aload hx hb dX0_valueBy_57 (lv_at hl 4 rfl) ?_
    refine va_get (D := D) (ci := 5) (v := .int (total σ c_)) (C := RX7) (T := TX7) (N := 3) hx hb hts in_X7 hown hK (pl1 hP (hR.2.1 c_ hc hTc).1.1 (hR.2.1 c_ hc hTc).1.2) 0 rfl rfl 2 (by decide) (hts _ q704) (fun _ h9 => h9) rfl dX0_valueBy_59 ?_
    refine lv_i2l (v := (total σ c_ : Int32).toInt64) hx hb dX0_valueBy_62 rfl ?_
    refine lv_aload_n hx hb dX0_valueBy_63 rfl (lv_at hl 5 rfl) ?_
    refine lv_aload hx hb dX0_valueBy_64 (lv_at hl 4 rfl) ?_
    refine dV (v := .int ((fun k0_ => σ.calls (6 * c_ + k0_)) 0)) (As := []) (rest := [.ref x, .long ((total σ c_ : Int32).toInt64)]) ⟨hx, hb, hml, hown, hts⟩ (mt_X7_place l D dA (μ.cA c_) (μ.kA c_) (μ.lA c_) (total σ c_) (fun k0_ => σ.calls (6 * c_ + k0_))) (cw_X0_X7_place hts ⟨Nat.le_of_ble_eq_true rfl, Nat.le_of_ble_eq_true rfl⟩) pB_bw (pB_now hK (pl2 (pl1 hP (hR.2.1 c_ hc hTc).1.1 (hR.2.1 c_ hc hTc).1.2) (pl1 hP (hR.2.1 c_ hc hTc).2.1.1 (hR.2.1 c_ hc hTc).2.1.2))) (va_recv hK (pl1 hP (hR.2.1 c_ hc hTc).1.1 (hR.2.1 c_ hc hTc).1.2) (ci := 5) (q0 := 0) rfl rfl) rfl hl.1 rfl (Nat.le_of_ble_eq_true rfl) dX0_valueBy_66 ⟨Nat.le_of_ble_eq_true rfl, Nat.le_of_ble_eq_true rfl⟩ ?_
    refine w_topi (y := nI (plF σ c_)) ((hI.pl2 c_ hc).2) ?_
    refine lv_iload hx hb dX0_valueBy_69 (lv_at hl 2 rfl) ?_
    refine lv_iload hx hb dX0_valueBy_71 (lv_at hl 9 rfl) ?_
    refine lv_iload hx hb dX0_valueBy_73 (lv_at hl 3 rfl) ?_
    refine lv_iload hx hb dX0_valueBy_75 (lv_at hl 11 rfl) ?_
    refine dV (v := .long (mV σ 2 (plF σ c_) (m_ + (σ.ways (6 * x_ + (plF σ c_)))) bag (restF set_ c_))) (As := [.int (nI (plF σ c_)), .int (m_ + (σ.ways (6 * x_ + (plF σ c_)))), .int bag, .int (restF set_ c_), .int (ptF σ.tools 8)]) (rest := [.long ((total σ c_ : Int32).toInt64)]) ⟨hx, hb, hml, hown, hts⟩ (mt_X0_valueOf_2 l D dA x ad μ σ ω (plF σ c_) (m_ + (σ.ways (6 * x_ + (plF σ c_)))) bag (restF set_ c_) hI hR hJ hpl hy (rest_N hs hc hh) (rest_U hs hU hc hh)) (cw_X0_X0_valueOf_2 hts ⟨Nat.le_of_ble_eq_true rfl, Nat.le_of_ble_eq_true rfl⟩) cB_bw (cB_now hK hN hP) (va_recv hK hP (ci := 1) (q0 := 0) rfl rfl) rfl hl.1 rfl (Nat.le_of_ble_eq_true rfl) dX0_valueBy_77 ⟨Nat.le_of_ble_eq_true rfl, Nat.le_of_ble_eq_true rfl⟩ ?_
    refine lv_aload hx hb dX0_valueBy_80 (lv_at hl 4 rfl) ?_
    refine dV (v := .int ((fun k0_ => σ.calls (6 * c_ + k0_)) 4)) (As := []) (rest := [.long (mV σ 2 (plF σ c_) (m_ + (σ.ways (6 * x_ + (plF σ c_)))) bag (restF set_ c_)), .long ((total σ c_ : Int32).toInt64)]) ⟨hx, hb, hml, hown, hts⟩ (mt_X7_again l D dA (μ.cA c_) (μ.kA c_) (μ.lA c_) (total σ c_) (fun k0_ => σ.calls (6 * c_ + k0_))) (cw_X0_X7_again hts ⟨Nat.le_of_ble_eq_true rfl, Nat.le_of_ble_eq_true rfl⟩) pB_bw (pB_now hK (pl2 (pl1 hP (hR.2.1 c_ hc hTc).1.1 (hR.2.1 c_ hc hTc).1.2) (pl1 hP (hR.2.1 c_ hc hTc).2.1.1 (hR.2.1 c_ hc hTc).2.1.2))) (va_recv hK (pl1 hP (hR.2.1 c_ hc hTc).1.1 (hR.2.1 c_ hc hTc).1.2) (ci := 5) (q0 := 0) rfl rfl) rfl hl.1 rfl (Nat.le_of_ble_eq_true rfl) dX0_valueBy_82 ⟨Nat.le_of_ble_eq_true rfl, Nat.le_of_ble_eq_true rfl⟩ ?_
    refine w_topi (y := σ.calls (6 * c_ + 4)) (rfl) ?_
    refine lv_i2l (v := (σ.calls (6 * c_ + 4) : Int32).toInt64) hx hb dX0_valueBy_85 rfl ?_
    refine lv_lload hx hb dX0_valueBy_86 (lv_at hl 0 rfl) ?_
    refine lv_lmul hx hb dX0_valueBy_88 ?_
    refine lv_lsub hx hb dX0_valueBy_89 ?_
    refine lv_lmul hx hb dX0_valueBy_90 ?_
    exact q_l hQ hx hb hr hlocks rfl (late_eq hI hJ hc hlt) dX0_valueBy_91

theorem cw_X0_X0_valueBy_3 {R : Room} {s : State} {args : Array Value} (hts : ∀ w ∈ lw_all, w.before args s = true) (hR : rmX0_valueBy_3.frames + 1 ≤ R.frames ∧ 8 + (19 + 11) + rmX0_valueBy_3.locals ≤ R.locals) : CallW R s args RX0 RX0 251 yX0_valueBy cX0_valueBy 19 (some .long) (ws_ yX0_valueBy cX0_valueBy 19 (some .long)) rmX0_valueBy_3 0 0 6 := cwV 6 hts (lw_V q1025 q1027 qs31 q77 q1028) rfl rfl rfl (by decide +kernel) hR
def rmX0_valueOf_3 : Room := { frames := 8, cells := 0, slots := 0, locals := 234 }
set_option maxHeartbeats 1000000 in
theorem mt_X0_valueOf_3 (l : Launch) (D : va_G) (dA : Nat → ClassId) (x : Nat) (ad : Nat → Nat) (μ : Lay) (σ : St) (ω : Om) (x_ : Nat) (m_ : Int32) (bag : Int32) (set_ : Int32) (hI : Inv σ) (hR : Rel dA μ σ) (hJ : Inv2 σ) (hx6 : x_ < 6) (hy : byP bag) (hs : setN set_ 3) (hU : setU σ set_) : Met l yX0_valueOf (ws_ yX0_valueOf cX0_valueOf 9 (some .long)) rmX0_valueOf_3 (va_Pc [.ref x, .int (nI x_), .int m_, .int bag, .int set_, .int (ptF σ.tools 8)] (cB D dA x ad μ σ ω)) (roQ (.long (mV σ 3 x_ m_ bag set_))) 0 0 (fun _ => False) := by
  refine w_start (by decide) (Nat.le_of_ble_eq_true rfl) ?_
  intro p e s m args below meth c Q ls hQ hx hb hr hlocks hml hown hnm hts hB hl
  have hown : s.vm.findClass RX0 = some m.cls := hown
  have hl : lv_has ls 9 [(0, .ref x), (1, .int (nI x_)), (2, .int m_), (3, .int bag), (4, .int set_), (5, .int (ptF σ.tools 8))] := hl
  obtain ⟨hP, hK, hN⟩ := hB
  refine lv_lconst (v := 0) hx hb dX0_valueOf_0 rfl ?_
  refine lv_lstore (lv' := [(6, .long 0), (0, .ref x), (1, .int (nI x_)), (2, .int m_), (3, .int bag), (4, .int set_), (5, .int (ptF σ.tools 8))]) hx hb dX0_valueOf_1 hl (by decide) rfl (fun ls hl => ?_)
  refine lv_iconst (v := 0) hx hb dX0_valueOf_3 rfl ?_
  refine lv_istore (lv' := [(8, .int 0), (6, .long 0), (0, .ref x), (1, .int (nI x_)), (2, .int m_), (3, .int bag), (4, .int set_), (5, .int (ptF σ.tools 8))]) hx hb dX0_valueOf_4 hl (by decide) rfl (fun ls hl => ?_)
  have hL6_1 : ∀ (n_2 : Nat) (k : Nat) (x8 : Int32) (x6 : Int64) (ls : Array Slot), (6 - k) < n_2 → (k ≤ 6) → x8 = (nI k) → x6 = (maxG σ (mV σ 2) x_ m_ bag set_ k) → lv_has ls 9 [(8, .int x8), (6, .long x6), (0, .ref x), (1, .int (nI x_)), (2, .int m_), (3, .int bag), (4, .int set_), (5, .int (ptF σ.tools 8))] → W p l e rmX0_valueOf_3 s m args below meth c s.heap [] 0 0 Q (F0 m 6 ls []) := by
    intro n_2
    induction n_2 with
    | zero => intro k x8 x6 ls hm_4; exact absurd hm_4 (Nat.not_lt_zero _)
    | succ n_2 ih_3 =>
      intro k x8 x6 ls hm_4 hk ex8 ex6 hl
      subst ex8 ex6
      refine lv_iload hx hb dX0_valueOf_6 (lv_at hl 0 rfl) ?_
      refine lv_bipush (v := 6) hx hb dX0_valueOf_8 rfl ?_
      refine lv_icmp_ge (tgt := 55) hx hb dX0_valueOf_10 rfl (fun h10 => ?_) (fun h10 => ?_)
      · have h10 : 6 ≤ k := (nz_le (a := 6) (b := k) rfl rfl (by omega) (by omega)).mp h10
        have hk_ : k = 6 := by omega
        subst hk_
        refine lv_lload hx hb dX0_valueOf_55 (lv_at hl 1 rfl) ?_
        exact q_l hQ hx hb hr hlocks rfl (rfl) dX0_valueOf_57
      · have h10 : ¬ (6 ≤ k) := fun z9 => h10 ((nz_le (a := 6) (b := k) rfl rfl (by omega) (by omega)).mpr z9)
        refine lv_iload hx hb dX0_valueOf_13 (lv_at hl 6 rfl) ?_
        refine lv_iload hx hb dX0_valueOf_15 (lv_at hl 0 rfl) ?_
        refine lv_ishr hx hb dX0_valueOf_17 ?_
        refine lv_iconst (v := 1) hx hb dX0_valueOf_18 rfl ?_
        refine lv_iand hx hb dX0_valueOf_19 ?_
        refine lv_iconst (v := 1) hx hb dX0_valueOf_20 rfl ?_
        have hJ47_5 : ∀ (v_6 : Int64) (ls : Array Slot), v_6 = (if ((set_ >>> ((nI k) &&& 31)) &&& 1) = 1 then if (goV σ (mV σ 2) x_ m_ bag set_ k) < (maxG σ (mV σ 2) x_ m_ bag set_ k) then (maxG σ (mV σ 2) x_ m_ bag set_ k) else (goV σ (mV σ 2) x_ m_ bag set_ k) else maxG σ (mV σ 2) x_ m_ bag set_ k) → lv_has ls 9 [(8, .int (nI k)), (6, .long (maxG σ (mV σ 2) x_ m_ bag set_ k)), (0, .ref x), (1, .int (nI x_)), (2, .int m_), (3, .int bag), (4, .int set_), (5, .int (ptF σ.tools 8))] → W p l e rmX0_valueOf_3 s m args below meth c s.heap [] 0 0 Q (F0 m 47 ls [.long v_6]) := by
          intro v_6 ls ev_6 hl
          refine lv_lstore (lv' := [(6, .long v_6), (8, .int (nI k)), (0, .ref x), (1, .int (nI x_)), (2, .int m_), (3, .int bag), (4, .int set_), (5, .int (ptF σ.tools 8))]) hx hb dX0_valueOf_47 hl (by decide) rfl (fun ls hl => ?_)
          refine lv_iinc (v := nI (k + 1)) (lv' := [(8, .int (nI (k + 1))), (6, .long v_6), (0, .ref x), (1, .int (nI x_)), (2, .int m_), (3, .int bag), (4, .int set_), (5, .int (ptF σ.tools 8))]) hx hb dX0_valueOf_49 hl (k := 1) rfl (nI_1 k) (by decide) rfl (fun ls hl => ?_)
          refine lv_goto (tgt := 6) hx hb dX0_valueOf_52 rfl ?_
          exact ih_3 (k + 1) (nI (k + 1)) v_6 ls (by omega) (by omega) rfl (by subst_vars; exact (max_s σ (mV σ 2) x_ m_ bag set_ k).symm) (lv_sub hl [0, 1, 2, 3, 4, 5, 6, 7] rfl)
        refine lv_icmp_ne (tgt := 45) hx hb dX0_valueOf_21 rfl (fun h21 => ?_) (fun h21 => ?_)
        · have h21 : ¬ (((set_ >>> ((nI k) &&& 31)) &&& 1) = 1) := h21
          refine lv_lload hx hb dX0_valueOf_45 (lv_at hl 1 rfl) ?_
          exact hJ47_5 (maxG σ (mV σ 2) x_ m_ bag set_ k) ls (by rw [if_neg h21]) (lv_sub hl [0, 1, 2, 3, 4, 5, 6, 7] rfl)
        · have h21 : ((set_ >>> ((nI k) &&& 31)) &&& 1) = 1 := h21
          refine lv_lload hx hb dX0_valueOf_24 (lv_at hl 1 rfl) ?_
          refine lv_aload_n hx hb dX0_valueOf_26 rfl (lv_at hl 2 rfl) ?_
          refine lv_iload hx hb dX0_valueOf_27 (lv_at hl 0 rfl) ?_
          refine lv_iload_n hx hb dX0_valueOf_29 rfl (lv_at hl 3 rfl) ?_
          refine lv_iload_n hx hb dX0_valueOf_30 rfl (lv_at hl 4 rfl) ?_
          refine lv_iload_n hx hb dX0_valueOf_31 rfl (lv_at hl 5 rfl) ?_
          refine lv_iload hx hb dX0_valueOf_32 (lv_at hl 6 rfl) ?_
          refine lv_iload hx hb dX0_valueOf_34 (lv_at hl 7 rfl) ?_
          refine dV (v := .long (goV σ (mV σ 2) x_ m_ bag set_ k)) (As := [.int (nI k), .int (nI x_), .int m_, .int bag, .int set_, .int (ptF σ.tools 8)]) (rest := [.long (maxG σ (mV σ 2) x_ m_ bag set_ k)]) ⟨hx, hb, hml, hown, hts⟩ (mt_X0_valueBy_3 l D dA x ad μ σ ω k x_ m_ bag set_ hI hR (by omega) (by omega) (by omega) (by omega) hs (by omega) h21) (cw_X0_X0_valueBy_3 hts ⟨Nat.le_of_ble_eq_true rfl, Nat.le_of_ble_eq_true rfl⟩) cB_bw (cB_now hK hN hP) (va_recv hK hP (ci := 1) (q0 := 0) rfl rfl) rfl hl.1 rfl (Nat.le_of_ble_eq_true rfl) dX0_valueOf_36 ⟨Nat.le_of_ble_eq_true rfl, Nat.le_of_ble_eq_true rfl⟩ ?_
          refine va_mmax_long hx hb (hml.trans hl.1.symm) hown (hts _ q1037) (hts _ q1038) (hts _ q90) (hts _ q1039) (Nat.le_of_ble_eq_true rfl) (Nat.le_of_ble_eq_true rfl) (Nat.le_of_ble_eq_true rfl) (Nat.le_of_ble_eq_true rfl) dX0_valueOf_39 ?_
          refine lv_goto (tgt := 47) hx hb dX0_valueOf_42 rfl ?_
          exact hJ47_5 (if (goV σ (mV σ 2) x_ m_ bag set_ k) < (maxG σ (mV σ 2) x_ m_ bag set_ k) then (maxG σ (mV σ 2) x_ m_ bag set_ k) else (goV σ (mV σ 2) x_ m_ bag set_ k)) ls (by rw [if_pos h21]) (lv_sub hl [0, 1, 2, 3, 4, 5, 6, 7] rfl)
  exact hL6_1 _ 0 0 0 ls (Nat.lt_succ_self _) (by omega) rfl (by subst_vars; rw [maxG]) (lv_sub hl [0, 1, 2, 3, 4, 5, 6, 7] rfl)

theorem cw_X0_X0_valueOf_3 {R : Room} {s : State} {args : Array Value} (hts : ∀ w ∈ lw_all, w.before args s = true) (hR : rmX0_valueOf_3.frames + 1 ≤ R.frames ∧ 8 + (9 + 11) + rmX0_valueOf_3.locals ≤ R.locals) : CallW R s args RX0 RX0 268 yX0_valueOf cX0_valueOf 9 (some .long) (ws_ yX0_valueOf cX0_valueOf 9 (some .long)) rmX0_valueOf_3 0 0 5 := cwV 5 hts (lw_V q1021 q1023 qs30 q77 q1024) rfl rfl rfl (by decide +kernel) hR
def rmX0_valueBy_4 : Room := { frames := 9, cells := 0, slots := 0, locals := 262 }
set_option maxHeartbeats 1000000 in
theorem mt_X0_valueBy_4 (l : Launch) (D : va_G) (dA : Nat → ClassId) (x : Nat) (ad : Nat → Nat) (μ : Lay) (σ : St) (ω : Om) (c_ : Nat) (x_ : Nat) (m_ : Int32) (bag : Int32) (set_ : Int32) (hI : Inv σ) (hR : Rel dA μ σ) (hJ : Inv2 σ) (hc : c_ < 6) (hx6 : x_ < 6) (hy : byP bag) (hs : setN set_ 4) (hU : setU σ set_) (hh : hasP set_ (nI c_)) : Met l yX0_valueBy (ws_ yX0_valueBy cX0_valueBy 19 (some .long)) rmX0_valueBy_4 (va_Pc [.ref x, .int (nI c_), .int (nI x_), .int m_, .int bag, .int set_, .int (ptF σ.tools 8)] (cB D dA x ad μ σ ω)) (roQ (.long (goV σ (mV σ 3) x_ m_ bag set_ c_))) 0 0 (fun _ => False) := by
  refine w_start (by decide) (Nat.le_of_ble_eq_true rfl) ?_
  intro p e s m args below meth c Q ls hQ hx hb hr hlocks hml hown hnm hts hB hl
  have hown : s.vm.findClass RX0 = some m.cls := hown
  have hl : lv_has ls 19 [(0, .ref x), (1, .int (nI c_)), (2, .int (nI x_)), (3, .int m_), (4, .int bag), (5, .int set_), (6, .int (ptF σ.tools 8))] := hl
  obtain ⟨hP, hK, hN⟩ := hB
  obtain ⟨hTc, hs0⟩ := hU c_ hc hh
  have hsm := hI.sm c_ hc
  have hpl := (hI.pl2 c_ hc).1
  refine lv_aload_n hx hb dX0_valueBy_0 rfl (lv_at hl 0 rfl) ?_
  refine va_get (D := D) (ci := 1) (v := .ref (ad 2)) (C := RX0) (T := TX0) (N := 11) hx hb hts in_X0 hown hK hP 0 rfl rfl 5 (by decide) (hts _ q218) (fun _ h9 => h9) rfl dX0_valueBy_1 ?_
  refine lv_iload_n hx hb dX0_valueBy_4 rfl (lv_at hl 1 rfl) ?_
  refine wa_aald (v := .ref (μ.cA c_)) hx hb hK hP 3 5 rfl rfl rfl (c_) (rfl) (by omega) (by decide) (cO_t hTc) dX0_valueBy_5 ?_
  refine lv_astore (lv' := [(7, .ref (μ.cA c_)), (0, .ref x), (1, .int (nI c_)), (2, .int (nI x_)), (3, .int m_), (4, .int bag), (5, .int set_), (6, .int (ptF σ.tools 8))]) hx hb dX0_valueBy_6 hl (by decide) rfl (fun ls hl => ?_)
  refine lv_iload hx hb dX0_valueBy_8 (lv_at hl 6 rfl) ?_
  refine lv_iconst (v := 1) hx hb dX0_valueBy_10 rfl ?_
  refine lv_iload_n hx hb dX0_valueBy_11 rfl (lv_at hl 2 rfl) ?_
  refine lv_ishl hx hb dX0_valueBy_12 ?_
  refine lv_iconst (v := (-1)) hx hb dX0_valueBy_13 rfl ?_
  refine lv_ixor hx hb dX0_valueBy_14 ?_
  refine lv_iand hx hb dX0_valueBy_15 ?_
  refine w_topi (y := restF set_ c_) (rfl) ?_
  refine lv_istore (lv' := [(8, .int (restF set_ c_)), (7, .ref (μ.cA c_)), (0, .ref x), (1, .int (nI c_)), (2, .int (nI x_)), (3, .int m_), (4, .int bag), (5, .int set_), (6, .int (ptF σ.tools 8))]) hx hb dX0_valueBy_16 hl (by decide) rfl (fun ls hl => ?_)
  refine lv_iload_n hx hb dX0_valueBy_18 rfl (lv_at hl 5 rfl) ?_
  refine lv_aload_n hx hb dX0_valueBy_19 rfl (lv_at hl 2 rfl) ?_
  refine va_get (D := D) (ci := 1) (v := .ref (ad 1)) (C := RX0) (T := TX0) (N := 11) hx hb hts in_X0 hown hK hP 0 rfl rfl 4 (by decide) (hts _ q216) (fun _ h9 => h9) rfl dX0_valueBy_20 ?_
  refine lv_iload_n hx hb dX0_valueBy_23 rfl (lv_at hl 4 rfl) ?_
  refine wa_aald (v := .ref (ad (6 + x_))) hx hb hK hP 2 4 rfl rfl rfl (x_) (rfl) (by omega) (by decide) (rfl) dX0_valueBy_24 ?_
  refine lv_aload hx hb dX0_valueBy_25 (lv_at hl 1 rfl) ?_
  refine dV (v := .int ((fun k0_ => σ.calls (6 * c_ + k0_)) 0)) (As := []) (rest := [.ref (ad (6 + x_)), .int m_]) ⟨hx, hb, hml, hown, hts⟩ (mt_X7_place l D dA (μ.cA c_) (μ.kA c_) (μ.lA c_) (total σ c_) (fun k0_ => σ.calls (6 * c_ + k0_))) (cw_X0_X7_place hts ⟨Nat.le_of_ble_eq_true rfl, Nat.le_of_ble_eq_true rfl⟩) pB_bw (pB_now hK (pl2 (pl1 hP (hR.2.1 c_ hc hTc).1.1 (hR.2.1 c_ hc hTc).1.2) (pl1 hP (hR.2.1 c_ hc hTc).2.1.1 (hR.2.1 c_ hc hTc).2.1.2))) (va_recv hK (pl1 hP (hR.2.1 c_ hc hTc).1.1 (hR.2.1 c_ hc hTc).1.2) (ci := 5) (q0 := 0) rfl rfl) rfl hl.1 rfl (Nat.le_of_ble_eq_true rfl) dX0_valueBy_27 ⟨Nat.le_of_ble_eq_true rfl, Nat.le_of_ble_eq_true rfl⟩ ?_
  refine w_topi (y := nI (plF σ c_)) ((hI.pl2 c_ hc).2) ?_
  refine wa_sald (v := σ.ways (6 * x_ + (plF σ c_))) hx hb hK (way_row hP (i := x_) (by omega)) 0 2 rfl rfl (plF σ c_) (rfl) (by omega) (by decide) (rfl) dX0_valueBy_30 ?_
  refine lv_iadd hx hb dX0_valueBy_31 ?_
  refine lv_istore (lv' := [(9, .int (m_ + (σ.ways (6 * x_ + (plF σ c_))))), (8, .int (restF set_ c_)), (7, .ref (μ.cA c_)), (0, .ref x), (1, .int (nI c_)), (2, .int (nI x_)), (3, .int m_), (4, .int bag), (5, .int set_), (6, .int (ptF σ.tools 8))]) hx hb dX0_valueBy_32 hl (by decide) rfl (fun ls hl => ?_)
  refine lv_aload hx hb dX0_valueBy_34 (lv_at hl 2 rfl) ?_
  refine lv_iload hx hb dX0_valueBy_36 (lv_at hl 0 rfl) ?_
  refine dV (v := .int (begW (fun k0_ => σ.calls (6 * c_ + k0_)) (m_ + (σ.ways (6 * x_ + (plF σ c_)))))) (As := [.int (m_ + (σ.ways (6 * x_ + (plF σ c_))))]) (rest := []) ⟨hx, hb, hml, hown, hts⟩ (mt_X7_begins l D dA (μ.cA c_) (μ.kA c_) (μ.lA c_) (total σ c_) (fun k0_ => σ.calls (6 * c_ + k0_)) (m_ + (σ.ways (6 * x_ + (plF σ c_))))) (cw_X0_X7_begins hts ⟨Nat.le_of_ble_eq_true rfl, Nat.le_of_ble_eq_true rfl⟩) pB_bw (pB_now hK (pl2 (pl1 hP (hR.2.1 c_ hc hTc).1.1 (hR.2.1 c_ hc hTc).1.2) (pl1 hP (hR.2.1 c_ hc hTc).2.1.1 (hR.2.1 c_ hc hTc).2.1.2))) (va_recv hK (pl1 hP (hR.2.1 c_ hc hTc).1.1 (hR.2.1 c_ hc hTc).1.2) (ci := 5) (q0 := 0) rfl rfl) rfl hl.1 rfl (Nat.le_of_ble_eq_true rfl) dX0_valueBy_38 ⟨Nat.le_of_ble_eq_true rfl, Nat.le_of_ble_eq_true rfl⟩ ?_
  refine w_topi (y := bgF σ x_ m_ c_) (beg_eq hI hc m_) ?_
  refine lv_istore (lv' := [(10, .int (bgF σ x_ m_ c_)), (9, .int (m_ + (σ.ways (6 * x_ + (plF σ c_))))), (8, .int (restF set_ c_)), (7, .ref (μ.cA c_)), (0, .ref x), (1, .int (nI c_)), (2, .int (nI x_)), (3, .int m_), (4, .int bag), (5, .int set_), (6, .int (ptF σ.tools 8))]) hx hb dX0_valueBy_41 hl (by decide) rfl (fun ls hl => ?_)
  refine lv_aload_n hx hb dX0_valueBy_43 rfl (lv_at hl 4 rfl) ?_
  refine lv_iload hx hb dX0_valueBy_44 (lv_at hl 2 rfl) ?_
  refine dV (v := .long (tosF σ (restF set_ c_) 6)) (As := [.int (restF set_ c_)]) (rest := []) ⟨hx, hb, hml, hown, hts⟩ (mt_X0_productOf l D dA x ad μ σ ω (restF set_ c_) hI hR (rest_U hs hU hc hh)) (cw_X0_X0_productOf hts ⟨Nat.le_of_ble_eq_true rfl, Nat.le_of_ble_eq_true rfl⟩) cB_bw (cB_now hK hN hP) (va_recv hK hP (ci := 1) (q0 := 0) rfl rfl) rfl hl.1 rfl (Nat.le_of_ble_eq_true rfl) dX0_valueBy_46 ⟨Nat.le_of_ble_eq_true rfl, Nat.le_of_ble_eq_true rfl⟩ ?_
  refine lv_lstore (lv' := [(11, .long (tosF σ (restF set_ c_) 6)), (10, .int (bgF σ x_ m_ c_)), (9, .int (m_ + (σ.ways (6 * x_ + (plF σ c_))))), (8, .int (restF set_ c_)), (7, .ref (μ.cA c_)), (0, .ref x), (1, .int (nI c_)), (2, .int (nI x_)), (3, .int m_), (4, .int bag), (5, .int set_), (6, .int (ptF σ.tools 8))]) hx hb dX0_valueBy_49 hl (by decide) rfl (fun ls hl => ?_)
  refine lv_iload hx hb dX0_valueBy_51 (lv_at hl 1 rfl) ?_
  refine lv_iconst (v := (-1)) hx hb dX0_valueBy_53 rfl ?_
  refine lv_icmp_ne (tgt := 92) hx hb dX0_valueBy_54 rfl (fun h54 => ?_) (fun h54 => ?_)
  · have h54 : ¬ ((bgF σ x_ m_ c_) = (-1)) := h54
    obtain ⟨hnl, hbg⟩ := bg_n hI hc h54
    refine lv_lconst (v := 0) hx hb dX0_valueBy_92 rfl ?_
    refine lv_lstore (lv' := [(13, .long 0), (11, .long (tosF σ (restF set_ c_) 6)), (10, .int (bgF σ x_ m_ c_)), (9, .int (m_ + (σ.ways (6 * x_ + (plF σ c_))))), (8, .int (restF set_ c_)), (7, .ref (μ.cA c_)), (0, .ref x), (1, .int (nI c_)), (2, .int (nI x_)), (3, .int m_), (4, .int bag), (5, .int set_), (6, .int (ptF σ.tools 8))]) hx hb dX0_valueBy_93 hl (by decide) rfl (fun ls hl => ?_)
    refine lv_iconst (v := 0) hx hb dX0_valueBy_95 rfl ?_
    refine lv_istore (lv' := [(15, .int 0), (13, .long 0), (11, .long (tosF σ (restF set_ c_) 6)), (10, .int (bgF σ x_ m_ c_)), (9, .int (m_ + (σ.ways (6 * x_ + (plF σ c_))))), (8, .int (restF set_ c_)), (7, .ref (μ.cA c_)), (0, .ref x), (1, .int (nI c_)), (2, .int (nI x_)), (3, .int m_), (4, .int bag), (5, .int set_), (6, .int (ptF σ.tools 8))]) hx hb dX0_valueBy_96 hl (by decide) rfl (fun ls hl => ?_)
    have hL98_1 : ∀ (n_2 : Nat) (k : Nat) (x15 : Int32) (x13 : Int64) (ls : Array Slot), (4 - k) < n_2 → (k ≤ σ.sm c_) → x15 = (nI k) → x13 = (gosS σ (mV σ 3) (arrF σ x_ m_ c_) bag (restF set_ c_) (tosF σ (restF set_ c_) 6) c_ k) → lv_has ls 19 [(15, .int x15), (13, .long x13), (11, .long (tosF σ (restF set_ c_) 6)), (10, .int (bgF σ x_ m_ c_)), (9, .int (m_ + (σ.ways (6 * x_ + (plF σ c_))))), (8, .int (restF set_ c_)), (7, .ref (μ.cA c_)), (0, .ref x), (1, .int (nI c_)), (2, .int (nI x_)), (3, .int m_), (4, .int bag), (5, .int set_), (6, .int (ptF σ.tools 8))] → W p l e rmX0_valueBy_4 s m args below meth c s.heap [] 0 0 Q (F0 m 98 ls []) := by
      intro n_2
      induction n_2 with
      | zero => intro k x15 x13 ls hm_4; exact absurd hm_4 (Nat.not_lt_zero _)
      | succ n_2 ih_3 =>
        intro k x15 x13 ls hm_4 hk ex15 ex13 hl
        subst ex15 ex13
        refine lv_iload hx hb dX0_valueBy_98 (lv_at hl 0 rfl) ?_
        refine lv_aload hx hb dX0_valueBy_100 (lv_at hl 6 rfl) ?_
        refine va_get (D := D) (ci := 5) (v := .ref (μ.lA c_)) (C := RX7) (T := TX7) (N := 3) hx hb hts in_X7 hown hK (pl1 hP (hR.2.1 c_ hc hTc).1.1 (hR.2.1 c_ hc hTc).1.2) 0 rfl rfl 1 (by decide) (hts _ q701) (fun _ h9 => h9) rfl dX0_valueBy_102 ?_
        refine dV (v := .int (nI (σ.sm c_))) (As := []) (rest := [.int (nI k)]) ⟨hx, hb, hml, hown, hts⟩ (mt_J2_size l D dA (μ.lA c_) (μ.eA c_) (μ.mA c_) (σ.sm c_)) (cw_X0_J2_size hts ⟨Nat.le_of_ble_eq_true rfl, Nat.le_of_ble_eq_true rfl⟩) pB_bw (pB_now hK (pl1 hP (hR.2.1 c_ hc hTc).2.2.1.1 (hR.2.1 c_ hc hTc).2.2.1.2)) (va_recv hK (pl1 hP (hR.2.1 c_ hc hTc).2.2.1.1 (hR.2.1 c_ hc hTc).2.2.1.2) (ci := 8) (q0 := 0) rfl rfl) rfl hl.1 rfl (Nat.le_of_ble_eq_true rfl) dX0_valueBy_105 ⟨Nat.le_of_ble_eq_true rfl, Nat.le_of_ble_eq_true rfl⟩ ?_
        refine lv_icmp_ge (tgt := 236) hx hb dX0_valueBy_108 rfl (fun h108 => ?_) (fun h108 => ?_)
        · have h108 : (σ.sm c_) ≤ k := (nz_le (a := (σ.sm c_)) (b := k) rfl rfl (by omega) (by omega)).mp h108
          have hk_ : k = σ.sm c_ := by omega
          subst hk_
          refine lv_lload hx hb dX0_valueBy_236 (lv_at hl 1 rfl) ?_
          exact q_l hQ hx hb hr hlocks rfl (by unfold goV; rw [if_neg hnl]) dX0_valueBy_238
        · have h108 : ¬ ((σ.sm c_) ≤ k) := fun z9 => h108 ((nz_le (a := (σ.sm c_)) (b := k) rfl rfl (by omega) (by omega)).mpr z9)
          refine lv_aload hx hb dX0_valueBy_111 (lv_at hl 6 rfl) ?_
          refine va_get (D := D) (ci := 5) (v := .ref (μ.lA c_)) (C := RX7) (T := TX7) (N := 3) hx hb hts in_X7 hown hK (pl1 hP (hR.2.1 c_ hc hTc).1.1 (hR.2.1 c_ hc hTc).1.2) 0 rfl rfl 1 (by decide) (hts _ q701) (fun _ h9 => h9) rfl dX0_valueBy_113 ?_
          refine lv_iload hx hb dX0_valueBy_116 (lv_at hl 0 rfl) ?_
          refine g_sort (rest := []) ⟨hx, hb, hml, hown, hts⟩ (cw_X0_J2_get hts ⟨Nat.le_of_ble_eq_true rfl, Nat.le_of_ble_eq_true rfl⟩) hK hP (hR.2.1 c_ hc hTc) (hI.sm c_ hc) (show k < σ.sm c_ by omega) hl.1 rfl (Nat.le_of_ble_eq_true rfl) dX0_valueBy_118 ⟨Nat.le_of_ble_eq_true rfl, Nat.le_of_ble_eq_true rfl⟩ ?_
          refine va_castS hx hb hown (hts _ q717) (hK.1 6 _ rfl).2 (va_recv hK (pl1 hP ((hR.2.1 c_ hc hTc).2.2.2.2 k (show k < σ.sm c_ by omega)).1 ((hR.2.1 c_ hc hTc).2.2.2.2 k (show k < σ.sm c_ by omega)).2) (ci := 6) (q0 := 0) rfl rfl) dX0_valueBy_121 ?_
          refine lv_astore (lv' := [(16, .ref (μ.sA c_ k)), (15, .int (nI k)), (13, .long (gosS σ (mV σ 3) (arrF σ x_ m_ c_) bag (restF set_ c_) (tosF σ (restF set_ c_) 6) c_ k)), (11, .long (tosF σ (restF set_ c_) 6)), (10, .int (bgF σ x_ m_ c_)), (9, .int (m_ + (σ.ways (6 * x_ + (plF σ c_))))), (8, .int (restF set_ c_)), (7, .ref (μ.cA c_)), (0, .ref x), (1, .int (nI c_)), (2, .int (nI x_)), (3, .int m_), (4, .int bag), (5, .int set_), (6, .int (ptF σ.tools 8))]) hx hb dX0_valueBy_124 hl (by decide) rfl (fun ls hl => ?_)
          refine lv_aload hx hb dX0_valueBy_126 (lv_at hl 0 rfl) ?_
          refine lv_iload hx hb dX0_valueBy_128 (lv_at hl 12 rfl) ?_
          refine dU (v := .int (b01 (metP bag (σ.sorts (16 * c_ + 4 * k + 2)) (σ.sorts (16 * c_ + 4 * k + 3))))) (As := [.int bag]) (rest := []) ⟨hx, hb, hml, hown, hts⟩ (mt_X8_isMet_S l D dA (μ.sA c_ k) (σ.sorts (16 * c_ + 4 * k + 2)) (σ.sorts (16 * c_ + 4 * k + 3)) (σ.sorts (16 * c_ + 4 * k)) (σ.sorts (16 * c_ + 4 * k + 1)) bag) (cw_X0_X8_isMet_S_X9 hts ⟨Nat.le_of_ble_eq_true rfl, Nat.le_of_ble_eq_true rfl⟩) pB_bw (pB_now hK (pl1 hP ((hR.2.1 c_ hc hTc).2.2.2.2 k (show k < σ.sm c_ by omega)).1 ((hR.2.1 c_ hc hTc).2.2.2.2 k (show k < σ.sm c_ by omega)).2)) (va_recv hK (pl1 hP ((hR.2.1 c_ hc hTc).2.2.2.2 k (show k < σ.sm c_ by omega)).1 ((hR.2.1 c_ hc hTc).2.2.2.2 k (show k < σ.sm c_ by omega)).2) (ci := 6) (q0 := 0) rfl rfl) rfl hl.1 rfl (Nat.le_of_ble_eq_true rfl) dX0_valueBy_130 ⟨Nat.le_of_ble_eq_true rfl, Nat.le_of_ble_eq_true rfl⟩ ?_
          refine w_topi (y := b01 (¬ leftF σ bag c_ k = -1)) (b01_iff (met_left hy c_ k)) ?_
          have hJ214_5 : ∀ (v_6 : Int64) (ls : Array Slot), v_6 = (if ¬ leftF σ bag c_ k = -1 then (((σ.calls (6 * c_ + 3) : Int32).toInt64) * (tosF σ (restF set_ c_) 6)) + (mV σ 3 (plF σ c_) ((bgF σ x_ m_ c_) + (σ.sorts (16 * c_ + 4 * k + 1))) (leftF σ bag c_ k) (restF set_ c_)) else (mV σ 3 (plF σ c_) ((bgF σ x_ m_ c_) + (σ.calls (6 * c_ + 5))) bag (restF set_ c_)) - (((σ.calls (6 * c_ + 4) : Int32).toInt64) * (tosF σ (restF set_ c_) 6))) → lv_has ls 19 [(16, .ref (μ.sA c_ k)), (15, .int (nI k)), (13, .long (gosS σ (mV σ 3) (arrF σ x_ m_ c_) bag (restF set_ c_) (tosF σ (restF set_ c_) 6) c_ k)), (11, .long (tosF σ (restF set_ c_) 6)), (10, .int (bgF σ x_ m_ c_)), (9, .int (m_ + (σ.ways (6 * x_ + (plF σ c_))))), (8, .int (restF set_ c_)), (7, .ref (μ.cA c_)), (0, .ref x), (1, .int (nI c_)), (2, .int (nI x_)), (3, .int m_), (4, .int bag), (5, .int set_), (6, .int (ptF σ.tools 8))] → W p l e rmX0_valueBy_4 s m args below meth c s.heap [] 0 0 Q (F0 m 214 ls [.long v_6]) := by
            intro v_6 ls ev_6 hl
            refine lv_lstore (lv' := [(17, .long v_6), (16, .ref (μ.sA c_ k)), (15, .int (nI k)), (13, .long (gosS σ (mV σ 3) (arrF σ x_ m_ c_) bag (restF set_ c_) (tosF σ (restF set_ c_) 6) c_ k)), (11, .long (tosF σ (restF set_ c_) 6)), (10, .int (bgF σ x_ m_ c_)), (9, .int (m_ + (σ.ways (6 * x_ + (plF σ c_))))), (8, .int (restF set_ c_)), (7, .ref (μ.cA c_)), (0, .ref x), (1, .int (nI c_)), (2, .int (nI x_)), (3, .int m_), (4, .int bag), (5, .int set_), (6, .int (ptF σ.tools 8))]) hx hb dX0_valueBy_214 hl (by decide) rfl (fun ls hl => ?_)
            refine lv_lload hx hb dX0_valueBy_216 (lv_at hl 3 rfl) ?_
            refine lv_aload hx hb dX0_valueBy_218 (lv_at hl 1 rfl) ?_
            refine va_get (D := D) (ci := 6) (v := .int (σ.sorts (16 * c_ + 4 * k))) (C := RX9) (T := TX9) (N := 4) hx hb hts in_X9 hown hK (pl1 hP ((hR.2.1 c_ hc hTc).2.2.2.2 k (show k < σ.sm c_ by omega)).1 ((hR.2.1 c_ hc hTc).2.2.2.2 k (show k < σ.sm c_ by omega)).2) 0 rfl rfl 2 (by decide) (hts _ q729) (fun _ h9 => h9) rfl dX0_valueBy_220 ?_
            refine lv_i2l (v := (σ.sorts (16 * c_ + 4 * k) : Int32).toInt64) hx hb dX0_valueBy_223 rfl ?_
            refine lv_lload hx hb dX0_valueBy_224 (lv_at hl 0 rfl) ?_
            refine lv_lmul hx hb dX0_valueBy_226 ?_
            refine lv_ladd hx hb dX0_valueBy_227 ?_
            refine lv_lstore (lv' := [(13, .long ((gosS σ (mV σ 3) (arrF σ x_ m_ c_) bag (restF set_ c_) (tosF σ (restF set_ c_) 6) c_ k) + (((σ.sorts (16 * c_ + 4 * k) : Int32).toInt64) * v_6))), (17, .long v_6), (16, .ref (μ.sA c_ k)), (15, .int (nI k)), (11, .long (tosF σ (restF set_ c_) 6)), (10, .int (bgF σ x_ m_ c_)), (9, .int (m_ + (σ.ways (6 * x_ + (plF σ c_))))), (8, .int (restF set_ c_)), (7, .ref (μ.cA c_)), (0, .ref x), (1, .int (nI c_)), (2, .int (nI x_)), (3, .int m_), (4, .int bag), (5, .int set_), (6, .int (ptF σ.tools 8))]) hx hb dX0_valueBy_228 hl (by decide) rfl (fun ls hl => ?_)
            refine lv_iinc (v := nI (k + 1)) (lv' := [(15, .int (nI (k + 1))), (13, .long ((gosS σ (mV σ 3) (arrF σ x_ m_ c_) bag (restF set_ c_) (tosF σ (restF set_ c_) 6) c_ k) + (((σ.sorts (16 * c_ + 4 * k) : Int32).toInt64) * v_6))), (17, .long v_6), (16, .ref (μ.sA c_ k)), (11, .long (tosF σ (restF set_ c_) 6)), (10, .int (bgF σ x_ m_ c_)), (9, .int (m_ + (σ.ways (6 * x_ + (plF σ c_))))), (8, .int (restF set_ c_)), (7, .ref (μ.cA c_)), (0, .ref x), (1, .int (nI c_)), (2, .int (nI x_)), (3, .int m_), (4, .int bag), (5, .int set_), (6, .int (ptF σ.tools 8))]) hx hb dX0_valueBy_230 hl (k := 3) rfl (nI_1 k) (by decide) rfl (fun ls hl => ?_)
            refine lv_goto (tgt := 98) hx hb dX0_valueBy_233 rfl ?_
            exact ih_3 (k + 1) (nI (k + 1)) ((gosS σ (mV σ 3) (arrF σ x_ m_ c_) bag (restF set_ c_) (tosF σ (restF set_ c_) 6) c_ k) + (((σ.sorts (16 * c_ + 4 * k) : Int32).toInt64) * v_6)) ls (by omega) (by omega) rfl (by subst_vars; rw [gos_s hJ hc, hbg]) (lv_sub hl [0, 1, 4, 5, 6, 7, 8, 9, 10, 11, 12, 13, 14, 15] rfl)
          refine lv_if_eq (tgt := 179) hx hb dX0_valueBy_133 rfl (fun h133 => ?_) (fun h133 => ?_)
          · have h133 : ¬ (¬ leftF σ bag c_ k = -1) := b01_0.mp h133
            refine lv_aload_n hx hb dX0_valueBy_179 rfl (lv_at hl 8 rfl) ?_
            refine lv_aload hx hb dX0_valueBy_180 (lv_at hl 7 rfl) ?_
            refine dV (v := .int ((fun k0_ => σ.calls (6 * c_ + k0_)) 0)) (As := []) (rest := [.ref x]) ⟨hx, hb, hml, hown, hts⟩ (mt_X7_place l D dA (μ.cA c_) (μ.kA c_) (μ.lA c_) (total σ c_) (fun k0_ => σ.calls (6 * c_ + k0_))) (cw_X0_X7_place hts ⟨Nat.le_of_ble_eq_true rfl, Nat.le_of_ble_eq_true rfl⟩) pB_bw (pB_now hK (pl2 (pl1 hP (hR.2.1 c_ hc hTc).1.1 (hR.2.1 c_ hc hTc).1.2) (pl1 hP (hR.2.1 c_ hc hTc).2.1.1 (hR.2.1 c_ hc hTc).2.1.2))) (va_recv hK (pl1 hP (hR.2.1 c_ hc hTc).1.1 (hR.2.1 c_ hc hTc).1.2) (ci := 5) (q0 := 0) rfl rfl) rfl hl.1 rfl (Nat.le_of_ble_eq_true rfl) dX0_valueBy_182 ⟨Nat.le_of_ble_eq_true rfl, Nat.le_of_ble_eq_true rfl⟩ ?_
            refine w_topi (y := nI (plF σ c_)) ((hI.pl2 c_ hc).2) ?_
            refine lv_iload hx hb dX0_valueBy_185 (lv_at hl 4 rfl) ?_
            refine lv_aload hx hb dX0_valueBy_187 (lv_at hl 7 rfl) ?_
            refine va_get (D := D) (ci := 5) (v := .ref (μ.kA c_)) (C := RX7) (T := TX7) (N := 3) hx hb hts in_X7 hown hK (pl1 hP (hR.2.1 c_ hc hTc).1.1 (hR.2.1 c_ hc hTc).1.2) 0 rfl rfl 0 (by decide) (hts _ q698) (fun _ h9 => h9) rfl dX0_valueBy_189 ?_
            refine lv_iconst (v := 5) hx hb dX0_valueBy_192 rfl ?_
            refine wa_iald1 (v := σ.calls (6 * c_ + 5)) hx hb hK (pl1 hP (hR.2.1 c_ hc hTc).2.1.1 (hR.2.1 c_ hc hTc).2.1.2) 0 0 rfl rfl (5) (rfl) (by omega) (by decide) (rfl) dX0_valueBy_193 ?_
            refine lv_iadd hx hb dX0_valueBy_194 ?_
            refine lv_iload hx hb dX0_valueBy_195 (lv_at hl 12 rfl) ?_
            refine lv_iload hx hb dX0_valueBy_197 (lv_at hl 6 rfl) ?_
            refine lv_iload hx hb dX0_valueBy_199 (lv_at hl 14 rfl) ?_
            refine dV (v := .long (mV σ 3 (plF σ c_) ((bgF σ x_ m_ c_) + (σ.calls (6 * c_ + 5))) bag (restF set_ c_))) (As := [.int (nI (plF σ c_)), .int ((bgF σ x_ m_ c_) + (σ.calls (6 * c_ + 5))), .int bag, .int (restF set_ c_), .int (ptF σ.tools 8)]) (rest := []) ⟨hx, hb, hml, hown, hts⟩ (mt_X0_valueOf_3 l D dA x ad μ σ ω (plF σ c_) ((bgF σ x_ m_ c_) + (σ.calls (6 * c_ + 5))) bag (restF set_ c_) hI hR hJ hpl hy (rest_N hs hc hh) (rest_U hs hU hc hh)) (cw_X0_X0_valueOf_3 hts ⟨Nat.le_of_ble_eq_true rfl, Nat.le_of_ble_eq_true rfl⟩) cB_bw (cB_now hK hN hP) (va_recv hK hP (ci := 1) (q0 := 0) rfl rfl) rfl hl.1 rfl (Nat.le_of_ble_eq_true rfl) dX0_valueBy_201 ⟨Nat.le_of_ble_eq_true rfl, Nat.le_of_ble_eq_true rfl⟩ ?_
            refine lv_aload hx hb dX0_valueBy_204 (lv_at hl 7 rfl) ?_
            refine dV (v := .int ((fun k0_ => σ.calls (6 * c_ + k0_)) 4)) (As := []) (rest := [.long (mV σ 3 (plF σ c_) ((bgF σ x_ m_ c_) + (σ.calls (6 * c_ + 5))) bag (restF set_ c_))]) ⟨hx, hb, hml, hown, hts⟩ (mt_X7_again l D dA (μ.cA c_) (μ.kA c_) (μ.lA c_) (total σ c_) (fun k0_ => σ.calls (6 * c_ + k0_))) (cw_X0_X7_again hts ⟨Nat.le_of_ble_eq_true rfl, Nat.le_of_ble_eq_true rfl⟩) pB_bw (pB_now hK (pl2 (pl1 hP (hR.2.1 c_ hc hTc).1.1 (hR.2.1 c_ hc hTc).1.2) (pl1 hP (hR.2.1 c_ hc hTc).2.1.1 (hR.2.1 c_ hc hTc).2.1.2))) (va_recv hK (pl1 hP (hR.2.1 c_ hc hTc).1.1 (hR.2.1 c_ hc hTc).1.2) (ci := 5) (q0 := 0) rfl rfl) rfl hl.1 rfl (Nat.le_of_ble_eq_true rfl) dX0_valueBy_206 ⟨Nat.le_of_ble_eq_true rfl, Nat.le_of_ble_eq_true rfl⟩ ?_
            refine w_topi (y := σ.calls (6 * c_ + 4)) (rfl) ?_
            refine lv_i2l (v := (σ.calls (6 * c_ + 4) : Int32).toInt64) hx hb dX0_valueBy_209 rfl ?_
            refine lv_lload hx hb dX0_valueBy_210 (lv_at hl 3 rfl) ?_
            refine lv_lmul hx hb dX0_valueBy_212 ?_
            refine lv_lsub hx hb dX0_valueBy_213 ?_
            exact hJ214_5 ((mV σ 3 (plF σ c_) ((bgF σ x_ m_ c_) + (σ.calls (6 * c_ + 5))) bag (restF set_ c_)) - (((σ.calls (6 * c_ + 4) : Int32).toInt64) * (tosF σ (restF set_ c_) 6))) ls (by rw [if_neg h133]) (lv_sub hl [0, 1, 2, 3, 4, 5, 6, 7, 8, 9, 10, 11, 12, 13, 14] rfl)
          · have h133 : ¬ leftF σ bag c_ k = -1 := b01_n h133
            refine lv_aload hx hb dX0_valueBy_136 (lv_at hl 7 rfl) ?_
            refine dV (v := .int ((fun k0_ => σ.calls (6 * c_ + k0_)) 3)) (As := []) (rest := []) ⟨hx, hb, hml, hown, hts⟩ (mt_X7_worth l D dA (μ.cA c_) (μ.kA c_) (μ.lA c_) (total σ c_) (fun k0_ => σ.calls (6 * c_ + k0_))) (cw_X0_X7_worth hts ⟨Nat.le_of_ble_eq_true rfl, Nat.le_of_ble_eq_true rfl⟩) pB_bw (pB_now hK (pl2 (pl1 hP (hR.2.1 c_ hc hTc).1.1 (hR.2.1 c_ hc hTc).1.2) (pl1 hP (hR.2.1 c_ hc hTc).2.1.1 (hR.2.1 c_ hc hTc).2.1.2))) (va_recv hK (pl1 hP (hR.2.1 c_ hc hTc).1.1 (hR.2.1 c_ hc hTc).1.2) (ci := 5) (q0 := 0) rfl rfl) rfl hl.1 rfl (Nat.le_of_ble_eq_true rfl) dX0_valueBy_138 ⟨Nat.le_of_ble_eq_true rfl, Nat.le_of_ble_eq_true rfl⟩ ?_
            refine w_topi (y := σ.calls (6 * c_ + 3)) (rfl) ?_
            refine lv_i2l (v := (σ.calls (6 * c_ + 3) : Int32).toInt64) hx hb dX0_valueBy_141 rfl ?_
            refine lv_lload hx hb dX0_valueBy_142 (lv_at hl 3 rfl) ?_
            refine lv_lmul hx hb dX0_valueBy_144 ?_
            refine lv_aload_n hx hb dX0_valueBy_145 rfl (lv_at hl 8 rfl) ?_
            refine lv_aload hx hb dX0_valueBy_146 (lv_at hl 7 rfl) ?_
            refine dV (v := .int ((fun k0_ => σ.calls (6 * c_ + k0_)) 0)) (As := []) (rest := [.ref x, .long (((σ.calls (6 * c_ + 3) : Int32).toInt64) * (tosF σ (restF set_ c_) 6))]) ⟨hx, hb, hml, hown, hts⟩ (mt_X7_place l D dA (μ.cA c_) (μ.kA c_) (μ.lA c_) (total σ c_) (fun k0_ => σ.calls (6 * c_ + k0_))) (cw_X0_X7_place hts ⟨Nat.le_of_ble_eq_true rfl, Nat.le_of_ble_eq_true rfl⟩) pB_bw (pB_now hK (pl2 (pl1 hP (hR.2.1 c_ hc hTc).1.1 (hR.2.1 c_ hc hTc).1.2) (pl1 hP (hR.2.1 c_ hc hTc).2.1.1 (hR.2.1 c_ hc hTc).2.1.2))) (va_recv hK (pl1 hP (hR.2.1 c_ hc hTc).1.1 (hR.2.1 c_ hc hTc).1.2) (ci := 5) (q0 := 0) rfl rfl) rfl hl.1 rfl (Nat.le_of_ble_eq_true rfl) dX0_valueBy_148 ⟨Nat.le_of_ble_eq_true rfl, Nat.le_of_ble_eq_true rfl⟩ ?_
            refine w_topi (y := nI (plF σ c_)) ((hI.pl2 c_ hc).2) ?_
            refine lv_iload hx hb dX0_valueBy_151 (lv_at hl 4 rfl) ?_
            refine lv_aload hx hb dX0_valueBy_153 (lv_at hl 0 rfl) ?_
            refine va_get (D := D) (ci := 6) (v := .int (σ.sorts (16 * c_ + 4 * k + 1))) (C := RX9) (T := TX9) (N := 4) hx hb hts in_X9 hown hK (pl1 hP ((hR.2.1 c_ hc hTc).2.2.2.2 k (show k < σ.sm c_ by omega)).1 ((hR.2.1 c_ hc hTc).2.2.2.2 k (show k < σ.sm c_ by omega)).2) 0 rfl rfl 3 (by decide) (hts _ q732) (fun _ h9 => h9) rfl dX0_valueBy_155 ?_
            refine lv_iadd hx hb dX0_valueBy_158 ?_
            refine lv_aload hx hb dX0_valueBy_159 (lv_at hl 0 rfl) ?_
            refine lv_iload hx hb dX0_valueBy_161 (lv_at hl 12 rfl) ?_
            refine lv_iload hx hb dX0_valueBy_163 (lv_at hl 14 rfl) ?_
            refine dU (v := .int (lefW bag (σ.sorts (16 * c_ + 4 * k + 2)) (σ.sorts (16 * c_ + 4 * k + 3)) (ptF σ.tools 8))) (As := [.int bag, .int (ptF σ.tools 8)]) (rest := [.int ((bgF σ x_ m_ c_) + (σ.sorts (16 * c_ + 4 * k + 1))), .int (nI (plF σ c_)), .ref x, .long (((σ.calls (6 * c_ + 3) : Int32).toInt64) * (tosF σ (restF set_ c_) 6))]) ⟨hx, hb, hml, hown, hts⟩ (mt_X8_left_S l D dA (μ.sA c_ k) (σ.sorts (16 * c_ + 4 * k + 2)) (σ.sorts (16 * c_ + 4 * k + 3)) (σ.sorts (16 * c_ + 4 * k)) (σ.sorts (16 * c_ + 4 * k + 1)) bag (ptF σ.tools 8)) (cw_X0_X8_left_S_X9 hts ⟨Nat.le_of_ble_eq_true rfl, Nat.le_of_ble_eq_true rfl⟩) pB_bw (pB_now hK (pl1 hP ((hR.2.1 c_ hc hTc).2.2.2.2 k (show k < σ.sm c_ by omega)).1 ((hR.2.1 c_ hc hTc).2.2.2.2 k (show k < σ.sm c_ by omega)).2)) (va_recv hK (pl1 hP ((hR.2.1 c_ hc hTc).2.2.2.2 k (show k < σ.sm c_ by omega)).1 ((hR.2.1 c_ hc hTc).2.2.2.2 k (show k < σ.sm c_ by omega)).2) (ci := 6) (q0 := 0) rfl rfl) rfl hl.1 rfl (Nat.le_of_ble_eq_true rfl) dX0_valueBy_165 ⟨Nat.le_of_ble_eq_true rfl, Nat.le_of_ble_eq_true rfl⟩ ?_
            refine w_topi (y := leftF σ bag c_ k) (lef_eq hI hy hc (by omega) ((met_left hy c_ k).mpr h133)) ?_
            refine lv_iload hx hb dX0_valueBy_168 (lv_at hl 6 rfl) ?_
            refine lv_iload hx hb dX0_valueBy_170 (lv_at hl 14 rfl) ?_
            refine dV (v := .long (mV σ 3 (plF σ c_) ((bgF σ x_ m_ c_) + (σ.sorts (16 * c_ + 4 * k + 1))) (leftF σ bag c_ k) (restF set_ c_))) (As := [.int (nI (plF σ c_)), .int ((bgF σ x_ m_ c_) + (σ.sorts (16 * c_ + 4 * k + 1))), .int (leftF σ bag c_ k), .int (restF set_ c_), .int (ptF σ.tools 8)]) (rest := [.long (((σ.calls (6 * c_ + 3) : Int32).toInt64) * (tosF σ (restF set_ c_) 6))]) ⟨hx, hb, hml, hown, hts⟩ (mt_X0_valueOf_3 l D dA x ad μ σ ω (plF σ c_) ((bgF σ x_ m_ c_) + (σ.sorts (16 * c_ + 4 * k + 1))) (leftF σ bag c_ k) (restF set_ c_) hI hR hJ hpl (left_by hy h133) (rest_N hs hc hh) (rest_U hs hU hc hh)) (cw_X0_X0_valueOf_3 hts ⟨Nat.le_of_ble_eq_true rfl, Nat.le_of_ble_eq_true rfl⟩) cB_bw (cB_now hK hN hP) (va_recv hK hP (ci := 1) (q0 := 0) rfl rfl) rfl hl.1 rfl (Nat.le_of_ble_eq_true rfl) dX0_valueBy_172 ⟨Nat.le_of_ble_eq_true rfl, Nat.le_of_ble_eq_true rfl⟩ ?_
            refine lv_ladd hx hb dX0_valueBy_175 ?_
            refine lv_goto (tgt := 214) hx hb dX0_valueBy_176 rfl ?_
            exact hJ214_5 ((((σ.calls (6 * c_ + 3) : Int32).toInt64) * (tosF σ (restF set_ c_) 6)) + (mV σ 3 (plF σ c_) ((bgF σ x_ m_ c_) + (σ.sorts (16 * c_ + 4 * k + 1))) (leftF σ bag c_ k) (restF set_ c_))) ls (by rw [if_pos h133]) (lv_sub hl [0, 1, 2, 3, 4, 5, 6, 7, 8, 9, 10, 11, 12, 13, 14] rfl)
    exact hL98_1 _ 0 0 0 ls (Nat.lt_succ_self _) (by omega) rfl (by subst_vars; rw [gosS]) (lv_sub hl [0, 1, 2, 3, 4, 5, 6, 7, 8, 9, 10, 11, 12, 13] rfl)
  · have h54 : (bgF σ x_ m_ c_) = (-1) := h54
    have hlt := (bg_late hI hc).mp h54
    refine lv_aload hx hb dX0_valueBy_57 (lv_at hl 4 rfl) ?_
    refine va_get (D := D) (ci := 5) (v := .int (total σ c_)) (C := RX7) (T := TX7) (N := 3) hx hb hts in_X7 hown hK (pl1 hP (hR.2.1 c_ hc hTc).1.1 (hR.2.1 c_ hc hTc).1.2) 0 rfl rfl 2 (by decide) (hts _ q704) (fun _ h9 => h9) rfl dX0_valueBy_59 ?_
    refine lv_i2l (v := (total σ c_ : Int32).toInt64) hx hb dX0_valueBy_62 rfl ?_
    refine lv_aload_n hx hb dX0_valueBy_63 rfl (lv_at hl 5 rfl) ?_
    refine lv_aload hx hb dX0_valueBy_64 (lv_at hl 4 rfl) ?_
    refine dV (v := .int ((fun k0_ => σ.calls (6 * c_ + k0_)) 0)) (As := []) (rest := [.ref x, .long ((total σ c_ : Int32).toInt64)]) ⟨hx, hb, hml, hown, hts⟩ (mt_X7_place l D dA (μ.cA c_) (μ.kA c_) (μ.lA c_) (total σ c_) (fun k0_ => σ.calls (6 * c_ + k0_))) (cw_X0_X7_place hts ⟨Nat.le_of_ble_eq_true rfl, Nat.le_of_ble_eq_true rfl⟩) pB_bw (pB_now hK (pl2 (pl1 hP (hR.2.1 c_ hc hTc).1.1 (hR.2.1 c_ hc hTc).1.2) (pl1 hP (hR.2.1 c_ hc hTc).2.1.1 (hR.2.1 c_ hc hTc).2.1.2))) (va_recv hK (pl1 hP (hR.2.1 c_ hc hTc).1.1 (hR.2.1 c_ hc hTc).1.2) (ci := 5) (q0 := 0) rfl rfl) rfl hl.1 rfl (Nat.le_of_ble_eq_true rfl) dX0_valueBy_66 ⟨Nat.le_of_ble_eq_true rfl, Nat.le_of_ble_eq_true rfl⟩ ?_
    refine w_topi (y := nI (plF σ c_)) ((hI.pl2 c_ hc).2) ?_
    refine lv_iload hx hb dX0_valueBy_69 (lv_at hl 2 rfl) ?_
    refine lv_iload hx hb dX0_valueBy_71 (lv_at hl 9 rfl) ?_
    refine lv_iload hx hb dX0_valueBy_73 (lv_at hl 3 rfl) ?_
    refine lv_iload hx hb dX0_valueBy_75 (lv_at hl 11 rfl) ?_
    refine dV (v := .long (mV σ 3 (plF σ c_) (m_ + (σ.ways (6 * x_ + (plF σ c_)))) bag (restF set_ c_))) (As := [.int (nI (plF σ c_)), .int (m_ + (σ.ways (6 * x_ + (plF σ c_)))), .int bag, .int (restF set_ c_), .int (ptF σ.tools 8)]) (rest := [.long ((total σ c_ : Int32).toInt64)]) ⟨hx, hb, hml, hown, hts⟩ (mt_X0_valueOf_3 l D dA x ad μ σ ω (plF σ c_) (m_ + (σ.ways (6 * x_ + (plF σ c_)))) bag (restF set_ c_) hI hR hJ hpl hy (rest_N hs hc hh) (rest_U hs hU hc hh)) (cw_X0_X0_valueOf_3 hts ⟨Nat.le_of_ble_eq_true rfl, Nat.le_of_ble_eq_true rfl⟩) cB_bw (cB_now hK hN hP) (va_recv hK hP (ci := 1) (q0 := 0) rfl rfl) rfl hl.1 rfl (Nat.le_of_ble_eq_true rfl) dX0_valueBy_77 ⟨Nat.le_of_ble_eq_true rfl, Nat.le_of_ble_eq_true rfl⟩ ?_
    refine lv_aload hx hb dX0_valueBy_80 (lv_at hl 4 rfl) ?_
    refine dV (v := .int ((fun k0_ => σ.calls (6 * c_ + k0_)) 4)) (As := []) (rest := [.long (mV σ 3 (plF σ c_) (m_ + (σ.ways (6 * x_ + (plF σ c_)))) bag (restF set_ c_)), .long ((total σ c_ : Int32).toInt64)]) ⟨hx, hb, hml, hown, hts⟩ (mt_X7_again l D dA (μ.cA c_) (μ.kA c_) (μ.lA c_) (total σ c_) (fun k0_ => σ.calls (6 * c_ + k0_))) (cw_X0_X7_again hts ⟨Nat.le_of_ble_eq_true rfl, Nat.le_of_ble_eq_true rfl⟩) pB_bw (pB_now hK (pl2 (pl1 hP (hR.2.1 c_ hc hTc).1.1 (hR.2.1 c_ hc hTc).1.2) (pl1 hP (hR.2.1 c_ hc hTc).2.1.1 (hR.2.1 c_ hc hTc).2.1.2))) (va_recv hK (pl1 hP (hR.2.1 c_ hc hTc).1.1 (hR.2.1 c_ hc hTc).1.2) (ci := 5) (q0 := 0) rfl rfl) rfl hl.1 rfl (Nat.le_of_ble_eq_true rfl) dX0_valueBy_82 ⟨Nat.le_of_ble_eq_true rfl, Nat.le_of_ble_eq_true rfl⟩ ?_
    refine w_topi (y := σ.calls (6 * c_ + 4)) (rfl) ?_
    refine lv_i2l (v := (σ.calls (6 * c_ + 4) : Int32).toInt64) hx hb dX0_valueBy_85 rfl ?_
    refine lv_lload hx hb dX0_valueBy_86 (lv_at hl 0 rfl) ?_
    refine lv_lmul hx hb dX0_valueBy_88 ?_
    refine lv_lsub hx hb dX0_valueBy_89 ?_
    refine lv_lmul hx hb dX0_valueBy_90 ?_
    exact q_l hQ hx hb hr hlocks rfl (late_eq hI hJ hc hlt) dX0_valueBy_91

theorem cw_X0_X0_valueBy_4 {R : Room} {s : State} {args : Array Value} (hts : ∀ w ∈ lw_all, w.before args s = true) (hR : rmX0_valueBy_4.frames + 1 ≤ R.frames ∧ 8 + (19 + 11) + rmX0_valueBy_4.locals ≤ R.locals) : CallW R s args RX0 RX0 251 yX0_valueBy cX0_valueBy 19 (some .long) (ws_ yX0_valueBy cX0_valueBy 19 (some .long)) rmX0_valueBy_4 0 0 6 := cwV 6 hts (lw_V q1025 q1027 qs31 q77 q1028) rfl rfl rfl (by decide +kernel) hR
def rmX0_valueOf_4 : Room := { frames := 10, cells := 0, slots := 0, locals := 300 }
set_option maxHeartbeats 1000000 in
theorem mt_X0_valueOf_4 (l : Launch) (D : va_G) (dA : Nat → ClassId) (x : Nat) (ad : Nat → Nat) (μ : Lay) (σ : St) (ω : Om) (x_ : Nat) (m_ : Int32) (bag : Int32) (set_ : Int32) (hI : Inv σ) (hR : Rel dA μ σ) (hJ : Inv2 σ) (hx6 : x_ < 6) (hy : byP bag) (hs : setN set_ 4) (hU : setU σ set_) : Met l yX0_valueOf (ws_ yX0_valueOf cX0_valueOf 9 (some .long)) rmX0_valueOf_4 (va_Pc [.ref x, .int (nI x_), .int m_, .int bag, .int set_, .int (ptF σ.tools 8)] (cB D dA x ad μ σ ω)) (roQ (.long (mV σ 4 x_ m_ bag set_))) 0 0 (fun _ => False) := by
  refine w_start (by decide) (Nat.le_of_ble_eq_true rfl) ?_
  intro p e s m args below meth c Q ls hQ hx hb hr hlocks hml hown hnm hts hB hl
  have hown : s.vm.findClass RX0 = some m.cls := hown
  have hl : lv_has ls 9 [(0, .ref x), (1, .int (nI x_)), (2, .int m_), (3, .int bag), (4, .int set_), (5, .int (ptF σ.tools 8))] := hl
  obtain ⟨hP, hK, hN⟩ := hB
  refine lv_lconst (v := 0) hx hb dX0_valueOf_0 rfl ?_
  refine lv_lstore (lv' := [(6, .long 0), (0, .ref x), (1, .int (nI x_)), (2, .int m_), (3, .int bag), (4, .int set_), (5, .int (ptF σ.tools 8))]) hx hb dX0_valueOf_1 hl (by decide) rfl (fun ls hl => ?_)
  refine lv_iconst (v := 0) hx hb dX0_valueOf_3 rfl ?_
  refine lv_istore (lv' := [(8, .int 0), (6, .long 0), (0, .ref x), (1, .int (nI x_)), (2, .int m_), (3, .int bag), (4, .int set_), (5, .int (ptF σ.tools 8))]) hx hb dX0_valueOf_4 hl (by decide) rfl (fun ls hl => ?_)
  have hL6_1 : ∀ (n_2 : Nat) (k : Nat) (x8 : Int32) (x6 : Int64) (ls : Array Slot), (6 - k) < n_2 → (k ≤ 6) → x8 = (nI k) → x6 = (maxG σ (mV σ 3) x_ m_ bag set_ k) → lv_has ls 9 [(8, .int x8), (6, .long x6), (0, .ref x), (1, .int (nI x_)), (2, .int m_), (3, .int bag), (4, .int set_), (5, .int (ptF σ.tools 8))] → W p l e rmX0_valueOf_4 s m args below meth c s.heap [] 0 0 Q (F0 m 6 ls []) := by
    intro n_2
    induction n_2 with
    | zero => intro k x8 x6 ls hm_4; exact absurd hm_4 (Nat.not_lt_zero _)
    | succ n_2 ih_3 =>
      intro k x8 x6 ls hm_4 hk ex8 ex6 hl
      subst ex8 ex6
      refine lv_iload hx hb dX0_valueOf_6 (lv_at hl 0 rfl) ?_
      refine lv_bipush (v := 6) hx hb dX0_valueOf_8 rfl ?_
      refine lv_icmp_ge (tgt := 55) hx hb dX0_valueOf_10 rfl (fun h10 => ?_) (fun h10 => ?_)
      · have h10 : 6 ≤ k := (nz_le (a := 6) (b := k) rfl rfl (by omega) (by omega)).mp h10
        have hk_ : k = 6 := by omega
        subst hk_
        refine lv_lload hx hb dX0_valueOf_55 (lv_at hl 1 rfl) ?_
        exact q_l hQ hx hb hr hlocks rfl (rfl) dX0_valueOf_57
      · have h10 : ¬ (6 ≤ k) := fun z9 => h10 ((nz_le (a := 6) (b := k) rfl rfl (by omega) (by omega)).mpr z9)
        refine lv_iload hx hb dX0_valueOf_13 (lv_at hl 6 rfl) ?_
        refine lv_iload hx hb dX0_valueOf_15 (lv_at hl 0 rfl) ?_
        refine lv_ishr hx hb dX0_valueOf_17 ?_
        refine lv_iconst (v := 1) hx hb dX0_valueOf_18 rfl ?_
        refine lv_iand hx hb dX0_valueOf_19 ?_
        refine lv_iconst (v := 1) hx hb dX0_valueOf_20 rfl ?_
        have hJ47_5 : ∀ (v_6 : Int64) (ls : Array Slot), v_6 = (if ((set_ >>> ((nI k) &&& 31)) &&& 1) = 1 then if (goV σ (mV σ 3) x_ m_ bag set_ k) < (maxG σ (mV σ 3) x_ m_ bag set_ k) then (maxG σ (mV σ 3) x_ m_ bag set_ k) else (goV σ (mV σ 3) x_ m_ bag set_ k) else maxG σ (mV σ 3) x_ m_ bag set_ k) → lv_has ls 9 [(8, .int (nI k)), (6, .long (maxG σ (mV σ 3) x_ m_ bag set_ k)), (0, .ref x), (1, .int (nI x_)), (2, .int m_), (3, .int bag), (4, .int set_), (5, .int (ptF σ.tools 8))] → W p l e rmX0_valueOf_4 s m args below meth c s.heap [] 0 0 Q (F0 m 47 ls [.long v_6]) := by
          intro v_6 ls ev_6 hl
          refine lv_lstore (lv' := [(6, .long v_6), (8, .int (nI k)), (0, .ref x), (1, .int (nI x_)), (2, .int m_), (3, .int bag), (4, .int set_), (5, .int (ptF σ.tools 8))]) hx hb dX0_valueOf_47 hl (by decide) rfl (fun ls hl => ?_)
          refine lv_iinc (v := nI (k + 1)) (lv' := [(8, .int (nI (k + 1))), (6, .long v_6), (0, .ref x), (1, .int (nI x_)), (2, .int m_), (3, .int bag), (4, .int set_), (5, .int (ptF σ.tools 8))]) hx hb dX0_valueOf_49 hl (k := 1) rfl (nI_1 k) (by decide) rfl (fun ls hl => ?_)
          refine lv_goto (tgt := 6) hx hb dX0_valueOf_52 rfl ?_
          exact ih_3 (k + 1) (nI (k + 1)) v_6 ls (by omega) (by omega) rfl (by subst_vars; exact (max_s σ (mV σ 3) x_ m_ bag set_ k).symm) (lv_sub hl [0, 1, 2, 3, 4, 5, 6, 7] rfl)
        refine lv_icmp_ne (tgt := 45) hx hb dX0_valueOf_21 rfl (fun h21 => ?_) (fun h21 => ?_)
        · have h21 : ¬ (((set_ >>> ((nI k) &&& 31)) &&& 1) = 1) := h21
          refine lv_lload hx hb dX0_valueOf_45 (lv_at hl 1 rfl) ?_
          exact hJ47_5 (maxG σ (mV σ 3) x_ m_ bag set_ k) ls (by rw [if_neg h21]) (lv_sub hl [0, 1, 2, 3, 4, 5, 6, 7] rfl)
        · have h21 : ((set_ >>> ((nI k) &&& 31)) &&& 1) = 1 := h21
          refine lv_lload hx hb dX0_valueOf_24 (lv_at hl 1 rfl) ?_
          refine lv_aload_n hx hb dX0_valueOf_26 rfl (lv_at hl 2 rfl) ?_
          refine lv_iload hx hb dX0_valueOf_27 (lv_at hl 0 rfl) ?_
          refine lv_iload_n hx hb dX0_valueOf_29 rfl (lv_at hl 3 rfl) ?_
          refine lv_iload_n hx hb dX0_valueOf_30 rfl (lv_at hl 4 rfl) ?_
          refine lv_iload_n hx hb dX0_valueOf_31 rfl (lv_at hl 5 rfl) ?_
          refine lv_iload hx hb dX0_valueOf_32 (lv_at hl 6 rfl) ?_
          refine lv_iload hx hb dX0_valueOf_34 (lv_at hl 7 rfl) ?_
          refine dV (v := .long (goV σ (mV σ 3) x_ m_ bag set_ k)) (As := [.int (nI k), .int (nI x_), .int m_, .int bag, .int set_, .int (ptF σ.tools 8)]) (rest := [.long (maxG σ (mV σ 3) x_ m_ bag set_ k)]) ⟨hx, hb, hml, hown, hts⟩ (mt_X0_valueBy_4 l D dA x ad μ σ ω k x_ m_ bag set_ hI hR (by omega) (by omega) (by omega) (by omega) hs (by omega) h21) (cw_X0_X0_valueBy_4 hts ⟨Nat.le_of_ble_eq_true rfl, Nat.le_of_ble_eq_true rfl⟩) cB_bw (cB_now hK hN hP) (va_recv hK hP (ci := 1) (q0 := 0) rfl rfl) rfl hl.1 rfl (Nat.le_of_ble_eq_true rfl) dX0_valueOf_36 ⟨Nat.le_of_ble_eq_true rfl, Nat.le_of_ble_eq_true rfl⟩ ?_
          refine va_mmax_long hx hb (hml.trans hl.1.symm) hown (hts _ q1037) (hts _ q1038) (hts _ q90) (hts _ q1039) (Nat.le_of_ble_eq_true rfl) (Nat.le_of_ble_eq_true rfl) (Nat.le_of_ble_eq_true rfl) (Nat.le_of_ble_eq_true rfl) dX0_valueOf_39 ?_
          refine lv_goto (tgt := 47) hx hb dX0_valueOf_42 rfl ?_
          exact hJ47_5 (if (goV σ (mV σ 3) x_ m_ bag set_ k) < (maxG σ (mV σ 3) x_ m_ bag set_ k) then (maxG σ (mV σ 3) x_ m_ bag set_ k) else (goV σ (mV σ 3) x_ m_ bag set_ k)) ls (by rw [if_pos h21]) (lv_sub hl [0, 1, 2, 3, 4, 5, 6, 7] rfl)
  exact hL6_1 _ 0 0 0 ls (Nat.lt_succ_self _) (by omega) rfl (by subst_vars; rw [maxG]) (lv_sub hl [0, 1, 2, 3, 4, 5, 6, 7] rfl)

theorem cw_X0_X0_faultOfNow {R : Room} {s : State} {args : Array Value} (hts : ∀ w ∈ lw_all, w.before args s = true) (hR : rmX0_faultOfNow.frames + 1 ≤ R.frames ∧ 8 + (6 + 11) + rmX0_faultOfNow.locals ≤ R.locals) : CallW R s args RX0 RX0 287 yX0_faultOfNow cX0_faultOfNow 6 (some .int) (ws_ yX0_faultOfNow cX0_faultOfNow 6 (some .int)) rmX0_faultOfNow 0 0 4 := cwV 4 hts (lw_V q1009 q1011 qs29 q77 q1012) rfl rfl rfl (by decide +kernel) hR
theorem cw_X0_X0_refused {R : Room} {s : State} {args : Array Value} (hts : ∀ w ∈ lw_all, w.before args s = true) (hR : rmX0_refused.frames + 1 ≤ R.frames ∧ 8 + (1 + 11) + rmX0_refused.locals ≤ R.locals) : CallB R s args RX0 217 yX0_refused cX0_refused 1 (some .long) (ws_ yX0_refused cX0_refused 1 (some .long)) rmX0_refused 0 0 1 ∧ (Cond.static yX0_refused).before args s = true := va_cwS 1 hts (lw_S q923 q924 q77 q925) rfl rfl rfl (by decide +kernel) hR
theorem cw_X0_X0_valueOf_4 {R : Room} {s : State} {args : Array Value} (hts : ∀ w ∈ lw_all, w.before args s = true) (hR : rmX0_valueOf_4.frames + 1 ≤ R.frames ∧ 8 + (9 + 11) + rmX0_valueOf_4.locals ≤ R.locals) : CallW R s args RX0 RX0 268 yX0_valueOf cX0_valueOf 9 (some .long) (ws_ yX0_valueOf cX0_valueOf 9 (some .long)) rmX0_valueOf_4 0 0 5 := cwV 5 hts (lw_V q1021 q1023 qs30 q77 q1024) rfl rfl rfl (by decide +kernel) hR
def rmX0_value : Room := { frames := 11, cells := 0, slots := 0, locals := 328 }
set_option maxHeartbeats 1000000 in
theorem mt_X0_value (l : Launch) (D : va_G) (dA : Nat → ClassId) (x : Nat) (ad : Nat → Nat) (μ : Lay) (σ : St) (ω : Om) (x_ : Int32) (m_ : Int32) (bag : Int32) (set_ : Int32) (w : Int32) (hI : Inv σ) (hR : Rel dA μ σ) (hJ : Inv2 σ) : Met l yX0_value (ws_ yX0_value cX0_value 7 (some .long)) rmX0_value (va_Pc [.ref x, .int x_, .int m_, .int bag, .int set_, .int w] (cB D dA x ad μ σ ω)) (roQ (.long (valueF σ x_ m_ bag set_ w))) 0 0 (fun _ => False) := by
  refine w_start (by decide) (Nat.le_of_ble_eq_true rfl) ?_
  intro p e s m args below meth c Q ls hQ hx hb hr hlocks hml hown hnm hts hB hl
  have hown : s.vm.findClass RX0 = some m.cls := hown
  have hl : lv_has ls 7 [(0, .ref x), (1, .int x_), (2, .int m_), (3, .int bag), (4, .int set_), (5, .int w)] := hl
  obtain ⟨hP, hK, hN⟩ := hB
  refine lv_aload_n hx hb dX0_value_0 rfl (lv_at hl 0 rfl) ?_
  refine lv_iload_n hx hb dX0_value_1 rfl (lv_at hl 1 rfl) ?_
  refine lv_iload_n hx hb dX0_value_2 rfl (lv_at hl 2 rfl) ?_
  refine lv_iload_n hx hb dX0_value_3 rfl (lv_at hl 3 rfl) ?_
  refine lv_iload hx hb dX0_value_4 (lv_at hl 4 rfl) ?_
  refine dV (v := .int (refNowF σ x_ m_ bag set_)) (As := [.int x_, .int m_, .int bag, .int set_]) (rest := []) ⟨hx, hb, hml, hown, hts⟩ (mt_X0_faultOfNow l D dA x ad μ σ ω x_ m_ bag set_ hI hR) (cw_X0_X0_faultOfNow hts ⟨Nat.le_of_ble_eq_true rfl, Nat.le_of_ble_eq_true rfl⟩) cB_bw (cB_now hK hN hP) (va_recv hK hP (ci := 1) (q0 := 0) rfl rfl) rfl hl.1 rfl (Nat.le_of_ble_eq_true rfl) dX0_value_6 ⟨Nat.le_of_ble_eq_true rfl, Nat.le_of_ble_eq_true rfl⟩ ?_
  refine lv_istore (lv' := [(6, .int (refNowF σ x_ m_ bag set_)), (0, .ref x), (1, .int x_), (2, .int m_), (3, .int bag), (4, .int set_), (5, .int w)]) hx hb dX0_value_9 hl (by decide) rfl (fun ls hl => ?_)
  refine lv_iload hx hb dX0_value_11 (lv_at hl 0 rfl) ?_
  refine lv_if_ne (tgt := 32) hx hb dX0_value_13 rfl (fun h13 => ?_) (fun h13 => ?_)
  · have h13 : ¬ ((refNowF σ x_ m_ bag set_) = 0) := h13
    refine lv_iload hx hb dX0_value_32 (lv_at hl 0 rfl) ?_
    refine lv_istore (lv' := [(6, .int (refNowF σ x_ m_ bag set_)), (0, .ref x), (1, .int x_), (2, .int m_), (3, .int bag), (4, .int set_), (5, .int w)]) hx hb dX0_value_34 hl (by decide) rfl (fun ls hl => ?_)
    refine lv_iload hx hb dX0_value_36 (lv_at hl 0 rfl) ?_
    refine lv_if_eq (tgt := 49) hx hb dX0_value_38 rfl (fun h38 => ?_) (fun h38 => ?_)
    · have h38 : (refNowF σ x_ m_ bag set_) = 0 := h38
      exact absurd h38 h13
    · have h38 : ¬ ((refNowF σ x_ m_ bag set_) = 0) := h38
      refine lv_iload hx hb dX0_value_41 (lv_at hl 0 rfl) ?_
      refine cSl (As := [.int (refNowF σ x_ m_ bag set_)]) (rest := []) ⟨hx, hb, hml, hown, hts⟩ (mt_X0_refused l (refNowF σ x_ m_ bag set_)) (cw_X0_X0_refused hts ⟨Nat.le_of_ble_eq_true rfl, Nat.le_of_ble_eq_true rfl⟩) w_blT (fun _ _ _ => trivial) rfl hl.1 rfl (Nat.le_of_ble_eq_true rfl) dX0_value_43 ⟨Nat.le_of_ble_eq_true rfl, Nat.le_of_ble_eq_true rfl⟩ ?_
      refine lv_goto (tgt := 73) hx hb dX0_value_46 rfl ?_
      exact q_l hQ hx hb hr hlocks rfl (by rcases refNow_c h13 with q | q <;> rw [valueF, q] <;> rfl) dX0_value_73
  · have h13 : (refNowF σ x_ m_ bag set_) = 0 := h13
    refine lv_iload hx hb dX0_value_16 (lv_at hl 6 rfl) ?_
    refine lv_i2l (v := (w : Int32).toInt64) hx hb dX0_value_18 rfl ?_
    refine lv_lconst (v := 0) hx hb dX0_value_19 rfl ?_
    refine lv_lconst (v := 1) hx hb dX0_value_20 rfl ?_
    refine cSi (As := [.long ((w : Int32).toInt64), .long 0, .long 1]) (rest := []) ⟨hx, hb, hml, hown, hts⟩ (mt_X0_in l ((w : Int32).toInt64) 0 1) (cw_X0_X0_in hts ⟨Nat.le_of_ble_eq_true rfl, Nat.le_of_ble_eq_true rfl⟩) w_blT (fun _ _ _ => trivial) rfl hl.1 rfl (Nat.le_of_ble_eq_true rfl) dX0_value_21 ⟨Nat.le_of_ble_eq_true rfl, Nat.le_of_ble_eq_true rfl⟩ ?_
    refine lv_if_ne (tgt := 32) hx hb dX0_value_24 rfl (fun h24 => ?_) (fun h24 => ?_)
    · have h24 : inP ((w : Int32).toInt64) 0 1 := b01_n h24
      refine lv_iload hx hb dX0_value_32 (lv_at hl 0 rfl) ?_
      refine lv_istore (lv' := [(6, .int (refNowF σ x_ m_ bag set_)), (0, .ref x), (1, .int x_), (2, .int m_), (3, .int bag), (4, .int set_), (5, .int w)]) hx hb dX0_value_34 hl (by decide) rfl (fun ls hl => ?_)
      refine lv_iload hx hb dX0_value_36 (lv_at hl 0 rfl) ?_
      refine lv_if_eq (tgt := 49) hx hb dX0_value_38 rfl (fun h38 => ?_) (fun h38 => ?_)
      · have h38 : (refNowF σ x_ m_ bag set_) = 0 := h38
        obtain ⟨hk1, hk2, hk3, -, hk5, hk6⟩ := refNow_ok h13
        obtain ⟨j, hj, rfl⟩ := in5 hk1
        have hix : ix (nI j) = j := ix_nI hj (by decide)
        have hs4 := now_N hk2 hk6
        have hU4 := now_U hk3
        refine lv_aload_n hx hb dX0_value_49 rfl (lv_at hl 1 rfl) ?_
        refine lv_iload_n hx hb dX0_value_50 rfl (lv_at hl 2 rfl) ?_
        refine lv_iload_n hx hb dX0_value_51 rfl (lv_at hl 3 rfl) ?_
        refine lv_iload_n hx hb dX0_value_52 rfl (lv_at hl 4 rfl) ?_
        refine lv_iload hx hb dX0_value_53 (lv_at hl 5 rfl) ?_
        refine lv_aload_n hx hb dX0_value_55 rfl (lv_at hl 1 rfl) ?_
        refine dV (v := .int (ptF σ.tools 8)) (As := []) (rest := [.int set_, .int bag, .int m_, .int (nI j), .ref x]) ⟨hx, hb, hml, hown, hts⟩ (mt_X0_parts l D dA x ad μ σ ω hI hR) (cw_X0_X0_parts hts ⟨Nat.le_of_ble_eq_true rfl, Nat.le_of_ble_eq_true rfl⟩) cB_bw (cB_now hK hN hP) (va_recv hK hP (ci := 1) (q0 := 0) rfl rfl) rfl hl.1 rfl (Nat.le_of_ble_eq_true rfl) dX0_value_56 ⟨Nat.le_of_ble_eq_true rfl, Nat.le_of_ble_eq_true rfl⟩ ?_
        refine dV (v := .long (mV σ 4 j m_ bag set_)) (As := [.int (nI j), .int m_, .int bag, .int set_, .int (ptF σ.tools 8)]) (rest := []) ⟨hx, hb, hml, hown, hts⟩ (mt_X0_valueOf_4 l D dA x ad μ σ ω j m_ bag set_ hI hR hJ hj (bag_by hk5) hs4 hU4) (cw_X0_X0_valueOf_4 hts ⟨Nat.le_of_ble_eq_true rfl, Nat.le_of_ble_eq_true rfl⟩) cB_bw (cB_now hK hN hP) (va_recv hK hP (ci := 1) (q0 := 0) rfl rfl) rfl hl.1 rfl (Nat.le_of_ble_eq_true rfl) dX0_value_59 ⟨Nat.le_of_ble_eq_true rfl, Nat.le_of_ble_eq_true rfl⟩ ?_
        refine lv_aload_n hx hb dX0_value_62 rfl (lv_at hl 1 rfl) ?_
        refine lv_iload hx hb dX0_value_63 (lv_at hl 5 rfl) ?_
        refine dV (v := .long (tosF σ set_ 6)) (As := [.int set_]) (rest := [.long (mV σ 4 j m_ bag set_)]) ⟨hx, hb, hml, hown, hts⟩ (mt_X0_productOf l D dA x ad μ σ ω set_ hI hR hU4) (cw_X0_X0_productOf hts ⟨Nat.le_of_ble_eq_true rfl, Nat.le_of_ble_eq_true rfl⟩) cB_bw (cB_now hK hN hP) (va_recv hK hP (ci := 1) (q0 := 0) rfl rfl) rfl hl.1 rfl (Nat.le_of_ble_eq_true rfl) dX0_value_65 ⟨Nat.le_of_ble_eq_true rfl, Nat.le_of_ble_eq_true rfl⟩ ?_
        refine lv_iload hx hb dX0_value_68 (lv_at hl 6 rfl) ?_
        refine cSl (As := [.long (mV σ 4 j m_ bag set_), .long (tosF σ set_ 6), .int w]) (rest := []) ⟨hx, hb, hml, hown, hts⟩ (mt_X0_part l (mV σ 4 j m_ bag set_) (tosF σ set_ 6) w (tos_ne hI hk3)) (cw_X0_X0_part hts ⟨Nat.le_of_ble_eq_true rfl, Nat.le_of_ble_eq_true rfl⟩) w_blT (fun _ _ _ => trivial) rfl hl.1 rfl (Nat.le_of_ble_eq_true rfl) dX0_value_70 ⟨Nat.le_of_ble_eq_true rfl, Nat.le_of_ble_eq_true rfl⟩ ?_
        exact q_l hQ hx hb hr hlocks rfl (by rw [valueF, if_pos h13, if_pos h24, hix, val4 σ _ _ _ _ hs4]) dX0_value_73
      · have h38 : ¬ ((refNowF σ x_ m_ bag set_) = 0) := h38
        exact absurd h13 h38
    · have h24 : ¬ (inP ((w : Int32).toInt64) 0 1) := b01_0.mp h24
      refine lv_bipush (v := (-3)) hx hb dX0_value_27 rfl ?_
      refine lv_goto (tgt := 34) hx hb dX0_value_29 rfl ?_
      refine lv_istore (lv' := [(6, .int (-3)), (0, .ref x), (1, .int x_), (2, .int m_), (3, .int bag), (4, .int set_), (5, .int w)]) hx hb dX0_value_34 hl (by decide) rfl (fun ls hl => ?_)
      refine lv_iload hx hb dX0_value_36 (lv_at hl 0 rfl) ?_
      refine lv_if_eq (tgt := 49) hx hb dX0_value_38 rfl (fun h9 => ?_) (fun _ => ?_)
      · exact absurd h9 (by decide)
      refine lv_iload hx hb dX0_value_41 (lv_at hl 0 rfl) ?_
      refine cSl (As := [.int (-3)]) (rest := []) ⟨hx, hb, hml, hown, hts⟩ (mt_X0_refused l (-3)) (cw_X0_X0_refused hts ⟨Nat.le_of_ble_eq_true rfl, Nat.le_of_ble_eq_true rfl⟩) w_blT (fun _ _ _ => trivial) rfl hl.1 rfl (Nat.le_of_ble_eq_true rfl) dX0_value_43 ⟨Nat.le_of_ble_eq_true rfl, Nat.le_of_ble_eq_true rfl⟩ ?_
      refine lv_goto (tgt := 73) hx hb dX0_value_46 rfl ?_
      exact q_l hQ hx hb hr hlocks rfl (by rw [valueF, if_pos h13, if_neg h24]; rfl) dX0_value_73

theorem nx_agV {σ : St} {V V' : ValT} {x : Nat} {m bag set : Int32} {v : Int64} (hg : ∀ k, k < 6 → hasP set (nI k) → goV σ V x m bag set k = goV σ V' x m bag set k) : ∀ n k, k + n = 6 → nxF σ V x m bag set v n k = nxF σ V' x m bag set v n k := by
  intro n
  induction n with
  | zero => intro k _; rfl
  | succ n ih =>
    intro k h
    rw [nxF, nxF, ih (k + 1) (by omega)]
    by_cases hh : hasP set (nI k)
    · rw [if_pos hh, if_pos hh, hg k (by omega) hh]
    · rw [if_neg hh, if_neg hh]
theorem nx_ag {σ : St} {x : Nat} {m bag set : Int32} {v : Int64} (hs : setN set 4) : nxF σ (mV σ 3) x m bag set v 6 0 = nxF σ (maxV σ (maxV σ (oneF σ))) x m bag set v 6 0 :=
  nx_agV (fun _ hk hh => go_ag (val3 σ) hs hk hh) 6 0 rfl
theorem next_eq {σ : St} {x : Nat} {m bag set : Int32} (hs : setN set 4) (h : refNowF σ (nI x) m bag set = 0) (hx : ix (nI x) = x) : nextF σ (nI x) m bag set = if mV σ 4 x m bag set ≤ 0 then -1 else nxF σ (mV σ 3) x m bag set (mV σ 4 x m bag set) 6 0 := by
  rw [nextF, if_pos h, nextG, hx, val4 σ _ _ _ _ hs, nx_ag hs]

def rmX0_next : Room := { frames := 11, cells := 0, slots := 0, locals := 328 }
set_option maxHeartbeats 1000000 in
theorem mt_X0_next (l : Launch) (D : va_G) (dA : Nat → ClassId) (x : Nat) (ad : Nat → Nat) (μ : Lay) (σ : St) (ω : Om) (x_ : Int32) (m_ : Int32) (bag : Int32) (set_ : Int32) (hI : Inv σ) (hR : Rel dA μ σ) (hJ : Inv2 σ) : Met l yX0_next (ws_ yX0_next cX0_next 9 (some .int)) rmX0_next (va_Pc [.ref x, .int x_, .int m_, .int bag, .int set_] (cB D dA x ad μ σ ω)) (roQ (.int (nextF σ x_ m_ bag set_))) 0 0 (fun _ => False) := by
  refine w_start (by decide) (Nat.le_of_ble_eq_true rfl) ?_
  intro p e s m args below meth c Q ls hQ hx hb hr hlocks hml hown hnm hts hB hl
  have hown : s.vm.findClass RX0 = some m.cls := hown
  have hl : lv_has ls 9 [(0, .ref x), (1, .int x_), (2, .int m_), (3, .int bag), (4, .int set_)] := hl
  obtain ⟨hP, hK, hN⟩ := hB
  refine lv_aload_n hx hb dX0_next_0 rfl (lv_at hl 0 rfl) ?_
  refine lv_iload_n hx hb dX0_next_1 rfl (lv_at hl 1 rfl) ?_
  refine lv_iload_n hx hb dX0_next_2 rfl (lv_at hl 2 rfl) ?_
  refine lv_iload_n hx hb dX0_next_3 rfl (lv_at hl 3 rfl) ?_
  refine lv_iload hx hb dX0_next_4 (lv_at hl 4 rfl) ?_
  refine dV (v := .int (refNowF σ x_ m_ bag set_)) (As := [.int x_, .int m_, .int bag, .int set_]) (rest := []) ⟨hx, hb, hml, hown, hts⟩ (mt_X0_faultOfNow l D dA x ad μ σ ω x_ m_ bag set_ hI hR) (cw_X0_X0_faultOfNow hts ⟨Nat.le_of_ble_eq_true rfl, Nat.le_of_ble_eq_true rfl⟩) cB_bw (cB_now hK hN hP) (va_recv hK hP (ci := 1) (q0 := 0) rfl rfl) rfl hl.1 rfl (Nat.le_of_ble_eq_true rfl) dX0_next_6 ⟨Nat.le_of_ble_eq_true rfl, Nat.le_of_ble_eq_true rfl⟩ ?_
  refine lv_istore (lv' := [(5, .int (refNowF σ x_ m_ bag set_)), (0, .ref x), (1, .int x_), (2, .int m_), (3, .int bag), (4, .int set_)]) hx hb dX0_next_9 hl (by decide) rfl (fun ls hl => ?_)
  refine lv_iload hx hb dX0_next_11 (lv_at hl 0 rfl) ?_
  refine lv_if_eq (tgt := 19) hx hb dX0_next_13 rfl (fun h13 => ?_) (fun h13 => ?_)
  · have h13 : (refNowF σ x_ m_ bag set_) = 0 := h13
    obtain ⟨hk1, hk2, hk3, -, hk5, hk6⟩ := refNow_ok h13
    obtain ⟨j, hj, rfl⟩ := in5 hk1
    have hix : ix (nI j) = j := ix_nI hj (by decide)
    have hs4 := now_N hk2 hk6
    have hU4 := now_U hk3
    refine lv_aload_n hx hb dX0_next_19 rfl (lv_at hl 1 rfl) ?_
    refine lv_iload_n hx hb dX0_next_20 rfl (lv_at hl 2 rfl) ?_
    refine lv_iload_n hx hb dX0_next_21 rfl (lv_at hl 3 rfl) ?_
    refine lv_iload_n hx hb dX0_next_22 rfl (lv_at hl 4 rfl) ?_
    refine lv_iload hx hb dX0_next_23 (lv_at hl 5 rfl) ?_
    refine lv_aload_n hx hb dX0_next_25 rfl (lv_at hl 1 rfl) ?_
    refine dV (v := .int (ptF σ.tools 8)) (As := []) (rest := [.int set_, .int bag, .int m_, .int (nI j), .ref x]) ⟨hx, hb, hml, hown, hts⟩ (mt_X0_parts l D dA x ad μ σ ω hI hR) (cw_X0_X0_parts hts ⟨Nat.le_of_ble_eq_true rfl, Nat.le_of_ble_eq_true rfl⟩) cB_bw (cB_now hK hN hP) (va_recv hK hP (ci := 1) (q0 := 0) rfl rfl) rfl hl.1 rfl (Nat.le_of_ble_eq_true rfl) dX0_next_26 ⟨Nat.le_of_ble_eq_true rfl, Nat.le_of_ble_eq_true rfl⟩ ?_
    refine dV (v := .long (mV σ 4 j m_ bag set_)) (As := [.int (nI j), .int m_, .int bag, .int set_, .int (ptF σ.tools 8)]) (rest := []) ⟨hx, hb, hml, hown, hts⟩ (mt_X0_valueOf_4 l D dA x ad μ σ ω j m_ bag set_ hI hR hJ hj (bag_by hk5) hs4 hU4) (cw_X0_X0_valueOf_4 hts ⟨Nat.le_of_ble_eq_true rfl, Nat.le_of_ble_eq_true rfl⟩) cB_bw (cB_now hK hN hP) (va_recv hK hP (ci := 1) (q0 := 0) rfl rfl) rfl hl.1 rfl (Nat.le_of_ble_eq_true rfl) dX0_next_29 ⟨Nat.le_of_ble_eq_true rfl, Nat.le_of_ble_eq_true rfl⟩ ?_
    refine lv_lstore (lv' := [(6, .long (mV σ 4 j m_ bag set_)), (5, .int (refNowF σ (nI j) m_ bag set_)), (0, .ref x), (1, .int (nI j)), (2, .int m_), (3, .int bag), (4, .int set_)]) hx hb dX0_next_32 hl (by decide) rfl (fun ls hl => ?_)
    refine lv_iconst (v := 0) hx hb dX0_next_34 rfl ?_
    refine lv_istore (lv' := [(8, .int 0), (6, .long (mV σ 4 j m_ bag set_)), (5, .int (refNowF σ (nI j) m_ bag set_)), (0, .ref x), (1, .int (nI j)), (2, .int m_), (3, .int bag), (4, .int set_)]) hx hb dX0_next_35 hl (by decide) rfl (fun ls hl => ?_)
    have hL37_1 : ∀ (n_2 : Nat) (k : Nat) (x8 : Int32) (ls : Array Slot), (6 - k) < n_2 → (k ≤ 6) → (nxF σ (mV σ 3) j m_ bag set_ (mV σ 4 j m_ bag set_) 6 0 = nxF σ (mV σ 3) j m_ bag set_ (mV σ 4 j m_ bag set_) (6 - k) k) → (0 < k → ¬ (mV σ 4 j m_ bag set_) ≤ 0) → x8 = (nI k) → lv_has ls 9 [(8, .int x8), (6, .long (mV σ 4 j m_ bag set_)), (5, .int (refNowF σ (nI j) m_ bag set_)), (0, .ref x), (1, .int (nI j)), (2, .int m_), (3, .int bag), (4, .int set_)] → W p l e rmX0_next s m args below meth c s.heap [] 0 0 Q (F0 m 37 ls []) := by
      intro n_2
      induction n_2 with
      | zero => intro k x8 ls hm_4; exact absurd hm_4 (Nat.not_lt_zero _)
      | succ n_2 ih_3 =>
        intro k x8 ls hm_4 hk hnx hps ex8 hl
        subst ex8
        refine lv_iload hx hb dX0_next_37 (lv_at hl 0 rfl) ?_
        refine lv_bipush (v := 6) hx hb dX0_next_39 rfl ?_
        refine lv_icmp_ge (tgt := 92) hx hb dX0_next_41 rfl (fun h41 => ?_) (fun h41 => ?_)
        · have h41 : 6 ≤ k := (nz_le (a := 6) (b := k) rfl rfl (by omega) (by omega)).mp h41
          obtain rfl : k = 6 := by omega
          refine lv_iconst (v := (-1)) hx hb dX0_next_92 rfl ?_
          exact q_i hQ hx hb hr hlocks rfl (by rw [next_eq hs4 h13 hix, if_neg (hps (by decide)), hnx]; rfl) dX0_next_93
        · have h41 : ¬ (6 ≤ k) := fun z9 => h41 ((nz_le (a := 6) (b := k) rfl rfl (by omega) (by omega)).mpr z9)
          refine lv_lload hx hb dX0_next_44 (lv_at hl 1 rfl) ?_
          refine lv_lconst (v := 0) hx hb dX0_next_46 rfl ?_
          refine W.lcmp hx hb dX0_next_47 ?_
          refine lv_if_le (tgt := 92) hx hb dX0_next_48 rfl (fun h48 => ?_) (fun h48 => ?_)
          · have h48 : (mV σ 4 j m_ bag set_) ≤ 0 := (lg_cmp_le (mV σ 4 j m_ bag set_) 0).mp h48
            refine lv_iconst (v := (-1)) hx hb dX0_next_92 rfl ?_
            exact q_i hQ hx hb hr hlocks rfl (by rw [next_eq hs4 h13 hix, if_pos h48]) dX0_next_93
          · have h48 : ¬ ((mV σ 4 j m_ bag set_) ≤ 0) := fun z9 => h48 ((lg_cmp_le (mV σ 4 j m_ bag set_) 0).mpr z9)
            refine lv_iload hx hb dX0_next_51 (lv_at hl 7 rfl) ?_
            refine lv_iload hx hb dX0_next_53 (lv_at hl 0 rfl) ?_
            refine lv_ishr hx hb dX0_next_55 ?_
            refine lv_iconst (v := 1) hx hb dX0_next_56 rfl ?_
            refine lv_iand hx hb dX0_next_57 ?_
            refine lv_iconst (v := 1) hx hb dX0_next_58 rfl ?_
            refine lv_icmp_ne (tgt := 86) hx hb dX0_next_59 rfl (fun h59 => ?_) (fun h59 => ?_)
            · have h59 : ¬ (((set_ >>> ((nI k) &&& 31)) &&& 1) = 1) := h59
              refine lv_iinc (v := nI (k + 1)) (lv' := [(8, .int (nI (k + 1))), (6, .long (mV σ 4 j m_ bag set_)), (5, .int (refNowF σ (nI j) m_ bag set_)), (0, .ref x), (1, .int (nI j)), (2, .int m_), (3, .int bag), (4, .int set_)]) hx hb dX0_next_86 hl (k := 0) rfl (nI_1 k) (by decide) rfl (fun ls hl => ?_)
              refine lv_goto (tgt := 37) hx hb dX0_next_89 rfl ?_
              exact ih_3 (k + 1) (nI (k + 1)) ls (by omega) (by omega) (by rw [hnx, show 6 - k = (6 - (k + 1)) + 1 by omega, nxF, if_neg h59]) (fun _ => h48) rfl (lv_sub hl [0, 1, 2, 3, 4, 5, 6, 7] rfl)
            · have h59 : ((set_ >>> ((nI k) &&& 31)) &&& 1) = 1 := h59
              refine lv_aload_n hx hb dX0_next_62 rfl (lv_at hl 3 rfl) ?_
              refine lv_iload hx hb dX0_next_63 (lv_at hl 0 rfl) ?_
              refine lv_iload_n hx hb dX0_next_65 rfl (lv_at hl 4 rfl) ?_
              refine lv_iload_n hx hb dX0_next_66 rfl (lv_at hl 5 rfl) ?_
              refine lv_iload_n hx hb dX0_next_67 rfl (lv_at hl 6 rfl) ?_
              refine lv_iload hx hb dX0_next_68 (lv_at hl 7 rfl) ?_
              refine lv_aload_n hx hb dX0_next_70 rfl (lv_at hl 3 rfl) ?_
              refine dV (v := .int (ptF σ.tools 8)) (As := []) (rest := [.int set_, .int bag, .int m_, .int (nI j), .int (nI k), .ref x]) ⟨hx, hb, hml, hown, hts⟩ (mt_X0_parts l D dA x ad μ σ ω hI hR) (cw_X0_X0_parts hts ⟨Nat.le_of_ble_eq_true rfl, Nat.le_of_ble_eq_true rfl⟩) cB_bw (cB_now hK hN hP) (va_recv hK hP (ci := 1) (q0 := 0) rfl rfl) rfl hl.1 rfl (Nat.le_of_ble_eq_true rfl) dX0_next_71 ⟨Nat.le_of_ble_eq_true rfl, Nat.le_of_ble_eq_true rfl⟩ ?_
              refine dV (v := .long (goV σ (mV σ 3) j m_ bag set_ k)) (As := [.int (nI k), .int (nI j), .int m_, .int bag, .int set_, .int (ptF σ.tools 8)]) (rest := []) ⟨hx, hb, hml, hown, hts⟩ (mt_X0_valueBy_4 l D dA x ad μ σ ω k j m_ bag set_ hI hR hJ (by omega) hj (bag_by hk5) hs4 hU4 h59) (cw_X0_X0_valueBy_4 hts ⟨Nat.le_of_ble_eq_true rfl, Nat.le_of_ble_eq_true rfl⟩) cB_bw (cB_now hK hN hP) (va_recv hK hP (ci := 1) (q0 := 0) rfl rfl) rfl hl.1 rfl (Nat.le_of_ble_eq_true rfl) dX0_next_74 ⟨Nat.le_of_ble_eq_true rfl, Nat.le_of_ble_eq_true rfl⟩ ?_
              refine lv_lload hx hb dX0_next_77 (lv_at hl 1 rfl) ?_
              refine W.lcmp hx hb dX0_next_79 ?_
              refine lv_if_ne (tgt := 86) hx hb dX0_next_80 rfl (fun h80 => ?_) (fun h80 => ?_)
              · have h80 : ¬ ((goV σ (mV σ 3) j m_ bag set_ k) = (mV σ 4 j m_ bag set_)) := fun z9 => h80 ((lg_cmp_eq (goV σ (mV σ 3) j m_ bag set_ k) (mV σ 4 j m_ bag set_)).mpr z9)
                refine lv_iinc (v := nI (k + 1)) (lv' := [(8, .int (nI (k + 1))), (6, .long (mV σ 4 j m_ bag set_)), (5, .int (refNowF σ (nI j) m_ bag set_)), (0, .ref x), (1, .int (nI j)), (2, .int m_), (3, .int bag), (4, .int set_)]) hx hb dX0_next_86 hl (k := 0) rfl (nI_1 k) (by decide) rfl (fun ls hl => ?_)
                refine lv_goto (tgt := 37) hx hb dX0_next_89 rfl ?_
                exact ih_3 (k + 1) (nI (k + 1)) ls (by omega) (by omega) (by rw [hnx, show 6 - k = (6 - (k + 1)) + 1 by omega, nxF, if_pos h59, if_neg h80]) (fun _ => h48) rfl (lv_sub hl [0, 1, 2, 3, 4, 5, 6, 7] rfl)
              · have h80 : (goV σ (mV σ 3) j m_ bag set_ k) = (mV σ 4 j m_ bag set_) := (lg_cmp_eq (goV σ (mV σ 3) j m_ bag set_ k) (mV σ 4 j m_ bag set_)).mp h80
                refine lv_iload hx hb dX0_next_83 (lv_at hl 0 rfl) ?_
                exact q_i hQ hx hb hr hlocks rfl (by rw [next_eq hs4 h13 hix, if_neg (Int64.not_le.mpr (Int64.not_le.mp h48)), hnx, show 6 - k = (6 - (k + 1)) + 1 by omega, nxF, if_pos h59, if_pos h80]) dX0_next_85
    exact hL37_1 _ 0 0 ls (Nat.lt_succ_self _) (by omega) rfl (fun q => absurd q (by decide)) rfl (lv_sub hl [0, 1, 2, 3, 4, 5, 6, 7] rfl)
  · have h13 : ¬ ((refNowF σ x_ m_ bag set_) = 0) := h13
    refine lv_iload hx hb dX0_next_16 (lv_at hl 0 rfl) ?_
    exact q_i hQ hx hb hr hlocks rfl (by rw [nextF, if_neg h13]) dX0_next_18
