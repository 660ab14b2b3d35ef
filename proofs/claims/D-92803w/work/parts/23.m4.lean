/-! THE MODEL's METHODS 4: refusals, now, the book -/
set_option maxRecDepth 100000

theorem cw_X3_X3_refuses {R : Room} {s : State} {args : Array Value} (hts : ∀ w ∈ lw_all, w.before args s = true) (hR : rmX3_refuses.frames + 1 ≤ R.frames ∧ 8 + (7 + 11) + rmX3_refuses.locals ≤ R.locals) : CallW R s args RX3 RX3 231 yX3_refuses cX3_refuses 7 (some .int) (ws_ yX3_refuses cX3_refuses 7 (some .int)) rmX3_refuses 0 0 2 := cwV 2 hts (lw_V q1372 q1374 qs53 q83 q1375) rfl rfl rfl (by decide +kernel) hR
def rmX3_refusesBag : Room := { frames := 4, cells := 0, slots := 0, locals := 93 }
set_option maxHeartbeats 1000000 in
theorem mt_X3_refusesBag (l : Launch) (D : va_G) (dA : Nat → ClassId) (h : Nat) (ad : Nat → Nat) (σ : St) (τ : Sc) (bag : Int32) (row : Int32) (n : Int32) (hI : Inv σ) : Met l yX3_refusesBag (ws_ yX3_refusesBag cX3_refusesBag 5 (some .int)) rmX3_refusesBag (va_Pc [.ref h, .int bag, .int row, .int n] (mB D dA h ad σ τ)) (vp_Si (fun r => r = refBF σ bag row n)) 0 0 (fun _ => False) := by
  refine w_start (by decide) (Nat.le_of_ble_eq_true rfl) ?_
  intro p e s m args below meth c Q ls hQ hx hb hr hlocks hml hown hnm hts hB hl
  have hown : s.vm.findClass RX3 = some m.cls := hown
  have hl : lv_has ls 5 [(0, .ref h), (1, .int bag), (2, .int row), (3, .int n)] := hl
  obtain ⟨hP, hK⟩ := hB
  refine lv_aload_n hx hb dX3_refusesBag_0 rfl (lv_at hl 0 rfl) ?_
  refine lv_iload_n hx hb dX3_refusesBag_1 rfl (lv_at hl 2 rfl) ?_
  refine lv_iload_n hx hb dX3_refusesBag_2 rfl (lv_at hl 3 rfl) ?_
  refine cVi (As := [.int row, .int n]) (rest := []) ⟨hx, hb, hml, hown, hts⟩ (mt_X3_refuses l D dA h ad σ τ row n hI) (cw_X3_X3_refuses hts ⟨Nat.le_of_ble_eq_true rfl, Nat.le_of_ble_eq_true rfl⟩) mB_bl (mB_now hK hP) (va_recv hK hP (ci := 0) (q0 := 0) rfl rfl) rfl hl.1 rfl (Nat.le_of_ble_eq_true rfl) dX3_refusesBag_3 ⟨Nat.le_of_ble_eq_true rfl, Nat.le_of_ble_eq_true rfl⟩ ?_
  refine lv_istore (lv' := [(4, .int (refF σ row n)), (0, .ref h), (1, .int bag), (2, .int row), (3, .int n)]) hx hb dX3_refusesBag_6 hl (by decide) rfl (fun ls hl => ?_)
  refine lv_iload hx hb dX3_refusesBag_8 (lv_at hl 0 rfl) ?_
  refine lv_if_ne (tgt := 20) hx hb dX3_refusesBag_10 rfl (fun h10 => ?_) (fun h10 => ?_)
  · have h10 : ¬ ((refF σ row n) = 0) := h10
    refine lv_iload hx hb dX3_refusesBag_20 (lv_at hl 0 rfl) ?_
    refine lv_goto (tgt := 27) hx hb dX3_refusesBag_22 rfl ?_
    exact r_i hQ hx hb hr hlocks rfl (by simp only [refBF, eq_false h10, if_true, if_false, ite_true, ite_false, not_true_eq_false, not_false_eq_true, and_true, true_and, and_false, false_and, or_true, true_or, or_false, false_or, and_self, or_self, eq_self]) dX3_refusesBag_27
  · have h10 : (refF σ row n) = 0 := h10
    refine lv_iload_n hx hb dX3_refusesBag_13 rfl (lv_at hl 2 rfl) ?_
    refine cSi (As := [.int bag]) (rest := []) ⟨hx, hb, hml, hown, hts⟩ (mt_X3_isBag l bag) (cw_X3_X3_isBag hts ⟨Nat.le_of_ble_eq_true rfl, Nat.le_of_ble_eq_true rfl⟩) w_blT (fun _ _ _ => trivial) rfl hl.1 rfl (Nat.le_of_ble_eq_true rfl) dX3_refusesBag_14 ⟨Nat.le_of_ble_eq_true rfl, Nat.le_of_ble_eq_true rfl⟩ ?_
    refine lv_if_eq (tgt := 25) hx hb dX3_refusesBag_17 rfl (fun h17 => ?_) (fun h17 => ?_)
    · have h17 : ¬ (bagP bag) := b01_0.mp h17
      refine lv_bipush (v := (-3)) hx hb dX3_refusesBag_25 rfl ?_
      exact r_i hQ hx hb hr hlocks rfl (by simp only [refBF, eq_true h10, eq_false h17, if_true, if_false, ite_true, ite_false, not_true_eq_false, not_false_eq_true, and_true, true_and, and_false, false_and, or_true, true_or, or_false, false_or, and_self, or_self, eq_self]) dX3_refusesBag_27
    · have h17 : bagP bag := b01_n h17
      refine lv_iload hx hb dX3_refusesBag_20 (lv_at hl 0 rfl) ?_
      refine lv_goto (tgt := 27) hx hb dX3_refusesBag_22 rfl ?_
      exact r_i hQ hx hb hr hlocks rfl (by simp only [refBF, eq_true h10, eq_true h17, if_true, if_false, ite_true, ite_false, not_true_eq_false, not_false_eq_true, and_true, true_and, and_false, false_and, or_true, true_or, or_false, false_or, and_self, or_self, eq_self]) dX3_refusesBag_27

def knF (σ : St) (set : Int32) : Nat → Int32
  | 0 => 1
  | k + 1 => if knF σ set k = 0 then 0 else if hasP set (nI k) then (if useP σ (nI k) then 1 else 0) else 1
def cnF (set : Int32) : Nat → Int32
  | 0 => 0
  | k + 1 => cnF set k + (if hasP set (nI k) then 1 else 0)
def refNowF (σ : St) (x m bag set : Int32) : Int32 := if inP x.toInt64 0 5 then (if inP set.toInt64 0 63 then (if knF σ set 6 = 0 then -2 else if inP m.toInt64 0 1439 then (if bagP bag then (if cnF set 6 ≤ 4 then 0 else -3) else -3) else -3) else -3) else -2
theorem refNow_ok {σ : St} {x m bag set : Int32} (h : refNowF σ x m bag set = 0) : inP x.toInt64 0 5 ∧ inP set.toInt64 0 63 ∧ ¬ knF σ set 6 = 0 ∧ inP m.toInt64 0 1439 ∧ bagP bag ∧ cnF set 6 ≤ 4 := by
  unfold refNowF at h
  by_cases h1 : inP x.toInt64 0 5
  · by_cases h2 : inP set.toInt64 0 63
    · by_cases h3 : knF σ set 6 = 0
      · rw [if_pos h1, if_pos h2, if_pos h3] at h; exact absurd h (by decide)
      · by_cases h4 : inP m.toInt64 0 1439
        · by_cases h5 : bagP bag
          · by_cases h6 : cnF set 6 ≤ 4
            · exact ⟨h1, h2, h3, h4, h5, h6⟩
            · rw [if_pos h1, if_pos h2, if_neg h3, if_pos h4, if_pos h5, if_neg h6] at h; exact absurd h (by decide)
          · rw [if_pos h1, if_pos h2, if_neg h3, if_pos h4, if_neg h5] at h; exact absurd h (by decide)
        · rw [if_pos h1, if_pos h2, if_neg h3, if_neg h4] at h; exact absurd h (by decide)
    · rw [if_pos h1, if_neg h2] at h; exact absurd h (by decide)
  · rw [if_neg h1] at h; exact absurd h (by decide)

def rmX3_refusesNow : Room := { frames := 3, cells := 0, slots := 0, locals := 67 }
set_option maxHeartbeats 1000000 in
theorem mt_X3_refusesNow (l : Launch) (D : va_G) (dA : Nat → ClassId) (h : Nat) (ad : Nat → Nat) (σ : St) (τ : Sc) (x_ : Int32) (m_ : Int32) (bag : Int32) (set_ : Int32) (hI : Inv σ) : Met l yX3_refusesNow (ws_ yX3_refusesNow cX3_refusesNow 8 (some .int)) rmX3_refusesNow (va_Pc [.ref h, .int x_, .int m_, .int bag, .int set_] (mB D dA h ad σ τ)) (vp_Si (fun r => r = refNowF σ x_ m_ bag set_)) 0 0 (fun _ => False) := by
  refine w_start (by decide) (Nat.le_of_ble_eq_true rfl) ?_
  intro p e s m args below meth c Q ls hQ hx hb hr hlocks hml hown hnm hts hB hl
  have hown : s.vm.findClass RX3 = some m.cls := hown
  have hl : lv_has ls 8 [(0, .ref h), (1, .int x_), (2, .int m_), (3, .int bag), (4, .int set_)] := hl
  obtain ⟨hP, hK⟩ := hB
  refine lv_iconst (v := 1) hx hb dX3_refusesNow_0 rfl ?_
  refine lv_istore (lv' := [(5, .int 1), (0, .ref h), (1, .int x_), (2, .int m_), (3, .int bag), (4, .int set_)]) hx hb dX3_refusesNow_1 hl (by decide) rfl (fun ls hl => ?_)
  refine lv_iconst (v := 0) hx hb dX3_refusesNow_3 rfl ?_
  refine lv_istore (lv' := [(6, .int 0), (5, .int 1), (0, .ref h), (1, .int x_), (2, .int m_), (3, .int bag), (4, .int set_)]) hx hb dX3_refusesNow_4 hl (by decide) rfl (fun ls hl => ?_)
  refine lv_iconst (v := 0) hx hb dX3_refusesNow_6 rfl ?_
  refine lv_istore (lv' := [(7, .int 0), (6, .int 0), (5, .int 1), (0, .ref h), (1, .int x_), (2, .int m_), (3, .int bag), (4, .int set_)]) hx hb dX3_refusesNow_7 hl (by decide) rfl (fun ls hl => ?_)
  have hL9_1 : ∀ (n_2 : Nat) (k : Nat) (x7 : Int32) (x6 : Int32) (x5 : Int32) (ls : Array Slot), (6 - k) < n_2 → (k ≤ 6) → x7 = (nI k) → x6 = (cnF set_ k) → x5 = (knF σ set_ k) → lv_has ls 8 [(7, .int x7), (6, .int x6), (5, .int x5), (0, .ref h), (1, .int x_), (2, .int m_), (3, .int bag), (4, .int set_)] → W p l e rmX3_refusesNow s m args below meth c s.heap [] 0 0 Q (F0 m 9 ls []) := by
    intro n_2
    induction n_2 with
    | zero => intro k x7 x6 x5 ls hm_4; exact absurd hm_4 (Nat.not_lt_zero _)
    | succ n_2 ih_3 =>
      intro k x7 x6 x5 ls hm_4 hk ex7 ex6 ex5 hl
      subst ex7 ex6 ex5
      refine lv_iload hx hb dX3_refusesNow_9 (lv_at hl 0 rfl) ?_
      refine lv_bipush (v := 6) hx hb dX3_refusesNow_11 rfl ?_
      refine lv_icmp_ge (tgt := 73) hx hb dX3_refusesNow_13 rfl (fun h13 => ?_) (fun h13 => ?_)
      · have h13 : 6 ≤ k := (nz_le (a := 6) (b := k) rfl rfl (by omega) (by omega)).mp h13
        have hk_ : k = 6 := by omega
        subst hk_
        refine lv_iload_n hx hb dX3_refusesNow_73 rfl (lv_at hl 4 rfl) ?_
        refine lv_i2l (v := (x_ : Int32).toInt64) hx hb dX3_refusesNow_74 rfl ?_
        refine lv_lconst (v := 0) hx hb dX3_refusesNow_75 rfl ?_
        refine lv_ldc2 (v := 5) hx hb hown (hts _ q1303) dX3_refusesNow_76 ?_
        refine cSi (As := [.long ((x_ : Int32).toInt64), .long 0, .long 5]) (rest := []) ⟨hx, hb, hml, hown, hts⟩ (mt_X3_in l ((x_ : Int32).toInt64) 0 5) (cw_X3_X3_in hts ⟨Nat.le_of_ble_eq_true rfl, Nat.le_of_ble_eq_true rfl⟩) w_blT (fun _ _ _ => trivial) rfl hl.1 rfl (Nat.le_of_ble_eq_true rfl) dX3_refusesNow_79 ⟨Nat.le_of_ble_eq_true rfl, Nat.le_of_ble_eq_true rfl⟩ ?_
        refine lv_if_ne (tgt := 88) hx hb dX3_refusesNow_82 rfl (fun h82 => ?_) (fun h82 => ?_)
        · have h82 : inP ((x_ : Int32).toInt64) 0 5 := b01_n h82
          refine lv_iload hx hb dX3_refusesNow_88 (lv_at hl 7 rfl) ?_
          refine lv_i2l (v := (set_ : Int32).toInt64) hx hb dX3_refusesNow_90 rfl ?_
          refine lv_lconst (v := 0) hx hb dX3_refusesNow_91 rfl ?_
          refine lv_ldc2 (v := 63) hx hb hown (hts _ q1444) dX3_refusesNow_92 ?_
          refine cSi (As := [.long ((set_ : Int32).toInt64), .long 0, .long 63]) (rest := []) ⟨hx, hb, hml, hown, hts⟩ (mt_X3_in l ((set_ : Int32).toInt64) 0 63) (cw_X3_X3_in hts ⟨Nat.le_of_ble_eq_true rfl, Nat.le_of_ble_eq_true rfl⟩) w_blT (fun _ _ _ => trivial) rfl hl.1 rfl (Nat.le_of_ble_eq_true rfl) dX3_refusesNow_95 ⟨Nat.le_of_ble_eq_true rfl, Nat.le_of_ble_eq_true rfl⟩ ?_
          refine lv_if_ne (tgt := 104) hx hb dX3_refusesNow_98 rfl (fun h98 => ?_) (fun h98 => ?_)
          · have h98 : inP ((set_ : Int32).toInt64) 0 63 := b01_n h98
            refine lv_iload hx hb dX3_refusesNow_104 (lv_at hl 2 rfl) ?_
            refine lv_if_ne (tgt := 114) hx hb dX3_refusesNow_106 rfl (fun h106 => ?_) (fun h106 => ?_)
            · have h106 : ¬ ((knF σ set_ 6) = 0) := h106
              refine lv_iload_n hx hb dX3_refusesNow_114 rfl (lv_at hl 5 rfl) ?_
              refine lv_i2l (v := (m_ : Int32).toInt64) hx hb dX3_refusesNow_115 rfl ?_
              refine lv_lconst (v := 0) hx hb dX3_refusesNow_116 rfl ?_
              refine lv_ldc2 (v := 1439) hx hb hown (hts _ q1445) dX3_refusesNow_117 ?_
              refine cSi (As := [.long ((m_ : Int32).toInt64), .long 0, .long 1439]) (rest := []) ⟨hx, hb, hml, hown, hts⟩ (mt_X3_in l ((m_ : Int32).toInt64) 0 1439) (cw_X3_X3_in hts ⟨Nat.le_of_ble_eq_true rfl, Nat.le_of_ble_eq_true rfl⟩) w_blT (fun _ _ _ => trivial) rfl hl.1 rfl (Nat.le_of_ble_eq_true rfl) dX3_refusesNow_120 ⟨Nat.le_of_ble_eq_true rfl, Nat.le_of_ble_eq_true rfl⟩ ?_
              refine lv_if_eq (tgt := 139) hx hb dX3_refusesNow_123 rfl (fun h123 => ?_) (fun h123 => ?_)
              · have h123 : ¬ (inP ((m_ : Int32).toInt64) 0 1439) := b01_0.mp h123
                refine lv_bipush (v := (-3)) hx hb dX3_refusesNow_139 rfl ?_
                refine lv_goto (tgt := 145) hx hb dX3_refusesNow_141 rfl ?_
                exact r_i hQ hx hb hr hlocks rfl (by simp only [refNowF, eq_true h13, eq_true h82, eq_true h98, eq_false h106, eq_false h123, if_true, if_false, ite_true, ite_false, not_true_eq_false, not_false_eq_true, and_true, true_and, and_false, false_and, or_true, true_or, or_false, false_or, and_self, or_self, eq_self]) dX3_refusesNow_145
              · have h123 : inP ((m_ : Int32).toInt64) 0 1439 := b01_n h123
                refine lv_iload_n hx hb dX3_refusesNow_126 rfl (lv_at hl 6 rfl) ?_
                refine cSi (As := [.int bag]) (rest := []) ⟨hx, hb, hml, hown, hts⟩ (mt_X3_isBag l bag) (cw_X3_X3_isBag hts ⟨Nat.le_of_ble_eq_true rfl, Nat.le_of_ble_eq_true rfl⟩) w_blT (fun _ _ _ => trivial) rfl hl.1 rfl (Nat.le_of_ble_eq_true rfl) dX3_refusesNow_127 ⟨Nat.le_of_ble_eq_true rfl, Nat.le_of_ble_eq_true rfl⟩ ?_
                refine lv_if_eq (tgt := 139) hx hb dX3_refusesNow_130 rfl (fun h130 => ?_) (fun h130 => ?_)
                · have h130 : ¬ (bagP bag) := b01_0.mp h130
                  refine lv_bipush (v := (-3)) hx hb dX3_refusesNow_139 rfl ?_
                  refine lv_goto (tgt := 145) hx hb dX3_refusesNow_141 rfl ?_
                  exact r_i hQ hx hb hr hlocks rfl (by simp only [refNowF, eq_true h13, eq_true h82, eq_true h98, eq_false h106, eq_true h123, eq_false h130, if_true, if_false, ite_true, ite_false, not_true_eq_false, not_false_eq_true, and_true, true_and, and_false, false_and, or_true, true_or, or_false, false_or, and_self, or_self, eq_self]) dX3_refusesNow_145
                · have h130 : bagP bag := b01_n h130
                  refine lv_iload hx hb dX3_refusesNow_133 (lv_at hl 1 rfl) ?_
                  refine lv_iconst (v := 4) hx hb dX3_refusesNow_135 rfl ?_
                  refine lv_icmp_le (tgt := 144) hx hb dX3_refusesNow_136 rfl (fun h136 => ?_) (fun h136 => ?_)
                  · have h136 : (cnF set_ 6) ≤ 4 := h136
                    refine lv_iconst (v := 0) hx hb dX3_refusesNow_144 rfl ?_
                    exact r_i hQ hx hb hr hlocks rfl (by simp only [refNowF, eq_true h13, eq_true h82, eq_true h98, eq_false h106, eq_true h123, eq_true h130, eq_true h136, if_true, if_false, ite_true, ite_false, not_true_eq_false, not_false_eq_true, and_true, true_and, and_false, false_and, or_true, true_or, or_false, false_or, and_self, or_self, eq_self]) dX3_refusesNow_145
                  · have h136 : ¬ ((cnF set_ 6) ≤ 4) := h136
                    refine lv_bipush (v := (-3)) hx hb dX3_refusesNow_139 rfl ?_
                    refine lv_goto (tgt := 145) hx hb dX3_refusesNow_141 rfl ?_
                    exact r_i hQ hx hb hr hlocks rfl (by simp only [refNowF, eq_true h13, eq_true h82, eq_true h98, eq_false h106, eq_true h123, eq_true h130, eq_false h136, if_true, if_false, ite_true, ite_false, not_true_eq_false, not_false_eq_true, and_true, true_and, and_false, false_and, or_true, true_or, or_false, false_or, and_self, or_self, eq_self]) dX3_refusesNow_145
            · have h106 : (knF σ set_ 6) = 0 := h106
              refine lv_bipush (v := (-2)) hx hb dX3_refusesNow_109 rfl ?_
              refine lv_goto (tgt := 145) hx hb dX3_refusesNow_111 rfl ?_
              exact r_i hQ hx hb hr hlocks rfl (by simp only [refNowF, eq_true h13, eq_true h82, eq_true h98, eq_true h106, if_true, if_false, ite_true, ite_false, not_true_eq_false, not_false_eq_true, and_true, true_and, and_false, false_and, or_true, true_or, or_false, false_or, and_self, or_self, eq_self]) dX3_refusesNow_145
          · have h98 : ¬ (inP ((set_ : Int32).toInt64) 0 63) := b01_0.mp h98
            refine lv_bipush (v := (-3)) hx hb dX3_refusesNow_101 rfl ?_
            exact r_i hQ hx hb hr hlocks rfl (by simp only [refNowF, eq_true h13, eq_true h82, eq_false h98, if_true, if_false, ite_true, ite_false, not_true_eq_false, not_false_eq_true, and_true, true_and, and_false, false_and, or_true, true_or, or_false, false_or, and_self, or_self, eq_self]) dX3_refusesNow_103
        · have h82 : ¬ (inP ((x_ : Int32).toInt64) 0 5) := b01_0.mp h82
          refine lv_bipush (v := (-2)) hx hb dX3_refusesNow_85 rfl ?_
          exact r_i hQ hx hb hr hlocks rfl (by simp only [refNowF, eq_true h13, eq_false h82, if_true, if_false, ite_true, ite_false, not_true_eq_false, not_false_eq_true, and_true, true_and, and_false, false_and, or_true, true_or, or_false, false_or, and_self, or_self, eq_self]) dX3_refusesNow_87
      · have h13 : ¬ (6 ≤ k) := fun z9 => h13 ((nz_le (a := 6) (b := k) rfl rfl (by omega) (by omega)).mpr z9)
        refine lv_iload hx hb dX3_refusesNow_16 (lv_at hl 2 rfl) ?_
        have hJ45_5 : ∀ (v_6 : Int32) (ls : Array Slot), v_6 = (if (knF σ set_ k) = 0 then 0 else if hasP set_ (nI k) then if useP σ (nI k) then 1 else 0 else 1) → lv_has ls 8 [(7, .int (nI k)), (6, .int (cnF set_ k)), (5, .int (knF σ set_ k)), (0, .ref h), (1, .int x_), (2, .int m_), (3, .int bag), (4, .int set_)] → W p l e rmX3_refusesNow s m args below meth c s.heap [] 0 0 Q (F0 m 45 ls [.int v_6]) := by
          intro v_6 ls ev_6 hl
          refine lv_istore (lv' := [(5, .int v_6), (7, .int (nI k)), (6, .int (cnF set_ k)), (0, .ref h), (1, .int x_), (2, .int m_), (3, .int bag), (4, .int set_)]) hx hb dX3_refusesNow_45 hl (by decide) rfl (fun ls hl => ?_)
          refine lv_iload hx hb dX3_refusesNow_47 (lv_at hl 2 rfl) ?_
          refine lv_iload hx hb dX3_refusesNow_49 (lv_at hl 7 rfl) ?_
          refine lv_iload hx hb dX3_refusesNow_51 (lv_at hl 1 rfl) ?_
          refine cSi (As := [.int set_, .int (nI k)]) (rest := [.int (cnF set_ k)]) ⟨hx, hb, hml, hown, hts⟩ (mt_X3_has l set_ (nI k)) (cw_X3_X3_has hts ⟨Nat.le_of_ble_eq_true rfl, Nat.le_of_ble_eq_true rfl⟩) w_blT (fun _ _ _ => trivial) rfl hl.1 rfl (Nat.le_of_ble_eq_true rfl) dX3_refusesNow_53 ⟨Nat.le_of_ble_eq_true rfl, Nat.le_of_ble_eq_true rfl⟩ ?_
          have hJ64_7 : ∀ (v_8 : Int32) (ls : Array Slot), v_8 = (if hasP set_ (nI k) then 1 else 0) → lv_has ls 8 [(5, .int v_6), (7, .int (nI k)), (6, .int (cnF set_ k)), (0, .ref h), (1, .int x_), (2, .int m_), (3, .int bag), (4, .int set_)] → W p l e rmX3_refusesNow s m args below meth c s.heap [] 0 0 Q (F0 m 64 ls [.int v_8, .int (cnF set_ k)]) := by
            intro v_8 ls ev_8 hl
            refine lv_iadd hx hb dX3_refusesNow_64 ?_
            refine lv_istore (lv' := [(6, .int ((cnF set_ k) + v_8)), (5, .int v_6), (7, .int (nI k)), (0, .ref h), (1, .int x_), (2, .int m_), (3, .int bag), (4, .int set_)]) hx hb dX3_refusesNow_65 hl (by decide) rfl (fun ls hl => ?_)
            refine lv_iinc (v := nI (k + 1)) (lv' := [(7, .int (nI (k + 1))), (6, .int ((cnF set_ k) + v_8)), (5, .int v_6), (0, .ref h), (1, .int x_), (2, .int m_), (3, .int bag), (4, .int set_)]) hx hb dX3_refusesNow_67 hl (k := 2) rfl (nI_1 k) (by decide) rfl (fun ls hl => ?_)
            refine lv_goto (tgt := 9) hx hb dX3_refusesNow_70 rfl ?_
            exact ih_3 (k + 1) (nI (k + 1)) ((cnF set_ k) + v_8) v_6 ls (by omega) (by omega) rfl (by subst_vars; rw [cnF]) (by subst_vars; rw [knF]) (lv_sub hl [0, 1, 2, 3, 4, 5, 6, 7] rfl)
          refine lv_if_eq (tgt := 63) hx hb dX3_refusesNow_56 rfl (fun h56 => ?_) (fun h56 => ?_)
          · have h56 : ¬ (hasP set_ (nI k)) := b01_0.mp h56
            refine lv_iconst (v := 0) hx hb dX3_refusesNow_63 rfl ?_
            exact hJ64_7 (0) ls (by rw [if_neg h56]) (lv_sub hl [0, 1, 2, 3, 4, 5, 6, 7] rfl)
          · have h56 : hasP set_ (nI k) := b01_n h56
            refine lv_iconst (v := 1) hx hb dX3_refusesNow_59 rfl ?_
            refine lv_goto (tgt := 64) hx hb dX3_refusesNow_60 rfl ?_
            exact hJ64_7 (1) ls (by rw [if_pos h56]) (lv_sub hl [0, 1, 2, 3, 4, 5, 6, 7] rfl)
        refine lv_if_eq (tgt := 44) hx hb dX3_refusesNow_18 rfl (fun h18 => ?_) (fun h18 => ?_)
        · have h18 : (knF σ set_ k) = 0 := h18
          refine lv_iconst (v := 0) hx hb dX3_refusesNow_44 rfl ?_
          exact hJ45_5 (0) ls (by rw [if_pos h18]) (lv_sub hl [0, 1, 2, 3, 4, 5, 6, 7] rfl)
        · have h18 : ¬ ((knF σ set_ k) = 0) := h18
          refine lv_iload hx hb dX3_refusesNow_21 (lv_at hl 7 rfl) ?_
          refine lv_iload hx hb dX3_refusesNow_23 (lv_at hl 0 rfl) ?_
          refine cSi (As := [.int set_, .int (nI k)]) (rest := []) ⟨hx, hb, hml, hown, hts⟩ (mt_X3_has l set_ (nI k)) (cw_X3_X3_has hts ⟨Nat.le_of_ble_eq_true rfl, Nat.le_of_ble_eq_true rfl⟩) w_blT (fun _ _ _ => trivial) rfl hl.1 rfl (Nat.le_of_ble_eq_true rfl) dX3_refusesNow_25 ⟨Nat.le_of_ble_eq_true rfl, Nat.le_of_ble_eq_true rfl⟩ ?_
          refine lv_if_eq (tgt := 40) hx hb dX3_refusesNow_28 rfl (fun h28 => ?_) (fun h28 => ?_)
          · have h28 : ¬ (hasP set_ (nI k)) := b01_0.mp h28
            refine lv_iconst (v := 1) hx hb dX3_refusesNow_40 rfl ?_
            refine lv_goto (tgt := 45) hx hb dX3_refusesNow_41 rfl ?_
            exact hJ45_5 (1) ls (by rw [if_neg h18, if_neg h28]) (lv_sub hl [0, 1, 2, 3, 4, 5, 6, 7] rfl)
          · have h28 : hasP set_ (nI k) := b01_n h28
            refine lv_aload_n hx hb dX3_refusesNow_31 rfl (lv_at hl 3 rfl) ?_
            refine lv_iload hx hb dX3_refusesNow_32 (lv_at hl 0 rfl) ?_
            refine cVi (As := [.int (nI k)]) (rest := []) ⟨hx, hb, hml, hown, hts⟩ (mt_X3_isUsable l D dA h ad σ τ (nI k) hI) (cw_X3_X3_isUsable hts ⟨Nat.le_of_ble_eq_true rfl, Nat.le_of_ble_eq_true rfl⟩) mB_bl (mB_now hK hP) (va_recv hK hP (ci := 0) (q0 := 0) rfl rfl) rfl hl.1 rfl (Nat.le_of_ble_eq_true rfl) dX3_refusesNow_34 ⟨Nat.le_of_ble_eq_true rfl, Nat.le_of_ble_eq_true rfl⟩ ?_
            refine lv_if_eq (tgt := 44) hx hb dX3_refusesNow_37 rfl (fun h37 => ?_) (fun h37 => ?_)
            · have h37 : ¬ (useP σ (nI k)) := b01_0.mp h37
              refine lv_iconst (v := 0) hx hb dX3_refusesNow_44 rfl ?_
              exact hJ45_5 (0) ls (by rw [if_neg h18, if_pos h28, if_neg h37]) (lv_sub hl [0, 1, 2, 3, 4, 5, 6, 7] rfl)
            · have h37 : useP σ (nI k) := b01_n h37
              refine lv_iconst (v := 1) hx hb dX3_refusesNow_40 rfl ?_
              refine lv_goto (tgt := 45) hx hb dX3_refusesNow_41 rfl ?_
              exact hJ45_5 (1) ls (by rw [if_neg h18, if_pos h28, if_pos h37]) (lv_sub hl [0, 1, 2, 3, 4, 5, 6, 7] rfl)
  exact hL9_1 _ 0 0 0 1 ls (Nat.lt_succ_self _) (by omega) rfl (by subst_vars; rw [cnF]) (by subst_vars; rw [knF]) (lv_sub hl [0, 1, 2, 3, 4, 5, 6, 7] rfl)

def tosF (σ : St) (set : Int32) : Nat → Int64
  | 0 => 1
  | k + 1 => tosF σ set k * (if hasP set (nI k) then (total σ k).toInt64 else 1)
def arrF (σ : St) (x : Nat) (m : Int32) (c : Nat) : Int32 := if σ.calls (6 * c + 1) ≤ m + σ.ways (6 * x + plF σ c) then m + σ.ways (6 * x + plF σ c) else σ.calls (6 * c + 1)
abbrev lateP (σ : St) (t : Int32) (c : Nat) : Prop := ¬ t ≤ σ.calls (6 * c + 2)
def gotF (σ : St) (c : Nat) (left : Int32) : Int64 := if left = -1 then (-σ.calls (6 * c + 4)).toInt64 else (σ.calls (6 * c + 3)).toInt64
def thenF (σ : St) (t : Int32) (c s : Nat) (left : Int32) : Int32 := t + (if left = -1 then σ.calls (6 * c + 5) else σ.sorts (16 * c + 4 * s + 1))

def rmX3_totals : Room := { frames := 1, cells := 0, slots := 0, locals := 23 }
set_option maxHeartbeats 1000000 in
theorem mt_X3_totals (l : Launch) (D : va_G) (dA : Nat → ClassId) (h : Nat) (ad : Nat → Nat) (σ : St) (τ : Sc) (set_ : Int32) (hI : Inv σ) : Met l yX3_totals (ws_ yX3_totals cX3_totals 5 (some .long)) rmX3_totals (va_Pc [.ref h, .int set_] (mB D dA h ad σ τ)) (vp_Sl (fun r => r = tosF σ set_ 6)) 0 0 (fun _ => False) := by
  refine w_start (by decide) (Nat.le_of_ble_eq_true rfl) ?_
  intro p e s m args below meth c Q ls hQ hx hb hr hlocks hml hown hnm hts hB hl
  have hown : s.vm.findClass RX3 = some m.cls := hown
  have hl : lv_has ls 5 [(0, .ref h), (1, .int set_)] := hl
  obtain ⟨hP, hK⟩ := hB
  refine lv_lconst (v := 1) hx hb dX3_totals_0 rfl ?_
  refine lv_lstore_n (lv' := [(2, .long 1), (0, .ref h), (1, .int set_)]) hx hb dX3_totals_1 rfl hl (by decide) rfl (fun ls hl => ?_)
  refine lv_iconst (v := 0) hx hb dX3_totals_2 rfl ?_
  refine lv_istore (lv' := [(4, .int 0), (2, .long 1), (0, .ref h), (1, .int set_)]) hx hb dX3_totals_3 hl (by decide) rfl (fun ls hl => ?_)
  have hL5_1 : ∀ (n_2 : Nat) (k : Nat) (x4 : Int32) (x2 : Int64) (ls : Array Slot), (6 - k) < n_2 → (k ≤ 6) → x4 = (nI k) → x2 = (tosF σ set_ k) → lv_has ls 5 [(4, .int x4), (2, .long x2), (0, .ref h), (1, .int set_)] → W p l e rmX3_totals s m args below meth c s.heap [] 0 0 Q (F0 m 5 ls []) := by
    intro n_2
    induction n_2 with
    | zero => intro k x4 x2 ls hm_4; exact absurd hm_4 (Nat.not_lt_zero _)
    | succ n_2 ih_3 =>
      intro k x4 x2 ls hm_4 hk ex4 ex2 hl
      subst ex4 ex2
      refine lv_iload hx hb dX3_totals_5 (lv_at hl 0 rfl) ?_
      refine lv_bipush (v := 6) hx hb dX3_totals_7 rfl ?_
      refine lv_icmp_ge (tgt := 41) hx hb dX3_totals_9 rfl (fun h9 => ?_) (fun h9 => ?_)
      · have h9 : 6 ≤ k := (nz_le (a := 6) (b := k) rfl rfl (by omega) (by omega)).mp h9
        have hk_ : k = 6 := by omega
        subst hk_
        refine lv_lload_n hx hb dX3_totals_41 rfl (lv_at hl 1 rfl) ?_
        exact r_l hQ hx hb hr hlocks rfl (rfl) dX3_totals_42
      · have h9 : ¬ (6 ≤ k) := fun z9 => h9 ((nz_le (a := 6) (b := k) rfl rfl (by omega) (by omega)).mpr z9)
        refine lv_lload_n hx hb dX3_totals_12 rfl (lv_at hl 1 rfl) ?_
        refine lv_iload_n hx hb dX3_totals_13 rfl (lv_at hl 3 rfl) ?_
        refine lv_iload hx hb dX3_totals_14 (lv_at hl 0 rfl) ?_
        refine cSi (As := [.int set_, .int (nI k)]) (rest := [.long (tosF σ set_ k)]) ⟨hx, hb, hml, hown, hts⟩ (mt_X3_has l set_ (nI k)) (cw_X3_X3_has hts ⟨Nat.le_of_ble_eq_true rfl, Nat.le_of_ble_eq_true rfl⟩) w_blT (fun _ _ _ => trivial) rfl hl.1 rfl (Nat.le_of_ble_eq_true rfl) dX3_totals_16 ⟨Nat.le_of_ble_eq_true rfl, Nat.le_of_ble_eq_true rfl⟩ ?_
        have hJ33_5 : ∀ (v_6 : Int64) (ls : Array Slot), v_6 = (if hasP set_ (nI k) then (total σ k : Int32).toInt64 else 1) → lv_has ls 5 [(4, .int (nI k)), (2, .long (tosF σ set_ k)), (0, .ref h), (1, .int set_)] → W p l e rmX3_totals s m args below meth c s.heap [] 0 0 Q (F0 m 33 ls [.long v_6, .long (tosF σ set_ k)]) := by
          intro v_6 ls ev_6 hl
          refine lv_lmul hx hb dX3_totals_33 ?_
          refine lv_lstore_n (lv' := [(2, .long ((tosF σ set_ k) * v_6)), (4, .int (nI k)), (0, .ref h), (1, .int set_)]) hx hb dX3_totals_34 rfl hl (by decide) rfl (fun ls hl => ?_)
          refine lv_iinc (v := nI (k + 1)) (lv' := [(4, .int (nI (k + 1))), (2, .long ((tosF σ set_ k) * v_6)), (0, .ref h), (1, .int set_)]) hx hb dX3_totals_35 hl (k := 1) rfl (nI_1 k) (by decide) rfl (fun ls hl => ?_)
          refine lv_goto (tgt := 5) hx hb dX3_totals_38 rfl ?_
          exact ih_3 (k + 1) (nI (k + 1)) ((tosF σ set_ k) * v_6) ls (by omega) (by omega) rfl (by subst_vars; rw [tosF]) (lv_sub hl [0, 1, 2, 3] rfl)
        refine lv_if_eq (tgt := 32) hx hb dX3_totals_19 rfl (fun h19 => ?_) (fun h19 => ?_)
        · have h19 : ¬ (hasP set_ (nI k)) := b01_0.mp h19
          refine lv_lconst (v := 1) hx hb dX3_totals_32 rfl ?_
          exact hJ33_5 (1) ls (by rw [if_neg h19]) (lv_sub hl [0, 1, 2, 3] rfl)
        · have h19 : hasP set_ (nI k) := b01_n h19
          refine lv_aload_n hx hb dX3_totals_22 rfl (lv_at hl 2 rfl) ?_
          refine lv_iload hx hb dX3_totals_23 (lv_at hl 0 rfl) ?_
          refine cVi (As := [.int (nI k)]) (rest := [.long (tosF σ set_ k)]) ⟨hx, hb, hml, hown, hts⟩ (mt_X3_totalOf l D dA h ad σ τ k hI (by omega)) (cw_X3_X3_totalOf hts ⟨Nat.le_of_ble_eq_true rfl, Nat.le_of_ble_eq_true rfl⟩) mB_bl (mB_now hK hP) (va_recv hK hP (ci := 0) (q0 := 0) rfl rfl) rfl hl.1 rfl (Nat.le_of_ble_eq_true rfl) dX3_totals_25 ⟨Nat.le_of_ble_eq_true rfl, Nat.le_of_ble_eq_true rfl⟩ ?_
          refine lv_i2l (v := (total σ k : Int32).toInt64) hx hb dX3_totals_28 rfl ?_
          refine lv_goto (tgt := 33) hx hb dX3_totals_29 rfl ?_
          exact hJ33_5 ((total σ k : Int32).toInt64) ls (by rw [if_pos h19]) (lv_sub hl [0, 1, 2, 3] rfl)
  exact hL5_1 _ 0 0 1 ls (Nat.lt_succ_self _) (by omega) rfl (by subst_vars; rw [tosF]) (lv_sub hl [0, 1, 2, 3] rfl)

def rmX3_arrival : Room := { frames := 0, cells := 0, slots := 0, locals := 0 }
set_option maxHeartbeats 1000000 in
theorem mt_X3_arrival (l : Launch) (D : va_G) (dA : Nat → ClassId) (h : Nat) (ad : Nat → Nat) (σ : St) (τ : Sc) (x_ : Nat) (m_ : Int32) (c_ : Nat) (hI : Inv σ) (hx6 : x_ < 6) (hc : c_ < 6) : Met l yX3_arrival (ws_ yX3_arrival cX3_arrival 5 (some .int)) rmX3_arrival (va_Pc [.ref h, .int (nI x_), .int m_, .int (nI c_)] (mB D dA h ad σ τ)) (vp_Si (fun r => r = arrF σ x_ m_ c_)) 0 0 (fun _ => False) := by
  refine w_start (by decide) (Nat.le_of_ble_eq_true rfl) ?_
  intro p e s m args below meth c Q ls hQ hx hb hr hlocks hml hown hnm hts hB hl
  have hown : s.vm.findClass RX3 = some m.cls := hown
  have hl : lv_has ls 5 [(0, .ref h), (1, .int (nI x_)), (2, .int m_), (3, .int (nI c_))] := hl
  obtain ⟨hP, hK⟩ := hB
  have hpl := hI.pl2 c_ hc
  refine lv_iload_n hx hb dX3_arrival_0 rfl (lv_at hl 2 rfl) ?_
  refine lv_aload_n hx hb dX3_arrival_1 rfl (lv_at hl 0 rfl) ?_
  refine va_get (D := D) (ci := 0) (v := .ref (ad 4)) (C := RX3) (T := TX3) (N := 31) hx hb hts in_X3 hown hK hP 0 rfl rfl 10 (by decide) (hts _ q1124) (fun _ h9 => h9) rfl dX3_arrival_2 ?_
  refine lv_bipush (v := 6) hx hb dX3_arrival_5 rfl ?_
  refine lv_iload_n hx hb dX3_arrival_7 rfl (lv_at hl 1 rfl) ?_
  refine lv_imul hx hb dX3_arrival_8 ?_
  refine lv_aload_n hx hb dX3_arrival_9 rfl (lv_at hl 0 rfl) ?_
  refine va_get (D := D) (ci := 0) (v := .ref (ad 5)) (C := RX3) (T := TX3) (N := 31) hx hb hts in_X3 hown hK hP 0 rfl rfl 12 (by decide) (hts _ q1126) (fun _ h9 => h9) rfl dX3_arrival_10 ?_
  refine lv_bipush (v := 6) hx hb dX3_arrival_13 rfl ?_
  refine lv_iload_n hx hb dX3_arrival_15 rfl (lv_at hl 3 rfl) ?_
  refine lv_imul hx hb dX3_arrival_16 ?_
  refine wa_iald (f := σ.calls) hx hb hK hP 6 0 rfl rfl (6 * c_) ((nz_mul rfl rfl)) (by omega) (by decide) dX3_arrival_17 ?_
  refine w_topi (y := nI (plF σ c_)) (hpl.2) ?_
  refine lv_iadd hx hb dX3_arrival_18 ?_
  refine wa_iald (f := σ.ways) hx hb hK hP 5 0 rfl rfl (6 * x_ + plF σ c_) ((nz_add (nz_mul rfl rfl) rfl)) (by have := hpl.1; omega) (by decide) dX3_arrival_19 ?_
  refine lv_iadd hx hb dX3_arrival_20 ?_
  refine lv_istore (lv' := [(4, .int (m_ + (σ.ways (6 * x_ + plF σ c_)))), (0, .ref h), (1, .int (nI x_)), (2, .int m_), (3, .int (nI c_))]) hx hb dX3_arrival_21 hl (by decide) rfl (fun ls hl => ?_)
  refine lv_iload hx hb dX3_arrival_23 (lv_at hl 0 rfl) ?_
  refine lv_aload_n hx hb dX3_arrival_25 rfl (lv_at hl 1 rfl) ?_
  refine va_get (D := D) (ci := 0) (v := .ref (ad 5)) (C := RX3) (T := TX3) (N := 31) hx hb hts in_X3 hown hK hP 0 rfl rfl 12 (by decide) (hts _ q1126) (fun _ h9 => h9) rfl dX3_arrival_26 ?_
  refine lv_bipush (v := 6) hx hb dX3_arrival_29 rfl ?_
  refine lv_iload_n hx hb dX3_arrival_31 rfl (lv_at hl 4 rfl) ?_
  refine lv_imul hx hb dX3_arrival_32 ?_
  refine lv_iconst (v := 1) hx hb dX3_arrival_33 rfl ?_
  refine lv_iadd hx hb dX3_arrival_34 ?_
  refine wa_iald (f := σ.calls) hx hb hK hP 6 0 rfl rfl ((6 * c_) + 1) ((nz_add (nz_mul rfl rfl) rfl)) (by omega) (by decide) dX3_arrival_35 ?_
  refine lv_icmp_ge (tgt := 53) hx hb dX3_arrival_36 rfl (fun h36 => ?_) (fun h36 => ?_)
  · have h36 : (σ.calls ((6 * c_) + 1)) ≤ (m_ + (σ.ways (6 * x_ + plF σ c_))) := h36
    refine lv_iload hx hb dX3_arrival_53 (lv_at hl 0 rfl) ?_
    exact r_i hQ hx hb hr hlocks rfl (by simp only [arrF, eq_true h36, if_true, if_false, ite_true, ite_false, not_true_eq_false, not_false_eq_true, and_true, true_and, and_false, false_and, or_true, true_or, or_false, false_or, and_self, or_self, eq_self]) dX3_arrival_55
  · have h36 : ¬ ((σ.calls ((6 * c_) + 1)) ≤ (m_ + (σ.ways (6 * x_ + plF σ c_)))) := h36
    refine lv_aload_n hx hb dX3_arrival_39 rfl (lv_at hl 1 rfl) ?_
    refine va_get (D := D) (ci := 0) (v := .ref (ad 5)) (C := RX3) (T := TX3) (N := 31) hx hb hts in_X3 hown hK hP 0 rfl rfl 12 (by decide) (hts _ q1126) (fun _ h9 => h9) rfl dX3_arrival_40 ?_
    refine lv_bipush (v := 6) hx hb dX3_arrival_43 rfl ?_
    refine lv_iload_n hx hb dX3_arrival_45 rfl (lv_at hl 4 rfl) ?_
    refine lv_imul hx hb dX3_arrival_46 ?_
    refine lv_iconst (v := 1) hx hb dX3_arrival_47 rfl ?_
    refine lv_iadd hx hb dX3_arrival_48 ?_
    refine wa_iald (f := σ.calls) hx hb hK hP 6 0 rfl rfl ((6 * c_) + 1) ((nz_add (nz_mul rfl rfl) rfl)) (by omega) (by decide) dX3_arrival_49 ?_
    refine lv_goto (tgt := 55) hx hb dX3_arrival_50 rfl ?_
    exact r_i hQ hx hb hr hlocks rfl (by simp only [arrF, eq_false h36, if_true, if_false, ite_true, ite_false, not_true_eq_false, not_false_eq_true, and_true, true_and, and_false, false_and, or_true, true_or, or_false, false_or, and_self, or_self, eq_self]) dX3_arrival_55

def rmX3_isLate : Room := { frames := 0, cells := 0, slots := 0, locals := 0 }
set_option maxHeartbeats 1000000 in
theorem mt_X3_isLate (l : Launch) (D : va_G) (dA : Nat → ClassId) (h : Nat) (ad : Nat → Nat) (σ : St) (τ : Sc) (t_ : Int32) (c_ : Nat) (hc : c_ < 6) : Met l yX3_isLate (ws_ yX3_isLate cX3_isLate 3 (some .boolean)) rmX3_isLate (va_Pc [.ref h, .int t_, .int (nI c_)] (mB D dA h ad σ τ)) (vp_Si (fun r => r = b01 (lateP σ t_ c_))) 0 0 (fun _ => False) := by
  refine w_start (by decide) (Nat.le_of_ble_eq_true rfl) ?_
  intro p e s m args below meth c Q ls hQ hx hb hr hlocks hml hown hnm hts hB hl
  have hown : s.vm.findClass RX3 = some m.cls := hown
  have hl : lv_has ls 3 [(0, .ref h), (1, .int t_), (2, .int (nI c_))] := hl
  obtain ⟨hP, hK⟩ := hB
  refine lv_iload_n hx hb dX3_isLate_0 rfl (lv_at hl 1 rfl) ?_
  refine lv_aload_n hx hb dX3_isLate_1 rfl (lv_at hl 0 rfl) ?_
  refine va_get (D := D) (ci := 0) (v := .ref (ad 5)) (C := RX3) (T := TX3) (N := 31) hx hb hts in_X3 hown hK hP 0 rfl rfl 12 (by decide) (hts _ q1126) (fun _ h9 => h9) rfl dX3_isLate_2 ?_
  refine lv_bipush (v := 6) hx hb dX3_isLate_5 rfl ?_
  refine lv_iload_n hx hb dX3_isLate_7 rfl (lv_at hl 2 rfl) ?_
  refine lv_imul hx hb dX3_isLate_8 ?_
  refine lv_iconst (v := 2) hx hb dX3_isLate_9 rfl ?_
  refine lv_iadd hx hb dX3_isLate_10 ?_
  refine wa_iald (f := σ.calls) hx hb hK hP 6 0 rfl rfl ((6 * c_) + 2) ((nz_add (nz_mul rfl rfl) rfl)) (by omega) (by decide) dX3_isLate_11 ?_
  refine lv_icmp_le (tgt := 19) hx hb dX3_isLate_12 rfl (fun h12 => ?_) (fun h12 => ?_)
  · have h12 : t_ ≤ (σ.calls ((6 * c_) + 2)) := h12
    refine lv_iconst (v := 0) hx hb dX3_isLate_19 rfl ?_
    exact r_z hQ hx hb hr hlocks rfl (Or.inl rfl) ((b01_f (by simp only [lateP, eq_true h12, not_true_eq_false, not_false_eq_true, and_true, true_and, and_false, false_and, or_true, true_or, or_false, false_or, and_self, or_self, eq_self])).symm) dX3_isLate_20
  · have h12 : ¬ (t_ ≤ (σ.calls ((6 * c_) + 2))) := h12
    refine lv_iconst (v := 1) hx hb dX3_isLate_15 rfl ?_
    refine lv_goto (tgt := 20) hx hb dX3_isLate_16 rfl ?_
    exact r_z hQ hx hb hr hlocks rfl (Or.inr rfl) ((b01_t (by simp only [lateP, eq_false h12, not_true_eq_false, not_false_eq_true, and_true, true_and, and_false, false_and, or_true, true_or, or_false, false_or, and_self, or_self, eq_self])).symm) dX3_isLate_20

def rmX3_got : Room := { frames := 0, cells := 0, slots := 0, locals := 0 }
set_option maxHeartbeats 1000000 in
theorem mt_X3_got (l : Launch) (D : va_G) (dA : Nat → ClassId) (h : Nat) (ad : Nat → Nat) (σ : St) (τ : Sc) (c_ : Nat) (lf : Int32) (hc : c_ < 6) : Met l yX3_got (ws_ yX3_got cX3_got 3 (some .long)) rmX3_got (va_Pc [.ref h, .int (nI c_), .int lf] (mB D dA h ad σ τ)) (vp_Sl (fun r => r = gotF σ c_ lf)) 0 0 (fun _ => False) := by
  refine w_start (by decide) (Nat.le_of_ble_eq_true rfl) ?_
  intro p e s m args below meth c Q ls hQ hx hb hr hlocks hml hown hnm hts hB hl
  have hown : s.vm.findClass RX3 = some m.cls := hown
  have hl : lv_has ls 3 [(0, .ref h), (1, .int (nI c_)), (2, .int lf)] := hl
  obtain ⟨hP, hK⟩ := hB
  refine lv_iload_n hx hb dX3_got_0 rfl (lv_at hl 2 rfl) ?_
  refine lv_iconst (v := (-1)) hx hb dX3_got_1 rfl ?_
  refine lv_icmp_ne (tgt := 21) hx hb dX3_got_2 rfl (fun h2 => ?_) (fun h2 => ?_)
  · have h2 : ¬ (lf = (-1)) := h2
    refine lv_aload_n hx hb dX3_got_21 rfl (lv_at hl 0 rfl) ?_
    refine va_get (D := D) (ci := 0) (v := .ref (ad 5)) (C := RX3) (T := TX3) (N := 31) hx hb hts in_X3 hown hK hP 0 rfl rfl 12 (by decide) (hts _ q1126) (fun _ h9 => h9) rfl dX3_got_22 ?_
    refine lv_bipush (v := 6) hx hb dX3_got_25 rfl ?_
    refine lv_iload_n hx hb dX3_got_27 rfl (lv_at hl 1 rfl) ?_
    refine lv_imul hx hb dX3_got_28 ?_
    refine lv_iconst (v := 3) hx hb dX3_got_29 rfl ?_
    refine lv_iadd hx hb dX3_got_30 ?_
    refine wa_iald (f := σ.calls) hx hb hK hP 6 0 rfl rfl ((6 * c_) + 3) ((nz_add (nz_mul rfl rfl) rfl)) (by omega) (by decide) dX3_got_31 ?_
    refine lv_i2l (v := (σ.calls ((6 * c_) + 3) : Int32).toInt64) hx hb dX3_got_32 rfl ?_
    exact r_l hQ hx hb hr hlocks rfl (by simp only [gotF, eq_false h2, if_true, if_false, ite_true, ite_false, not_true_eq_false, not_false_eq_true, and_true, true_and, and_false, false_and, or_true, true_or, or_false, false_or, and_self, or_self, eq_self]) dX3_got_33
  · have h2 : lf = (-1) := h2
    refine lv_aload_n hx hb dX3_got_5 rfl (lv_at hl 0 rfl) ?_
    refine va_get (D := D) (ci := 0) (v := .ref (ad 5)) (C := RX3) (T := TX3) (N := 31) hx hb hts in_X3 hown hK hP 0 rfl rfl 12 (by decide) (hts _ q1126) (fun _ h9 => h9) rfl dX3_got_6 ?_
    refine lv_bipush (v := 6) hx hb dX3_got_9 rfl ?_
    refine lv_iload_n hx hb dX3_got_11 rfl (lv_at hl 1 rfl) ?_
    refine lv_imul hx hb dX3_got_12 ?_
    refine lv_iconst (v := 4) hx hb dX3_got_13 rfl ?_
    refine lv_iadd hx hb dX3_got_14 ?_
    refine wa_iald (f := σ.calls) hx hb hK hP 6 0 rfl rfl ((6 * c_) + 4) ((nz_add (nz_mul rfl rfl) rfl)) (by omega) (by decide) dX3_got_15 ?_
    refine lv_ineg hx hb dX3_got_16 ?_
    refine lv_i2l (v := (-(σ.calls ((6 * c_) + 4)) : Int32).toInt64) hx hb dX3_got_17 rfl ?_
    refine lv_goto (tgt := 33) hx hb dX3_got_18 rfl ?_
    exact r_l hQ hx hb hr hlocks rfl (by simp only [gotF, eq_true h2, if_true, if_false, ite_true, ite_false, not_true_eq_false, not_false_eq_true, and_true, true_and, and_false, false_and, or_true, true_or, or_false, false_or, and_self, or_self, eq_self]) dX3_got_33

def rmX3_then : Room := { frames := 0, cells := 0, slots := 0, locals := 0 }
set_option maxHeartbeats 1000000 in
theorem mt_X3_then (l : Launch) (D : va_G) (dA : Nat → ClassId) (h : Nat) (ad : Nat → Nat) (σ : St) (τ : Sc) (t_ : Int32) (c_ : Nat) (s_ : Nat) (lf : Int32) (hc : c_ < 6) (hs : s_ < 4) : Met l yX3_then (ws_ yX3_then cX3_then 5 (some .int)) rmX3_then (va_Pc [.ref h, .int t_, .int (nI c_), .int (nI s_), .int lf] (mB D dA h ad σ τ)) (vp_Si (fun r => r = thenF σ t_ c_ s_ lf)) 0 0 (fun _ => False) := by
  refine w_start (by decide) (Nat.le_of_ble_eq_true rfl) ?_
  intro p e s m args below meth c Q ls hQ hx hb hr hlocks hml hown hnm hts hB hl
  have hown : s.vm.findClass RX3 = some m.cls := hown
  have hl : lv_has ls 5 [(0, .ref h), (1, .int t_), (2, .int (nI c_)), (3, .int (nI s_)), (4, .int lf)] := hl
  obtain ⟨hP, hK⟩ := hB
  refine lv_iload_n hx hb dX3_then_0 rfl (lv_at hl 1 rfl) ?_
  refine lv_iload hx hb dX3_then_1 (lv_at hl 4 rfl) ?_
  refine lv_iconst (v := (-1)) hx hb dX3_then_3 rfl ?_
  have hJ36_1 : ∀ (v_2 : Int32) (ls : Array Slot), v_2 = (if lf = (-1) then σ.calls ((6 * c_) + 5) else σ.sorts (((16 * c_) + (4 * s_)) + 1)) → lv_has ls 5 [(0, .ref h), (1, .int t_), (2, .int (nI c_)), (3, .int (nI s_)), (4, .int lf)] → W p l e rmX3_then s m args below meth c s.heap [] 0 0 Q (F0 m 36 ls [.int v_2, .int t_]) := by
    intro v_2 ls ev_2 hl
    refine lv_iadd hx hb dX3_then_36 ?_
    exact r_i hQ hx hb hr hlocks rfl (by subst_vars; rfl) dX3_then_37
  refine lv_icmp_ne (tgt := 21) hx hb dX3_then_4 rfl (fun h4 => ?_) (fun h4 => ?_)
  · have h4 : ¬ (lf = (-1)) := h4
    refine lv_aload_n hx hb dX3_then_21 rfl (lv_at hl 0 rfl) ?_
    refine va_get (D := D) (ci := 0) (v := .ref (ad 7)) (C := RX3) (T := TX3) (N := 31) hx hb hts in_X3 hown hK hP 0 rfl rfl 14 (by decide) (hts _ q1128) (fun _ h9 => h9) rfl dX3_then_22 ?_
    refine lv_bipush (v := 16) hx hb dX3_then_25 rfl ?_
    refine lv_iload_n hx hb dX3_then_27 rfl (lv_at hl 2 rfl) ?_
    refine lv_imul hx hb dX3_then_28 ?_
    refine lv_iconst (v := 4) hx hb dX3_then_29 rfl ?_
    refine lv_iload_n hx hb dX3_then_30 rfl (lv_at hl 3 rfl) ?_
    refine lv_imul hx hb dX3_then_31 ?_
    refine lv_iadd hx hb dX3_then_32 ?_
    refine lv_iconst (v := 1) hx hb dX3_then_33 rfl ?_
    refine lv_iadd hx hb dX3_then_34 ?_
    refine wa_iald (f := σ.sorts) hx hb hK hP 8 0 rfl rfl (((16 * c_) + (4 * s_)) + 1) ((nz_add (nz_add (nz_mul rfl rfl) (nz_mul rfl rfl)) rfl)) (by omega) (by decide) dX3_then_35 ?_
    exact hJ36_1 (σ.sorts (((16 * c_) + (4 * s_)) + 1)) ls (by rw [if_neg h4]) (lv_sub hl [0, 1, 2, 3, 4] rfl)
  · have h4 : lf = (-1) := h4
    refine lv_aload_n hx hb dX3_then_7 rfl (lv_at hl 0 rfl) ?_
    refine va_get (D := D) (ci := 0) (v := .ref (ad 5)) (C := RX3) (T := TX3) (N := 31) hx hb hts in_X3 hown hK hP 0 rfl rfl 12 (by decide) (hts _ q1126) (fun _ h9 => h9) rfl dX3_then_8 ?_
    refine lv_bipush (v := 6) hx hb dX3_then_11 rfl ?_
    refine lv_iload_n hx hb dX3_then_13 rfl (lv_at hl 2 rfl) ?_
    refine lv_imul hx hb dX3_then_14 ?_
    refine lv_iconst (v := 5) hx hb dX3_then_15 rfl ?_
    refine lv_iadd hx hb dX3_then_16 ?_
    refine wa_iald (f := σ.calls) hx hb hK hP 6 0 rfl rfl ((6 * c_) + 5) ((nz_add (nz_mul rfl rfl) rfl)) (by omega) (by decide) dX3_then_17 ?_
    refine lv_goto (tgt := 36) hx hb dX3_then_18 rfl ?_
    exact hJ36_1 (σ.calls ((6 * c_) + 5)) ls (by rw [if_pos h4]) (lv_sub hl [0, 1, 2, 3, 4] rfl)

abbrev ValT : Type := Nat → Int32 → Int32 → Int32 → Int64
def restF (set : Int32) (c : Nat) : Int32 := set &&& (((1 : Int32) <<< (nI c &&& 31)) ^^^ (-1))
def oneS (σ : St) (bag : Int32) (c : Nat) : Nat → Int64
  | 0 => 0
  | k + 1 => oneS σ bag c k + (σ.sorts (16 * c + 4 * k)).toInt64 * gotF σ c (leftF σ bag c k)
def oneC (σ : St) (x : Nat) (m bag : Int32) (c : Nat) : Int64 := if lateP σ (arrF σ x m c) c then (total σ c).toInt64 * gotF σ c (-1) else oneS σ bag c (σ.sm c)
def oneG (σ : St) (x : Nat) (m bag set : Int32) : Nat → Int64
  | 0 => 0
  | k + 1 => if hasP set (nI k) then (if oneC σ x m bag k ≤ oneG σ x m bag set k then oneG σ x m bag set k else oneC σ x m bag k) else oneG σ x m bag set k
def oneF (σ : St) : ValT := fun x m bag set => oneG σ x m bag set 6
def gosS (σ : St) (V : ValT) (t bag rest : Int32) (by_ : Int64) (c : Nat) : Nat → Int64
  | 0 => 0
  | k + 1 => gosS σ V t bag rest by_ c k + (σ.sorts (16 * c + 4 * k)).toInt64 * (gotF σ c (leftF σ bag c k) * by_ + V (plF σ c) (thenF σ t c k (leftF σ bag c k)) (if leftF σ bag c k = -1 then bag else leftF σ bag c k) rest)
/-- to go to the call c first, then as V says -/
def goV (σ : St) (V : ValT) (x : Nat) (m bag set : Int32) (c : Nat) : Int64 := if lateP σ (arrF σ x m c) c then (total σ c).toInt64 * (gotF σ c (-1) * tosF σ (restF set c) 6 + V (plF σ c) (arrF σ x m c) bag (restF set c)) else gosS σ V (arrF σ x m c) bag (restF set c) (tosF σ (restF set c) 6) c (σ.sm c)
def maxG (σ : St) (V : ValT) (x : Nat) (m bag set : Int32) : Nat → Int64
  | 0 => 0
  | k + 1 => if (if hasP set (nI k) then goV σ V x m bag set k else 0) ≤ maxG σ V x m bag set k then maxG σ V x m bag set k else (if hasP set (nI k) then goV σ V x m bag set k else 0)
def maxV (σ : St) (V : ValT) : ValT := fun x m bag set => maxG σ V x m bag set 6

theorem cw_X3_X3_arrival {R : Room} {s : State} {args : Array Value} (hts : ∀ w ∈ lw_all, w.before args s = true) (hR : rmX3_arrival.frames + 1 ≤ R.frames ∧ 8 + (5 + 11) + rmX3_arrival.locals ≤ R.locals) : CallW R s args RX3 RX3 263 yX3_arrival cX3_arrival 5 (some .int) (ws_ yX3_arrival cX3_arrival 5 (some .int)) rmX3_arrival 0 0 3 := cwV 3 hts (lw_V q1454 q1456 qs64 q83 q1457) rfl rfl rfl (by decide +kernel) hR
theorem cw_X3_X3_isLate {R : Room} {s : State} {args : Array Value} (hts : ∀ w ∈ lw_all, w.before args s = true) (hR : rmX3_isLate.frames + 1 ≤ R.frames ∧ 8 + (3 + 11) + rmX3_isLate.locals ≤ R.locals) : CallW R s args RX3 RX3 266 yX3_isLate cX3_isLate 3 (some .boolean) (ws_ yX3_isLate cX3_isLate 3 (some .boolean)) rmX3_isLate 0 0 2 := cwV 2 hts (lw_V q1462 q1464 qs66 q83 q1465) rfl rfl rfl (by decide +kernel) hR
theorem cw_X3_X3_got {R : Room} {s : State} {args : Array Value} (hts : ∀ w ∈ lw_all, w.before args s = true) (hR : rmX3_got.frames + 1 ≤ R.frames ∧ 8 + (3 + 11) + rmX3_got.locals ≤ R.locals) : CallW R s args RX3 RX3 269 yX3_got cX3_got 3 (some .long) (ws_ yX3_got cX3_got 3 (some .long)) rmX3_got 0 0 2 := cwV 2 hts (lw_V q1466 q1468 qs67 q83 q1469) rfl rfl rfl (by decide +kernel) hR
def rmX3_one : Room := { frames := 2, cells := 0, slots := 0, locals := 50 }
set_option maxHeartbeats 1000000 in
theorem mt_X3_one (l : Launch) (D : va_G) (dA : Nat → ClassId) (h : Nat) (ad : Nat → Nat) (σ : St) (τ : Sc) (x_ : Nat) (m_ : Int32) (bag : Int32) (set_ : Int32) (hI : Inv σ) (hx6 : x_ < 6) : Met l yX3_one (ws_ yX3_one cX3_one 12 (some .long)) rmX3_one (va_Pc [.ref h, .int (nI x_), .int m_, .int bag, .int set_] (mB D dA h ad σ τ)) (vp_Sl (fun r => r = oneF σ x_ m_ bag set_)) 0 0 (fun _ => False) := by
  refine w_start (by decide) (Nat.le_of_ble_eq_true rfl) ?_
  intro p e s m args below meth c Q ls hQ hx hb hr hlocks hml hown hnm hts hB hl
  have hown : s.vm.findClass RX3 = some m.cls := hown
  have hl : lv_has ls 12 [(0, .ref h), (1, .int (nI x_)), (2, .int m_), (3, .int bag), (4, .int set_)] := hl
  obtain ⟨hP, hK⟩ := hB
  refine lv_lconst (v := 0) hx hb dX3_one_0 rfl ?_
  refine lv_lstore (lv' := [(5, .long 0), (0, .ref h), (1, .int (nI x_)), (2, .int m_), (3, .int bag), (4, .int set_)]) hx hb dX3_one_1 hl (by decide) rfl (fun ls hl => ?_)
  refine lv_iconst (v := 0) hx hb dX3_one_3 rfl ?_
  refine lv_istore (lv' := [(7, .int 0), (5, .long 0), (0, .ref h), (1, .int (nI x_)), (2, .int m_), (3, .int bag), (4, .int set_)]) hx hb dX3_one_4 hl (by decide) rfl (fun ls hl => ?_)
  have hL6_1 : ∀ (n_2 : Nat) (k : Nat) (x7 : Int32) (x5 : Int64) (ls : Array Slot), (6 - k) < n_2 → (k ≤ 6) → x7 = (nI k) → x5 = (oneG σ x_ m_ bag set_ k) → lv_has ls 12 [(7, .int x7), (5, .long x5), (0, .ref h), (1, .int (nI x_)), (2, .int m_), (3, .int bag), (4, .int set_)] → W p l e rmX3_one s m args below meth c s.heap [] 0 0 Q (F0 m 6 ls []) := by
    intro n_2
    induction n_2 with
    | zero => intro k x7 x5 ls hm_4; exact absurd hm_4 (Nat.not_lt_zero _)
    | succ n_2 ih_3 =>
      intro k x7 x5 ls hm_4 hk ex7 ex5 hl
      subst ex7 ex5
      refine lv_iload hx hb dX3_one_6 (lv_at hl 0 rfl) ?_
      refine lv_bipush (v := 6) hx hb dX3_one_8 rfl ?_
      refine lv_icmp_ge (tgt := 157) hx hb dX3_one_10 rfl (fun h10 => ?_) (fun h10 => ?_)
      · have h10 : 6 ≤ k := (nz_le (a := 6) (b := k) rfl rfl (by omega) (by omega)).mp h10
        have hk_ : k = 6 := by omega
        subst hk_
        refine lv_lload hx hb dX3_one_157 (lv_at hl 1 rfl) ?_
        exact r_l hQ hx hb hr hlocks rfl (rfl) dX3_one_159
      · have h10 : ¬ (6 ≤ k) := fun z9 => h10 ((nz_le (a := 6) (b := k) rfl rfl (by omega) (by omega)).mpr z9)
        refine lv_iload hx hb dX3_one_13 (lv_at hl 6 rfl) ?_
        refine lv_iload hx hb dX3_one_15 (lv_at hl 0 rfl) ?_
        refine cSi (As := [.int set_, .int (nI k)]) (rest := []) ⟨hx, hb, hml, hown, hts⟩ (mt_X3_has l set_ (nI k)) (cw_X3_X3_has hts ⟨Nat.le_of_ble_eq_true rfl, Nat.le_of_ble_eq_true rfl⟩) w_blT (fun _ _ _ => trivial) rfl hl.1 rfl (Nat.le_of_ble_eq_true rfl) dX3_one_17 ⟨Nat.le_of_ble_eq_true rfl, Nat.le_of_ble_eq_true rfl⟩ ?_
        have hJ151_5 : ∀ (v_6 : Int64) (ls : Array Slot), v_6 = (if hasP set_ (nI k) then if (oneC σ x_ m_ bag k) ≤ (oneG σ x_ m_ bag set_ k) then oneG σ x_ m_ bag set_ k else oneC σ x_ m_ bag k else oneG σ x_ m_ bag set_ k) → lv_has ls 12 [(7, .int (nI k)), (5, .long v_6), (0, .ref h), (1, .int (nI x_)), (2, .int m_), (3, .int bag), (4, .int set_)] → W p l e rmX3_one s m args below meth c s.heap [] 0 0 Q (F0 m 151 ls []) := by
          intro v_6 ls ev_6 hl
          refine lv_iinc (v := nI (k + 1)) (lv' := [(7, .int (nI (k + 1))), (5, .long v_6), (0, .ref h), (1, .int (nI x_)), (2, .int m_), (3, .int bag), (4, .int set_)]) hx hb dX3_one_151 hl (k := 0) rfl (nI_1 k) (by decide) rfl (fun ls hl => ?_)
          refine lv_goto (tgt := 6) hx hb dX3_one_154 rfl ?_
          exact ih_3 (k + 1) (nI (k + 1)) v_6 ls (by omega) (by omega) rfl (by subst_vars; rw [oneG]) (lv_sub hl [0, 1, 2, 3, 4, 5, 6] rfl)
        refine lv_if_eq (tgt := 151) hx hb dX3_one_20 rfl (fun h20 => ?_) (fun h20 => ?_)
        · have h20 : ¬ (hasP set_ (nI k)) := b01_0.mp h20
          exact hJ151_5 (oneG σ x_ m_ bag set_ k) ls (by rw [if_neg h20]) (lv_sub hl [0, 1, 2, 3, 4, 5, 6] rfl)
        · have h20 : hasP set_ (nI k) := b01_n h20
          have hsm := hI.sm k (by omega)
          refine lv_aload_n hx hb dX3_one_23 rfl (lv_at hl 2 rfl) ?_
          refine lv_iload_n hx hb dX3_one_24 rfl (lv_at hl 3 rfl) ?_
          refine lv_iload_n hx hb dX3_one_25 rfl (lv_at hl 4 rfl) ?_
          refine lv_iload hx hb dX3_one_26 (lv_at hl 0 rfl) ?_
          refine cVi (As := [.int (nI x_), .int m_, .int (nI k)]) (rest := []) ⟨hx, hb, hml, hown, hts⟩ (mt_X3_arrival l D dA h ad σ τ x_ m_ k hI (by omega) (by omega)) (cw_X3_X3_arrival hts ⟨Nat.le_of_ble_eq_true rfl, Nat.le_of_ble_eq_true rfl⟩) mB_bl (mB_now hK hP) (va_recv hK hP (ci := 0) (q0 := 0) rfl rfl) rfl hl.1 rfl (Nat.le_of_ble_eq_true rfl) dX3_one_28 ⟨Nat.le_of_ble_eq_true rfl, Nat.le_of_ble_eq_true rfl⟩ ?_
          refine lv_istore (lv' := [(8, .int (arrF σ x_ m_ k)), (7, .int (nI k)), (5, .long (oneG σ x_ m_ bag set_ k)), (0, .ref h), (1, .int (nI x_)), (2, .int m_), (3, .int bag), (4, .int set_)]) hx hb dX3_one_31 hl (by decide) rfl (fun ls hl => ?_)
          refine lv_aload_n hx hb dX3_one_33 rfl (lv_at hl 3 rfl) ?_
          refine lv_iload hx hb dX3_one_34 (lv_at hl 0 rfl) ?_
          refine lv_iload hx hb dX3_one_36 (lv_at hl 1 rfl) ?_
          refine cVi (As := [.int (arrF σ x_ m_ k), .int (nI k)]) (rest := []) ⟨hx, hb, hml, hown, hts⟩ (mt_X3_isLate l D dA h ad σ τ (arrF σ x_ m_ k) k (by omega)) (cw_X3_X3_isLate hts ⟨Nat.le_of_ble_eq_true rfl, Nat.le_of_ble_eq_true rfl⟩) mB_bl (mB_now hK hP) (va_recv hK hP (ci := 0) (q0 := 0) rfl rfl) rfl hl.1 rfl (Nat.le_of_ble_eq_true rfl) dX3_one_38 ⟨Nat.le_of_ble_eq_true rfl, Nat.le_of_ble_eq_true rfl⟩ ?_
          have hJ63_7 : ∀ (v_8 : Int64) (ls : Array Slot), v_8 = (if lateP σ (arrF σ x_ m_ k) k then ((total σ k : Int32).toInt64) * (gotF σ k (-1)) else 0) → lv_has ls 12 [(8, .int (arrF σ x_ m_ k)), (7, .int (nI k)), (5, .long (oneG σ x_ m_ bag set_ k)), (0, .ref h), (1, .int (nI x_)), (2, .int m_), (3, .int bag), (4, .int set_)] → W p l e rmX3_one s m args below meth c s.heap [] 0 0 Q (F0 m 63 ls [.long v_8]) := by
            intro v_8 ls ev_8 hl
            refine lv_lstore (lv' := [(9, .long v_8), (8, .int (arrF σ x_ m_ k)), (7, .int (nI k)), (5, .long (oneG σ x_ m_ bag set_ k)), (0, .ref h), (1, .int (nI x_)), (2, .int m_), (3, .int bag), (4, .int set_)]) hx hb dX3_one_63 hl (by decide) rfl (fun ls hl => ?_)
            refine lv_iconst (v := 0) hx hb dX3_one_65 rfl ?_
            refine lv_istore (lv' := [(11, .int 0), (9, .long v_8), (8, .int (arrF σ x_ m_ k)), (7, .int (nI k)), (5, .long (oneG σ x_ m_ bag set_ k)), (0, .ref h), (1, .int (nI x_)), (2, .int m_), (3, .int bag), (4, .int set_)]) hx hb dX3_one_66 hl (by decide) rfl (fun ls hl => ?_)
            have hL68_9 : ∀ (n_10 : Nat) (i : Nat) (x11 : Int32) (x9 : Int64) (ls : Array Slot), (4 - i) < n_10 → (i ≤ σ.sm k) → (0 < i → ¬ lateP σ (arrF σ x_ m_ k) k) → x11 = (nI i) → x9 = ((if lateP σ (arrF σ x_ m_ k) k then (total σ k).toInt64 * gotF σ k (-1) else oneS σ bag k i)) → lv_has ls 12 [(11, .int x11), (9, .long x9), (8, .int (arrF σ x_ m_ k)), (7, .int (nI k)), (5, .long (oneG σ x_ m_ bag set_ k)), (0, .ref h), (1, .int (nI x_)), (2, .int m_), (3, .int bag), (4, .int set_)] → W p l e rmX3_one s m args below meth c s.heap [] 0 0 Q (F0 m 68 ls []) := by
              intro n_10
              induction n_10 with
              | zero => intro i x11 x9 ls hm_12; exact absurd hm_12 (Nat.not_lt_zero _)
              | succ n_10 ih_11 =>
                intro i x11 x9 ls hm_12 hi hnl ex11 ex9 hl
                subst ex11 ex9
                refine lv_iload hx hb dX3_one_68 (lv_at hl 0 rfl) ?_
                refine lv_aload_n hx hb dX3_one_70 rfl (lv_at hl 5 rfl) ?_
                refine va_get (D := D) (ci := 0) (v := .ref (ad 6)) (C := RX3) (T := TX3) (N := 31) hx hb hts in_X3 hown hK hP 0 rfl rfl 13 (by decide) (hts _ q1127) (fun _ h9 => h9) rfl dX3_one_71 ?_
                refine lv_iload hx hb dX3_one_74 (lv_at hl 3 rfl) ?_
                refine wa_iald (f := fun c => nI (σ.sm c)) hx hb hK hP 7 0 rfl rfl (k) (rfl) (by omega) (by decide) dX3_one_76 ?_
                refine w_topi (y := nI (σ.sm k)) rfl ?_
                have hJ134_13 : ∀ (ls : Array Slot), lv_has ls 12 [(9, .long (oneC σ x_ m_ bag k)), (8, .int (arrF σ x_ m_ k)), (7, .int (nI k)), (5, .long (oneG σ x_ m_ bag set_ k)), (0, .ref h), (1, .int (nI x_)), (2, .int m_), (3, .int bag), (4, .int set_)] → W p l e rmX3_one s m args below meth c s.heap [] 0 0 Q (F0 m 134 ls []) := by
                  intro  ls  hl
                  refine lv_lload hx hb dX3_one_134 (lv_at hl 0 rfl) ?_
                  refine lv_lload hx hb dX3_one_136 (lv_at hl 3 rfl) ?_
                  refine W.lcmp hx hb dX3_one_138 ?_
                  have hJ149_14 : ∀ (v_15 : Int64) (ls : Array Slot), v_15 = (if (oneC σ x_ m_ bag k) ≤ (oneG σ x_ m_ bag set_ k) then oneG σ x_ m_ bag set_ k else oneC σ x_ m_ bag k) → lv_has ls 12 [(9, .long (oneC σ x_ m_ bag k)), (8, .int (arrF σ x_ m_ k)), (7, .int (nI k)), (5, .long (oneG σ x_ m_ bag set_ k)), (0, .ref h), (1, .int (nI x_)), (2, .int m_), (3, .int bag), (4, .int set_)] → W p l e rmX3_one s m args below meth c s.heap [] 0 0 Q (F0 m 149 ls [.long v_15]) := by
                    intro v_15 ls ev_15 hl
                    refine lv_lstore (lv' := [(5, .long v_15), (9, .long (oneC σ x_ m_ bag k)), (8, .int (arrF σ x_ m_ k)), (7, .int (nI k)), (0, .ref h), (1, .int (nI x_)), (2, .int m_), (3, .int bag), (4, .int set_)]) hx hb dX3_one_149 hl (by decide) rfl (fun ls hl => ?_)
                    exact hJ151_5 (v_15) ls (by subst_vars; rw [if_pos h20]) (lv_sub hl [3, 0, 4, 5, 6, 7, 8] rfl)
                  refine lv_if_le (tgt := 147) hx hb dX3_one_139 rfl (fun h139 => ?_) (fun h139 => ?_)
                  · have h139 : (oneC σ x_ m_ bag k) ≤ (oneG σ x_ m_ bag set_ k) := (lg_cmp_le (oneC σ x_ m_ bag k) (oneG σ x_ m_ bag set_ k)).mp h139
                    refine lv_lload hx hb dX3_one_147 (lv_at hl 3 rfl) ?_
                    exact hJ149_14 (oneG σ x_ m_ bag set_ k) ls (by rw [if_pos h139]) (lv_sub hl [0, 1, 2, 3, 4, 5, 6, 7, 8] rfl)
                  · have h139 : ¬ ((oneC σ x_ m_ bag k) ≤ (oneG σ x_ m_ bag set_ k)) := fun z9 => h139 ((lg_cmp_le (oneC σ x_ m_ bag k) (oneG σ x_ m_ bag set_ k)).mpr z9)
                    refine lv_lload hx hb dX3_one_142 (lv_at hl 0 rfl) ?_
                    refine lv_goto (tgt := 149) hx hb dX3_one_144 rfl ?_
                    exact hJ149_14 (oneC σ x_ m_ bag k) ls (by rw [if_neg h139]) (lv_sub hl [0, 1, 2, 3, 4, 5, 6, 7, 8] rfl)
                refine lv_icmp_ge (tgt := 134) hx hb dX3_one_77 rfl (fun h77 => ?_) (fun h77 => ?_)
                · have h77 : (σ.sm k) ≤ i := (nz_le (a := σ.sm k) (b := i) rfl rfl (by omega) (by omega)).mp h77
                  have hk_ : i = σ.sm k := by omega
                  subst hk_
                  have e9 : (if lateP σ (arrF σ x_ m_ k) k then (total σ k).toInt64 * gotF σ k (-1) else oneS σ bag k (σ.sm k)) = oneC σ x_ m_ bag k := rfl
                  rw [e9] at hl
                  have hl : lv_has ls 12 [(9, .long (oneC σ x_ m_ bag k)), (8, .int (arrF σ x_ m_ k)), (7, .int (nI k)), (5, .long (oneG σ x_ m_ bag set_ k)), (0, .ref h), (1, .int (nI x_)), (2, .int m_), (3, .int bag), (4, .int set_)] := lv_sub hl [1, 2, 3, 4, 5, 6, 7, 8, 9] rfl
                  exact hJ134_13  ls  (lv_sub hl [0, 1, 2, 3, 4, 5, 6, 7, 8] rfl)
                · have h77 : ¬ ((σ.sm k) ≤ i) := fun z9 => h77 ((nz_le (a := σ.sm k) (b := i) rfl rfl (by omega) (by omega)).mpr z9)
                  refine lv_aload_n hx hb dX3_one_80 rfl (lv_at hl 5 rfl) ?_
                  refine lv_iload hx hb dX3_one_81 (lv_at hl 2 rfl) ?_
                  refine lv_iload hx hb dX3_one_83 (lv_at hl 3 rfl) ?_
                  refine cVi (As := [.int (arrF σ x_ m_ k), .int (nI k)]) (rest := []) ⟨hx, hb, hml, hown, hts⟩ (mt_X3_isLate l D dA h ad σ τ (arrF σ x_ m_ k) k (by omega)) (cw_X3_X3_isLate hts ⟨Nat.le_of_ble_eq_true rfl, Nat.le_of_ble_eq_true rfl⟩) mB_bl (mB_now hK hP) (va_recv hK hP (ci := 0) (q0 := 0) rfl rfl) rfl hl.1 rfl (Nat.le_of_ble_eq_true rfl) dX3_one_85 ⟨Nat.le_of_ble_eq_true rfl, Nat.le_of_ble_eq_true rfl⟩ ?_
                  refine lv_if_ne (tgt := 134) hx hb dX3_one_88 rfl (fun h88 => ?_) (fun h88 => ?_)
                  · have h88 : lateP σ (arrF σ x_ m_ k) k := b01_n h88
                    have e9 : (if lateP σ (arrF σ x_ m_ k) k then (total σ k).toInt64 * gotF σ k (-1) else oneS σ bag k i) = oneC σ x_ m_ bag k := by rw [oneC, if_pos h88, if_pos h88]
                    rw [e9] at hl
                    have hl : lv_has ls 12 [(9, .long (oneC σ x_ m_ bag k)), (8, .int (arrF σ x_ m_ k)), (7, .int (nI k)), (5, .long (oneG σ x_ m_ bag set_ k)), (0, .ref h), (1, .int (nI x_)), (2, .int m_), (3, .int bag), (4, .int set_)] := lv_sub hl [1, 2, 3, 4, 5, 6, 7, 8, 9] rfl
                    exact hJ134_13  ls  (lv_sub hl [0, 1, 2, 3, 4, 5, 6, 7, 8] rfl)
                  · have h88 : ¬ (lateP σ (arrF σ x_ m_ k) k) := b01_0.mp h88
                    refine lv_lload hx hb dX3_one_91 (lv_at hl 1 rfl) ?_
                    refine lv_aload_n hx hb dX3_one_93 rfl (lv_at hl 5 rfl) ?_
                    refine va_get (D := D) (ci := 0) (v := .ref (ad 7)) (C := RX3) (T := TX3) (N := 31) hx hb hts in_X3 hown hK hP 0 rfl rfl 14 (by decide) (hts _ q1128) (fun _ h9 => h9) rfl dX3_one_94 ?_
                    refine lv_bipush (v := 16) hx hb dX3_one_97 rfl ?_
                    refine lv_iload hx hb dX3_one_99 (lv_at hl 3 rfl) ?_
                    refine lv_imul hx hb dX3_one_101 ?_
                    refine lv_iconst (v := 4) hx hb dX3_one_102 rfl ?_
                    refine lv_iload hx hb dX3_one_103 (lv_at hl 0 rfl) ?_
                    refine lv_imul hx hb dX3_one_105 ?_
                    refine lv_iadd hx hb dX3_one_106 ?_
                    refine wa_iald (f := σ.sorts) hx hb hK hP 8 0 rfl rfl ((16 * k) + (4 * i)) ((nz_add (nz_mul rfl rfl) (nz_mul rfl rfl))) (by omega) (by decide) dX3_one_107 ?_
                    refine lv_i2l (v := (σ.sorts ((16 * k) + (4 * i)) : Int32).toInt64) hx hb dX3_one_108 rfl ?_
                    refine lv_aload_n hx hb dX3_one_109 rfl (lv_at hl 5 rfl) ?_
                    refine lv_iload hx hb dX3_one_110 (lv_at hl 3 rfl) ?_
                    refine lv_aload_n hx hb dX3_one_112 rfl (lv_at hl 5 rfl) ?_
                    refine lv_iload_n hx hb dX3_one_113 rfl (lv_at hl 8 rfl) ?_
                    refine lv_iload hx hb dX3_one_114 (lv_at hl 3 rfl) ?_
                    refine lv_iload hx hb dX3_one_116 (lv_at hl 0 rfl) ?_
                    refine cVi (As := [.int bag, .int (nI k), .int (nI i)]) (rest := [.int (nI k), .ref h, .long ((σ.sorts ((16 * k) + (4 * i)) : Int32).toInt64), .long (if lateP σ (arrF σ x_ m_ k) k then (total σ k).toInt64 * gotF σ k (-1) else oneS σ bag k i)]) ⟨hx, hb, hml, hown, hts⟩ (mt_X3_leftOf l D dA h ad σ τ bag k i (by omega) (by omega)) (cw_X3_X3_leftOf hts ⟨Nat.le_of_ble_eq_true rfl, Nat.le_of_ble_eq_true rfl⟩) mB_bl (mB_now hK hP) (va_recv hK hP (ci := 0) (q0 := 0) rfl rfl) rfl hl.1 rfl (Nat.le_of_ble_eq_true rfl) dX3_one_118 ⟨Nat.le_of_ble_eq_true rfl, Nat.le_of_ble_eq_true rfl⟩ ?_
                    refine cVl (As := [.int (nI k), .int (leftF σ bag k i)]) (rest := [.long ((σ.sorts ((16 * k) + (4 * i)) : Int32).toInt64), .long (if lateP σ (arrF σ x_ m_ k) k then (total σ k).toInt64 * gotF σ k (-1) else oneS σ bag k i)]) ⟨hx, hb, hml, hown, hts⟩ (mt_X3_got l D dA h ad σ τ k (leftF σ bag k i) (by omega)) (cw_X3_X3_got hts ⟨Nat.le_of_ble_eq_true rfl, Nat.le_of_ble_eq_true rfl⟩) mB_bl (mB_now hK hP) (va_recv hK hP (ci := 0) (q0 := 0) rfl rfl) rfl hl.1 rfl (Nat.le_of_ble_eq_true rfl) dX3_one_121 ⟨Nat.le_of_ble_eq_true rfl, Nat.le_of_ble_eq_true rfl⟩ ?_
                    refine lv_lmul hx hb dX3_one_124 ?_
                    refine lv_ladd hx hb dX3_one_125 ?_
                    refine lv_lstore (lv' := [(9, .long ((if lateP σ (arrF σ x_ m_ k) k then (total σ k).toInt64 * gotF σ k (-1) else oneS σ bag k i) + (((σ.sorts ((16 * k) + (4 * i)) : Int32).toInt64) * (gotF σ k (leftF σ bag k i))))), (11, .int (nI i)), (8, .int (arrF σ x_ m_ k)), (7, .int (nI k)), (5, .long (oneG σ x_ m_ bag set_ k)), (0, .ref h), (1, .int (nI x_)), (2, .int m_), (3, .int bag), (4, .int set_)]) hx hb dX3_one_126 hl (by decide) rfl (fun ls hl => ?_)
                    refine lv_iinc (v := nI (i + 1)) (lv' := [(11, .int (nI (i + 1))), (9, .long ((if lateP σ (arrF σ x_ m_ k) k then (total σ k).toInt64 * gotF σ k (-1) else oneS σ bag k i) + (((σ.sorts ((16 * k) + (4 * i)) : Int32).toInt64) * (gotF σ k (leftF σ bag k i))))), (8, .int (arrF σ x_ m_ k)), (7, .int (nI k)), (5, .long (oneG σ x_ m_ bag set_ k)), (0, .ref h), (1, .int (nI x_)), (2, .int m_), (3, .int bag), (4, .int set_)]) hx hb dX3_one_128 hl (k := 1) rfl (nI_1 i) (by decide) rfl (fun ls hl => ?_)
                    refine lv_goto (tgt := 68) hx hb dX3_one_131 rfl ?_
                    exact ih_11 (i + 1) (nI (i + 1)) ((if lateP σ (arrF σ x_ m_ k) k then (total σ k).toInt64 * gotF σ k (-1) else oneS σ bag k i) + (((σ.sorts ((16 * k) + (4 * i)) : Int32).toInt64) * (gotF σ k (leftF σ bag k i)))) ls (by omega) (by omega) (fun _ => h88) rfl (by rw [if_neg h88, if_neg h88]; rfl) (lv_sub hl [0, 1, 2, 3, 4, 5, 6, 7, 8, 9] rfl)
            exact hL68_9 _ 0 0 v_8 ls (Nat.lt_succ_self _) (by omega) (fun q => absurd q (by decide)) rfl (by subst_vars; rfl) (lv_sub hl [0, 1, 2, 3, 4, 5, 6, 7, 8, 9] rfl)
          refine lv_if_eq (tgt := 62) hx hb dX3_one_41 rfl (fun h41 => ?_) (fun h41 => ?_)
          · have h41 : ¬ (lateP σ (arrF σ x_ m_ k) k) := b01_0.mp h41
            refine lv_lconst (v := 0) hx hb dX3_one_62 rfl ?_
            exact hJ63_7 (0) ls (by rw [if_neg h41]) (lv_sub hl [0, 1, 2, 3, 4, 5, 6, 7] rfl)
          · have h41 : lateP σ (arrF σ x_ m_ k) k := b01_n h41
            refine lv_aload_n hx hb dX3_one_44 rfl (lv_at hl 3 rfl) ?_
            refine lv_iload hx hb dX3_one_45 (lv_at hl 1 rfl) ?_
            refine cVi (As := [.int (nI k)]) (rest := []) ⟨hx, hb, hml, hown, hts⟩ (mt_X3_totalOf l D dA h ad σ τ k hI (by omega)) (cw_X3_X3_totalOf hts ⟨Nat.le_of_ble_eq_true rfl, Nat.le_of_ble_eq_true rfl⟩) mB_bl (mB_now hK hP) (va_recv hK hP (ci := 0) (q0 := 0) rfl rfl) rfl hl.1 rfl (Nat.le_of_ble_eq_true rfl) dX3_one_47 ⟨Nat.le_of_ble_eq_true rfl, Nat.le_of_ble_eq_true rfl⟩ ?_
            refine lv_i2l (v := (total σ k : Int32).toInt64) hx hb dX3_one_50 rfl ?_
            refine lv_aload_n hx hb dX3_one_51 rfl (lv_at hl 3 rfl) ?_
            refine lv_iload hx hb dX3_one_52 (lv_at hl 1 rfl) ?_
            refine lv_iconst (v := (-1)) hx hb dX3_one_54 rfl ?_
            refine cVl (As := [.int (nI k), .int (-1)]) (rest := [.long ((total σ k : Int32).toInt64)]) ⟨hx, hb, hml, hown, hts⟩ (mt_X3_got l D dA h ad σ τ k (-1) (by omega)) (cw_X3_X3_got hts ⟨Nat.le_of_ble_eq_true rfl, Nat.le_of_ble_eq_true rfl⟩) mB_bl (mB_now hK hP) (va_recv hK hP (ci := 0) (q0 := 0) rfl rfl) rfl hl.1 rfl (Nat.le_of_ble_eq_true rfl) dX3_one_55 ⟨Nat.le_of_ble_eq_true rfl, Nat.le_of_ble_eq_true rfl⟩ ?_
            refine lv_lmul hx hb dX3_one_58 ?_
            refine lv_goto (tgt := 63) hx hb dX3_one_59 rfl ?_
            exact hJ63_7 (((total σ k : Int32).toInt64) * (gotF σ k (-1))) ls (by rw [if_pos h41]) (lv_sub hl [0, 1, 2, 3, 4, 5, 6, 7] rfl)
  exact hL6_1 _ 0 0 0 ls (Nat.lt_succ_self _) (by omega) rfl (by subst_vars; rw [oneG]) (lv_sub hl [0, 1, 2, 3, 4, 5, 6] rfl)

theorem cw_X3_X3_totals {R : Room} {s : State} {args : Array Value} (hts : ∀ w ∈ lw_all, w.before args s = true) (hR : rmX3_totals.frames + 1 ≤ R.frames ∧ 8 + (5 + 11) + rmX3_totals.locals ≤ R.locals) : CallW R s args RX3 RX3 273 yX3_totals cX3_totals 5 (some .long) (ws_ yX3_totals cX3_totals 5 (some .long)) rmX3_totals 0 0 1 := cwV 1 hts (lw_V q1458 q1460 qs65 q83 q1461) rfl rfl rfl (by decide +kernel) hR
theorem cw_X3_X3_then {R : Room} {s : State} {args : Array Value} (hts : ∀ w ∈ lw_all, w.before args s = true) (hR : rmX3_then.frames + 1 ≤ R.frames ∧ 8 + (5 + 11) + rmX3_then.locals ≤ R.locals) : CallW R s args RX3 RX3 280 yX3_then cX3_then 5 (some .int) (ws_ yX3_then cX3_then 5 (some .int)) rmX3_then 0 0 4 := cwV 4 hts (lw_V q1490 q1492 qs73 q83 q1493) rfl rfl rfl (by decide +kernel) hR
theorem cw_X3_X3_one {R : Room} {s : State} {args : Array Value} (hts : ∀ w ∈ lw_all, w.before args s = true) (hR : rmX3_one.frames + 1 ≤ R.frames ∧ 8 + (12 + 11) + rmX3_one.locals ≤ R.locals) : CallW R s args RX3 RX3 276 yX3_one cX3_one 12 (some .long) (ws_ yX3_one cX3_one 12 (some .long)) rmX3_one 0 0 4 := cwV 4 hts (lw_V q1486 q1488 qs72 q83 q1489) rfl rfl rfl (by decide +kernel) hR
def rmX3_goTwo : Room := { frames := 3, cells := 0, slots := 0, locals := 81 }
set_option maxHeartbeats 1000000 in
theorem mt_X3_goTwo (l : Launch) (D : va_G) (dA : Nat → ClassId) (h : Nat) (ad : Nat → Nat) (σ : St) (τ : Sc) (x_ : Nat) (m_ : Int32) (bag : Int32) (set_ : Int32) (c_ : Nat) (hI : Inv σ) (hx6 : x_ < 6) (hc : c_ < 6) : Met l yX3_goTwo (ws_ yX3_goTwo cX3_goTwo 14 (some .long)) rmX3_goTwo (va_Pc [.ref h, .int (nI x_), .int m_, .int bag, .int set_, .int (nI c_)] (mB D dA h ad σ τ)) (vp_Sl (fun r => r = goV σ (oneF σ) x_ m_ bag set_ c_)) 0 0 (fun _ => False) := by
  refine w_start (by decide) (Nat.le_of_ble_eq_true rfl) ?_
  intro p e s m args below meth c Q ls hQ hx hb hr hlocks hml hown hnm hts hB hl
  have hown : s.vm.findClass RX3 = some m.cls := hown
  have hl : lv_has ls 14 [(0, .ref h), (1, .int (nI x_)), (2, .int m_), (3, .int bag), (4, .int set_), (5, .int (nI c_))] := hl
  obtain ⟨hP, hK⟩ := hB
  have hpl := hI.pl2 c_ hc
  have hsm := hI.sm c_ hc
  refine lv_aload_n hx hb dX3_goTwo_0 rfl (lv_at hl 0 rfl) ?_
  refine lv_iload_n hx hb dX3_goTwo_1 rfl (lv_at hl 1 rfl) ?_
  refine lv_iload_n hx hb dX3_goTwo_2 rfl (lv_at hl 2 rfl) ?_
  refine lv_iload hx hb dX3_goTwo_3 (lv_at hl 5 rfl) ?_
  refine cVi (As := [.int (nI x_), .int m_, .int (nI c_)]) (rest := []) ⟨hx, hb, hml, hown, hts⟩ (mt_X3_arrival l D dA h ad σ τ x_ m_ c_ hI (by omega) (by omega)) (cw_X3_X3_arrival hts ⟨Nat.le_of_ble_eq_true rfl, Nat.le_of_ble_eq_true rfl⟩) mB_bl (mB_now hK hP) (va_recv hK hP (ci := 0) (q0 := 0) rfl rfl) rfl hl.1 rfl (Nat.le_of_ble_eq_true rfl) dX3_goTwo_5 ⟨Nat.le_of_ble_eq_true rfl, Nat.le_of_ble_eq_true rfl⟩ ?_
  refine lv_istore (lv' := [(6, .int (arrF σ x_ m_ c_)), (0, .ref h), (1, .int (nI x_)), (2, .int m_), (3, .int bag), (4, .int set_), (5, .int (nI c_))]) hx hb dX3_goTwo_8 hl (by decide) rfl (fun ls hl => ?_)
  refine lv_iload hx hb dX3_goTwo_10 (lv_at hl 5 rfl) ?_
  refine lv_iconst (v := 1) hx hb dX3_goTwo_12 rfl ?_
  refine lv_iload hx hb dX3_goTwo_13 (lv_at hl 6 rfl) ?_
  refine lv_ishl hx hb dX3_goTwo_15 ?_
  refine lv_iconst (v := (-1)) hx hb dX3_goTwo_16 rfl ?_
  refine lv_ixor hx hb dX3_goTwo_17 ?_
  refine lv_iand hx hb dX3_goTwo_18 ?_
  refine w_topi (y := restF set_ c_) (rfl) ?_
  refine lv_istore (lv' := [(7, .int (restF set_ c_)), (6, .int (arrF σ x_ m_ c_)), (0, .ref h), (1, .int (nI x_)), (2, .int m_), (3, .int bag), (4, .int set_), (5, .int (nI c_))]) hx hb dX3_goTwo_19 hl (by decide) rfl (fun ls hl => ?_)
  refine lv_aload_n hx hb dX3_goTwo_21 rfl (lv_at hl 2 rfl) ?_
  refine lv_iload hx hb dX3_goTwo_22 (lv_at hl 0 rfl) ?_
  refine cVl (As := [.int (restF set_ c_)]) (rest := []) ⟨hx, hb, hml, hown, hts⟩ (mt_X3_totals l D dA h ad σ τ (restF set_ c_) hI) (cw_X3_X3_totals hts ⟨Nat.le_of_ble_eq_true rfl, Nat.le_of_ble_eq_true rfl⟩) mB_bl (mB_now hK hP) (va_recv hK hP (ci := 0) (q0 := 0) rfl rfl) rfl hl.1 rfl (Nat.le_of_ble_eq_true rfl) dX3_goTwo_24 ⟨Nat.le_of_ble_eq_true rfl, Nat.le_of_ble_eq_true rfl⟩ ?_
  refine lv_lstore (lv' := [(8, .long (tosF σ (restF set_ c_) 6)), (7, .int (restF set_ c_)), (6, .int (arrF σ x_ m_ c_)), (0, .ref h), (1, .int (nI x_)), (2, .int m_), (3, .int bag), (4, .int set_), (5, .int (nI c_))]) hx hb dX3_goTwo_27 hl (by decide) rfl (fun ls hl => ?_)
  refine lv_aload_n hx hb dX3_goTwo_29 rfl (lv_at hl 3 rfl) ?_
  refine lv_iload hx hb dX3_goTwo_30 (lv_at hl 2 rfl) ?_
  refine lv_iload hx hb dX3_goTwo_32 (lv_at hl 8 rfl) ?_
  refine cVi (As := [.int (arrF σ x_ m_ c_), .int (nI c_)]) (rest := []) ⟨hx, hb, hml, hown, hts⟩ (mt_X3_isLate l D dA h ad σ τ (arrF σ x_ m_ c_) c_ (by omega)) (cw_X3_X3_isLate hts ⟨Nat.le_of_ble_eq_true rfl, Nat.le_of_ble_eq_true rfl⟩) mB_bl (mB_now hK hP) (va_recv hK hP (ci := 0) (q0 := 0) rfl rfl) rfl hl.1 rfl (Nat.le_of_ble_eq_true rfl) dX3_goTwo_34 ⟨Nat.le_of_ble_eq_true rfl, Nat.le_of_ble_eq_true rfl⟩ ?_
  refine lv_if_eq (tgt := 79) hx hb dX3_goTwo_37 rfl (fun h37 => ?_) (fun h37 => ?_)
  · have h37 : ¬ (lateP σ (arrF σ x_ m_ c_) c_) := b01_0.mp h37
    refine lv_lconst (v := 0) hx hb dX3_goTwo_79 rfl ?_
    refine lv_lstore (lv' := [(10, .long 0), (8, .long (tosF σ (restF set_ c_) 6)), (7, .int (restF set_ c_)), (6, .int (arrF σ x_ m_ c_)), (0, .ref h), (1, .int (nI x_)), (2, .int m_), (3, .int bag), (4, .int set_), (5, .int (nI c_))]) hx hb dX3_goTwo_80 hl (by decide) rfl (fun ls hl => ?_)
    refine lv_iconst (v := 0) hx hb dX3_goTwo_82 rfl ?_
    refine lv_istore (lv' := [(12, .int 0), (10, .long 0), (8, .long (tosF σ (restF set_ c_) 6)), (7, .int (restF set_ c_)), (6, .int (arrF σ x_ m_ c_)), (0, .ref h), (1, .int (nI x_)), (2, .int m_), (3, .int bag), (4, .int set_), (5, .int (nI c_))]) hx hb dX3_goTwo_83 hl (by decide) rfl (fun ls hl => ?_)
    have hL85_1 : ∀ (n_2 : Nat) (k : Nat) (x12 : Int32) (x10 : Int64) (ls : Array Slot), (4 - k) < n_2 → (k ≤ σ.sm c_) → x12 = (nI k) → x10 = (gosS σ (oneF σ) (arrF σ x_ m_ c_) bag (restF set_ c_) (tosF σ (restF set_ c_) 6) c_ k) → lv_has ls 14 [(12, .int x12), (10, .long x10), (8, .long (tosF σ (restF set_ c_) 6)), (7, .int (restF set_ c_)), (6, .int (arrF σ x_ m_ c_)), (0, .ref h), (1, .int (nI x_)), (2, .int m_), (3, .int bag), (4, .int set_), (5, .int (nI c_))] → W p l e rmX3_goTwo s m args below meth c s.heap [] 0 0 Q (F0 m 85 ls []) := by
      intro n_2
      induction n_2 with
      | zero => intro k x12 x10 ls hm_4; exact absurd hm_4 (Nat.not_lt_zero _)
      | succ n_2 ih_3 =>
        intro k x12 x10 ls hm_4 hk ex12 ex10 hl
        subst ex12 ex10
        refine lv_iload hx hb dX3_goTwo_85 (lv_at hl 0 rfl) ?_
        refine lv_aload_n hx hb dX3_goTwo_87 rfl (lv_at hl 5 rfl) ?_
        refine va_get (D := D) (ci := 0) (v := .ref (ad 6)) (C := RX3) (T := TX3) (N := 31) hx hb hts in_X3 hown hK hP 0 rfl rfl 13 (by decide) (hts _ q1127) (fun _ h9 => h9) rfl dX3_goTwo_88 ?_
        refine lv_iload hx hb dX3_goTwo_91 (lv_at hl 10 rfl) ?_
        refine wa_iald (f := fun c => nI (σ.sm c)) hx hb hK hP 7 0 rfl rfl (c_) (rfl) (by omega) (by decide) dX3_goTwo_93 ?_
        refine w_topi (y := nI (σ.sm c_)) rfl ?_
        refine lv_icmp_ge (tgt := 188) hx hb dX3_goTwo_94 rfl (fun h94 => ?_) (fun h94 => ?_)
        · have h94 : (σ.sm c_) ≤ k := (nz_le (a := σ.sm c_) (b := k) rfl rfl (by omega) (by omega)).mp h94
          have hk_ : k = σ.sm c_ := by omega
          subst hk_
          refine lv_lload hx hb dX3_goTwo_188 (lv_at hl 1 rfl) ?_
          exact r_l hQ hx hb hr hlocks rfl (by simp only [goV, eq_false h37, eq_true h94, if_true, if_false, ite_true, ite_false, not_true_eq_false, not_false_eq_true, and_true, true_and, and_false, false_and, or_true, true_or, or_false, false_or, and_self, or_self, eq_self]) dX3_goTwo_190
        · have h94 : ¬ ((σ.sm c_) ≤ k) := fun z9 => h94 ((nz_le (a := σ.sm c_) (b := k) rfl rfl (by omega) (by omega)).mpr z9)
          refine lv_aload_n hx hb dX3_goTwo_97 rfl (lv_at hl 5 rfl) ?_
          refine lv_iload_n hx hb dX3_goTwo_98 rfl (lv_at hl 8 rfl) ?_
          refine lv_iload hx hb dX3_goTwo_99 (lv_at hl 10 rfl) ?_
          refine lv_iload hx hb dX3_goTwo_101 (lv_at hl 0 rfl) ?_
          refine cVi (As := [.int bag, .int (nI c_), .int (nI k)]) (rest := []) ⟨hx, hb, hml, hown, hts⟩ (mt_X3_leftOf l D dA h ad σ τ bag c_ k (by omega) (by omega)) (cw_X3_X3_leftOf hts ⟨Nat.le_of_ble_eq_true rfl, Nat.le_of_ble_eq_true rfl⟩) mB_bl (mB_now hK hP) (va_recv hK hP (ci := 0) (q0 := 0) rfl rfl) rfl hl.1 rfl (Nat.le_of_ble_eq_true rfl) dX3_goTwo_103 ⟨Nat.le_of_ble_eq_true rfl, Nat.le_of_ble_eq_true rfl⟩ ?_
          refine lv_istore (lv' := [(13, .int (leftF σ bag c_ k)), (12, .int (nI k)), (10, .long (gosS σ (oneF σ) (arrF σ x_ m_ c_) bag (restF set_ c_) (tosF σ (restF set_ c_) 6) c_ k)), (8, .long (tosF σ (restF set_ c_) 6)), (7, .int (restF set_ c_)), (6, .int (arrF σ x_ m_ c_)), (0, .ref h), (1, .int (nI x_)), (2, .int m_), (3, .int bag), (4, .int set_), (5, .int (nI c_))]) hx hb dX3_goTwo_106 hl (by decide) rfl (fun ls hl => ?_)
          refine lv_lload hx hb dX3_goTwo_108 (lv_at hl 2 rfl) ?_
          refine lv_aload_n hx hb dX3_goTwo_110 rfl (lv_at hl 6 rfl) ?_
          refine va_get (D := D) (ci := 0) (v := .ref (ad 7)) (C := RX3) (T := TX3) (N := 31) hx hb hts in_X3 hown hK hP 0 rfl rfl 14 (by decide) (hts _ q1128) (fun _ h9 => h9) rfl dX3_goTwo_111 ?_
          refine lv_bipush (v := 16) hx hb dX3_goTwo_114 rfl ?_
          refine lv_iload hx hb dX3_goTwo_116 (lv_at hl 11 rfl) ?_
          refine lv_imul hx hb dX3_goTwo_118 ?_
          refine lv_iconst (v := 4) hx hb dX3_goTwo_119 rfl ?_
          refine lv_iload hx hb dX3_goTwo_120 (lv_at hl 1 rfl) ?_
          refine lv_imul hx hb dX3_goTwo_122 ?_
          refine lv_iadd hx hb dX3_goTwo_123 ?_
          refine wa_iald (f := σ.sorts) hx hb hK hP 8 0 rfl rfl ((16 * c_) + (4 * k)) ((nz_add (nz_mul rfl rfl) (nz_mul rfl rfl))) (by omega) (by decide) dX3_goTwo_124 ?_
          refine lv_i2l (v := (σ.sorts ((16 * c_) + (4 * k)) : Int32).toInt64) hx hb dX3_goTwo_125 rfl ?_
          refine lv_aload_n hx hb dX3_goTwo_126 rfl (lv_at hl 6 rfl) ?_
          refine lv_iload hx hb dX3_goTwo_127 (lv_at hl 11 rfl) ?_
          refine lv_iload hx hb dX3_goTwo_129 (lv_at hl 0 rfl) ?_
          refine cVl (As := [.int (nI c_), .int (leftF σ bag c_ k)]) (rest := [.long ((σ.sorts ((16 * c_) + (4 * k)) : Int32).toInt64), .long (gosS σ (oneF σ) (arrF σ x_ m_ c_) bag (restF set_ c_) (tosF σ (restF set_ c_) 6) c_ k)]) ⟨hx, hb, hml, hown, hts⟩ (mt_X3_got l D dA h ad σ τ c_ (leftF σ bag c_ k) (by omega)) (cw_X3_X3_got hts ⟨Nat.le_of_ble_eq_true rfl, Nat.le_of_ble_eq_true rfl⟩) mB_bl (mB_now hK hP) (va_recv hK hP (ci := 0) (q0 := 0) rfl rfl) rfl hl.1 rfl (Nat.le_of_ble_eq_true rfl) dX3_goTwo_131 ⟨Nat.le_of_ble_eq_true rfl, Nat.le_of_ble_eq_true rfl⟩ ?_
          refine lv_lload hx hb dX3_goTwo_134 (lv_at hl 3 rfl) ?_
          refine lv_lmul hx hb dX3_goTwo_136 ?_
          refine lv_aload_n hx hb dX3_goTwo_137 rfl (lv_at hl 6 rfl) ?_
          refine lv_aload_n hx hb dX3_goTwo_138 rfl (lv_at hl 6 rfl) ?_
          refine va_get (D := D) (ci := 0) (v := .ref (ad 5)) (C := RX3) (T := TX3) (N := 31) hx hb hts in_X3 hown hK hP 0 rfl rfl 12 (by decide) (hts _ q1126) (fun _ h9 => h9) rfl dX3_goTwo_139 ?_
          refine lv_bipush (v := 6) hx hb dX3_goTwo_142 rfl ?_
          refine lv_iload hx hb dX3_goTwo_144 (lv_at hl 11 rfl) ?_
          refine lv_imul hx hb dX3_goTwo_146 ?_
          refine wa_iald (f := σ.calls) hx hb hK hP 6 0 rfl rfl (6 * c_) ((nz_mul rfl rfl)) (by omega) (by decide) dX3_goTwo_147 ?_
          refine w_topi (y := nI (plF σ c_)) (hpl.2) ?_
          refine lv_aload_n hx hb dX3_goTwo_148 rfl (lv_at hl 6 rfl) ?_
          refine lv_iload hx hb dX3_goTwo_149 (lv_at hl 5 rfl) ?_
          refine lv_iload hx hb dX3_goTwo_151 (lv_at hl 11 rfl) ?_
          refine lv_iload hx hb dX3_goTwo_153 (lv_at hl 1 rfl) ?_
          refine lv_iload hx hb dX3_goTwo_155 (lv_at hl 0 rfl) ?_
          refine cVi (As := [.int (arrF σ x_ m_ c_), .int (nI c_), .int (nI k), .int (leftF σ bag c_ k)]) (rest := [.int (nI (plF σ c_)), .ref h, .long ((gotF σ c_ (leftF σ bag c_ k)) * (tosF σ (restF set_ c_) 6)), .long ((σ.sorts ((16 * c_) + (4 * k)) : Int32).toInt64), .long (gosS σ (oneF σ) (arrF σ x_ m_ c_) bag (restF set_ c_) (tosF σ (restF set_ c_) 6) c_ k)]) ⟨hx, hb, hml, hown, hts⟩ (mt_X3_then l D dA h ad σ τ (arrF σ x_ m_ c_) c_ k (leftF σ bag c_ k) (by omega) (by omega)) (cw_X3_X3_then hts ⟨Nat.le_of_ble_eq_true rfl, Nat.le_of_ble_eq_true rfl⟩) mB_bl (mB_now hK hP) (va_recv hK hP (ci := 0) (q0 := 0) rfl rfl) rfl hl.1 rfl (Nat.le_of_ble_eq_true rfl) dX3_goTwo_157 ⟨Nat.le_of_ble_eq_true rfl, Nat.le_of_ble_eq_true rfl⟩ ?_
          refine lv_iload hx hb dX3_goTwo_160 (lv_at hl 0 rfl) ?_
          refine lv_iconst (v := (-1)) hx hb dX3_goTwo_162 rfl ?_
          have hJ172_5 : ∀ (v_6 : Int32) (ls : Array Slot), v_6 = (if (leftF σ bag c_ k) = (-1) then bag else leftF σ bag c_ k) → lv_has ls 14 [(13, .int (leftF σ bag c_ k)), (12, .int (nI k)), (10, .long (gosS σ (oneF σ) (arrF σ x_ m_ c_) bag (restF set_ c_) (tosF σ (restF set_ c_) 6) c_ k)), (8, .long (tosF σ (restF set_ c_) 6)), (7, .int (restF set_ c_)), (6, .int (arrF σ x_ m_ c_)), (0, .ref h), (1, .int (nI x_)), (2, .int m_), (3, .int bag), (4, .int set_), (5, .int (nI c_))] → W p l e rmX3_goTwo s m args below meth c s.heap [] 0 0 Q (F0 m 172 ls [.int v_6, .int (thenF σ (arrF σ x_ m_ c_) c_ k (leftF σ bag c_ k)), .int (nI (plF σ c_)), .ref h, .long ((gotF σ c_ (leftF σ bag c_ k)) * (tosF σ (restF set_ c_) 6)), .long ((σ.sorts ((16 * c_) + (4 * k)) : Int32).toInt64), .long (gosS σ (oneF σ) (arrF σ x_ m_ c_) bag (restF set_ c_) (tosF σ (restF set_ c_) 6) c_ k)]) := by
            intro v_6 ls ev_6 hl
            refine lv_iload hx hb dX3_goTwo_172 (lv_at hl 4 rfl) ?_
            refine cVl (As := [.int (nI (plF σ c_)), .int (thenF σ (arrF σ x_ m_ c_) c_ k (leftF σ bag c_ k)), .int v_6, .int (restF set_ c_)]) (rest := [.long ((gotF σ c_ (leftF σ bag c_ k)) * (tosF σ (restF set_ c_) 6)), .long ((σ.sorts ((16 * c_) + (4 * k)) : Int32).toInt64), .long (gosS σ (oneF σ) (arrF σ x_ m_ c_) bag (restF set_ c_) (tosF σ (restF set_ c_) 6) c_ k)]) ⟨hx, hb, hml, hown, hts⟩ (mt_X3_one l D dA h ad σ τ (plF σ c_) (thenF σ (arrF σ x_ m_ c_) c_ k (leftF σ bag c_ k)) v_6 (restF set_ c_) hI hpl.1) (cw_X3_X3_one hts ⟨Nat.le_of_ble_eq_true rfl, Nat.le_of_ble_eq_true rfl⟩) mB_bl (mB_now hK hP) (va_recv hK hP (ci := 0) (q0 := 0) rfl rfl) rfl hl.1 rfl (Nat.le_of_ble_eq_true rfl) dX3_goTwo_174 ⟨Nat.le_of_ble_eq_true rfl, Nat.le_of_ble_eq_true rfl⟩ ?_
            refine lv_ladd hx hb dX3_goTwo_177 ?_
            refine lv_lmul hx hb dX3_goTwo_178 ?_
            refine lv_ladd hx hb dX3_goTwo_179 ?_
            refine lv_lstore (lv' := [(10, .long ((gosS σ (oneF σ) (arrF σ x_ m_ c_) bag (restF set_ c_) (tosF σ (restF set_ c_) 6) c_ k) + (((σ.sorts ((16 * c_) + (4 * k)) : Int32).toInt64) * (((gotF σ c_ (leftF σ bag c_ k)) * (tosF σ (restF set_ c_) 6)) + (oneF σ (plF σ c_) (thenF σ (arrF σ x_ m_ c_) c_ k (leftF σ bag c_ k)) v_6 (restF set_ c_)))))), (13, .int (leftF σ bag c_ k)), (12, .int (nI k)), (8, .long (tosF σ (restF set_ c_) 6)), (7, .int (restF set_ c_)), (6, .int (arrF σ x_ m_ c_)), (0, .ref h), (1, .int (nI x_)), (2, .int m_), (3, .int bag), (4, .int set_), (5, .int (nI c_))]) hx hb dX3_goTwo_180 hl (by decide) rfl (fun ls hl => ?_)
            refine lv_iinc (v := nI (k + 1)) (lv' := [(12, .int (nI (k + 1))), (10, .long ((gosS σ (oneF σ) (arrF σ x_ m_ c_) bag (restF set_ c_) (tosF σ (restF set_ c_) 6) c_ k) + (((σ.sorts ((16 * c_) + (4 * k)) : Int32).toInt64) * (((gotF σ c_ (leftF σ bag c_ k)) * (tosF σ (restF set_ c_) 6)) + (oneF σ (plF σ c_) (thenF σ (arrF σ x_ m_ c_) c_ k (leftF σ bag c_ k)) v_6 (restF set_ c_)))))), (13, .int (leftF σ bag c_ k)), (8, .long (tosF σ (restF set_ c_) 6)), (7, .int (restF set_ c_)), (6, .int (arrF σ x_ m_ c_)), (0, .ref h), (1, .int (nI x_)), (2, .int m_), (3, .int bag), (4, .int set_), (5, .int (nI c_))]) hx hb dX3_goTwo_182 hl (k := 2) rfl (nI_1 k) (by decide) rfl (fun ls hl => ?_)
            refine lv_goto (tgt := 85) hx hb dX3_goTwo_185 rfl ?_
            exact ih_3 (k + 1) (nI (k + 1)) ((gosS σ (oneF σ) (arrF σ x_ m_ c_) bag (restF set_ c_) (tosF σ (restF set_ c_) 6) c_ k) + (((σ.sorts ((16 * c_) + (4 * k)) : Int32).toInt64) * (((gotF σ c_ (leftF σ bag c_ k)) * (tosF σ (restF set_ c_) 6)) + (oneF σ (plF σ c_) (thenF σ (arrF σ x_ m_ c_) c_ k (leftF σ bag c_ k)) v_6 (restF set_ c_))))) ls (by omega) (by omega) rfl (by subst_vars; rw [gosS]) (lv_sub hl [0, 1, 3, 4, 5, 6, 7, 8, 9, 10, 11] rfl)
          refine lv_icmp_ne (tgt := 170) hx hb dX3_goTwo_163 rfl (fun h163 => ?_) (fun h163 => ?_)
          · have h163 : ¬ ((leftF σ bag c_ k) = (-1)) := h163
            refine lv_iload hx hb dX3_goTwo_170 (lv_at hl 0 rfl) ?_
            exact hJ172_5 (leftF σ bag c_ k) ls (by rw [if_neg h163]) (lv_sub hl [0, 1, 2, 3, 4, 5, 6, 7, 8, 9, 10, 11] rfl)
          · have h163 : (leftF σ bag c_ k) = (-1) := h163
            refine lv_iload_n hx hb dX3_goTwo_166 rfl (lv_at hl 9 rfl) ?_
            refine lv_goto (tgt := 172) hx hb dX3_goTwo_167 rfl ?_
            exact hJ172_5 (bag) ls (by rw [if_pos h163]) (lv_sub hl [0, 1, 2, 3, 4, 5, 6, 7, 8, 9, 10, 11] rfl)
    exact hL85_1 _ 0 0 0 ls (Nat.lt_succ_self _) (by omega) rfl (by subst_vars; rw [gosS]) (lv_sub hl [0, 1, 2, 3, 4, 5, 6, 7, 8, 9, 10] rfl)
  · have h37 : lateP σ (arrF σ x_ m_ c_) c_ := b01_n h37
    refine lv_aload_n hx hb dX3_goTwo_40 rfl (lv_at hl 3 rfl) ?_
    refine lv_iload hx hb dX3_goTwo_41 (lv_at hl 8 rfl) ?_
    refine cVi (As := [.int (nI c_)]) (rest := []) ⟨hx, hb, hml, hown, hts⟩ (mt_X3_totalOf l D dA h ad σ τ c_ hI (by omega)) (cw_X3_X3_totalOf hts ⟨Nat.le_of_ble_eq_true rfl, Nat.le_of_ble_eq_true rfl⟩) mB_bl (mB_now hK hP) (va_recv hK hP (ci := 0) (q0 := 0) rfl rfl) rfl hl.1 rfl (Nat.le_of_ble_eq_true rfl) dX3_goTwo_43 ⟨Nat.le_of_ble_eq_true rfl, Nat.le_of_ble_eq_true rfl⟩ ?_
    refine lv_i2l (v := (total σ c_ : Int32).toInt64) hx hb dX3_goTwo_46 rfl ?_
    refine lv_aload_n hx hb dX3_goTwo_47 rfl (lv_at hl 3 rfl) ?_
    refine lv_iload hx hb dX3_goTwo_48 (lv_at hl 8 rfl) ?_
    refine lv_iconst (v := (-1)) hx hb dX3_goTwo_50 rfl ?_
    refine cVl (As := [.int (nI c_), .int (-1)]) (rest := [.long ((total σ c_ : Int32).toInt64)]) ⟨hx, hb, hml, hown, hts⟩ (mt_X3_got l D dA h ad σ τ c_ (-1) (by omega)) (cw_X3_X3_got hts ⟨Nat.le_of_ble_eq_true rfl, Nat.le_of_ble_eq_true rfl⟩) mB_bl (mB_now hK hP) (va_recv hK hP (ci := 0) (q0 := 0) rfl rfl) rfl hl.1 rfl (Nat.le_of_ble_eq_true rfl) dX3_goTwo_51 ⟨Nat.le_of_ble_eq_true rfl, Nat.le_of_ble_eq_true rfl⟩ ?_
    refine lv_lload hx hb dX3_goTwo_54 (lv_at hl 0 rfl) ?_
    refine lv_lmul hx hb dX3_goTwo_56 ?_
    refine lv_aload_n hx hb dX3_goTwo_57 rfl (lv_at hl 3 rfl) ?_
    refine lv_aload_n hx hb dX3_goTwo_58 rfl (lv_at hl 3 rfl) ?_
    refine va_get (D := D) (ci := 0) (v := .ref (ad 5)) (C := RX3) (T := TX3) (N := 31) hx hb hts in_X3 hown hK hP 0 rfl rfl 12 (by decide) (hts _ q1126) (fun _ h9 => h9) rfl dX3_goTwo_59 ?_
    refine lv_bipush (v := 6) hx hb dX3_goTwo_62 rfl ?_
    refine lv_iload hx hb dX3_goTwo_64 (lv_at hl 8 rfl) ?_
    refine lv_imul hx hb dX3_goTwo_66 ?_
    refine wa_iald (f := σ.calls) hx hb hK hP 6 0 rfl rfl (6 * c_) ((nz_mul rfl rfl)) (by omega) (by decide) dX3_goTwo_67 ?_
    refine w_topi (y := nI (plF σ c_)) (hpl.2) ?_
    refine lv_iload hx hb dX3_goTwo_68 (lv_at hl 2 rfl) ?_
    refine lv_iload_n hx hb dX3_goTwo_70 rfl (lv_at hl 6 rfl) ?_
    refine lv_iload hx hb dX3_goTwo_71 (lv_at hl 1 rfl) ?_
    refine cVl (As := [.int (nI (plF σ c_)), .int (arrF σ x_ m_ c_), .int bag, .int (restF set_ c_)]) (rest := [.long ((gotF σ c_ (-1)) * (tosF σ (restF set_ c_) 6)), .long ((total σ c_ : Int32).toInt64)]) ⟨hx, hb, hml, hown, hts⟩ (mt_X3_one l D dA h ad σ τ (plF σ c_) (arrF σ x_ m_ c_) bag (restF set_ c_) hI hpl.1) (cw_X3_X3_one hts ⟨Nat.le_of_ble_eq_true rfl, Nat.le_of_ble_eq_true rfl⟩) mB_bl (mB_now hK hP) (va_recv hK hP (ci := 0) (q0 := 0) rfl rfl) rfl hl.1 rfl (Nat.le_of_ble_eq_true rfl) dX3_goTwo_73 ⟨Nat.le_of_ble_eq_true rfl, Nat.le_of_ble_eq_true rfl⟩ ?_
    refine lv_ladd hx hb dX3_goTwo_76 ?_
    refine lv_lmul hx hb dX3_goTwo_77 ?_
    exact r_l hQ hx hb hr hlocks rfl (by simp only [goV, eq_true h37, if_true, if_false, ite_true, ite_false, not_true_eq_false, not_false_eq_true, and_true, true_and, and_false, false_and, or_true, true_or, or_false, false_or, and_self, or_self, eq_self]) dX3_goTwo_78

theorem cw_X3_X3_goTwo {R : Room} {s : State} {args : Array Value} (hts : ∀ w ∈ lw_all, w.before args s = true) (hR : rmX3_goTwo.frames + 1 ≤ R.frames ∧ 8 + (14 + 11) + rmX3_goTwo.locals ≤ R.locals) : CallW R s args RX3 RX3 284 yX3_goTwo cX3_goTwo 14 (some .long) (ws_ yX3_goTwo cX3_goTwo 14 (some .long)) rmX3_goTwo 0 0 5 := cwV 5 hts (lw_V q1482 q1484 qs71 q83 q1485) rfl rfl rfl (by decide +kernel) hR
def rmX3_two : Room := { frames := 4, cells := 0, slots := 0, locals := 114 }
set_option maxHeartbeats 1000000 in
theorem mt_X3_two (l : Launch) (D : va_G) (dA : Nat → ClassId) (h : Nat) (ad : Nat → Nat) (σ : St) (τ : Sc) (x_ : Nat) (m_ : Int32) (bag : Int32) (set_ : Int32) (hI : Inv σ) (hx6 : x_ < 6) : Met l yX3_two (ws_ yX3_two cX3_two 10 (some .long)) rmX3_two (va_Pc [.ref h, .int (nI x_), .int m_, .int bag, .int set_] (mB D dA h ad σ τ)) (vp_Sl (fun r => r = maxV σ (oneF σ) x_ m_ bag set_)) 0 0 (fun _ => False) := by
  refine w_start (by decide) (Nat.le_of_ble_eq_true rfl) ?_
  intro p e s m args below meth c Q ls hQ hx hb hr hlocks hml hown hnm hts hB hl
  have hown : s.vm.findClass RX3 = some m.cls := hown
  have hl : lv_has ls 10 [(0, .ref h), (1, .int (nI x_)), (2, .int m_), (3, .int bag), (4, .int set_)] := hl
  obtain ⟨hP, hK⟩ := hB
  refine lv_lconst (v := 0) hx hb dX3_two_0 rfl ?_
  refine lv_lstore (lv' := [(5, .long 0), (0, .ref h), (1, .int (nI x_)), (2, .int m_), (3, .int bag), (4, .int set_)]) hx hb dX3_two_1 hl (by decide) rfl (fun ls hl => ?_)
  refine lv_iconst (v := 0) hx hb dX3_two_3 rfl ?_
  refine lv_istore (lv' := [(7, .int 0), (5, .long 0), (0, .ref h), (1, .int (nI x_)), (2, .int m_), (3, .int bag), (4, .int set_)]) hx hb dX3_two_4 hl (by decide) rfl (fun ls hl => ?_)
  have hL6_1 : ∀ (n_2 : Nat) (k : Nat) (x7 : Int32) (x5 : Int64) (ls : Array Slot), (6 - k) < n_2 → (k ≤ 6) → x7 = (nI k) → x5 = (maxG σ (oneF σ) x_ m_ bag set_ k) → lv_has ls 10 [(7, .int x7), (5, .long x5), (0, .ref h), (1, .int (nI x_)), (2, .int m_), (3, .int bag), (4, .int set_)] → W p l e rmX3_two s m args below meth c s.heap [] 0 0 Q (F0 m 6 ls []) := by
    intro n_2
    induction n_2 with
    | zero => intro k x7 x5 ls hm_4; exact absurd hm_4 (Nat.not_lt_zero _)
    | succ n_2 ih_3 =>
      intro k x7 x5 ls hm_4 hk ex7 ex5 hl
      subst ex7 ex5
      refine lv_iload hx hb dX3_two_6 (lv_at hl 0 rfl) ?_
      refine lv_bipush (v := 6) hx hb dX3_two_8 rfl ?_
      refine lv_icmp_ge (tgt := 63) hx hb dX3_two_10 rfl (fun h10 => ?_) (fun h10 => ?_)
      · have h10 : 6 ≤ k := (nz_le (a := 6) (b := k) rfl rfl (by omega) (by omega)).mp h10
        have hk_ : k = 6 := by omega
        subst hk_
        refine lv_lload hx hb dX3_two_63 (lv_at hl 1 rfl) ?_
        exact r_l hQ hx hb hr hlocks rfl (rfl) dX3_two_65
      · have h10 : ¬ (6 ≤ k) := fun z9 => h10 ((nz_le (a := 6) (b := k) rfl rfl (by omega) (by omega)).mpr z9)
        refine lv_iload hx hb dX3_two_13 (lv_at hl 6 rfl) ?_
        refine lv_iload hx hb dX3_two_15 (lv_at hl 0 rfl) ?_
        refine cSi (As := [.int set_, .int (nI k)]) (rest := []) ⟨hx, hb, hml, hown, hts⟩ (mt_X3_has l set_ (nI k)) (cw_X3_X3_has hts ⟨Nat.le_of_ble_eq_true rfl, Nat.le_of_ble_eq_true rfl⟩) w_blT (fun _ _ _ => trivial) rfl hl.1 rfl (Nat.le_of_ble_eq_true rfl) dX3_two_17 ⟨Nat.le_of_ble_eq_true rfl, Nat.le_of_ble_eq_true rfl⟩ ?_
        have hJ38_5 : ∀ (v_6 : Int64) (ls : Array Slot), v_6 = (if hasP set_ (nI k) then goV σ (oneF σ) x_ m_ bag set_ k else 0) → lv_has ls 10 [(7, .int (nI k)), (5, .long (maxG σ (oneF σ) x_ m_ bag set_ k)), (0, .ref h), (1, .int (nI x_)), (2, .int m_), (3, .int bag), (4, .int set_)] → W p l e rmX3_two s m args below meth c s.heap [] 0 0 Q (F0 m 38 ls [.long v_6]) := by
          intro v_6 ls ev_6 hl
          refine lv_lstore (lv' := [(8, .long v_6), (7, .int (nI k)), (5, .long (maxG σ (oneF σ) x_ m_ bag set_ k)), (0, .ref h), (1, .int (nI x_)), (2, .int m_), (3, .int bag), (4, .int set_)]) hx hb dX3_two_38 hl (by decide) rfl (fun ls hl => ?_)
          refine lv_lload hx hb dX3_two_40 (lv_at hl 0 rfl) ?_
          refine lv_lload hx hb dX3_two_42 (lv_at hl 2 rfl) ?_
          refine W.lcmp hx hb dX3_two_44 ?_
          have hJ55_7 : ∀ (v_8 : Int64) (ls : Array Slot), v_8 = (if v_6 ≤ (maxG σ (oneF σ) x_ m_ bag set_ k) then maxG σ (oneF σ) x_ m_ bag set_ k else v_6) → lv_has ls 10 [(8, .long v_6), (7, .int (nI k)), (5, .long (maxG σ (oneF σ) x_ m_ bag set_ k)), (0, .ref h), (1, .int (nI x_)), (2, .int m_), (3, .int bag), (4, .int set_)] → W p l e rmX3_two s m args below meth c s.heap [] 0 0 Q (F0 m 55 ls [.long v_8]) := by
            intro v_8 ls ev_8 hl
            refine lv_lstore (lv' := [(5, .long v_8), (8, .long v_6), (7, .int (nI k)), (0, .ref h), (1, .int (nI x_)), (2, .int m_), (3, .int bag), (4, .int set_)]) hx hb dX3_two_55 hl (by decide) rfl (fun ls hl => ?_)
            refine lv_iinc (v := nI (k + 1)) (lv' := [(7, .int (nI (k + 1))), (5, .long v_8), (8, .long v_6), (0, .ref h), (1, .int (nI x_)), (2, .int m_), (3, .int bag), (4, .int set_)]) hx hb dX3_two_57 hl (k := 2) rfl (nI_1 k) (by decide) rfl (fun ls hl => ?_)
            refine lv_goto (tgt := 6) hx hb dX3_two_60 rfl ?_
            exact ih_3 (k + 1) (nI (k + 1)) v_8 ls (by omega) (by omega) rfl (by subst_vars; rw [maxG]) (lv_sub hl [0, 1, 3, 4, 5, 6, 7] rfl)
          refine lv_if_le (tgt := 53) hx hb dX3_two_45 rfl (fun h45 => ?_) (fun h45 => ?_)
          · have h45 : v_6 ≤ (maxG σ (oneF σ) x_ m_ bag set_ k) := (lg_cmp_le v_6 (maxG σ (oneF σ) x_ m_ bag set_ k)).mp h45
            refine lv_lload hx hb dX3_two_53 (lv_at hl 2 rfl) ?_
            exact hJ55_7 (maxG σ (oneF σ) x_ m_ bag set_ k) ls (by rw [if_pos h45]) (lv_sub hl [0, 1, 2, 3, 4, 5, 6, 7] rfl)
          · have h45 : ¬ (v_6 ≤ (maxG σ (oneF σ) x_ m_ bag set_ k)) := fun z9 => h45 ((lg_cmp_le v_6 (maxG σ (oneF σ) x_ m_ bag set_ k)).mpr z9)
            refine lv_lload hx hb dX3_two_48 (lv_at hl 0 rfl) ?_
            refine lv_goto (tgt := 55) hx hb dX3_two_50 rfl ?_
            exact hJ55_7 (v_6) ls (by subst_vars; rw [if_neg h45]) (lv_sub hl [0, 1, 2, 3, 4, 5, 6, 7] rfl)
        refine lv_if_eq (tgt := 37) hx hb dX3_two_20 rfl (fun h20 => ?_) (fun h20 => ?_)
        · have h20 : ¬ (hasP set_ (nI k)) := b01_0.mp h20
          refine lv_lconst (v := 0) hx hb dX3_two_37 rfl ?_
          exact hJ38_5 (0) ls (by rw [if_neg h20]) (lv_sub hl [0, 1, 2, 3, 4, 5, 6] rfl)
        · have h20 : hasP set_ (nI k) := b01_n h20
          refine lv_aload_n hx hb dX3_two_23 rfl (lv_at hl 2 rfl) ?_
          refine lv_iload_n hx hb dX3_two_24 rfl (lv_at hl 3 rfl) ?_
          refine lv_iload_n hx hb dX3_two_25 rfl (lv_at hl 4 rfl) ?_
          refine lv_iload_n hx hb dX3_two_26 rfl (lv_at hl 5 rfl) ?_
          refine lv_iload hx hb dX3_two_27 (lv_at hl 6 rfl) ?_
          refine lv_iload hx hb dX3_two_29 (lv_at hl 0 rfl) ?_
          refine cVl (As := [.int (nI x_), .int m_, .int bag, .int set_, .int (nI k)]) (rest := []) ⟨hx, hb, hml, hown, hts⟩ (mt_X3_goTwo l D dA h ad σ τ x_ m_ bag set_ k hI (by omega) (by omega)) (cw_X3_X3_goTwo hts ⟨Nat.le_of_ble_eq_true rfl, Nat.le_of_ble_eq_true rfl⟩) mB_bl (mB_now hK hP) (va_recv hK hP (ci := 0) (q0 := 0) rfl rfl) rfl hl.1 rfl (Nat.le_of_ble_eq_true rfl) dX3_two_31 ⟨Nat.le_of_ble_eq_true rfl, Nat.le_of_ble_eq_true rfl⟩ ?_
          refine lv_goto (tgt := 38) hx hb dX3_two_34 rfl ?_
          exact hJ38_5 (goV σ (oneF σ) x_ m_ bag set_ k) ls (by rw [if_pos h20]) (lv_sub hl [0, 1, 2, 3, 4, 5, 6] rfl)
  exact hL6_1 _ 0 0 0 ls (Nat.lt_succ_self _) (by omega) rfl (by subst_vars; rw [maxG]) (lv_sub hl [0, 1, 2, 3, 4, 5, 6] rfl)

theorem cw_X3_X3_two {R : Room} {s : State} {args : Array Value} (hts : ∀ w ∈ lw_all, w.before args s = true) (hR : rmX3_two.frames + 1 ≤ R.frames ∧ 8 + (10 + 11) + rmX3_two.locals ≤ R.locals) : CallW R s args RX3 RX3 288 yX3_two cX3_two 10 (some .long) (ws_ yX3_two cX3_two 10 (some .long)) rmX3_two 0 0 4 := cwV 4 hts (lw_V q1478 q1480 qs70 q83 q1481) rfl rfl rfl (by decide +kernel) hR
def rmX3_goThree : Room := { frames := 5, cells := 0, slots := 0, locals := 143 }
set_option maxHeartbeats 1000000 in
theorem mt_X3_goThree (l : Launch) (D : va_G) (dA : Nat → ClassId) (h : Nat) (ad : Nat → Nat) (σ : St) (τ : Sc) (x_ : Nat) (m_ : Int32) (bag : Int32) (set_ : Int32) (c_ : Nat) (hI : Inv σ) (hx6 : x_ < 6) (hc : c_ < 6) : Met l yX3_goThree (ws_ yX3_goThree cX3_goThree 14 (some .long)) rmX3_goThree (va_Pc [.ref h, .int (nI x_), .int m_, .int bag, .int set_, .int (nI c_)] (mB D dA h ad σ τ)) (vp_Sl (fun r => r = goV σ (maxV σ (oneF σ)) x_ m_ bag set_ c_)) 0 0 (fun _ => False) := by
  refine w_start (by decide) (Nat.le_of_ble_eq_true rfl) ?_
  intro p e s m args below meth c Q ls hQ hx hb hr hlocks hml hown hnm hts hB hl
  have hown : s.vm.findClass RX3 = some m.cls := hown
  have hl : lv_has ls 14 [(0, .ref h), (1, .int (nI x_)), (2, .int m_), (3, .int bag), (4, .int set_), (5, .int (nI c_))] := hl
  obtain ⟨hP, hK⟩ := hB
  have hpl := hI.pl2 c_ hc
  have hsm := hI.sm c_ hc
  refine lv_aload_n hx hb dX3_goThree_0 rfl (lv_at hl 0 rfl) ?_
  refine lv_iload_n hx hb dX3_goThree_1 rfl (lv_at hl 1 rfl) ?_
  refine lv_iload_n hx hb dX3_goThree_2 rfl (lv_at hl 2 rfl) ?_
  refine lv_iload hx hb dX3_goThree_3 (lv_at hl 5 rfl) ?_
  refine cVi (As := [.int (nI x_), .int m_, .int (nI c_)]) (rest := []) ⟨hx, hb, hml, hown, hts⟩ (mt_X3_arrival l D dA h ad σ τ x_ m_ c_ hI (by omega) (by omega)) (cw_X3_X3_arrival hts ⟨Nat.le_of_ble_eq_true rfl, Nat.le_of_ble_eq_true rfl⟩) mB_bl (mB_now hK hP) (va_recv hK hP (ci := 0) (q0 := 0) rfl rfl) rfl hl.1 rfl (Nat.le_of_ble_eq_true rfl) dX3_goThree_5 ⟨Nat.le_of_ble_eq_true rfl, Nat.le_of_ble_eq_true rfl⟩ ?_
  refine lv_istore (lv' := [(6, .int (arrF σ x_ m_ c_)), (0, .ref h), (1, .int (nI x_)), (2, .int m_), (3, .int bag), (4, .int set_), (5, .int (nI c_))]) hx hb dX3_goThree_8 hl (by decide) rfl (fun ls hl => ?_)
  refine lv_iload hx hb dX3_goThree_10 (lv_at hl 5 rfl) ?_
  refine lv_iconst (v := 1) hx hb dX3_goThree_12 rfl ?_
  refine lv_iload hx hb dX3_goThree_13 (lv_at hl 6 rfl) ?_
  refine lv_ishl hx hb dX3_goThree_15 ?_
  refine lv_iconst (v := (-1)) hx hb dX3_goThree_16 rfl ?_
  refine lv_ixor hx hb dX3_goThree_17 ?_
  refine lv_iand hx hb dX3_goThree_18 ?_
  refine w_topi (y := restF set_ c_) (rfl) ?_
  refine lv_istore (lv' := [(7, .int (restF set_ c_)), (6, .int (arrF σ x_ m_ c_)), (0, .ref h), (1, .int (nI x_)), (2, .int m_), (3, .int bag), (4, .int set_), (5, .int (nI c_))]) hx hb dX3_goThree_19 hl (by decide) rfl (fun ls hl => ?_)
  refine lv_aload_n hx hb dX3_goThree_21 rfl (lv_at hl 2 rfl) ?_
  refine lv_iload hx hb dX3_goThree_22 (lv_at hl 0 rfl) ?_
  refine cVl (As := [.int (restF set_ c_)]) (rest := []) ⟨hx, hb, hml, hown, hts⟩ (mt_X3_totals l D dA h ad σ τ (restF set_ c_) hI) (cw_X3_X3_totals hts ⟨Nat.le_of_ble_eq_true rfl, Nat.le_of_ble_eq_true rfl⟩) mB_bl (mB_now hK hP) (va_recv hK hP (ci := 0) (q0 := 0) rfl rfl) rfl hl.1 rfl (Nat.le_of_ble_eq_true rfl) dX3_goThree_24 ⟨Nat.le_of_ble_eq_true rfl, Nat.le_of_ble_eq_true rfl⟩ ?_
  refine lv_lstore (lv' := [(8, .long (tosF σ (restF set_ c_) 6)), (7, .int (restF set_ c_)), (6, .int (arrF σ x_ m_ c_)), (0, .ref h), (1, .int (nI x_)), (2, .int m_), (3, .int bag), (4, .int set_), (5, .int (nI c_))]) hx hb dX3_goThree_27 hl (by decide) rfl (fun ls hl => ?_)
  refine lv_aload_n hx hb dX3_goThree_29 rfl (lv_at hl 3 rfl) ?_
  refine lv_iload hx hb dX3_goThree_30 (lv_at hl 2 rfl) ?_
  refine lv_iload hx hb dX3_goThree_32 (lv_at hl 8 rfl) ?_
  refine cVi (As := [.int (arrF σ x_ m_ c_), .int (nI c_)]) (rest := []) ⟨hx, hb, hml, hown, hts⟩ (mt_X3_isLate l D dA h ad σ τ (arrF σ x_ m_ c_) c_ (by omega)) (cw_X3_X3_isLate hts ⟨Nat.le_of_ble_eq_true rfl, Nat.le_of_ble_eq_true rfl⟩) mB_bl (mB_now hK hP) (va_recv hK hP (ci := 0) (q0 := 0) rfl rfl) rfl hl.1 rfl (Nat.le_of_ble_eq_true rfl) dX3_goThree_34 ⟨Nat.le_of_ble_eq_true rfl, Nat.le_of_ble_eq_true rfl⟩ ?_
  refine lv_if_eq (tgt := 79) hx hb dX3_goThree_37 rfl (fun h37 => ?_) (fun h37 => ?_)
  · have h37 : ¬ (lateP σ (arrF σ x_ m_ c_) c_) := b01_0.mp h37
    refine lv_lconst (v := 0) hx hb dX3_goThree_79 rfl ?_
    refine lv_lstore (lv' := [(10, .long 0), (8, .long (tosF σ (restF set_ c_) 6)), (7, .int (restF set_ c_)), (6, .int (arrF σ x_ m_ c_)), (0, .ref h), (1, .int (nI x_)), (2, .int m_), (3, .int bag), (4, .int set_), (5, .int (nI c_))]) hx hb dX3_goThree_80 hl (by decide) rfl (fun ls hl => ?_)
    refine lv_iconst (v := 0) hx hb dX3_goThree_82 rfl ?_
    refine lv_istore (lv' := [(12, .int 0), (10, .long 0), (8, .long (tosF σ (restF set_ c_) 6)), (7, .int (restF set_ c_)), (6, .int (arrF σ x_ m_ c_)), (0, .ref h), (1, .int (nI x_)), (2, .int m_), (3, .int bag), (4, .int set_), (5, .int (nI c_))]) hx hb dX3_goThree_83 hl (by decide) rfl (fun ls hl => ?_)
    have hL85_1 : ∀ (n_2 : Nat) (k : Nat) (x12 : Int32) (x10 : Int64) (ls : Array Slot), (4 - k) < n_2 → (k ≤ σ.sm c_) → x12 = (nI k) → x10 = (gosS σ (maxV σ (oneF σ)) (arrF σ x_ m_ c_) bag (restF set_ c_) (tosF σ (restF set_ c_) 6) c_ k) → lv_has ls 14 [(12, .int x12), (10, .long x10), (8, .long (tosF σ (restF set_ c_) 6)), (7, .int (restF set_ c_)), (6, .int (arrF σ x_ m_ c_)), (0, .ref h), (1, .int (nI x_)), (2, .int m_), (3, .int bag), (4, .int set_), (5, .int (nI c_))] → W p l e rmX3_goThree s m args below meth c s.heap [] 0 0 Q (F0 m 85 ls []) := by
      intro n_2
      induction n_2 with
      | zero => intro k x12 x10 ls hm_4; exact absurd hm_4 (Nat.not_lt_zero _)
      | succ n_2 ih_3 =>
        intro k x12 x10 ls hm_4 hk ex12 ex10 hl
        subst ex12 ex10
        refine lv_iload hx hb dX3_goThree_85 (lv_at hl 0 rfl) ?_
        refine lv_aload_n hx hb dX3_goThree_87 rfl (lv_at hl 5 rfl) ?_
        refine va_get (D := D) (ci := 0) (v := .ref (ad 6)) (C := RX3) (T := TX3) (N := 31) hx hb hts in_X3 hown hK hP 0 rfl rfl 13 (by decide) (hts _ q1127) (fun _ h9 => h9) rfl dX3_goThree_88 ?_
        refine lv_iload hx hb dX3_goThree_91 (lv_at hl 10 rfl) ?_
        refine wa_iald (f := fun c => nI (σ.sm c)) hx hb hK hP 7 0 rfl rfl (c_) (rfl) (by omega) (by decide) dX3_goThree_93 ?_
        refine w_topi (y := nI (σ.sm c_)) rfl ?_
        refine lv_icmp_ge (tgt := 188) hx hb dX3_goThree_94 rfl (fun h94 => ?_) (fun h94 => ?_)
        · have h94 : (σ.sm c_) ≤ k := (nz_le (a := σ.sm c_) (b := k) rfl rfl (by omega) (by omega)).mp h94
          have hk_ : k = σ.sm c_ := by omega
          subst hk_
          refine lv_lload hx hb dX3_goThree_188 (lv_at hl 1 rfl) ?_
          exact r_l hQ hx hb hr hlocks rfl (by simp only [goV, eq_false h37, eq_true h94, if_true, if_false, ite_true, ite_false, not_true_eq_false, not_false_eq_true, and_true, true_and, and_false, false_and, or_true, true_or, or_false, false_or, and_self, or_self, eq_self]) dX3_goThree_190
        · have h94 : ¬ ((σ.sm c_) ≤ k) := fun z9 => h94 ((nz_le (a := σ.sm c_) (b := k) rfl rfl (by omega) (by omega)).mpr z9)
          refine lv_aload_n hx hb dX3_goThree_97 rfl (lv_at hl 5 rfl) ?_
          refine lv_iload_n hx hb dX3_goThree_98 rfl (lv_at hl 8 rfl) ?_
          refine lv_iload hx hb dX3_goThree_99 (lv_at hl 10 rfl) ?_
          refine lv_iload hx hb dX3_goThree_101 (lv_at hl 0 rfl) ?_
          refine cVi (As := [.int bag, .int (nI c_), .int (nI k)]) (rest := []) ⟨hx, hb, hml, hown, hts⟩ (mt_X3_leftOf l D dA h ad σ τ bag c_ k (by omega) (by omega)) (cw_X3_X3_leftOf hts ⟨Nat.le_of_ble_eq_true rfl, Nat.le_of_ble_eq_true rfl⟩) mB_bl (mB_now hK hP) (va_recv hK hP (ci := 0) (q0 := 0) rfl rfl) rfl hl.1 rfl (Nat.le_of_ble_eq_true rfl) dX3_goThree_103 ⟨Nat.le_of_ble_eq_true rfl, Nat.le_of_ble_eq_true rfl⟩ ?_
          refine lv_istore (lv' := [(13, .int (leftF σ bag c_ k)), (12, .int (nI k)), (10, .long (gosS σ (maxV σ (oneF σ)) (arrF σ x_ m_ c_) bag (restF set_ c_) (tosF σ (restF set_ c_) 6) c_ k)), (8, .long (tosF σ (restF set_ c_) 6)), (7, .int (restF set_ c_)), (6, .int (arrF σ x_ m_ c_)), (0, .ref h), (1, .int (nI x_)), (2, .int m_), (3, .int bag), (4, .int set_), (5, .int (nI c_))]) hx hb dX3_goThree_106 hl (by decide) rfl (fun ls hl => ?_)
          refine lv_lload hx hb dX3_goThree_108 (lv_at hl 2 rfl) ?_
          refine lv_aload_n hx hb dX3_goThree_110 rfl (lv_at hl 6 rfl) ?_
          refine va_get (D := D) (ci := 0) (v := .ref (ad 7)) (C := RX3) (T := TX3) (N := 31) hx hb hts in_X3 hown hK hP 0 rfl rfl 14 (by decide) (hts _ q1128) (fun _ h9 => h9) rfl dX3_goThree_111 ?_
          refine lv_bipush (v := 16) hx hb dX3_goThree_114 rfl ?_
          refine lv_iload hx hb dX3_goThree_116 (lv_at hl 11 rfl) ?_
          refine lv_imul hx hb dX3_goThree_118 ?_
          refine lv_iconst (v := 4) hx hb dX3_goThree_119 rfl ?_
          refine lv_iload hx hb dX3_goThree_120 (lv_at hl 1 rfl) ?_
          refine lv_imul hx hb dX3_goThree_122 ?_
          refine lv_iadd hx hb dX3_goThree_123 ?_
          refine wa_iald (f := σ.sorts) hx hb hK hP 8 0 rfl rfl ((16 * c_) + (4 * k)) ((nz_add (nz_mul rfl rfl) (nz_mul rfl rfl))) (by omega) (by decide) dX3_goThree_124 ?_
          refine lv_i2l (v := (σ.sorts ((16 * c_) + (4 * k)) : Int32).toInt64) hx hb dX3_goThree_125 rfl ?_
          refine lv_aload_n hx hb dX3_goThree_126 rfl (lv_at hl 6 rfl) ?_
          refine lv_iload hx hb dX3_goThree_127 (lv_at hl 11 rfl) ?_
          refine lv_iload hx hb dX3_goThree_129 (lv_at hl 0 rfl) ?_
          refine cVl (As := [.int (nI c_), .int (leftF σ bag c_ k)]) (rest := [.long ((σ.sorts ((16 * c_) + (4 * k)) : Int32).toInt64), .long (gosS σ (maxV σ (oneF σ)) (arrF σ x_ m_ c_) bag (restF set_ c_) (tosF σ (restF set_ c_) 6) c_ k)]) ⟨hx, hb, hml, hown, hts⟩ (mt_X3_got l D dA h ad σ τ c_ (leftF σ bag c_ k) (by omega)) (cw_X3_X3_got hts ⟨Nat.le_of_ble_eq_true rfl, Nat.le_of_ble_eq_true rfl⟩) mB_bl (mB_now hK hP) (va_recv hK hP (ci := 0) (q0 := 0) rfl rfl) rfl hl.1 rfl (Nat.le_of_ble_eq_true rfl) dX3_goThree_131 ⟨Nat.le_of_ble_eq_true rfl, Nat.le_of_ble_eq_true rfl⟩ ?_
          refine lv_lload hx hb dX3_goThree_134 (lv_at hl 3 rfl) ?_
          refine lv_lmul hx hb dX3_goThree_136 ?_
          refine lv_aload_n hx hb dX3_goThree_137 rfl (lv_at hl 6 rfl) ?_
          refine lv_aload_n hx hb dX3_goThree_138 rfl (lv_at hl 6 rfl) ?_
          refine va_get (D := D) (ci := 0) (v := .ref (ad 5)) (C := RX3) (T := TX3) (N := 31) hx hb hts in_X3 hown hK hP 0 rfl rfl 12 (by decide) (hts _ q1126) (fun _ h9 => h9) rfl dX3_goThree_139 ?_
          refine lv_bipush (v := 6) hx hb dX3_goThree_142 rfl ?_
          refine lv_iload hx hb dX3_goThree_144 (lv_at hl 11 rfl) ?_
          refine lv_imul hx hb dX3_goThree_146 ?_
          refine wa_iald (f := σ.calls) hx hb hK hP 6 0 rfl rfl (6 * c_) ((nz_mul rfl rfl)) (by omega) (by decide) dX3_goThree_147 ?_
          refine w_topi (y := nI (plF σ c_)) (hpl.2) ?_
          refine lv_aload_n hx hb dX3_goThree_148 rfl (lv_at hl 6 rfl) ?_
          refine lv_iload hx hb dX3_goThree_149 (lv_at hl 5 rfl) ?_
          refine lv_iload hx hb dX3_goThree_151 (lv_at hl 11 rfl) ?_
          refine lv_iload hx hb dX3_goThree_153 (lv_at hl 1 rfl) ?_
          refine lv_iload hx hb dX3_goThree_155 (lv_at hl 0 rfl) ?_
          refine cVi (As := [.int (arrF σ x_ m_ c_), .int (nI c_), .int (nI k), .int (leftF σ bag c_ k)]) (rest := [.int (nI (plF σ c_)), .ref h, .long ((gotF σ c_ (leftF σ bag c_ k)) * (tosF σ (restF set_ c_) 6)), .long ((σ.sorts ((16 * c_) + (4 * k)) : Int32).toInt64), .long (gosS σ (maxV σ (oneF σ)) (arrF σ x_ m_ c_) bag (restF set_ c_) (tosF σ (restF set_ c_) 6) c_ k)]) ⟨hx, hb, hml, hown, hts⟩ (mt_X3_then l D dA h ad σ τ (arrF σ x_ m_ c_) c_ k (leftF σ bag c_ k) (by omega) (by omega)) (cw_X3_X3_then hts ⟨Nat.le_of_ble_eq_true rfl, Nat.le_of_ble_eq_true rfl⟩) mB_bl (mB_now hK hP) (va_recv hK hP (ci := 0) (q0 := 0) rfl rfl) rfl hl.1 rfl (Nat.le_of_ble_eq_true rfl) dX3_goThree_157 ⟨Nat.le_of_ble_eq_true rfl, Nat.le_of_ble_eq_true rfl⟩ ?_
          refine lv_iload hx hb dX3_goThree_160 (lv_at hl 0 rfl) ?_
          refine lv_iconst (v := (-1)) hx hb dX3_goThree_162 rfl ?_
          have hJ172_5 : ∀ (v_6 : Int32) (ls : Array Slot), v_6 = (if (leftF σ bag c_ k) = (-1) then bag else leftF σ bag c_ k) → lv_has ls 14 [(13, .int (leftF σ bag c_ k)), (12, .int (nI k)), (10, .long (gosS σ (maxV σ (oneF σ)) (arrF σ x_ m_ c_) bag (restF set_ c_) (tosF σ (restF set_ c_) 6) c_ k)), (8, .long (tosF σ (restF set_ c_) 6)), (7, .int (restF set_ c_)), (6, .int (arrF σ x_ m_ c_)), (0, .ref h), (1, .int (nI x_)), (2, .int m_), (3, .int bag), (4, .int set_), (5, .int (nI c_))] → W p l e rmX3_goThree s m args below meth c s.heap [] 0 0 Q (F0 m 172 ls [.int v_6, .int (thenF σ (arrF σ x_ m_ c_) c_ k (leftF σ bag c_ k)), .int (nI (plF σ c_)), .ref h, .long ((gotF σ c_ (leftF σ bag c_ k)) * (tosF σ (restF set_ c_) 6)), .long ((σ.sorts ((16 * c_) + (4 * k)) : Int32).toInt64), .long (gosS σ (maxV σ (oneF σ)) (arrF σ x_ m_ c_) bag (restF set_ c_) (tosF σ (restF set_ c_) 6) c_ k)]) := by
            intro v_6 ls ev_6 hl
            refine lv_iload hx hb dX3_goThree_172 (lv_at hl 4 rfl) ?_
            refine cVl (As := [.int (nI (plF σ c_)), .int (thenF σ (arrF σ x_ m_ c_) c_ k (leftF σ bag c_ k)), .int v_6, .int (restF set_ c_)]) (rest := [.long ((gotF σ c_ (leftF σ bag c_ k)) * (tosF σ (restF set_ c_) 6)), .long ((σ.sorts ((16 * c_) + (4 * k)) : Int32).toInt64), .long (gosS σ (maxV σ (oneF σ)) (arrF σ x_ m_ c_) bag (restF set_ c_) (tosF σ (restF set_ c_) 6) c_ k)]) ⟨hx, hb, hml, hown, hts⟩ (mt_X3_two l D dA h ad σ τ (plF σ c_) (thenF σ (arrF σ x_ m_ c_) c_ k (leftF σ bag c_ k)) v_6 (restF set_ c_) hI hpl.1) (cw_X3_X3_two hts ⟨Nat.le_of_ble_eq_true rfl, Nat.le_of_ble_eq_true rfl⟩) mB_bl (mB_now hK hP) (va_recv hK hP (ci := 0) (q0 := 0) rfl rfl) rfl hl.1 rfl (Nat.le_of_ble_eq_true rfl) dX3_goThree_174 ⟨Nat.le_of_ble_eq_true rfl, Nat.le_of_ble_eq_true rfl⟩ ?_
            refine lv_ladd hx hb dX3_goThree_177 ?_
            refine lv_lmul hx hb dX3_goThree_178 ?_
            refine lv_ladd hx hb dX3_goThree_179 ?_
            refine lv_lstore (lv' := [(10, .long ((gosS σ (maxV σ (oneF σ)) (arrF σ x_ m_ c_) bag (restF set_ c_) (tosF σ (restF set_ c_) 6) c_ k) + (((σ.sorts ((16 * c_) + (4 * k)) : Int32).toInt64) * (((gotF σ c_ (leftF σ bag c_ k)) * (tosF σ (restF set_ c_) 6)) + (maxV σ (oneF σ) (plF σ c_) (thenF σ (arrF σ x_ m_ c_) c_ k (leftF σ bag c_ k)) v_6 (restF set_ c_)))))), (13, .int (leftF σ bag c_ k)), (12, .int (nI k)), (8, .long (tosF σ (restF set_ c_) 6)), (7, .int (restF set_ c_)), (6, .int (arrF σ x_ m_ c_)), (0, .ref h), (1, .int (nI x_)), (2, .int m_), (3, .int bag), (4, .int set_), (5, .int (nI c_))]) hx hb dX3_goThree_180 hl (by decide) rfl (fun ls hl => ?_)
            refine lv_iinc (v := nI (k + 1)) (lv' := [(12, .int (nI (k + 1))), (10, .long ((gosS σ (maxV σ (oneF σ)) (arrF σ x_ m_ c_) bag (restF set_ c_) (tosF σ (restF set_ c_) 6) c_ k) + (((σ.sorts ((16 * c_) + (4 * k)) : Int32).toInt64) * (((gotF σ c_ (leftF σ bag c_ k)) * (tosF σ (restF set_ c_) 6)) + (maxV σ (oneF σ) (plF σ c_) (thenF σ (arrF σ x_ m_ c_) c_ k (leftF σ bag c_ k)) v_6 (restF set_ c_)))))), (13, .int (leftF σ bag c_ k)), (8, .long (tosF σ (restF set_ c_) 6)), (7, .int (restF set_ c_)), (6, .int (arrF σ x_ m_ c_)), (0, .ref h), (1, .int (nI x_)), (2, .int m_), (3, .int bag), (4, .int set_), (5, .int (nI c_))]) hx hb dX3_goThree_182 hl (k := 2) rfl (nI_1 k) (by decide) rfl (fun ls hl => ?_)
            refine lv_goto (tgt := 85) hx hb dX3_goThree_185 rfl ?_
            exact ih_3 (k + 1) (nI (k + 1)) ((gosS σ (maxV σ (oneF σ)) (arrF σ x_ m_ c_) bag (restF set_ c_) (tosF σ (restF set_ c_) 6) c_ k) + (((σ.sorts ((16 * c_) + (4 * k)) : Int32).toInt64) * (((gotF σ c_ (leftF σ bag c_ k)) * (tosF σ (restF set_ c_) 6)) + (maxV σ (oneF σ) (plF σ c_) (thenF σ (arrF σ x_ m_ c_) c_ k (leftF σ bag c_ k)) v_6 (restF set_ c_))))) ls (by omega) (by omega) rfl (by subst_vars; rw [gosS]) (lv_sub hl [0, 1, 3, 4, 5, 6, 7, 8, 9, 10, 11] rfl)
          refine lv_icmp_ne (tgt := 170) hx hb dX3_goThree_163 rfl (fun h163 => ?_) (fun h163 => ?_)
          · have h163 : ¬ ((leftF σ bag c_ k) = (-1)) := h163
            refine lv_iload hx hb dX3_goThree_170 (lv_at hl 0 rfl) ?_
            exact hJ172_5 (leftF σ bag c_ k) ls (by rw [if_neg h163]) (lv_sub hl [0, 1, 2, 3, 4, 5, 6, 7, 8, 9, 10, 11] rfl)
          · have h163 : (leftF σ bag c_ k) = (-1) := h163
            refine lv_iload_n hx hb dX3_goThree_166 rfl (lv_at hl 9 rfl) ?_
            refine lv_goto (tgt := 172) hx hb dX3_goThree_167 rfl ?_
            exact hJ172_5 (bag) ls (by rw [if_pos h163]) (lv_sub hl [0, 1, 2, 3, 4, 5, 6, 7, 8, 9, 10, 11] rfl)
    exact hL85_1 _ 0 0 0 ls (Nat.lt_succ_self _) (by omega) rfl (by subst_vars; rw [gosS]) (lv_sub hl [0, 1, 2, 3, 4, 5, 6, 7, 8, 9, 10] rfl)
  · have h37 : lateP σ (arrF σ x_ m_ c_) c_ := b01_n h37
    refine lv_aload_n hx hb dX3_goThree_40 rfl (lv_at hl 3 rfl) ?_
    refine lv_iload hx hb dX3_goThree_41 (lv_at hl 8 rfl) ?_
    refine cVi (As := [.int (nI c_)]) (rest := []) ⟨hx, hb, hml, hown, hts⟩ (mt_X3_totalOf l D dA h ad σ τ c_ hI (by omega)) (cw_X3_X3_totalOf hts ⟨Nat.le_of_ble_eq_true rfl, Nat.le_of_ble_eq_true rfl⟩) mB_bl (mB_now hK hP) (va_recv hK hP (ci := 0) (q0 := 0) rfl rfl) rfl hl.1 rfl (Nat.le_of_ble_eq_true rfl) dX3_goThree_43 ⟨Nat.le_of_ble_eq_true rfl, Nat.le_of_ble_eq_true rfl⟩ ?_
    refine lv_i2l (v := (total σ c_ : Int32).toInt64) hx hb dX3_goThree_46 rfl ?_
    refine lv_aload_n hx hb dX3_goThree_47 rfl (lv_at hl 3 rfl) ?_
    refine lv_iload hx hb dX3_goThree_48 (lv_at hl 8 rfl) ?_
    refine lv_iconst (v := (-1)) hx hb dX3_goThree_50 rfl ?_
    refine cVl (As := [.int (nI c_), .int (-1)]) (rest := [.long ((total σ c_ : Int32).toInt64)]) ⟨hx, hb, hml, hown, hts⟩ (mt_X3_got l D dA h ad σ τ c_ (-1) (by omega)) (cw_X3_X3_got hts ⟨Nat.le_of_ble_eq_true rfl, Nat.le_of_ble_eq_true rfl⟩) mB_bl (mB_now hK hP) (va_recv hK hP (ci := 0) (q0 := 0) rfl rfl) rfl hl.1 rfl (Nat.le_of_ble_eq_true rfl) dX3_goThree_51 ⟨Nat.le_of_ble_eq_true rfl, Nat.le_of_ble_eq_true rfl⟩ ?_
    refine lv_lload hx hb dX3_goThree_54 (lv_at hl 0 rfl) ?_
    refine lv_lmul hx hb dX3_goThree_56 ?_
    refine lv_aload_n hx hb dX3_goThree_57 rfl (lv_at hl 3 rfl) ?_
    refine lv_aload_n hx hb dX3_goThree_58 rfl (lv_at hl 3 rfl) ?_
    refine va_get (D := D) (ci := 0) (v := .ref (ad 5)) (C := RX3) (T := TX3) (N := 31) hx hb hts in_X3 hown hK hP 0 rfl rfl 12 (by decide) (hts _ q1126) (fun _ h9 => h9) rfl dX3_goThree_59 ?_
    refine lv_bipush (v := 6) hx hb dX3_goThree_62 rfl ?_
    refine lv_iload hx hb dX3_goThree_64 (lv_at hl 8 rfl) ?_
    refine lv_imul hx hb dX3_goThree_66 ?_
    refine wa_iald (f := σ.calls) hx hb hK hP 6 0 rfl rfl (6 * c_) ((nz_mul rfl rfl)) (by omega) (by decide) dX3_goThree_67 ?_
    refine w_topi (y := nI (plF σ c_)) (hpl.2) ?_
    refine lv_iload hx hb dX3_goThree_68 (lv_at hl 2 rfl) ?_
    refine lv_iload_n hx hb dX3_goThree_70 rfl (lv_at hl 6 rfl) ?_
    refine lv_iload hx hb dX3_goThree_71 (lv_at hl 1 rfl) ?_
    refine cVl (As := [.int (nI (plF σ c_)), .int (arrF σ x_ m_ c_), .int bag, .int (restF set_ c_)]) (rest := [.long ((gotF σ c_ (-1)) * (tosF σ (restF set_ c_) 6)), .long ((total σ c_ : Int32).toInt64)]) ⟨hx, hb, hml, hown, hts⟩ (mt_X3_two l D dA h ad σ τ (plF σ c_) (arrF σ x_ m_ c_) bag (restF set_ c_) hI hpl.1) (cw_X3_X3_two hts ⟨Nat.le_of_ble_eq_true rfl, Nat.le_of_ble_eq_true rfl⟩) mB_bl (mB_now hK hP) (va_recv hK hP (ci := 0) (q0 := 0) rfl rfl) rfl hl.1 rfl (Nat.le_of_ble_eq_true rfl) dX3_goThree_73 ⟨Nat.le_of_ble_eq_true rfl, Nat.le_of_ble_eq_true rfl⟩ ?_
    refine lv_ladd hx hb dX3_goThree_76 ?_
    refine lv_lmul hx hb dX3_goThree_77 ?_
    exact r_l hQ hx hb hr hlocks rfl (by simp only [goV, eq_true h37, if_true, if_false, ite_true, ite_false, not_true_eq_false, not_false_eq_true, and_true, true_and, and_false, false_and, or_true, true_or, or_false, false_or, and_self, or_self, eq_self]) dX3_goThree_78

theorem cw_X3_X3_goThree {R : Room} {s : State} {args : Array Value} (hts : ∀ w ∈ lw_all, w.before args s = true) (hR : rmX3_goThree.frames + 1 ≤ R.frames ∧ 8 + (14 + 11) + rmX3_goThree.locals ≤ R.locals) : CallW R s args RX3 RX3 291 yX3_goThree cX3_goThree 14 (some .long) (ws_ yX3_goThree cX3_goThree 14 (some .long)) rmX3_goThree 0 0 5 := cwV 5 hts (lw_V q1474 q1476 qs69 q83 q1477) rfl rfl rfl (by decide +kernel) hR
def rmX3_three : Room := { frames := 6, cells := 0, slots := 0, locals := 176 }
set_option maxHeartbeats 1000000 in
theorem mt_X3_three (l : Launch) (D : va_G) (dA : Nat → ClassId) (h : Nat) (ad : Nat → Nat) (σ : St) (τ : Sc) (x_ : Nat) (m_ : Int32) (bag : Int32) (set_ : Int32) (hI : Inv σ) (hx6 : x_ < 6) : Met l yX3_three (ws_ yX3_three cX3_three 10 (some .long)) rmX3_three (va_Pc [.ref h, .int (nI x_), .int m_, .int bag, .int set_] (mB D dA h ad σ τ)) (vp_Sl (fun r => r = maxV σ (maxV σ (oneF σ)) x_ m_ bag set_)) 0 0 (fun _ => False) := by
  refine w_start (by decide) (Nat.le_of_ble_eq_true rfl) ?_
  intro p e s m args below meth c Q ls hQ hx hb hr hlocks hml hown hnm hts hB hl
  have hown : s.vm.findClass RX3 = some m.cls := hown
  have hl : lv_has ls 10 [(0, .ref h), (1, .int (nI x_)), (2, .int m_), (3, .int bag), (4, .int set_)] := hl
  obtain ⟨hP, hK⟩ := hB
  refine lv_lconst (v := 0) hx hb dX3_three_0 rfl ?_
  refine lv_lstore (lv' := [(5, .long 0), (0, .ref h), (1, .int (nI x_)), (2, .int m_), (3, .int bag), (4, .int set_)]) hx hb dX3_three_1 hl (by decide) rfl (fun ls hl => ?_)
  refine lv_iconst (v := 0) hx hb dX3_three_3 rfl ?_
  refine lv_istore (lv' := [(7, .int 0), (5, .long 0), (0, .ref h), (1, .int (nI x_)), (2, .int m_), (3, .int bag), (4, .int set_)]) hx hb dX3_three_4 hl (by decide) rfl (fun ls hl => ?_)
  have hL6_1 : ∀ (n_2 : Nat) (k : Nat) (x7 : Int32) (x5 : Int64) (ls : Array Slot), (6 - k) < n_2 → (k ≤ 6) → x7 = (nI k) → x5 = (maxG σ (maxV σ (oneF σ)) x_ m_ bag set_ k) → lv_has ls 10 [(7, .int x7), (5, .long x5), (0, .ref h), (1, .int (nI x_)), (2, .int m_), (3, .int bag), (4, .int set_)] → W p l e rmX3_three s m args below meth c s.heap [] 0 0 Q (F0 m 6 ls []) := by
    intro n_2
    induction n_2 with
    | zero => intro k x7 x5 ls hm_4; exact absurd hm_4 (Nat.not_lt_zero _)
    | succ n_2 ih_3 =>
      intro k x7 x5 ls hm_4 hk ex7 ex5 hl
      subst ex7 ex5
      refine lv_iload hx hb dX3_three_6 (lv_at hl 0 rfl) ?_
      refine lv_bipush (v := 6) hx hb dX3_three_8 rfl ?_
      refine lv_icmp_ge (tgt := 63) hx hb dX3_three_10 rfl (fun h10 => ?_) (fun h10 => ?_)
      · have h10 : 6 ≤ k := (nz_le (a := 6) (b := k) rfl rfl (by omega) (by omega)).mp h10
        have hk_ : k = 6 := by omega
        subst hk_
        refine lv_lload hx hb dX3_three_63 (lv_at hl 1 rfl) ?_
        exact r_l hQ hx hb hr hlocks rfl (rfl) dX3_three_65
      · have h10 : ¬ (6 ≤ k) := fun z9 => h10 ((nz_le (a := 6) (b := k) rfl rfl (by omega) (by omega)).mpr z9)
        refine lv_iload hx hb dX3_three_13 (lv_at hl 6 rfl) ?_
        refine lv_iload hx hb dX3_three_15 (lv_at hl 0 rfl) ?_
        refine cSi (As := [.int set_, .int (nI k)]) (rest := []) ⟨hx, hb, hml, hown, hts⟩ (mt_X3_has l set_ (nI k)) (cw_X3_X3_has hts ⟨Nat.le_of_ble_eq_true rfl, Nat.le_of_ble_eq_true rfl⟩) w_blT (fun _ _ _ => trivial) rfl hl.1 rfl (Nat.le_of_ble_eq_true rfl) dX3_three_17 ⟨Nat.le_of_ble_eq_true rfl, Nat.le_of_ble_eq_true rfl⟩ ?_
        have hJ38_5 : ∀ (v_6 : Int64) (ls : Array Slot), v_6 = (if hasP set_ (nI k) then goV σ (maxV σ (oneF σ)) x_ m_ bag set_ k else 0) → lv_has ls 10 [(7, .int (nI k)), (5, .long (maxG σ (maxV σ (oneF σ)) x_ m_ bag set_ k)), (0, .ref h), (1, .int (nI x_)), (2, .int m_), (3, .int bag), (4, .int set_)] → W p l e rmX3_three s m args below meth c s.heap [] 0 0 Q (F0 m 38 ls [.long v_6]) := by
          intro v_6 ls ev_6 hl
          refine lv_lstore (lv' := [(8, .long v_6), (7, .int (nI k)), (5, .long (maxG σ (maxV σ (oneF σ)) x_ m_ bag set_ k)), (0, .ref h), (1, .int (nI x_)), (2, .int m_), (3, .int bag), (4, .int set_)]) hx hb dX3_three_38 hl (by decide) rfl (fun ls hl => ?_)
          refine lv_lload hx hb dX3_three_40 (lv_at hl 0 rfl) ?_
          refine lv_lload hx hb dX3_three_42 (lv_at hl 2 rfl) ?_
          refine W.lcmp hx hb dX3_three_44 ?_
          have hJ55_7 : ∀ (v_8 : Int64) (ls : Array Slot), v_8 = (if v_6 ≤ (maxG σ (maxV σ (oneF σ)) x_ m_ bag set_ k) then maxG σ (maxV σ (oneF σ)) x_ m_ bag set_ k else v_6) → lv_has ls 10 [(8, .long v_6), (7, .int (nI k)), (5, .long (maxG σ (maxV σ (oneF σ)) x_ m_ bag set_ k)), (0, .ref h), (1, .int (nI x_)), (2, .int m_), (3, .int bag), (4, .int set_)] → W p l e rmX3_three s m args below meth c s.heap [] 0 0 Q (F0 m 55 ls [.long v_8]) := by
            intro v_8 ls ev_8 hl
            refine lv_lstore (lv' := [(5, .long v_8), (8, .long v_6), (7, .int (nI k)), (0, .ref h), (1, .int (nI x_)), (2, .int m_), (3, .int bag), (4, .int set_)]) hx hb dX3_three_55 hl (by decide) rfl (fun ls hl => ?_)
            refine lv_iinc (v := nI (k + 1)) (lv' := [(7, .int (nI (k + 1))), (5, .long v_8), (8, .long v_6), (0, .ref h), (1, .int (nI x_)), (2, .int m_), (3, .int bag), (4, .int set_)]) hx hb dX3_three_57 hl (k := 2) rfl (nI_1 k) (by decide) rfl (fun ls hl => ?_)
            refine lv_goto (tgt := 6) hx hb dX3_three_60 rfl ?_
            exact ih_3 (k + 1) (nI (k + 1)) v_8 ls (by omega) (by omega) rfl (by subst_vars; rw [maxG]) (lv_sub hl [0, 1, 3, 4, 5, 6, 7] rfl)
          refine lv_if_le (tgt := 53) hx hb dX3_three_45 rfl (fun h45 => ?_) (fun h45 => ?_)
          · have h45 : v_6 ≤ (maxG σ (maxV σ (oneF σ)) x_ m_ bag set_ k) := (lg_cmp_le v_6 (maxG σ (maxV σ (oneF σ)) x_ m_ bag set_ k)).mp h45
            refine lv_lload hx hb dX3_three_53 (lv_at hl 2 rfl) ?_
            exact hJ55_7 (maxG σ (maxV σ (oneF σ)) x_ m_ bag set_ k) ls (by rw [if_pos h45]) (lv_sub hl [0, 1, 2, 3, 4, 5, 6, 7] rfl)
          · have h45 : ¬ (v_6 ≤ (maxG σ (maxV σ (oneF σ)) x_ m_ bag set_ k)) := fun z9 => h45 ((lg_cmp_le v_6 (maxG σ (maxV σ (oneF σ)) x_ m_ bag set_ k)).mpr z9)
            refine lv_lload hx hb dX3_three_48 (lv_at hl 0 rfl) ?_
            refine lv_goto (tgt := 55) hx hb dX3_three_50 rfl ?_
            exact hJ55_7 (v_6) ls (by subst_vars; rw [if_neg h45]) (lv_sub hl [0, 1, 2, 3, 4, 5, 6, 7] rfl)
        refine lv_if_eq (tgt := 37) hx hb dX3_three_20 rfl (fun h20 => ?_) (fun h20 => ?_)
        · have h20 : ¬ (hasP set_ (nI k)) := b01_0.mp h20
          refine lv_lconst (v := 0) hx hb dX3_three_37 rfl ?_
          exact hJ38_5 (0) ls (by rw [if_neg h20]) (lv_sub hl [0, 1, 2, 3, 4, 5, 6] rfl)
        · have h20 : hasP set_ (nI k) := b01_n h20
          refine lv_aload_n hx hb dX3_three_23 rfl (lv_at hl 2 rfl) ?_
          refine lv_iload_n hx hb dX3_three_24 rfl (lv_at hl 3 rfl) ?_
          refine lv_iload_n hx hb dX3_three_25 rfl (lv_at hl 4 rfl) ?_
          refine lv_iload_n hx hb dX3_three_26 rfl (lv_at hl 5 rfl) ?_
          refine lv_iload hx hb dX3_three_27 (lv_at hl 6 rfl) ?_
          refine lv_iload hx hb dX3_three_29 (lv_at hl 0 rfl) ?_
          refine cVl (As := [.int (nI x_), .int m_, .int bag, .int set_, .int (nI k)]) (rest := []) ⟨hx, hb, hml, hown, hts⟩ (mt_X3_goThree l D dA h ad σ τ x_ m_ bag set_ k hI (by omega) (by omega)) (cw_X3_X3_goThree hts ⟨Nat.le_of_ble_eq_true rfl, Nat.le_of_ble_eq_true rfl⟩) mB_bl (mB_now hK hP) (va_recv hK hP (ci := 0) (q0 := 0) rfl rfl) rfl hl.1 rfl (Nat.le_of_ble_eq_true rfl) dX3_three_31 ⟨Nat.le_of_ble_eq_true rfl, Nat.le_of_ble_eq_true rfl⟩ ?_
          refine lv_goto (tgt := 38) hx hb dX3_three_34 rfl ?_
          exact hJ38_5 (goV σ (maxV σ (oneF σ)) x_ m_ bag set_ k) ls (by rw [if_pos h20]) (lv_sub hl [0, 1, 2, 3, 4, 5, 6] rfl)
  exact hL6_1 _ 0 0 0 ls (Nat.lt_succ_self _) (by omega) rfl (by subst_vars; rw [maxG]) (lv_sub hl [0, 1, 2, 3, 4, 5, 6] rfl)

theorem cw_X3_X3_three {R : Room} {s : State} {args : Array Value} (hts : ∀ w ∈ lw_all, w.before args s = true) (hR : rmX3_three.frames + 1 ≤ R.frames ∧ 8 + (10 + 11) + rmX3_three.locals ≤ R.locals) : CallW R s args RX3 RX3 294 yX3_three cX3_three 10 (some .long) (ws_ yX3_three cX3_three 10 (some .long)) rmX3_three 0 0 4 := cwV 4 hts (lw_V q1470 q1472 qs68 q83 q1473) rfl rfl rfl (by decide +kernel) hR
def rmX3_going : Room := { frames := 7, cells := 0, slots := 0, locals := 205 }
set_option maxHeartbeats 1000000 in
theorem mt_X3_going (l : Launch) (D : va_G) (dA : Nat → ClassId) (h : Nat) (ad : Nat → Nat) (σ : St) (τ : Sc) (x_ : Nat) (m_ : Int32) (bag : Int32) (set_ : Int32) (c_ : Nat) (hI : Inv σ) (hx6 : x_ < 6) (hc : c_ < 6) : Met l yX3_going (ws_ yX3_going cX3_going 14 (some .long)) rmX3_going (va_Pc [.ref h, .int (nI x_), .int m_, .int bag, .int set_, .int (nI c_)] (mB D dA h ad σ τ)) (vp_Sl (fun r => r = goV σ (maxV σ (maxV σ (oneF σ))) x_ m_ bag set_ c_)) 0 0 (fun _ => False) := by
  refine w_start (by decide) (Nat.le_of_ble_eq_true rfl) ?_
  intro p e s m args below meth c Q ls hQ hx hb hr hlocks hml hown hnm hts hB hl
  have hown : s.vm.findClass RX3 = some m.cls := hown
  have hl : lv_has ls 14 [(0, .ref h), (1, .int (nI x_)), (2, .int m_), (3, .int bag), (4, .int set_), (5, .int (nI c_))] := hl
  obtain ⟨hP, hK⟩ := hB
  have hpl := hI.pl2 c_ hc
  have hsm := hI.sm c_ hc
  refine lv_aload_n hx hb dX3_going_0 rfl (lv_at hl 0 rfl) ?_
  refine lv_iload_n hx hb dX3_going_1 rfl (lv_at hl 1 rfl) ?_
  refine lv_iload_n hx hb dX3_going_2 rfl (lv_at hl 2 rfl) ?_
  refine lv_iload hx hb dX3_going_3 (lv_at hl 5 rfl) ?_
  refine cVi (As := [.int (nI x_), .int m_, .int (nI c_)]) (rest := []) ⟨hx, hb, hml, hown, hts⟩ (mt_X3_arrival l D dA h ad σ τ x_ m_ c_ hI (by omega) (by omega)) (cw_X3_X3_arrival hts ⟨Nat.le_of_ble_eq_true rfl, Nat.le_of_ble_eq_true rfl⟩) mB_bl (mB_now hK hP) (va_recv hK hP (ci := 0) (q0 := 0) rfl rfl) rfl hl.1 rfl (Nat.le_of_ble_eq_true rfl) dX3_going_5 ⟨Nat.le_of_ble_eq_true rfl, Nat.le_of_ble_eq_true rfl⟩ ?_
  refine lv_istore (lv' := [(6, .int (arrF σ x_ m_ c_)), (0, .ref h), (1, .int (nI x_)), (2, .int m_), (3, .int bag), (4, .int set_), (5, .int (nI c_))]) hx hb dX3_going_8 hl (by decide) rfl (fun ls hl => ?_)
  refine lv_iload hx hb dX3_going_10 (lv_at hl 5 rfl) ?_
  refine lv_iconst (v := 1) hx hb dX3_going_12 rfl ?_
  refine lv_iload hx hb dX3_going_13 (lv_at hl 6 rfl) ?_
  refine lv_ishl hx hb dX3_going_15 ?_
  refine lv_iconst (v := (-1)) hx hb dX3_going_16 rfl ?_
  refine lv_ixor hx hb dX3_going_17 ?_
  refine lv_iand hx hb dX3_going_18 ?_
  refine w_topi (y := restF set_ c_) (rfl) ?_
  refine lv_istore (lv' := [(7, .int (restF set_ c_)), (6, .int (arrF σ x_ m_ c_)), (0, .ref h), (1, .int (nI x_)), (2, .int m_), (3, .int bag), (4, .int set_), (5, .int (nI c_))]) hx hb dX3_going_19 hl (by decide) rfl (fun ls hl => ?_)
  refine lv_aload_n hx hb dX3_going_21 rfl (lv_at hl 2 rfl) ?_
  refine lv_iload hx hb dX3_going_22 (lv_at hl 0 rfl) ?_
  refine cVl (As := [.int (restF set_ c_)]) (rest := []) ⟨hx, hb, hml, hown, hts⟩ (mt_X3_totals l D dA h ad σ τ (restF set_ c_) hI) (cw_X3_X3_totals hts ⟨Nat.le_of_ble_eq_true rfl, Nat.le_of_ble_eq_true rfl⟩) mB_bl (mB_now hK hP) (va_recv hK hP (ci := 0) (q0 := 0) rfl rfl) rfl hl.1 rfl (Nat.le_of_ble_eq_true rfl) dX3_going_24 ⟨Nat.le_of_ble_eq_true rfl, Nat.le_of_ble_eq_true rfl⟩ ?_
  refine lv_lstore (lv' := [(8, .long (tosF σ (restF set_ c_) 6)), (7, .int (restF set_ c_)), (6, .int (arrF σ x_ m_ c_)), (0, .ref h), (1, .int (nI x_)), (2, .int m_), (3, .int bag), (4, .int set_), (5, .int (nI c_))]) hx hb dX3_going_27 hl (by decide) rfl (fun ls hl => ?_)
  refine lv_aload_n hx hb dX3_going_29 rfl (lv_at hl 3 rfl) ?_
  refine lv_iload hx hb dX3_going_30 (lv_at hl 2 rfl) ?_
  refine lv_iload hx hb dX3_going_32 (lv_at hl 8 rfl) ?_
  refine cVi (As := [.int (arrF σ x_ m_ c_), .int (nI c_)]) (rest := []) ⟨hx, hb, hml, hown, hts⟩ (mt_X3_isLate l D dA h ad σ τ (arrF σ x_ m_ c_) c_ (by omega)) (cw_X3_X3_isLate hts ⟨Nat.le_of_ble_eq_true rfl, Nat.le_of_ble_eq_true rfl⟩) mB_bl (mB_now hK hP) (va_recv hK hP (ci := 0) (q0 := 0) rfl rfl) rfl hl.1 rfl (Nat.le_of_ble_eq_true rfl) dX3_going_34 ⟨Nat.le_of_ble_eq_true rfl, Nat.le_of_ble_eq_true rfl⟩ ?_
  refine lv_if_eq (tgt := 79) hx hb dX3_going_37 rfl (fun h37 => ?_) (fun h37 => ?_)
  · have h37 : ¬ (lateP σ (arrF σ x_ m_ c_) c_) := b01_0.mp h37
    refine lv_lconst (v := 0) hx hb dX3_going_79 rfl ?_
    refine lv_lstore (lv' := [(10, .long 0), (8, .long (tosF σ (restF set_ c_) 6)), (7, .int (restF set_ c_)), (6, .int (arrF σ x_ m_ c_)), (0, .ref h), (1, .int (nI x_)), (2, .int m_), (3, .int bag), (4, .int set_), (5, .int (nI c_))]) hx hb dX3_going_80 hl (by decide) rfl (fun ls hl => ?_)
    refine lv_iconst (v := 0) hx hb dX3_going_82 rfl ?_
    refine lv_istore (lv' := [(12, .int 0), (10, .long 0), (8, .long (tosF σ (restF set_ c_) 6)), (7, .int (restF set_ c_)), (6, .int (arrF σ x_ m_ c_)), (0, .ref h), (1, .int (nI x_)), (2, .int m_), (3, .int bag), (4, .int set_), (5, .int (nI c_))]) hx hb dX3_going_83 hl (by decide) rfl (fun ls hl => ?_)
    have hL85_1 : ∀ (n_2 : Nat) (k : Nat) (x12 : Int32) (x10 : Int64) (ls : Array Slot), (4 - k) < n_2 → (k ≤ σ.sm c_) → x12 = (nI k) → x10 = (gosS σ (maxV σ (maxV σ (oneF σ))) (arrF σ x_ m_ c_) bag (restF set_ c_) (tosF σ (restF set_ c_) 6) c_ k) → lv_has ls 14 [(12, .int x12), (10, .long x10), (8, .long (tosF σ (restF set_ c_) 6)), (7, .int (restF set_ c_)), (6, .int (arrF σ x_ m_ c_)), (0, .ref h), (1, .int (nI x_)), (2, .int m_), (3, .int bag), (4, .int set_), (5, .int (nI c_))] → W p l e rmX3_going s m args below meth c s.heap [] 0 0 Q (F0 m 85 ls []) := by
      intro n_2
      induction n_2 with
      | zero => intro k x12 x10 ls hm_4; exact absurd hm_4 (Nat.not_lt_zero _)
      | succ n_2 ih_3 =>
        intro k x12 x10 ls hm_4 hk ex12 ex10 hl
        subst ex12 ex10
        refine lv_iload hx hb dX3_going_85 (lv_at hl 0 rfl) ?_
        refine lv_aload_n hx hb dX3_going_87 rfl (lv_at hl 5 rfl) ?_
        refine va_get (D := D) (ci := 0) (v := .ref (ad 6)) (C := RX3) (T := TX3) (N := 31) hx hb hts in_X3 hown hK hP 0 rfl rfl 13 (by decide) (hts _ q1127) (fun _ h9 => h9) rfl dX3_going_88 ?_
        refine lv_iload hx hb dX3_going_91 (lv_at hl 10 rfl) ?_
        refine wa_iald (f := fun c => nI (σ.sm c)) hx hb hK hP 7 0 rfl rfl (c_) (rfl) (by omega) (by decide) dX3_going_93 ?_
        refine w_topi (y := nI (σ.sm c_)) rfl ?_
        refine lv_icmp_ge (tgt := 188) hx hb dX3_going_94 rfl (fun h94 => ?_) (fun h94 => ?_)
        · have h94 : (σ.sm c_) ≤ k := (nz_le (a := σ.sm c_) (b := k) rfl rfl (by omega) (by omega)).mp h94
          have hk_ : k = σ.sm c_ := by omega
          subst hk_
          refine lv_lload hx hb dX3_going_188 (lv_at hl 1 rfl) ?_
          exact r_l hQ hx hb hr hlocks rfl (by simp only [goV, eq_false h37, eq_true h94, if_true, if_false, ite_true, ite_false, not_true_eq_false, not_false_eq_true, and_true, true_and, and_false, false_and, or_true, true_or, or_false, false_or, and_self, or_self, eq_self]) dX3_going_190
        · have h94 : ¬ ((σ.sm c_) ≤ k) := fun z9 => h94 ((nz_le (a := σ.sm c_) (b := k) rfl rfl (by omega) (by omega)).mpr z9)
          refine lv_aload_n hx hb dX3_going_97 rfl (lv_at hl 5 rfl) ?_
          refine lv_iload_n hx hb dX3_going_98 rfl (lv_at hl 8 rfl) ?_
          refine lv_iload hx hb dX3_going_99 (lv_at hl 10 rfl) ?_
          refine lv_iload hx hb dX3_going_101 (lv_at hl 0 rfl) ?_
          refine cVi (As := [.int bag, .int (nI c_), .int (nI k)]) (rest := []) ⟨hx, hb, hml, hown, hts⟩ (mt_X3_leftOf l D dA h ad σ τ bag c_ k (by omega) (by omega)) (cw_X3_X3_leftOf hts ⟨Nat.le_of_ble_eq_true rfl, Nat.le_of_ble_eq_true rfl⟩) mB_bl (mB_now hK hP) (va_recv hK hP (ci := 0) (q0 := 0) rfl rfl) rfl hl.1 rfl (Nat.le_of_ble_eq_true rfl) dX3_going_103 ⟨Nat.le_of_ble_eq_true rfl, Nat.le_of_ble_eq_true rfl⟩ ?_
          refine lv_istore (lv' := [(13, .int (leftF σ bag c_ k)), (12, .int (nI k)), (10, .long (gosS σ (maxV σ (maxV σ (oneF σ))) (arrF σ x_ m_ c_) bag (restF set_ c_) (tosF σ (restF set_ c_) 6) c_ k)), (8, .long (tosF σ (restF set_ c_) 6)), (7, .int (restF set_ c_)), (6, .int (arrF σ x_ m_ c_)), (0, .ref h), (1, .int (nI x_)), (2, .int m_), (3, .int bag), (4, .int set_), (5, .int (nI c_))]) hx hb dX3_going_106 hl (by decide) rfl (fun ls hl => ?_)
          refine lv_lload hx hb dX3_going_108 (lv_at hl 2 rfl) ?_
          refine lv_aload_n hx hb dX3_going_110 rfl (lv_at hl 6 rfl) ?_
          refine va_get (D := D) (ci := 0) (v := .ref (ad 7)) (C := RX3) (T := TX3) (N := 31) hx hb hts in_X3 hown hK hP 0 rfl rfl 14 (by decide) (hts _ q1128) (fun _ h9 => h9) rfl dX3_going_111 ?_
          refine lv_bipush (v := 16) hx hb dX3_going_114 rfl ?_
          refine lv_iload hx hb dX3_going_116 (lv_at hl 11 rfl) ?_
          refine lv_imul hx hb dX3_going_118 ?_
          refine lv_iconst (v := 4) hx hb dX3_going_119 rfl ?_
          refine lv_iload hx hb dX3_going_120 (lv_at hl 1 rfl) ?_
          refine lv_imul hx hb dX3_going_122 ?_
          refine lv_iadd hx hb dX3_going_123 ?_
          refine wa_iald (f := σ.sorts) hx hb hK hP 8 0 rfl rfl ((16 * c_) + (4 * k)) ((nz_add (nz_mul rfl rfl) (nz_mul rfl rfl))) (by omega) (by decide) dX3_going_124 ?_
          refine lv_i2l (v := (σ.sorts ((16 * c_) + (4 * k)) : Int32).toInt64) hx hb dX3_going_125 rfl ?_
          refine lv_aload_n hx hb dX3_going_126 rfl (lv_at hl 6 rfl) ?_
          refine lv_iload hx hb dX3_going_127 (lv_at hl 11 rfl) ?_
          refine lv_iload hx hb dX3_going_129 (lv_at hl 0 rfl) ?_
          refine cVl (As := [.int (nI c_), .int (leftF σ bag c_ k)]) (rest := [.long ((σ.sorts ((16 * c_) + (4 * k)) : Int32).toInt64), .long (gosS σ (maxV σ (maxV σ (oneF σ))) (arrF σ x_ m_ c_) bag (restF set_ c_) (tosF σ (restF set_ c_) 6) c_ k)]) ⟨hx, hb, hml, hown, hts⟩ (mt_X3_got l D dA h ad σ τ c_ (leftF σ bag c_ k) (by omega)) (cw_X3_X3_got hts ⟨Nat.le_of_ble_eq_true rfl, Nat.le_of_ble_eq_true rfl⟩) mB_bl (mB_now hK hP) (va_recv hK hP (ci := 0) (q0 := 0) rfl rfl) rfl hl.1 rfl (Nat.le_of_ble_eq_true rfl) dX3_going_131 ⟨Nat.le_of_ble_eq_true rfl, Nat.le_of_ble_eq_true rfl⟩ ?_
          refine lv_lload hx hb dX3_going_134 (lv_at hl 3 rfl) ?_
          refine lv_lmul hx hb dX3_going_136 ?_
          refine lv_aload_n hx hb dX3_going_137 rfl (lv_at hl 6 rfl) ?_
          refine lv_aload_n hx hb dX3_going_138 rfl (lv_at hl 6 rfl) ?_
          refine va_get (D := D) (ci := 0) (v := .ref (ad 5)) (C := RX3) (T := TX3) (N := 31) hx hb hts in_X3 hown hK hP 0 rfl rfl 12 (by decide) (hts _ q1126) (fun _ h9 => h9) rfl dX3_going_139 ?_
          refine lv_bipush (v := 6) hx hb dX3_going_142 rfl ?_
          refine lv_iload hx hb dX3_going_144 (lv_at hl 11 rfl) ?_
          refine lv_imul hx hb dX3_going_146 ?_
          refine wa_iald (f := σ.calls) hx hb hK hP 6 0 rfl rfl (6 * c_) ((nz_mul rfl rfl)) (by omega) (by decide) dX3_going_147 ?_
          refine w_topi (y := nI (plF σ c_)) (hpl.2) ?_
          refine lv_aload_n hx hb dX3_going_148 rfl (lv_at hl 6 rfl) ?_
          refine lv_iload hx hb dX3_going_149 (lv_at hl 5 rfl) ?_
          refine lv_iload hx hb dX3_going_151 (lv_at hl 11 rfl) ?_
          refine lv_iload hx hb dX3_going_153 (lv_at hl 1 rfl) ?_
          refine lv_iload hx hb dX3_going_155 (lv_at hl 0 rfl) ?_
          refine cVi (As := [.int (arrF σ x_ m_ c_), .int (nI c_), .int (nI k), .int (leftF σ bag c_ k)]) (rest := [.int (nI (plF σ c_)), .ref h, .long ((gotF σ c_ (leftF σ bag c_ k)) * (tosF σ (restF set_ c_) 6)), .long ((σ.sorts ((16 * c_) + (4 * k)) : Int32).toInt64), .long (gosS σ (maxV σ (maxV σ (oneF σ))) (arrF σ x_ m_ c_) bag (restF set_ c_) (tosF σ (restF set_ c_) 6) c_ k)]) ⟨hx, hb, hml, hown, hts⟩ (mt_X3_then l D dA h ad σ τ (arrF σ x_ m_ c_) c_ k (leftF σ bag c_ k) (by omega) (by omega)) (cw_X3_X3_then hts ⟨Nat.le_of_ble_eq_true rfl, Nat.le_of_ble_eq_true rfl⟩) mB_bl (mB_now hK hP) (va_recv hK hP (ci := 0) (q0 := 0) rfl rfl) rfl hl.1 rfl (Nat.le_of_ble_eq_true rfl) dX3_going_157 ⟨Nat.le_of_ble_eq_true rfl, Nat.le_of_ble_eq_true rfl⟩ ?_
          refine lv_iload hx hb dX3_going_160 (lv_at hl 0 rfl) ?_
          refine lv_iconst (v := (-1)) hx hb dX3_going_162 rfl ?_
          have hJ172_5 : ∀ (v_6 : Int32) (ls : Array Slot), v_6 = (if (leftF σ bag c_ k) = (-1) then bag else leftF σ bag c_ k) → lv_has ls 14 [(13, .int (leftF σ bag c_ k)), (12, .int (nI k)), (10, .long (gosS σ (maxV σ (maxV σ (oneF σ))) (arrF σ x_ m_ c_) bag (restF set_ c_) (tosF σ (restF set_ c_) 6) c_ k)), (8, .long (tosF σ (restF set_ c_) 6)), (7, .int (restF set_ c_)), (6, .int (arrF σ x_ m_ c_)), (0, .ref h), (1, .int (nI x_)), (2, .int m_), (3, .int bag), (4, .int set_), (5, .int (nI c_))] → W p l e rmX3_going s m args below meth c s.heap [] 0 0 Q (F0 m 172 ls [.int v_6, .int (thenF σ (arrF σ x_ m_ c_) c_ k (leftF σ bag c_ k)), .int (nI (plF σ c_)), .ref h, .long ((gotF σ c_ (leftF σ bag c_ k)) * (tosF σ (restF set_ c_) 6)), .long ((σ.sorts ((16 * c_) + (4 * k)) : Int32).toInt64), .long (gosS σ (maxV σ (maxV σ (oneF σ))) (arrF σ x_ m_ c_) bag (restF set_ c_) (tosF σ (restF set_ c_) 6) c_ k)]) := by
            intro v_6 ls ev_6 hl
            refine lv_iload hx hb dX3_going_172 (lv_at hl 4 rfl) ?_
            refine cVl (As := [.int (nI (plF σ c_)), .int (thenF σ (arrF σ x_ m_ c_) c_ k (leftF σ bag c_ k)), .int v_6, .int (restF set_ c_)]) (rest := [.long ((gotF σ c_ (leftF σ bag c_ k)) * (tosF σ (restF set_ c_) 6)), .long ((σ.sorts ((16 * c_) + (4 * k)) : Int32).toInt64), .long (gosS σ (maxV σ (maxV σ (oneF σ))) (arrF σ x_ m_ c_) bag (restF set_ c_) (tosF σ (restF set_ c_) 6) c_ k)]) ⟨hx, hb, hml, hown, hts⟩ (mt_X3_three l D dA h ad σ τ (plF σ c_) (thenF σ (arrF σ x_ m_ c_) c_ k (leftF σ bag c_ k)) v_6 (restF set_ c_) hI hpl.1) (cw_X3_X3_three hts ⟨Nat.le_of_ble_eq_true rfl, Nat.le_of_ble_eq_true rfl⟩) mB_bl (mB_now hK hP) (va_recv hK hP (ci := 0) (q0 := 0) rfl rfl) rfl hl.1 rfl (Nat.le_of_ble_eq_true rfl) dX3_going_174 ⟨Nat.le_of_ble_eq_true rfl, Nat.le_of_ble_eq_true rfl⟩ ?_
            refine lv_ladd hx hb dX3_going_177 ?_
            refine lv_lmul hx hb dX3_going_178 ?_
            refine lv_ladd hx hb dX3_going_179 ?_
            refine lv_lstore (lv' := [(10, .long ((gosS σ (maxV σ (maxV σ (oneF σ))) (arrF σ x_ m_ c_) bag (restF set_ c_) (tosF σ (restF set_ c_) 6) c_ k) + (((σ.sorts ((16 * c_) + (4 * k)) : Int32).toInt64) * (((gotF σ c_ (leftF σ bag c_ k)) * (tosF σ (restF set_ c_) 6)) + (maxV σ (maxV σ (oneF σ)) (plF σ c_) (thenF σ (arrF σ x_ m_ c_) c_ k (leftF σ bag c_ k)) v_6 (restF set_ c_)))))), (13, .int (leftF σ bag c_ k)), (12, .int (nI k)), (8, .long (tosF σ (restF set_ c_) 6)), (7, .int (restF set_ c_)), (6, .int (arrF σ x_ m_ c_)), (0, .ref h), (1, .int (nI x_)), (2, .int m_), (3, .int bag), (4, .int set_), (5, .int (nI c_))]) hx hb dX3_going_180 hl (by decide) rfl (fun ls hl => ?_)
            refine lv_iinc (v := nI (k + 1)) (lv' := [(12, .int (nI (k + 1))), (10, .long ((gosS σ (maxV σ (maxV σ (oneF σ))) (arrF σ x_ m_ c_) bag (restF set_ c_) (tosF σ (restF set_ c_) 6) c_ k) + (((σ.sorts ((16 * c_) + (4 * k)) : Int32).toInt64) * (((gotF σ c_ (leftF σ bag c_ k)) * (tosF σ (restF set_ c_) 6)) + (maxV σ (maxV σ (oneF σ)) (plF σ c_) (thenF σ (arrF σ x_ m_ c_) c_ k (leftF σ bag c_ k)) v_6 (restF set_ c_)))))), (13, .int (leftF σ bag c_ k)), (8, .long (tosF σ (restF set_ c_) 6)), (7, .int (restF set_ c_)), (6, .int (arrF σ x_ m_ c_)), (0, .ref h), (1, .int (nI x_)), (2, .int m_), (3, .int bag), (4, .int set_), (5, .int (nI c_))]) hx hb dX3_going_182 hl (k := 2) rfl (nI_1 k) (by decide) rfl (fun ls hl => ?_)
            refine lv_goto (tgt := 85) hx hb dX3_going_185 rfl ?_
            exact ih_3 (k + 1) (nI (k + 1)) ((gosS σ (maxV σ (maxV σ (oneF σ))) (arrF σ x_ m_ c_) bag (restF set_ c_) (tosF σ (restF set_ c_) 6) c_ k) + (((σ.sorts ((16 * c_) + (4 * k)) : Int32).toInt64) * (((gotF σ c_ (leftF σ bag c_ k)) * (tosF σ (restF set_ c_) 6)) + (maxV σ (maxV σ (oneF σ)) (plF σ c_) (thenF σ (arrF σ x_ m_ c_) c_ k (leftF σ bag c_ k)) v_6 (restF set_ c_))))) ls (by omega) (by omega) rfl (by subst_vars; rw [gosS]) (lv_sub hl [0, 1, 3, 4, 5, 6, 7, 8, 9, 10, 11] rfl)
          refine lv_icmp_ne (tgt := 170) hx hb dX3_going_163 rfl (fun h163 => ?_) (fun h163 => ?_)
          · have h163 : ¬ ((leftF σ bag c_ k) = (-1)) := h163
            refine lv_iload hx hb dX3_going_170 (lv_at hl 0 rfl) ?_
            exact hJ172_5 (leftF σ bag c_ k) ls (by rw [if_neg h163]) (lv_sub hl [0, 1, 2, 3, 4, 5, 6, 7, 8, 9, 10, 11] rfl)
          · have h163 : (leftF σ bag c_ k) = (-1) := h163
            refine lv_iload_n hx hb dX3_going_166 rfl (lv_at hl 9 rfl) ?_
            refine lv_goto (tgt := 172) hx hb dX3_going_167 rfl ?_
            exact hJ172_5 (bag) ls (by rw [if_pos h163]) (lv_sub hl [0, 1, 2, 3, 4, 5, 6, 7, 8, 9, 10, 11] rfl)
    exact hL85_1 _ 0 0 0 ls (Nat.lt_succ_self _) (by omega) rfl (by subst_vars; rw [gosS]) (lv_sub hl [0, 1, 2, 3, 4, 5, 6, 7, 8, 9, 10] rfl)
  · have h37 : lateP σ (arrF σ x_ m_ c_) c_ := b01_n h37
    refine lv_aload_n hx hb dX3_going_40 rfl (lv_at hl 3 rfl) ?_
    refine lv_iload hx hb dX3_going_41 (lv_at hl 8 rfl) ?_
    refine cVi (As := [.int (nI c_)]) (rest := []) ⟨hx, hb, hml, hown, hts⟩ (mt_X3_totalOf l D dA h ad σ τ c_ hI (by omega)) (cw_X3_X3_totalOf hts ⟨Nat.le_of_ble_eq_true rfl, Nat.le_of_ble_eq_true rfl⟩) mB_bl (mB_now hK hP) (va_recv hK hP (ci := 0) (q0 := 0) rfl rfl) rfl hl.1 rfl (Nat.le_of_ble_eq_true rfl) dX3_going_43 ⟨Nat.le_of_ble_eq_true rfl, Nat.le_of_ble_eq_true rfl⟩ ?_
    refine lv_i2l (v := (total σ c_ : Int32).toInt64) hx hb dX3_going_46 rfl ?_
    refine lv_aload_n hx hb dX3_going_47 rfl (lv_at hl 3 rfl) ?_
    refine lv_iload hx hb dX3_going_48 (lv_at hl 8 rfl) ?_
    refine lv_iconst (v := (-1)) hx hb dX3_going_50 rfl ?_
    refine cVl (As := [.int (nI c_), .int (-1)]) (rest := [.long ((total σ c_ : Int32).toInt64)]) ⟨hx, hb, hml, hown, hts⟩ (mt_X3_got l D dA h ad σ τ c_ (-1) (by omega)) (cw_X3_X3_got hts ⟨Nat.le_of_ble_eq_true rfl, Nat.le_of_ble_eq_true rfl⟩) mB_bl (mB_now hK hP) (va_recv hK hP (ci := 0) (q0 := 0) rfl rfl) rfl hl.1 rfl (Nat.le_of_ble_eq_true rfl) dX3_going_51 ⟨Nat.le_of_ble_eq_true rfl, Nat.le_of_ble_eq_true rfl⟩ ?_
    refine lv_lload hx hb dX3_going_54 (lv_at hl 0 rfl) ?_
    refine lv_lmul hx hb dX3_going_56 ?_
    refine lv_aload_n hx hb dX3_going_57 rfl (lv_at hl 3 rfl) ?_
    refine lv_aload_n hx hb dX3_going_58 rfl (lv_at hl 3 rfl) ?_
    refine va_get (D := D) (ci := 0) (v := .ref (ad 5)) (C := RX3) (T := TX3) (N := 31) hx hb hts in_X3 hown hK hP 0 rfl rfl 12 (by decide) (hts _ q1126) (fun _ h9 => h9) rfl dX3_going_59 ?_
    refine lv_bipush (v := 6) hx hb dX3_going_62 rfl ?_
    refine lv_iload hx hb dX3_going_64 (lv_at hl 8 rfl) ?_
    refine lv_imul hx hb dX3_going_66 ?_
    refine wa_iald (f := σ.calls) hx hb hK hP 6 0 rfl rfl (6 * c_) ((nz_mul rfl rfl)) (by omega) (by decide) dX3_going_67 ?_
    refine w_topi (y := nI (plF σ c_)) (hpl.2) ?_
    refine lv_iload hx hb dX3_going_68 (lv_at hl 2 rfl) ?_
    refine lv_iload_n hx hb dX3_going_70 rfl (lv_at hl 6 rfl) ?_
    refine lv_iload hx hb dX3_going_71 (lv_at hl 1 rfl) ?_
    refine cVl (As := [.int (nI (plF σ c_)), .int (arrF σ x_ m_ c_), .int bag, .int (restF set_ c_)]) (rest := [.long ((gotF σ c_ (-1)) * (tosF σ (restF set_ c_) 6)), .long ((total σ c_ : Int32).toInt64)]) ⟨hx, hb, hml, hown, hts⟩ (mt_X3_three l D dA h ad σ τ (plF σ c_) (arrF σ x_ m_ c_) bag (restF set_ c_) hI hpl.1) (cw_X3_X3_three hts ⟨Nat.le_of_ble_eq_true rfl, Nat.le_of_ble_eq_true rfl⟩) mB_bl (mB_now hK hP) (va_recv hK hP (ci := 0) (q0 := 0) rfl rfl) rfl hl.1 rfl (Nat.le_of_ble_eq_true rfl) dX3_going_73 ⟨Nat.le_of_ble_eq_true rfl, Nat.le_of_ble_eq_true rfl⟩ ?_
    refine lv_ladd hx hb dX3_going_76 ?_
    refine lv_lmul hx hb dX3_going_77 ?_
    exact r_l hQ hx hb hr hlocks rfl (by simp only [goV, eq_true h37, if_true, if_false, ite_true, ite_false, not_true_eq_false, not_false_eq_true, and_true, true_and, and_false, false_and, or_true, true_or, or_false, false_or, and_self, or_self, eq_self]) dX3_going_78

theorem cw_X3_X3_going {R : Room} {s : State} {args : Array Value} (hts : ∀ w ∈ lw_all, w.before args s = true) (hR : rmX3_going.frames + 1 ≤ R.frames ∧ 8 + (14 + 11) + rmX3_going.locals ≤ R.locals) : CallW R s args RX3 RX3 301 yX3_going cX3_going 14 (some .long) (ws_ yX3_going cX3_going 14 (some .long)) rmX3_going 0 0 5 := cwV 5 hts (lw_V q1450 q1452 qs63 q83 q1453) rfl rfl rfl (by decide +kernel) hR
def rmX3_valueOf : Room := { frames := 8, cells := 0, slots := 0, locals := 238 }
set_option maxHeartbeats 1000000 in
theorem mt_X3_valueOf (l : Launch) (D : va_G) (dA : Nat → ClassId) (h : Nat) (ad : Nat → Nat) (σ : St) (τ : Sc) (x_ : Nat) (m_ : Int32) (bag : Int32) (set_ : Int32) (hI : Inv σ) (hx6 : x_ < 6) : Met l yX3_valueOf (ws_ yX3_valueOf cX3_valueOf 10 (some .long)) rmX3_valueOf (va_Pc [.ref h, .int (nI x_), .int m_, .int bag, .int set_] (mB D dA h ad σ τ)) (vp_Sl (fun r => r = maxV σ (maxV σ (maxV σ (oneF σ))) x_ m_ bag set_)) 0 0 (fun _ => False) := by
  refine w_start (by decide) (Nat.le_of_ble_eq_true rfl) ?_
  intro p e s m args below meth c Q ls hQ hx hb hr hlocks hml hown hnm hts hB hl
  have hown : s.vm.findClass RX3 = some m.cls := hown
  have hl : lv_has ls 10 [(0, .ref h), (1, .int (nI x_)), (2, .int m_), (3, .int bag), (4, .int set_)] := hl
  obtain ⟨hP, hK⟩ := hB
  refine lv_lconst (v := 0) hx hb dX3_valueOf_0 rfl ?_
  refine lv_lstore (lv' := [(5, .long 0), (0, .ref h), (1, .int (nI x_)), (2, .int m_), (3, .int bag), (4, .int set_)]) hx hb dX3_valueOf_1 hl (by decide) rfl (fun ls hl => ?_)
  refine lv_iconst (v := 0) hx hb dX3_valueOf_3 rfl ?_
  refine lv_istore (lv' := [(7, .int 0), (5, .long 0), (0, .ref h), (1, .int (nI x_)), (2, .int m_), (3, .int bag), (4, .int set_)]) hx hb dX3_valueOf_4 hl (by decide) rfl (fun ls hl => ?_)
  have hL6_1 : ∀ (n_2 : Nat) (k : Nat) (x7 : Int32) (x5 : Int64) (ls : Array Slot), (6 - k) < n_2 → (k ≤ 6) → x7 = (nI k) → x5 = (maxG σ (maxV σ (maxV σ (oneF σ))) x_ m_ bag set_ k) → lv_has ls 10 [(7, .int x7), (5, .long x5), (0, .ref h), (1, .int (nI x_)), (2, .int m_), (3, .int bag), (4, .int set_)] → W p l e rmX3_valueOf s m args below meth c s.heap [] 0 0 Q (F0 m 6 ls []) := by
    intro n_2
    induction n_2 with
    | zero => intro k x7 x5 ls hm_4; exact absurd hm_4 (Nat.not_lt_zero _)
    | succ n_2 ih_3 =>
      intro k x7 x5 ls hm_4 hk ex7 ex5 hl
      subst ex7 ex5
      refine lv_iload hx hb dX3_valueOf_6 (lv_at hl 0 rfl) ?_
      refine lv_bipush (v := 6) hx hb dX3_valueOf_8 rfl ?_
      refine lv_icmp_ge (tgt := 63) hx hb dX3_valueOf_10 rfl (fun h10 => ?_) (fun h10 => ?_)
      · have h10 : 6 ≤ k := (nz_le (a := 6) (b := k) rfl rfl (by omega) (by omega)).mp h10
        have hk_ : k = 6 := by omega
        subst hk_
        refine lv_lload hx hb dX3_valueOf_63 (lv_at hl 1 rfl) ?_
        exact r_l hQ hx hb hr hlocks rfl (rfl) dX3_valueOf_65
      · have h10 : ¬ (6 ≤ k) := fun z9 => h10 ((nz_le (a := 6) (b := k) rfl rfl (by omega) (by omega)).mpr z9)
        refine lv_iload hx hb dX3_valueOf_13 (lv_at hl 6 rfl) ?_
        refine lv_iload hx hb dX3_valueOf_15 (lv_at hl 0 rfl) ?_
        refine cSi (As := [.int set_, .int (nI k)]) (rest := []) ⟨hx, hb, hml, hown, hts⟩ (mt_X3_has l set_ (nI k)) (cw_X3_X3_has hts ⟨Nat.le_of_ble_eq_true rfl, Nat.le_of_ble_eq_true rfl⟩) w_blT (fun _ _ _ => trivial) rfl hl.1 rfl (Nat.le_of_ble_eq_true rfl) dX3_valueOf_17 ⟨Nat.le_of_ble_eq_true rfl, Nat.le_of_ble_eq_true rfl⟩ ?_
        have hJ38_5 : ∀ (v_6 : Int64) (ls : Array Slot), v_6 = (if hasP set_ (nI k) then goV σ (maxV σ (maxV σ (oneF σ))) x_ m_ bag set_ k else 0) → lv_has ls 10 [(7, .int (nI k)), (5, .long (maxG σ (maxV σ (maxV σ (oneF σ))) x_ m_ bag set_ k)), (0, .ref h), (1, .int (nI x_)), (2, .int m_), (3, .int bag), (4, .int set_)] → W p l e rmX3_valueOf s m args below meth c s.heap [] 0 0 Q (F0 m 38 ls [.long v_6]) := by
          intro v_6 ls ev_6 hl
          refine lv_lstore (lv' := [(8, .long v_6), (7, .int (nI k)), (5, .long (maxG σ (maxV σ (maxV σ (oneF σ))) x_ m_ bag set_ k)), (0, .ref h), (1, .int (nI x_)), (2, .int m_), (3, .int bag), (4, .int set_)]) hx hb dX3_valueOf_38 hl (by decide) rfl (fun ls hl => ?_)
          refine lv_lload hx hb dX3_valueOf_40 (lv_at hl 0 rfl) ?_
          refine lv_lload hx hb dX3_valueOf_42 (lv_at hl 2 rfl) ?_
          refine W.lcmp hx hb dX3_valueOf_44 ?_
          have hJ55_7 : ∀ (v_8 : Int64) (ls : Array Slot), v_8 = (if v_6 ≤ (maxG σ (maxV σ (maxV σ (oneF σ))) x_ m_ bag set_ k) then maxG σ (maxV σ (maxV σ (oneF σ))) x_ m_ bag set_ k else v_6) → lv_has ls 10 [(8, .long v_6), (7, .int (nI k)), (5, .long (maxG σ (maxV σ (maxV σ (oneF σ))) x_ m_ bag set_ k)), (0, .ref h), (1, .int (nI x_)), (2, .int m_), (3, .int bag), (4, .int set_)] → W p l e rmX3_valueOf s m args below meth c s.heap [] 0 0 Q (F0 m 55 ls [.long v_8]) := by
            intro v_8 ls ev_8 hl
            refine lv_lstore (lv' := [(5, .long v_8), (8, .long v_6), (7, .int (nI k)), (0, .ref h), (1, .int (nI x_)), (2, .int m_), (3, .int bag), (4, .int set_)]) hx hb dX3_valueOf_55 hl (by decide) rfl (fun ls hl => ?_)
            refine lv_iinc (v := nI (k + 1)) (lv' := [(7, .int (nI (k + 1))), (5, .long v_8), (8, .long v_6), (0, .ref h), (1, .int (nI x_)), (2, .int m_), (3, .int bag), (4, .int set_)]) hx hb dX3_valueOf_57 hl (k := 2) rfl (nI_1 k) (by decide) rfl (fun ls hl => ?_)
            refine lv_goto (tgt := 6) hx hb dX3_valueOf_60 rfl ?_
            exact ih_3 (k + 1) (nI (k + 1)) v_8 ls (by omega) (by omega) rfl (by subst_vars; rw [maxG]) (lv_sub hl [0, 1, 3, 4, 5, 6, 7] rfl)
          refine lv_if_le (tgt := 53) hx hb dX3_valueOf_45 rfl (fun h45 => ?_) (fun h45 => ?_)
          · have h45 : v_6 ≤ (maxG σ (maxV σ (maxV σ (oneF σ))) x_ m_ bag set_ k) := (lg_cmp_le v_6 (maxG σ (maxV σ (maxV σ (oneF σ))) x_ m_ bag set_ k)).mp h45
            refine lv_lload hx hb dX3_valueOf_53 (lv_at hl 2 rfl) ?_
            exact hJ55_7 (maxG σ (maxV σ (maxV σ (oneF σ))) x_ m_ bag set_ k) ls (by rw [if_pos h45]) (lv_sub hl [0, 1, 2, 3, 4, 5, 6, 7] rfl)
          · have h45 : ¬ (v_6 ≤ (maxG σ (maxV σ (maxV σ (oneF σ))) x_ m_ bag set_ k)) := fun z9 => h45 ((lg_cmp_le v_6 (maxG σ (maxV σ (maxV σ (oneF σ))) x_ m_ bag set_ k)).mpr z9)
            refine lv_lload hx hb dX3_valueOf_48 (lv_at hl 0 rfl) ?_
            refine lv_goto (tgt := 55) hx hb dX3_valueOf_50 rfl ?_
            exact hJ55_7 (v_6) ls (by subst_vars; rw [if_neg h45]) (lv_sub hl [0, 1, 2, 3, 4, 5, 6, 7] rfl)
        refine lv_if_eq (tgt := 37) hx hb dX3_valueOf_20 rfl (fun h20 => ?_) (fun h20 => ?_)
        · have h20 : ¬ (hasP set_ (nI k)) := b01_0.mp h20
          refine lv_lconst (v := 0) hx hb dX3_valueOf_37 rfl ?_
          exact hJ38_5 (0) ls (by rw [if_neg h20]) (lv_sub hl [0, 1, 2, 3, 4, 5, 6] rfl)
        · have h20 : hasP set_ (nI k) := b01_n h20
          refine lv_aload_n hx hb dX3_valueOf_23 rfl (lv_at hl 2 rfl) ?_
          refine lv_iload_n hx hb dX3_valueOf_24 rfl (lv_at hl 3 rfl) ?_
          refine lv_iload_n hx hb dX3_valueOf_25 rfl (lv_at hl 4 rfl) ?_
          refine lv_iload_n hx hb dX3_valueOf_26 rfl (lv_at hl 5 rfl) ?_
          refine lv_iload hx hb dX3_valueOf_27 (lv_at hl 6 rfl) ?_
          refine lv_iload hx hb dX3_valueOf_29 (lv_at hl 0 rfl) ?_
          refine cVl (As := [.int (nI x_), .int m_, .int bag, .int set_, .int (nI k)]) (rest := []) ⟨hx, hb, hml, hown, hts⟩ (mt_X3_going l D dA h ad σ τ x_ m_ bag set_ k hI (by omega) (by omega)) (cw_X3_X3_going hts ⟨Nat.le_of_ble_eq_true rfl, Nat.le_of_ble_eq_true rfl⟩) mB_bl (mB_now hK hP) (va_recv hK hP (ci := 0) (q0 := 0) rfl rfl) rfl hl.1 rfl (Nat.le_of_ble_eq_true rfl) dX3_valueOf_31 ⟨Nat.le_of_ble_eq_true rfl, Nat.le_of_ble_eq_true rfl⟩ ?_
          refine lv_goto (tgt := 38) hx hb dX3_valueOf_34 rfl ?_
          exact hJ38_5 (goV σ (maxV σ (maxV σ (oneF σ))) x_ m_ bag set_ k) ls (by rw [if_pos h20]) (lv_sub hl [0, 1, 2, 3, 4, 5, 6] rfl)
  exact hL6_1 _ 0 0 0 ls (Nat.lt_succ_self _) (by omega) rfl (by subst_vars; rw [maxG]) (lv_sub hl [0, 1, 2, 3, 4, 5, 6] rfl)
