/-! THE MODEL's METHODS 10: knowing, both -/
set_option maxRecDepth 100000
theorem ref_okJ {σ : St} {row : Int32} {j : Nat} (h1 : 1 ≤ j) (h6 : j ≤ 6) (h : refF σ row (nI j) = 0) : okR σ row j ∧ twF row j = 0 := by
  obtain ⟨j2, a, b, e, c, d⟩ := ref_ok h
  have := (nI_eq (a := j) (b := j2) (by omega) (by omega)).mp e
  subst this
  exact ⟨c, d⟩
/-- the entry that is the call c; -1: none -/
def knE (row c : Int32) : Nat → Int32
  | 0 => -1
  | k + 1 => if c = 6 then knE row c k else if entF row k = c then nI k else knE row c k
theorem knE_ok {row c : Int32} : ∀ n, ¬ knE row c n = -1 → ∃ q, q < n ∧ knE row c n = nI q ∧ ¬ c = 6 ∧ entF row q = c
  | 0, h => absurd rfl h
  | n + 1, h => by
    rw [knE] at h ⊢
    by_cases h6 : c = 6
    · rw [if_pos h6] at h ⊢
      obtain ⟨q, a, b, d, e⟩ := knE_ok n h
      exact absurd h6 d
    · rw [if_neg h6] at h ⊢
      by_cases he : entF row n = c
      · rw [if_pos he]
        exact ⟨n, by omega, rfl, h6, he⟩
      · rw [if_neg he] at h ⊢
        obtain ⟨q, a, b, d, e⟩ := knE_ok n h
        exact ⟨q, by omega, b, d, e⟩
def kmG (σ : St) (row : Int32) (j q s : Nat) : Nat → Int64
  | 0 => -9000000000000000000
  | k + 1 => if (if mayP σ (nI k) then mkF σ row j (nI k) q s else -9000000000000000000) ≤ kmG σ row j q s k then kmG σ row j q s k else (if mayP σ (nI k) then mkF σ row j (nI k) q s else -9000000000000000000)
def ksG (σ : St) (row : Int32) (j q : Nat) : Nat → Int64
  | 0 => -mnF σ row j (bbF σ row j)
  | s + 1 => ksG σ row j q s + kmG σ row j q s 256
def knowF (σ : St) (row n c w : Int32) : Int64 := if inP n.toInt64 1 6 then (if refF σ row n = -2 then -8999999999999999998 else if knE row c (ix n) = -1 then -8999999999999999998 else if refF σ row n = 0 then (if partP w then lowF (ksG σ row (ix n) (ix (knE row c (ix n))) (σ.sm (ix c))) (allP σ row (ix n)) w else -8999999999999999997) else -8999999999999999997) else -8999999999999999997

theorem cw_X3_X3_meanOf_B {R : Room} {s : State} {args : Array Value} (hts : ∀ w ∈ lw_all, w.before args s = true) (hR : rmX3_meanOf_B.frames + 1 ≤ R.frames ∧ 8 + (7 + 11) + rmX3_meanOf_B.locals ≤ R.locals) : CallW R s args RX3 RX3 244 yX3_meanOf cX3_meanOf 7 (some .long) (ws_ yX3_meanOf cX3_meanOf 7 (some .long)) rmX3_meanOf_B 0 0 3 := cwV 3 hts (lw_V q1383 q1385 qs55 q83 q1386) rfl rfl rfl (by decide +kernel) hR
def rmX3_know : Room := { frames := 5, cells := 0, slots := 0, locals := 134 }
set_option maxHeartbeats 1000000 in
theorem mt_X3_know (l : Launch) (D : va_G) (dA : Nat → ClassId) (h : Nat) (ad : Nat → Nat) (σ : St) (τ : Sc) (hmD : mD h ad) (row : Int32) (n_ : Int32) (c_ : Int32) (w : Int32) (hI : Inv σ) : Met l yX3_know (ws_ yX3_know cX3_know 15 (some .long)) rmX3_know (va_Pc [.ref h, .int row, .int n_, .int c_, .int w] (mB D dA h ad σ τ)) (va_Ql (fun r (u : MS) => r = knowF σ row n_ c_ w ∧ u.1 = σ) (fun u t => mB D dA h ad u.1 u.2 t) (mA h ad)) 0 0 (mA h ad) := by
  refine w_start (by decide) (Nat.le_of_ble_eq_true rfl) ?_
  intro p e s m args below meth c Q ls hQ hx hb hr hlocks hml hown hnm hts hB hl
  have hown : s.vm.findClass RX3 = some m.cls := hown
  have hl : lv_has ls 15 [(0, .ref h), (1, .int row), (2, .int n_), (3, .int c_), (4, .int w)] := hl
  obtain ⟨hP, hK⟩ := hB
  have hP : va_P D vwCl (mX dA h ad σ.txt σ.len σ.wt σ.pr σ.tools σ.load σ.purse σ.beg σ.ways σ.told σ.calls σ.sm σ.sorts σ.visits σ.vm τ.read τ.rm τ.at_ τ.place τ.end_ τ.ents τ.em τ.combos τ.all_ τ.weight τ.gain τ.ad_ τ.minute τ.ds τ.bl τ.chosen) s.heap := hP
  have hS : va_S (mA h ad) s.heap s.heap [] := va_S.rf
  refine lv_aload_n hx hb dX3_know_0 rfl (lv_at hl 0 rfl) ?_
  refine lv_iload_n hx hb dX3_know_1 rfl (lv_at hl 1 rfl) ?_
  refine lv_iload_n hx hb dX3_know_2 rfl (lv_at hl 2 rfl) ?_
  refine cVi (As := [.int row, .int n_]) (rest := []) ⟨hx, hb, hml, hown, hts⟩ (mt_X3_refuses l D dA h ad σ τ row n_ hI) (cw_X3_X3_refuses hts ⟨Nat.le_of_ble_eq_true rfl, Nat.le_of_ble_eq_true rfl⟩) mB_bl (mB_now hK hP) (va_recv hK hP (ci := 0) (q0 := 0) rfl rfl) rfl hl.1 rfl (Nat.le_of_ble_eq_true rfl) dX3_know_3 ⟨Nat.le_of_ble_eq_true rfl, Nat.le_of_ble_eq_true rfl⟩ ?_
  refine lv_istore (lv' := [(5, .int (refF σ row n_)), (0, .ref h), (1, .int row), (2, .int n_), (3, .int c_), (4, .int w)]) hx hb dX3_know_6 hl (by decide) rfl (fun ls hl => ?_)
  refine lv_iload_n hx hb dX3_know_8 rfl (lv_at hl 3 rfl) ?_
  refine lv_i2l (v := (n_ : Int32).toInt64) hx hb dX3_know_9 rfl ?_
  refine lv_lconst (v := 1) hx hb dX3_know_10 rfl ?_
  refine lv_ldc2 (v := 6) hx hb hown (hts _ q1376) dX3_know_11 ?_
  refine cSi (As := [.long ((n_ : Int32).toInt64), .long 1, .long 6]) (rest := []) ⟨hx, hb, hml, hown, hts⟩ (mt_X3_in l ((n_ : Int32).toInt64) 1 6) (cw_X3_X3_in hts ⟨Nat.le_of_ble_eq_true rfl, Nat.le_of_ble_eq_true rfl⟩) w_blT (fun _ _ _ => trivial) rfl hl.1 rfl (Nat.le_of_ble_eq_true rfl) dX3_know_14 ⟨Nat.le_of_ble_eq_true rfl, Nat.le_of_ble_eq_true rfl⟩ ?_
  refine lv_if_ne (tgt := 24) hx hb dX3_know_17 rfl (fun h17 => ?_) (fun h17 => ?_)
  · have h17 : inP ((n_ : Int32).toInt64) 1 6 := b01_n h17
    obtain ⟨j, hj1, hj, rfl⟩ := in16 h17
    have hix : ix (nI j) = j := ix_nI (Nat.lt_succ_of_le hj) (by decide)
    refine lv_iconst (v := (-1)) hx hb dX3_know_24 rfl ?_
    refine lv_istore (lv' := [(6, .int (-1)), (5, .int (refF σ row (nI j))), (0, .ref h), (1, .int row), (2, .int (nI j)), (3, .int c_), (4, .int w)]) hx hb dX3_know_25 hl (by decide) rfl (fun ls hl => ?_)
    refine lv_iconst (v := 0) hx hb dX3_know_27 rfl ?_
    refine lv_istore (lv' := [(7, .int 0), (6, .int (-1)), (5, .int (refF σ row (nI j))), (0, .ref h), (1, .int row), (2, .int (nI j)), (3, .int c_), (4, .int w)]) hx hb dX3_know_28 hl (by decide) rfl (fun ls hl => ?_)
    have hL30_1 : ∀ (n_2 : Nat) (k : Nat) (x7 : Int32) (x6 : Int32) (ls : Array Slot), (6 - k) < n_2 → (k ≤ j) → x7 = (nI k) → x6 = (knE row c_ k) → lv_has ls 15 [(7, .int x7), (6, .int x6), (5, .int (refF σ row (nI j))), (0, .ref h), (1, .int row), (2, .int (nI j)), (3, .int c_), (4, .int w)] → W p l e rmX3_know s m args below meth c s.heap [] 0 0 Q (F0 m 30 ls []) := by
      intro n_2
      induction n_2 with
      | zero => intro k x7 x6 ls hm_4; exact absurd hm_4 (Nat.not_lt_zero _)
      | succ n_2 ih_3 =>
        intro k x7 x6 ls hm_4 hk ex7 ex6 hl
        subst ex7 ex6
        refine lv_iload hx hb dX3_know_30 (lv_at hl 0 rfl) ?_
        refine lv_iload_n hx hb dX3_know_32 rfl (lv_at hl 5 rfl) ?_
        refine lv_icmp_ge (tgt := 70) hx hb dX3_know_33 rfl (fun h33 => ?_) (fun h33 => ?_)
        · have h33 : j ≤ k := (nz_le (a := j) (b := k) rfl rfl (by omega) (by omega)).mp h33
          obtain rfl : j = k := by omega
          refine lv_iload hx hb dX3_know_70 (lv_at hl 2 rfl) ?_
          refine lv_bipush (v := (-2)) hx hb dX3_know_72 rfl ?_
          refine lv_icmp_eq (tgt := 83) hx hb dX3_know_74 rfl (fun h74 => ?_) (fun h74 => ?_)
          · have h74 : (refF σ row (nI j)) = (-2) := h74
            refine lv_ldc2 (v := (-8999999999999999998)) hx hb hown (hts _ q1377) dX3_know_83 ?_
            exact rm_l (u := (σ, τ)) hQ hx hb hr hlocks hK hP hS (⟨by subst_vars; simp only [knowF, eq_true h17, eq_true h33, eq_true h74, hix, if_true, if_false, ite_true, ite_false, not_true_eq_false, not_false_eq_true, and_true, true_and, and_false, false_and, or_true, true_or, or_false, false_or, and_self, or_self, eq_self], rfl⟩) dX3_know_86
          · have h74 : ¬ ((refF σ row (nI j)) = (-2)) := h74
            refine lv_iload hx hb dX3_know_77 (lv_at hl 1 rfl) ?_
            refine lv_iconst (v := (-1)) hx hb dX3_know_79 rfl ?_
            refine lv_icmp_ne (tgt := 87) hx hb dX3_know_80 rfl (fun h80 => ?_) (fun h80 => ?_)
            · have h80 : ¬ ((knE row c_ j) = (-1)) := h80
              refine lv_iload hx hb dX3_know_87 (lv_at hl 2 rfl) ?_
              refine lv_if_ne (tgt := 100) hx hb dX3_know_89 rfl (fun h89 => ?_) (fun h89 => ?_)
              · have h89 : ¬ ((refF σ row (nI j)) = 0) := h89
                refine lv_ldc2 (v := (-8999999999999999997)) hx hb hown (hts _ q1378) dX3_know_100 ?_
                exact rm_l (u := (σ, τ)) hQ hx hb hr hlocks hK hP hS (⟨by subst_vars; simp only [knowF, eq_true h17, eq_true h33, eq_false h74, eq_false h80, eq_false h89, hix, if_true, if_false, ite_true, ite_false, not_true_eq_false, not_false_eq_true, and_true, true_and, and_false, false_and, or_true, true_or, or_false, false_or, and_self, or_self, eq_self], rfl⟩) dX3_know_103
              · have h89 : (refF σ row (nI j)) = 0 := h89
                refine lv_iload hx hb dX3_know_92 (lv_at hl 7 rfl) ?_
                refine cSi (As := [.int w]) (rest := []) ⟨hx, hb, hml, hown, hts⟩ (mt_X3_isPart l w) (cw_X3_X3_isPart hts ⟨Nat.le_of_ble_eq_true rfl, Nat.le_of_ble_eq_true rfl⟩) w_blT (fun _ _ _ => trivial) rfl hl.1 rfl (Nat.le_of_ble_eq_true rfl) dX3_know_94 ⟨Nat.le_of_ble_eq_true rfl, Nat.le_of_ble_eq_true rfl⟩ ?_
                refine lv_if_ne (tgt := 104) hx hb dX3_know_97 rfl (fun h97 => ?_) (fun h97 => ?_)
                · have h97 : partP w := b01_n h97
                  obtain ⟨hR, htw⟩ := ref_okJ hj1 hj h89
                  have hcb := com_bd hI hR
                  obtain ⟨q, hq, ekn, hc6, hec⟩ := knE_ok j h80
                  have ec : c_ = nI (en row q) := by rw [← hec]; exact en_eq row q
                  have hq6 : ¬ en row q = 6 := fun z => hc6 (by rw [ec, z]; rfl)
                  have hlt := ((hR.2 q hq).resolve_left hq6)
                  have hsm := hI.sm _ hlt.1
                  rw [ekn] at hl
                  have hik : ix (knE row c_ j) = q := by rw [ekn]; exact ix_nI (N := 6) (by omega) (by decide)
                  clear ekn hec hc6
                  subst ec
                  have hie : ix (nI (en row q)) = en row q := ix_nI hlt.1 (by decide)
                  refine lv_aload_n hx hb dX3_know_104 rfl (lv_at hl 3 rfl) ?_
                  refine lv_iload_n hx hb dX3_know_105 rfl (lv_at hl 4 rfl) ?_
                  refine lv_iload_n hx hb dX3_know_106 rfl (lv_at hl 5 rfl) ?_
                  refine mcVv (As := [.int row, .int (nI j)]) (rest := []) ⟨hx, hb, hml, hown, hts⟩ (mt_X3_layRow l D dA h ad σ τ hmD row j hI hR) (cw_X3_X3_layRow hts ⟨Nat.le_of_ble_eq_true rfl, Nat.le_of_ble_eq_true rfl⟩) (mB_now hK hP) (va_recv hK hP (ci := 0) (q0 := 0) rfl rfl) rfl hl.1 rfl (Nat.le_of_ble_eq_true rfl) dX3_know_107 ⟨Nat.le_of_ble_eq_true rfl, Nat.le_of_ble_eq_true rfl⟩ hS (fun u_6 H locs hp_7 hP hS => ?_)
                  subst hp_7
                  have hP : va_P D vwCl (mX dA h ad σ.txt σ.len σ.wt σ.pr σ.tools σ.load σ.purse σ.beg σ.ways σ.told σ.calls σ.sm σ.sorts σ.visits σ.vm τ.read τ.rm τ.at_ τ.place τ.end_ (entU row τ.ents j) (nI j) (nI (comN σ row j)) (allP σ row j) τ.weight τ.gain τ.ad_ τ.minute τ.ds τ.bl τ.chosen) H := hP
                  obtain ⟨g_8, eg_8⟩ : ∃ x, x = entU row τ.ents j := ⟨_, rfl⟩
                  rw [← eg_8] at hP
                  obtain ⟨g_9, eg_9⟩ : ∃ x, x = nI (comN σ row j) := ⟨_, rfl⟩
                  rw [← eg_9] at hP
                  obtain ⟨g_10, eg_10⟩ : ∃ x, x = allP σ row j := ⟨_, rfl⟩
                  rw [← eg_10] at hP
                  refine lv_aload_n hx hb dX3_know_110 rfl (lv_at hl 3 rfl) ?_
                  refine lv_aload_n hx hb dX3_know_111 rfl (lv_at hl 3 rfl) ?_
                  refine mcVi (As := []) (rest := [.ref h]) ⟨hx, hb, hml, hown, hts⟩ (mt_X3_bestBag l D dA h ad σ ((τ.read, τ.rm, τ.at_, τ.place, τ.end_, g_8, nI j, g_9, g_10, τ.weight, τ.gain, τ.ad_, τ.minute, τ.ds, τ.bl, τ.chosen) : Sc) hmD row j hI hR rfl (fun i hi => by rw [eg_8]; exact entU_at j i hi) eg_9) (cw_X3_X3_bestBag hts ⟨Nat.le_of_ble_eq_true rfl, Nat.le_of_ble_eq_true rfl⟩) (mB_now hK hP) (va_recv hK hP (ci := 0) (q0 := 0) rfl rfl) rfl hl.1 rfl (Nat.le_of_ble_eq_true rfl) dX3_know_112 ⟨Nat.le_of_ble_eq_true rfl, Nat.le_of_ble_eq_true rfl⟩ hS (fun r_11 u_12 H locs hp_13 hP hS => ?_)
                  obtain ⟨rfl, hu_23, k_14, k_15, k_16, k_17, k_18, k_19, k_20, k_21, k_22⟩ := hp_13
                  have hP : va_P D vwCl (mX dA h ad u_12.1.txt u_12.1.len u_12.1.wt u_12.1.pr u_12.1.tools u_12.1.load u_12.1.purse u_12.1.beg u_12.1.ways u_12.1.told u_12.1.calls u_12.1.sm u_12.1.sorts u_12.1.visits u_12.1.vm u_12.2.read u_12.2.rm u_12.2.at_ u_12.2.place u_12.2.end_ u_12.2.ents u_12.2.em u_12.2.combos u_12.2.all_ u_12.2.weight u_12.2.gain u_12.2.ad_ u_12.2.minute u_12.2.ds u_12.2.bl u_12.2.chosen) H := hP
                  rw [hu_23, k_14, k_15, k_16, k_17, k_18, k_19, k_20, k_21, k_22] at hP
                  clear hu_23 k_14 k_15 k_16 k_17 k_18 k_19 k_20 k_21 k_22
                  have hP : va_P D vwCl (mX dA h ad σ.txt σ.len σ.wt σ.pr σ.tools σ.load σ.purse σ.beg σ.ways σ.told σ.calls σ.sm σ.sorts σ.visits σ.vm τ.read τ.rm τ.at_ τ.place τ.end_ g_8 (nI j) g_9 g_10 u_12.2.weight u_12.2.gain u_12.2.ad_ u_12.2.minute u_12.2.ds u_12.2.bl u_12.2.chosen) H := hP
                  refine lv_iconst (v := (-1)) hx hb dX3_know_115 rfl ?_
                  refine lv_iconst (v := 0) hx hb dX3_know_116 rfl ?_
                  refine mcVl (As := [.int (bbF σ row j), .int (-1), .int 0]) (rest := []) ⟨hx, hb, hml, hown, hts⟩ (mt_X3_meanOf_A l D dA h ad σ ((τ.read, τ.rm, τ.at_, τ.place, τ.end_, g_8, nI j, g_9, g_10, u_12.2.weight, u_12.2.gain, u_12.2.ad_, u_12.2.minute, u_12.2.ds, u_12.2.bl, u_12.2.chosen) : Sc) hmD row j (bbF σ row j) hI hR rfl (fun i hi => by rw [eg_8]; exact entU_at j i hi) eg_9) (cw_X3_X3_meanOf_A hts ⟨Nat.le_of_ble_eq_true rfl, Nat.le_of_ble_eq_true rfl⟩) (mB_now hK hP) (va_recv hK hP (ci := 0) (q0 := 0) rfl rfl) rfl hl.1 rfl (Nat.le_of_ble_eq_true rfl) dX3_know_117 ⟨Nat.le_of_ble_eq_true rfl, Nat.le_of_ble_eq_true rfl⟩ hS (fun r_24 u_25 H locs hp_26 hP hS => ?_)
                  obtain ⟨rfl, hu_36, k_27, k_28, k_29, k_30, k_31, k_32, k_33, k_34, k_35⟩ := hp_26
                  have hP : va_P D vwCl (mX dA h ad u_25.1.txt u_25.1.len u_25.1.wt u_25.1.pr u_25.1.tools u_25.1.load u_25.1.purse u_25.1.beg u_25.1.ways u_25.1.told u_25.1.calls u_25.1.sm u_25.1.sorts u_25.1.visits u_25.1.vm u_25.2.read u_25.2.rm u_25.2.at_ u_25.2.place u_25.2.end_ u_25.2.ents u_25.2.em u_25.2.combos u_25.2.all_ u_25.2.weight u_25.2.gain u_25.2.ad_ u_25.2.minute u_25.2.ds u_25.2.bl u_25.2.chosen) H := hP
                  rw [hu_36, k_27, k_28, k_29, k_30, k_31, k_32, k_33, k_34, k_35] at hP
                  clear hu_36 k_27 k_28 k_29 k_30 k_31 k_32 k_33 k_34 k_35
                  have hP : va_P D vwCl (mX dA h ad σ.txt σ.len σ.wt σ.pr σ.tools σ.load σ.purse σ.beg σ.ways σ.told σ.calls σ.sm σ.sorts σ.visits σ.vm τ.read τ.rm τ.at_ τ.place τ.end_ g_8 (nI j) g_9 g_10 u_25.2.weight u_25.2.gain u_25.2.ad_ u_25.2.minute u_25.2.ds u_25.2.bl u_25.2.chosen) H := hP
                  refine lv_lneg hx hb dX3_know_120 ?_
                  refine lv_lstore (lv' := [(7, .long (-(mnF σ row j (bbF σ row j)))), (6, .int (nI q)), (5, .int (refF σ row (nI j))), (0, .ref h), (1, .int row), (2, .int (nI j)), (3, .int (nI (en row q))), (4, .int w)]) hx hb dX3_know_121 hl (by decide) rfl (fun ls hl => ?_)
                  refine lv_iconst (v := 0) hx hb dX3_know_123 rfl ?_
                  refine lv_istore (lv' := [(9, .int 0), (7, .long (-(mnF σ row j (bbF σ row j)))), (6, .int (nI q)), (5, .int (refF σ row (nI j))), (0, .ref h), (1, .int row), (2, .int (nI j)), (3, .int (nI (en row q))), (4, .int w)]) hx hb dX3_know_124 hl (by decide) rfl (fun ls hl => ?_)
                  have hL126_37 : ∀ (n_38 : Nat) (s_ : Nat) (wc : Nat → Int32) (ww : Int64) (wg : Int32) (wa : Int32) (wm : Int32) (wd : Int32) (wb : Int32) (x9 : Int32) (x7 : Int64) (ls : Array Slot) (H : Heap) (locs : List Loc), (4 - s_) < n_38 → (s_ ≤ σ.sm (en row q)) → x9 = (nI s_) → x7 = (ksG σ row j q s_) → lv_has ls 15 [(9, .int x9), (7, .long x7), (6, .int (nI q)), (5, .int (refF σ row (nI j))), (0, .ref h), (1, .int row), (2, .int (nI j)), (3, .int (nI (en row q))), (4, .int w)] → va_P D vwCl (mX dA h ad σ.txt σ.len σ.wt σ.pr σ.tools σ.load σ.purse σ.beg σ.ways σ.told σ.calls σ.sm σ.sorts σ.visits σ.vm τ.read τ.rm τ.at_ τ.place τ.end_ g_8 (nI j) g_9 g_10 ww wg wa wm wd wb wc) H → va_S (mA h ad) s.heap H locs → W p l e rmX3_know s m args below meth c H locs 0 0 Q (F0 m 126 ls []) := by
                    intro n_38
                    induction n_38 with
                    | zero => intro s_ wc ww wg wa wm wd wb x9 x7 ls H locs hm_40; exact absurd hm_40 (Nat.not_lt_zero _)
                    | succ n_38 ih_39 =>
                      intro s_ wc ww wg wa wm wd wb x9 x7 ls H locs hm_40 hs ex9 ex7 hl hP hS
                      subst ex9 ex7
                      refine lv_iload hx hb dX3_know_126 (lv_at hl 0 rfl) ?_
                      refine lv_aload_n hx hb dX3_know_128 rfl (lv_at hl 4 rfl) ?_
                      refine va_get (D := D) (ci := 0) (v := .ref (ad 6)) (C := RX3) (T := TX3) (N := 31) hx hb hts in_X3 hown hK hP 0 rfl rfl 13 (by decide) (hts _ q1127) (fun _ h9 => h9) rfl dX3_know_129 ?_
                      refine lv_iload_n hx hb dX3_know_132 rfl (lv_at hl 7 rfl) ?_
                      refine wa_iald (f := fun c => nI (σ.sm c)) hx hb hK hP 7 0 rfl rfl (en row q) (rfl) (by omega) (by decide) dX3_know_133 ?_
                      refine w_topi (y := nI (σ.sm (en row q))) rfl ?_
                      refine lv_icmp_ge (tgt := 216) hx hb dX3_know_134 rfl (fun h134 => ?_) (fun h134 => ?_)
                      · have h134 : (σ.sm (en row q)) ≤ s_ := (nz_le (a := σ.sm (en row q)) (b := s_) rfl rfl (by omega) (by omega)).mp h134
                        have hs_ : s_ = σ.sm (en row q) := by omega
                        subst hs_
                        refine lv_lload hx hb dX3_know_216 (lv_at hl 1 rfl) ?_
                        refine lv_aload_n hx hb dX3_know_218 rfl (lv_at hl 4 rfl) ?_
                        refine va_get (D := D) (ci := 0) (v := .long g_10) (C := RX3) (T := TX3) (N := 31) hx hb hts in_X3 hown hK hP 0 rfl rfl 23 (by decide) (hts _ q1137) (fun _ h9 => h9) rfl dX3_know_219 ?_
                        refine lv_iload hx hb dX3_know_222 (lv_at hl 8 rfl) ?_
                        refine cSl (As := [.long (ksG σ row j q (σ.sm (en row q))), .long g_10, .int w]) (rest := []) ⟨hx, hb, hml, hown, hts⟩ (mt_X3_lowest l (ksG σ row j q (σ.sm (en row q))) g_10 w (by rw [eg_10]; exact all_ne hI hR)) (cw_X3_X3_lowest hts ⟨Nat.le_of_ble_eq_true rfl, Nat.le_of_ble_eq_true rfl⟩) w_blT (fun _ _ _ => trivial) rfl hl.1 rfl (Nat.le_of_ble_eq_true rfl) dX3_know_224 ⟨Nat.le_of_ble_eq_true rfl, Nat.le_of_ble_eq_true rfl⟩ ?_
                        exact rm_l (u := (σ, ((τ.read, τ.rm, τ.at_, τ.place, τ.end_, g_8, nI j, g_9, g_10, ww, wg, wa, wm, wd, wb, wc) : Sc))) hQ hx hb hr hlocks hK hP hS (⟨by subst_vars; simp only [knowF, eq_true h17, eq_true h33, eq_false h74, eq_false h80, eq_true h89, eq_true h97, eq_true h134, hix, hik, hie, if_true, if_false, ite_true, ite_false, not_true_eq_false, not_false_eq_true, and_true, true_and, and_false, false_and, or_true, true_or, or_false, false_or, and_self, or_self, eq_self], rfl⟩) dX3_know_227
                      · have h134 : ¬ ((σ.sm (en row q)) ≤ s_) := fun z9 => h134 ((nz_le (a := σ.sm (en row q)) (b := s_) rfl rfl (by omega) (by omega)).mpr z9)
                        refine lv_ldc2 (v := (-9000000000000000000)) hx hb hown (hts _ q1431) dX3_know_137 ?_
                        refine lv_lstore (lv' := [(10, .long (-9000000000000000000)), (9, .int (nI s_)), (7, .long (ksG σ row j q s_)), (6, .int (nI q)), (5, .int (refF σ row (nI j))), (0, .ref h), (1, .int row), (2, .int (nI j)), (3, .int (nI (en row q))), (4, .int w)]) hx hb dX3_know_140 hl (by decide) rfl (fun ls hl => ?_)
                        refine lv_iconst (v := 0) hx hb dX3_know_142 rfl ?_
                        refine lv_istore (lv' := [(12, .int 0), (10, .long (-9000000000000000000)), (9, .int (nI s_)), (7, .long (ksG σ row j q s_)), (6, .int (nI q)), (5, .int (refF σ row (nI j))), (0, .ref h), (1, .int row), (2, .int (nI j)), (3, .int (nI (en row q))), (4, .int w)]) hx hb dX3_know_143 hl (by decide) rfl (fun ls hl => ?_)
                        have hL145_41 : ∀ (n_42 : Nat) (k : Nat) (yc : Nat → Int32) (yw : Int64) (yg : Int32) (ya : Int32) (ym : Int32) (yd : Int32) (yb : Int32) (x12 : Int32) (x10 : Int64) (ls : Array Slot) (H : Heap) (locs : List Loc), (256 - k) < n_42 → (k ≤ 256) → x12 = (nI k) → x10 = (kmG σ row j q s_ k) → lv_has ls 15 [(12, .int x12), (10, .long x10), (9, .int (nI s_)), (7, .long (ksG σ row j q s_)), (6, .int (nI q)), (5, .int (refF σ row (nI j))), (0, .ref h), (1, .int row), (2, .int (nI j)), (3, .int (nI (en row q))), (4, .int w)] → va_P D vwCl (mX dA h ad σ.txt σ.len σ.wt σ.pr σ.tools σ.load σ.purse σ.beg σ.ways σ.told σ.calls σ.sm σ.sorts σ.visits σ.vm τ.read τ.rm τ.at_ τ.place τ.end_ g_8 (nI j) g_9 g_10 yw yg ya ym yd yb yc) H → va_S (mA h ad) s.heap H locs → W p l e rmX3_know s m args below meth c H locs 0 0 Q (F0 m 145 ls []) := by
                          intro n_42
                          induction n_42 with
                          | zero => intro k yc yw yg ya ym yd yb x12 x10 ls H locs hm_44; exact absurd hm_44 (Nat.not_lt_zero _)
                          | succ n_42 ih_43 =>
                            intro k yc yw yg ya ym yd yb x12 x10 ls H locs hm_44 hk ex12 ex10 hl hP hS
                            subst ex12 ex10
                            refine lv_iload hx hb dX3_know_145 (lv_at hl 0 rfl) ?_
                            refine lv_sipush (v := 256) hx hb dX3_know_147 rfl ?_
                            refine lv_icmp_ge (tgt := 203) hx hb dX3_know_150 rfl (fun h150 => ?_) (fun h150 => ?_)
                            · have h150 : 256 ≤ k := (nz_le (a := 256) (b := k) rfl rfl (by omega) (by omega)).mp h150
                              have hk_ : k = 256 := by omega
                              subst hk_
                              refine lv_lload hx hb dX3_know_203 (lv_at hl 3 rfl) ?_
                              refine lv_lload hx hb dX3_know_205 (lv_at hl 1 rfl) ?_
                              refine lv_ladd hx hb dX3_know_207 ?_
                              refine lv_lstore (lv' := [(7, .long ((ksG σ row j q s_) + (kmG σ row j q s_ 256))), (12, .int (nI 256)), (10, .long (kmG σ row j q s_ 256)), (9, .int (nI s_)), (6, .int (nI q)), (5, .int (refF σ row (nI j))), (0, .ref h), (1, .int row), (2, .int (nI j)), (3, .int (nI (en row q))), (4, .int w)]) hx hb dX3_know_208 hl (by decide) rfl (fun ls hl => ?_)
                              refine lv_iinc (v := nI (s_ + 1)) (lv' := [(9, .int (nI (s_ + 1))), (7, .long ((ksG σ row j q s_) + (kmG σ row j q s_ 256))), (12, .int (nI 256)), (10, .long (kmG σ row j q s_ 256)), (6, .int (nI q)), (5, .int (refF σ row (nI j))), (0, .ref h), (1, .int row), (2, .int (nI j)), (3, .int (nI (en row q))), (4, .int w)]) hx hb dX3_know_210 hl (k := 3) rfl (nI_1 s_) (by decide) rfl (fun ls hl => ?_)
                              refine lv_goto (tgt := 126) hx hb dX3_know_213 rfl ?_
                              exact ih_39 (s_ + 1) yc yw yg ya ym yd yb (nI (s_ + 1)) ((ksG σ row j q s_) + (kmG σ row j q s_ 256)) ls _ _ (by omega) (by omega) rfl (by subst_vars; rw [ksG]) (lv_sub hl [0, 1, 4, 5, 6, 7, 8, 9, 10] rfl) hP hS
                            · have h150 : ¬ (256 ≤ k) := fun z9 => h150 ((nz_le (a := 256) (b := k) rfl rfl (by omega) (by omega)).mpr z9)
                              refine lv_aload_n hx hb dX3_know_153 rfl (lv_at hl 6 rfl) ?_
                              refine lv_iload hx hb dX3_know_154 (lv_at hl 0 rfl) ?_
                              refine cVi (As := [.int (nI k)]) (rest := []) ⟨hx, hb, hml, hown, hts⟩ (mt_X3_mayBe l D dA h ad σ ((τ.read, τ.rm, τ.at_, τ.place, τ.end_, g_8, nI j, g_9, g_10, yw, yg, ya, ym, yd, yb, yc) : Sc) (nI k)) (cw_X3_X3_mayBe hts ⟨Nat.le_of_ble_eq_true rfl, Nat.le_of_ble_eq_true rfl⟩) mB_bl (mB_now hK hP) (va_recv hK hP (ci := 0) (q0 := 0) rfl rfl) rfl hl.1 rfl (Nat.le_of_ble_eq_true rfl) dX3_know_156 ⟨Nat.le_of_ble_eq_true rfl, Nat.le_of_ble_eq_true rfl⟩ ?_
                              refine lv_if_eq (tgt := 175) hx hb dX3_know_159 rfl (fun h159 => ?_) (fun h159 => ?_)
                              · have h159 : ¬ (mayP σ (nI k)) := b01_0.mp h159
                                refine lv_ldc2 (v := (-9000000000000000000)) hx hb hown (hts _ q1431) dX3_know_175 ?_
                                refine lv_lstore (lv' := [(13, .long (-9000000000000000000)), (12, .int (nI k)), (10, .long (kmG σ row j q s_ k)), (9, .int (nI s_)), (7, .long (ksG σ row j q s_)), (6, .int (nI q)), (5, .int (refF σ row (nI j))), (0, .ref h), (1, .int row), (2, .int (nI j)), (3, .int (nI (en row q))), (4, .int w)]) hx hb dX3_know_178 hl (by decide) rfl (fun ls hl => ?_)
                                refine lv_lload hx hb dX3_know_180 (lv_at hl 0 rfl) ?_
                                refine lv_lload hx hb dX3_know_182 (lv_at hl 2 rfl) ?_
                                refine W.lcmp hx hb dX3_know_184 ?_
                                have hJ195_45 : ∀ (v_46 : Int64) (ls : Array Slot), v_46 = (if (-9000000000000000000) ≤ (kmG σ row j q s_ k) then kmG σ row j q s_ k else (-9000000000000000000)) → lv_has ls 15 [(13, .long (-9000000000000000000)), (12, .int (nI k)), (10, .long (kmG σ row j q s_ k)), (9, .int (nI s_)), (7, .long (ksG σ row j q s_)), (6, .int (nI q)), (5, .int (refF σ row (nI j))), (0, .ref h), (1, .int row), (2, .int (nI j)), (3, .int (nI (en row q))), (4, .int w)] → W p l e rmX3_know s m args below meth c H locs 0 0 Q (F0 m 195 ls [.long v_46]) := by
                                  intro v_46 ls ev_46 hl
                                  refine lv_lstore (lv' := [(10, .long v_46), (13, .long (-9000000000000000000)), (12, .int (nI k)), (9, .int (nI s_)), (7, .long (ksG σ row j q s_)), (6, .int (nI q)), (5, .int (refF σ row (nI j))), (0, .ref h), (1, .int row), (2, .int (nI j)), (3, .int (nI (en row q))), (4, .int w)]) hx hb dX3_know_195 hl (by decide) rfl (fun ls hl => ?_)
                                  refine lv_iinc (v := nI (k + 1)) (lv' := [(12, .int (nI (k + 1))), (10, .long v_46), (13, .long (-9000000000000000000)), (9, .int (nI s_)), (7, .long (ksG σ row j q s_)), (6, .int (nI q)), (5, .int (refF σ row (nI j))), (0, .ref h), (1, .int row), (2, .int (nI j)), (3, .int (nI (en row q))), (4, .int w)]) hx hb dX3_know_197 hl (k := 2) rfl (nI_1 k) (by decide) rfl (fun ls hl => ?_)
                                  refine lv_goto (tgt := 145) hx hb dX3_know_200 rfl ?_
                                  exact ih_43 (k + 1) yc yw yg ya ym yd yb (nI (k + 1)) v_46 ls _ _ (by omega) (by omega) rfl (by subst_vars; rw [kmG, if_neg h159]) (lv_sub hl [0, 1, 3, 4, 5, 6, 7, 8, 9, 10, 11] rfl) hP hS
                                refine lv_if_le (tgt := 193) hx hb dX3_know_185 rfl (fun h185 => ?_) (fun h185 => ?_)
                                · have h185 : (-9000000000000000000) ≤ (kmG σ row j q s_ k) := (lg_cmp_le (-9000000000000000000) (kmG σ row j q s_ k)).mp h185
                                  refine lv_lload hx hb dX3_know_193 (lv_at hl 2 rfl) ?_
                                  exact hJ195_45 (kmG σ row j q s_ k) ls (by rw [if_pos h185]) (lv_sub hl [0, 1, 2, 3, 4, 5, 6, 7, 8, 9, 10, 11] rfl)
                                · have h185 : ¬ ((-9000000000000000000) ≤ (kmG σ row j q s_ k)) := fun z9 => h185 ((lg_cmp_le (-9000000000000000000) (kmG σ row j q s_ k)).mpr z9)
                                  refine lv_lload hx hb dX3_know_188 (lv_at hl 0 rfl) ?_
                                  refine lv_goto (tgt := 195) hx hb dX3_know_190 rfl ?_
                                  exact hJ195_45 ((-9000000000000000000)) ls (by rw [if_neg h185]) (lv_sub hl [0, 1, 2, 3, 4, 5, 6, 7, 8, 9, 10, 11] rfl)
                              · have h159 : mayP σ (nI k) := b01_n h159
                                refine lv_aload_n hx hb dX3_know_162 rfl (lv_at hl 6 rfl) ?_
                                refine lv_iload hx hb dX3_know_163 (lv_at hl 0 rfl) ?_
                                refine lv_iload hx hb dX3_know_165 (lv_at hl 4 rfl) ?_
                                refine lv_iload hx hb dX3_know_167 (lv_at hl 2 rfl) ?_
                                refine mcVl (As := [.int (nI k), .int (nI q), .int (nI s_)]) (rest := []) ⟨hx, hb, hml, hown, hts⟩ (mt_X3_meanOf_B l D dA h ad σ ((τ.read, τ.rm, τ.at_, τ.place, τ.end_, g_8, nI j, g_9, g_10, yw, yg, ya, ym, yd, yb, yc) : Sc) hmD row j (nI k) q s_ hI hR rfl (fun i hi => by rw [eg_8]; exact entU_at j i hi) eg_9 hq hq6 (by omega)) (cw_X3_X3_meanOf_B hts ⟨Nat.le_of_ble_eq_true rfl, Nat.le_of_ble_eq_true rfl⟩) (mB_now hK hP) (va_recv hK hP (ci := 0) (q0 := 0) rfl rfl) rfl hl.1 rfl (Nat.le_of_ble_eq_true rfl) dX3_know_169 ⟨Nat.le_of_ble_eq_true rfl, Nat.le_of_ble_eq_true rfl⟩ hS (fun r_47 u_48 H locs hp_49 hP hS => ?_)
                                obtain ⟨rfl, hu_59, k_50, k_51, k_52, k_53, k_54, k_55, k_56, k_57, k_58⟩ := hp_49
                                have hP : va_P D vwCl (mX dA h ad u_48.1.txt u_48.1.len u_48.1.wt u_48.1.pr u_48.1.tools u_48.1.load u_48.1.purse u_48.1.beg u_48.1.ways u_48.1.told u_48.1.calls u_48.1.sm u_48.1.sorts u_48.1.visits u_48.1.vm u_48.2.read u_48.2.rm u_48.2.at_ u_48.2.place u_48.2.end_ u_48.2.ents u_48.2.em u_48.2.combos u_48.2.all_ u_48.2.weight u_48.2.gain u_48.2.ad_ u_48.2.minute u_48.2.ds u_48.2.bl u_48.2.chosen) H := hP
                                rw [hu_59, k_50, k_51, k_52, k_53, k_54, k_55, k_56, k_57, k_58] at hP
                                clear hu_59 k_50 k_51 k_52 k_53 k_54 k_55 k_56 k_57 k_58
                                have hP : va_P D vwCl (mX dA h ad σ.txt σ.len σ.wt σ.pr σ.tools σ.load σ.purse σ.beg σ.ways σ.told σ.calls σ.sm σ.sorts σ.visits σ.vm τ.read τ.rm τ.at_ τ.place τ.end_ g_8 (nI j) g_9 g_10 u_48.2.weight u_48.2.gain u_48.2.ad_ u_48.2.minute u_48.2.ds u_48.2.bl u_48.2.chosen) H := hP
                                refine lv_goto (tgt := 178) hx hb dX3_know_172 rfl ?_
                                refine lv_lstore (lv' := [(13, .long (mkF σ row j (nI k) q s_)), (12, .int (nI k)), (10, .long (kmG σ row j q s_ k)), (9, .int (nI s_)), (7, .long (ksG σ row j q s_)), (6, .int (nI q)), (5, .int (refF σ row (nI j))), (0, .ref h), (1, .int row), (2, .int (nI j)), (3, .int (nI (en row q))), (4, .int w)]) hx hb dX3_know_178 hl (by decide) rfl (fun ls hl => ?_)
                                refine lv_lload hx hb dX3_know_180 (lv_at hl 0 rfl) ?_
                                refine lv_lload hx hb dX3_know_182 (lv_at hl 2 rfl) ?_
                                refine W.lcmp hx hb dX3_know_184 ?_
                                have hJ195_60 : ∀ (v_61 : Int64) (ls : Array Slot), v_61 = (if (mkF σ row j (nI k) q s_) ≤ (kmG σ row j q s_ k) then kmG σ row j q s_ k else mkF σ row j (nI k) q s_) → lv_has ls 15 [(13, .long (mkF σ row j (nI k) q s_)), (12, .int (nI k)), (10, .long (kmG σ row j q s_ k)), (9, .int (nI s_)), (7, .long (ksG σ row j q s_)), (6, .int (nI q)), (5, .int (refF σ row (nI j))), (0, .ref h), (1, .int row), (2, .int (nI j)), (3, .int (nI (en row q))), (4, .int w)] → W p l e rmX3_know s m args below meth c H locs 0 0 Q (F0 m 195 ls [.long v_61]) := by
                                  intro v_61 ls ev_61 hl
                                  refine lv_lstore (lv' := [(10, .long v_61), (13, .long (mkF σ row j (nI k) q s_)), (12, .int (nI k)), (9, .int (nI s_)), (7, .long (ksG σ row j q s_)), (6, .int (nI q)), (5, .int (refF σ row (nI j))), (0, .ref h), (1, .int row), (2, .int (nI j)), (3, .int (nI (en row q))), (4, .int w)]) hx hb dX3_know_195 hl (by decide) rfl (fun ls hl => ?_)
                                  refine lv_iinc (v := nI (k + 1)) (lv' := [(12, .int (nI (k + 1))), (10, .long v_61), (13, .long (mkF σ row j (nI k) q s_)), (9, .int (nI s_)), (7, .long (ksG σ row j q s_)), (6, .int (nI q)), (5, .int (refF σ row (nI j))), (0, .ref h), (1, .int row), (2, .int (nI j)), (3, .int (nI (en row q))), (4, .int w)]) hx hb dX3_know_197 hl (k := 2) rfl (nI_1 k) (by decide) rfl (fun ls hl => ?_)
                                  refine lv_goto (tgt := 145) hx hb dX3_know_200 rfl ?_
                                  exact ih_43 (k + 1) u_48.2.chosen u_48.2.weight u_48.2.gain u_48.2.ad_ u_48.2.minute u_48.2.ds u_48.2.bl (nI (k + 1)) v_61 ls _ _ (by omega) (by omega) rfl (by subst_vars; rw [kmG, if_pos h159]) (lv_sub hl [0, 1, 3, 4, 5, 6, 7, 8, 9, 10, 11] rfl) hP hS
                                refine lv_if_le (tgt := 193) hx hb dX3_know_185 rfl (fun h185 => ?_) (fun h185 => ?_)
                                · have h185 : (mkF σ row j (nI k) q s_) ≤ (kmG σ row j q s_ k) := (lg_cmp_le (mkF σ row j (nI k) q s_) (kmG σ row j q s_ k)).mp h185
                                  refine lv_lload hx hb dX3_know_193 (lv_at hl 2 rfl) ?_
                                  exact hJ195_60 (kmG σ row j q s_ k) ls (by rw [if_pos h185]) (lv_sub hl [0, 1, 2, 3, 4, 5, 6, 7, 8, 9, 10, 11] rfl)
                                · have h185 : ¬ ((mkF σ row j (nI k) q s_) ≤ (kmG σ row j q s_ k)) := fun z9 => h185 ((lg_cmp_le (mkF σ row j (nI k) q s_) (kmG σ row j q s_ k)).mpr z9)
                                  refine lv_lload hx hb dX3_know_188 (lv_at hl 0 rfl) ?_
                                  refine lv_goto (tgt := 195) hx hb dX3_know_190 rfl ?_
                                  exact hJ195_60 (mkF σ row j (nI k) q s_) ls (by rw [if_neg h185]) (lv_sub hl [0, 1, 2, 3, 4, 5, 6, 7, 8, 9, 10, 11] rfl)
                        exact hL145_41 _ 0 wc ww wg wa wm wd wb 0 (-9000000000000000000) ls _ _ (Nat.lt_succ_self _) (by omega) rfl (by subst_vars; rw [kmG]) (lv_sub hl [0, 1, 2, 3, 4, 5, 6, 7, 8, 9, 10] rfl) hP hS
                  exact hL126_37 _ 0 u_25.2.chosen u_25.2.weight u_25.2.gain u_25.2.ad_ u_25.2.minute u_25.2.ds u_25.2.bl 0 (-(mnF σ row j (bbF σ row j))) ls _ _ (Nat.lt_succ_self _) (by omega) rfl (by subst_vars; rw [ksG]) (lv_sub hl [0, 1, 2, 3, 4, 5, 6, 7, 8] rfl) hP hS
                · have h97 : ¬ (partP w) := b01_0.mp h97
                  refine lv_ldc2 (v := (-8999999999999999997)) hx hb hown (hts _ q1378) dX3_know_100 ?_
                  exact rm_l (u := (σ, τ)) hQ hx hb hr hlocks hK hP hS (⟨by subst_vars; simp only [knowF, eq_true h17, eq_true h33, eq_false h74, eq_false h80, eq_true h89, eq_false h97, hix, if_true, if_false, ite_true, ite_false, not_true_eq_false, not_false_eq_true, and_true, true_and, and_false, false_and, or_true, true_or, or_false, false_or, and_self, or_self, eq_self], rfl⟩) dX3_know_103
            · have h80 : (knE row c_ j) = (-1) := h80
              refine lv_ldc2 (v := (-8999999999999999998)) hx hb hown (hts _ q1377) dX3_know_83 ?_
              exact rm_l (u := (σ, τ)) hQ hx hb hr hlocks hK hP hS (⟨by subst_vars; simp only [knowF, eq_true h17, eq_true h33, eq_false h74, eq_true h80, hix, if_true, if_false, ite_true, ite_false, not_true_eq_false, not_false_eq_true, and_true, true_and, and_false, false_and, or_true, true_or, or_false, false_or, and_self, or_self, eq_self], rfl⟩) dX3_know_86
        · have h33 : ¬ (j ≤ k) := fun z9 => h33 ((nz_le (a := j) (b := k) rfl rfl (by omega) (by omega)).mpr z9)
          refine lv_iload_n hx hb dX3_know_36 rfl (lv_at hl 6 rfl) ?_
          refine lv_bipush (v := 6) hx hb dX3_know_37 rfl ?_
          have hJ62_62 : ∀ (v_63 : Int32) (ls : Array Slot), v_63 = (if c_ = 6 then knE row c_ k else if (entF row k) = c_ then nI k else knE row c_ k) → lv_has ls 15 [(7, .int (nI k)), (6, .int (knE row c_ k)), (5, .int (refF σ row (nI j))), (0, .ref h), (1, .int row), (2, .int (nI j)), (3, .int c_), (4, .int w)] → W p l e rmX3_know s m args below meth c s.heap [] 0 0 Q (F0 m 62 ls [.int v_63]) := by
            intro v_63 ls ev_63 hl
            refine lv_istore (lv' := [(6, .int v_63), (7, .int (nI k)), (5, .int (refF σ row (nI j))), (0, .ref h), (1, .int row), (2, .int (nI j)), (3, .int c_), (4, .int w)]) hx hb dX3_know_62 hl (by decide) rfl (fun ls hl => ?_)
            refine lv_iinc (v := nI (k + 1)) (lv' := [(7, .int (nI (k + 1))), (6, .int v_63), (5, .int (refF σ row (nI j))), (0, .ref h), (1, .int row), (2, .int (nI j)), (3, .int c_), (4, .int w)]) hx hb dX3_know_64 hl (k := 1) rfl (nI_1 k) (by decide) rfl (fun ls hl => ?_)
            refine lv_goto (tgt := 30) hx hb dX3_know_67 rfl ?_
            exact ih_3 (k + 1) (nI (k + 1)) v_63 ls (by omega) (by omega) rfl (by subst_vars; rw [knE]) (lv_sub hl [0, 1, 2, 3, 4, 5, 6, 7] rfl)
          refine lv_icmp_eq (tgt := 60) hx hb dX3_know_39 rfl (fun h39 => ?_) (fun h39 => ?_)
          · have h39 : c_ = 6 := h39
            refine lv_iload hx hb dX3_know_60 (lv_at hl 1 rfl) ?_
            exact hJ62_62 (knE row c_ k) ls (by rw [if_pos h39]) (lv_sub hl [0, 1, 2, 3, 4, 5, 6, 7] rfl)
          · have h39 : ¬ (c_ = 6) := h39
            refine lv_iload_n hx hb dX3_know_42 rfl (lv_at hl 4 rfl) ?_
            refine lv_iconst (v := 4) hx hb dX3_know_43 rfl ?_
            refine lv_iload hx hb dX3_know_44 (lv_at hl 0 rfl) ?_
            refine lv_imul hx hb dX3_know_46 ?_
            refine lv_ishr hx hb dX3_know_47 ?_
            refine lv_bipush (v := 15) hx hb dX3_know_48 rfl ?_
            refine lv_iand hx hb dX3_know_50 ?_
            refine w_topi (y := entF row k) (rfl) ?_
            refine lv_iload_n hx hb dX3_know_51 rfl (lv_at hl 6 rfl) ?_
            refine lv_icmp_ne (tgt := 60) hx hb dX3_know_52 rfl (fun h52 => ?_) (fun h52 => ?_)
            · have h52 : ¬ ((entF row k) = c_) := h52
              refine lv_iload hx hb dX3_know_60 (lv_at hl 1 rfl) ?_
              exact hJ62_62 (knE row c_ k) ls (by rw [if_neg h39, if_neg h52]) (lv_sub hl [0, 1, 2, 3, 4, 5, 6, 7] rfl)
            · have h52 : (entF row k) = c_ := h52
              refine lv_iload hx hb dX3_know_55 (lv_at hl 0 rfl) ?_
              refine lv_goto (tgt := 62) hx hb dX3_know_57 rfl ?_
              exact hJ62_62 (nI k) ls (by rw [if_neg h39, if_pos h52]) (lv_sub hl [0, 1, 2, 3, 4, 5, 6, 7] rfl)
    exact hL30_1 _ 0 0 (-1) ls (Nat.lt_succ_self _) (by omega) rfl (by subst_vars; rw [knE]) (lv_sub hl [0, 1, 2, 3, 4, 5, 6, 7] rfl)
  · have h17 : ¬ (inP ((n_ : Int32).toInt64) 1 6) := b01_0.mp h17
    refine lv_ldc2 (v := (-8999999999999999997)) hx hb hown (hts _ q1378) dX3_know_20 ?_
    exact rm_l (u := (σ, τ)) hQ hx hb hr hlocks hK hP hS (⟨by subst_vars; simp only [knowF, eq_false h17, if_true, if_false, ite_true, ite_false, not_true_eq_false, not_false_eq_true, and_true, true_and, and_false, false_and, or_true, true_or, or_false, false_or, and_self, or_self, eq_self], rfl⟩) dX3_know_23

def rowsN (j : Nat) : Nat := if j = 1 then 6 else if j = 2 then 36 else 216
/-- the row of the number k, the first call the highest figure -/
def rowK (j k : Nat) : Int32 := if j = 1 then nI k else if j = 2 then (nI k / 6) ||| ((nI k - nI k / 6 * 6) <<< ((4 : Int32) &&& 31)) else ((nI k / 36) ||| ((nI k / 6 - nI k / 6 / 6 * 6) <<< ((4 : Int32) &&& 31))) ||| ((nI k - nI k / 6 * 6) <<< ((8 : Int32) &&& 31))
def btI (σ : St) (j : Nat) (best : Int32) (above below : Int64) (k : Nat) : Int32 := if best = -1 then 1 else if mnF σ (rowK j k) j (bbF σ (rowK j k) j) * below ≤ above * allP σ (rowK j k) j then 0 else 1
def btG (σ : St) (j : Nat) : Nat → Int32 × Int32 × Int64 × Int64
  | 0 => (-1, -1, 0, 1)
  | k + 1 => if refF σ (rowK j k) (nI j) = 0 then (if btI σ j (btG σ j k).1 (btG σ j k).2.2.1 (btG σ j k).2.2.2 k = 0 then btG σ j k else (rowK j k, bbF σ (rowK j k) j, mnF σ (rowK j k) j (bbF σ (rowK j k) j), allP σ (rowK j k) j)) else btG σ j k
theorem btG_n (σ : St) (j k : Nat) (h : ¬ refF σ (rowK j k) (nI j) = 0) : btG σ j (k + 1) = btG σ j k := by rw [btG, if_neg h]
theorem btG_1 (σ : St) (j k : Nat) (h : refF σ (rowK j k) (nI j) = 0) : (btG σ j (k + 1)).1 = if btI σ j (btG σ j k).1 (btG σ j k).2.2.1 (btG σ j k).2.2.2 k = 0 then (btG σ j k).1 else rowK j k := by
  rw [btG, if_pos h]
  split <;> rfl
theorem btG_2 (σ : St) (j k : Nat) (h : refF σ (rowK j k) (nI j) = 0) : (btG σ j (k + 1)).2.1 = if btI σ j (btG σ j k).1 (btG σ j k).2.2.1 (btG σ j k).2.2.2 k = 0 then (btG σ j k).2.1 else bbF σ (rowK j k) j := by
  rw [btG, if_pos h]
  split <;> rfl
theorem btG_3 (σ : St) (j k : Nat) (h : refF σ (rowK j k) (nI j) = 0) : (btG σ j (k + 1)).2.2.1 = if btI σ j (btG σ j k).1 (btG σ j k).2.2.1 (btG σ j k).2.2.2 k = 0 then (btG σ j k).2.2.1 else mnF σ (rowK j k) j (bbF σ (rowK j k) j) := by
  rw [btG, if_pos h]
  split <;> rfl
theorem btG_4 (σ : St) (j k : Nat) (h : refF σ (rowK j k) (nI j) = 0) : (btG σ j (k + 1)).2.2.2 = if btI σ j (btG σ j k).1 (btG σ j k).2.2.1 (btG σ j k).2.2.2 k = 0 then (btG σ j k).2.2.2 else allP σ (rowK j k) j := by
  rw [btG, if_pos h]
  split <;> rfl
def bothF (σ : St) (n w : Int32) : Int32 := if inP n.toInt64 1 3 then (if inP w.toInt64 0 1 then (if w = 0 then (btG σ (ix n) (rowsN (ix n))).1 else (btG σ (ix n) (rowsN (ix n))).2.1) else -3) else -3

def rmX3_both : Room := { frames := 5, cells := 0, slots := 0, locals := 134 }
set_option maxHeartbeats 1000000 in
theorem mt_X3_both (l : Launch) (D : va_G) (dA : Nat → ClassId) (h : Nat) (ad : Nat → Nat) (σ : St) (τ : Sc) (hmD : mD h ad) (n_ : Int32) (w : Int32) (hI : Inv σ) : Met l yX3_both (ws_ yX3_both cX3_both 16 (some .int)) rmX3_both (va_Pc [.ref h, .int n_, .int w] (mB D dA h ad σ τ)) (va_Qi (fun r (u : MS) => r = bothF σ n_ w ∧ u.1 = σ) (fun u t => mB D dA h ad u.1 u.2 t) (mA h ad)) 0 0 (mA h ad) := by
  refine w_start (by decide) (Nat.le_of_ble_eq_true rfl) ?_
  intro p e s m args below meth c Q ls hQ hx hb hr hlocks hml hown hnm hts hB hl
  have hown : s.vm.findClass RX3 = some m.cls := hown
  have hl : lv_has ls 16 [(0, .ref h), (1, .int n_), (2, .int w)] := hl
  obtain ⟨hP, hK⟩ := hB
  have hP : va_P D vwCl (mX dA h ad σ.txt σ.len σ.wt σ.pr σ.tools σ.load σ.purse σ.beg σ.ways σ.told σ.calls σ.sm σ.sorts σ.visits σ.vm τ.read τ.rm τ.at_ τ.place τ.end_ τ.ents τ.em τ.combos τ.all_ τ.weight τ.gain τ.ad_ τ.minute τ.ds τ.bl τ.chosen) s.heap := hP
  have hS : va_S (mA h ad) s.heap s.heap [] := va_S.rf
  refine lv_iload_n hx hb dX3_both_0 rfl (lv_at hl 1 rfl) ?_
  refine lv_i2l (v := (n_ : Int32).toInt64) hx hb dX3_both_1 rfl ?_
  refine lv_lconst (v := 1) hx hb dX3_both_2 rfl ?_
  refine lv_ldc2 (v := 3) hx hb hown (hts _ q1312) dX3_both_3 ?_
  refine cSi (As := [.long ((n_ : Int32).toInt64), .long 1, .long 3]) (rest := []) ⟨hx, hb, hml, hown, hts⟩ (mt_X3_in l ((n_ : Int32).toInt64) 1 3) (cw_X3_X3_in hts ⟨Nat.le_of_ble_eq_true rfl, Nat.le_of_ble_eq_true rfl⟩) w_blT (fun _ _ _ => trivial) rfl hl.1 rfl (Nat.le_of_ble_eq_true rfl) dX3_both_6 ⟨Nat.le_of_ble_eq_true rfl, Nat.le_of_ble_eq_true rfl⟩ ?_
  refine lv_if_eq (tgt := 22) hx hb dX3_both_9 rfl (fun h9 => ?_) (fun h9 => ?_)
  · have h9 : ¬ (inP ((n_ : Int32).toInt64) 1 3) := b01_0.mp h9
    refine lv_bipush (v := (-3)) hx hb dX3_both_22 rfl ?_
    exact rm_i (u := (σ, τ)) hQ hx hb hr hlocks hK hP hS (⟨by subst_vars; simp only [bothF, eq_false h9, if_true, if_false, ite_true, ite_false, not_true_eq_false, not_false_eq_true, and_true, true_and, and_false, false_and, or_true, true_or, or_false, false_or, and_self, or_self, eq_self], rfl⟩) dX3_both_24
  · have h9 : inP ((n_ : Int32).toInt64) 1 3 := b01_n h9
    obtain ⟨j, hj1, hj, rfl⟩ := in13 h9
    have hix : ix (nI j) = j := ix_nI (N := 4) (by omega) (by decide)
    refine lv_iload_n hx hb dX3_both_12 rfl (lv_at hl 2 rfl) ?_
    refine lv_i2l (v := (w : Int32).toInt64) hx hb dX3_both_13 rfl ?_
    refine lv_lconst (v := 0) hx hb dX3_both_14 rfl ?_
    refine lv_lconst (v := 1) hx hb dX3_both_15 rfl ?_
    refine cSi (As := [.long ((w : Int32).toInt64), .long 0, .long 1]) (rest := []) ⟨hx, hb, hml, hown, hts⟩ (mt_X3_in l ((w : Int32).toInt64) 0 1) (cw_X3_X3_in hts ⟨Nat.le_of_ble_eq_true rfl, Nat.le_of_ble_eq_true rfl⟩) w_blT (fun _ _ _ => trivial) rfl hl.1 rfl (Nat.le_of_ble_eq_true rfl) dX3_both_16 ⟨Nat.le_of_ble_eq_true rfl, Nat.le_of_ble_eq_true rfl⟩ ?_
    refine lv_if_ne (tgt := 25) hx hb dX3_both_19 rfl (fun h19 => ?_) (fun h19 => ?_)
    · have h19 : inP ((w : Int32).toInt64) 0 1 := b01_n h19
      refine lv_iconst (v := (-1)) hx hb dX3_both_25 rfl ?_
      refine lv_istore_n (lv' := [(3, .int (-1)), (0, .ref h), (1, .int (nI j)), (2, .int w)]) hx hb dX3_both_26 rfl hl (by decide) rfl (fun ls hl => ?_)
      refine lv_iconst (v := (-1)) hx hb dX3_both_27 rfl ?_
      refine lv_istore (lv' := [(4, .int (-1)), (3, .int (-1)), (0, .ref h), (1, .int (nI j)), (2, .int w)]) hx hb dX3_both_28 hl (by decide) rfl (fun ls hl => ?_)
      refine lv_lconst (v := 0) hx hb dX3_both_30 rfl ?_
      refine lv_lstore (lv' := [(5, .long 0), (4, .int (-1)), (3, .int (-1)), (0, .ref h), (1, .int (nI j)), (2, .int w)]) hx hb dX3_both_31 hl (by decide) rfl (fun ls hl => ?_)
      refine lv_lconst (v := 1) hx hb dX3_both_33 rfl ?_
      refine lv_lstore (lv' := [(7, .long 1), (5, .long 0), (4, .int (-1)), (3, .int (-1)), (0, .ref h), (1, .int (nI j)), (2, .int w)]) hx hb dX3_both_34 hl (by decide) rfl (fun ls hl => ?_)
      refine lv_iload_n hx hb dX3_both_36 rfl (lv_at hl 5 rfl) ?_
      refine lv_iconst (v := 1) hx hb dX3_both_37 rfl ?_
      have hJ59_1 : ∀ (v_2 : Int32) (ls : Array Slot), v_2 = (if j = 1 then 6 else if j = 2 then 36 else 216) → lv_has ls 16 [(7, .long 1), (5, .long 0), (4, .int (-1)), (3, .int (-1)), (0, .ref h), (1, .int (nI j)), (2, .int w)] → W p l e rmX3_both s m args below meth c s.heap [] 0 0 Q (F0 m 59 ls [.int v_2]) := by
        intro v_2 ls ev_2 hl
        have hjs : v_2 = nI (rowsN j) := (by rw [ev_2, rowsN]; by_cases q1 : j = 1 <;> by_cases q2 : j = 2 <;> simp only [q1, q2, if_true, if_false] <;> rfl)
        subst hjs
        refine lv_istore (lv' := [(9, .int (nI (rowsN j))), (7, .long 1), (5, .long 0), (4, .int (-1)), (3, .int (-1)), (0, .ref h), (1, .int (nI j)), (2, .int w)]) hx hb dX3_both_59 hl (by decide) rfl (fun ls hl => ?_)
        have hrw : rowsN j ≤ 216 := by unfold rowsN; split <;> (try split) <;> decide
        refine lv_iconst (v := 0) hx hb dX3_both_61 rfl ?_
        refine lv_istore (lv' := [(10, .int 0), (9, .int (nI (rowsN j))), (7, .long 1), (5, .long 0), (4, .int (-1)), (3, .int (-1)), (0, .ref h), (1, .int (nI j)), (2, .int w)]) hx hb dX3_both_62 hl (by decide) rfl (fun ls hl => ?_)
        have hL64_3 : ∀ (n_4 : Nat) (k : Nat) (wc : Nat → Int32) (ww : Int64) (wg : Int32) (wa : Int32) (wm : Int32) (wd : Int32) (wb : Int32) (we : Nat → Int32) (wx : Int32) (wo : Int32) (wl : Int64) (x10 : Int32) (x7 : Int64) (x5 : Int64) (x4 : Int32) (x3 : Int32) (ls : Array Slot) (H : Heap) (locs : List Loc), (rowsN j - k) < n_4 → (k ≤ rowsN j) → x10 = (nI k) → x7 = ((btG σ j k).2.2.2) → x5 = ((btG σ j k).2.2.1) → x4 = ((btG σ j k).2.1) → x3 = ((btG σ j k).1) → lv_has ls 16 [(10, .int x10), (9, .int (nI (rowsN j))), (7, .long x7), (5, .long x5), (4, .int x4), (3, .int x3), (0, .ref h), (1, .int (nI j)), (2, .int w)] → va_P D vwCl (mX dA h ad σ.txt σ.len σ.wt σ.pr σ.tools σ.load σ.purse σ.beg σ.ways σ.told σ.calls σ.sm σ.sorts σ.visits σ.vm τ.read τ.rm τ.at_ τ.place τ.end_ we wx wo wl ww wg wa wm wd wb wc) H → va_S (mA h ad) s.heap H locs → W p l e rmX3_both s m args below meth c H locs 0 0 Q (F0 m 64 ls []) := by
          intro n_4
          induction n_4 with
          | zero => intro k wc ww wg wa wm wd wb we wx wo wl x10 x7 x5 x4 x3 ls H locs hm_6; exact absurd hm_6 (Nat.not_lt_zero _)
          | succ n_4 ih_5 =>
            intro k wc ww wg wa wm wd wb we wx wo wl x10 x7 x5 x4 x3 ls H locs hm_6 hk ex10 ex7 ex5 ex4 ex3 hl hP hS
            subst ex10 ex7 ex5 ex4 ex3
            refine lv_iload hx hb dX3_both_64 (lv_at hl 0 rfl) ?_
            refine lv_iload hx hb dX3_both_66 (lv_at hl 1 rfl) ?_
            refine lv_icmp_ge (tgt := 252) hx hb dX3_both_68 rfl (fun h68 => ?_) (fun h68 => ?_)
            · have h68 : (rowsN j) ≤ k := (nz_le (a := rowsN j) (b := k) rfl rfl (by omega) (by omega)).mp h68
              have hk_ : k = rowsN j := by omega
              subst hk_
              refine lv_iload_n hx hb dX3_both_252 rfl (lv_at hl 8 rfl) ?_
              refine lv_if_ne (tgt := 260) hx hb dX3_both_253 rfl (fun h253 => ?_) (fun h253 => ?_)
              · have h253 : ¬ (w = 0) := h253
                refine lv_iload hx hb dX3_both_260 (lv_at hl 4 rfl) ?_
                exact rm_i (u := (σ, ((τ.read, τ.rm, τ.at_, τ.place, τ.end_, we, wx, wo, wl, ww, wg, wa, wm, wd, wb, wc) : Sc))) hQ hx hb hr hlocks hK hP hS (⟨by subst_vars; simp only [bothF, eq_true h9, eq_true h19, eq_true h68, eq_false h253, hix, if_true, if_false, ite_true, ite_false, not_true_eq_false, not_false_eq_true, and_true, true_and, and_false, false_and, or_true, true_or, or_false, false_or, and_self, or_self, eq_self], rfl⟩) dX3_both_262
              · have h253 : w = 0 := h253
                refine lv_iload_n hx hb dX3_both_256 rfl (lv_at hl 5 rfl) ?_
                refine lv_goto (tgt := 262) hx hb dX3_both_257 rfl ?_
                exact rm_i (u := (σ, ((τ.read, τ.rm, τ.at_, τ.place, τ.end_, we, wx, wo, wl, ww, wg, wa, wm, wd, wb, wc) : Sc))) hQ hx hb hr hlocks hK hP hS (⟨by subst_vars; simp only [bothF, eq_true h9, eq_true h19, eq_true h68, eq_true h253, hix, if_true, if_false, ite_true, ite_false, not_true_eq_false, not_false_eq_true, and_true, true_and, and_false, false_and, or_true, true_or, or_false, false_or, and_self, or_self, eq_self], rfl⟩) dX3_both_262
            · have h68 : ¬ ((rowsN j) ≤ k) := fun z9 => h68 ((nz_le (a := rowsN j) (b := k) rfl rfl (by omega) (by omega)).mpr z9)
              refine lv_iload_n hx hb dX3_both_71 rfl (lv_at hl 7 rfl) ?_
              refine lv_iconst (v := 1) hx hb dX3_both_72 rfl ?_
              have hJ127_7 : ∀ (v_8 : Int32) (ls : Array Slot), v_8 = (if j = 1 then nI k else if j = 2 then ((nI k) / 6) ||| (((nI k) - (nI k) / 6 * 6) <<< ((4 : Int32) &&& 31)) else (((nI k) / 36) ||| ((((nI k) / 6) - ((nI k) / 6) / 6 * 6) <<< ((4 : Int32) &&& 31))) ||| (((nI k) - (nI k) / 6 * 6) <<< ((8 : Int32) &&& 31))) → lv_has ls 16 [(10, .int (nI k)), (9, .int (nI (rowsN j))), (7, .long ((btG σ j k).2.2.2)), (5, .long ((btG σ j k).2.2.1)), (4, .int ((btG σ j k).2.1)), (3, .int ((btG σ j k).1)), (0, .ref h), (1, .int (nI j)), (2, .int w)] → W p l e rmX3_both s m args below meth c H locs 0 0 Q (F0 m 127 ls [.int v_8]) := by
                intro v_8 ls ev_8 hl
                have hjs : v_8 = rowK j k := ev_8
                subst hjs
                refine lv_istore (lv' := [(11, .int (rowK j k)), (10, .int (nI k)), (9, .int (nI (rowsN j))), (7, .long ((btG σ j k).2.2.2)), (5, .long ((btG σ j k).2.2.1)), (4, .int ((btG σ j k).2.1)), (3, .int ((btG σ j k).1)), (0, .ref h), (1, .int (nI j)), (2, .int w)]) hx hb dX3_both_127 hl (by decide) rfl (fun ls hl => ?_)
                refine lv_aload_n hx hb dX3_both_129 rfl (lv_at hl 7 rfl) ?_
                refine lv_iload hx hb dX3_both_130 (lv_at hl 0 rfl) ?_
                refine lv_iload_n hx hb dX3_both_132 rfl (lv_at hl 8 rfl) ?_
                refine cVi (As := [.int (rowK j k), .int (nI j)]) (rest := []) ⟨hx, hb, hml, hown, hts⟩ (mt_X3_refuses l D dA h ad σ ((τ.read, τ.rm, τ.at_, τ.place, τ.end_, we, wx, wo, wl, ww, wg, wa, wm, wd, wb, wc) : Sc) (rowK j k) (nI j) hI) (cw_X3_X3_refuses hts ⟨Nat.le_of_ble_eq_true rfl, Nat.le_of_ble_eq_true rfl⟩) mB_bl (mB_now hK hP) (va_recv hK hP (ci := 0) (q0 := 0) rfl rfl) rfl hl.1 rfl (Nat.le_of_ble_eq_true rfl) dX3_both_133 ⟨Nat.le_of_ble_eq_true rfl, Nat.le_of_ble_eq_true rfl⟩ ?_
                refine lv_if_ne (tgt := 246) hx hb dX3_both_136 rfl (fun h136 => ?_) (fun h136 => ?_)
                · have h136 : ¬ ((refF σ (rowK j k) (nI j)) = 0) := h136
                  refine lv_iinc (v := nI (k + 1)) (lv' := [(10, .int (nI (k + 1))), (11, .int (rowK j k)), (9, .int (nI (rowsN j))), (7, .long ((btG σ j k).2.2.2)), (5, .long ((btG σ j k).2.2.1)), (4, .int ((btG σ j k).2.1)), (3, .int ((btG σ j k).1)), (0, .ref h), (1, .int (nI j)), (2, .int w)]) hx hb dX3_both_246 hl (k := 1) rfl (nI_1 k) (by decide) rfl (fun ls hl => ?_)
                  refine lv_goto (tgt := 64) hx hb dX3_both_249 rfl ?_
                  exact ih_5 (k + 1) wc ww wg wa wm wd wb we wx wo wl (nI (k + 1)) ((btG σ j k).2.2.2) ((btG σ j k).2.2.1) ((btG σ j k).2.1) ((btG σ j k).1) ls _ _ (by omega) (by omega) rfl (by rw [btG_n σ j k h136]) (by rw [btG_n σ j k h136]) (by rw [btG_n σ j k h136]) (by rw [btG_n σ j k h136]) (lv_sub hl [0, 2, 3, 4, 5, 6, 7, 8, 9] rfl) hP hS
                · have h136 : (refF σ (rowK j k) (nI j)) = 0 := h136
                  obtain ⟨hR, htw⟩ := ref_okJ hj1 (by omega) h136
                  have hcb := com_bd hI hR
                  refine lv_aload_n hx hb dX3_both_139 rfl (lv_at hl 7 rfl) ?_
                  refine lv_iload hx hb dX3_both_140 (lv_at hl 0 rfl) ?_
                  refine lv_iload_n hx hb dX3_both_142 rfl (lv_at hl 8 rfl) ?_
                  refine mcVv (As := [.int (rowK j k), .int (nI j)]) (rest := []) ⟨hx, hb, hml, hown, hts⟩ (mt_X3_layRow l D dA h ad σ ((τ.read, τ.rm, τ.at_, τ.place, τ.end_, we, wx, wo, wl, ww, wg, wa, wm, wd, wb, wc) : Sc) hmD (rowK j k) j hI hR) (cw_X3_X3_layRow hts ⟨Nat.le_of_ble_eq_true rfl, Nat.le_of_ble_eq_true rfl⟩) (mB_now hK hP) (va_recv hK hP (ci := 0) (q0 := 0) rfl rfl) rfl hl.1 rfl (Nat.le_of_ble_eq_true rfl) dX3_both_143 ⟨Nat.le_of_ble_eq_true rfl, Nat.le_of_ble_eq_true rfl⟩ hS (fun u_10 H locs hp_11 hP hS => ?_)
                  subst hp_11
                  have hP : va_P D vwCl (mX dA h ad σ.txt σ.len σ.wt σ.pr σ.tools σ.load σ.purse σ.beg σ.ways σ.told σ.calls σ.sm σ.sorts σ.visits σ.vm τ.read τ.rm τ.at_ τ.place τ.end_ (entU (rowK j k) we j) (nI j) (nI (comN σ (rowK j k) j)) (allP σ (rowK j k) j) ww wg wa wm wd wb wc) H := hP
                  obtain ⟨g_12, eg_12⟩ : ∃ x, x = entU (rowK j k) we j := ⟨_, rfl⟩
                  rw [← eg_12] at hP
                  obtain ⟨g_13, eg_13⟩ : ∃ x, x = nI (comN σ (rowK j k) j) := ⟨_, rfl⟩
                  rw [← eg_13] at hP
                  obtain ⟨g_14, eg_14⟩ : ∃ x, x = allP σ (rowK j k) j := ⟨_, rfl⟩
                  rw [← eg_14] at hP
                  refine lv_aload_n hx hb dX3_both_146 rfl (lv_at hl 7 rfl) ?_
                  refine mcVi (As := []) (rest := []) ⟨hx, hb, hml, hown, hts⟩ (mt_X3_bestBag l D dA h ad σ ((τ.read, τ.rm, τ.at_, τ.place, τ.end_, g_12, nI j, g_13, g_14, ww, wg, wa, wm, wd, wb, wc) : Sc) hmD (rowK j k) j hI hR rfl (fun i hi => by rw [eg_12]; exact entU_at j i hi) eg_13) (cw_X3_X3_bestBag hts ⟨Nat.le_of_ble_eq_true rfl, Nat.le_of_ble_eq_true rfl⟩) (mB_now hK hP) (va_recv hK hP (ci := 0) (q0 := 0) rfl rfl) rfl hl.1 rfl (Nat.le_of_ble_eq_true rfl) dX3_both_147 ⟨Nat.le_of_ble_eq_true rfl, Nat.le_of_ble_eq_true rfl⟩ hS (fun r_15 u_16 H locs hp_17 hP hS => ?_)
                  obtain ⟨rfl, hu_27, k_18, k_19, k_20, k_21, k_22, k_23, k_24, k_25, k_26⟩ := hp_17
                  have hP : va_P D vwCl (mX dA h ad u_16.1.txt u_16.1.len u_16.1.wt u_16.1.pr u_16.1.tools u_16.1.load u_16.1.purse u_16.1.beg u_16.1.ways u_16.1.told u_16.1.calls u_16.1.sm u_16.1.sorts u_16.1.visits u_16.1.vm u_16.2.read u_16.2.rm u_16.2.at_ u_16.2.place u_16.2.end_ u_16.2.ents u_16.2.em u_16.2.combos u_16.2.all_ u_16.2.weight u_16.2.gain u_16.2.ad_ u_16.2.minute u_16.2.ds u_16.2.bl u_16.2.chosen) H := hP
                  rw [hu_27, k_18, k_19, k_20, k_21, k_22, k_23, k_24, k_25, k_26] at hP
                  clear hu_27 k_18 k_19 k_20 k_21 k_22 k_23 k_24 k_25 k_26
                  have hP : va_P D vwCl (mX dA h ad σ.txt σ.len σ.wt σ.pr σ.tools σ.load σ.purse σ.beg σ.ways σ.told σ.calls σ.sm σ.sorts σ.visits σ.vm τ.read τ.rm τ.at_ τ.place τ.end_ g_12 (nI j) g_13 g_14 u_16.2.weight u_16.2.gain u_16.2.ad_ u_16.2.minute u_16.2.ds u_16.2.bl u_16.2.chosen) H := hP
                  refine lv_istore (lv' := [(12, .int (bbF σ (rowK j k) j)), (11, .int (rowK j k)), (10, .int (nI k)), (9, .int (nI (rowsN j))), (7, .long ((btG σ j k).2.2.2)), (5, .long ((btG σ j k).2.2.1)), (4, .int ((btG σ j k).2.1)), (3, .int ((btG σ j k).1)), (0, .ref h), (1, .int (nI j)), (2, .int w)]) hx hb dX3_both_150 hl (by decide) rfl (fun ls hl => ?_)
                  refine lv_aload_n hx hb dX3_both_152 rfl (lv_at hl 8 rfl) ?_
                  refine lv_iload hx hb dX3_both_153 (lv_at hl 0 rfl) ?_
                  refine lv_iconst (v := (-1)) hx hb dX3_both_155 rfl ?_
                  refine lv_iconst (v := 0) hx hb dX3_both_156 rfl ?_
                  refine mcVl (As := [.int (bbF σ (rowK j k) j), .int (-1), .int 0]) (rest := []) ⟨hx, hb, hml, hown, hts⟩ (mt_X3_meanOf_A l D dA h ad σ ((τ.read, τ.rm, τ.at_, τ.place, τ.end_, g_12, nI j, g_13, g_14, u_16.2.weight, u_16.2.gain, u_16.2.ad_, u_16.2.minute, u_16.2.ds, u_16.2.bl, u_16.2.chosen) : Sc) hmD (rowK j k) j (bbF σ (rowK j k) j) hI hR rfl (fun i hi => by rw [eg_12]; exact entU_at j i hi) eg_13) (cw_X3_X3_meanOf_A hts ⟨Nat.le_of_ble_eq_true rfl, Nat.le_of_ble_eq_true rfl⟩) (mB_now hK hP) (va_recv hK hP (ci := 0) (q0 := 0) rfl rfl) rfl hl.1 rfl (Nat.le_of_ble_eq_true rfl) dX3_both_157 ⟨Nat.le_of_ble_eq_true rfl, Nat.le_of_ble_eq_true rfl⟩ hS (fun r_28 u_29 H locs hp_30 hP hS => ?_)
                  obtain ⟨rfl, hu_40, k_31, k_32, k_33, k_34, k_35, k_36, k_37, k_38, k_39⟩ := hp_30
                  have hP : va_P D vwCl (mX dA h ad u_29.1.txt u_29.1.len u_29.1.wt u_29.1.pr u_29.1.tools u_29.1.load u_29.1.purse u_29.1.beg u_29.1.ways u_29.1.told u_29.1.calls u_29.1.sm u_29.1.sorts u_29.1.visits u_29.1.vm u_29.2.read u_29.2.rm u_29.2.at_ u_29.2.place u_29.2.end_ u_29.2.ents u_29.2.em u_29.2.combos u_29.2.all_ u_29.2.weight u_29.2.gain u_29.2.ad_ u_29.2.minute u_29.2.ds u_29.2.bl u_29.2.chosen) H := hP
                  rw [hu_40, k_31, k_32, k_33, k_34, k_35, k_36, k_37, k_38, k_39] at hP
                  clear hu_40 k_31 k_32 k_33 k_34 k_35 k_36 k_37 k_38 k_39
                  have hP : va_P D vwCl (mX dA h ad σ.txt σ.len σ.wt σ.pr σ.tools σ.load σ.purse σ.beg σ.ways σ.told σ.calls σ.sm σ.sorts σ.visits σ.vm τ.read τ.rm τ.at_ τ.place τ.end_ g_12 (nI j) g_13 g_14 u_29.2.weight u_29.2.gain u_29.2.ad_ u_29.2.minute u_29.2.ds u_29.2.bl u_29.2.chosen) H := hP
                  refine lv_lstore (lv' := [(13, .long (mnF σ (rowK j k) j (bbF σ (rowK j k) j))), (12, .int (bbF σ (rowK j k) j)), (11, .int (rowK j k)), (10, .int (nI k)), (9, .int (nI (rowsN j))), (7, .long ((btG σ j k).2.2.2)), (5, .long ((btG σ j k).2.2.1)), (4, .int ((btG σ j k).2.1)), (3, .int ((btG σ j k).1)), (0, .ref h), (1, .int (nI j)), (2, .int w)]) hx hb dX3_both_160 hl (by decide) rfl (fun ls hl => ?_)
                  refine lv_iload_n hx hb dX3_both_162 rfl (lv_at hl 8 rfl) ?_
                  refine lv_iconst (v := (-1)) hx hb dX3_both_163 rfl ?_
                  have hJ188_41 : ∀ (v_42 : Int32) (ls : Array Slot), v_42 = (if ((btG σ j k).1) = (-1) then 1 else if ((mnF σ (rowK j k) j (bbF σ (rowK j k) j)) * ((btG σ j k).2.2.2)) ≤ (((btG σ j k).2.2.1) * g_14) then 0 else 1) → lv_has ls 16 [(13, .long (mnF σ (rowK j k) j (bbF σ (rowK j k) j))), (12, .int (bbF σ (rowK j k) j)), (11, .int (rowK j k)), (10, .int (nI k)), (9, .int (nI (rowsN j))), (7, .long ((btG σ j k).2.2.2)), (5, .long ((btG σ j k).2.2.1)), (4, .int ((btG σ j k).2.1)), (3, .int ((btG σ j k).1)), (0, .ref h), (1, .int (nI j)), (2, .int w)] → W p l e rmX3_both s m args below meth c H locs 0 0 Q (F0 m 188 ls [.int v_42]) := by
                    intro v_42 ls ev_42 hl
                    refine lv_istore (lv' := [(15, .int v_42), (13, .long (mnF σ (rowK j k) j (bbF σ (rowK j k) j))), (12, .int (bbF σ (rowK j k) j)), (11, .int (rowK j k)), (10, .int (nI k)), (9, .int (nI (rowsN j))), (7, .long ((btG σ j k).2.2.2)), (5, .long ((btG σ j k).2.2.1)), (4, .int ((btG σ j k).2.1)), (3, .int ((btG σ j k).1)), (0, .ref h), (1, .int (nI j)), (2, .int w)]) hx hb dX3_both_188 hl (by decide) rfl (fun ls hl => ?_)
                    refine lv_iload hx hb dX3_both_190 (lv_at hl 0 rfl) ?_
                    have hJ201_43 : ∀ (v_44 : Int32) (ls : Array Slot), v_44 = (if v_42 = 0 then (btG σ j k).1 else rowK j k) → lv_has ls 16 [(15, .int v_42), (13, .long (mnF σ (rowK j k) j (bbF σ (rowK j k) j))), (12, .int (bbF σ (rowK j k) j)), (11, .int (rowK j k)), (10, .int (nI k)), (9, .int (nI (rowsN j))), (7, .long ((btG σ j k).2.2.2)), (5, .long ((btG σ j k).2.2.1)), (4, .int ((btG σ j k).2.1)), (3, .int ((btG σ j k).1)), (0, .ref h), (1, .int (nI j)), (2, .int w)] → W p l e rmX3_both s m args below meth c H locs 0 0 Q (F0 m 201 ls [.int v_44]) := by
                      intro v_44 ls ev_44 hl
                      refine lv_istore_n (lv' := [(3, .int v_44), (15, .int v_42), (13, .long (mnF σ (rowK j k) j (bbF σ (rowK j k) j))), (12, .int (bbF σ (rowK j k) j)), (11, .int (rowK j k)), (10, .int (nI k)), (9, .int (nI (rowsN j))), (7, .long ((btG σ j k).2.2.2)), (5, .long ((btG σ j k).2.2.1)), (4, .int ((btG σ j k).2.1)), (0, .ref h), (1, .int (nI j)), (2, .int w)]) hx hb dX3_both_201 rfl hl (by decide) rfl (fun ls hl => ?_)
                      refine lv_iload hx hb dX3_both_202 (lv_at hl 1 rfl) ?_
                      have hJ214_45 : ∀ (v_46 : Int32) (ls : Array Slot), v_46 = (if v_42 = 0 then (btG σ j k).2.1 else bbF σ (rowK j k) j) → lv_has ls 16 [(3, .int v_44), (15, .int v_42), (13, .long (mnF σ (rowK j k) j (bbF σ (rowK j k) j))), (12, .int (bbF σ (rowK j k) j)), (11, .int (rowK j k)), (10, .int (nI k)), (9, .int (nI (rowsN j))), (7, .long ((btG σ j k).2.2.2)), (5, .long ((btG σ j k).2.2.1)), (4, .int ((btG σ j k).2.1)), (0, .ref h), (1, .int (nI j)), (2, .int w)] → W p l e rmX3_both s m args below meth c H locs 0 0 Q (F0 m 214 ls [.int v_46]) := by
                        intro v_46 ls ev_46 hl
                        refine lv_istore (lv' := [(4, .int v_46), (3, .int v_44), (15, .int v_42), (13, .long (mnF σ (rowK j k) j (bbF σ (rowK j k) j))), (12, .int (bbF σ (rowK j k) j)), (11, .int (rowK j k)), (10, .int (nI k)), (9, .int (nI (rowsN j))), (7, .long ((btG σ j k).2.2.2)), (5, .long ((btG σ j k).2.2.1)), (0, .ref h), (1, .int (nI j)), (2, .int w)]) hx hb dX3_both_214 hl (by decide) rfl (fun ls hl => ?_)
                        refine lv_iload hx hb dX3_both_216 (lv_at hl 2 rfl) ?_
                        have hJ228_47 : ∀ (v_48 : Int64) (ls : Array Slot), v_48 = (if v_42 = 0 then (btG σ j k).2.2.1 else mnF σ (rowK j k) j (bbF σ (rowK j k) j)) → lv_has ls 16 [(4, .int v_46), (3, .int v_44), (15, .int v_42), (13, .long (mnF σ (rowK j k) j (bbF σ (rowK j k) j))), (12, .int (bbF σ (rowK j k) j)), (11, .int (rowK j k)), (10, .int (nI k)), (9, .int (nI (rowsN j))), (7, .long ((btG σ j k).2.2.2)), (5, .long ((btG σ j k).2.2.1)), (0, .ref h), (1, .int (nI j)), (2, .int w)] → W p l e rmX3_both s m args below meth c H locs 0 0 Q (F0 m 228 ls [.long v_48]) := by
                          intro v_48 ls ev_48 hl
                          refine lv_lstore (lv' := [(5, .long v_48), (4, .int v_46), (3, .int v_44), (15, .int v_42), (13, .long (mnF σ (rowK j k) j (bbF σ (rowK j k) j))), (12, .int (bbF σ (rowK j k) j)), (11, .int (rowK j k)), (10, .int (nI k)), (9, .int (nI (rowsN j))), (7, .long ((btG σ j k).2.2.2)), (0, .ref h), (1, .int (nI j)), (2, .int w)]) hx hb dX3_both_228 hl (by decide) rfl (fun ls hl => ?_)
                          refine lv_iload hx hb dX3_both_230 (lv_at hl 3 rfl) ?_
                          have hJ244_49 : ∀ (v_50 : Int64) (ls : Array Slot), v_50 = (if v_42 = 0 then (btG σ j k).2.2.2 else g_14) → lv_has ls 16 [(5, .long v_48), (4, .int v_46), (3, .int v_44), (15, .int v_42), (13, .long (mnF σ (rowK j k) j (bbF σ (rowK j k) j))), (12, .int (bbF σ (rowK j k) j)), (11, .int (rowK j k)), (10, .int (nI k)), (9, .int (nI (rowsN j))), (7, .long ((btG σ j k).2.2.2)), (0, .ref h), (1, .int (nI j)), (2, .int w)] → W p l e rmX3_both s m args below meth c H locs 0 0 Q (F0 m 244 ls [.long v_50]) := by
                            intro v_50 ls ev_50 hl
                            refine lv_lstore (lv' := [(7, .long v_50), (5, .long v_48), (4, .int v_46), (3, .int v_44), (15, .int v_42), (13, .long (mnF σ (rowK j k) j (bbF σ (rowK j k) j))), (12, .int (bbF σ (rowK j k) j)), (11, .int (rowK j k)), (10, .int (nI k)), (9, .int (nI (rowsN j))), (0, .ref h), (1, .int (nI j)), (2, .int w)]) hx hb dX3_both_244 hl (by decide) rfl (fun ls hl => ?_)
                            refine lv_iinc (v := nI (k + 1)) (lv' := [(10, .int (nI (k + 1))), (7, .long v_50), (5, .long v_48), (4, .int v_46), (3, .int v_44), (15, .int v_42), (13, .long (mnF σ (rowK j k) j (bbF σ (rowK j k) j))), (12, .int (bbF σ (rowK j k) j)), (11, .int (rowK j k)), (9, .int (nI (rowsN j))), (0, .ref h), (1, .int (nI j)), (2, .int w)]) hx hb dX3_both_246 hl (k := 8) rfl (nI_1 k) (by decide) rfl (fun ls hl => ?_)
                            refine lv_goto (tgt := 64) hx hb dX3_both_249 rfl ?_
                            exact ih_5 (k + 1) u_29.2.chosen u_29.2.weight u_29.2.gain u_29.2.ad_ u_29.2.minute u_29.2.ds u_29.2.bl g_12 (nI j) g_13 g_14 (nI (k + 1)) v_50 v_48 v_46 v_44 ls _ _ (by omega) (by omega) rfl (by rw [btG_4 σ j k h136]; subst_vars; rfl) (by rw [btG_3 σ j k h136]; subst_vars; rfl) (by rw [btG_2 σ j k h136]; subst_vars; rfl) (by rw [btG_1 σ j k h136]; subst_vars; rfl) (lv_sub hl [0, 9, 1, 2, 3, 4, 10, 11, 12] rfl) hP hS
                          refine lv_if_eq (tgt := 242) hx hb dX3_both_232 rfl (fun h232 => ?_) (fun h232 => ?_)
                          · have h232 : v_42 = 0 := h232
                            refine lv_lload hx hb dX3_both_242 (lv_at hl 9 rfl) ?_
                            exact hJ244_49 ((btG σ j k).2.2.2) ls (by rw [if_pos h232]) (lv_sub hl [0, 1, 2, 3, 4, 5, 6, 7, 8, 9, 10, 11, 12] rfl)
                          · have h232 : ¬ (v_42 = 0) := h232
                            refine lv_aload_n hx hb dX3_both_235 rfl (lv_at hl 10 rfl) ?_
                            refine va_get (D := D) (ci := 0) (v := .long g_14) (C := RX3) (T := TX3) (N := 31) hx hb hts in_X3 hown hK hP 0 rfl rfl 23 (by decide) (hts _ q1137) (fun _ h9 => h9) rfl dX3_both_236 ?_
                            refine lv_goto (tgt := 244) hx hb dX3_both_239 rfl ?_
                            exact hJ244_49 (g_14) ls (by subst_vars; rw [if_neg h232]) (lv_sub hl [0, 1, 2, 3, 4, 5, 6, 7, 8, 9, 10, 11, 12] rfl)
                        refine lv_if_eq (tgt := 226) hx hb dX3_both_218 rfl (fun h218 => ?_) (fun h218 => ?_)
                        · have h218 : v_42 = 0 := h218
                          refine lv_lload hx hb dX3_both_226 (lv_at hl 9 rfl) ?_
                          exact hJ228_47 ((btG σ j k).2.2.1) ls (by rw [if_pos h218]) (lv_sub hl [0, 1, 2, 3, 4, 5, 6, 7, 8, 9, 10, 11, 12] rfl)
                        · have h218 : ¬ (v_42 = 0) := h218
                          refine lv_lload hx hb dX3_both_221 (lv_at hl 3 rfl) ?_
                          refine lv_goto (tgt := 228) hx hb dX3_both_223 rfl ?_
                          exact hJ228_47 (mnF σ (rowK j k) j (bbF σ (rowK j k) j)) ls (by rw [if_neg h218]) (lv_sub hl [0, 1, 2, 3, 4, 5, 6, 7, 8, 9, 10, 11, 12] rfl)
                      refine lv_if_eq (tgt := 212) hx hb dX3_both_204 rfl (fun h204 => ?_) (fun h204 => ?_)
                      · have h204 : v_42 = 0 := h204
                        refine lv_iload hx hb dX3_both_212 (lv_at hl 9 rfl) ?_
                        exact hJ214_45 ((btG σ j k).2.1) ls (by rw [if_pos h204]) (lv_sub hl [0, 1, 2, 3, 4, 5, 6, 7, 8, 9, 10, 11, 12] rfl)
                      · have h204 : ¬ (v_42 = 0) := h204
                        refine lv_iload hx hb dX3_both_207 (lv_at hl 3 rfl) ?_
                        refine lv_goto (tgt := 214) hx hb dX3_both_209 rfl ?_
                        exact hJ214_45 (bbF σ (rowK j k) j) ls (by rw [if_neg h204]) (lv_sub hl [0, 1, 2, 3, 4, 5, 6, 7, 8, 9, 10, 11, 12] rfl)
                    refine lv_if_eq (tgt := 200) hx hb dX3_both_192 rfl (fun h192 => ?_) (fun h192 => ?_)
                    · have h192 : v_42 = 0 := h192
                      refine lv_iload_n hx hb dX3_both_200 rfl (lv_at hl 9 rfl) ?_
                      exact hJ201_43 ((btG σ j k).1) ls (by rw [if_pos h192]) (lv_sub hl [0, 1, 2, 3, 4, 5, 6, 7, 8, 9, 10, 11, 12] rfl)
                    · have h192 : ¬ (v_42 = 0) := h192
                      refine lv_iload hx hb dX3_both_195 (lv_at hl 3 rfl) ?_
                      refine lv_goto (tgt := 201) hx hb dX3_both_197 rfl ?_
                      exact hJ201_43 (rowK j k) ls (by rw [if_neg h192]) (lv_sub hl [0, 1, 2, 3, 4, 5, 6, 7, 8, 9, 10, 11, 12] rfl)
                  refine lv_icmp_eq (tgt := 183) hx hb dX3_both_164 rfl (fun h164 => ?_) (fun h164 => ?_)
                  · have h164 : ((btG σ j k).1) = (-1) := h164
                    refine lv_iconst (v := 1) hx hb dX3_both_183 rfl ?_
                    refine lv_goto (tgt := 188) hx hb dX3_both_184 rfl ?_
                    exact hJ188_41 (1) ls (by rw [if_pos h164]) (lv_sub hl [0, 1, 2, 3, 4, 5, 6, 7, 8, 9, 10, 11] rfl)
                  · have h164 : ¬ (((btG σ j k).1) = (-1)) := h164
                    refine lv_lload hx hb dX3_both_167 (lv_at hl 0 rfl) ?_
                    refine lv_lload hx hb dX3_both_169 (lv_at hl 5 rfl) ?_
                    refine lv_lmul hx hb dX3_both_171 ?_
                    refine lv_lload hx hb dX3_both_172 (lv_at hl 6 rfl) ?_
                    refine lv_aload_n hx hb dX3_both_174 rfl (lv_at hl 9 rfl) ?_
                    refine va_get (D := D) (ci := 0) (v := .long g_14) (C := RX3) (T := TX3) (N := 31) hx hb hts in_X3 hown hK hP 0 rfl rfl 23 (by decide) (hts _ q1137) (fun _ h9 => h9) rfl dX3_both_175 ?_
                    refine lv_lmul hx hb dX3_both_178 ?_
                    refine W.lcmp hx hb dX3_both_179 ?_
                    refine lv_if_le (tgt := 187) hx hb dX3_both_180 rfl (fun h180 => ?_) (fun h180 => ?_)
                    · have h180 : ((mnF σ (rowK j k) j (bbF σ (rowK j k) j)) * ((btG σ j k).2.2.2)) ≤ (((btG σ j k).2.2.1) * g_14) := (lg_cmp_le ((mnF σ (rowK j k) j (bbF σ (rowK j k) j)) * ((btG σ j k).2.2.2)) (((btG σ j k).2.2.1) * g_14)).mp h180
                      refine lv_iconst (v := 0) hx hb dX3_both_187 rfl ?_
                      exact hJ188_41 (0) ls (by rw [if_neg h164, if_pos h180]) (lv_sub hl [0, 1, 2, 3, 4, 5, 6, 7, 8, 9, 10, 11] rfl)
                    · have h180 : ¬ (((mnF σ (rowK j k) j (bbF σ (rowK j k) j)) * ((btG σ j k).2.2.2)) ≤ (((btG σ j k).2.2.1) * g_14)) := fun z9 => h180 ((lg_cmp_le ((mnF σ (rowK j k) j (bbF σ (rowK j k) j)) * ((btG σ j k).2.2.2)) (((btG σ j k).2.2.1) * g_14)).mpr z9)
                      refine lv_iconst (v := 1) hx hb dX3_both_183 rfl ?_
                      refine lv_goto (tgt := 188) hx hb dX3_both_184 rfl ?_
                      exact hJ188_41 (1) ls (by rw [if_neg h164, if_neg h180]) (lv_sub hl [0, 1, 2, 3, 4, 5, 6, 7, 8, 9, 10, 11] rfl)
              refine lv_icmp_ne (tgt := 81) hx hb dX3_both_73 rfl (fun h73 => ?_) (fun h73 => ?_)
              · have h73 : ¬ (j = 1) := fun z9 => h73 ((nz_eq (a := j) (b := 1) rfl rfl (by omega) (by omega)).mpr z9)
                refine lv_iload_n hx hb dX3_both_81 rfl (lv_at hl 7 rfl) ?_
                refine lv_iconst (v := 2) hx hb dX3_both_82 rfl ?_
                refine lv_icmp_ne (tgt := 102) hx hb dX3_both_83 rfl (fun h83 => ?_) (fun h83 => ?_)
                · have h83 : ¬ (j = 2) := fun z9 => h83 ((nz_eq (a := j) (b := 2) rfl rfl (by omega) (by omega)).mpr z9)
                  refine lv_iload hx hb dX3_both_102 (lv_at hl 0 rfl) ?_
                  refine lv_bipush (v := 36) hx hb dX3_both_104 rfl ?_
                  refine lv_idiv hx hb dX3_both_106 (by decide) ?_
                  refine lv_iload hx hb dX3_both_107 (lv_at hl 0 rfl) ?_
                  refine lv_bipush (v := 6) hx hb dX3_both_109 rfl ?_
                  refine lv_idiv hx hb dX3_both_111 (by decide) ?_
                  refine lv_bipush (v := 6) hx hb dX3_both_112 rfl ?_
                  refine lv_irem hx hb dX3_both_114 (by decide) ?_
                  refine lv_iconst (v := 4) hx hb dX3_both_115 rfl ?_
                  refine lv_ishl hx hb dX3_both_116 ?_
                  refine lv_ior hx hb dX3_both_117 ?_
                  refine lv_iload hx hb dX3_both_118 (lv_at hl 0 rfl) ?_
                  refine lv_bipush (v := 6) hx hb dX3_both_120 rfl ?_
                  refine lv_irem hx hb dX3_both_122 (by decide) ?_
                  refine lv_bipush (v := 8) hx hb dX3_both_123 rfl ?_
                  refine lv_ishl hx hb dX3_both_125 ?_
                  refine lv_ior hx hb dX3_both_126 ?_
                  exact hJ127_7 ((((nI k) / 36) ||| ((((nI k) / 6) - ((nI k) / 6) / 6 * 6) <<< ((4 : Int32) &&& 31))) ||| (((nI k) - (nI k) / 6 * 6) <<< ((8 : Int32) &&& 31))) ls (by rw [if_neg h73, if_neg h83]) (lv_sub hl [0, 1, 2, 3, 4, 5, 6, 7, 8] rfl)
                · have h83 : j = 2 := (nz_eq (a := j) (b := 2) rfl rfl (by omega) (by omega)).mp h83
                  refine lv_iload hx hb dX3_both_86 (lv_at hl 0 rfl) ?_
                  refine lv_bipush (v := 6) hx hb dX3_both_88 rfl ?_
                  refine lv_idiv hx hb dX3_both_90 (by decide) ?_
                  refine lv_iload hx hb dX3_both_91 (lv_at hl 0 rfl) ?_
                  refine lv_bipush (v := 6) hx hb dX3_both_93 rfl ?_
                  refine lv_irem hx hb dX3_both_95 (by decide) ?_
                  refine lv_iconst (v := 4) hx hb dX3_both_96 rfl ?_
                  refine lv_ishl hx hb dX3_both_97 ?_
                  refine lv_ior hx hb dX3_both_98 ?_
                  refine lv_goto (tgt := 127) hx hb dX3_both_99 rfl ?_
                  exact hJ127_7 (((nI k) / 6) ||| (((nI k) - (nI k) / 6 * 6) <<< ((4 : Int32) &&& 31))) ls (by rw [if_neg h73, if_pos h83]) (lv_sub hl [0, 1, 2, 3, 4, 5, 6, 7, 8] rfl)
              · have h73 : j = 1 := (nz_eq (a := j) (b := 1) rfl rfl (by omega) (by omega)).mp h73
                refine lv_iload hx hb dX3_both_76 (lv_at hl 0 rfl) ?_
                refine lv_goto (tgt := 127) hx hb dX3_both_78 rfl ?_
                exact hJ127_7 (nI k) ls (by rw [if_pos h73]) (lv_sub hl [0, 1, 2, 3, 4, 5, 6, 7, 8] rfl)
        exact hL64_3 _ 0 τ.chosen τ.weight τ.gain τ.ad_ τ.minute τ.ds τ.bl τ.ents τ.em τ.combos τ.all_ 0 1 0 (-1) (-1) ls _ _ (Nat.lt_succ_self _) (by omega) rfl (by subst_vars; rfl) (by subst_vars; rfl) (by subst_vars; rfl) (by subst_vars; rfl) (lv_sub hl [0, 1, 2, 3, 4, 5, 6, 7, 8] rfl) hP hS
      refine lv_icmp_ne (tgt := 46) hx hb dX3_both_38 rfl (fun h38 => ?_) (fun h38 => ?_)
      · have h38 : ¬ (j = 1) := fun z9 => h38 ((nz_eq (a := j) (b := 1) rfl rfl (by omega) (by omega)).mpr z9)
        refine lv_iload_n hx hb dX3_both_46 rfl (lv_at hl 5 rfl) ?_
        refine lv_iconst (v := 2) hx hb dX3_both_47 rfl ?_
        refine lv_icmp_ne (tgt := 56) hx hb dX3_both_48 rfl (fun h48 => ?_) (fun h48 => ?_)
        · have h48 : ¬ (j = 2) := fun z9 => h48 ((nz_eq (a := j) (b := 2) rfl rfl (by omega) (by omega)).mpr z9)
          refine lv_sipush (v := 216) hx hb dX3_both_56 rfl ?_
          exact hJ59_1 (216) ls (by rw [if_neg h38, if_neg h48]) (lv_sub hl [0, 1, 2, 3, 4, 5, 6] rfl)
        · have h48 : j = 2 := (nz_eq (a := j) (b := 2) rfl rfl (by omega) (by omega)).mp h48
          refine lv_bipush (v := 36) hx hb dX3_both_51 rfl ?_
          refine lv_goto (tgt := 59) hx hb dX3_both_53 rfl ?_
          exact hJ59_1 (36) ls (by rw [if_neg h38, if_pos h48]) (lv_sub hl [0, 1, 2, 3, 4, 5, 6] rfl)
      · have h38 : j = 1 := (nz_eq (a := j) (b := 1) rfl rfl (by omega) (by omega)).mp h38
        refine lv_bipush (v := 6) hx hb dX3_both_41 rfl ?_
        refine lv_goto (tgt := 59) hx hb dX3_both_43 rfl ?_
        exact hJ59_1 (6) ls (by rw [if_pos h38]) (lv_sub hl [0, 1, 2, 3, 4, 5, 6] rfl)
    · have h19 : ¬ (inP ((w : Int32).toInt64) 0 1) := b01_0.mp h19
      refine lv_bipush (v := (-3)) hx hb dX3_both_22 rfl ?_
      exact rm_i (u := (σ, τ)) hQ hx hb hr hlocks hK hP hS (⟨by subst_vars; simp only [bothF, eq_true h9, eq_false h19, hix, if_true, if_false, ite_true, ite_false, not_true_eq_false, not_false_eq_true, and_true, true_and, and_false, false_and, or_true, true_or, or_false, false_or, and_self, or_self, eq_self], rfl⟩) dX3_both_24
