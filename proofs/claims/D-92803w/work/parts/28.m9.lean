/-! THE MODEL's METHODS 9: end, the best bag, the sure bag -/
set_option maxRecDepth 100000
def bbI (σ : St) (row : Int32) (j : Nat) (best : Int32) (most : Int64) (k : Nat) : Int32 := if best = -1 then 1 else if mnF σ row j (nI k) ≤ most then 0 else 1
/-- the best bag of those below k, and what it brings -/
def bbG (σ : St) (row : Int32) (j : Nat) : Nat → Int32 × Int64
  | 0 => (-1, 0)
  | k + 1 => if mayP σ (nI k) then (if bbI σ row j (bbG σ row j k).1 (bbG σ row j k).2 k = 0 then bbG σ row j k else (nI k, mnF σ row j (nI k))) else bbG σ row j k
theorem bbG_1 (σ : St) (row : Int32) (j k : Nat) : (bbG σ row j (k + 1)).1 = if mayP σ (nI k) then (if bbI σ row j (bbG σ row j k).1 (bbG σ row j k).2 k = 0 then (bbG σ row j k).1 else nI k) else (bbG σ row j k).1 := by
  rw [bbG]
  split
  · split <;> rfl
  · rfl
theorem bbG_2 (σ : St) (row : Int32) (j k : Nat) : (bbG σ row j (k + 1)).2 = if mayP σ (nI k) then (if bbI σ row j (bbG σ row j k).1 (bbG σ row j k).2 k = 0 then (bbG σ row j k).2 else mnF σ row j (nI k)) else (bbG σ row j k).2 := by
  rw [bbG]
  split
  · split <;> rfl
  · rfl
def bbF (σ : St) (row : Int32) (j : Nat) : Int32 := (bbG σ row j 256).1
def bestF (σ : St) (row n : Int32) : Int32 := if refF σ row n = 0 then bbF σ row (ix n) else refF σ row n
def srI (σ : St) (best : Int32) (k : Nat) : Int32 := if mayP σ (nI k) then (if best = -1 then 1 else if wsum σ.wt best 8 ≤ wsum σ.wt (nI k) 8 then 0 else 1) else 0
def srG (σ : St) (row : Int32) (j : Nat) (a b : Int32) : Nat → Int32
  | 0 => -1
  | k + 1 => if srI σ (srG σ row j a b k) k = 0 then srG σ row j a b k else if dnF σ row j (nI k) * b.toInt64 < allP σ row j * a.toInt64 then srG σ row j a b k else nI k
def sureF (σ : St) (row n a b : Int32) : Int32 := if refF σ row n = 0 then (if inP b.toInt64 1 99 then (if inP a.toInt64 0 b.toInt64 then srG σ row (ix n) a b 256 else -3) else -3) else refF σ row n

def rmX3_end : Room := { frames := 5, cells := 0, slots := 0, locals := 117 }
set_option maxHeartbeats 1000000 in
theorem mt_X3_end (l : Launch) (D : va_G) (dA : Nat → ClassId) (h : Nat) (ad : Nat → Nat) (σ : St) (τ : Sc) (hmD : mD h ad) (bag : Int32) (row : Int32) (n_ : Int32) (hI : Inv σ) : Met l yX3_end (ws_ yX3_end cX3_end 7 (some .int)) rmX3_end (va_Pc [.ref h, .int bag, .int row, .int n_] (mB D dA h ad σ τ)) (va_Qi (fun r (u : MS) => r = endF σ bag row n_ ∧ u.1 = σ) (fun u t => mB D dA h ad u.1 u.2 t) (mA h ad)) 0 0 (mA h ad) := by
  refine w_start (by decide) (Nat.le_of_ble_eq_true rfl) ?_
  intro p e s m args below meth c Q ls hQ hx hb hr hlocks hml hown hnm hts hB hl
  have hown : s.vm.findClass RX3 = some m.cls := hown
  have hl : lv_has ls 7 [(0, .ref h), (1, .int bag), (2, .int row), (3, .int n_)] := hl
  obtain ⟨hP, hK⟩ := hB
  have hP : va_P D vwCl (mX dA h ad σ.txt σ.len σ.wt σ.pr σ.tools σ.load σ.purse σ.beg σ.ways σ.told σ.calls σ.sm σ.sorts σ.visits σ.vm τ.read τ.rm τ.at_ τ.place τ.end_ τ.ents τ.em τ.combos τ.all_ τ.weight τ.gain τ.ad_ τ.minute τ.ds τ.bl τ.chosen) s.heap := hP
  have hS : va_S (mA h ad) s.heap s.heap [] := va_S.rf
  refine lv_aload_n hx hb dX3_end_0 rfl (lv_at hl 0 rfl) ?_
  refine lv_iload_n hx hb dX3_end_1 rfl (lv_at hl 1 rfl) ?_
  refine lv_iload_n hx hb dX3_end_2 rfl (lv_at hl 2 rfl) ?_
  refine lv_iload_n hx hb dX3_end_3 rfl (lv_at hl 3 rfl) ?_
  refine cVi (As := [.int bag, .int row, .int n_]) (rest := []) ⟨hx, hb, hml, hown, hts⟩ (mt_X3_refusesBag l D dA h ad σ τ bag row n_ hI) (cw_X3_X3_refusesBag hts ⟨Nat.le_of_ble_eq_true rfl, Nat.le_of_ble_eq_true rfl⟩) mB_bl (mB_now hK hP) (va_recv hK hP (ci := 0) (q0 := 0) rfl rfl) rfl hl.1 rfl (Nat.le_of_ble_eq_true rfl) dX3_end_4 ⟨Nat.le_of_ble_eq_true rfl, Nat.le_of_ble_eq_true rfl⟩ ?_
  refine lv_istore (lv' := [(4, .int (refBF σ bag row n_)), (0, .ref h), (1, .int bag), (2, .int row), (3, .int n_)]) hx hb dX3_end_7 hl (by decide) rfl (fun ls hl => ?_)
  refine lv_iload hx hb dX3_end_9 (lv_at hl 0 rfl) ?_
  refine lv_if_eq (tgt := 17) hx hb dX3_end_11 rfl (fun h11 => ?_) (fun h11 => ?_)
  · have h11 : (refBF σ bag row n_) = 0 := h11
    obtain ⟨j, hj1, hj6, rfl, hR, htw⟩ := ref_ok (refB_ok h11).1
    have hix : ix (nI j) = j := ix_nI (Nat.lt_succ_of_le hj6) (by decide)
    have hcb := com_bd hI hR
    refine lv_aload_n hx hb dX3_end_17 rfl (lv_at hl 1 rfl) ?_
    refine lv_iload_n hx hb dX3_end_18 rfl (lv_at hl 3 rfl) ?_
    refine lv_iload_n hx hb dX3_end_19 rfl (lv_at hl 4 rfl) ?_
    refine mcVv (As := [.int row, .int (nI j)]) (rest := []) ⟨hx, hb, hml, hown, hts⟩ (mt_X3_layRow l D dA h ad σ τ hmD row j hI hR) (cw_X3_X3_layRow hts ⟨Nat.le_of_ble_eq_true rfl, Nat.le_of_ble_eq_true rfl⟩) (mB_now hK hP) (va_recv hK hP (ci := 0) (q0 := 0) rfl rfl) rfl hl.1 rfl (Nat.le_of_ble_eq_true rfl) dX3_end_20 ⟨Nat.le_of_ble_eq_true rfl, Nat.le_of_ble_eq_true rfl⟩ hS (fun u_2 H locs hp_3 hP hS => ?_)
    subst hp_3
    have hP : va_P D vwCl (mX dA h ad σ.txt σ.len σ.wt σ.pr σ.tools σ.load σ.purse σ.beg σ.ways σ.told σ.calls σ.sm σ.sorts σ.visits σ.vm τ.read τ.rm τ.at_ τ.place τ.end_ (entU row τ.ents j) (nI j) (nI (comN σ row j)) (allP σ row j) τ.weight τ.gain τ.ad_ τ.minute τ.ds τ.bl τ.chosen) H := hP
    obtain ⟨g_4, eg_4⟩ : ∃ x, x = entU row τ.ents j := ⟨_, rfl⟩
    rw [← eg_4] at hP
    obtain ⟨g_5, eg_5⟩ : ∃ x, x = nI (comN σ row j) := ⟨_, rfl⟩
    rw [← eg_5] at hP
    obtain ⟨g_6, eg_6⟩ : ∃ x, x = allP σ row j := ⟨_, rfl⟩
    rw [← eg_6] at hP
    refine lv_iconst (v := 0) hx hb dX3_end_23 rfl ?_
    refine lv_istore (lv' := [(5, .int 0), (4, .int (refBF σ bag row (nI j))), (0, .ref h), (1, .int bag), (2, .int row), (3, .int (nI j))]) hx hb dX3_end_24 hl (by decide) rfl (fun ls hl => ?_)
    refine lv_iconst (v := 0) hx hb dX3_end_26 rfl ?_
    refine lv_istore (lv' := [(6, .int 0), (5, .int 0), (4, .int (refBF σ bag row (nI j))), (0, .ref h), (1, .int bag), (2, .int row), (3, .int (nI j))]) hx hb dX3_end_27 hl (by decide) rfl (fun ls hl => ?_)
    have hL29_7 : ∀ (n_8 : Nat) (k : Nat) (wc : Nat → Int32) (ww : Int64) (wg : Int32) (wa : Int32) (wm : Int32) (wd : Int32) (wb : Int32) (x6 : Int32) (x5 : Int32) (ls : Array Slot) (H : Heap) (locs : List Loc), (comN σ row j - k) < n_8 → (k ≤ comN σ row j) → x6 = (nI k) → x5 = (edG σ row j bag k) → lv_has ls 7 [(6, .int x6), (5, .int x5), (4, .int (refBF σ bag row (nI j))), (0, .ref h), (1, .int bag), (2, .int row), (3, .int (nI j))] → va_P D vwCl (mX dA h ad σ.txt σ.len σ.wt σ.pr σ.tools σ.load σ.purse σ.beg σ.ways σ.told σ.calls σ.sm σ.sorts σ.visits σ.vm τ.read τ.rm τ.at_ τ.place τ.end_ g_4 (nI j) g_5 g_6 ww wg wa wm wd wb wc) H → va_S (mA h ad) s.heap H locs → W p l e rmX3_end s m args below meth c H locs 0 0 Q (F0 m 29 ls []) := by
      intro n_8
      induction n_8 with
      | zero => intro k wc ww wg wa wm wd wb x6 x5 ls H locs hm_10; exact absurd hm_10 (Nat.not_lt_zero _)
      | succ n_8 ih_9 =>
        intro k wc ww wg wa wm wd wb x6 x5 ls H locs hm_10 hk ex6 ex5 hl hP hS
        subst ex6 ex5
        refine lv_iload hx hb dX3_end_29 (lv_at hl 0 rfl) ?_
        refine lv_aload_n hx hb dX3_end_31 rfl (lv_at hl 3 rfl) ?_
        refine va_get (D := D) (ci := 0) (v := .int g_5) (C := RX3) (T := TX3) (N := 31) hx hb hts in_X3 hown hK hP 0 rfl rfl 22 (by decide) (hts _ q1136) (fun _ h9 => h9) rfl dX3_end_32 ?_
        refine lv_icmp_ge (tgt := 76) hx hb dX3_end_35 rfl (fun h35 => ?_) (fun h35 => ?_)
        · have h35 : (comN σ row j) ≤ k := (nz_le (a := comN σ row j) (b := k) eg_5 rfl (by omega) (by omega)).mp h35
          have hk_ : k = comN σ row j := by omega
          subst hk_
          refine lv_iload hx hb dX3_end_76 (lv_at hl 1 rfl) ?_
          exact rm_i (u := (σ, ((τ.read, τ.rm, τ.at_, τ.place, τ.end_, g_4, nI j, g_5, g_6, ww, wg, wa, wm, wd, wb, wc) : Sc))) hQ hx hb hr hlocks hK hP hS (⟨by subst_vars; simp only [endF, edF, eq_true h11, eq_true h35, hix, if_true, if_false, ite_true, ite_false, not_true_eq_false, not_false_eq_true, and_true, true_and, and_false, false_and, or_true, true_or, or_false, false_or, and_self, or_self, eq_self], rfl⟩) dX3_end_78
        · have h35 : ¬ ((comN σ row j) ≤ k) := fun z9 => h35 ((nz_le (a := comN σ row j) (b := k) eg_5 rfl (by omega) (by omega)).mpr z9)
          refine lv_aload_n hx hb dX3_end_38 rfl (lv_at hl 3 rfl) ?_
          refine lv_iload hx hb dX3_end_39 (lv_at hl 0 rfl) ?_
          refine mcVv (As := [.int (nI k)]) (rest := []) ⟨hx, hb, hml, hown, hts⟩ (mt_X3_layChosen l D dA h ad σ ((τ.read, τ.rm, τ.at_, τ.place, τ.end_, g_4, nI j, g_5, g_6, ww, wg, wa, wm, wd, wb, wc) : Sc) hmD row j k hI hR rfl (fun i hi => by rw [eg_4]; exact entU_at j i hi) (by omega)) (cw_X3_X3_layChosen hts ⟨Nat.le_of_ble_eq_true rfl, Nat.le_of_ble_eq_true rfl⟩) (mB_now hK hP) (va_recv hK hP (ci := 0) (q0 := 0) rfl rfl) rfl hl.1 rfl (Nat.le_of_ble_eq_true rfl) dX3_end_41 ⟨Nat.le_of_ble_eq_true rfl, Nat.le_of_ble_eq_true rfl⟩ hS (fun u_12 H locs hp_13 hP hS => ?_)
          subst hp_13
          have hP : va_P D vwCl (mX dA h ad σ.txt σ.len σ.wt σ.pr σ.tools σ.load σ.purse σ.beg σ.ways σ.told σ.calls σ.sm σ.sorts σ.visits σ.vm τ.read τ.rm τ.at_ τ.place τ.end_ g_4 (nI j) g_5 g_6 (weiF σ row k j) wg wa wm wd wb (choU σ row k wc j)) H := hP
          obtain ⟨g_14, eg_14⟩ : ∃ x, x = choU σ row k wc j := ⟨_, rfl⟩
          rw [← eg_14] at hP
          obtain ⟨g_15, eg_15⟩ : ∃ x, x = weiF σ row k j := ⟨_, rfl⟩
          rw [← eg_15] at hP
          refine lv_aload_n hx hb dX3_end_44 rfl (lv_at hl 3 rfl) ?_
          refine lv_iload_n hx hb dX3_end_45 rfl (lv_at hl 4 rfl) ?_
          refine lv_iconst (v := (-1)) hx hb dX3_end_46 rfl ?_
          refine mcVv (As := [.int bag, .int (-1)]) (rest := []) ⟨hx, hb, hml, hown, hts⟩ (mt_X3_go_A l D dA h ad σ ((τ.read, τ.rm, τ.at_, τ.place, τ.end_, g_4, nI j, g_5, g_6, g_15, wg, wa, wm, wd, wb, g_14) : Sc) hmD row j (chN σ row k) bag hI hR rfl (fun i hi => by rw [eg_4]; exact entU_at j i hi) (ch_ok hR eg_14)) (cw_X3_X3_go_A hts ⟨Nat.le_of_ble_eq_true rfl, Nat.le_of_ble_eq_true rfl⟩) (mB_now hK hP) (va_recv hK hP (ci := 0) (q0 := 0) rfl rfl) rfl hl.1 rfl (Nat.le_of_ble_eq_true rfl) dX3_end_47 ⟨Nat.le_of_ble_eq_true rfl, Nat.le_of_ble_eq_true rfl⟩ hS (fun u_17 H locs hp_18 hP hS => ?_)
          subst hp_18
          have hP : va_P D vwCl (mX dA h ad σ.txt σ.len σ.wt σ.pr σ.tools σ.load σ.purse σ.beg σ.ways σ.told σ.calls σ.sm σ.sorts σ.visits σ.vm τ.read τ.rm τ.at_ τ.place τ.end_ g_4 (nI j) g_5 g_6 g_15 ((goR σ row (chN σ row k) bag j).2.2.2.1) ((goR σ row (chN σ row k) bag j).2.2.2.2.2) ((goR σ row (chN σ row k) bag j).2.1) ((goR σ row (chN σ row k) bag j).2.2.2.2.1) ((goR σ row (chN σ row k) bag j).2.2.1) g_14) H := hP
          obtain ⟨g_19, eg_19⟩ : ∃ x, x = (goR σ row (chN σ row k) bag j).2.1 := ⟨_, rfl⟩
          rw [← eg_19] at hP
          obtain ⟨g_20, eg_20⟩ : ∃ x, x = (goR σ row (chN σ row k) bag j).2.2.1 := ⟨_, rfl⟩
          rw [← eg_20] at hP
          obtain ⟨g_21, eg_21⟩ : ∃ x, x = (goR σ row (chN σ row k) bag j).2.2.2.1 := ⟨_, rfl⟩
          rw [← eg_21] at hP
          obtain ⟨g_22, eg_22⟩ : ∃ x, x = (goR σ row (chN σ row k) bag j).2.2.2.2.1 := ⟨_, rfl⟩
          rw [← eg_22] at hP
          obtain ⟨g_23, eg_23⟩ : ∃ x, x = (goR σ row (chN σ row k) bag j).2.2.2.2.2 := ⟨_, rfl⟩
          rw [← eg_23] at hP
          refine lv_aload_n hx hb dX3_end_50 rfl (lv_at hl 3 rfl) ?_
          refine va_get (D := D) (ci := 0) (v := .int g_19) (C := RX3) (T := TX3) (N := 31) hx hb hts in_X3 hown hK hP 0 rfl rfl 27 (by decide) (hts _ q1141) (fun _ h9 => h9) rfl dX3_end_51 ?_
          refine lv_iload hx hb dX3_end_54 (lv_at hl 1 rfl) ?_
          have hJ68_24 : ∀ (v_25 : Int32) (ls : Array Slot), v_25 = (if g_19 ≤ (edG σ row j bag k) then edG σ row j bag k else g_19) → lv_has ls 7 [(6, .int (nI k)), (5, .int (edG σ row j bag k)), (4, .int (refBF σ bag row (nI j))), (0, .ref h), (1, .int bag), (2, .int row), (3, .int (nI j))] → W p l e rmX3_end s m args below meth c H locs 0 0 Q (F0 m 68 ls [.int v_25]) := by
            intro v_25 ls ev_25 hl
            refine lv_istore (lv' := [(5, .int v_25), (6, .int (nI k)), (4, .int (refBF σ bag row (nI j))), (0, .ref h), (1, .int bag), (2, .int row), (3, .int (nI j))]) hx hb dX3_end_68 hl (by decide) rfl (fun ls hl => ?_)
            refine lv_iinc (v := nI (k + 1)) (lv' := [(6, .int (nI (k + 1))), (5, .int v_25), (4, .int (refBF σ bag row (nI j))), (0, .ref h), (1, .int bag), (2, .int row), (3, .int (nI j))]) hx hb dX3_end_70 hl (k := 1) rfl (nI_1 k) (by decide) rfl (fun ls hl => ?_)
            refine lv_goto (tgt := 29) hx hb dX3_end_73 rfl ?_
            exact ih_9 (k + 1) g_14 g_15 g_21 g_23 g_19 g_22 g_20 (nI (k + 1)) v_25 ls _ _ (by omega) (by omega) rfl (by subst_vars; rw [edG]) (lv_sub hl [0, 1, 2, 3, 4, 5, 6] rfl) hP hS
          refine lv_icmp_le (tgt := 66) hx hb dX3_end_56 rfl (fun h56 => ?_) (fun h56 => ?_)
          · have h56 : g_19 ≤ (edG σ row j bag k) := h56
            refine lv_iload hx hb dX3_end_66 (lv_at hl 1 rfl) ?_
            exact hJ68_24 (edG σ row j bag k) ls (by rw [if_pos h56]) (lv_sub hl [0, 1, 2, 3, 4, 5, 6] rfl)
          · have h56 : ¬ (g_19 ≤ (edG σ row j bag k)) := h56
            refine lv_aload_n hx hb dX3_end_59 rfl (lv_at hl 3 rfl) ?_
            refine va_get (D := D) (ci := 0) (v := .int g_19) (C := RX3) (T := TX3) (N := 31) hx hb hts in_X3 hown hK hP 0 rfl rfl 27 (by decide) (hts _ q1141) (fun _ h9 => h9) rfl dX3_end_60 ?_
            refine lv_goto (tgt := 68) hx hb dX3_end_63 rfl ?_
            exact hJ68_24 (g_19) ls (by subst_vars; rw [if_neg h56]) (lv_sub hl [0, 1, 2, 3, 4, 5, 6] rfl)
    exact hL29_7 _ 0 τ.chosen τ.weight τ.gain τ.ad_ τ.minute τ.ds τ.bl 0 0 ls _ _ (Nat.lt_succ_self _) (by omega) rfl (by subst_vars; rw [edG]) (lv_sub hl [0, 1, 2, 3, 4, 5, 6] rfl) hP hS
  · have h11 : ¬ ((refBF σ bag row n_) = 0) := h11
    refine lv_iload hx hb dX3_end_14 (lv_at hl 0 rfl) ?_
    exact rm_i (u := (σ, τ)) hQ hx hb hr hlocks hK hP hS (⟨by subst_vars; simp only [endF, edF, eq_false h11, if_true, if_false, ite_true, ite_false, not_true_eq_false, not_false_eq_true, and_true, true_and, and_false, false_and, or_true, true_or, or_false, false_or, and_self, or_self, eq_self], rfl⟩) dX3_end_16

def rmX3_bestBag : Room := { frames := 4, cells := 0, slots := 0, locals := 107 }
set_option maxHeartbeats 1000000 in
theorem mt_X3_bestBag (l : Launch) (D : va_G) (dA : Nat → ClassId) (h : Nat) (ad : Nat → Nat) (σ : St) (τ : Sc) (hmD : mD h ad) (row : Int32) (j : Nat) (hI : Inv σ) (hR : okR σ row j) (hem : τ.em = nI j) (he : ∀ i, i < j → τ.ents i = nI (en row i)) (hco : τ.combos = nI (comN σ row j)) : Met l yX3_bestBag (ws_ yX3_bestBag cX3_bestBag 8 (some .int)) rmX3_bestBag (va_Pc [.ref h] (mB D dA h ad σ τ)) (va_Qi (fun r (u : MS) => r = bbF σ row j ∧ u.1 = σ ∧ u.2.read = τ.read ∧ u.2.rm = τ.rm ∧ u.2.at_ = τ.at_ ∧ u.2.place = τ.place ∧ u.2.end_ = τ.end_ ∧ u.2.ents = τ.ents ∧ u.2.em = τ.em ∧ u.2.combos = τ.combos ∧ u.2.all_ = τ.all_) (fun u t => mB D dA h ad u.1 u.2 t) (mA h ad)) 0 0 (mA h ad) := by
  refine w_start (by decide) (Nat.le_of_ble_eq_true rfl) ?_
  intro p e s m args below meth c Q ls hQ hx hb hr hlocks hml hown hnm hts hB hl
  have hown : s.vm.findClass RX3 = some m.cls := hown
  have hl : lv_has ls 8 [(0, .ref h)] := hl
  obtain ⟨hP, hK⟩ := hB
  have hP : va_P D vwCl (mX dA h ad σ.txt σ.len σ.wt σ.pr σ.tools σ.load σ.purse σ.beg σ.ways σ.told σ.calls σ.sm σ.sorts σ.visits σ.vm τ.read τ.rm τ.at_ τ.place τ.end_ τ.ents τ.em τ.combos τ.all_ τ.weight τ.gain τ.ad_ τ.minute τ.ds τ.bl τ.chosen) s.heap := hP
  have hS : va_S (mA h ad) s.heap s.heap [] := va_S.rf
  refine lv_iconst (v := (-1)) hx hb dX3_bestBag_0 rfl ?_
  refine lv_istore_n (lv' := [(1, .int (-1)), (0, .ref h)]) hx hb dX3_bestBag_1 rfl hl (by decide) rfl (fun ls hl => ?_)
  refine lv_lconst (v := 0) hx hb dX3_bestBag_2 rfl ?_
  refine lv_lstore_n (lv' := [(2, .long 0), (1, .int (-1)), (0, .ref h)]) hx hb dX3_bestBag_3 rfl hl (by decide) rfl (fun ls hl => ?_)
  refine lv_iconst (v := 0) hx hb dX3_bestBag_4 rfl ?_
  refine lv_istore (lv' := [(4, .int 0), (2, .long 0), (1, .int (-1)), (0, .ref h)]) hx hb dX3_bestBag_5 hl (by decide) rfl (fun ls hl => ?_)
  have hL7_1 : ∀ (n_2 : Nat) (k : Nat) (wc : Nat → Int32) (ww : Int64) (wg : Int32) (wa : Int32) (wm : Int32) (wd : Int32) (wb : Int32) (x4 : Int32) (x2 : Int64) (x1 : Int32) (ls : Array Slot) (H : Heap) (locs : List Loc), (256 - k) < n_2 → (k ≤ 256) → x4 = (nI k) → x2 = ((bbG σ row j k).2) → x1 = ((bbG σ row j k).1) → lv_has ls 8 [(4, .int x4), (2, .long x2), (1, .int x1), (0, .ref h)] → va_P D vwCl (mX dA h ad σ.txt σ.len σ.wt σ.pr σ.tools σ.load σ.purse σ.beg σ.ways σ.told σ.calls σ.sm σ.sorts σ.visits σ.vm τ.read τ.rm τ.at_ τ.place τ.end_ τ.ents τ.em τ.combos τ.all_ ww wg wa wm wd wb wc) H → va_S (mA h ad) s.heap H locs → W p l e rmX3_bestBag s m args below meth c H locs 0 0 Q (F0 m 7 ls []) := by
    intro n_2
    induction n_2 with
    | zero => intro k wc ww wg wa wm wd wb x4 x2 x1 ls H locs hm_4; exact absurd hm_4 (Nat.not_lt_zero _)
    | succ n_2 ih_3 =>
      intro k wc ww wg wa wm wd wb x4 x2 x1 ls H locs hm_4 hk ex4 ex2 ex1 hl hP hS
      subst ex4 ex2 ex1
      refine lv_iload hx hb dX3_bestBag_7 (lv_at hl 0 rfl) ?_
      refine lv_sipush (v := 256) hx hb dX3_bestBag_9 rfl ?_
      refine lv_icmp_ge (tgt := 83) hx hb dX3_bestBag_12 rfl (fun h12 => ?_) (fun h12 => ?_)
      · have h12 : 256 ≤ k := (nz_le (a := 256) (b := k) rfl rfl (by omega) (by omega)).mp h12
        have hk_ : k = 256 := by omega
        subst hk_
        refine lv_iload_n hx hb dX3_bestBag_83 rfl (lv_at hl 2 rfl) ?_
        exact rm_i (u := (σ, ((τ.read, τ.rm, τ.at_, τ.place, τ.end_, τ.ents, τ.em, τ.combos, τ.all_, ww, wg, wa, wm, wd, wb, wc) : Sc))) hQ hx hb hr hlocks hK hP hS (⟨rfl, rfl, rfl, rfl, rfl, rfl, rfl, rfl, rfl, rfl, rfl⟩) dX3_bestBag_84
      · have h12 : ¬ (256 ≤ k) := fun z9 => h12 ((nz_le (a := 256) (b := k) rfl rfl (by omega) (by omega)).mpr z9)
        refine lv_aload_n hx hb dX3_bestBag_15 rfl (lv_at hl 3 rfl) ?_
        refine lv_iload hx hb dX3_bestBag_16 (lv_at hl 0 rfl) ?_
        refine cVi (As := [.int (nI k)]) (rest := []) ⟨hx, hb, hml, hown, hts⟩ (mt_X3_mayBe l D dA h ad σ ((τ.read, τ.rm, τ.at_, τ.place, τ.end_, τ.ents, τ.em, τ.combos, τ.all_, ww, wg, wa, wm, wd, wb, wc) : Sc) (nI k)) (cw_X3_X3_mayBe hts ⟨Nat.le_of_ble_eq_true rfl, Nat.le_of_ble_eq_true rfl⟩) mB_bl (mB_now hK hP) (va_recv hK hP (ci := 0) (q0 := 0) rfl rfl) rfl hl.1 rfl (Nat.le_of_ble_eq_true rfl) dX3_bestBag_18 ⟨Nat.le_of_ble_eq_true rfl, Nat.le_of_ble_eq_true rfl⟩ ?_
        refine lv_if_eq (tgt := 77) hx hb dX3_bestBag_21 rfl (fun h21 => ?_) (fun h21 => ?_)
        · have h21 : ¬ (mayP σ (nI k)) := b01_0.mp h21
          refine lv_iinc (v := nI (k + 1)) (lv' := [(4, .int (nI (k + 1))), (2, .long ((bbG σ row j k).2)), (1, .int ((bbG σ row j k).1)), (0, .ref h)]) hx hb dX3_bestBag_77 hl (k := 0) rfl (nI_1 k) (by decide) rfl (fun ls hl => ?_)
          refine lv_goto (tgt := 7) hx hb dX3_bestBag_80 rfl ?_
          exact ih_3 (k + 1) wc ww wg wa wm wd wb (nI (k + 1)) ((bbG σ row j k).2) ((bbG σ row j k).1) ls _ _ (by omega) (by omega) rfl (by rw [bbG_2, if_neg h21]) (by rw [bbG_1, if_neg h21]) (lv_sub hl [0, 1, 2, 3] rfl) hP hS
        · have h21 : mayP σ (nI k) := b01_n h21
          refine lv_aload_n hx hb dX3_bestBag_24 rfl (lv_at hl 3 rfl) ?_
          refine lv_iload hx hb dX3_bestBag_25 (lv_at hl 0 rfl) ?_
          refine lv_iconst (v := (-1)) hx hb dX3_bestBag_27 rfl ?_
          refine lv_iconst (v := 0) hx hb dX3_bestBag_28 rfl ?_
          refine mcVl (As := [.int (nI k), .int (-1), .int 0]) (rest := []) ⟨hx, hb, hml, hown, hts⟩ (mt_X3_meanOf_A l D dA h ad σ ((τ.read, τ.rm, τ.at_, τ.place, τ.end_, τ.ents, τ.em, τ.combos, τ.all_, ww, wg, wa, wm, wd, wb, wc) : Sc) hmD row j (nI k) hI hR hem he hco) (cw_X3_X3_meanOf_A hts ⟨Nat.le_of_ble_eq_true rfl, Nat.le_of_ble_eq_true rfl⟩) (mB_now hK hP) (va_recv hK hP (ci := 0) (q0 := 0) rfl rfl) rfl hl.1 rfl (Nat.le_of_ble_eq_true rfl) dX3_bestBag_29 ⟨Nat.le_of_ble_eq_true rfl, Nat.le_of_ble_eq_true rfl⟩ hS (fun r_5 u_6 H locs hp_7 hP hS => ?_)
          obtain ⟨rfl, hu_17, k_8, k_9, k_10, k_11, k_12, k_13, k_14, k_15, k_16⟩ := hp_7
          have hP : va_P D vwCl (mX dA h ad u_6.1.txt u_6.1.len u_6.1.wt u_6.1.pr u_6.1.tools u_6.1.load u_6.1.purse u_6.1.beg u_6.1.ways u_6.1.told u_6.1.calls u_6.1.sm u_6.1.sorts u_6.1.visits u_6.1.vm u_6.2.read u_6.2.rm u_6.2.at_ u_6.2.place u_6.2.end_ u_6.2.ents u_6.2.em u_6.2.combos u_6.2.all_ u_6.2.weight u_6.2.gain u_6.2.ad_ u_6.2.minute u_6.2.ds u_6.2.bl u_6.2.chosen) H := hP
          rw [hu_17, k_8, k_9, k_10, k_11, k_12, k_13, k_14, k_15, k_16] at hP
          clear hu_17 k_8 k_9 k_10 k_11 k_12 k_13 k_14 k_15 k_16
          have hP : va_P D vwCl (mX dA h ad σ.txt σ.len σ.wt σ.pr σ.tools σ.load σ.purse σ.beg σ.ways σ.told σ.calls σ.sm σ.sorts σ.visits σ.vm τ.read τ.rm τ.at_ τ.place τ.end_ τ.ents τ.em τ.combos τ.all_ u_6.2.weight u_6.2.gain u_6.2.ad_ u_6.2.minute u_6.2.ds u_6.2.bl u_6.2.chosen) H := hP
          refine lv_lstore (lv' := [(5, .long (mnF σ row j (nI k))), (4, .int (nI k)), (2, .long ((bbG σ row j k).2)), (1, .int ((bbG σ row j k).1)), (0, .ref h)]) hx hb dX3_bestBag_32 hl (by decide) rfl (fun ls hl => ?_)
          refine lv_iload_n hx hb dX3_bestBag_34 rfl (lv_at hl 3 rfl) ?_
          refine lv_iconst (v := (-1)) hx hb dX3_bestBag_35 rfl ?_
          have hJ51_18 : ∀ (v_19 : Int32) (ls : Array Slot), v_19 = (if ((bbG σ row j k).1) = (-1) then 1 else if (mnF σ row j (nI k)) ≤ ((bbG σ row j k).2) then 0 else 1) → lv_has ls 8 [(5, .long (mnF σ row j (nI k))), (4, .int (nI k)), (2, .long ((bbG σ row j k).2)), (1, .int ((bbG σ row j k).1)), (0, .ref h)] → W p l e rmX3_bestBag s m args below meth c H locs 0 0 Q (F0 m 51 ls [.int v_19]) := by
            intro v_19 ls ev_19 hl
            refine lv_istore (lv' := [(7, .int v_19), (5, .long (mnF σ row j (nI k))), (4, .int (nI k)), (2, .long ((bbG σ row j k).2)), (1, .int ((bbG σ row j k).1)), (0, .ref h)]) hx hb dX3_bestBag_51 hl (by decide) rfl (fun ls hl => ?_)
            refine lv_iload hx hb dX3_bestBag_53 (lv_at hl 0 rfl) ?_
            have hJ64_20 : ∀ (v_21 : Int32) (ls : Array Slot), v_21 = (if v_19 = 0 then (bbG σ row j k).1 else nI k) → lv_has ls 8 [(7, .int v_19), (5, .long (mnF σ row j (nI k))), (4, .int (nI k)), (2, .long ((bbG σ row j k).2)), (1, .int ((bbG σ row j k).1)), (0, .ref h)] → W p l e rmX3_bestBag s m args below meth c H locs 0 0 Q (F0 m 64 ls [.int v_21]) := by
              intro v_21 ls ev_21 hl
              refine lv_istore_n (lv' := [(1, .int v_21), (7, .int v_19), (5, .long (mnF σ row j (nI k))), (4, .int (nI k)), (2, .long ((bbG σ row j k).2)), (0, .ref h)]) hx hb dX3_bestBag_64 rfl hl (by decide) rfl (fun ls hl => ?_)
              refine lv_iload hx hb dX3_bestBag_65 (lv_at hl 1 rfl) ?_
              have hJ76_22 : ∀ (v_23 : Int64) (ls : Array Slot), v_23 = (if v_19 = 0 then (bbG σ row j k).2 else mnF σ row j (nI k)) → lv_has ls 8 [(1, .int v_21), (7, .int v_19), (5, .long (mnF σ row j (nI k))), (4, .int (nI k)), (2, .long ((bbG σ row j k).2)), (0, .ref h)] → W p l e rmX3_bestBag s m args below meth c H locs 0 0 Q (F0 m 76 ls [.long v_23]) := by
                intro v_23 ls ev_23 hl
                refine lv_lstore_n (lv' := [(2, .long v_23), (1, .int v_21), (7, .int v_19), (5, .long (mnF σ row j (nI k))), (4, .int (nI k)), (0, .ref h)]) hx hb dX3_bestBag_76 rfl hl (by decide) rfl (fun ls hl => ?_)
                refine lv_iinc (v := nI (k + 1)) (lv' := [(4, .int (nI (k + 1))), (2, .long v_23), (1, .int v_21), (7, .int v_19), (5, .long (mnF σ row j (nI k))), (0, .ref h)]) hx hb dX3_bestBag_77 hl (k := 4) rfl (nI_1 k) (by decide) rfl (fun ls hl => ?_)
                refine lv_goto (tgt := 7) hx hb dX3_bestBag_80 rfl ?_
                exact ih_3 (k + 1) u_6.2.chosen u_6.2.weight u_6.2.gain u_6.2.ad_ u_6.2.minute u_6.2.ds u_6.2.bl (nI (k + 1)) v_23 v_21 ls _ _ (by omega) (by omega) rfl (by rw [bbG_2, if_pos h21]; subst_vars; rfl) (by rw [bbG_1, if_pos h21]; subst_vars; rfl) (lv_sub hl [0, 1, 2, 5] rfl) hP hS
              refine lv_if_eq (tgt := 75) hx hb dX3_bestBag_67 rfl (fun h67 => ?_) (fun h67 => ?_)
              · have h67 : v_19 = 0 := h67
                refine lv_lload_n hx hb dX3_bestBag_75 rfl (lv_at hl 4 rfl) ?_
                exact hJ76_22 ((bbG σ row j k).2) ls (by rw [if_pos h67]) (lv_sub hl [0, 1, 2, 3, 4, 5] rfl)
              · have h67 : ¬ (v_19 = 0) := h67
                refine lv_lload hx hb dX3_bestBag_70 (lv_at hl 2 rfl) ?_
                refine lv_goto (tgt := 76) hx hb dX3_bestBag_72 rfl ?_
                exact hJ76_22 (mnF σ row j (nI k)) ls (by rw [if_neg h67]) (lv_sub hl [0, 1, 2, 3, 4, 5] rfl)
            refine lv_if_eq (tgt := 63) hx hb dX3_bestBag_55 rfl (fun h55 => ?_) (fun h55 => ?_)
            · have h55 : v_19 = 0 := h55
              refine lv_iload_n hx hb dX3_bestBag_63 rfl (lv_at hl 4 rfl) ?_
              exact hJ64_20 ((bbG σ row j k).1) ls (by rw [if_pos h55]) (lv_sub hl [0, 1, 2, 3, 4, 5] rfl)
            · have h55 : ¬ (v_19 = 0) := h55
              refine lv_iload hx hb dX3_bestBag_58 (lv_at hl 2 rfl) ?_
              refine lv_goto (tgt := 64) hx hb dX3_bestBag_60 rfl ?_
              exact hJ64_20 (nI k) ls (by rw [if_neg h55]) (lv_sub hl [0, 1, 2, 3, 4, 5] rfl)
          refine lv_icmp_eq (tgt := 46) hx hb dX3_bestBag_36 rfl (fun h36 => ?_) (fun h36 => ?_)
          · have h36 : ((bbG σ row j k).1) = (-1) := h36
            refine lv_iconst (v := 1) hx hb dX3_bestBag_46 rfl ?_
            refine lv_goto (tgt := 51) hx hb dX3_bestBag_47 rfl ?_
            exact hJ51_18 (1) ls (by rw [if_pos h36]) (lv_sub hl [0, 1, 2, 3, 4] rfl)
          · have h36 : ¬ (((bbG σ row j k).1) = (-1)) := h36
            refine lv_lload hx hb dX3_bestBag_39 (lv_at hl 0 rfl) ?_
            refine lv_lload_n hx hb dX3_bestBag_41 rfl (lv_at hl 2 rfl) ?_
            refine W.lcmp hx hb dX3_bestBag_42 ?_
            refine lv_if_le (tgt := 50) hx hb dX3_bestBag_43 rfl (fun h43 => ?_) (fun h43 => ?_)
            · have h43 : (mnF σ row j (nI k)) ≤ ((bbG σ row j k).2) := (lg_cmp_le (mnF σ row j (nI k)) ((bbG σ row j k).2)).mp h43
              refine lv_iconst (v := 0) hx hb dX3_bestBag_50 rfl ?_
              exact hJ51_18 (0) ls (by rw [if_neg h36, if_pos h43]) (lv_sub hl [0, 1, 2, 3, 4] rfl)
            · have h43 : ¬ ((mnF σ row j (nI k)) ≤ ((bbG σ row j k).2)) := fun z9 => h43 ((lg_cmp_le (mnF σ row j (nI k)) ((bbG σ row j k).2)).mpr z9)
              refine lv_iconst (v := 1) hx hb dX3_bestBag_46 rfl ?_
              refine lv_goto (tgt := 51) hx hb dX3_bestBag_47 rfl ?_
              exact hJ51_18 (1) ls (by rw [if_neg h36, if_neg h43]) (lv_sub hl [0, 1, 2, 3, 4] rfl)
  exact hL7_1 _ 0 τ.chosen τ.weight τ.gain τ.ad_ τ.minute τ.ds τ.bl 0 0 (-1) ls _ _ (Nat.lt_succ_self _) (by omega) rfl (by subst_vars; rfl) (by subst_vars; rfl) (lv_sub hl [0, 1, 2, 3] rfl) hP hS

theorem cw_X3_X3_bestBag {R : Room} {s : State} {args : Array Value} (hts : ∀ w ∈ lw_all, w.before args s = true) (hR : rmX3_bestBag.frames + 1 ≤ R.frames ∧ 8 + (8 + 11) + rmX3_bestBag.locals ≤ R.locals) : CallW R s args RX3 RX3 256 yX3_bestBag cX3_bestBag 8 (some .int) (ws_ yX3_bestBag cX3_bestBag 8 (some .int)) rmX3_bestBag 0 0 0 := cwV 0 hts (lw_V q1418 q1420 qs60 q83 q1421) rfl rfl rfl (by decide +kernel) hR
def rmX3_best : Room := { frames := 5, cells := 0, slots := 0, locals := 134 }
set_option maxHeartbeats 1000000 in
theorem mt_X3_best (l : Launch) (D : va_G) (dA : Nat → ClassId) (h : Nat) (ad : Nat → Nat) (σ : St) (τ : Sc) (hmD : mD h ad) (row : Int32) (n_ : Int32) (hI : Inv σ) : Met l yX3_best (ws_ yX3_best cX3_best 4 (some .int)) rmX3_best (va_Pc [.ref h, .int row, .int n_] (mB D dA h ad σ τ)) (va_Qi (fun r (u : MS) => r = bestF σ row n_ ∧ u.1 = σ) (fun u t => mB D dA h ad u.1 u.2 t) (mA h ad)) 0 0 (mA h ad) := by
  refine w_start (by decide) (Nat.le_of_ble_eq_true rfl) ?_
  intro p e s m args below meth c Q ls hQ hx hb hr hlocks hml hown hnm hts hB hl
  have hown : s.vm.findClass RX3 = some m.cls := hown
  have hl : lv_has ls 4 [(0, .ref h), (1, .int row), (2, .int n_)] := hl
  obtain ⟨hP, hK⟩ := hB
  have hP : va_P D vwCl (mX dA h ad σ.txt σ.len σ.wt σ.pr σ.tools σ.load σ.purse σ.beg σ.ways σ.told σ.calls σ.sm σ.sorts σ.visits σ.vm τ.read τ.rm τ.at_ τ.place τ.end_ τ.ents τ.em τ.combos τ.all_ τ.weight τ.gain τ.ad_ τ.minute τ.ds τ.bl τ.chosen) s.heap := hP
  have hS : va_S (mA h ad) s.heap s.heap [] := va_S.rf
  refine lv_aload_n hx hb dX3_best_0 rfl (lv_at hl 0 rfl) ?_
  refine lv_iload_n hx hb dX3_best_1 rfl (lv_at hl 1 rfl) ?_
  refine lv_iload_n hx hb dX3_best_2 rfl (lv_at hl 2 rfl) ?_
  refine cVi (As := [.int row, .int n_]) (rest := []) ⟨hx, hb, hml, hown, hts⟩ (mt_X3_refuses l D dA h ad σ τ row n_ hI) (cw_X3_X3_refuses hts ⟨Nat.le_of_ble_eq_true rfl, Nat.le_of_ble_eq_true rfl⟩) mB_bl (mB_now hK hP) (va_recv hK hP (ci := 0) (q0 := 0) rfl rfl) rfl hl.1 rfl (Nat.le_of_ble_eq_true rfl) dX3_best_3 ⟨Nat.le_of_ble_eq_true rfl, Nat.le_of_ble_eq_true rfl⟩ ?_
  refine lv_istore_n (lv' := [(3, .int (refF σ row n_)), (0, .ref h), (1, .int row), (2, .int n_)]) hx hb dX3_best_6 rfl hl (by decide) rfl (fun ls hl => ?_)
  refine lv_iload_n hx hb dX3_best_7 rfl (lv_at hl 0 rfl) ?_
  refine lv_if_eq (tgt := 13) hx hb dX3_best_8 rfl (fun h8 => ?_) (fun h8 => ?_)
  · have h8 : (refF σ row n_) = 0 := h8
    obtain ⟨j, hj1, hj6, rfl, hR, htw⟩ := ref_ok h8
    have hix : ix (nI j) = j := ix_nI (Nat.lt_succ_of_le hj6) (by decide)
    have hcb := com_bd hI hR
    refine lv_aload_n hx hb dX3_best_13 rfl (lv_at hl 1 rfl) ?_
    refine lv_iload_n hx hb dX3_best_14 rfl (lv_at hl 2 rfl) ?_
    refine lv_iload_n hx hb dX3_best_15 rfl (lv_at hl 3 rfl) ?_
    refine mcVv (As := [.int row, .int (nI j)]) (rest := []) ⟨hx, hb, hml, hown, hts⟩ (mt_X3_layRow l D dA h ad σ τ hmD row j hI hR) (cw_X3_X3_layRow hts ⟨Nat.le_of_ble_eq_true rfl, Nat.le_of_ble_eq_true rfl⟩) (mB_now hK hP) (va_recv hK hP (ci := 0) (q0 := 0) rfl rfl) rfl hl.1 rfl (Nat.le_of_ble_eq_true rfl) dX3_best_16 ⟨Nat.le_of_ble_eq_true rfl, Nat.le_of_ble_eq_true rfl⟩ hS (fun u_2 H locs hp_3 hP hS => ?_)
    subst hp_3
    have hP : va_P D vwCl (mX dA h ad σ.txt σ.len σ.wt σ.pr σ.tools σ.load σ.purse σ.beg σ.ways σ.told σ.calls σ.sm σ.sorts σ.visits σ.vm τ.read τ.rm τ.at_ τ.place τ.end_ (entU row τ.ents j) (nI j) (nI (comN σ row j)) (allP σ row j) τ.weight τ.gain τ.ad_ τ.minute τ.ds τ.bl τ.chosen) H := hP
    obtain ⟨g_4, eg_4⟩ : ∃ x, x = entU row τ.ents j := ⟨_, rfl⟩
    rw [← eg_4] at hP
    obtain ⟨g_5, eg_5⟩ : ∃ x, x = nI (comN σ row j) := ⟨_, rfl⟩
    rw [← eg_5] at hP
    obtain ⟨g_6, eg_6⟩ : ∃ x, x = allP σ row j := ⟨_, rfl⟩
    rw [← eg_6] at hP
    refine lv_aload_n hx hb dX3_best_19 rfl (lv_at hl 1 rfl) ?_
    refine mcVi (As := []) (rest := []) ⟨hx, hb, hml, hown, hts⟩ (mt_X3_bestBag l D dA h ad σ ((τ.read, τ.rm, τ.at_, τ.place, τ.end_, g_4, nI j, g_5, g_6, τ.weight, τ.gain, τ.ad_, τ.minute, τ.ds, τ.bl, τ.chosen) : Sc) hmD row j hI hR rfl (fun i hi => by rw [eg_4]; exact entU_at j i hi) eg_5) (cw_X3_X3_bestBag hts ⟨Nat.le_of_ble_eq_true rfl, Nat.le_of_ble_eq_true rfl⟩) (mB_now hK hP) (va_recv hK hP (ci := 0) (q0 := 0) rfl rfl) rfl hl.1 rfl (Nat.le_of_ble_eq_true rfl) dX3_best_20 ⟨Nat.le_of_ble_eq_true rfl, Nat.le_of_ble_eq_true rfl⟩ hS (fun r_7 u_8 H locs hp_9 hP hS => ?_)
    obtain ⟨rfl, hu_19, k_10, k_11, k_12, k_13, k_14, k_15, k_16, k_17, k_18⟩ := hp_9
    have hP : va_P D vwCl (mX dA h ad u_8.1.txt u_8.1.len u_8.1.wt u_8.1.pr u_8.1.tools u_8.1.load u_8.1.purse u_8.1.beg u_8.1.ways u_8.1.told u_8.1.calls u_8.1.sm u_8.1.sorts u_8.1.visits u_8.1.vm u_8.2.read u_8.2.rm u_8.2.at_ u_8.2.place u_8.2.end_ u_8.2.ents u_8.2.em u_8.2.combos u_8.2.all_ u_8.2.weight u_8.2.gain u_8.2.ad_ u_8.2.minute u_8.2.ds u_8.2.bl u_8.2.chosen) H := hP
    rw [hu_19, k_10, k_11, k_12, k_13, k_14, k_15, k_16, k_17, k_18] at hP
    clear hu_19 k_10 k_11 k_12 k_13 k_14 k_15 k_16 k_17 k_18
    have hP : va_P D vwCl (mX dA h ad σ.txt σ.len σ.wt σ.pr σ.tools σ.load σ.purse σ.beg σ.ways σ.told σ.calls σ.sm σ.sorts σ.visits σ.vm τ.read τ.rm τ.at_ τ.place τ.end_ g_4 (nI j) g_5 g_6 u_8.2.weight u_8.2.gain u_8.2.ad_ u_8.2.minute u_8.2.ds u_8.2.bl u_8.2.chosen) H := hP
    exact rm_i (u := (σ, ((τ.read, τ.rm, τ.at_, τ.place, τ.end_, g_4, nI j, g_5, g_6, u_8.2.weight, u_8.2.gain, u_8.2.ad_, u_8.2.minute, u_8.2.ds, u_8.2.bl, u_8.2.chosen) : Sc))) hQ hx hb hr hlocks hK hP hS (⟨by subst_vars; simp only [bestF, eq_true h8, hix, if_true, if_false, ite_true, ite_false, not_true_eq_false, not_false_eq_true, and_true, true_and, and_false, false_and, or_true, true_or, or_false, false_or, and_self, or_self, eq_self], rfl⟩) dX3_best_23
  · have h8 : ¬ ((refF σ row n_) = 0) := h8
    refine lv_iload_n hx hb dX3_best_11 rfl (lv_at hl 0 rfl) ?_
    exact rm_i (u := (σ, τ)) hQ hx hb hr hlocks hK hP hS (⟨by subst_vars; simp only [bestF, eq_false h8, if_true, if_false, ite_true, ite_false, not_true_eq_false, not_false_eq_true, and_true, true_and, and_false, false_and, or_true, true_or, or_false, false_or, and_self, or_self, eq_self], rfl⟩) dX3_best_12

def rmX3_sure : Room := { frames := 4, cells := 0, slots := 0, locals := 105 }
set_option maxHeartbeats 1000000 in
theorem mt_X3_sure (l : Launch) (D : va_G) (dA : Nat → ClassId) (h : Nat) (ad : Nat → Nat) (σ : St) (τ : Sc) (hmD : mD h ad) (row : Int32) (n_ : Int32) (a_ : Int32) (b_ : Int32) (hI : Inv σ) : Met l yX3_sure (ws_ yX3_sure cX3_sure 9 (some .int)) rmX3_sure (va_Pc [.ref h, .int row, .int n_, .int a_, .int b_] (mB D dA h ad σ τ)) (va_Qi (fun r (u : MS) => r = sureF σ row n_ a_ b_ ∧ u.1 = σ) (fun u t => mB D dA h ad u.1 u.2 t) (mA h ad)) 0 0 (mA h ad) := by
  refine w_start (by decide) (Nat.le_of_ble_eq_true rfl) ?_
  intro p e s m args below meth c Q ls hQ hx hb hr hlocks hml hown hnm hts hB hl
  have hown : s.vm.findClass RX3 = some m.cls := hown
  have hl : lv_has ls 9 [(0, .ref h), (1, .int row), (2, .int n_), (3, .int a_), (4, .int b_)] := hl
  obtain ⟨hP, hK⟩ := hB
  have hP : va_P D vwCl (mX dA h ad σ.txt σ.len σ.wt σ.pr σ.tools σ.load σ.purse σ.beg σ.ways σ.told σ.calls σ.sm σ.sorts σ.visits σ.vm τ.read τ.rm τ.at_ τ.place τ.end_ τ.ents τ.em τ.combos τ.all_ τ.weight τ.gain τ.ad_ τ.minute τ.ds τ.bl τ.chosen) s.heap := hP
  have hS : va_S (mA h ad) s.heap s.heap [] := va_S.rf
  refine lv_aload_n hx hb dX3_sure_0 rfl (lv_at hl 0 rfl) ?_
  refine lv_iload_n hx hb dX3_sure_1 rfl (lv_at hl 1 rfl) ?_
  refine lv_iload_n hx hb dX3_sure_2 rfl (lv_at hl 2 rfl) ?_
  refine cVi (As := [.int row, .int n_]) (rest := []) ⟨hx, hb, hml, hown, hts⟩ (mt_X3_refuses l D dA h ad σ τ row n_ hI) (cw_X3_X3_refuses hts ⟨Nat.le_of_ble_eq_true rfl, Nat.le_of_ble_eq_true rfl⟩) mB_bl (mB_now hK hP) (va_recv hK hP (ci := 0) (q0 := 0) rfl rfl) rfl hl.1 rfl (Nat.le_of_ble_eq_true rfl) dX3_sure_3 ⟨Nat.le_of_ble_eq_true rfl, Nat.le_of_ble_eq_true rfl⟩ ?_
  refine lv_istore (lv' := [(5, .int (refF σ row n_)), (0, .ref h), (1, .int row), (2, .int n_), (3, .int a_), (4, .int b_)]) hx hb dX3_sure_6 hl (by decide) rfl (fun ls hl => ?_)
  refine lv_iload hx hb dX3_sure_8 (lv_at hl 0 rfl) ?_
  refine lv_if_eq (tgt := 16) hx hb dX3_sure_10 rfl (fun h10 => ?_) (fun h10 => ?_)
  · have h10 : (refF σ row n_) = 0 := h10
    obtain ⟨j, hj1, hj6, rfl, hR, htw⟩ := ref_ok h10
    have hix : ix (nI j) = j := ix_nI (Nat.lt_succ_of_le hj6) (by decide)
    have hcb := com_bd hI hR
    refine lv_iload hx hb dX3_sure_16 (lv_at hl 5 rfl) ?_
    refine lv_i2l (v := (b_ : Int32).toInt64) hx hb dX3_sure_18 rfl ?_
    refine lv_lconst (v := 1) hx hb dX3_sure_19 rfl ?_
    refine lv_ldc2 (v := 99) hx hb hown (hts _ q1426) dX3_sure_20 ?_
    refine cSi (As := [.long ((b_ : Int32).toInt64), .long 1, .long 99]) (rest := []) ⟨hx, hb, hml, hown, hts⟩ (mt_X3_in l ((b_ : Int32).toInt64) 1 99) (cw_X3_X3_in hts ⟨Nat.le_of_ble_eq_true rfl, Nat.le_of_ble_eq_true rfl⟩) w_blT (fun _ _ _ => trivial) rfl hl.1 rfl (Nat.le_of_ble_eq_true rfl) dX3_sure_23 ⟨Nat.le_of_ble_eq_true rfl, Nat.le_of_ble_eq_true rfl⟩ ?_
    refine lv_if_eq (tgt := 41) hx hb dX3_sure_26 rfl (fun h26 => ?_) (fun h26 => ?_)
    · have h26 : ¬ (inP ((b_ : Int32).toInt64) 1 99) := b01_0.mp h26
      refine lv_bipush (v := (-3)) hx hb dX3_sure_41 rfl ?_
      exact rm_i (u := (σ, τ)) hQ hx hb hr hlocks hK hP hS (⟨by subst_vars; simp only [sureF, eq_true h10, eq_false h26, hix, if_true, if_false, ite_true, ite_false, not_true_eq_false, not_false_eq_true, and_true, true_and, and_false, false_and, or_true, true_or, or_false, false_or, and_self, or_self, eq_self], rfl⟩) dX3_sure_43
    · have h26 : inP ((b_ : Int32).toInt64) 1 99 := b01_n h26
      refine lv_iload_n hx hb dX3_sure_29 rfl (lv_at hl 4 rfl) ?_
      refine lv_i2l (v := (a_ : Int32).toInt64) hx hb dX3_sure_30 rfl ?_
      refine lv_lconst (v := 0) hx hb dX3_sure_31 rfl ?_
      refine lv_iload hx hb dX3_sure_32 (lv_at hl 5 rfl) ?_
      refine lv_i2l (v := (b_ : Int32).toInt64) hx hb dX3_sure_34 rfl ?_
      refine cSi (As := [.long ((a_ : Int32).toInt64), .long 0, .long ((b_ : Int32).toInt64)]) (rest := []) ⟨hx, hb, hml, hown, hts⟩ (mt_X3_in l ((a_ : Int32).toInt64) 0 ((b_ : Int32).toInt64)) (cw_X3_X3_in hts ⟨Nat.le_of_ble_eq_true rfl, Nat.le_of_ble_eq_true rfl⟩) w_blT (fun _ _ _ => trivial) rfl hl.1 rfl (Nat.le_of_ble_eq_true rfl) dX3_sure_35 ⟨Nat.le_of_ble_eq_true rfl, Nat.le_of_ble_eq_true rfl⟩ ?_
      refine lv_if_ne (tgt := 44) hx hb dX3_sure_38 rfl (fun h38 => ?_) (fun h38 => ?_)
      · have h38 : inP ((a_ : Int32).toInt64) 0 ((b_ : Int32).toInt64) := b01_n h38
        refine lv_aload_n hx hb dX3_sure_44 rfl (lv_at hl 1 rfl) ?_
        refine lv_iload_n hx hb dX3_sure_45 rfl (lv_at hl 2 rfl) ?_
        refine lv_iload_n hx hb dX3_sure_46 rfl (lv_at hl 3 rfl) ?_
        refine mcVv (As := [.int row, .int (nI j)]) (rest := []) ⟨hx, hb, hml, hown, hts⟩ (mt_X3_layRow l D dA h ad σ τ hmD row j hI hR) (cw_X3_X3_layRow hts ⟨Nat.le_of_ble_eq_true rfl, Nat.le_of_ble_eq_true rfl⟩) (mB_now hK hP) (va_recv hK hP (ci := 0) (q0 := 0) rfl rfl) rfl hl.1 rfl (Nat.le_of_ble_eq_true rfl) dX3_sure_47 ⟨Nat.le_of_ble_eq_true rfl, Nat.le_of_ble_eq_true rfl⟩ hS (fun u_2 H locs hp_3 hP hS => ?_)
        subst hp_3
        have hP : va_P D vwCl (mX dA h ad σ.txt σ.len σ.wt σ.pr σ.tools σ.load σ.purse σ.beg σ.ways σ.told σ.calls σ.sm σ.sorts σ.visits σ.vm τ.read τ.rm τ.at_ τ.place τ.end_ (entU row τ.ents j) (nI j) (nI (comN σ row j)) (allP σ row j) τ.weight τ.gain τ.ad_ τ.minute τ.ds τ.bl τ.chosen) H := hP
        obtain ⟨g_4, eg_4⟩ : ∃ x, x = entU row τ.ents j := ⟨_, rfl⟩
        rw [← eg_4] at hP
        obtain ⟨g_5, eg_5⟩ : ∃ x, x = nI (comN σ row j) := ⟨_, rfl⟩
        rw [← eg_5] at hP
        obtain ⟨g_6, eg_6⟩ : ∃ x, x = allP σ row j := ⟨_, rfl⟩
        rw [← eg_6] at hP
        refine lv_iconst (v := (-1)) hx hb dX3_sure_50 rfl ?_
        refine lv_istore (lv' := [(6, .int (-1)), (5, .int (refF σ row (nI j))), (0, .ref h), (1, .int row), (2, .int (nI j)), (3, .int a_), (4, .int b_)]) hx hb dX3_sure_51 hl (by decide) rfl (fun ls hl => ?_)
        refine lv_iconst (v := 0) hx hb dX3_sure_53 rfl ?_
        refine lv_istore (lv' := [(7, .int 0), (6, .int (-1)), (5, .int (refF σ row (nI j))), (0, .ref h), (1, .int row), (2, .int (nI j)), (3, .int a_), (4, .int b_)]) hx hb dX3_sure_54 hl (by decide) rfl (fun ls hl => ?_)
        have hL56_7 : ∀ (n_8 : Nat) (k : Nat) (wc : Nat → Int32) (ww : Int64) (wg : Int32) (wa : Int32) (wm : Int32) (wd : Int32) (wb : Int32) (x7 : Int32) (x6 : Int32) (ls : Array Slot) (H : Heap) (locs : List Loc), (256 - k) < n_8 → (k ≤ 256) → x7 = (nI k) → x6 = (srG σ row j a_ b_ k) → lv_has ls 9 [(7, .int x7), (6, .int x6), (5, .int (refF σ row (nI j))), (0, .ref h), (1, .int row), (2, .int (nI j)), (3, .int a_), (4, .int b_)] → va_P D vwCl (mX dA h ad σ.txt σ.len σ.wt σ.pr σ.tools σ.load σ.purse σ.beg σ.ways σ.told σ.calls σ.sm σ.sorts σ.visits σ.vm τ.read τ.rm τ.at_ τ.place τ.end_ g_4 (nI j) g_5 g_6 ww wg wa wm wd wb wc) H → va_S (mA h ad) s.heap H locs → W p l e rmX3_sure s m args below meth c H locs 0 0 Q (F0 m 56 ls []) := by
          intro n_8
          induction n_8 with
          | zero => intro k wc ww wg wa wm wd wb x7 x6 ls H locs hm_10; exact absurd hm_10 (Nat.not_lt_zero _)
          | succ n_8 ih_9 =>
            intro k wc ww wg wa wm wd wb x7 x6 ls H locs hm_10 hk ex7 ex6 hl hP hS
            subst ex7 ex6
            refine lv_iload hx hb dX3_sure_56 (lv_at hl 0 rfl) ?_
            refine lv_sipush (v := 256) hx hb dX3_sure_58 rfl ?_
            refine lv_icmp_ge (tgt := 142) hx hb dX3_sure_61 rfl (fun h61 => ?_) (fun h61 => ?_)
            · have h61 : 256 ≤ k := (nz_le (a := 256) (b := k) rfl rfl (by omega) (by omega)).mp h61
              have hk_ : k = 256 := by omega
              subst hk_
              refine lv_iload hx hb dX3_sure_142 (lv_at hl 1 rfl) ?_
              exact rm_i (u := (σ, ((τ.read, τ.rm, τ.at_, τ.place, τ.end_, g_4, nI j, g_5, g_6, ww, wg, wa, wm, wd, wb, wc) : Sc))) hQ hx hb hr hlocks hK hP hS (⟨by subst_vars; simp only [sureF, eq_true h10, eq_true h26, eq_true h38, eq_true h61, hix, if_true, if_false, ite_true, ite_false, not_true_eq_false, not_false_eq_true, and_true, true_and, and_false, false_and, or_true, true_or, or_false, false_or, and_self, or_self, eq_self], rfl⟩) dX3_sure_144
            · have h61 : ¬ (256 ≤ k) := fun z9 => h61 ((nz_le (a := 256) (b := k) rfl rfl (by omega) (by omega)).mpr z9)
              refine lv_aload_n hx hb dX3_sure_64 rfl (lv_at hl 3 rfl) ?_
              refine lv_iload hx hb dX3_sure_65 (lv_at hl 0 rfl) ?_
              refine cVi (As := [.int (nI k)]) (rest := []) ⟨hx, hb, hml, hown, hts⟩ (mt_X3_mayBe l D dA h ad σ ((τ.read, τ.rm, τ.at_, τ.place, τ.end_, g_4, nI j, g_5, g_6, ww, wg, wa, wm, wd, wb, wc) : Sc) (nI k)) (cw_X3_X3_mayBe hts ⟨Nat.le_of_ble_eq_true rfl, Nat.le_of_ble_eq_true rfl⟩) mB_bl (mB_now hK hP) (va_recv hK hP (ci := 0) (q0 := 0) rfl rfl) rfl hl.1 rfl (Nat.le_of_ble_eq_true rfl) dX3_sure_67 ⟨Nat.le_of_ble_eq_true rfl, Nat.le_of_ble_eq_true rfl⟩ ?_
              have hJ99_11 : ∀ (v_12 : Int32) (ls : Array Slot), v_12 = (if mayP σ (nI k) then if (srG σ row j a_ b_ k) = (-1) then 1 else if (wsum σ.wt (srG σ row j a_ b_ k) 8) ≤ (wsum σ.wt (nI k) 8) then 0 else 1 else 0) → lv_has ls 9 [(7, .int (nI k)), (6, .int (srG σ row j a_ b_ k)), (5, .int (refF σ row (nI j))), (0, .ref h), (1, .int row), (2, .int (nI j)), (3, .int a_), (4, .int b_)] → W p l e rmX3_sure s m args below meth c H locs 0 0 Q (F0 m 99 ls [.int v_12]) := by
                intro v_12 ls ev_12 hl
                refine lv_istore (lv' := [(8, .int v_12), (7, .int (nI k)), (6, .int (srG σ row j a_ b_ k)), (5, .int (refF σ row (nI j))), (0, .ref h), (1, .int row), (2, .int (nI j)), (3, .int a_), (4, .int b_)]) hx hb dX3_sure_99 hl (by decide) rfl (fun ls hl => ?_)
                refine lv_iload hx hb dX3_sure_101 (lv_at hl 0 rfl) ?_
                refine lv_if_eq (tgt := 132) hx hb dX3_sure_103 rfl (fun h103 => ?_) (fun h103 => ?_)
                · have h103 : v_12 = 0 := h103
                  refine lv_iload hx hb dX3_sure_132 (lv_at hl 2 rfl) ?_
                  refine lv_istore (lv' := [(6, .int (srG σ row j a_ b_ k)), (8, .int v_12), (7, .int (nI k)), (5, .int (refF σ row (nI j))), (0, .ref h), (1, .int row), (2, .int (nI j)), (3, .int a_), (4, .int b_)]) hx hb dX3_sure_134 hl (by decide) rfl (fun ls hl => ?_)
                  refine lv_iinc (v := nI (k + 1)) (lv' := [(7, .int (nI (k + 1))), (6, .int (srG σ row j a_ b_ k)), (8, .int v_12), (5, .int (refF σ row (nI j))), (0, .ref h), (1, .int row), (2, .int (nI j)), (3, .int a_), (4, .int b_)]) hx hb dX3_sure_136 hl (k := 2) rfl (nI_1 k) (by decide) rfl (fun ls hl => ?_)
                  refine lv_goto (tgt := 56) hx hb dX3_sure_139 rfl ?_
                  exact ih_9 (k + 1) wc ww wg wa wm wd wb (nI (k + 1)) (srG σ row j a_ b_ k) ls _ _ (by omega) (by omega) rfl (by subst_vars; rw [srG, if_pos (show srI σ _ _ = 0 from h103)]) (lv_sub hl [0, 1, 3, 4, 5, 6, 7, 8] rfl) hP hS
                · have h103 : ¬ (v_12 = 0) := h103
                  refine lv_aload_n hx hb dX3_sure_106 rfl (lv_at hl 4 rfl) ?_
                  refine lv_iload hx hb dX3_sure_107 (lv_at hl 1 rfl) ?_
                  refine mcVl (As := [.int (nI k)]) (rest := []) ⟨hx, hb, hml, hown, hts⟩ (mt_X3_doneOf l D dA h ad σ ((τ.read, τ.rm, τ.at_, τ.place, τ.end_, g_4, nI j, g_5, g_6, ww, wg, wa, wm, wd, wb, wc) : Sc) hmD row j (nI k) hI hR rfl (fun i hi => by rw [eg_4]; exact entU_at j i hi) eg_5) (cw_X3_X3_doneOf hts ⟨Nat.le_of_ble_eq_true rfl, Nat.le_of_ble_eq_true rfl⟩) (mB_now hK hP) (va_recv hK hP (ci := 0) (q0 := 0) rfl rfl) rfl hl.1 rfl (Nat.le_of_ble_eq_true rfl) dX3_sure_109 ⟨Nat.le_of_ble_eq_true rfl, Nat.le_of_ble_eq_true rfl⟩ hS (fun r_13 u_14 H locs hp_15 hP hS => ?_)
                  obtain ⟨rfl, hu_25, k_16, k_17, k_18, k_19, k_20, k_21, k_22, k_23, k_24⟩ := hp_15
                  have hP : va_P D vwCl (mX dA h ad u_14.1.txt u_14.1.len u_14.1.wt u_14.1.pr u_14.1.tools u_14.1.load u_14.1.purse u_14.1.beg u_14.1.ways u_14.1.told u_14.1.calls u_14.1.sm u_14.1.sorts u_14.1.visits u_14.1.vm u_14.2.read u_14.2.rm u_14.2.at_ u_14.2.place u_14.2.end_ u_14.2.ents u_14.2.em u_14.2.combos u_14.2.all_ u_14.2.weight u_14.2.gain u_14.2.ad_ u_14.2.minute u_14.2.ds u_14.2.bl u_14.2.chosen) H := hP
                  rw [hu_25, k_16, k_17, k_18, k_19, k_20, k_21, k_22, k_23, k_24] at hP
                  clear hu_25 k_16 k_17 k_18 k_19 k_20 k_21 k_22 k_23 k_24
                  have hP : va_P D vwCl (mX dA h ad σ.txt σ.len σ.wt σ.pr σ.tools σ.load σ.purse σ.beg σ.ways σ.told σ.calls σ.sm σ.sorts σ.visits σ.vm τ.read τ.rm τ.at_ τ.place τ.end_ g_4 (nI j) g_5 g_6 u_14.2.weight u_14.2.gain u_14.2.ad_ u_14.2.minute u_14.2.ds u_14.2.bl u_14.2.chosen) H := hP
                  refine lv_iload hx hb dX3_sure_112 (lv_at hl 8 rfl) ?_
                  refine lv_i2l (v := (b_ : Int32).toInt64) hx hb dX3_sure_114 rfl ?_
                  refine lv_lmul hx hb dX3_sure_115 ?_
                  refine lv_aload_n hx hb dX3_sure_116 rfl (lv_at hl 4 rfl) ?_
                  refine va_get (D := D) (ci := 0) (v := .long g_6) (C := RX3) (T := TX3) (N := 31) hx hb hts in_X3 hown hK hP 0 rfl rfl 23 (by decide) (hts _ q1137) (fun _ h9 => h9) rfl dX3_sure_117 ?_
                  refine lv_iload_n hx hb dX3_sure_120 rfl (lv_at hl 7 rfl) ?_
                  refine lv_i2l (v := (a_ : Int32).toInt64) hx hb dX3_sure_121 rfl ?_
                  refine lv_lmul hx hb dX3_sure_122 ?_
                  refine W.lcmp hx hb dX3_sure_123 ?_
                  have hJ134_26 : ∀ (v_27 : Int32) (ls : Array Slot), v_27 = (if ((dnF σ row j (nI k)) * ((b_ : Int32).toInt64)) < (g_6 * ((a_ : Int32).toInt64)) then srG σ row j a_ b_ k else nI k) → lv_has ls 9 [(8, .int v_12), (7, .int (nI k)), (6, .int (srG σ row j a_ b_ k)), (5, .int (refF σ row (nI j))), (0, .ref h), (1, .int row), (2, .int (nI j)), (3, .int a_), (4, .int b_)] → W p l e rmX3_sure s m args below meth c H locs 0 0 Q (F0 m 134 ls [.int v_27]) := by
                    intro v_27 ls ev_27 hl
                    refine lv_istore (lv' := [(6, .int v_27), (8, .int v_12), (7, .int (nI k)), (5, .int (refF σ row (nI j))), (0, .ref h), (1, .int row), (2, .int (nI j)), (3, .int a_), (4, .int b_)]) hx hb dX3_sure_134 hl (by decide) rfl (fun ls hl => ?_)
                    refine lv_iinc (v := nI (k + 1)) (lv' := [(7, .int (nI (k + 1))), (6, .int v_27), (8, .int v_12), (5, .int (refF σ row (nI j))), (0, .ref h), (1, .int row), (2, .int (nI j)), (3, .int a_), (4, .int b_)]) hx hb dX3_sure_136 hl (k := 2) rfl (nI_1 k) (by decide) rfl (fun ls hl => ?_)
                    refine lv_goto (tgt := 56) hx hb dX3_sure_139 rfl ?_
                    exact ih_9 (k + 1) u_14.2.chosen u_14.2.weight u_14.2.gain u_14.2.ad_ u_14.2.minute u_14.2.ds u_14.2.bl (nI (k + 1)) v_27 ls _ _ (by omega) (by omega) rfl (by subst_vars; rw [srG, if_neg (show ¬ srI σ _ _ = 0 from h103)]) (lv_sub hl [0, 1, 3, 4, 5, 6, 7, 8] rfl) hP hS
                  refine lv_if_lt (tgt := 132) hx hb dX3_sure_124 rfl (fun h124 => ?_) (fun h124 => ?_)
                  · have h124 : ((dnF σ row j (nI k)) * ((b_ : Int32).toInt64)) < (g_6 * ((a_ : Int32).toInt64)) := (lg_cmp_lt ((dnF σ row j (nI k)) * ((b_ : Int32).toInt64)) (g_6 * ((a_ : Int32).toInt64))).mp h124
                    refine lv_iload hx hb dX3_sure_132 (lv_at hl 2 rfl) ?_
                    exact hJ134_26 (srG σ row j a_ b_ k) ls (by rw [if_pos h124]) (lv_sub hl [0, 1, 2, 3, 4, 5, 6, 7, 8] rfl)
                  · have h124 : ¬ (((dnF σ row j (nI k)) * ((b_ : Int32).toInt64)) < (g_6 * ((a_ : Int32).toInt64))) := fun z9 => h124 ((lg_cmp_lt ((dnF σ row j (nI k)) * ((b_ : Int32).toInt64)) (g_6 * ((a_ : Int32).toInt64))).mpr z9)
                    refine lv_iload hx hb dX3_sure_127 (lv_at hl 1 rfl) ?_
                    refine lv_goto (tgt := 134) hx hb dX3_sure_129 rfl ?_
                    exact hJ134_26 (nI k) ls (by rw [if_neg h124]) (lv_sub hl [0, 1, 2, 3, 4, 5, 6, 7, 8] rfl)
              refine lv_if_eq (tgt := 98) hx hb dX3_sure_70 rfl (fun h70 => ?_) (fun h70 => ?_)
              · have h70 : ¬ (mayP σ (nI k)) := b01_0.mp h70
                refine lv_iconst (v := 0) hx hb dX3_sure_98 rfl ?_
                exact hJ99_11 (0) ls (by rw [if_neg h70]) (lv_sub hl [0, 1, 2, 3, 4, 5, 6, 7] rfl)
              · have h70 : mayP σ (nI k) := b01_n h70
                refine lv_iload hx hb dX3_sure_73 (lv_at hl 1 rfl) ?_
                refine lv_iconst (v := (-1)) hx hb dX3_sure_75 rfl ?_
                refine lv_icmp_eq (tgt := 94) hx hb dX3_sure_76 rfl (fun h76 => ?_) (fun h76 => ?_)
                · have h76 : (srG σ row j a_ b_ k) = (-1) := h76
                  refine lv_iconst (v := 1) hx hb dX3_sure_94 rfl ?_
                  refine lv_goto (tgt := 99) hx hb dX3_sure_95 rfl ?_
                  exact hJ99_11 (1) ls (by rw [if_pos h70, if_pos h76]) (lv_sub hl [0, 1, 2, 3, 4, 5, 6, 7] rfl)
                · have h76 : ¬ ((srG σ row j a_ b_ k) = (-1)) := h76
                  refine lv_aload_n hx hb dX3_sure_79 rfl (lv_at hl 3 rfl) ?_
                  refine lv_iload hx hb dX3_sure_80 (lv_at hl 0 rfl) ?_
                  refine cVi (As := [.int (nI k)]) (rest := []) ⟨hx, hb, hml, hown, hts⟩ (mt_X3_weight l D dA h ad σ ((τ.read, τ.rm, τ.at_, τ.place, τ.end_, g_4, nI j, g_5, g_6, ww, wg, wa, wm, wd, wb, wc) : Sc) (nI k)) (cw_X3_X3_weight hts ⟨Nat.le_of_ble_eq_true rfl, Nat.le_of_ble_eq_true rfl⟩) mB_bl (mB_now hK hP) (va_recv hK hP (ci := 0) (q0 := 0) rfl rfl) rfl hl.1 rfl (Nat.le_of_ble_eq_true rfl) dX3_sure_82 ⟨Nat.le_of_ble_eq_true rfl, Nat.le_of_ble_eq_true rfl⟩ ?_
                  refine lv_aload_n hx hb dX3_sure_85 rfl (lv_at hl 3 rfl) ?_
                  refine lv_iload hx hb dX3_sure_86 (lv_at hl 1 rfl) ?_
                  refine cVi (As := [.int (srG σ row j a_ b_ k)]) (rest := [.int (wsum σ.wt (nI k) 8)]) ⟨hx, hb, hml, hown, hts⟩ (mt_X3_weight l D dA h ad σ ((τ.read, τ.rm, τ.at_, τ.place, τ.end_, g_4, nI j, g_5, g_6, ww, wg, wa, wm, wd, wb, wc) : Sc) (srG σ row j a_ b_ k)) (cw_X3_X3_weight hts ⟨Nat.le_of_ble_eq_true rfl, Nat.le_of_ble_eq_true rfl⟩) mB_bl (mB_now hK hP) (va_recv hK hP (ci := 0) (q0 := 0) rfl rfl) rfl hl.1 rfl (Nat.le_of_ble_eq_true rfl) dX3_sure_88 ⟨Nat.le_of_ble_eq_true rfl, Nat.le_of_ble_eq_true rfl⟩ ?_
                  refine lv_icmp_ge (tgt := 98) hx hb dX3_sure_91 rfl (fun h91 => ?_) (fun h91 => ?_)
                  · have h91 : (wsum σ.wt (srG σ row j a_ b_ k) 8) ≤ (wsum σ.wt (nI k) 8) := h91
                    refine lv_iconst (v := 0) hx hb dX3_sure_98 rfl ?_
                    exact hJ99_11 (0) ls (by rw [if_pos h70, if_neg h76, if_pos h91]) (lv_sub hl [0, 1, 2, 3, 4, 5, 6, 7] rfl)
                  · have h91 : ¬ ((wsum σ.wt (srG σ row j a_ b_ k) 8) ≤ (wsum σ.wt (nI k) 8)) := h91
                    refine lv_iconst (v := 1) hx hb dX3_sure_94 rfl ?_
                    refine lv_goto (tgt := 99) hx hb dX3_sure_95 rfl ?_
                    exact hJ99_11 (1) ls (by rw [if_pos h70, if_neg h76, if_neg h91]) (lv_sub hl [0, 1, 2, 3, 4, 5, 6, 7] rfl)
        exact hL56_7 _ 0 τ.chosen τ.weight τ.gain τ.ad_ τ.minute τ.ds τ.bl 0 (-1) ls _ _ (Nat.lt_succ_self _) (by omega) rfl (by subst_vars; rw [srG]) (lv_sub hl [0, 1, 2, 3, 4, 5, 6, 7] rfl) hP hS
      · have h38 : ¬ (inP ((a_ : Int32).toInt64) 0 ((b_ : Int32).toInt64)) := b01_0.mp h38
        refine lv_bipush (v := (-3)) hx hb dX3_sure_41 rfl ?_
        exact rm_i (u := (σ, τ)) hQ hx hb hr hlocks hK hP hS (⟨by subst_vars; simp only [sureF, eq_true h10, eq_true h26, eq_false h38, hix, if_true, if_false, ite_true, ite_false, not_true_eq_false, not_false_eq_true, and_true, true_and, and_false, false_and, or_true, true_or, or_false, false_or, and_self, or_self, eq_self], rfl⟩) dX3_sure_43
  · have h10 : ¬ ((refF σ row n_) = 0) := h10
    refine lv_iload hx hb dX3_sure_13 (lv_at hl 0 rfl) ?_
    exact rm_i (u := (σ, τ)) hQ hx hb hr hlocks hK hP hS (⟨by subst_vars; simp only [sureF, eq_false h10, if_true, if_false, ite_true, ite_false, not_true_eq_false, not_false_eq_true, and_true, true_and, and_false, false_and, or_true, true_or, or_false, false_or, and_self, or_self, eq_self], rfl⟩) dX3_sure_15
