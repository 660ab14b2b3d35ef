/-! THE MODEL's METHODS 8: means of rows, the best bags -/
set_option maxRecDepth 100000
def mnG (σ : St) (row : Int32) (j : Nat) (bag : Int32) : Nat → Int64
  | 0 => 0
  | k + 1 => mnG σ row j bag k + weiF σ row k j * ((goR σ row (chN σ row k) bag j).2.2.2.1).toInt64
/-- what a bag brings, times all -/
def mnF (σ : St) (row : Int32) (j : Nat) (bag : Int32) : Int64 := mnG σ row j bag (comN σ row j)
def mkG (σ : St) (row : Int32) (j : Nat) (bag : Int32) (q s : Nat) : Nat → Int64
  | 0 => 0
  | k + 1 => if chN σ row k q = s then mkG σ row j bag q s k + weiF σ row k j * ((goR σ row (chN σ row k) bag j).2.2.2.1).toInt64 else mkG σ row j bag q s k
/-- of one entry a sort alone -/
def mkF (σ : St) (row : Int32) (j : Nat) (bag : Int32) (q s : Nat) : Int64 := mkG σ row j bag q s (comN σ row j)
def dnG (σ : St) (row : Int32) (j : Nat) (bag : Int32) : Nat → Int64
  | 0 => 0
  | k + 1 => dnG σ row j bag k + (if (goR σ row (chN σ row k) bag j).2.2.2.2.2 = 0 then 0 else weiF σ row k j)
def dnF (σ : St) (row : Int32) (j : Nat) (bag : Int32) : Int64 := dnG σ row j bag (comN σ row j)
def edG (σ : St) (row : Int32) (j : Nat) (bag : Int32) : Nat → Int32
  | 0 => 0
  | k + 1 => if (goR σ row (chN σ row k) bag j).2.1 ≤ edG σ row j bag k then edG σ row j bag k else (goR σ row (chN σ row k) bag j).2.1
def edF (σ : St) (row : Int32) (j : Nat) (bag : Int32) : Int32 := edG σ row j bag (comN σ row j)
theorem ch_ok {σ : St} {row : Int32} {j v : Nat} (hR : okR σ row j) {f g : Nat → Int32} (e : f = choU σ row v g j) : ∀ i, i < j → ¬ en row i = 6 → f i = nI (chN σ row v i) ∧ chN σ row v i < σ.sm (en row i) :=
  fun i hi h6 => ⟨by rw [e]; exact choU_at j i hi h6, Nat.mod_lt _ ((hR.2 i hi).resolve_left h6).2⟩

theorem cw_X3_X3_layChosen {R : Room} {s : State} {args : Array Value} (hts : ∀ w ∈ lw_all, w.before args s = true) (hR : rmX3_layChosen.frames + 1 ≤ R.frames ∧ 8 + (5 + 11) + rmX3_layChosen.locals ≤ R.locals) : CallW R s args RX3 RX3 224 yX3_layChosen cX3_layChosen 5 none (ws_ yX3_layChosen cX3_layChosen 5 none) rmX3_layChosen 0 0 1 := cwV 1 hts (lw_V q1387 q1389 qs56 q83 q1390) rfl rfl rfl (by decide +kernel) hR
theorem cw_X3_X3_go_A {R : Room} {s : State} {args : Array Value} (hts : ∀ w ∈ lw_all, w.before args s = true) (hR : rmX3_go_A.frames + 1 ≤ R.frames ∧ 8 + (12 + 11) + rmX3_go_A.locals ≤ R.locals) : CallW R s args RX3 RX3 227 yX3_go cX3_go 12 none (ws_ yX3_go cX3_go 12 none) rmX3_go_A 0 0 2 := cwV 2 hts (lw_V q1391 q1393 qs57 q83 q1394) rfl rfl rfl (by decide +kernel) hR
def rmX3_meanOf_A : Room := { frames := 3, cells := 0, slots := 0, locals := 81 }
set_option maxHeartbeats 1000000 in
theorem mt_X3_meanOf_A (l : Launch) (D : va_G) (dA : Nat → ClassId) (h : Nat) (ad : Nat → Nat) (σ : St) (τ : Sc) (hmD : mD h ad) (row : Int32) (j : Nat) (bag : Int32) (hI : Inv σ) (hR : okR σ row j) (hem : τ.em = nI j) (he : ∀ i, i < j → τ.ents i = nI (en row i)) (hco : τ.combos = nI (comN σ row j)) : Met l yX3_meanOf (ws_ yX3_meanOf cX3_meanOf 7 (some .long)) rmX3_meanOf_A (va_Pc [.ref h, .int bag, .int (-1), .int 0] (mB D dA h ad σ τ)) (va_Ql (fun r (u : MS) => r = mnF σ row j bag ∧ u.1 = σ ∧ u.2.read = τ.read ∧ u.2.rm = τ.rm ∧ u.2.at_ = τ.at_ ∧ u.2.place = τ.place ∧ u.2.end_ = τ.end_ ∧ u.2.ents = τ.ents ∧ u.2.em = τ.em ∧ u.2.combos = τ.combos ∧ u.2.all_ = τ.all_) (fun u t => mB D dA h ad u.1 u.2 t) (mA h ad)) 0 0 (mA h ad) := by
  refine w_start (by decide) (Nat.le_of_ble_eq_true rfl) ?_
  intro p e s m args below meth c Q ls hQ hx hb hr hlocks hml hown hnm hts hB hl
  have hown : s.vm.findClass RX3 = some m.cls := hown
  have hl : lv_has ls 7 [(0, .ref h), (1, .int bag), (2, .int (-1)), (3, .int 0)] := hl
  obtain ⟨hP, hK⟩ := hB
  have hP : va_P D vwCl (mX dA h ad σ.txt σ.len σ.wt σ.pr σ.tools σ.load σ.purse σ.beg σ.ways σ.told σ.calls σ.sm σ.sorts σ.visits σ.vm τ.read τ.rm τ.at_ τ.place τ.end_ τ.ents τ.em τ.combos τ.all_ τ.weight τ.gain τ.ad_ τ.minute τ.ds τ.bl τ.chosen) s.heap := hP
  have hS : va_S (mA h ad) s.heap s.heap [] := va_S.rf
  have hj := hR.1
  have hcb := com_bd hI hR
  refine lv_lconst (v := 0) hx hb dX3_meanOf_0 rfl ?_
  refine lv_lstore (lv' := [(4, .long 0), (0, .ref h), (1, .int bag), (2, .int (-1)), (3, .int 0)]) hx hb dX3_meanOf_1 hl (by decide) rfl (fun ls hl => ?_)
  refine lv_iconst (v := 0) hx hb dX3_meanOf_3 rfl ?_
  refine lv_istore (lv' := [(6, .int 0), (4, .long 0), (0, .ref h), (1, .int bag), (2, .int (-1)), (3, .int 0)]) hx hb dX3_meanOf_4 hl (by decide) rfl (fun ls hl => ?_)
  have hL6_1 : ∀ (n_2 : Nat) (k : Nat) (wc : Nat → Int32) (ww : Int64) (wg : Int32) (wa : Int32) (wm : Int32) (wd : Int32) (wb : Int32) (x6 : Int32) (x4 : Int64) (ls : Array Slot) (H : Heap) (locs : List Loc), (comN σ row j - k) < n_2 → (k ≤ comN σ row j) → x6 = (nI k) → x4 = (mnG σ row j bag k) → lv_has ls 7 [(6, .int x6), (4, .long x4), (0, .ref h), (1, .int bag), (2, .int (-1)), (3, .int 0)] → va_P D vwCl (mX dA h ad σ.txt σ.len σ.wt σ.pr σ.tools σ.load σ.purse σ.beg σ.ways σ.told σ.calls σ.sm σ.sorts σ.visits σ.vm τ.read τ.rm τ.at_ τ.place τ.end_ τ.ents τ.em τ.combos τ.all_ ww wg wa wm wd wb wc) H → va_S (mA h ad) s.heap H locs → W p l e rmX3_meanOf_A s m args below meth c H locs 0 0 Q (F0 m 6 ls []) := by
    intro n_2
    induction n_2 with
    | zero => intro k wc ww wg wa wm wd wb x6 x4 ls H locs hm_4; exact absurd hm_4 (Nat.not_lt_zero _)
    | succ n_2 ih_3 =>
      intro k wc ww wg wa wm wd wb x6 x4 ls H locs hm_4 hk ex6 ex4 hl hP hS
      subst ex6 ex4
      refine lv_iload hx hb dX3_meanOf_6 (lv_at hl 0 rfl) ?_
      refine lv_aload_n hx hb dX3_meanOf_8 rfl (lv_at hl 2 rfl) ?_
      refine va_get (D := D) (ci := 0) (v := .int τ.combos) (C := RX3) (T := TX3) (N := 31) hx hb hts in_X3 hown hK hP 0 rfl rfl 22 (by decide) (hts _ q1136) (fun _ h9 => h9) rfl dX3_meanOf_9 ?_
      refine lv_icmp_ge (tgt := 62) hx hb dX3_meanOf_12 rfl (fun h12 => ?_) (fun h12 => ?_)
      · have h12 : (comN σ row j) ≤ k := (nz_le (a := comN σ row j) (b := k) hco rfl (by omega) (by omega)).mp h12
        have hk_ : k = comN σ row j := by omega
        subst hk_
        refine lv_lload hx hb dX3_meanOf_62 (lv_at hl 1 rfl) ?_
        exact rm_l (u := (σ, ((τ.read, τ.rm, τ.at_, τ.place, τ.end_, τ.ents, τ.em, τ.combos, τ.all_, ww, wg, wa, wm, wd, wb, wc) : Sc))) hQ hx hb hr hlocks hK hP hS (⟨rfl, rfl, rfl, rfl, rfl, rfl, rfl, rfl, rfl, rfl, rfl⟩) dX3_meanOf_64
      · have h12 : ¬ ((comN σ row j) ≤ k) := fun z9 => h12 ((nz_le (a := comN σ row j) (b := k) hco rfl (by omega) (by omega)).mpr z9)
        refine lv_aload_n hx hb dX3_meanOf_15 rfl (lv_at hl 2 rfl) ?_
        refine lv_iload hx hb dX3_meanOf_16 (lv_at hl 0 rfl) ?_
        refine mcVv (As := [.int (nI k)]) (rest := []) ⟨hx, hb, hml, hown, hts⟩ (mt_X3_layChosen l D dA h ad σ ((τ.read, τ.rm, τ.at_, τ.place, τ.end_, τ.ents, τ.em, τ.combos, τ.all_, ww, wg, wa, wm, wd, wb, wc) : Sc) hmD row j k hI hR hem he (by omega)) (cw_X3_X3_layChosen hts ⟨Nat.le_of_ble_eq_true rfl, Nat.le_of_ble_eq_true rfl⟩) (mB_now hK hP) (va_recv hK hP (ci := 0) (q0 := 0) rfl rfl) rfl hl.1 rfl (Nat.le_of_ble_eq_true rfl) dX3_meanOf_18 ⟨Nat.le_of_ble_eq_true rfl, Nat.le_of_ble_eq_true rfl⟩ hS (fun u_6 H locs hp_7 hP hS => ?_)
        subst hp_7
        have hP : va_P D vwCl (mX dA h ad σ.txt σ.len σ.wt σ.pr σ.tools σ.load σ.purse σ.beg σ.ways σ.told σ.calls σ.sm σ.sorts σ.visits σ.vm τ.read τ.rm τ.at_ τ.place τ.end_ τ.ents τ.em τ.combos τ.all_ (weiF σ row k j) wg wa wm wd wb (choU σ row k wc j)) H := hP
        obtain ⟨g_8, eg_8⟩ : ∃ x, x = choU σ row k wc j := ⟨_, rfl⟩
        rw [← eg_8] at hP
        obtain ⟨g_9, eg_9⟩ : ∃ x, x = weiF σ row k j := ⟨_, rfl⟩
        rw [← eg_9] at hP
        refine lv_iload_n hx hb dX3_meanOf_21 rfl (lv_at hl 4 rfl) ?_
        refine lv_if_lt (tgt := 35) hx hb dX3_meanOf_22 rfl (fun h22 => ?_) (fun h22 => ?_)
        · have h22 : ((-1) : Int32) < 0 := h22
          refine lv_aload_n hx hb dX3_meanOf_35 rfl (lv_at hl 2 rfl) ?_
          refine lv_iload_n hx hb dX3_meanOf_36 rfl (lv_at hl 3 rfl) ?_
          refine lv_iconst (v := (-1)) hx hb dX3_meanOf_37 rfl ?_
          refine mcVv (As := [.int bag, .int (-1)]) (rest := []) ⟨hx, hb, hml, hown, hts⟩ (mt_X3_go_A l D dA h ad σ ((τ.read, τ.rm, τ.at_, τ.place, τ.end_, τ.ents, τ.em, τ.combos, τ.all_, g_9, wg, wa, wm, wd, wb, g_8) : Sc) hmD row j (chN σ row k) bag hI hR hem he (ch_ok hR eg_8)) (cw_X3_X3_go_A hts ⟨Nat.le_of_ble_eq_true rfl, Nat.le_of_ble_eq_true rfl⟩) (mB_now hK hP) (va_recv hK hP (ci := 0) (q0 := 0) rfl rfl) rfl hl.1 rfl (Nat.le_of_ble_eq_true rfl) dX3_meanOf_38 ⟨Nat.le_of_ble_eq_true rfl, Nat.le_of_ble_eq_true rfl⟩ hS (fun u_11 H locs hp_12 hP hS => ?_)
          subst hp_12
          have hP : va_P D vwCl (mX dA h ad σ.txt σ.len σ.wt σ.pr σ.tools σ.load σ.purse σ.beg σ.ways σ.told σ.calls σ.sm σ.sorts σ.visits σ.vm τ.read τ.rm τ.at_ τ.place τ.end_ τ.ents τ.em τ.combos τ.all_ g_9 ((goR σ row (chN σ row k) bag j).2.2.2.1) ((goR σ row (chN σ row k) bag j).2.2.2.2.2) ((goR σ row (chN σ row k) bag j).2.1) ((goR σ row (chN σ row k) bag j).2.2.2.2.1) ((goR σ row (chN σ row k) bag j).2.2.1) g_8) H := hP
          obtain ⟨g_13, eg_13⟩ : ∃ x, x = (goR σ row (chN σ row k) bag j).2.1 := ⟨_, rfl⟩
          rw [← eg_13] at hP
          obtain ⟨g_14, eg_14⟩ : ∃ x, x = (goR σ row (chN σ row k) bag j).2.2.1 := ⟨_, rfl⟩
          rw [← eg_14] at hP
          obtain ⟨g_15, eg_15⟩ : ∃ x, x = (goR σ row (chN σ row k) bag j).2.2.2.1 := ⟨_, rfl⟩
          rw [← eg_15] at hP
          obtain ⟨g_16, eg_16⟩ : ∃ x, x = (goR σ row (chN σ row k) bag j).2.2.2.2.1 := ⟨_, rfl⟩
          rw [← eg_16] at hP
          obtain ⟨g_17, eg_17⟩ : ∃ x, x = (goR σ row (chN σ row k) bag j).2.2.2.2.2 := ⟨_, rfl⟩
          rw [← eg_17] at hP
          refine lv_lload hx hb dX3_meanOf_41 (lv_at hl 1 rfl) ?_
          refine lv_aload_n hx hb dX3_meanOf_43 rfl (lv_at hl 2 rfl) ?_
          refine va_get (D := D) (ci := 0) (v := .long g_9) (C := RX3) (T := TX3) (N := 31) hx hb hts in_X3 hown hK hP 0 rfl rfl 24 (by decide) (hts _ q1138) (fun _ h9 => h9) rfl dX3_meanOf_44 ?_
          refine lv_aload_n hx hb dX3_meanOf_47 rfl (lv_at hl 2 rfl) ?_
          refine va_get (D := D) (ci := 0) (v := .int g_15) (C := RX3) (T := TX3) (N := 31) hx hb hts in_X3 hown hK hP 0 rfl rfl 25 (by decide) (hts _ q1139) (fun _ h9 => h9) rfl dX3_meanOf_48 ?_
          refine lv_i2l (v := (g_15 : Int32).toInt64) hx hb dX3_meanOf_51 rfl ?_
          refine lv_lmul hx hb dX3_meanOf_52 ?_
          refine lv_ladd hx hb dX3_meanOf_53 ?_
          refine lv_lstore (lv' := [(4, .long ((mnG σ row j bag k) + (g_9 * ((g_15 : Int32).toInt64)))), (6, .int (nI k)), (0, .ref h), (1, .int bag), (2, .int (-1)), (3, .int 0)]) hx hb dX3_meanOf_54 hl (by decide) rfl (fun ls hl => ?_)
          refine lv_iinc (v := nI (k + 1)) (lv' := [(6, .int (nI (k + 1))), (4, .long ((mnG σ row j bag k) + (g_9 * ((g_15 : Int32).toInt64)))), (0, .ref h), (1, .int bag), (2, .int (-1)), (3, .int 0)]) hx hb dX3_meanOf_56 hl (k := 1) rfl (nI_1 k) (by decide) rfl (fun ls hl => ?_)
          refine lv_goto (tgt := 6) hx hb dX3_meanOf_59 rfl ?_
          exact ih_3 (k + 1) g_8 g_9 g_15 g_17 g_13 g_16 g_14 (nI (k + 1)) ((mnG σ row j bag k) + (g_9 * ((g_15 : Int32).toInt64))) ls _ _ (by omega) (by omega) rfl (by subst_vars; rw [mnG]) (lv_sub hl [0, 1, 2, 3, 4, 5] rfl) hP hS
        · have h22 : ¬ (((-1) : Int32) < 0) := h22
          exact absurd (by decide) h22
  exact hL6_1 _ 0 τ.chosen τ.weight τ.gain τ.ad_ τ.minute τ.ds τ.bl 0 0 ls _ _ (Nat.lt_succ_self _) (by omega) rfl (by subst_vars; rw [mnG]) (lv_sub hl [0, 1, 2, 3, 4, 5] rfl) hP hS

def rmX3_meanOf_B : Room := { frames := 3, cells := 0, slots := 0, locals := 81 }
set_option maxHeartbeats 1000000 in
theorem mt_X3_meanOf_B (l : Launch) (D : va_G) (dA : Nat → ClassId) (h : Nat) (ad : Nat → Nat) (σ : St) (τ : Sc) (hmD : mD h ad) (row : Int32) (j : Nat) (bag : Int32) (q : Nat) (s_ : Nat) (hI : Inv σ) (hR : okR σ row j) (hem : τ.em = nI j) (he : ∀ i, i < j → τ.ents i = nI (en row i)) (hco : τ.combos = nI (comN σ row j)) (hq : q < j) (hq6 : ¬ en row q = 6) (hs : s_ < 4) : Met l yX3_meanOf (ws_ yX3_meanOf cX3_meanOf 7 (some .long)) rmX3_meanOf_B (va_Pc [.ref h, .int bag, .int (nI q), .int (nI s_)] (mB D dA h ad σ τ)) (va_Ql (fun r (u : MS) => r = mkF σ row j bag q s_ ∧ u.1 = σ ∧ u.2.read = τ.read ∧ u.2.rm = τ.rm ∧ u.2.at_ = τ.at_ ∧ u.2.place = τ.place ∧ u.2.end_ = τ.end_ ∧ u.2.ents = τ.ents ∧ u.2.em = τ.em ∧ u.2.combos = τ.combos ∧ u.2.all_ = τ.all_) (fun u t => mB D dA h ad u.1 u.2 t) (mA h ad)) 0 0 (mA h ad) := by
  refine w_start (by decide) (Nat.le_of_ble_eq_true rfl) ?_
  intro p e s m args below meth c Q ls hQ hx hb hr hlocks hml hown hnm hts hB hl
  have hown : s.vm.findClass RX3 = some m.cls := hown
  have hl : lv_has ls 7 [(0, .ref h), (1, .int bag), (2, .int (nI q)), (3, .int (nI s_))] := hl
  obtain ⟨hP, hK⟩ := hB
  have hP : va_P D vwCl (mX dA h ad σ.txt σ.len σ.wt σ.pr σ.tools σ.load σ.purse σ.beg σ.ways σ.told σ.calls σ.sm σ.sorts σ.visits σ.vm τ.read τ.rm τ.at_ τ.place τ.end_ τ.ents τ.em τ.combos τ.all_ τ.weight τ.gain τ.ad_ τ.minute τ.ds τ.bl τ.chosen) s.heap := hP
  have hS : va_S (mA h ad) s.heap s.heap [] := va_S.rf
  have hj := hR.1
  have hcb := com_bd hI hR
  refine lv_lconst (v := 0) hx hb dX3_meanOf_0 rfl ?_
  refine lv_lstore (lv' := [(4, .long 0), (0, .ref h), (1, .int bag), (2, .int (nI q)), (3, .int (nI s_))]) hx hb dX3_meanOf_1 hl (by decide) rfl (fun ls hl => ?_)
  refine lv_iconst (v := 0) hx hb dX3_meanOf_3 rfl ?_
  refine lv_istore (lv' := [(6, .int 0), (4, .long 0), (0, .ref h), (1, .int bag), (2, .int (nI q)), (3, .int (nI s_))]) hx hb dX3_meanOf_4 hl (by decide) rfl (fun ls hl => ?_)
  have hL6_1 : ∀ (n_2 : Nat) (k : Nat) (wc : Nat → Int32) (ww : Int64) (wg : Int32) (wa : Int32) (wm : Int32) (wd : Int32) (wb : Int32) (x6 : Int32) (x4 : Int64) (ls : Array Slot) (H : Heap) (locs : List Loc), (comN σ row j - k) < n_2 → (k ≤ comN σ row j) → x6 = (nI k) → x4 = (mkG σ row j bag q s_ k) → lv_has ls 7 [(6, .int x6), (4, .long x4), (0, .ref h), (1, .int bag), (2, .int (nI q)), (3, .int (nI s_))] → va_P D vwCl (mX dA h ad σ.txt σ.len σ.wt σ.pr σ.tools σ.load σ.purse σ.beg σ.ways σ.told σ.calls σ.sm σ.sorts σ.visits σ.vm τ.read τ.rm τ.at_ τ.place τ.end_ τ.ents τ.em τ.combos τ.all_ ww wg wa wm wd wb wc) H → va_S (mA h ad) s.heap H locs → W p l e rmX3_meanOf_B s m args below meth c H locs 0 0 Q (F0 m 6 ls []) := by
    intro n_2
    induction n_2 with
    | zero => intro k wc ww wg wa wm wd wb x6 x4 ls H locs hm_4; exact absurd hm_4 (Nat.not_lt_zero _)
    | succ n_2 ih_3 =>
      intro k wc ww wg wa wm wd wb x6 x4 ls H locs hm_4 hk ex6 ex4 hl hP hS
      subst ex6 ex4
      refine lv_iload hx hb dX3_meanOf_6 (lv_at hl 0 rfl) ?_
      refine lv_aload_n hx hb dX3_meanOf_8 rfl (lv_at hl 2 rfl) ?_
      refine va_get (D := D) (ci := 0) (v := .int τ.combos) (C := RX3) (T := TX3) (N := 31) hx hb hts in_X3 hown hK hP 0 rfl rfl 22 (by decide) (hts _ q1136) (fun _ h9 => h9) rfl dX3_meanOf_9 ?_
      refine lv_icmp_ge (tgt := 62) hx hb dX3_meanOf_12 rfl (fun h12 => ?_) (fun h12 => ?_)
      · have h12 : (comN σ row j) ≤ k := (nz_le (a := comN σ row j) (b := k) hco rfl (by omega) (by omega)).mp h12
        have hk_ : k = comN σ row j := by omega
        subst hk_
        refine lv_lload hx hb dX3_meanOf_62 (lv_at hl 1 rfl) ?_
        exact rm_l (u := (σ, ((τ.read, τ.rm, τ.at_, τ.place, τ.end_, τ.ents, τ.em, τ.combos, τ.all_, ww, wg, wa, wm, wd, wb, wc) : Sc))) hQ hx hb hr hlocks hK hP hS (⟨rfl, rfl, rfl, rfl, rfl, rfl, rfl, rfl, rfl, rfl, rfl⟩) dX3_meanOf_64
      · have h12 : ¬ ((comN σ row j) ≤ k) := fun z9 => h12 ((nz_le (a := comN σ row j) (b := k) hco rfl (by omega) (by omega)).mpr z9)
        refine lv_aload_n hx hb dX3_meanOf_15 rfl (lv_at hl 2 rfl) ?_
        refine lv_iload hx hb dX3_meanOf_16 (lv_at hl 0 rfl) ?_
        refine mcVv (As := [.int (nI k)]) (rest := []) ⟨hx, hb, hml, hown, hts⟩ (mt_X3_layChosen l D dA h ad σ ((τ.read, τ.rm, τ.at_, τ.place, τ.end_, τ.ents, τ.em, τ.combos, τ.all_, ww, wg, wa, wm, wd, wb, wc) : Sc) hmD row j k hI hR hem he (by omega)) (cw_X3_X3_layChosen hts ⟨Nat.le_of_ble_eq_true rfl, Nat.le_of_ble_eq_true rfl⟩) (mB_now hK hP) (va_recv hK hP (ci := 0) (q0 := 0) rfl rfl) rfl hl.1 rfl (Nat.le_of_ble_eq_true rfl) dX3_meanOf_18 ⟨Nat.le_of_ble_eq_true rfl, Nat.le_of_ble_eq_true rfl⟩ hS (fun u_6 H locs hp_7 hP hS => ?_)
        subst hp_7
        have hP : va_P D vwCl (mX dA h ad σ.txt σ.len σ.wt σ.pr σ.tools σ.load σ.purse σ.beg σ.ways σ.told σ.calls σ.sm σ.sorts σ.visits σ.vm τ.read τ.rm τ.at_ τ.place τ.end_ τ.ents τ.em τ.combos τ.all_ (weiF σ row k j) wg wa wm wd wb (choU σ row k wc j)) H := hP
        obtain ⟨g_8, eg_8⟩ : ∃ x, x = choU σ row k wc j := ⟨_, rfl⟩
        rw [← eg_8] at hP
        obtain ⟨g_9, eg_9⟩ : ∃ x, x = weiF σ row k j := ⟨_, rfl⟩
        rw [← eg_9] at hP
        refine lv_iload_n hx hb dX3_meanOf_21 rfl (lv_at hl 4 rfl) ?_
        refine lv_if_lt (tgt := 35) hx hb dX3_meanOf_22 rfl (fun h22 => ?_) (fun h22 => ?_)
        · have h22 : q < 0 := (nz_lt (a := q) (b := 0) rfl rfl (by omega) (by omega)).mp h22
          exact absurd h22 (by omega)
        · have h22 : ¬ (q < 0) := fun z9 => h22 ((nz_lt (a := q) (b := 0) rfl rfl (by omega) (by omega)).mpr z9)
          refine lv_aload_n hx hb dX3_meanOf_25 rfl (lv_at hl 2 rfl) ?_
          refine va_get (D := D) (ci := 0) (v := .ref (ad 10)) (C := RX3) (T := TX3) (N := 31) hx hb hts in_X3 hown hK hP 0 rfl rfl 30 (by decide) (hts _ q1144) (fun _ h9 => h9) rfl dX3_meanOf_26 ?_
          refine lv_iload_n hx hb dX3_meanOf_29 rfl (lv_at hl 4 rfl) ?_
          refine wa_iald (f := g_8) hx hb hK hP 11 0 rfl rfl (q) (rfl) (by omega) (by decide) dX3_meanOf_30 ?_
          refine w_topi (y := nI (chN σ row k q)) ((ch_ok hR eg_8 q hq hq6).1) ?_
          have hcq : chN σ row k q < σ.sm (en row q) := Nat.mod_lt _ ((hR.2 q hq).resolve_left hq6).2
          have hs4 := hI.sm _ ((hR.2 q hq).resolve_left hq6).1
          refine lv_iload_n hx hb dX3_meanOf_31 rfl (lv_at hl 5 rfl) ?_
          refine lv_icmp_ne (tgt := 56) hx hb dX3_meanOf_32 rfl (fun h32 => ?_) (fun h32 => ?_)
          · have h32 : ¬ ((chN σ row k q) = s_) := fun z9 => h32 ((nz_eq (a := chN σ row k q) (b := s_) rfl rfl (by omega) (by omega)).mpr z9)
            refine lv_iinc (v := nI (k + 1)) (lv' := [(6, .int (nI (k + 1))), (4, .long (mkG σ row j bag q s_ k)), (0, .ref h), (1, .int bag), (2, .int (nI q)), (3, .int (nI s_))]) hx hb dX3_meanOf_56 hl (k := 0) rfl (nI_1 k) (by decide) rfl (fun ls hl => ?_)
            refine lv_goto (tgt := 6) hx hb dX3_meanOf_59 rfl ?_
            exact ih_3 (k + 1) g_8 g_9 wg wa wm wd wb (nI (k + 1)) (mkG σ row j bag q s_ k) ls _ _ (by omega) (by omega) rfl (by rw [mkG, if_neg h32]) (lv_sub hl [0, 1, 2, 3, 4, 5] rfl) hP hS
          · have h32 : (chN σ row k q) = s_ := (nz_eq (a := chN σ row k q) (b := s_) rfl rfl (by omega) (by omega)).mp h32
            refine lv_aload_n hx hb dX3_meanOf_35 rfl (lv_at hl 2 rfl) ?_
            refine lv_iload_n hx hb dX3_meanOf_36 rfl (lv_at hl 3 rfl) ?_
            refine lv_iconst (v := (-1)) hx hb dX3_meanOf_37 rfl ?_
            refine mcVv (As := [.int bag, .int (-1)]) (rest := []) ⟨hx, hb, hml, hown, hts⟩ (mt_X3_go_A l D dA h ad σ ((τ.read, τ.rm, τ.at_, τ.place, τ.end_, τ.ents, τ.em, τ.combos, τ.all_, g_9, wg, wa, wm, wd, wb, g_8) : Sc) hmD row j (chN σ row k) bag hI hR hem he (ch_ok hR eg_8)) (cw_X3_X3_go_A hts ⟨Nat.le_of_ble_eq_true rfl, Nat.le_of_ble_eq_true rfl⟩) (mB_now hK hP) (va_recv hK hP (ci := 0) (q0 := 0) rfl rfl) rfl hl.1 rfl (Nat.le_of_ble_eq_true rfl) dX3_meanOf_38 ⟨Nat.le_of_ble_eq_true rfl, Nat.le_of_ble_eq_true rfl⟩ hS (fun u_11 H locs hp_12 hP hS => ?_)
            subst hp_12
            have hP : va_P D vwCl (mX dA h ad σ.txt σ.len σ.wt σ.pr σ.tools σ.load σ.purse σ.beg σ.ways σ.told σ.calls σ.sm σ.sorts σ.visits σ.vm τ.read τ.rm τ.at_ τ.place τ.end_ τ.ents τ.em τ.combos τ.all_ g_9 ((goR σ row (chN σ row k) bag j).2.2.2.1) ((goR σ row (chN σ row k) bag j).2.2.2.2.2) ((goR σ row (chN σ row k) bag j).2.1) ((goR σ row (chN σ row k) bag j).2.2.2.2.1) ((goR σ row (chN σ row k) bag j).2.2.1) g_8) H := hP
            obtain ⟨g_13, eg_13⟩ : ∃ x, x = (goR σ row (chN σ row k) bag j).2.1 := ⟨_, rfl⟩
            rw [← eg_13] at hP
            obtain ⟨g_14, eg_14⟩ : ∃ x, x = (goR σ row (chN σ row k) bag j).2.2.1 := ⟨_, rfl⟩
            rw [← eg_14] at hP
            obtain ⟨g_15, eg_15⟩ : ∃ x, x = (goR σ row (chN σ row k) bag j).2.2.2.1 := ⟨_, rfl⟩
            rw [← eg_15] at hP
            obtain ⟨g_16, eg_16⟩ : ∃ x, x = (goR σ row (chN σ row k) bag j).2.2.2.2.1 := ⟨_, rfl⟩
            rw [← eg_16] at hP
            obtain ⟨g_17, eg_17⟩ : ∃ x, x = (goR σ row (chN σ row k) bag j).2.2.2.2.2 := ⟨_, rfl⟩
            rw [← eg_17] at hP
            refine lv_lload hx hb dX3_meanOf_41 (lv_at hl 1 rfl) ?_
            refine lv_aload_n hx hb dX3_meanOf_43 rfl (lv_at hl 2 rfl) ?_
            refine va_get (D := D) (ci := 0) (v := .long g_9) (C := RX3) (T := TX3) (N := 31) hx hb hts in_X3 hown hK hP 0 rfl rfl 24 (by decide) (hts _ q1138) (fun _ h9 => h9) rfl dX3_meanOf_44 ?_
            refine lv_aload_n hx hb dX3_meanOf_47 rfl (lv_at hl 2 rfl) ?_
            refine va_get (D := D) (ci := 0) (v := .int g_15) (C := RX3) (T := TX3) (N := 31) hx hb hts in_X3 hown hK hP 0 rfl rfl 25 (by decide) (hts _ q1139) (fun _ h9 => h9) rfl dX3_meanOf_48 ?_
            refine lv_i2l (v := (g_15 : Int32).toInt64) hx hb dX3_meanOf_51 rfl ?_
            refine lv_lmul hx hb dX3_meanOf_52 ?_
            refine lv_ladd hx hb dX3_meanOf_53 ?_
            refine lv_lstore (lv' := [(4, .long ((mkG σ row j bag q s_ k) + (g_9 * ((g_15 : Int32).toInt64)))), (6, .int (nI k)), (0, .ref h), (1, .int bag), (2, .int (nI q)), (3, .int (nI s_))]) hx hb dX3_meanOf_54 hl (by decide) rfl (fun ls hl => ?_)
            refine lv_iinc (v := nI (k + 1)) (lv' := [(6, .int (nI (k + 1))), (4, .long ((mkG σ row j bag q s_ k) + (g_9 * ((g_15 : Int32).toInt64)))), (0, .ref h), (1, .int bag), (2, .int (nI q)), (3, .int (nI s_))]) hx hb dX3_meanOf_56 hl (k := 1) rfl (nI_1 k) (by decide) rfl (fun ls hl => ?_)
            refine lv_goto (tgt := 6) hx hb dX3_meanOf_59 rfl ?_
            exact ih_3 (k + 1) g_8 g_9 g_15 g_17 g_13 g_16 g_14 (nI (k + 1)) ((mkG σ row j bag q s_ k) + (g_9 * ((g_15 : Int32).toInt64))) ls _ _ (by omega) (by omega) rfl (by rw [mkG, if_pos h32, eg_9, eg_15]) (lv_sub hl [0, 1, 2, 3, 4, 5] rfl) hP hS
  exact hL6_1 _ 0 τ.chosen τ.weight τ.gain τ.ad_ τ.minute τ.ds τ.bl 0 0 ls _ _ (Nat.lt_succ_self _) (by omega) rfl (by subst_vars; rw [mkG]) (lv_sub hl [0, 1, 2, 3, 4, 5] rfl) hP hS

def rmX3_doneOf : Room := { frames := 3, cells := 0, slots := 0, locals := 81 }
set_option maxHeartbeats 1000000 in
theorem mt_X3_doneOf (l : Launch) (D : va_G) (dA : Nat → ClassId) (h : Nat) (ad : Nat → Nat) (σ : St) (τ : Sc) (hmD : mD h ad) (row : Int32) (j : Nat) (bag : Int32) (hI : Inv σ) (hR : okR σ row j) (hem : τ.em = nI j) (he : ∀ i, i < j → τ.ents i = nI (en row i)) (hco : τ.combos = nI (comN σ row j)) : Met l yX3_doneOf (ws_ yX3_doneOf cX3_doneOf 5 (some .long)) rmX3_doneOf (va_Pc [.ref h, .int bag] (mB D dA h ad σ τ)) (va_Ql (fun r (u : MS) => r = dnF σ row j bag ∧ u.1 = σ ∧ u.2.read = τ.read ∧ u.2.rm = τ.rm ∧ u.2.at_ = τ.at_ ∧ u.2.place = τ.place ∧ u.2.end_ = τ.end_ ∧ u.2.ents = τ.ents ∧ u.2.em = τ.em ∧ u.2.combos = τ.combos ∧ u.2.all_ = τ.all_) (fun u t => mB D dA h ad u.1 u.2 t) (mA h ad)) 0 0 (mA h ad) := by
  refine w_start (by decide) (Nat.le_of_ble_eq_true rfl) ?_
  intro p e s m args below meth c Q ls hQ hx hb hr hlocks hml hown hnm hts hB hl
  have hown : s.vm.findClass RX3 = some m.cls := hown
  have hl : lv_has ls 5 [(0, .ref h), (1, .int bag)] := hl
  obtain ⟨hP, hK⟩ := hB
  have hP : va_P D vwCl (mX dA h ad σ.txt σ.len σ.wt σ.pr σ.tools σ.load σ.purse σ.beg σ.ways σ.told σ.calls σ.sm σ.sorts σ.visits σ.vm τ.read τ.rm τ.at_ τ.place τ.end_ τ.ents τ.em τ.combos τ.all_ τ.weight τ.gain τ.ad_ τ.minute τ.ds τ.bl τ.chosen) s.heap := hP
  have hS : va_S (mA h ad) s.heap s.heap [] := va_S.rf
  have hj := hR.1
  have hcb := com_bd hI hR
  refine lv_lconst (v := 0) hx hb dX3_doneOf_0 rfl ?_
  refine lv_lstore_n (lv' := [(2, .long 0), (0, .ref h), (1, .int bag)]) hx hb dX3_doneOf_1 rfl hl (by decide) rfl (fun ls hl => ?_)
  refine lv_iconst (v := 0) hx hb dX3_doneOf_2 rfl ?_
  refine lv_istore (lv' := [(4, .int 0), (2, .long 0), (0, .ref h), (1, .int bag)]) hx hb dX3_doneOf_3 hl (by decide) rfl (fun ls hl => ?_)
  have hL5_1 : ∀ (n_2 : Nat) (k : Nat) (wc : Nat → Int32) (ww : Int64) (wg : Int32) (wa : Int32) (wm : Int32) (wd : Int32) (wb : Int32) (x4 : Int32) (x2 : Int64) (ls : Array Slot) (H : Heap) (locs : List Loc), (comN σ row j - k) < n_2 → (k ≤ comN σ row j) → x4 = (nI k) → x2 = (dnG σ row j bag k) → lv_has ls 5 [(4, .int x4), (2, .long x2), (0, .ref h), (1, .int bag)] → va_P D vwCl (mX dA h ad σ.txt σ.len σ.wt σ.pr σ.tools σ.load σ.purse σ.beg σ.ways σ.told σ.calls σ.sm σ.sorts σ.visits σ.vm τ.read τ.rm τ.at_ τ.place τ.end_ τ.ents τ.em τ.combos τ.all_ ww wg wa wm wd wb wc) H → va_S (mA h ad) s.heap H locs → W p l e rmX3_doneOf s m args below meth c H locs 0 0 Q (F0 m 5 ls []) := by
    intro n_2
    induction n_2 with
    | zero => intro k wc ww wg wa wm wd wb x4 x2 ls H locs hm_4; exact absurd hm_4 (Nat.not_lt_zero _)
    | succ n_2 ih_3 =>
      intro k wc ww wg wa wm wd wb x4 x2 ls H locs hm_4 hk ex4 ex2 hl hP hS
      subst ex4 ex2
      refine lv_iload hx hb dX3_doneOf_5 (lv_at hl 0 rfl) ?_
      refine lv_aload_n hx hb dX3_doneOf_7 rfl (lv_at hl 2 rfl) ?_
      refine va_get (D := D) (ci := 0) (v := .int τ.combos) (C := RX3) (T := TX3) (N := 31) hx hb hts in_X3 hown hK hP 0 rfl rfl 22 (by decide) (hts _ q1136) (fun _ h9 => h9) rfl dX3_doneOf_8 ?_
      refine lv_icmp_ge (tgt := 50) hx hb dX3_doneOf_11 rfl (fun h11 => ?_) (fun h11 => ?_)
      · have h11 : (comN σ row j) ≤ k := (nz_le (a := comN σ row j) (b := k) hco rfl (by omega) (by omega)).mp h11
        have hk_ : k = comN σ row j := by omega
        subst hk_
        refine lv_lload_n hx hb dX3_doneOf_50 rfl (lv_at hl 1 rfl) ?_
        exact rm_l (u := (σ, ((τ.read, τ.rm, τ.at_, τ.place, τ.end_, τ.ents, τ.em, τ.combos, τ.all_, ww, wg, wa, wm, wd, wb, wc) : Sc))) hQ hx hb hr hlocks hK hP hS (⟨rfl, rfl, rfl, rfl, rfl, rfl, rfl, rfl, rfl, rfl, rfl⟩) dX3_doneOf_51
      · have h11 : ¬ ((comN σ row j) ≤ k) := fun z9 => h11 ((nz_le (a := comN σ row j) (b := k) hco rfl (by omega) (by omega)).mpr z9)
        refine lv_aload_n hx hb dX3_doneOf_14 rfl (lv_at hl 2 rfl) ?_
        refine lv_iload hx hb dX3_doneOf_15 (lv_at hl 0 rfl) ?_
        refine mcVv (As := [.int (nI k)]) (rest := []) ⟨hx, hb, hml, hown, hts⟩ (mt_X3_layChosen l D dA h ad σ ((τ.read, τ.rm, τ.at_, τ.place, τ.end_, τ.ents, τ.em, τ.combos, τ.all_, ww, wg, wa, wm, wd, wb, wc) : Sc) hmD row j k hI hR hem he (by omega)) (cw_X3_X3_layChosen hts ⟨Nat.le_of_ble_eq_true rfl, Nat.le_of_ble_eq_true rfl⟩) (mB_now hK hP) (va_recv hK hP (ci := 0) (q0 := 0) rfl rfl) rfl hl.1 rfl (Nat.le_of_ble_eq_true rfl) dX3_doneOf_17 ⟨Nat.le_of_ble_eq_true rfl, Nat.le_of_ble_eq_true rfl⟩ hS (fun u_6 H locs hp_7 hP hS => ?_)
        subst hp_7
        have hP : va_P D vwCl (mX dA h ad σ.txt σ.len σ.wt σ.pr σ.tools σ.load σ.purse σ.beg σ.ways σ.told σ.calls σ.sm σ.sorts σ.visits σ.vm τ.read τ.rm τ.at_ τ.place τ.end_ τ.ents τ.em τ.combos τ.all_ (weiF σ row k j) wg wa wm wd wb (choU σ row k wc j)) H := hP
        obtain ⟨g_8, eg_8⟩ : ∃ x, x = choU σ row k wc j := ⟨_, rfl⟩
        rw [← eg_8] at hP
        obtain ⟨g_9, eg_9⟩ : ∃ x, x = weiF σ row k j := ⟨_, rfl⟩
        rw [← eg_9] at hP
        refine lv_aload_n hx hb dX3_doneOf_20 rfl (lv_at hl 2 rfl) ?_
        refine lv_iload_n hx hb dX3_doneOf_21 rfl (lv_at hl 3 rfl) ?_
        refine lv_iconst (v := (-1)) hx hb dX3_doneOf_22 rfl ?_
        refine mcVv (As := [.int bag, .int (-1)]) (rest := []) ⟨hx, hb, hml, hown, hts⟩ (mt_X3_go_A l D dA h ad σ ((τ.read, τ.rm, τ.at_, τ.place, τ.end_, τ.ents, τ.em, τ.combos, τ.all_, g_9, wg, wa, wm, wd, wb, g_8) : Sc) hmD row j (chN σ row k) bag hI hR hem he (ch_ok hR eg_8)) (cw_X3_X3_go_A hts ⟨Nat.le_of_ble_eq_true rfl, Nat.le_of_ble_eq_true rfl⟩) (mB_now hK hP) (va_recv hK hP (ci := 0) (q0 := 0) rfl rfl) rfl hl.1 rfl (Nat.le_of_ble_eq_true rfl) dX3_doneOf_23 ⟨Nat.le_of_ble_eq_true rfl, Nat.le_of_ble_eq_true rfl⟩ hS (fun u_11 H locs hp_12 hP hS => ?_)
        subst hp_12
        have hP : va_P D vwCl (mX dA h ad σ.txt σ.len σ.wt σ.pr σ.tools σ.load σ.purse σ.beg σ.ways σ.told σ.calls σ.sm σ.sorts σ.visits σ.vm τ.read τ.rm τ.at_ τ.place τ.end_ τ.ents τ.em τ.combos τ.all_ g_9 ((goR σ row (chN σ row k) bag j).2.2.2.1) ((goR σ row (chN σ row k) bag j).2.2.2.2.2) ((goR σ row (chN σ row k) bag j).2.1) ((goR σ row (chN σ row k) bag j).2.2.2.2.1) ((goR σ row (chN σ row k) bag j).2.2.1) g_8) H := hP
        obtain ⟨g_13, eg_13⟩ : ∃ x, x = (goR σ row (chN σ row k) bag j).2.1 := ⟨_, rfl⟩
        rw [← eg_13] at hP
        obtain ⟨g_14, eg_14⟩ : ∃ x, x = (goR σ row (chN σ row k) bag j).2.2.1 := ⟨_, rfl⟩
        rw [← eg_14] at hP
        obtain ⟨g_15, eg_15⟩ : ∃ x, x = (goR σ row (chN σ row k) bag j).2.2.2.1 := ⟨_, rfl⟩
        rw [← eg_15] at hP
        obtain ⟨g_16, eg_16⟩ : ∃ x, x = (goR σ row (chN σ row k) bag j).2.2.2.2.1 := ⟨_, rfl⟩
        rw [← eg_16] at hP
        obtain ⟨g_17, eg_17⟩ : ∃ x, x = (goR σ row (chN σ row k) bag j).2.2.2.2.2 := ⟨_, rfl⟩
        rw [← eg_17] at hP
        refine lv_lload_n hx hb dX3_doneOf_26 rfl (lv_at hl 1 rfl) ?_
        refine lv_aload_n hx hb dX3_doneOf_27 rfl (lv_at hl 2 rfl) ?_
        refine va_get (D := D) (ci := 0) (v := .int g_17) (C := RX3) (T := TX3) (N := 31) hx hb hts in_X3 hown hK hP 0 rfl rfl 26 (by decide) (hts _ q1140) (fun _ h9 => h9) rfl dX3_doneOf_28 ?_
        have hJ42_18 : ∀ (v_19 : Int64) (ls : Array Slot), v_19 = (if g_17 = 0 then 0 else g_9) → lv_has ls 5 [(4, .int (nI k)), (2, .long (dnG σ row j bag k)), (0, .ref h), (1, .int bag)] → W p l e rmX3_doneOf s m args below meth c H locs 0 0 Q (F0 m 42 ls [.long v_19, .long (dnG σ row j bag k)]) := by
          intro v_19 ls ev_19 hl
          refine lv_ladd hx hb dX3_doneOf_42 ?_
          refine lv_lstore_n (lv' := [(2, .long ((dnG σ row j bag k) + v_19)), (4, .int (nI k)), (0, .ref h), (1, .int bag)]) hx hb dX3_doneOf_43 rfl hl (by decide) rfl (fun ls hl => ?_)
          refine lv_iinc (v := nI (k + 1)) (lv' := [(4, .int (nI (k + 1))), (2, .long ((dnG σ row j bag k) + v_19)), (0, .ref h), (1, .int bag)]) hx hb dX3_doneOf_44 hl (k := 1) rfl (nI_1 k) (by decide) rfl (fun ls hl => ?_)
          refine lv_goto (tgt := 5) hx hb dX3_doneOf_47 rfl ?_
          exact ih_3 (k + 1) g_8 g_9 g_15 g_17 g_13 g_16 g_14 (nI (k + 1)) ((dnG σ row j bag k) + v_19) ls _ _ (by omega) (by omega) rfl (by subst_vars; rw [dnG]) (lv_sub hl [0, 1, 2, 3] rfl) hP hS
        refine lv_if_eq (tgt := 41) hx hb dX3_doneOf_31 rfl (fun h31 => ?_) (fun h31 => ?_)
        · have h31 : g_17 = 0 := h31
          refine lv_lconst (v := 0) hx hb dX3_doneOf_41 rfl ?_
          exact hJ42_18 (0) ls (by rw [if_pos h31]) (lv_sub hl [0, 1, 2, 3] rfl)
        · have h31 : ¬ (g_17 = 0) := h31
          refine lv_aload_n hx hb dX3_doneOf_34 rfl (lv_at hl 2 rfl) ?_
          refine va_get (D := D) (ci := 0) (v := .long g_9) (C := RX3) (T := TX3) (N := 31) hx hb hts in_X3 hown hK hP 0 rfl rfl 24 (by decide) (hts _ q1138) (fun _ h9 => h9) rfl dX3_doneOf_35 ?_
          refine lv_goto (tgt := 42) hx hb dX3_doneOf_38 rfl ?_
          exact hJ42_18 (g_9) ls (by subst_vars; rw [if_neg h31]) (lv_sub hl [0, 1, 2, 3] rfl)
  exact hL5_1 _ 0 τ.chosen τ.weight τ.gain τ.ad_ τ.minute τ.ds τ.bl 0 0 ls _ _ (Nat.lt_succ_self _) (by omega) rfl (by subst_vars; rw [dnG]) (lv_sub hl [0, 1, 2, 3] rfl) hP hS

def meanF (σ : St) (bag row n w : Int32) : Int64 := if refBF σ bag row n = 0 then (if partP w then lowF (mnF σ row (ix n) bag) (allP σ row (ix n)) w else -8999999999999999997) else if refBF σ bag row n = -2 then -8999999999999999998 else -8999999999999999997
def allF (σ : St) (bag row n w : Int32) : Int64 := if refBF σ bag row n = 0 then (if partP w then lowF (dnF σ row (ix n) bag) (allP σ row (ix n)) w else -3) else if refBF σ bag row n = -2 then -2 else -3
def endF (σ : St) (bag row n : Int32) : Int32 := if refBF σ bag row n = 0 then edF σ row (ix n) bag else refBF σ bag row n
theorem refB_ok {σ : St} {bag row n : Int32} (h : refBF σ bag row n = 0) : refF σ row n = 0 ∧ bagP bag := by
  unfold refBF at h
  by_cases h1 : refF σ row n = 0
  · by_cases h2 : bagP bag
    · exact ⟨h1, h2⟩
    · rw [if_pos h1, if_neg h2] at h; exact absurd h (by decide)
  · rw [if_neg h1] at h; exact absurd h h1

theorem cw_X3_X3_refusesBag {R : Room} {s : State} {args : Array Value} (hts : ∀ w ∈ lw_all, w.before args s = true) (hR : rmX3_refusesBag.frames + 1 ≤ R.frames ∧ 8 + (5 + 11) + rmX3_refusesBag.locals ≤ R.locals) : CallW R s args RX3 RX3 234 yX3_refusesBag cX3_refusesBag 5 (some .int) (ws_ yX3_refusesBag cX3_refusesBag 5 (some .int)) rmX3_refusesBag 0 0 3 := cwV 3 hts (lw_V q1368 q1370 qs52 q83 q1371) rfl rfl rfl (by decide +kernel) hR
theorem cw_X3_X3_layRow {R : Room} {s : State} {args : Array Value} (hts : ∀ w ∈ lw_all, w.before args s = true) (hR : rmX3_layRow.frames + 1 ≤ R.frames ∧ 8 + (5 + 11) + rmX3_layRow.locals ≤ R.locals) : CallW R s args RX3 RX3 241 yX3_layRow cX3_layRow 5 none (ws_ yX3_layRow cX3_layRow 5 none) rmX3_layRow 0 0 2 := cwV 2 hts (lw_V q1379 q1381 qs54 q83 q1382) rfl rfl rfl (by decide +kernel) hR
theorem cw_X3_X3_meanOf_A {R : Room} {s : State} {args : Array Value} (hts : ∀ w ∈ lw_all, w.before args s = true) (hR : rmX3_meanOf_A.frames + 1 ≤ R.frames ∧ 8 + (7 + 11) + rmX3_meanOf_A.locals ≤ R.locals) : CallW R s args RX3 RX3 244 yX3_meanOf cX3_meanOf 7 (some .long) (ws_ yX3_meanOf cX3_meanOf 7 (some .long)) rmX3_meanOf_A 0 0 3 := cwV 3 hts (lw_V q1383 q1385 qs55 q83 q1386) rfl rfl rfl (by decide +kernel) hR
def rmX3_mean : Room := { frames := 5, cells := 0, slots := 0, locals := 117 }
set_option maxHeartbeats 1000000 in
theorem mt_X3_mean (l : Launch) (D : va_G) (dA : Nat → ClassId) (h : Nat) (ad : Nat → Nat) (σ : St) (τ : Sc) (hmD : mD h ad) (bag : Int32) (row : Int32) (n_ : Int32) (w : Int32) (hI : Inv σ) : Met l yX3_mean (ws_ yX3_mean cX3_mean 6 (some .long)) rmX3_mean (va_Pc [.ref h, .int bag, .int row, .int n_, .int w] (mB D dA h ad σ τ)) (va_Ql (fun r (u : MS) => r = meanF σ bag row n_ w ∧ u.1 = σ) (fun u t => mB D dA h ad u.1 u.2 t) (mA h ad)) 0 0 (mA h ad) := by
  refine w_start (by decide) (Nat.le_of_ble_eq_true rfl) ?_
  intro p e s m args below meth c Q ls hQ hx hb hr hlocks hml hown hnm hts hB hl
  have hown : s.vm.findClass RX3 = some m.cls := hown
  have hl : lv_has ls 6 [(0, .ref h), (1, .int bag), (2, .int row), (3, .int n_), (4, .int w)] := hl
  obtain ⟨hP, hK⟩ := hB
  have hP : va_P D vwCl (mX dA h ad σ.txt σ.len σ.wt σ.pr σ.tools σ.load σ.purse σ.beg σ.ways σ.told σ.calls σ.sm σ.sorts σ.visits σ.vm τ.read τ.rm τ.at_ τ.place τ.end_ τ.ents τ.em τ.combos τ.all_ τ.weight τ.gain τ.ad_ τ.minute τ.ds τ.bl τ.chosen) s.heap := hP
  have hS : va_S (mA h ad) s.heap s.heap [] := va_S.rf
  refine lv_aload_n hx hb dX3_mean_0 rfl (lv_at hl 0 rfl) ?_
  refine lv_iload_n hx hb dX3_mean_1 rfl (lv_at hl 1 rfl) ?_
  refine lv_iload_n hx hb dX3_mean_2 rfl (lv_at hl 2 rfl) ?_
  refine lv_iload_n hx hb dX3_mean_3 rfl (lv_at hl 3 rfl) ?_
  refine cVi (As := [.int bag, .int row, .int n_]) (rest := []) ⟨hx, hb, hml, hown, hts⟩ (mt_X3_refusesBag l D dA h ad σ τ bag row n_ hI) (cw_X3_X3_refusesBag hts ⟨Nat.le_of_ble_eq_true rfl, Nat.le_of_ble_eq_true rfl⟩) mB_bl (mB_now hK hP) (va_recv hK hP (ci := 0) (q0 := 0) rfl rfl) rfl hl.1 rfl (Nat.le_of_ble_eq_true rfl) dX3_mean_4 ⟨Nat.le_of_ble_eq_true rfl, Nat.le_of_ble_eq_true rfl⟩ ?_
  refine lv_istore (lv' := [(5, .int (refBF σ bag row n_)), (0, .ref h), (1, .int bag), (2, .int row), (3, .int n_), (4, .int w)]) hx hb dX3_mean_7 hl (by decide) rfl (fun ls hl => ?_)
  refine lv_iload hx hb dX3_mean_9 (lv_at hl 0 rfl) ?_
  refine lv_if_ne (tgt := 22) hx hb dX3_mean_11 rfl (fun h11 => ?_) (fun h11 => ?_)
  · have h11 : ¬ ((refBF σ bag row n_) = 0) := h11
    refine lv_iload hx hb dX3_mean_22 (lv_at hl 0 rfl) ?_
    refine lv_bipush (v := (-2)) hx hb dX3_mean_24 rfl ?_
    refine lv_icmp_ne (tgt := 35) hx hb dX3_mean_26 rfl (fun h26 => ?_) (fun h26 => ?_)
    · have h26 : ¬ ((refBF σ bag row n_) = (-2)) := h26
      refine lv_ldc2 (v := (-8999999999999999997)) hx hb hown (hts _ q1378) dX3_mean_35 ?_
      exact rm_l (u := (σ, τ)) hQ hx hb hr hlocks hK hP hS (⟨by subst_vars; simp only [meanF, eq_false h11, eq_false h26, if_true, if_false, ite_true, ite_false, not_true_eq_false, not_false_eq_true, and_true, true_and, and_false, false_and, or_true, true_or, or_false, false_or, and_self, or_self, eq_self], rfl⟩) dX3_mean_38
    · have h26 : (refBF σ bag row n_) = (-2) := h26
      refine lv_ldc2 (v := (-8999999999999999998)) hx hb hown (hts _ q1377) dX3_mean_29 ?_
      refine lv_goto (tgt := 38) hx hb dX3_mean_32 rfl ?_
      exact rm_l (u := (σ, τ)) hQ hx hb hr hlocks hK hP hS (⟨by subst_vars; simp only [meanF, eq_false h11, eq_true h26, if_true, if_false, ite_true, ite_false, not_true_eq_false, not_false_eq_true, and_true, true_and, and_false, false_and, or_true, true_or, or_false, false_or, and_self, or_self, eq_self], rfl⟩) dX3_mean_38
  · have h11 : (refBF σ bag row n_) = 0 := h11
    obtain ⟨j, hj1, hj6, rfl, hR, htw⟩ := ref_ok (refB_ok h11).1
    have hix : ix (nI j) = j := ix_nI (Nat.lt_succ_of_le hj6) (by decide)
    refine lv_iload hx hb dX3_mean_14 (lv_at hl 5 rfl) ?_
    refine cSi (As := [.int w]) (rest := []) ⟨hx, hb, hml, hown, hts⟩ (mt_X3_isPart l w) (cw_X3_X3_isPart hts ⟨Nat.le_of_ble_eq_true rfl, Nat.le_of_ble_eq_true rfl⟩) w_blT (fun _ _ _ => trivial) rfl hl.1 rfl (Nat.le_of_ble_eq_true rfl) dX3_mean_16 ⟨Nat.le_of_ble_eq_true rfl, Nat.le_of_ble_eq_true rfl⟩ ?_
    refine lv_if_ne (tgt := 39) hx hb dX3_mean_19 rfl (fun h19 => ?_) (fun h19 => ?_)
    · have h19 : partP w := b01_n h19
      refine lv_aload_n hx hb dX3_mean_39 rfl (lv_at hl 1 rfl) ?_
      refine lv_iload_n hx hb dX3_mean_40 rfl (lv_at hl 3 rfl) ?_
      refine lv_iload_n hx hb dX3_mean_41 rfl (lv_at hl 4 rfl) ?_
      refine mcVv (As := [.int row, .int (nI j)]) (rest := []) ⟨hx, hb, hml, hown, hts⟩ (mt_X3_layRow l D dA h ad σ τ hmD row j hI hR) (cw_X3_X3_layRow hts ⟨Nat.le_of_ble_eq_true rfl, Nat.le_of_ble_eq_true rfl⟩) (mB_now hK hP) (va_recv hK hP (ci := 0) (q0 := 0) rfl rfl) rfl hl.1 rfl (Nat.le_of_ble_eq_true rfl) dX3_mean_42 ⟨Nat.le_of_ble_eq_true rfl, Nat.le_of_ble_eq_true rfl⟩ hS (fun u_2 H locs hp_3 hP hS => ?_)
      subst hp_3
      have hP : va_P D vwCl (mX dA h ad σ.txt σ.len σ.wt σ.pr σ.tools σ.load σ.purse σ.beg σ.ways σ.told σ.calls σ.sm σ.sorts σ.visits σ.vm τ.read τ.rm τ.at_ τ.place τ.end_ (entU row τ.ents j) (nI j) (nI (comN σ row j)) (allP σ row j) τ.weight τ.gain τ.ad_ τ.minute τ.ds τ.bl τ.chosen) H := hP
      obtain ⟨g_4, eg_4⟩ : ∃ x, x = entU row τ.ents j := ⟨_, rfl⟩
      rw [← eg_4] at hP
      obtain ⟨g_5, eg_5⟩ : ∃ x, x = nI (comN σ row j) := ⟨_, rfl⟩
      rw [← eg_5] at hP
      obtain ⟨g_6, eg_6⟩ : ∃ x, x = allP σ row j := ⟨_, rfl⟩
      rw [← eg_6] at hP
      refine lv_aload_n hx hb dX3_mean_45 rfl (lv_at hl 1 rfl) ?_
      refine lv_iload_n hx hb dX3_mean_46 rfl (lv_at hl 2 rfl) ?_
      refine lv_iconst (v := (-1)) hx hb dX3_mean_47 rfl ?_
      refine lv_iconst (v := 0) hx hb dX3_mean_48 rfl ?_
      refine mcVl (As := [.int bag, .int (-1), .int 0]) (rest := []) ⟨hx, hb, hml, hown, hts⟩ (mt_X3_meanOf_A l D dA h ad σ ((τ.read, τ.rm, τ.at_, τ.place, τ.end_, g_4, nI j, g_5, g_6, τ.weight, τ.gain, τ.ad_, τ.minute, τ.ds, τ.bl, τ.chosen) : Sc) hmD row j bag hI hR rfl (fun i hi => by rw [eg_4]; exact entU_at j i hi) eg_5) (cw_X3_X3_meanOf_A hts ⟨Nat.le_of_ble_eq_true rfl, Nat.le_of_ble_eq_true rfl⟩) (mB_now hK hP) (va_recv hK hP (ci := 0) (q0 := 0) rfl rfl) rfl hl.1 rfl (Nat.le_of_ble_eq_true rfl) dX3_mean_49 ⟨Nat.le_of_ble_eq_true rfl, Nat.le_of_ble_eq_true rfl⟩ hS (fun r_7 u_8 H locs hp_9 hP hS => ?_)
      obtain ⟨rfl, hu_19, k_10, k_11, k_12, k_13, k_14, k_15, k_16, k_17, k_18⟩ := hp_9
      have hP : va_P D vwCl (mX dA h ad u_8.1.txt u_8.1.len u_8.1.wt u_8.1.pr u_8.1.tools u_8.1.load u_8.1.purse u_8.1.beg u_8.1.ways u_8.1.told u_8.1.calls u_8.1.sm u_8.1.sorts u_8.1.visits u_8.1.vm u_8.2.read u_8.2.rm u_8.2.at_ u_8.2.place u_8.2.end_ u_8.2.ents u_8.2.em u_8.2.combos u_8.2.all_ u_8.2.weight u_8.2.gain u_8.2.ad_ u_8.2.minute u_8.2.ds u_8.2.bl u_8.2.chosen) H := hP
      rw [hu_19, k_10, k_11, k_12, k_13, k_14, k_15, k_16, k_17, k_18] at hP
      clear hu_19 k_10 k_11 k_12 k_13 k_14 k_15 k_16 k_17 k_18
      have hP : va_P D vwCl (mX dA h ad σ.txt σ.len σ.wt σ.pr σ.tools σ.load σ.purse σ.beg σ.ways σ.told σ.calls σ.sm σ.sorts σ.visits σ.vm τ.read τ.rm τ.at_ τ.place τ.end_ g_4 (nI j) g_5 g_6 u_8.2.weight u_8.2.gain u_8.2.ad_ u_8.2.minute u_8.2.ds u_8.2.bl u_8.2.chosen) H := hP
      refine lv_aload_n hx hb dX3_mean_52 rfl (lv_at hl 1 rfl) ?_
      refine va_get (D := D) (ci := 0) (v := .long g_6) (C := RX3) (T := TX3) (N := 31) hx hb hts in_X3 hown hK hP 0 rfl rfl 23 (by decide) (hts _ q1137) (fun _ h9 => h9) rfl dX3_mean_53 ?_
      refine lv_iload hx hb dX3_mean_56 (lv_at hl 5 rfl) ?_
      refine cSl (As := [.long (mnF σ row j bag), .long g_6, .int w]) (rest := []) ⟨hx, hb, hml, hown, hts⟩ (mt_X3_lowest l (mnF σ row j bag) g_6 w (by rw [eg_6]; exact all_ne hI hR)) (cw_X3_X3_lowest hts ⟨Nat.le_of_ble_eq_true rfl, Nat.le_of_ble_eq_true rfl⟩) w_blT (fun _ _ _ => trivial) rfl hl.1 rfl (Nat.le_of_ble_eq_true rfl) dX3_mean_58 ⟨Nat.le_of_ble_eq_true rfl, Nat.le_of_ble_eq_true rfl⟩ ?_
      exact rm_l (u := (σ, ((τ.read, τ.rm, τ.at_, τ.place, τ.end_, g_4, nI j, g_5, g_6, u_8.2.weight, u_8.2.gain, u_8.2.ad_, u_8.2.minute, u_8.2.ds, u_8.2.bl, u_8.2.chosen) : Sc))) hQ hx hb hr hlocks hK hP hS (⟨by subst_vars; simp only [meanF, eq_true h11, eq_true h19, hix, if_true, if_false, ite_true, ite_false, not_true_eq_false, not_false_eq_true, and_true, true_and, and_false, false_and, or_true, true_or, or_false, false_or, and_self, or_self, eq_self], rfl⟩) dX3_mean_61
    · have h19 : ¬ (partP w) := b01_0.mp h19
      refine lv_iload hx hb dX3_mean_22 (lv_at hl 0 rfl) ?_
      refine lv_bipush (v := (-2)) hx hb dX3_mean_24 rfl ?_
      refine lv_icmp_ne (tgt := 35) hx hb dX3_mean_26 rfl (fun h26 => ?_) (fun h26 => ?_)
      · have h26 : ¬ ((refBF σ bag row (nI j)) = (-2)) := h26
        refine lv_ldc2 (v := (-8999999999999999997)) hx hb hown (hts _ q1378) dX3_mean_35 ?_
        exact rm_l (u := (σ, τ)) hQ hx hb hr hlocks hK hP hS (⟨by subst_vars; simp only [meanF, eq_true h11, eq_false h19, eq_false h26, hix, if_true, if_false, ite_true, ite_false, not_true_eq_false, not_false_eq_true, and_true, true_and, and_false, false_and, or_true, true_or, or_false, false_or, and_self, or_self, eq_self], rfl⟩) dX3_mean_38
      · have h26 : (refBF σ bag row (nI j)) = (-2) := h26
        refine lv_ldc2 (v := (-8999999999999999998)) hx hb hown (hts _ q1377) dX3_mean_29 ?_
        refine lv_goto (tgt := 38) hx hb dX3_mean_32 rfl ?_
        exact rm_l (u := (σ, τ)) hQ hx hb hr hlocks hK hP hS (⟨absurd (h11.symm.trans h26) (by decide), rfl⟩) dX3_mean_38

theorem cw_X3_X3_doneOf {R : Room} {s : State} {args : Array Value} (hts : ∀ w ∈ lw_all, w.before args s = true) (hR : rmX3_doneOf.frames + 1 ≤ R.frames ∧ 8 + (5 + 11) + rmX3_doneOf.locals ≤ R.locals) : CallW R s args RX3 RX3 252 yX3_doneOf cX3_doneOf 5 (some .long) (ws_ yX3_doneOf cX3_doneOf 5 (some .long)) rmX3_doneOf 0 0 1 := cwV 1 hts (lw_V q1406 q1408 qs59 q83 q1409) rfl rfl rfl (by decide +kernel) hR
def rmX3_all : Room := { frames := 5, cells := 0, slots := 0, locals := 117 }
set_option maxHeartbeats 1000000 in
theorem mt_X3_all (l : Launch) (D : va_G) (dA : Nat → ClassId) (h : Nat) (ad : Nat → Nat) (σ : St) (τ : Sc) (hmD : mD h ad) (bag : Int32) (row : Int32) (n_ : Int32) (w : Int32) (hI : Inv σ) : Met l yX3_all (ws_ yX3_all cX3_all 6 (some .long)) rmX3_all (va_Pc [.ref h, .int bag, .int row, .int n_, .int w] (mB D dA h ad σ τ)) (va_Ql (fun r (u : MS) => r = allF σ bag row n_ w ∧ u.1 = σ) (fun u t => mB D dA h ad u.1 u.2 t) (mA h ad)) 0 0 (mA h ad) := by
  refine w_start (by decide) (Nat.le_of_ble_eq_true rfl) ?_
  intro p e s m args below meth c Q ls hQ hx hb hr hlocks hml hown hnm hts hB hl
  have hown : s.vm.findClass RX3 = some m.cls := hown
  have hl : lv_has ls 6 [(0, .ref h), (1, .int bag), (2, .int row), (3, .int n_), (4, .int w)] := hl
  obtain ⟨hP, hK⟩ := hB
  have hP : va_P D vwCl (mX dA h ad σ.txt σ.len σ.wt σ.pr σ.tools σ.load σ.purse σ.beg σ.ways σ.told σ.calls σ.sm σ.sorts σ.visits σ.vm τ.read τ.rm τ.at_ τ.place τ.end_ τ.ents τ.em τ.combos τ.all_ τ.weight τ.gain τ.ad_ τ.minute τ.ds τ.bl τ.chosen) s.heap := hP
  have hS : va_S (mA h ad) s.heap s.heap [] := va_S.rf
  refine lv_aload_n hx hb dX3_all_0 rfl (lv_at hl 0 rfl) ?_
  refine lv_iload_n hx hb dX3_all_1 rfl (lv_at hl 1 rfl) ?_
  refine lv_iload_n hx hb dX3_all_2 rfl (lv_at hl 2 rfl) ?_
  refine lv_iload_n hx hb dX3_all_3 rfl (lv_at hl 3 rfl) ?_
  refine cVi (As := [.int bag, .int row, .int n_]) (rest := []) ⟨hx, hb, hml, hown, hts⟩ (mt_X3_refusesBag l D dA h ad σ τ bag row n_ hI) (cw_X3_X3_refusesBag hts ⟨Nat.le_of_ble_eq_true rfl, Nat.le_of_ble_eq_true rfl⟩) mB_bl (mB_now hK hP) (va_recv hK hP (ci := 0) (q0 := 0) rfl rfl) rfl hl.1 rfl (Nat.le_of_ble_eq_true rfl) dX3_all_4 ⟨Nat.le_of_ble_eq_true rfl, Nat.le_of_ble_eq_true rfl⟩ ?_
  refine lv_istore (lv' := [(5, .int (refBF σ bag row n_)), (0, .ref h), (1, .int bag), (2, .int row), (3, .int n_), (4, .int w)]) hx hb dX3_all_7 hl (by decide) rfl (fun ls hl => ?_)
  refine lv_iload hx hb dX3_all_9 (lv_at hl 0 rfl) ?_
  refine lv_if_ne (tgt := 22) hx hb dX3_all_11 rfl (fun h11 => ?_) (fun h11 => ?_)
  · have h11 : ¬ ((refBF σ bag row n_) = 0) := h11
    refine lv_iload hx hb dX3_all_22 (lv_at hl 0 rfl) ?_
    refine lv_bipush (v := (-2)) hx hb dX3_all_24 rfl ?_
    refine lv_icmp_ne (tgt := 35) hx hb dX3_all_26 rfl (fun h26 => ?_) (fun h26 => ?_)
    · have h26 : ¬ ((refBF σ bag row n_) = (-2)) := h26
      refine lv_ldc2 (v := (-3)) hx hb hown (hts _ q1405) dX3_all_35 ?_
      exact rm_l (u := (σ, τ)) hQ hx hb hr hlocks hK hP hS (⟨by subst_vars; simp only [allF, eq_false h11, eq_false h26, if_true, if_false, ite_true, ite_false, not_true_eq_false, not_false_eq_true, and_true, true_and, and_false, false_and, or_true, true_or, or_false, false_or, and_self, or_self, eq_self], rfl⟩) dX3_all_38
    · have h26 : (refBF σ bag row n_) = (-2) := h26
      refine lv_ldc2 (v := (-2)) hx hb hown (hts _ q1404) dX3_all_29 ?_
      refine lv_goto (tgt := 38) hx hb dX3_all_32 rfl ?_
      exact rm_l (u := (σ, τ)) hQ hx hb hr hlocks hK hP hS (⟨by subst_vars; simp only [allF, eq_false h11, eq_true h26, if_true, if_false, ite_true, ite_false, not_true_eq_false, not_false_eq_true, and_true, true_and, and_false, false_and, or_true, true_or, or_false, false_or, and_self, or_self, eq_self], rfl⟩) dX3_all_38
  · have h11 : (refBF σ bag row n_) = 0 := h11
    obtain ⟨j, hj1, hj6, rfl, hR, htw⟩ := ref_ok (refB_ok h11).1
    have hix : ix (nI j) = j := ix_nI (Nat.lt_succ_of_le hj6) (by decide)
    refine lv_iload hx hb dX3_all_14 (lv_at hl 5 rfl) ?_
    refine cSi (As := [.int w]) (rest := []) ⟨hx, hb, hml, hown, hts⟩ (mt_X3_isPart l w) (cw_X3_X3_isPart hts ⟨Nat.le_of_ble_eq_true rfl, Nat.le_of_ble_eq_true rfl⟩) w_blT (fun _ _ _ => trivial) rfl hl.1 rfl (Nat.le_of_ble_eq_true rfl) dX3_all_16 ⟨Nat.le_of_ble_eq_true rfl, Nat.le_of_ble_eq_true rfl⟩ ?_
    refine lv_if_ne (tgt := 39) hx hb dX3_all_19 rfl (fun h19 => ?_) (fun h19 => ?_)
    · have h19 : partP w := b01_n h19
      refine lv_aload_n hx hb dX3_all_39 rfl (lv_at hl 1 rfl) ?_
      refine lv_iload_n hx hb dX3_all_40 rfl (lv_at hl 3 rfl) ?_
      refine lv_iload_n hx hb dX3_all_41 rfl (lv_at hl 4 rfl) ?_
      refine mcVv (As := [.int row, .int (nI j)]) (rest := []) ⟨hx, hb, hml, hown, hts⟩ (mt_X3_layRow l D dA h ad σ τ hmD row j hI hR) (cw_X3_X3_layRow hts ⟨Nat.le_of_ble_eq_true rfl, Nat.le_of_ble_eq_true rfl⟩) (mB_now hK hP) (va_recv hK hP (ci := 0) (q0 := 0) rfl rfl) rfl hl.1 rfl (Nat.le_of_ble_eq_true rfl) dX3_all_42 ⟨Nat.le_of_ble_eq_true rfl, Nat.le_of_ble_eq_true rfl⟩ hS (fun u_2 H locs hp_3 hP hS => ?_)
      subst hp_3
      have hP : va_P D vwCl (mX dA h ad σ.txt σ.len σ.wt σ.pr σ.tools σ.load σ.purse σ.beg σ.ways σ.told σ.calls σ.sm σ.sorts σ.visits σ.vm τ.read τ.rm τ.at_ τ.place τ.end_ (entU row τ.ents j) (nI j) (nI (comN σ row j)) (allP σ row j) τ.weight τ.gain τ.ad_ τ.minute τ.ds τ.bl τ.chosen) H := hP
      obtain ⟨g_4, eg_4⟩ : ∃ x, x = entU row τ.ents j := ⟨_, rfl⟩
      rw [← eg_4] at hP
      obtain ⟨g_5, eg_5⟩ : ∃ x, x = nI (comN σ row j) := ⟨_, rfl⟩
      rw [← eg_5] at hP
      obtain ⟨g_6, eg_6⟩ : ∃ x, x = allP σ row j := ⟨_, rfl⟩
      rw [← eg_6] at hP
      refine lv_aload_n hx hb dX3_all_45 rfl (lv_at hl 1 rfl) ?_
      refine lv_iload_n hx hb dX3_all_46 rfl (lv_at hl 2 rfl) ?_
      refine mcVl (As := [.int bag]) (rest := []) ⟨hx, hb, hml, hown, hts⟩ (mt_X3_doneOf l D dA h ad σ ((τ.read, τ.rm, τ.at_, τ.place, τ.end_, g_4, nI j, g_5, g_6, τ.weight, τ.gain, τ.ad_, τ.minute, τ.ds, τ.bl, τ.chosen) : Sc) hmD row j bag hI hR rfl (fun i hi => by rw [eg_4]; exact entU_at j i hi) eg_5) (cw_X3_X3_doneOf hts ⟨Nat.le_of_ble_eq_true rfl, Nat.le_of_ble_eq_true rfl⟩) (mB_now hK hP) (va_recv hK hP (ci := 0) (q0 := 0) rfl rfl) rfl hl.1 rfl (Nat.le_of_ble_eq_true rfl) dX3_all_47 ⟨Nat.le_of_ble_eq_true rfl, Nat.le_of_ble_eq_true rfl⟩ hS (fun r_7 u_8 H locs hp_9 hP hS => ?_)
      obtain ⟨rfl, hu_19, k_10, k_11, k_12, k_13, k_14, k_15, k_16, k_17, k_18⟩ := hp_9
      have hP : va_P D vwCl (mX dA h ad u_8.1.txt u_8.1.len u_8.1.wt u_8.1.pr u_8.1.tools u_8.1.load u_8.1.purse u_8.1.beg u_8.1.ways u_8.1.told u_8.1.calls u_8.1.sm u_8.1.sorts u_8.1.visits u_8.1.vm u_8.2.read u_8.2.rm u_8.2.at_ u_8.2.place u_8.2.end_ u_8.2.ents u_8.2.em u_8.2.combos u_8.2.all_ u_8.2.weight u_8.2.gain u_8.2.ad_ u_8.2.minute u_8.2.ds u_8.2.bl u_8.2.chosen) H := hP
      rw [hu_19, k_10, k_11, k_12, k_13, k_14, k_15, k_16, k_17, k_18] at hP
      clear hu_19 k_10 k_11 k_12 k_13 k_14 k_15 k_16 k_17 k_18
      have hP : va_P D vwCl (mX dA h ad σ.txt σ.len σ.wt σ.pr σ.tools σ.load σ.purse σ.beg σ.ways σ.told σ.calls σ.sm σ.sorts σ.visits σ.vm τ.read τ.rm τ.at_ τ.place τ.end_ g_4 (nI j) g_5 g_6 u_8.2.weight u_8.2.gain u_8.2.ad_ u_8.2.minute u_8.2.ds u_8.2.bl u_8.2.chosen) H := hP
      refine lv_aload_n hx hb dX3_all_50 rfl (lv_at hl 1 rfl) ?_
      refine va_get (D := D) (ci := 0) (v := .long g_6) (C := RX3) (T := TX3) (N := 31) hx hb hts in_X3 hown hK hP 0 rfl rfl 23 (by decide) (hts _ q1137) (fun _ h9 => h9) rfl dX3_all_51 ?_
      refine lv_iload hx hb dX3_all_54 (lv_at hl 5 rfl) ?_
      refine cSl (As := [.long (dnF σ row j bag), .long g_6, .int w]) (rest := []) ⟨hx, hb, hml, hown, hts⟩ (mt_X3_lowest l (dnF σ row j bag) g_6 w (by rw [eg_6]; exact all_ne hI hR)) (cw_X3_X3_lowest hts ⟨Nat.le_of_ble_eq_true rfl, Nat.le_of_ble_eq_true rfl⟩) w_blT (fun _ _ _ => trivial) rfl hl.1 rfl (Nat.le_of_ble_eq_true rfl) dX3_all_56 ⟨Nat.le_of_ble_eq_true rfl, Nat.le_of_ble_eq_true rfl⟩ ?_
      exact rm_l (u := (σ, ((τ.read, τ.rm, τ.at_, τ.place, τ.end_, g_4, nI j, g_5, g_6, u_8.2.weight, u_8.2.gain, u_8.2.ad_, u_8.2.minute, u_8.2.ds, u_8.2.bl, u_8.2.chosen) : Sc))) hQ hx hb hr hlocks hK hP hS (⟨by subst_vars; simp only [allF, eq_true h11, eq_true h19, hix, if_true, if_false, ite_true, ite_false, not_true_eq_false, not_false_eq_true, and_true, true_and, and_false, false_and, or_true, true_or, or_false, false_or, and_self, or_self, eq_self], rfl⟩) dX3_all_59
    · have h19 : ¬ (partP w) := b01_0.mp h19
      refine lv_iload hx hb dX3_all_22 (lv_at hl 0 rfl) ?_
      refine lv_bipush (v := (-2)) hx hb dX3_all_24 rfl ?_
      refine lv_icmp_ne (tgt := 35) hx hb dX3_all_26 rfl (fun h26 => ?_) (fun h26 => ?_)
      · have h26 : ¬ ((refBF σ bag row (nI j)) = (-2)) := h26
        refine lv_ldc2 (v := (-3)) hx hb hown (hts _ q1405) dX3_all_35 ?_
        exact rm_l (u := (σ, τ)) hQ hx hb hr hlocks hK hP hS (⟨by subst_vars; simp only [allF, eq_true h11, eq_false h19, eq_false h26, hix, if_true, if_false, ite_true, ite_false, not_true_eq_false, not_false_eq_true, and_true, true_and, and_false, false_and, or_true, true_or, or_false, false_or, and_self, or_self, eq_self], rfl⟩) dX3_all_38
      · have h26 : (refBF σ bag row (nI j)) = (-2) := h26
        refine lv_ldc2 (v := (-2)) hx hb hown (hts _ q1404) dX3_all_29 ?_
        refine lv_goto (tgt := 38) hx hb dX3_all_32 rfl ?_
        exact rm_l (u := (σ, τ)) hQ hx hb hr hlocks hK hP hS (⟨absurd (h11.symm.trans h26) (by decide), rfl⟩) dX3_all_38
