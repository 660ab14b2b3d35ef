/-! THE MODEL's METHODS 11: a day by draws -/
set_option maxRecDepth 100000
def lkN (σ : St) (c s : Nat) : Nat := ix (σ.sorts (16 * c + 4 * s))
theorem lk_ok {σ : St} (hI : Inv σ) {c s : Nat} (hc : c < 6) (hs : s < σ.sm c) : 1 ≤ lkN σ c s ∧ lkN σ c s ≤ 20 ∧ σ.sorts (16 * c + 4 * s) = nI (lkN σ c s) := by
  obtain ⟨v, h1, h2, h3⟩ := hI.li c s hc hs
  have : lkN σ c s = v := by unfold lkN; rw [h3]; exact ix_nI (N := 21) (by omega) (by decide)
  rw [this]
  exact ⟨h1, h2, h3⟩
def tnN (σ : St) (c : Nat) : Nat → Nat
  | 0 => 0
  | k + 1 => tnN σ c k + lkN σ c k
theorem tn_ok {σ : St} (hI : Inv σ) {c : Nat} (hc : c < 6) : ∀ k, k ≤ σ.sm c → totF σ c k = nI (tnN σ c k) ∧ k ≤ tnN σ c k ∧ tnN σ c k ≤ 20 * k
  | 0, _ => ⟨rfl, Nat.zero_le _, Nat.le_refl 0⟩
  | k + 1, hk => by
    obtain ⟨a, b, d⟩ := tn_ok hI hc k (by omega)
    obtain ⟨e, f, g⟩ := lk_ok hI hc (s := k) (by omega)
    rw [totF, tnN, a, g, nI_add]
    exact ⟨rfl, by omega, by omega⟩
def toT (σ : St) (c : Nat) : Nat := tnN σ c (σ.sm c)
theorem toT_ok {σ : St} (hI : Inv σ) {c : Nat} (hc : c < 6) : total σ c = nI (toT σ c) ∧ σ.sm c ≤ toT σ c ∧ toT σ c ≤ 80 := by
  obtain ⟨a, b, d⟩ := tn_ok hI hc (σ.sm c) (Nat.le_refl _)
  have := hI.sm c hc
  exact ⟨a, b, by unfold toT; omega⟩
/-- the sort that a number below the total tells -/
def sbG (σ : St) (c : Nat) : Nat → Nat → Nat → Nat
  | 0, s, _ => s
  | n + 1, s, m => if m < lkN σ c s then s else sbG σ c n (s + 1) (m - lkN σ c s)
def sbN (σ : St) (c v : Nat) : Nat := sbG σ c 4 0 v

def rmX3_sortBy : Room := { frames := 0, cells := 0, slots := 0, locals := 0 }
set_option maxHeartbeats 1000000 in
theorem mt_X3_sortBy (l : Launch) (D : va_G) (dA : Nat → ClassId) (h : Nat) (ad : Nat → Nat) (σ : St) (τ : Sc) (c_ : Nat) (v_ : Nat) (hI : Inv σ) (hc : c_ < 6) (hv : v_ < toT σ c_) : Met l yX3_sortBy (ws_ yX3_sortBy cX3_sortBy 5 (some .int)) rmX3_sortBy (va_Pc [.ref h, .int (nI c_), .int (nI v_)] (mB D dA h ad σ τ)) (vp_Si (fun r => r = nI (sbN σ c_ v_))) 0 0 (fun _ => False) := by
  refine w_start (by decide) (Nat.le_of_ble_eq_true rfl) ?_
  intro p e s m args below meth c Q ls hQ hx hb hr hlocks hml hown hnm hts hB hl
  have hown : s.vm.findClass RX3 = some m.cls := hown
  have hl : lv_has ls 5 [(0, .ref h), (1, .int (nI c_)), (2, .int (nI v_))] := hl
  obtain ⟨hP, hK⟩ := hB
  have hsm := hI.sm c_ hc
  have htt := toT_ok hI hc
  refine lv_iload_n hx hb dX3_sortBy_0 rfl (lv_at hl 2 rfl) ?_
  refine lv_istore_n (lv' := [(3, .int (nI v_)), (0, .ref h), (1, .int (nI c_)), (2, .int (nI v_))]) hx hb dX3_sortBy_1 rfl hl (by decide) rfl (fun ls hl => ?_)
  refine lv_iconst (v := 0) hx hb dX3_sortBy_2 rfl ?_
  refine lv_istore (lv' := [(4, .int 0), (3, .int (nI v_)), (0, .ref h), (1, .int (nI c_)), (2, .int (nI v_))]) hx hb dX3_sortBy_3 hl (by decide) rfl (fun ls hl => ?_)
  have hL5_1 : ∀ (n_2 : Nat) (s_ : Nat) (m_ : Nat) (x4 : Int32) (x3 : Int32) (ls : Array Slot), (4 - s_) < n_2 → (s_ ≤ σ.sm c_) → (m_ + tnN σ c_ s_ = v_) → (sbN σ c_ v_ = sbG σ c_ (4 - s_) s_ m_) → x4 = (nI s_) → x3 = (nI m_) → lv_has ls 5 [(4, .int x4), (3, .int x3), (0, .ref h), (1, .int (nI c_)), (2, .int (nI v_))] → W p l e rmX3_sortBy s m args below meth c s.heap [] 0 0 Q (F0 m 5 ls []) := by
    intro n_2
    induction n_2 with
    | zero => intro s_ m_ x4 x3 ls hm_4; exact absurd hm_4 (Nat.not_lt_zero _)
    | succ n_2 ih_3 =>
      intro s_ m_ x4 x3 ls hm_4 hs hm2 hsb ex4 ex3 hl
      subst ex4 ex3
      have hslt : s_ < σ.sm c_ := by
        rcases Nat.lt_or_ge s_ (σ.sm c_) with z | z
        · exact z
        · have z2 : s_ = σ.sm c_ := by omega
          rw [z2] at hm2; unfold toT at hv; omega
      have hlk := lk_ok hI hc hslt
      refine lv_iload_n hx hb dX3_sortBy_5 rfl (lv_at hl 1 rfl) ?_
      refine lv_aload_n hx hb dX3_sortBy_6 rfl (lv_at hl 2 rfl) ?_
      refine va_get (D := D) (ci := 0) (v := .ref (ad 7)) (C := RX3) (T := TX3) (N := 31) hx hb hts in_X3 hown hK hP 0 rfl rfl 14 (by decide) (hts _ q1128) (fun _ h9 => h9) rfl dX3_sortBy_7 ?_
      refine lv_bipush (v := 16) hx hb dX3_sortBy_10 rfl ?_
      refine lv_iload_n hx hb dX3_sortBy_12 rfl (lv_at hl 3 rfl) ?_
      refine lv_imul hx hb dX3_sortBy_13 ?_
      refine lv_iconst (v := 4) hx hb dX3_sortBy_14 rfl ?_
      refine lv_iload hx hb dX3_sortBy_15 (lv_at hl 0 rfl) ?_
      refine lv_imul hx hb dX3_sortBy_17 ?_
      refine lv_iadd hx hb dX3_sortBy_18 ?_
      refine wa_iald (f := σ.sorts) hx hb hK hP 8 0 rfl rfl ((16 * c_) + (4 * s_)) ((nz_add (nz_mul rfl rfl) (nz_mul rfl rfl))) (by omega) (by decide) dX3_sortBy_19 ?_
      refine w_topi (y := nI (lkN σ c_ s_)) (hlk.2.2) ?_
      refine lv_icmp_lt (tgt := 46) hx hb dX3_sortBy_20 rfl (fun h20 => ?_) (fun h20 => ?_)
      · have h20 : m_ < (lkN σ c_ s_) := (nz_lt (a := m_) (b := lkN σ c_ s_) rfl rfl (by omega) (by omega)).mp h20
        refine lv_iload hx hb dX3_sortBy_46 (lv_at hl 0 rfl) ?_
        exact r_i hQ hx hb hr hlocks rfl (by rw [hsb, show 4 - s_ = (4 - (s_ + 1)) + 1 by omega, sbG, if_pos h20]) dX3_sortBy_48
      · have h20 : ¬ (m_ < (lkN σ c_ s_)) := fun z9 => h20 ((nz_lt (a := m_) (b := lkN σ c_ s_) rfl rfl (by omega) (by omega)).mpr z9)
        refine lv_iload_n hx hb dX3_sortBy_23 rfl (lv_at hl 1 rfl) ?_
        refine lv_aload_n hx hb dX3_sortBy_24 rfl (lv_at hl 2 rfl) ?_
        refine va_get (D := D) (ci := 0) (v := .ref (ad 7)) (C := RX3) (T := TX3) (N := 31) hx hb hts in_X3 hown hK hP 0 rfl rfl 14 (by decide) (hts _ q1128) (fun _ h9 => h9) rfl dX3_sortBy_25 ?_
        refine lv_bipush (v := 16) hx hb dX3_sortBy_28 rfl ?_
        refine lv_iload_n hx hb dX3_sortBy_30 rfl (lv_at hl 3 rfl) ?_
        refine lv_imul hx hb dX3_sortBy_31 ?_
        refine lv_iconst (v := 4) hx hb dX3_sortBy_32 rfl ?_
        refine lv_iload hx hb dX3_sortBy_33 (lv_at hl 0 rfl) ?_
        refine lv_imul hx hb dX3_sortBy_35 ?_
        refine lv_iadd hx hb dX3_sortBy_36 ?_
        refine wa_iald (f := σ.sorts) hx hb hK hP 8 0 rfl rfl ((16 * c_) + (4 * s_)) ((nz_add (nz_mul rfl rfl) (nz_mul rfl rfl))) (by omega) (by decide) dX3_sortBy_37 ?_
        refine w_topi (y := nI (lkN σ c_ s_)) (hlk.2.2) ?_
        refine lv_isub hx hb dX3_sortBy_38 ?_
        refine w_topi (y := nI (m_ - lkN σ c_ s_)) (pk_sub (by omega)) ?_
        refine lv_istore_n (lv' := [(3, .int (nI (m_ - lkN σ c_ s_))), (4, .int (nI s_)), (0, .ref h), (1, .int (nI c_)), (2, .int (nI v_))]) hx hb dX3_sortBy_39 rfl hl (by decide) rfl (fun ls hl => ?_)
        refine lv_iinc (v := nI (s_ + 1)) (lv' := [(4, .int (nI (s_ + 1))), (3, .int (nI (m_ - lkN σ c_ s_))), (0, .ref h), (1, .int (nI c_)), (2, .int (nI v_))]) hx hb dX3_sortBy_40 hl (k := 1) rfl (nI_1 s_) (by decide) rfl (fun ls hl => ?_)
        refine lv_goto (tgt := 5) hx hb dX3_sortBy_43 rfl ?_
        exact ih_3 (s_ + 1) (m_ - lkN σ c_ s_) (nI (s_ + 1)) (nI (m_ - lkN σ c_ s_)) ls (by omega) (by omega) (by rw [tnN]; omega) (by rw [hsb, show 4 - s_ = (4 - (s_ + 1)) + 1 by omega, sbG, if_neg h20]) rfl rfl (lv_sub hl [0, 1, 2, 3, 4] rfl)
  exact hL5_1 _ 0 v_ 0 (nI v_) ls (Nat.lt_succ_self _) (by omega) rfl rfl rfl rfl (lv_sub hl [0, 1, 2, 3, 4] rfl)

theorem sbG_lt {σ : St} {c : Nat} : ∀ n s m, s + n = 4 → σ.sm c ≤ 4 → s ≤ σ.sm c → m + tnN σ c s < tnN σ c (σ.sm c) → sbG σ c n s m < σ.sm c
  | 0, s, m, h1, h2, h3, h4 => by
    have : s = σ.sm c := by omega
    rw [this] at h4
    omega
  | n + 1, s, m, h1, h2, h3, h4 => by
    have hlt : s < σ.sm c := by
      rcases Nat.lt_or_ge s (σ.sm c) with z | z
      · exact z
      · have : s = σ.sm c := by omega
        rw [this] at h4
        omega
    rw [sbG]
    by_cases h : m < lkN σ c s
    · rw [if_pos h]; exact hlt
    · rw [if_neg h]
      exact sbG_lt n (s + 1) _ (by omega) h2 (by omega) (by rw [tnN]; omega)
theorem sbN_lt {σ : St} (hI : Inv σ) {c v : Nat} (hc : c < 6) (h : v < toT σ c) : sbN σ c v < σ.sm c := sbG_lt 4 0 v rfl (hI.sm c hc) (Nat.zero_le _) h
def dnx (d : Nat) : Nat := (d * 25173 + 13849) % 65536
/-- a day by draws: the way to be, and the draw -/
def lateG (σ : St) (row : Int32) (k : Nat) (g : GS × Nat) : Prop := lateP σ (arrF σ g.1.1 g.1.2.1 (en row k)) (en row k)
abbrev dG (σ : St) (row : Int32) (k : Nat) (g : GS × Nat) : Nat := dnx g.2 / 64 % toT σ (en row k)
def chD (σ : St) (row : Int32) (ch : Nat → Nat) (k : Nat) (g : GS × Nat) : Nat := if lateP σ (arrF σ g.1.1 g.1.2.1 (en row k)) (en row k) then ch k else sbN σ (en row k) (dnx g.2 / 64 % toT σ (en row k))
def drD (σ : St) (row : Int32) (k : Nat) (g : GS × Nat) : Nat := if lateP σ (arrF σ g.1.1 g.1.2.1 (en row k)) (en row k) then g.2 else dnx g.2
def goD (σ : St) (row : Int32) (ch : Nat → Nat) (bag : Int32) (sd : Nat) : Nat → GS × Nat
  | 0 => ((0, σ.beg, bag, 0, 0, 1), sd)
  | k + 1 => if en row k = 6 then (stepH σ bag (goD σ row ch bag sd k).1, (goD σ row ch bag sd k).2) else (stepC σ (en row k) (chD σ row ch k (goD σ row ch bag sd k)) (goD σ row ch bag sd k).1, drD σ row k (goD σ row ch bag sd k))
theorem goD_x1 (σ : St) (row : Int32) (ch : Nat → Nat) (bag : Int32) (sd k : Nat) : (goD σ row ch bag sd (k + 1)).1.1 = toN σ row k := by
  rw [goD, toN]
  by_cases h : en row k = 6
  · rw [if_pos h, if_pos h]; rfl
  · rw [if_neg h, if_neg h]; rfl
theorem goD_x {σ : St} (hI : Inv σ) {row : Int32} {n : Nat} (hR : okR σ row n) (ch : Nat → Nat) (bag : Int32) (sd : Nat) {k : Nat} (hk : k ≤ n) : (goD σ row ch bag sd k).1.1 < 6 := by
  cases k with
  | zero => exact (by decide : (0 : Nat) < 6)
  | succ k => rw [goD_x1]; exact toN_lt hI hR (by omega)
theorem goD_dr {σ : St} {row : Int32} {ch : Nat → Nat} {bag : Int32} {sd : Nat} (hs : sd < 65536) : ∀ k, (goD σ row ch bag sd k).2 < 65536
  | 0 => hs
  | k + 1 => by
    rw [goD]
    by_cases h : en row k = 6
    · rw [if_pos h]; exact goD_dr hs k
    · rw [if_neg h]
      show drD _ _ _ _ < _
      unfold drD
      split
      · exact goD_dr hs k
      · exact Nat.mod_lt _ (by decide)
theorem chD_lt {σ : St} (hI : Inv σ) {row : Int32} {n : Nat} (hR : okR σ row n) {ch : Nat → Nat} {k : Nat} (hk : k < n) (h6 : ¬ en row k = 6) (hc : ch k < σ.sm (en row k)) (g : GS × Nat) : chD σ row ch k g < σ.sm (en row k) := by
  have hlt := ((hR.2 k hk).resolve_left h6)
  unfold chD
  split
  · exact hc
  · exact sbN_lt hI hlt.1 (Nat.mod_lt _ (by have := toT_ok hI hlt.1; omega))
def runF (σ : St) (sd bag row n w : Int32) : Int32 := if refBF σ bag row n = 0 then (if inP sd.toInt64 0 65535 then (if inP w.toInt64 0 3 then (if w = 0 then (goD σ row (chN σ row 0) bag (ix sd) (ix n)).1.2.2.2.1 + 1000 else if w = 1 then (goD σ row (chN σ row 0) bag (ix sd) (ix n)).1.2.1 else if w = 2 then (goD σ row (chN σ row 0) bag (ix sd) (ix n)).1.2.2.2.2.1 else (goD σ row (chN σ row 0) bag (ix sd) (ix n)).1.2.2.1) else -3) else -3) else refBF σ bag row n

theorem cw_X3_X3_sortBy {R : Room} {s : State} {args : Array Value} (hts : ∀ w ∈ lw_all, w.before args s = true) (hR : rmX3_sortBy.frames + 1 ≤ R.frames ∧ 8 + (5 + 11) + rmX3_sortBy.locals ≤ R.locals) : CallW R s args RX3 RX3 220 yX3_sortBy cX3_sortBy 5 (some .int) (ws_ yX3_sortBy cX3_sortBy 5 (some .int)) rmX3_sortBy 0 0 2 := cwV 2 hts (lw_V q1396 q1398 qs58 q83 q1399) rfl rfl rfl (by decide +kernel) hR
def rmX3_go_B : Room := { frames := 2, cells := 0, slots := 0, locals := 50 }
set_option maxHeartbeats 1000000 in
theorem mt_X3_go_B (l : Launch) (D : va_G) (dA : Nat → ClassId) (h : Nat) (ad : Nat → Nat) (σ : St) (τ : Sc) (hmD : mD h ad) (row : Int32) (j : Nat) (ch : Nat → Nat) (bag : Int32) (sd : Nat) (hI : Inv σ) (hR : okR σ row j) (hem : τ.em = nI j) (he : ∀ i, i < j → τ.ents i = nI (en row i)) (hch : ∀ i, i < j → ¬ en row i = 6 → τ.chosen i = nI (ch i) ∧ ch i < σ.sm (en row i)) (hsd : sd < 65536) : Met l yX3_go (ws_ yX3_go cX3_go 12 none) rmX3_go_B (va_Pc [.ref h, .int bag, .int (nI sd)] (mB D dA h ad σ τ)) (va_Qv (fun (u : MS) => u = (σ, ((τ.read, τ.rm, τ.at_, τ.place, τ.end_, τ.ents, τ.em, τ.combos, τ.all_, τ.weight, (goD σ row ch bag sd j).1.2.2.2.1, (goD σ row ch bag sd j).1.2.2.2.2.2, (goD σ row ch bag sd j).1.2.1, (goD σ row ch bag sd j).1.2.2.2.2.1, (goD σ row ch bag sd j).1.2.2.1, τ.chosen) : Sc))) (fun u t => mB D dA h ad u.1 u.2 t) (mA h ad)) 0 0 (mA h ad) := by
  refine w_start (by decide) (Nat.le_of_ble_eq_true rfl) ?_
  intro p e s m args below meth c Q ls hQ hx hb hr hlocks hml hown hnm hts hB hl
  have hown : s.vm.findClass RX3 = some m.cls := hown
  have hl : lv_has ls 12 [(0, .ref h), (1, .int bag), (2, .int (nI sd))] := hl
  obtain ⟨hP, hK⟩ := hB
  have hP : va_P D vwCl (mX dA h ad σ.txt σ.len σ.wt σ.pr σ.tools σ.load σ.purse σ.beg σ.ways σ.told σ.calls σ.sm σ.sorts σ.visits σ.vm τ.read τ.rm τ.at_ τ.place τ.end_ τ.ents τ.em τ.combos τ.all_ τ.weight τ.gain τ.ad_ τ.minute τ.ds τ.bl τ.chosen) s.heap := hP
  have hS : va_S (mA h ad) s.heap s.heap [] := va_S.rf
  have hj := hR.1
  refine lv_iconst (v := 0) hx hb dX3_go_0 rfl ?_
  refine lv_istore_n (lv' := [(3, .int 0), (0, .ref h), (1, .int bag), (2, .int (nI sd))]) hx hb dX3_go_1 rfl hl (by decide) rfl (fun ls hl => ?_)
  refine lv_iload_n hx hb dX3_go_2 rfl (lv_at hl 3 rfl) ?_
  refine lv_istore (lv' := [(4, .int (nI sd)), (3, .int 0), (0, .ref h), (1, .int bag), (2, .int (nI sd))]) hx hb dX3_go_3 hl (by decide) rfl (fun ls hl => ?_)
  refine lv_aload_n hx hb dX3_go_5 rfl (lv_at hl 2 rfl) ?_
  refine lv_aload_n hx hb dX3_go_6 rfl (lv_at hl 2 rfl) ?_
  refine va_get (D := D) (ci := 0) (v := .int σ.beg) (C := RX3) (T := TX3) (N := 31) hx hb hts in_X3 hown hK hP 0 rfl rfl 9 (by decide) (hts _ q1123) (fun _ h9 => h9) rfl dX3_go_7 ?_
  refine va_put (D := D) (ci := 0) (v := .int σ.beg) (ty := .int) (C := RX3) (T := TX3) (N := 31) hx hb hts in_X3 tyX3 tyX3_ok nmX3 hown hK hP (mD_va hmD dA σ τ) hS 0 rfl rfl 27 (by decide) (hts _ q1141) (fun _ h9 => h9) rfl (by decide +kernel) (rfl) (rfl) (Nat.le_of_ble_eq_true rfl) dX3_go_10 (fun H locs hP _ hS => ?_)
  have hP : va_P D vwCl (mX dA h ad σ.txt σ.len σ.wt σ.pr σ.tools σ.load σ.purse σ.beg σ.ways σ.told σ.calls σ.sm σ.sorts σ.visits σ.vm τ.read τ.rm τ.at_ τ.place τ.end_ τ.ents τ.em τ.combos τ.all_ τ.weight τ.gain τ.ad_ σ.beg τ.ds τ.bl τ.chosen) H := hP
  refine lv_aload_n hx hb dX3_go_13 rfl (lv_at hl 2 rfl) ?_
  refine lv_iload_n hx hb dX3_go_14 rfl (lv_at hl 3 rfl) ?_
  refine va_put (D := D) (ci := 0) (v := .int bag) (ty := .int) (C := RX3) (T := TX3) (N := 31) hx hb hts in_X3 tyX3 tyX3_ok nmX3 hown hK hP (mD_va hmD dA σ ((τ.read, τ.rm, τ.at_, τ.place, τ.end_, τ.ents, τ.em, τ.combos, τ.all_, τ.weight, τ.gain, τ.ad_, σ.beg, τ.ds, τ.bl, τ.chosen) : Sc)) hS 0 rfl rfl 29 (by decide) (hts _ q1143) (fun _ h9 => h9) rfl (by decide +kernel) (rfl) (rfl) (Nat.le_of_ble_eq_true rfl) dX3_go_15 (fun H locs hP _ hS => ?_)
  have hP : va_P D vwCl (mX dA h ad σ.txt σ.len σ.wt σ.pr σ.tools σ.load σ.purse σ.beg σ.ways σ.told σ.calls σ.sm σ.sorts σ.visits σ.vm τ.read τ.rm τ.at_ τ.place τ.end_ τ.ents τ.em τ.combos τ.all_ τ.weight τ.gain τ.ad_ σ.beg τ.ds bag τ.chosen) H := hP
  refine lv_aload_n hx hb dX3_go_18 rfl (lv_at hl 2 rfl) ?_
  refine lv_iconst (v := 0) hx hb dX3_go_19 rfl ?_
  refine va_put (D := D) (ci := 0) (v := .int 0) (ty := .int) (C := RX3) (T := TX3) (N := 31) hx hb hts in_X3 tyX3 tyX3_ok nmX3 hown hK hP (mD_va hmD dA σ ((τ.read, τ.rm, τ.at_, τ.place, τ.end_, τ.ents, τ.em, τ.combos, τ.all_, τ.weight, τ.gain, τ.ad_, σ.beg, τ.ds, bag, τ.chosen) : Sc)) hS 0 rfl rfl 25 (by decide) (hts _ q1139) (fun _ h9 => h9) rfl (by decide +kernel) (rfl) (rfl) (Nat.le_of_ble_eq_true rfl) dX3_go_20 (fun H locs hP _ hS => ?_)
  have hP : va_P D vwCl (mX dA h ad σ.txt σ.len σ.wt σ.pr σ.tools σ.load σ.purse σ.beg σ.ways σ.told σ.calls σ.sm σ.sorts σ.visits σ.vm τ.read τ.rm τ.at_ τ.place τ.end_ τ.ents τ.em τ.combos τ.all_ τ.weight 0 τ.ad_ σ.beg τ.ds bag τ.chosen) H := hP
  refine lv_aload_n hx hb dX3_go_23 rfl (lv_at hl 2 rfl) ?_
  refine lv_iconst (v := 0) hx hb dX3_go_24 rfl ?_
  refine va_put (D := D) (ci := 0) (v := .int 0) (ty := .int) (C := RX3) (T := TX3) (N := 31) hx hb hts in_X3 tyX3 tyX3_ok nmX3 hown hK hP (mD_va hmD dA σ ((τ.read, τ.rm, τ.at_, τ.place, τ.end_, τ.ents, τ.em, τ.combos, τ.all_, τ.weight, 0, τ.ad_, σ.beg, τ.ds, bag, τ.chosen) : Sc)) hS 0 rfl rfl 28 (by decide) (hts _ q1142) (fun _ h9 => h9) rfl (by decide +kernel) (rfl) (rfl) (Nat.le_of_ble_eq_true rfl) dX3_go_25 (fun H locs hP _ hS => ?_)
  have hP : va_P D vwCl (mX dA h ad σ.txt σ.len σ.wt σ.pr σ.tools σ.load σ.purse σ.beg σ.ways σ.told σ.calls σ.sm σ.sorts σ.visits σ.vm τ.read τ.rm τ.at_ τ.place τ.end_ τ.ents τ.em τ.combos τ.all_ τ.weight 0 τ.ad_ σ.beg 0 bag τ.chosen) H := hP
  refine lv_aload_n hx hb dX3_go_28 rfl (lv_at hl 2 rfl) ?_
  refine lv_iconst (v := 1) hx hb dX3_go_29 rfl ?_
  refine va_put (D := D) (ci := 0) (v := .int 1) (ty := .boolean) (C := RX3) (T := TX3) (N := 31) hx hb hts in_X3 tyX3 tyX3_ok nmX3 hown hK hP (mD_va hmD dA σ ((τ.read, τ.rm, τ.at_, τ.place, τ.end_, τ.ents, τ.em, τ.combos, τ.all_, τ.weight, 0, τ.ad_, σ.beg, 0, bag, τ.chosen) : Sc)) hS 0 rfl rfl 26 (by decide) (hts _ q1140) (fun _ h9 => h9) rfl (by decide +kernel) (rfl) (rfl) (Nat.le_of_ble_eq_true rfl) dX3_go_30 (fun H locs hP _ hS => ?_)
  have hP : va_P D vwCl (mX dA h ad σ.txt σ.len σ.wt σ.pr σ.tools σ.load σ.purse σ.beg σ.ways σ.told σ.calls σ.sm σ.sorts σ.visits σ.vm τ.read τ.rm τ.at_ τ.place τ.end_ τ.ents τ.em τ.combos τ.all_ τ.weight 0 1 σ.beg 0 bag τ.chosen) H := hP
  refine lv_iconst (v := 0) hx hb dX3_go_33 rfl ?_
  refine lv_istore (lv' := [(5, .int 0), (4, .int (nI sd)), (3, .int 0), (0, .ref h), (1, .int bag), (2, .int (nI sd))]) hx hb dX3_go_34 hl (by decide) rfl (fun ls hl => ?_)
  have hL36_1 : ∀ (n_2 : Nat) (k : Nat) (x5 : Int32) (x4 : Int32) (x3 : Int32) (ls : Array Slot) (H : Heap) (locs : List Loc), (6 - k) < n_2 → (k ≤ j) → x5 = (nI k) → x4 = (nI ((goD σ row ch bag sd k).2)) → x3 = (nI ((goD σ row ch bag sd k).1.1)) → lv_has ls 12 [(5, .int x5), (4, .int x4), (3, .int x3), (0, .ref h), (1, .int bag), (2, .int (nI sd))] → va_P D vwCl (mX dA h ad σ.txt σ.len σ.wt σ.pr σ.tools σ.load σ.purse σ.beg σ.ways σ.told σ.calls σ.sm σ.sorts σ.visits σ.vm τ.read τ.rm τ.at_ τ.place τ.end_ τ.ents τ.em τ.combos τ.all_ τ.weight ((goD σ row ch bag sd k).1.2.2.2.1) ((goD σ row ch bag sd k).1.2.2.2.2.2) ((goD σ row ch bag sd k).1.2.1) ((goD σ row ch bag sd k).1.2.2.2.2.1) ((goD σ row ch bag sd k).1.2.2.1) τ.chosen) H → va_S (mA h ad) s.heap H locs → W p l e rmX3_go_B s m args below meth c H locs 0 0 Q (F0 m 36 ls []) := by
    intro n_2
    induction n_2 with
    | zero => intro k x5 x4 x3 ls H locs hm_4; exact absurd hm_4 (Nat.not_lt_zero _)
    | succ n_2 ih_3 =>
      intro k x5 x4 x3 ls H locs hm_4 hk ex5 ex4 ex3 hl hP hS
      subst ex5 ex4 ex3
      refine lv_iload hx hb dX3_go_36 (lv_at hl 0 rfl) ?_
      refine lv_aload_n hx hb dX3_go_38 rfl (lv_at hl 3 rfl) ?_
      refine va_get (D := D) (ci := 0) (v := .int τ.em) (C := RX3) (T := TX3) (N := 31) hx hb hts in_X3 hown hK hP 0 rfl rfl 21 (by decide) (hts _ q1135) (fun _ h9 => h9) rfl dX3_go_39 ?_
      refine lv_icmp_ge (tgt := 437) hx hb dX3_go_42 rfl (fun h42 => ?_) (fun h42 => ?_)
      · have h42 : j ≤ k := (nz_le (a := j) (b := k) hem rfl (by omega) (by omega)).mp h42
        obtain rfl : k = j := by omega
        exact rm_v (u := (σ, ((τ.read, τ.rm, τ.at_, τ.place, τ.end_, τ.ents, τ.em, τ.combos, τ.all_, τ.weight, (goD σ row ch bag sd k).1.2.2.2.1, (goD σ row ch bag sd k).1.2.2.2.2.2, (goD σ row ch bag sd k).1.2.1, (goD σ row ch bag sd k).1.2.2.2.2.1, (goD σ row ch bag sd k).1.2.2.1, τ.chosen) : Sc))) hQ hx hb hr hlocks hK hP hS (rfl) dX3_go_437
      · have h42 : ¬ (j ≤ k) := fun z9 => h42 ((nz_le (a := j) (b := k) hem rfl (by omega) (by omega)).mpr z9)
        refine lv_aload_n hx hb dX3_go_45 rfl (lv_at hl 3 rfl) ?_
        refine va_get (D := D) (ci := 0) (v := .ref (ad 9)) (C := RX3) (T := TX3) (N := 31) hx hb hts in_X3 hown hK hP 0 rfl rfl 20 (by decide) (hts _ q1134) (fun _ h9 => h9) rfl dX3_go_46 ?_
        refine lv_iload hx hb dX3_go_49 (lv_at hl 0 rfl) ?_
        refine wa_iald (f := τ.ents) hx hb hK hP 10 0 rfl rfl (k) (rfl) (by omega) (by decide) dX3_go_51 ?_
        refine w_topi (y := nI (en row k)) (he k (by omega)) ?_
        have hen := en_lt row k
        have hx6 := goD_x hI hR ch bag sd hk
        have hto := toN_lt hI hR (k := k) (by omega)
        have hdr := goD_dr (σ := σ) (row := row) (ch := ch) (bag := bag) hsd k
        refine lv_istore (lv' := [(6, .int (nI (en row k))), (5, .int (nI k)), (4, .int (nI ((goD σ row ch bag sd k).2))), (3, .int (nI ((goD σ row ch bag sd k).1.1))), (0, .ref h), (1, .int bag), (2, .int (nI sd))]) hx hb dX3_go_52 hl (by decide) rfl (fun ls hl => ?_)
        refine lv_iload hx hb dX3_go_54 (lv_at hl 0 rfl) ?_
        refine lv_bipush (v := 6) hx hb dX3_go_56 rfl ?_
        have hJ75_5 : ∀ (v_6 : Int32) (ls : Array Slot), v_6 = (if (en row k) = 6 then 0 else nI (plF σ (en row k))) → lv_has ls 12 [(6, .int (nI (en row k))), (5, .int (nI k)), (4, .int (nI ((goD σ row ch bag sd k).2))), (3, .int (nI ((goD σ row ch bag sd k).1.1))), (0, .ref h), (1, .int bag), (2, .int (nI sd))] → W p l e rmX3_go_B s m args below meth c H locs 0 0 Q (F0 m 75 ls [.int v_6]) := by
          intro v_6 ls ev_6 hl
          have hjs : v_6 = nI (toN σ row k) := (by rw [ev_6, toN]; by_cases q : en row k = 6 <;> simp only [q, if_true, if_false] <;> rfl)
          subst hjs
          refine lv_istore (lv' := [(7, .int (nI (toN σ row k))), (6, .int (nI (en row k))), (5, .int (nI k)), (4, .int (nI ((goD σ row ch bag sd k).2))), (3, .int (nI ((goD σ row ch bag sd k).1.1))), (0, .ref h), (1, .int bag), (2, .int (nI sd))]) hx hb dX3_go_75 hl (by decide) rfl (fun ls hl => ?_)
          refine lv_aload_n hx hb dX3_go_77 rfl (lv_at hl 5 rfl) ?_
          refine lv_dup hx hb dX3_go_78 rfl ?_
          refine va_get (D := D) (ci := 0) (v := .int ((goD σ row ch bag sd k).1.2.1)) (C := RX3) (T := TX3) (N := 31) hx hb hts in_X3 hown hK hP 0 rfl rfl 27 (by decide) (hts _ q1141) (fun _ h9 => h9) rfl dX3_go_79 ?_
          refine lv_aload_n hx hb dX3_go_82 rfl (lv_at hl 5 rfl) ?_
          refine va_get (D := D) (ci := 0) (v := .ref (ad 4)) (C := RX3) (T := TX3) (N := 31) hx hb hts in_X3 hown hK hP 0 rfl rfl 10 (by decide) (hts _ q1124) (fun _ h9 => h9) rfl dX3_go_83 ?_
          refine lv_bipush (v := 6) hx hb dX3_go_86 rfl ?_
          refine lv_iload_n hx hb dX3_go_88 rfl (lv_at hl 4 rfl) ?_
          refine lv_imul hx hb dX3_go_89 ?_
          refine lv_iload hx hb dX3_go_90 (lv_at hl 0 rfl) ?_
          refine lv_iadd hx hb dX3_go_92 ?_
          refine wa_iald (f := σ.ways) hx hb hK hP 5 0 rfl rfl (6 * (goD σ row ch bag sd k).1.1 + toN σ row k) ((nz_add (nz_mul rfl rfl) rfl)) (by omega) (by decide) dX3_go_93 ?_
          refine w_topi (y := σ.ways (6 * (goD σ row ch bag sd k).1.1 + toN σ row k)) (rfl) ?_
          refine lv_iadd hx hb dX3_go_94 ?_
          refine lv_topi (fun g_7 eg_7 => ?_)
          refine va_put (D := D) (ci := 0) (v := .int g_7) (ty := .int) (C := RX3) (T := TX3) (N := 31) hx hb hts in_X3 tyX3 tyX3_ok nmX3 hown hK hP (mD_va hmD dA σ ((τ.read, τ.rm, τ.at_, τ.place, τ.end_, τ.ents, τ.em, τ.combos, τ.all_, τ.weight, (goD σ row ch bag sd k).1.2.2.2.1, (goD σ row ch bag sd k).1.2.2.2.2.2, (goD σ row ch bag sd k).1.2.1, (goD σ row ch bag sd k).1.2.2.2.2.1, (goD σ row ch bag sd k).1.2.2.1, τ.chosen) : Sc)) hS 0 rfl rfl 27 (by decide) (hts _ q1141) (fun _ h9 => h9) rfl (by decide +kernel) (rfl) (rfl) (Nat.le_of_ble_eq_true rfl) dX3_go_95 (fun H locs hP _ hS => ?_)
          have hP : va_P D vwCl (mX dA h ad σ.txt σ.len σ.wt σ.pr σ.tools σ.load σ.purse σ.beg σ.ways σ.told σ.calls σ.sm σ.sorts σ.visits σ.vm τ.read τ.rm τ.at_ τ.place τ.end_ τ.ents τ.em τ.combos τ.all_ τ.weight ((goD σ row ch bag sd k).1.2.2.2.1) ((goD σ row ch bag sd k).1.2.2.2.2.2) g_7 ((goD σ row ch bag sd k).1.2.2.2.2.1) ((goD σ row ch bag sd k).1.2.2.1) τ.chosen) H := hP
          refine lv_iload hx hb dX3_go_98 (lv_at hl 0 rfl) ?_
          refine lv_istore_n (lv' := [(3, .int (nI (toN σ row k))), (7, .int (nI (toN σ row k))), (6, .int (nI (en row k))), (5, .int (nI k)), (4, .int (nI ((goD σ row ch bag sd k).2))), (0, .ref h), (1, .int bag), (2, .int (nI sd))]) hx hb dX3_go_100 rfl hl (by decide) rfl (fun ls hl => ?_)
          refine lv_iload hx hb dX3_go_101 (lv_at hl 2 rfl) ?_
          refine lv_bipush (v := 6) hx hb dX3_go_103 rfl ?_
          refine lv_icmp_ne (tgt := 116) hx hb dX3_go_105 rfl (fun h105 => ?_) (fun h105 => ?_)
          · have h105 : ¬ ((en row k) = 6) := fun z9 => h105 ((nz_eq (a := en row k) (b := 6) rfl rfl (by omega) (by omega)).mpr z9)
            have hlt := ((hR.2 k (by omega)).resolve_left h105)
            have hpl := hI.pl2 _ hlt.1
            have hsm := hI.sm _ hlt.1
            have hcc := hch k (by omega) h105
            have ett : toN σ row k = plF σ (en row k) := if_neg h105
            have htt := toT_ok hI hlt.1
            have hcd := chD_lt hI hR (k := k) (by omega) h105 hcc.2 (goD σ row ch bag sd k)
            refine lv_aload_n hx hb dX3_go_116 rfl (lv_at hl 5 rfl) ?_
            refine lv_aload_n hx hb dX3_go_117 rfl (lv_at hl 5 rfl) ?_
            refine va_get (D := D) (ci := 0) (v := .int g_7) (C := RX3) (T := TX3) (N := 31) hx hb hts in_X3 hown hK hP 0 rfl rfl 27 (by decide) (hts _ q1141) (fun _ h9 => h9) rfl dX3_go_118 ?_
            refine lv_aload_n hx hb dX3_go_121 rfl (lv_at hl 5 rfl) ?_
            refine va_get (D := D) (ci := 0) (v := .ref (ad 5)) (C := RX3) (T := TX3) (N := 31) hx hb hts in_X3 hown hK hP 0 rfl rfl 12 (by decide) (hts _ q1126) (fun _ h9 => h9) rfl dX3_go_122 ?_
            refine lv_bipush (v := 6) hx hb dX3_go_125 rfl ?_
            refine lv_iload hx hb dX3_go_127 (lv_at hl 2 rfl) ?_
            refine lv_imul hx hb dX3_go_129 ?_
            refine lv_iconst (v := 1) hx hb dX3_go_130 rfl ?_
            refine lv_iadd hx hb dX3_go_131 ?_
            refine wa_iald (f := σ.calls) hx hb hK hP 6 0 rfl rfl ((6 * (en row k)) + 1) ((nz_add (nz_mul rfl rfl) rfl)) (by omega) (by decide) dX3_go_132 ?_
            have hJ155_8 : ∀ (v_9 : Int32) (ls : Array Slot), v_9 = (if (σ.calls ((6 * (en row k)) + 1)) ≤ g_7 then g_7 else σ.calls ((6 * (en row k)) + 1)) → lv_has ls 12 [(3, .int (nI (toN σ row k))), (7, .int (nI (toN σ row k))), (6, .int (nI (en row k))), (5, .int (nI k)), (4, .int (nI ((goD σ row ch bag sd k).2))), (0, .ref h), (1, .int bag), (2, .int (nI sd))] → W p l e rmX3_go_B s m args below meth c H locs 0 0 Q (F0 m 155 ls [.int v_9, .ref h]) := by
              intro v_9 ls ev_9 hl
              have hjs : v_9 = arrF σ (goD σ row ch bag sd k).1.1 (goD σ row ch bag sd k).1.2.1 (en row k) := (by rw [ev_9, arrF, ← ett] <;> subst_vars <;> rfl)
              subst hjs
              refine va_put (D := D) (ci := 0) (v := .int (arrF σ (goD σ row ch bag sd k).1.1 (goD σ row ch bag sd k).1.2.1 (en row k))) (ty := .int) (C := RX3) (T := TX3) (N := 31) hx hb hts in_X3 tyX3 tyX3_ok nmX3 hown hK hP (mD_va hmD dA σ ((τ.read, τ.rm, τ.at_, τ.place, τ.end_, τ.ents, τ.em, τ.combos, τ.all_, τ.weight, (goD σ row ch bag sd k).1.2.2.2.1, (goD σ row ch bag sd k).1.2.2.2.2.2, g_7, (goD σ row ch bag sd k).1.2.2.2.2.1, (goD σ row ch bag sd k).1.2.2.1, τ.chosen) : Sc)) hS 0 rfl rfl 27 (by decide) (hts _ q1141) (fun _ h9 => h9) rfl (by decide +kernel) (rfl) (rfl) (Nat.le_of_ble_eq_true rfl) dX3_go_155 (fun H locs hP _ hS => ?_)
              have hP : va_P D vwCl (mX dA h ad σ.txt σ.len σ.wt σ.pr σ.tools σ.load σ.purse σ.beg σ.ways σ.told σ.calls σ.sm σ.sorts σ.visits σ.vm τ.read τ.rm τ.at_ τ.place τ.end_ τ.ents τ.em τ.combos τ.all_ τ.weight ((goD σ row ch bag sd k).1.2.2.2.1) ((goD σ row ch bag sd k).1.2.2.2.2.2) (arrF σ (goD σ row ch bag sd k).1.1 (goD σ row ch bag sd k).1.2.1 (en row k)) ((goD σ row ch bag sd k).1.2.2.2.2.1) ((goD σ row ch bag sd k).1.2.2.1) τ.chosen) H := hP
              refine lv_aload_n hx hb dX3_go_158 rfl (lv_at hl 5 rfl) ?_
              refine va_get (D := D) (ci := 0) (v := .int (arrF σ (goD σ row ch bag sd k).1.1 (goD σ row ch bag sd k).1.2.1 (en row k))) (C := RX3) (T := TX3) (N := 31) hx hb hts in_X3 hown hK hP 0 rfl rfl 27 (by decide) (hts _ q1141) (fun _ h9 => h9) rfl dX3_go_159 ?_
              refine lv_aload_n hx hb dX3_go_162 rfl (lv_at hl 5 rfl) ?_
              refine va_get (D := D) (ci := 0) (v := .ref (ad 5)) (C := RX3) (T := TX3) (N := 31) hx hb hts in_X3 hown hK hP 0 rfl rfl 12 (by decide) (hts _ q1126) (fun _ h9 => h9) rfl dX3_go_163 ?_
              refine lv_bipush (v := 6) hx hb dX3_go_166 rfl ?_
              refine lv_iload hx hb dX3_go_168 (lv_at hl 2 rfl) ?_
              refine lv_imul hx hb dX3_go_170 ?_
              refine lv_iconst (v := 2) hx hb dX3_go_171 rfl ?_
              refine lv_iadd hx hb dX3_go_172 ?_
              refine wa_iald (f := σ.calls) hx hb hK hP 6 0 rfl rfl ((6 * (en row k)) + 2) ((nz_add (nz_mul rfl rfl) rfl)) (by omega) (by decide) dX3_go_173 ?_
              have hJ182_10 : ∀ (v_11 : Int32) (ls : Array Slot), v_11 = (if (arrF σ (goD σ row ch bag sd k).1.1 (goD σ row ch bag sd k).1.2.1 (en row k)) ≤ (σ.calls ((6 * (en row k)) + 2)) then 0 else 1) → lv_has ls 12 [(3, .int (nI (toN σ row k))), (7, .int (nI (toN σ row k))), (6, .int (nI (en row k))), (5, .int (nI k)), (4, .int (nI ((goD σ row ch bag sd k).2))), (0, .ref h), (1, .int bag), (2, .int (nI sd))] → W p l e rmX3_go_B s m args below meth c H locs 0 0 Q (F0 m 182 ls [.int v_11]) := by
                intro v_11 ls ev_11 hl
                have hjs : v_11 = b01 (lateP σ (arrF σ (goD σ row ch bag sd k).1.1 (goD σ row ch bag sd k).1.2.1 (en row k)) (en row k)) := b01_not ev_11
                subst hjs
                refine lv_istore (lv' := [(8, .int (b01 (lateP σ (arrF σ (goD σ row ch bag sd k).1.1 (goD σ row ch bag sd k).1.2.1 (en row k)) (en row k)))), (3, .int (nI (toN σ row k))), (7, .int (nI (toN σ row k))), (6, .int (nI (en row k))), (5, .int (nI k)), (4, .int (nI ((goD σ row ch bag sd k).2))), (0, .ref h), (1, .int bag), (2, .int (nI sd))]) hx hb dX3_go_182 hl (by decide) rfl (fun ls hl => ?_)
                refine lv_aload_n hx hb dX3_go_184 rfl (lv_at hl 6 rfl) ?_
                refine va_get (D := D) (ci := 0) (v := .ref (ad 10)) (C := RX3) (T := TX3) (N := 31) hx hb hts in_X3 hown hK hP 0 rfl rfl 30 (by decide) (hts _ q1144) (fun _ h9 => h9) rfl dX3_go_185 ?_
                refine lv_iload hx hb dX3_go_188 (lv_at hl 4 rfl) ?_
                refine wa_iald (f := τ.chosen) hx hb hK hP 11 0 rfl rfl (k) (rfl) (by omega) (by decide) dX3_go_190 ?_
                refine w_topi (y := nI (ch k)) (hcc.1) ?_
                refine lv_istore (lv' := [(9, .int (nI (ch k))), (8, .int (b01 (lateP σ (arrF σ (goD σ row ch bag sd k).1.1 (goD σ row ch bag sd k).1.2.1 (en row k)) (en row k)))), (3, .int (nI (toN σ row k))), (7, .int (nI (toN σ row k))), (6, .int (nI (en row k))), (5, .int (nI k)), (4, .int (nI ((goD σ row ch bag sd k).2))), (0, .ref h), (1, .int bag), (2, .int (nI sd))]) hx hb dX3_go_191 hl (by decide) rfl (fun ls hl => ?_)
                refine lv_iload hx hb dX3_go_193 (lv_at hl 1 rfl) ?_
                have hJ237_12 : ∀ (v_13 : Int32) (v_14 : Int32) (ls : Array Slot), v_13 = (if lateP σ (arrF σ (goD σ row ch bag sd k).1.1 (goD σ row ch bag sd k).1.2.1 (en row k)) (en row k) then nI (ch k) else nI (sbN σ (en row k) (((dnx (goD σ row ch bag sd k).2) / 64) % (toT σ (en row k))))) → v_14 = (if lateP σ (arrF σ (goD σ row ch bag sd k).1.1 (goD σ row ch bag sd k).1.2.1 (en row k)) (en row k) then nI ((goD σ row ch bag sd k).2) else nI (dnx (goD σ row ch bag sd k).2)) → lv_has ls 12 [(9, .int v_13), (8, .int (b01 (lateP σ (arrF σ (goD σ row ch bag sd k).1.1 (goD σ row ch bag sd k).1.2.1 (en row k)) (en row k)))), (3, .int (nI (toN σ row k))), (7, .int (nI (toN σ row k))), (6, .int (nI (en row k))), (5, .int (nI k)), (4, .int v_14), (0, .ref h), (1, .int bag), (2, .int (nI sd))] → W p l e rmX3_go_B s m args below meth c H locs 0 0 Q (F0 m 237 ls []) := by
                  intro v_13 v_14 ls ev_13 ev_14 hl
                  have hjs : v_13 = nI (chD σ row ch k (goD σ row ch bag sd k)) := (by rw [ev_13, chD]; split <;> rfl)
                  subst hjs
                  have hjs : v_14 = nI (drD σ row k (goD σ row ch bag sd k)) := (by rw [ev_14, drD]; split <;> rfl)
                  subst hjs
                  refine lv_iload hx hb dX3_go_237 (lv_at hl 1 rfl) ?_
                  have hJ258_15 : ∀ (v_16 : Int32) (ls : Array Slot), v_16 = (if lateP σ (arrF σ (goD σ row ch bag sd k).1.1 (goD σ row ch bag sd k).1.2.1 (en row k)) (en row k) then (-1) else leftF σ ((goD σ row ch bag sd k).1.2.2.1) (en row k) (chD σ row ch k (goD σ row ch bag sd k))) → lv_has ls 12 [(9, .int (nI (chD σ row ch k (goD σ row ch bag sd k)))), (8, .int (b01 (lateP σ (arrF σ (goD σ row ch bag sd k).1.1 (goD σ row ch bag sd k).1.2.1 (en row k)) (en row k)))), (3, .int (nI (toN σ row k))), (7, .int (nI (toN σ row k))), (6, .int (nI (en row k))), (5, .int (nI k)), (4, .int (nI (drD σ row k (goD σ row ch bag sd k)))), (0, .ref h), (1, .int bag), (2, .int (nI sd))] → W p l e rmX3_go_B s m args below meth c H locs 0 0 Q (F0 m 258 ls [.int v_16]) := by
                    intro v_16 ls ev_16 hl
                    have hjs : v_16 = leftL σ (arrF σ (goD σ row ch bag sd k).1.1 (goD σ row ch bag sd k).1.2.1 (en row k)) (goD σ row ch bag sd k).1.2.2.1 (en row k) (chD σ row ch k (goD σ row ch bag sd k)) := ev_16
                    subst hjs
                    refine lv_istore (lv' := [(10, .int (leftL σ (arrF σ (goD σ row ch bag sd k).1.1 (goD σ row ch bag sd k).1.2.1 (en row k)) (goD σ row ch bag sd k).1.2.2.1 (en row k) (chD σ row ch k (goD σ row ch bag sd k)))), (9, .int (nI (chD σ row ch k (goD σ row ch bag sd k)))), (8, .int (b01 (lateP σ (arrF σ (goD σ row ch bag sd k).1.1 (goD σ row ch bag sd k).1.2.1 (en row k)) (en row k)))), (3, .int (nI (toN σ row k))), (7, .int (nI (toN σ row k))), (6, .int (nI (en row k))), (5, .int (nI k)), (4, .int (nI (drD σ row k (goD σ row ch bag sd k)))), (0, .ref h), (1, .int bag), (2, .int (nI sd))]) hx hb dX3_go_258 hl (by decide) rfl (fun ls hl => ?_)
                    refine lv_iload hx hb dX3_go_260 (lv_at hl 0 rfl) ?_
                    refine lv_iconst (v := (-1)) hx hb dX3_go_262 rfl ?_
                    have hJ271_17 : ∀ (v_18 : Int32) (ls : Array Slot), v_18 = (if (leftL σ (arrF σ (goD σ row ch bag sd k).1.1 (goD σ row ch bag sd k).1.2.1 (en row k)) (goD σ row ch bag sd k).1.2.2.1 (en row k) (chD σ row ch k (goD σ row ch bag sd k))) = (-1) then 0 else 1) → lv_has ls 12 [(10, .int (leftL σ (arrF σ (goD σ row ch bag sd k).1.1 (goD σ row ch bag sd k).1.2.1 (en row k)) (goD σ row ch bag sd k).1.2.2.1 (en row k) (chD σ row ch k (goD σ row ch bag sd k)))), (9, .int (nI (chD σ row ch k (goD σ row ch bag sd k)))), (8, .int (b01 (lateP σ (arrF σ (goD σ row ch bag sd k).1.1 (goD σ row ch bag sd k).1.2.1 (en row k)) (en row k)))), (3, .int (nI (toN σ row k))), (7, .int (nI (toN σ row k))), (6, .int (nI (en row k))), (5, .int (nI k)), (4, .int (nI (drD σ row k (goD σ row ch bag sd k)))), (0, .ref h), (1, .int bag), (2, .int (nI sd))] → W p l e rmX3_go_B s m args below meth c H locs 0 0 Q (F0 m 271 ls [.int v_18]) := by
                      intro v_18 ls ev_18 hl
                      have hjs : v_18 = b01 (¬ (leftL σ (arrF σ (goD σ row ch bag sd k).1.1 (goD σ row ch bag sd k).1.2.1 (en row k)) (goD σ row ch bag sd k).1.2.2.1 (en row k) (chD σ row ch k (goD σ row ch bag sd k))) = -1) := b01_not ev_18
                      subst hjs
                      refine lv_istore (lv' := [(11, .int (b01 (¬ (leftL σ (arrF σ (goD σ row ch bag sd k).1.1 (goD σ row ch bag sd k).1.2.1 (en row k)) (goD σ row ch bag sd k).1.2.2.1 (en row k) (chD σ row ch k (goD σ row ch bag sd k))) = -1))), (10, .int (leftL σ (arrF σ (goD σ row ch bag sd k).1.1 (goD σ row ch bag sd k).1.2.1 (en row k)) (goD σ row ch bag sd k).1.2.2.1 (en row k) (chD σ row ch k (goD σ row ch bag sd k)))), (9, .int (nI (chD σ row ch k (goD σ row ch bag sd k)))), (8, .int (b01 (lateP σ (arrF σ (goD σ row ch bag sd k).1.1 (goD σ row ch bag sd k).1.2.1 (en row k)) (en row k)))), (3, .int (nI (toN σ row k))), (7, .int (nI (toN σ row k))), (6, .int (nI (en row k))), (5, .int (nI k)), (4, .int (nI (drD σ row k (goD σ row ch bag sd k)))), (0, .ref h), (1, .int bag), (2, .int (nI sd))]) hx hb dX3_go_271 hl (by decide) rfl (fun ls hl => ?_)
                      refine lv_aload_n hx hb dX3_go_273 rfl (lv_at hl 9 rfl) ?_
                      refine lv_dup hx hb dX3_go_274 rfl ?_
                      refine va_get (D := D) (ci := 0) (v := .int (arrF σ (goD σ row ch bag sd k).1.1 (goD σ row ch bag sd k).1.2.1 (en row k))) (C := RX3) (T := TX3) (N := 31) hx hb hts in_X3 hown hK hP 0 rfl rfl 27 (by decide) (hts _ q1141) (fun _ h9 => h9) rfl dX3_go_275 ?_
                      refine lv_iload hx hb dX3_go_278 (lv_at hl 3 rfl) ?_
                      have hJ324_19 : ∀ (v_20 : Int32) (ls : Array Slot), v_20 = (if lateP σ (arrF σ (goD σ row ch bag sd k).1.1 (goD σ row ch bag sd k).1.2.1 (en row k)) (en row k) then 0 else if ¬ (leftL σ (arrF σ (goD σ row ch bag sd k).1.1 (goD σ row ch bag sd k).1.2.1 (en row k)) (goD σ row ch bag sd k).1.2.2.1 (en row k) (chD σ row ch k (goD σ row ch bag sd k))) = -1 then σ.sorts (((16 * (en row k)) + (4 * (chD σ row ch k (goD σ row ch bag sd k)))) + 1) else σ.calls ((6 * (en row k)) + 5)) → lv_has ls 12 [(11, .int (b01 (¬ (leftL σ (arrF σ (goD σ row ch bag sd k).1.1 (goD σ row ch bag sd k).1.2.1 (en row k)) (goD σ row ch bag sd k).1.2.2.1 (en row k) (chD σ row ch k (goD σ row ch bag sd k))) = -1))), (10, .int (leftL σ (arrF σ (goD σ row ch bag sd k).1.1 (goD σ row ch bag sd k).1.2.1 (en row k)) (goD σ row ch bag sd k).1.2.2.1 (en row k) (chD σ row ch k (goD σ row ch bag sd k)))), (9, .int (nI (chD σ row ch k (goD σ row ch bag sd k)))), (8, .int (b01 (lateP σ (arrF σ (goD σ row ch bag sd k).1.1 (goD σ row ch bag sd k).1.2.1 (en row k)) (en row k)))), (3, .int (nI (toN σ row k))), (7, .int (nI (toN σ row k))), (6, .int (nI (en row k))), (5, .int (nI k)), (4, .int (nI (drD σ row k (goD σ row ch bag sd k)))), (0, .ref h), (1, .int bag), (2, .int (nI sd))] → W p l e rmX3_go_B s m args below meth c H locs 0 0 Q (F0 m 324 ls [.int v_20, .int (arrF σ (goD σ row ch bag sd k).1.1 (goD σ row ch bag sd k).1.2.1 (en row k)), .ref h]) := by
                        intro v_20 ls ev_20 hl
                        refine lv_iadd hx hb dX3_go_324 ?_
                        refine lv_topi (fun g_21 eg_21 => ?_)
                        refine va_put (D := D) (ci := 0) (v := .int g_21) (ty := .int) (C := RX3) (T := TX3) (N := 31) hx hb hts in_X3 tyX3 tyX3_ok nmX3 hown hK hP (mD_va hmD dA σ ((τ.read, τ.rm, τ.at_, τ.place, τ.end_, τ.ents, τ.em, τ.combos, τ.all_, τ.weight, (goD σ row ch bag sd k).1.2.2.2.1, (goD σ row ch bag sd k).1.2.2.2.2.2, arrF σ (goD σ row ch bag sd k).1.1 (goD σ row ch bag sd k).1.2.1 (en row k), (goD σ row ch bag sd k).1.2.2.2.2.1, (goD σ row ch bag sd k).1.2.2.1, τ.chosen) : Sc)) hS 0 rfl rfl 27 (by decide) (hts _ q1141) (fun _ h9 => h9) rfl (by decide +kernel) (rfl) (rfl) (Nat.le_of_ble_eq_true rfl) dX3_go_325 (fun H locs hP _ hS => ?_)
                        have hP : va_P D vwCl (mX dA h ad σ.txt σ.len σ.wt σ.pr σ.tools σ.load σ.purse σ.beg σ.ways σ.told σ.calls σ.sm σ.sorts σ.visits σ.vm τ.read τ.rm τ.at_ τ.place τ.end_ τ.ents τ.em τ.combos τ.all_ τ.weight ((goD σ row ch bag sd k).1.2.2.2.1) ((goD σ row ch bag sd k).1.2.2.2.2.2) g_21 ((goD σ row ch bag sd k).1.2.2.2.2.1) ((goD σ row ch bag sd k).1.2.2.1) τ.chosen) H := hP
                        refine lv_aload_n hx hb dX3_go_328 rfl (lv_at hl 9 rfl) ?_
                        refine lv_dup hx hb dX3_go_329 rfl ?_
                        refine va_get (D := D) (ci := 0) (v := .int ((goD σ row ch bag sd k).1.2.2.2.1)) (C := RX3) (T := TX3) (N := 31) hx hb hts in_X3 hown hK hP 0 rfl rfl 25 (by decide) (hts _ q1139) (fun _ h9 => h9) rfl dX3_go_330 ?_
                        refine lv_iload hx hb dX3_go_333 (lv_at hl 0 rfl) ?_
                        have hJ366_22 : ∀ (v_23 : Int32) (ls : Array Slot), v_23 = (if ¬ (leftL σ (arrF σ (goD σ row ch bag sd k).1.1 (goD σ row ch bag sd k).1.2.1 (en row k)) (goD σ row ch bag sd k).1.2.2.1 (en row k) (chD σ row ch k (goD σ row ch bag sd k))) = -1 then σ.calls ((6 * (en row k)) + 3) else -(σ.calls ((6 * (en row k)) + 4))) → lv_has ls 12 [(11, .int (b01 (¬ (leftL σ (arrF σ (goD σ row ch bag sd k).1.1 (goD σ row ch bag sd k).1.2.1 (en row k)) (goD σ row ch bag sd k).1.2.2.1 (en row k) (chD σ row ch k (goD σ row ch bag sd k))) = -1))), (10, .int (leftL σ (arrF σ (goD σ row ch bag sd k).1.1 (goD σ row ch bag sd k).1.2.1 (en row k)) (goD σ row ch bag sd k).1.2.2.1 (en row k) (chD σ row ch k (goD σ row ch bag sd k)))), (9, .int (nI (chD σ row ch k (goD σ row ch bag sd k)))), (8, .int (b01 (lateP σ (arrF σ (goD σ row ch bag sd k).1.1 (goD σ row ch bag sd k).1.2.1 (en row k)) (en row k)))), (3, .int (nI (toN σ row k))), (7, .int (nI (toN σ row k))), (6, .int (nI (en row k))), (5, .int (nI k)), (4, .int (nI (drD σ row k (goD σ row ch bag sd k)))), (0, .ref h), (1, .int bag), (2, .int (nI sd))] → W p l e rmX3_go_B s m args below meth c H locs 0 0 Q (F0 m 366 ls [.int v_23, .int ((goD σ row ch bag sd k).1.2.2.2.1), .ref h]) := by
                          intro v_23 ls ev_23 hl
                          refine lv_iadd hx hb dX3_go_366 ?_
                          refine lv_topi (fun g_24 eg_24 => ?_)
                          refine va_put (D := D) (ci := 0) (v := .int g_24) (ty := .int) (C := RX3) (T := TX3) (N := 31) hx hb hts in_X3 tyX3 tyX3_ok nmX3 hown hK hP (mD_va hmD dA σ ((τ.read, τ.rm, τ.at_, τ.place, τ.end_, τ.ents, τ.em, τ.combos, τ.all_, τ.weight, (goD σ row ch bag sd k).1.2.2.2.1, (goD σ row ch bag sd k).1.2.2.2.2.2, g_21, (goD σ row ch bag sd k).1.2.2.2.2.1, (goD σ row ch bag sd k).1.2.2.1, τ.chosen) : Sc)) hS 0 rfl rfl 25 (by decide) (hts _ q1139) (fun _ h9 => h9) rfl (by decide +kernel) (rfl) (rfl) (Nat.le_of_ble_eq_true rfl) dX3_go_367 (fun H locs hP _ hS => ?_)
                          have hP : va_P D vwCl (mX dA h ad σ.txt σ.len σ.wt σ.pr σ.tools σ.load σ.purse σ.beg σ.ways σ.told σ.calls σ.sm σ.sorts σ.visits σ.vm τ.read τ.rm τ.at_ τ.place τ.end_ τ.ents τ.em τ.combos τ.all_ τ.weight g_24 ((goD σ row ch bag sd k).1.2.2.2.2.2) g_21 ((goD σ row ch bag sd k).1.2.2.2.2.1) ((goD σ row ch bag sd k).1.2.2.1) τ.chosen) H := hP
                          refine lv_aload_n hx hb dX3_go_370 rfl (lv_at hl 9 rfl) ?_
                          refine lv_iload hx hb dX3_go_371 (lv_at hl 0 rfl) ?_
                          have hJ385_25 : ∀ (v_26 : Int32) (ls : Array Slot), v_26 = (if ¬ (leftL σ (arrF σ (goD σ row ch bag sd k).1.1 (goD σ row ch bag sd k).1.2.1 (en row k)) (goD σ row ch bag sd k).1.2.2.1 (en row k) (chD σ row ch k (goD σ row ch bag sd k))) = -1 then leftL σ (arrF σ (goD σ row ch bag sd k).1.1 (goD σ row ch bag sd k).1.2.1 (en row k)) (goD σ row ch bag sd k).1.2.2.1 (en row k) (chD σ row ch k (goD σ row ch bag sd k)) else (goD σ row ch bag sd k).1.2.2.1) → lv_has ls 12 [(11, .int (b01 (¬ (leftL σ (arrF σ (goD σ row ch bag sd k).1.1 (goD σ row ch bag sd k).1.2.1 (en row k)) (goD σ row ch bag sd k).1.2.2.1 (en row k) (chD σ row ch k (goD σ row ch bag sd k))) = -1))), (10, .int (leftL σ (arrF σ (goD σ row ch bag sd k).1.1 (goD σ row ch bag sd k).1.2.1 (en row k)) (goD σ row ch bag sd k).1.2.2.1 (en row k) (chD σ row ch k (goD σ row ch bag sd k)))), (9, .int (nI (chD σ row ch k (goD σ row ch bag sd k)))), (8, .int (b01 (lateP σ (arrF σ (goD σ row ch bag sd k).1.1 (goD σ row ch bag sd k).1.2.1 (en row k)) (en row k)))), (3, .int (nI (toN σ row k))), (7, .int (nI (toN σ row k))), (6, .int (nI (en row k))), (5, .int (nI k)), (4, .int (nI (drD σ row k (goD σ row ch bag sd k)))), (0, .ref h), (1, .int bag), (2, .int (nI sd))] → W p l e rmX3_go_B s m args below meth c H locs 0 0 Q (F0 m 385 ls [.int v_26, .ref h]) := by
                            intro v_26 ls ev_26 hl
                            refine va_put (D := D) (ci := 0) (v := .int v_26) (ty := .int) (C := RX3) (T := TX3) (N := 31) hx hb hts in_X3 tyX3 tyX3_ok nmX3 hown hK hP (mD_va hmD dA σ ((τ.read, τ.rm, τ.at_, τ.place, τ.end_, τ.ents, τ.em, τ.combos, τ.all_, τ.weight, g_24, (goD σ row ch bag sd k).1.2.2.2.2.2, g_21, (goD σ row ch bag sd k).1.2.2.2.2.1, (goD σ row ch bag sd k).1.2.2.1, τ.chosen) : Sc)) hS 0 rfl rfl 29 (by decide) (hts _ q1143) (fun _ h9 => h9) rfl (by decide +kernel) (rfl) (rfl) (Nat.le_of_ble_eq_true rfl) dX3_go_385 (fun H locs hP _ hS => ?_)
                            have hP : va_P D vwCl (mX dA h ad σ.txt σ.len σ.wt σ.pr σ.tools σ.load σ.purse σ.beg σ.ways σ.told σ.calls σ.sm σ.sorts σ.visits σ.vm τ.read τ.rm τ.at_ τ.place τ.end_ τ.ents τ.em τ.combos τ.all_ τ.weight g_24 ((goD σ row ch bag sd k).1.2.2.2.2.2) g_21 ((goD σ row ch bag sd k).1.2.2.2.2.1) v_26 τ.chosen) H := hP
                            refine lv_aload_n hx hb dX3_go_388 rfl (lv_at hl 9 rfl) ?_
                            refine lv_dup hx hb dX3_go_389 rfl ?_
                            refine va_get (D := D) (ci := 0) (v := .int ((goD σ row ch bag sd k).1.2.2.2.2.1)) (C := RX3) (T := TX3) (N := 31) hx hb hts in_X3 hown hK hP 0 rfl rfl 28 (by decide) (hts _ q1142) (fun _ h9 => h9) rfl dX3_go_390 ?_
                            refine lv_iload hx hb dX3_go_393 (lv_at hl 0 rfl) ?_
                            have hJ406_27 : ∀ (v_28 : Int32) (ls : Array Slot), v_28 = (if ¬ (leftL σ (arrF σ (goD σ row ch bag sd k).1.1 (goD σ row ch bag sd k).1.2.1 (en row k)) (goD σ row ch bag sd k).1.2.2.1 (en row k) (chD σ row ch k (goD σ row ch bag sd k))) = -1 then (1 : Int32) <<< ((nI (en row k)) &&& 31) else 0) → lv_has ls 12 [(11, .int (b01 (¬ (leftL σ (arrF σ (goD σ row ch bag sd k).1.1 (goD σ row ch bag sd k).1.2.1 (en row k)) (goD σ row ch bag sd k).1.2.2.1 (en row k) (chD σ row ch k (goD σ row ch bag sd k))) = -1))), (10, .int (leftL σ (arrF σ (goD σ row ch bag sd k).1.1 (goD σ row ch bag sd k).1.2.1 (en row k)) (goD σ row ch bag sd k).1.2.2.1 (en row k) (chD σ row ch k (goD σ row ch bag sd k)))), (9, .int (nI (chD σ row ch k (goD σ row ch bag sd k)))), (8, .int (b01 (lateP σ (arrF σ (goD σ row ch bag sd k).1.1 (goD σ row ch bag sd k).1.2.1 (en row k)) (en row k)))), (3, .int (nI (toN σ row k))), (7, .int (nI (toN σ row k))), (6, .int (nI (en row k))), (5, .int (nI k)), (4, .int (nI (drD σ row k (goD σ row ch bag sd k)))), (0, .ref h), (1, .int bag), (2, .int (nI sd))] → W p l e rmX3_go_B s m args below meth c H locs 0 0 Q (F0 m 406 ls [.int v_28, .int ((goD σ row ch bag sd k).1.2.2.2.2.1), .ref h]) := by
                              intro v_28 ls ev_28 hl
                              refine lv_ior hx hb dX3_go_406 ?_
                              refine lv_topi (fun g_29 eg_29 => ?_)
                              refine va_put (D := D) (ci := 0) (v := .int g_29) (ty := .int) (C := RX3) (T := TX3) (N := 31) hx hb hts in_X3 tyX3 tyX3_ok nmX3 hown hK hP (mD_va hmD dA σ ((τ.read, τ.rm, τ.at_, τ.place, τ.end_, τ.ents, τ.em, τ.combos, τ.all_, τ.weight, g_24, (goD σ row ch bag sd k).1.2.2.2.2.2, g_21, (goD σ row ch bag sd k).1.2.2.2.2.1, v_26, τ.chosen) : Sc)) hS 0 rfl rfl 28 (by decide) (hts _ q1142) (fun _ h9 => h9) rfl (by decide +kernel) (rfl) (rfl) (Nat.le_of_ble_eq_true rfl) dX3_go_407 (fun H locs hP _ hS => ?_)
                              have hP : va_P D vwCl (mX dA h ad σ.txt σ.len σ.wt σ.pr σ.tools σ.load σ.purse σ.beg σ.ways σ.told σ.calls σ.sm σ.sorts σ.visits σ.vm τ.read τ.rm τ.at_ τ.place τ.end_ τ.ents τ.em τ.combos τ.all_ τ.weight g_24 ((goD σ row ch bag sd k).1.2.2.2.2.2) g_21 g_29 v_26 τ.chosen) H := hP
                              refine lv_aload_n hx hb dX3_go_410 rfl (lv_at hl 9 rfl) ?_
                              refine lv_aload_n hx hb dX3_go_411 rfl (lv_at hl 9 rfl) ?_
                              refine va_get (D := D) (ci := 0) (v := .int ((goD σ row ch bag sd k).1.2.2.2.2.2)) (C := RX3) (T := TX3) (N := 31) hx hb hts in_X3 hown hK hP 0 rfl rfl 26 (by decide) (hts _ q1140) (fun _ h9 => h9) rfl dX3_go_412 ?_
                              have hJ428_30 : ∀ (v_31 : Int32) (ls : Array Slot), v_31 = (if ((goD σ row ch bag sd k).1.2.2.2.2.2) = 0 then 0 else if ¬ (leftL σ (arrF σ (goD σ row ch bag sd k).1.1 (goD σ row ch bag sd k).1.2.1 (en row k)) (goD σ row ch bag sd k).1.2.2.1 (en row k) (chD σ row ch k (goD σ row ch bag sd k))) = -1 then 1 else 0) → lv_has ls 12 [(11, .int (b01 (¬ (leftL σ (arrF σ (goD σ row ch bag sd k).1.1 (goD σ row ch bag sd k).1.2.1 (en row k)) (goD σ row ch bag sd k).1.2.2.1 (en row k) (chD σ row ch k (goD σ row ch bag sd k))) = -1))), (10, .int (leftL σ (arrF σ (goD σ row ch bag sd k).1.1 (goD σ row ch bag sd k).1.2.1 (en row k)) (goD σ row ch bag sd k).1.2.2.1 (en row k) (chD σ row ch k (goD σ row ch bag sd k)))), (9, .int (nI (chD σ row ch k (goD σ row ch bag sd k)))), (8, .int (b01 (lateP σ (arrF σ (goD σ row ch bag sd k).1.1 (goD σ row ch bag sd k).1.2.1 (en row k)) (en row k)))), (3, .int (nI (toN σ row k))), (7, .int (nI (toN σ row k))), (6, .int (nI (en row k))), (5, .int (nI k)), (4, .int (nI (drD σ row k (goD σ row ch bag sd k)))), (0, .ref h), (1, .int bag), (2, .int (nI sd))] → W p l e rmX3_go_B s m args below meth c H locs 0 0 Q (F0 m 428 ls [.int v_31, .ref h]) := by
                                intro v_31 ls ev_31 hl
                                refine va_put (D := D) (ci := 0) (v := .int v_31) (ty := .boolean) (C := RX3) (T := TX3) (N := 31) hx hb hts in_X3 tyX3 tyX3_ok nmX3 hown hK hP (mD_va hmD dA σ ((τ.read, τ.rm, τ.at_, τ.place, τ.end_, τ.ents, τ.em, τ.combos, τ.all_, τ.weight, g_24, (goD σ row ch bag sd k).1.2.2.2.2.2, g_21, g_29, v_26, τ.chosen) : Sc)) hS 0 rfl rfl 26 (by decide) (hts _ q1140) (fun _ h9 => h9) rfl (by decide +kernel) (w_nar (by subst_vars; split <;> (try split) <;> first | exact Or.inl rfl | exact Or.inr rfl)) (w_fit (by subst_vars; split <;> (try split) <;> first | exact Or.inl rfl | exact Or.inr rfl)) (Nat.le_of_ble_eq_true rfl) dX3_go_428 (fun H locs hP _ hS => ?_)
                                have hP : va_P D vwCl (mX dA h ad σ.txt σ.len σ.wt σ.pr σ.tools σ.load σ.purse σ.beg σ.ways σ.told σ.calls σ.sm σ.sorts σ.visits σ.vm τ.read τ.rm τ.at_ τ.place τ.end_ τ.ents τ.em τ.combos τ.all_ τ.weight g_24 v_31 g_21 g_29 v_26 τ.chosen) H := hP
                                refine lv_iinc (v := nI (k + 1)) (lv' := [(5, .int (nI (k + 1))), (11, .int (b01 (¬ (leftL σ (arrF σ (goD σ row ch bag sd k).1.1 (goD σ row ch bag sd k).1.2.1 (en row k)) (goD σ row ch bag sd k).1.2.2.1 (en row k) (chD σ row ch k (goD σ row ch bag sd k))) = -1))), (10, .int (leftL σ (arrF σ (goD σ row ch bag sd k).1.1 (goD σ row ch bag sd k).1.2.1 (en row k)) (goD σ row ch bag sd k).1.2.2.1 (en row k) (chD σ row ch k (goD σ row ch bag sd k)))), (9, .int (nI (chD σ row ch k (goD σ row ch bag sd k)))), (8, .int (b01 (lateP σ (arrF σ (goD σ row ch bag sd k).1.1 (goD σ row ch bag sd k).1.2.1 (en row k)) (en row k)))), (3, .int (nI (toN σ row k))), (7, .int (nI (toN σ row k))), (6, .int (nI (en row k))), (4, .int (nI (drD σ row k (goD σ row ch bag sd k)))), (0, .ref h), (1, .int bag), (2, .int (nI sd))]) hx hb dX3_go_431 hl (k := 7) rfl (nI_1 k) (by decide) rfl (fun ls hl => ?_)
                                refine lv_goto (tgt := 36) hx hb dX3_go_434 rfl ?_
                                have eh_32 : g_21 = (goD σ row ch bag sd (k + 1)).1.2.1 := (by subst_vars; rw [goD, if_neg h105] <;> rfl)
                                have eh_33 : v_26 = (goD σ row ch bag sd (k + 1)).1.2.2.1 := (by subst_vars; rw [goD, if_neg h105] <;> rfl)
                                have eh_34 : g_24 = (goD σ row ch bag sd (k + 1)).1.2.2.2.1 := (by subst_vars; rw [goD, if_neg h105] <;> rfl)
                                have eh_35 : g_29 = (goD σ row ch bag sd (k + 1)).1.2.2.2.2.1 := (by subst_vars; rw [goD, if_neg h105] <;> rfl)
                                have eh_36 : v_31 = (goD σ row ch bag sd (k + 1)).1.2.2.2.2.2 := (by subst_vars; rw [goD, if_neg h105] <;> rfl)
                                have hP : va_P D vwCl (mX dA h ad σ.txt σ.len σ.wt σ.pr σ.tools σ.load σ.purse σ.beg σ.ways σ.told σ.calls σ.sm σ.sorts σ.visits σ.vm τ.read τ.rm τ.at_ τ.place τ.end_ τ.ents τ.em τ.combos τ.all_ τ.weight ((goD σ row ch bag sd (k + 1)).1.2.2.2.1) ((goD σ row ch bag sd (k + 1)).1.2.2.2.2.2) ((goD σ row ch bag sd (k + 1)).1.2.1) ((goD σ row ch bag sd (k + 1)).1.2.2.2.2.1) ((goD σ row ch bag sd (k + 1)).1.2.2.1) τ.chosen) H := by rw [← eh_32, ← eh_33, ← eh_34, ← eh_35, ← eh_36]; exact hP
                                exact ih_3 (k + 1) (nI (k + 1)) (nI (drD σ row k (goD σ row ch bag sd k))) (nI (toN σ row k)) ls _ _ (by omega) (by omega) rfl (by rw [goD, if_neg h105]) (by rw [goD_x1]) (lv_sub hl [0, 8, 5, 9, 10, 11] rfl) hP hS
                              refine lv_if_eq (tgt := 427) hx hb dX3_go_415 rfl (fun h415 => ?_) (fun h415 => ?_)
                              · have h415 : ((goD σ row ch bag sd k).1.2.2.2.2.2) = 0 := h415
                                refine lv_iconst (v := 0) hx hb dX3_go_427 rfl ?_
                                exact hJ428_30 (0) ls (by rw [if_pos h415]) (lv_sub hl [0, 1, 2, 3, 4, 5, 6, 7, 8, 9, 10, 11] rfl)
                              · have h415 : ¬ (((goD σ row ch bag sd k).1.2.2.2.2.2) = 0) := h415
                                refine lv_iload hx hb dX3_go_418 (lv_at hl 0 rfl) ?_
                                refine lv_if_eq (tgt := 427) hx hb dX3_go_420 rfl (fun h420 => ?_) (fun h420 => ?_)
                                · have h420 : ¬ (¬ (leftL σ (arrF σ (goD σ row ch bag sd k).1.1 (goD σ row ch bag sd k).1.2.1 (en row k)) (goD σ row ch bag sd k).1.2.2.1 (en row k) (chD σ row ch k (goD σ row ch bag sd k))) = -1) := b01_0.mp h420
                                  refine lv_iconst (v := 0) hx hb dX3_go_427 rfl ?_
                                  exact hJ428_30 (0) ls (by rw [if_neg h415, if_neg h420]) (lv_sub hl [0, 1, 2, 3, 4, 5, 6, 7, 8, 9, 10, 11] rfl)
                                · have h420 : ¬ (leftL σ (arrF σ (goD σ row ch bag sd k).1.1 (goD σ row ch bag sd k).1.2.1 (en row k)) (goD σ row ch bag sd k).1.2.2.1 (en row k) (chD σ row ch k (goD σ row ch bag sd k))) = -1 := b01_n h420
                                  refine lv_iconst (v := 1) hx hb dX3_go_423 rfl ?_
                                  refine lv_goto (tgt := 428) hx hb dX3_go_424 rfl ?_
                                  exact hJ428_30 (1) ls (by rw [if_neg h415, if_pos h420]) (lv_sub hl [0, 1, 2, 3, 4, 5, 6, 7, 8, 9, 10, 11] rfl)
                            refine lv_if_eq (tgt := 405) hx hb dX3_go_395 rfl (fun h395 => ?_) (fun h395 => ?_)
                            · have h395 : ¬ (¬ (leftL σ (arrF σ (goD σ row ch bag sd k).1.1 (goD σ row ch bag sd k).1.2.1 (en row k)) (goD σ row ch bag sd k).1.2.2.1 (en row k) (chD σ row ch k (goD σ row ch bag sd k))) = -1) := b01_0.mp h395
                              refine lv_iconst (v := 0) hx hb dX3_go_405 rfl ?_
                              exact hJ406_27 (0) ls (by rw [if_neg h395]) (lv_sub hl [0, 1, 2, 3, 4, 5, 6, 7, 8, 9, 10, 11] rfl)
                            · have h395 : ¬ (leftL σ (arrF σ (goD σ row ch bag sd k).1.1 (goD σ row ch bag sd k).1.2.1 (en row k)) (goD σ row ch bag sd k).1.2.2.1 (en row k) (chD σ row ch k (goD σ row ch bag sd k))) = -1 := b01_n h395
                              refine lv_iconst (v := 1) hx hb dX3_go_398 rfl ?_
                              refine lv_iload hx hb dX3_go_399 (lv_at hl 6 rfl) ?_
                              refine lv_ishl hx hb dX3_go_401 ?_
                              refine lv_goto (tgt := 406) hx hb dX3_go_402 rfl ?_
                              exact hJ406_27 ((1 : Int32) <<< ((nI (en row k)) &&& 31)) ls (by rw [if_pos h395]) (lv_sub hl [0, 1, 2, 3, 4, 5, 6, 7, 8, 9, 10, 11] rfl)
                          refine lv_if_eq (tgt := 381) hx hb dX3_go_373 rfl (fun h373 => ?_) (fun h373 => ?_)
                          · have h373 : ¬ (¬ (leftL σ (arrF σ (goD σ row ch bag sd k).1.1 (goD σ row ch bag sd k).1.2.1 (en row k)) (goD σ row ch bag sd k).1.2.2.1 (en row k) (chD σ row ch k (goD σ row ch bag sd k))) = -1) := b01_0.mp h373
                            refine lv_aload_n hx hb dX3_go_381 rfl (lv_at hl 9 rfl) ?_
                            refine va_get (D := D) (ci := 0) (v := .int ((goD σ row ch bag sd k).1.2.2.1)) (C := RX3) (T := TX3) (N := 31) hx hb hts in_X3 hown hK hP 0 rfl rfl 29 (by decide) (hts _ q1143) (fun _ h9 => h9) rfl dX3_go_382 ?_
                            exact hJ385_25 ((goD σ row ch bag sd k).1.2.2.1) ls (by rw [if_neg h373]) (lv_sub hl [0, 1, 2, 3, 4, 5, 6, 7, 8, 9, 10, 11] rfl)
                          · have h373 : ¬ (leftL σ (arrF σ (goD σ row ch bag sd k).1.1 (goD σ row ch bag sd k).1.2.1 (en row k)) (goD σ row ch bag sd k).1.2.2.1 (en row k) (chD σ row ch k (goD σ row ch bag sd k))) = -1 := b01_n h373
                            refine lv_iload hx hb dX3_go_376 (lv_at hl 1 rfl) ?_
                            refine lv_goto (tgt := 385) hx hb dX3_go_378 rfl ?_
                            exact hJ385_25 (leftL σ (arrF σ (goD σ row ch bag sd k).1.1 (goD σ row ch bag sd k).1.2.1 (en row k)) (goD σ row ch bag sd k).1.2.2.1 (en row k) (chD σ row ch k (goD σ row ch bag sd k))) ls (by rw [if_pos h373]) (lv_sub hl [0, 1, 2, 3, 4, 5, 6, 7, 8, 9, 10, 11] rfl)
                        refine lv_if_eq (tgt := 353) hx hb dX3_go_335 rfl (fun h335 => ?_) (fun h335 => ?_)
                        · have h335 : ¬ (¬ (leftL σ (arrF σ (goD σ row ch bag sd k).1.1 (goD σ row ch bag sd k).1.2.1 (en row k)) (goD σ row ch bag sd k).1.2.2.1 (en row k) (chD σ row ch k (goD σ row ch bag sd k))) = -1) := b01_0.mp h335
                          refine lv_aload_n hx hb dX3_go_353 rfl (lv_at hl 9 rfl) ?_
                          refine va_get (D := D) (ci := 0) (v := .ref (ad 5)) (C := RX3) (T := TX3) (N := 31) hx hb hts in_X3 hown hK hP 0 rfl rfl 12 (by decide) (hts _ q1126) (fun _ h9 => h9) rfl dX3_go_354 ?_
                          refine lv_bipush (v := 6) hx hb dX3_go_357 rfl ?_
                          refine lv_iload hx hb dX3_go_359 (lv_at hl 6 rfl) ?_
                          refine lv_imul hx hb dX3_go_361 ?_
                          refine lv_iconst (v := 4) hx hb dX3_go_362 rfl ?_
                          refine lv_iadd hx hb dX3_go_363 ?_
                          refine wa_iald (f := σ.calls) hx hb hK hP 6 0 rfl rfl ((6 * (en row k)) + 4) ((nz_add (nz_mul rfl rfl) rfl)) (by omega) (by decide) dX3_go_364 ?_
                          refine lv_ineg hx hb dX3_go_365 ?_
                          exact hJ366_22 (-(σ.calls ((6 * (en row k)) + 4))) ls (by rw [if_neg h335]) (lv_sub hl [0, 1, 2, 3, 4, 5, 6, 7, 8, 9, 10, 11] rfl)
                        · have h335 : ¬ (leftL σ (arrF σ (goD σ row ch bag sd k).1.1 (goD σ row ch bag sd k).1.2.1 (en row k)) (goD σ row ch bag sd k).1.2.2.1 (en row k) (chD σ row ch k (goD σ row ch bag sd k))) = -1 := b01_n h335
                          refine lv_aload_n hx hb dX3_go_338 rfl (lv_at hl 9 rfl) ?_
                          refine va_get (D := D) (ci := 0) (v := .ref (ad 5)) (C := RX3) (T := TX3) (N := 31) hx hb hts in_X3 hown hK hP 0 rfl rfl 12 (by decide) (hts _ q1126) (fun _ h9 => h9) rfl dX3_go_339 ?_
                          refine lv_bipush (v := 6) hx hb dX3_go_342 rfl ?_
                          refine lv_iload hx hb dX3_go_344 (lv_at hl 6 rfl) ?_
                          refine lv_imul hx hb dX3_go_346 ?_
                          refine lv_iconst (v := 3) hx hb dX3_go_347 rfl ?_
                          refine lv_iadd hx hb dX3_go_348 ?_
                          refine wa_iald (f := σ.calls) hx hb hK hP 6 0 rfl rfl ((6 * (en row k)) + 3) ((nz_add (nz_mul rfl rfl) rfl)) (by omega) (by decide) dX3_go_349 ?_
                          refine lv_goto (tgt := 366) hx hb dX3_go_350 rfl ?_
                          exact hJ366_22 (σ.calls ((6 * (en row k)) + 3)) ls (by rw [if_pos h335]) (lv_sub hl [0, 1, 2, 3, 4, 5, 6, 7, 8, 9, 10, 11] rfl)
                      refine lv_if_eq (tgt := 287) hx hb dX3_go_280 rfl (fun h280 => ?_) (fun h280 => ?_)
                      · have h280 : ¬ (lateP σ (arrF σ (goD σ row ch bag sd k).1.1 (goD σ row ch bag sd k).1.2.1 (en row k)) (en row k)) := b01_0.mp h280
                        refine lv_iload hx hb dX3_go_287 (lv_at hl 0 rfl) ?_
                        refine lv_if_eq (tgt := 312) hx hb dX3_go_289 rfl (fun h289 => ?_) (fun h289 => ?_)
                        · have h289 : ¬ (¬ (leftL σ (arrF σ (goD σ row ch bag sd k).1.1 (goD σ row ch bag sd k).1.2.1 (en row k)) (goD σ row ch bag sd k).1.2.2.1 (en row k) (chD σ row ch k (goD σ row ch bag sd k))) = -1) := b01_0.mp h289
                          refine lv_aload_n hx hb dX3_go_312 rfl (lv_at hl 9 rfl) ?_
                          refine va_get (D := D) (ci := 0) (v := .ref (ad 5)) (C := RX3) (T := TX3) (N := 31) hx hb hts in_X3 hown hK hP 0 rfl rfl 12 (by decide) (hts _ q1126) (fun _ h9 => h9) rfl dX3_go_313 ?_
                          refine lv_bipush (v := 6) hx hb dX3_go_316 rfl ?_
                          refine lv_iload hx hb dX3_go_318 (lv_at hl 6 rfl) ?_
                          refine lv_imul hx hb dX3_go_320 ?_
                          refine lv_iconst (v := 5) hx hb dX3_go_321 rfl ?_
                          refine lv_iadd hx hb dX3_go_322 ?_
                          refine wa_iald (f := σ.calls) hx hb hK hP 6 0 rfl rfl ((6 * (en row k)) + 5) ((nz_add (nz_mul rfl rfl) rfl)) (by omega) (by decide) dX3_go_323 ?_
                          exact hJ324_19 (σ.calls ((6 * (en row k)) + 5)) ls (by rw [if_neg h280, if_neg h289]) (lv_sub hl [0, 1, 2, 3, 4, 5, 6, 7, 8, 9, 10, 11] rfl)
                        · have h289 : ¬ (leftL σ (arrF σ (goD σ row ch bag sd k).1.1 (goD σ row ch bag sd k).1.2.1 (en row k)) (goD σ row ch bag sd k).1.2.2.1 (en row k) (chD σ row ch k (goD σ row ch bag sd k))) = -1 := b01_n h289
                          refine lv_aload_n hx hb dX3_go_292 rfl (lv_at hl 9 rfl) ?_
                          refine va_get (D := D) (ci := 0) (v := .ref (ad 7)) (C := RX3) (T := TX3) (N := 31) hx hb hts in_X3 hown hK hP 0 rfl rfl 14 (by decide) (hts _ q1128) (fun _ h9 => h9) rfl dX3_go_293 ?_
                          refine lv_bipush (v := 16) hx hb dX3_go_296 rfl ?_
                          refine lv_iload hx hb dX3_go_298 (lv_at hl 6 rfl) ?_
                          refine lv_imul hx hb dX3_go_300 ?_
                          refine lv_iconst (v := 4) hx hb dX3_go_301 rfl ?_
                          refine lv_iload hx hb dX3_go_302 (lv_at hl 2 rfl) ?_
                          refine lv_imul hx hb dX3_go_304 ?_
                          refine lv_iadd hx hb dX3_go_305 ?_
                          refine lv_iconst (v := 1) hx hb dX3_go_306 rfl ?_
                          refine lv_iadd hx hb dX3_go_307 ?_
                          refine wa_iald (f := σ.sorts) hx hb hK hP 8 0 rfl rfl (((16 * (en row k)) + (4 * (chD σ row ch k (goD σ row ch bag sd k)))) + 1) ((nz_add (nz_add (nz_mul rfl rfl) (nz_mul rfl rfl)) rfl)) (by omega) (by decide) dX3_go_308 ?_
                          refine lv_goto (tgt := 324) hx hb dX3_go_309 rfl ?_
                          exact hJ324_19 (σ.sorts (((16 * (en row k)) + (4 * (chD σ row ch k (goD σ row ch bag sd k)))) + 1)) ls (by rw [if_neg h280, if_pos h289]) (lv_sub hl [0, 1, 2, 3, 4, 5, 6, 7, 8, 9, 10, 11] rfl)
                      · have h280 : lateP σ (arrF σ (goD σ row ch bag sd k).1.1 (goD σ row ch bag sd k).1.2.1 (en row k)) (en row k) := b01_n h280
                        refine lv_iconst (v := 0) hx hb dX3_go_283 rfl ?_
                        refine lv_goto (tgt := 324) hx hb dX3_go_284 rfl ?_
                        exact hJ324_19 (0) ls (by rw [if_pos h280]) (lv_sub hl [0, 1, 2, 3, 4, 5, 6, 7, 8, 9, 10, 11] rfl)
                    refine lv_icmp_eq (tgt := 270) hx hb dX3_go_263 rfl (fun h263 => ?_) (fun h263 => ?_)
                    · have h263 : (leftL σ (arrF σ (goD σ row ch bag sd k).1.1 (goD σ row ch bag sd k).1.2.1 (en row k)) (goD σ row ch bag sd k).1.2.2.1 (en row k) (chD σ row ch k (goD σ row ch bag sd k))) = (-1) := h263
                      refine lv_iconst (v := 0) hx hb dX3_go_270 rfl ?_
                      exact hJ271_17 (0) ls (by rw [if_pos h263]) (lv_sub hl [0, 1, 2, 3, 4, 5, 6, 7, 8, 9, 10] rfl)
                    · have h263 : ¬ ((leftL σ (arrF σ (goD σ row ch bag sd k).1.1 (goD σ row ch bag sd k).1.2.1 (en row k)) (goD σ row ch bag sd k).1.2.2.1 (en row k) (chD σ row ch k (goD σ row ch bag sd k))) = (-1)) := h263
                      refine lv_iconst (v := 1) hx hb dX3_go_266 rfl ?_
                      refine lv_goto (tgt := 271) hx hb dX3_go_267 rfl ?_
                      exact hJ271_17 (1) ls (by rw [if_neg h263]) (lv_sub hl [0, 1, 2, 3, 4, 5, 6, 7, 8, 9, 10] rfl)
                  refine lv_if_eq (tgt := 246) hx hb dX3_go_239 rfl (fun h239 => ?_) (fun h239 => ?_)
                  · have h239 : ¬ (lateP σ (arrF σ (goD σ row ch bag sd k).1.1 (goD σ row ch bag sd k).1.2.1 (en row k)) (en row k)) := b01_0.mp h239
                    refine lv_aload_n hx hb dX3_go_246 rfl (lv_at hl 7 rfl) ?_
                    refine lv_aload_n hx hb dX3_go_247 rfl (lv_at hl 7 rfl) ?_
                    refine va_get (D := D) (ci := 0) (v := .int ((goD σ row ch bag sd k).1.2.2.1)) (C := RX3) (T := TX3) (N := 31) hx hb hts in_X3 hown hK hP 0 rfl rfl 29 (by decide) (hts _ q1143) (fun _ h9 => h9) rfl dX3_go_248 ?_
                    refine lv_iload hx hb dX3_go_251 (lv_at hl 4 rfl) ?_
                    refine lv_iload hx hb dX3_go_253 (lv_at hl 0 rfl) ?_
                    refine cVi (As := [.int ((goD σ row ch bag sd k).1.2.2.1), .int (nI (en row k)), .int (nI (chD σ row ch k (goD σ row ch bag sd k)))]) (rest := []) ⟨hx, hb, hml, hown, hts⟩ (mt_X3_leftOf l D dA h ad σ ((τ.read, τ.rm, τ.at_, τ.place, τ.end_, τ.ents, τ.em, τ.combos, τ.all_, τ.weight, (goD σ row ch bag sd k).1.2.2.2.1, (goD σ row ch bag sd k).1.2.2.2.2.2, arrF σ (goD σ row ch bag sd k).1.1 (goD σ row ch bag sd k).1.2.1 (en row k), (goD σ row ch bag sd k).1.2.2.2.2.1, (goD σ row ch bag sd k).1.2.2.1, τ.chosen) : Sc) ((goD σ row ch bag sd k).1.2.2.1) (en row k) (chD σ row ch k (goD σ row ch bag sd k)) (by omega) (by omega)) (cw_X3_X3_leftOf hts ⟨Nat.le_of_ble_eq_true rfl, Nat.le_of_ble_eq_true rfl⟩) mB_bl (mB_now hK hP) (va_recv hK hP (ci := 0) (q0 := 0) rfl rfl) rfl hl.1 rfl (Nat.le_of_ble_eq_true rfl) dX3_go_255 ⟨Nat.le_of_ble_eq_true rfl, Nat.le_of_ble_eq_true rfl⟩ ?_
                    exact hJ258_15 (leftF σ ((goD σ row ch bag sd k).1.2.2.1) (en row k) (chD σ row ch k (goD σ row ch bag sd k))) ls (by rw [if_neg h239]) (lv_sub hl [0, 1, 2, 3, 4, 5, 6, 7, 8, 9] rfl)
                  · have h239 : lateP σ (arrF σ (goD σ row ch bag sd k).1.1 (goD σ row ch bag sd k).1.2.1 (en row k)) (en row k) := b01_n h239
                    refine lv_iconst (v := (-1)) hx hb dX3_go_242 rfl ?_
                    refine lv_goto (tgt := 258) hx hb dX3_go_243 rfl ?_
                    exact hJ258_15 ((-1)) ls (by rw [if_pos h239]) (lv_sub hl [0, 1, 2, 3, 4, 5, 6, 7, 8, 9] rfl)
                refine lv_if_ne (tgt := 237) hx hb dX3_go_195 rfl (fun h195 => ?_) (fun h195 => ?_)
                · have h195 : lateP σ (arrF σ (goD σ row ch bag sd k).1.1 (goD σ row ch bag sd k).1.2.1 (en row k)) (en row k) := b01_n h195
                  exact hJ237_12 (nI (ch k)) (nI ((goD σ row ch bag sd k).2)) ls (by rw [if_pos h195]) (by rw [if_pos h195]) (lv_sub hl [0, 1, 2, 3, 4, 5, 6, 7, 8, 9] rfl)
                · have h195 : ¬ (lateP σ (arrF σ (goD σ row ch bag sd k).1.1 (goD σ row ch bag sd k).1.2.1 (en row k)) (en row k)) := b01_0.mp h195
                  refine lv_iload_n hx hb dX3_go_198 rfl (lv_at hl 9 rfl) ?_
                  refine lv_if_lt (tgt := 237) hx hb dX3_go_199 rfl (fun h199 => ?_) (fun h199 => ?_)
                  · have h199 : sd < 0 := (nz_lt (a := sd) (b := 0) rfl rfl (by omega) (by omega)).mp h199
                    exact absurd h199 (Nat.not_lt_zero _)
                  · have h199 : ¬ (sd < 0) := fun z9 => h199 ((nz_lt (a := sd) (b := 0) rfl rfl (by omega) (by omega)).mpr z9)
                    refine lv_iload hx hb dX3_go_202 (lv_at hl 6 rfl) ?_
                    refine lv_sipush (v := 25173) hx hb dX3_go_204 rfl ?_
                    refine lv_imul hx hb dX3_go_207 ?_
                    refine lv_sipush (v := 13849) hx hb dX3_go_208 rfl ?_
                    refine lv_iadd hx hb dX3_go_211 ?_
                    refine lv_ldc (v := 65536) hx hb hown (hts _ q1395) dX3_go_212 ?_
                    refine lv_irem hx hb dX3_go_214 (by decide) ?_
                    refine w_topi (y := nI (((((goD σ row ch bag sd k).2) * 25173) + 13849) % 65536)) (nz_rem (a := (((goD σ row ch bag sd k).2) * 25173) + 13849) (d := 65536) (nz_add (nz_mul rfl rfl) rfl) rfl (by omega) (by decide) (by decide)) ?_
                    refine w_topi (y := nI (dnx (goD σ row ch bag sd k).2)) (rfl) ?_
                    refine lv_istore (lv' := [(4, .int (nI (dnx (goD σ row ch bag sd k).2))), (9, .int (nI (ch k))), (8, .int (b01 (lateP σ (arrF σ (goD σ row ch bag sd k).1.1 (goD σ row ch bag sd k).1.2.1 (en row k)) (en row k)))), (3, .int (nI (toN σ row k))), (7, .int (nI (toN σ row k))), (6, .int (nI (en row k))), (5, .int (nI k)), (0, .ref h), (1, .int bag), (2, .int (nI sd))]) hx hb dX3_go_215 hl (by decide) rfl (fun ls hl => ?_)
                    have hdx : dnx (goD σ row ch bag sd k).2 < 65536 := Nat.mod_lt _ (by decide)
                    refine lv_aload_n hx hb dX3_go_217 rfl (lv_at hl 7 rfl) ?_
                    refine lv_iload hx hb dX3_go_218 (lv_at hl 5 rfl) ?_
                    refine lv_iload hx hb dX3_go_220 (lv_at hl 0 rfl) ?_
                    refine lv_bipush (v := 64) hx hb dX3_go_222 rfl ?_
                    refine lv_idiv hx hb dX3_go_224 (by decide) ?_
                    refine w_topi (y := nI ((dnx (goD σ row ch bag sd k).2) / 64)) (nz_div (a := dnx (goD σ row ch bag sd k).2) (d := 64) rfl rfl (by omega) (by decide) (by decide)) ?_
                    refine lv_aload_n hx hb dX3_go_225 rfl (lv_at hl 7 rfl) ?_
                    refine lv_iload hx hb dX3_go_226 (lv_at hl 5 rfl) ?_
                    refine cVi (As := [.int (nI (en row k))]) (rest := [.int (nI ((dnx (goD σ row ch bag sd k).2) / 64)), .int (nI (en row k)), .ref h]) ⟨hx, hb, hml, hown, hts⟩ (mt_X3_totalOf l D dA h ad σ ((τ.read, τ.rm, τ.at_, τ.place, τ.end_, τ.ents, τ.em, τ.combos, τ.all_, τ.weight, (goD σ row ch bag sd k).1.2.2.2.1, (goD σ row ch bag sd k).1.2.2.2.2.2, arrF σ (goD σ row ch bag sd k).1.1 (goD σ row ch bag sd k).1.2.1 (en row k), (goD σ row ch bag sd k).1.2.2.2.2.1, (goD σ row ch bag sd k).1.2.2.1, τ.chosen) : Sc) (en row k) hI (by omega)) (cw_X3_X3_totalOf hts ⟨Nat.le_of_ble_eq_true rfl, Nat.le_of_ble_eq_true rfl⟩) mB_bl (mB_now hK hP) (va_recv hK hP (ci := 0) (q0 := 0) rfl rfl) rfl hl.1 rfl (Nat.le_of_ble_eq_true rfl) dX3_go_228 ⟨Nat.le_of_ble_eq_true rfl, Nat.le_of_ble_eq_true rfl⟩ ?_
                    refine w_topi (y := nI (toT σ (en row k))) (htt.1) ?_
                    refine lv_irem hx hb dX3_go_231 (nI_ne0 (by omega) (by omega)) ?_
                    refine w_topi (y := nI (((dnx (goD σ row ch bag sd k).2) / 64) % (toT σ (en row k)))) (nz_rem (a := (dnx (goD σ row ch bag sd k).2) / 64) (d := toT σ (en row k)) rfl rfl (by omega) (by omega) (by omega)) ?_
                    refine cVi (As := [.int (nI (en row k)), .int (nI (((dnx (goD σ row ch bag sd k).2) / 64) % (toT σ (en row k))))]) (rest := []) ⟨hx, hb, hml, hown, hts⟩ (mt_X3_sortBy l D dA h ad σ ((τ.read, τ.rm, τ.at_, τ.place, τ.end_, τ.ents, τ.em, τ.combos, τ.all_, τ.weight, (goD σ row ch bag sd k).1.2.2.2.1, (goD σ row ch bag sd k).1.2.2.2.2.2, arrF σ (goD σ row ch bag sd k).1.1 (goD σ row ch bag sd k).1.2.1 (en row k), (goD σ row ch bag sd k).1.2.2.2.2.1, (goD σ row ch bag sd k).1.2.2.1, τ.chosen) : Sc) (en row k) (((dnx (goD σ row ch bag sd k).2) / 64) % (toT σ (en row k))) hI (by omega) (Nat.mod_lt _ (by omega))) (cw_X3_X3_sortBy hts ⟨Nat.le_of_ble_eq_true rfl, Nat.le_of_ble_eq_true rfl⟩) mB_bl (mB_now hK hP) (va_recv hK hP (ci := 0) (q0 := 0) rfl rfl) rfl hl.1 rfl (Nat.le_of_ble_eq_true rfl) dX3_go_232 ⟨Nat.le_of_ble_eq_true rfl, Nat.le_of_ble_eq_true rfl⟩ ?_
                    refine lv_istore (lv' := [(9, .int (nI (sbN σ (en row k) (((dnx (goD σ row ch bag sd k).2) / 64) % (toT σ (en row k)))))), (4, .int (nI (dnx (goD σ row ch bag sd k).2))), (8, .int (b01 (lateP σ (arrF σ (goD σ row ch bag sd k).1.1 (goD σ row ch bag sd k).1.2.1 (en row k)) (en row k)))), (3, .int (nI (toN σ row k))), (7, .int (nI (toN σ row k))), (6, .int (nI (en row k))), (5, .int (nI k)), (0, .ref h), (1, .int bag), (2, .int (nI sd))]) hx hb dX3_go_235 hl (by decide) rfl (fun ls hl => ?_)
                    exact hJ237_12 (nI (sbN σ (en row k) (((dnx (goD σ row ch bag sd k).2) / 64) % (toT σ (en row k))))) (nI (dnx (goD σ row ch bag sd k).2)) ls (by rw [if_neg h195]) (by rw [if_neg h195]) (lv_sub hl [0, 2, 3, 4, 5, 6, 1, 7, 8, 9] rfl)
              refine lv_icmp_le (tgt := 181) hx hb dX3_go_174 rfl (fun h174 => ?_) (fun h174 => ?_)
              · have h174 : (arrF σ (goD σ row ch bag sd k).1.1 (goD σ row ch bag sd k).1.2.1 (en row k)) ≤ (σ.calls ((6 * (en row k)) + 2)) := h174
                refine lv_iconst (v := 0) hx hb dX3_go_181 rfl ?_
                exact hJ182_10 (0) ls (by rw [if_pos h174]) (lv_sub hl [0, 1, 2, 3, 4, 5, 6, 7] rfl)
              · have h174 : ¬ ((arrF σ (goD σ row ch bag sd k).1.1 (goD σ row ch bag sd k).1.2.1 (en row k)) ≤ (σ.calls ((6 * (en row k)) + 2))) := h174
                refine lv_iconst (v := 1) hx hb dX3_go_177 rfl ?_
                refine lv_goto (tgt := 182) hx hb dX3_go_178 rfl ?_
                exact hJ182_10 (1) ls (by rw [if_neg h174]) (lv_sub hl [0, 1, 2, 3, 4, 5, 6, 7] rfl)
            refine lv_icmp_ge (tgt := 151) hx hb dX3_go_133 rfl (fun h133 => ?_) (fun h133 => ?_)
            · have h133 : (σ.calls ((6 * (en row k)) + 1)) ≤ g_7 := h133
              refine lv_aload_n hx hb dX3_go_151 rfl (lv_at hl 5 rfl) ?_
              refine va_get (D := D) (ci := 0) (v := .int g_7) (C := RX3) (T := TX3) (N := 31) hx hb hts in_X3 hown hK hP 0 rfl rfl 27 (by decide) (hts _ q1141) (fun _ h9 => h9) rfl dX3_go_152 ?_
              exact hJ155_8 (g_7) ls (by subst_vars; rw [if_pos h133]) (lv_sub hl [0, 1, 2, 3, 4, 5, 6, 7] rfl)
            · have h133 : ¬ ((σ.calls ((6 * (en row k)) + 1)) ≤ g_7) := h133
              refine lv_aload_n hx hb dX3_go_136 rfl (lv_at hl 5 rfl) ?_
              refine va_get (D := D) (ci := 0) (v := .ref (ad 5)) (C := RX3) (T := TX3) (N := 31) hx hb hts in_X3 hown hK hP 0 rfl rfl 12 (by decide) (hts _ q1126) (fun _ h9 => h9) rfl dX3_go_137 ?_
              refine lv_bipush (v := 6) hx hb dX3_go_140 rfl ?_
              refine lv_iload hx hb dX3_go_142 (lv_at hl 2 rfl) ?_
              refine lv_imul hx hb dX3_go_144 ?_
              refine lv_iconst (v := 1) hx hb dX3_go_145 rfl ?_
              refine lv_iadd hx hb dX3_go_146 ?_
              refine wa_iald (f := σ.calls) hx hb hK hP 6 0 rfl rfl ((6 * (en row k)) + 1) ((nz_add (nz_mul rfl rfl) rfl)) (by omega) (by decide) dX3_go_147 ?_
              refine lv_goto (tgt := 155) hx hb dX3_go_148 rfl ?_
              exact hJ155_8 (σ.calls ((6 * (en row k)) + 1)) ls (by rw [if_neg h133]) (lv_sub hl [0, 1, 2, 3, 4, 5, 6, 7] rfl)
          · have h105 : (en row k) = 6 := (nz_eq (a := en row k) (b := 6) rfl rfl (by omega) (by omega)).mp h105
            refine lv_aload_n hx hb dX3_go_108 rfl (lv_at hl 5 rfl) ?_
            refine lv_iload_n hx hb dX3_go_109 rfl (lv_at hl 6 rfl) ?_
            refine va_put (D := D) (ci := 0) (v := .int bag) (ty := .int) (C := RX3) (T := TX3) (N := 31) hx hb hts in_X3 tyX3 tyX3_ok nmX3 hown hK hP (mD_va hmD dA σ ((τ.read, τ.rm, τ.at_, τ.place, τ.end_, τ.ents, τ.em, τ.combos, τ.all_, τ.weight, (goD σ row ch bag sd k).1.2.2.2.1, (goD σ row ch bag sd k).1.2.2.2.2.2, g_7, (goD σ row ch bag sd k).1.2.2.2.2.1, (goD σ row ch bag sd k).1.2.2.1, τ.chosen) : Sc)) hS 0 rfl rfl 29 (by decide) (hts _ q1143) (fun _ h9 => h9) rfl (by decide +kernel) (rfl) (rfl) (Nat.le_of_ble_eq_true rfl) dX3_go_110 (fun H locs hP _ hS => ?_)
            have hP : va_P D vwCl (mX dA h ad σ.txt σ.len σ.wt σ.pr σ.tools σ.load σ.purse σ.beg σ.ways σ.told σ.calls σ.sm σ.sorts σ.visits σ.vm τ.read τ.rm τ.at_ τ.place τ.end_ τ.ents τ.em τ.combos τ.all_ τ.weight ((goD σ row ch bag sd k).1.2.2.2.1) ((goD σ row ch bag sd k).1.2.2.2.2.2) g_7 ((goD σ row ch bag sd k).1.2.2.2.2.1) bag τ.chosen) H := hP
            refine lv_goto (tgt := 431) hx hb dX3_go_113 rfl ?_
            refine lv_iinc (v := nI (k + 1)) (lv' := [(5, .int (nI (k + 1))), (3, .int (nI (toN σ row k))), (7, .int (nI (toN σ row k))), (6, .int (nI (en row k))), (4, .int (nI ((goD σ row ch bag sd k).2))), (0, .ref h), (1, .int bag), (2, .int (nI sd))]) hx hb dX3_go_431 hl (k := 3) rfl (nI_1 k) (by decide) rfl (fun ls hl => ?_)
            refine lv_goto (tgt := 36) hx hb dX3_go_434 rfl ?_
            have eh_37 : g_7 = (goD σ row ch bag sd (k + 1)).1.2.1 := (by subst_vars; rw [goD, if_pos h105, show toN σ row k = 0 from if_pos h105] <;> rfl)
            have eh_38 : bag = (goD σ row ch bag sd (k + 1)).1.2.2.1 := (by subst_vars; rw [goD, if_pos h105] <;> rfl)
            have eh_39 : (goD σ row ch bag sd k).1.2.2.2.1 = (goD σ row ch bag sd (k + 1)).1.2.2.2.1 := (by subst_vars; rw [goD, if_pos h105] <;> rfl)
            have eh_40 : (goD σ row ch bag sd k).1.2.2.2.2.1 = (goD σ row ch bag sd (k + 1)).1.2.2.2.2.1 := (by subst_vars; rw [goD, if_pos h105] <;> rfl)
            have eh_41 : (goD σ row ch bag sd k).1.2.2.2.2.2 = (goD σ row ch bag sd (k + 1)).1.2.2.2.2.2 := (by subst_vars; rw [goD, if_pos h105] <;> rfl)
            have hP : va_P D vwCl (mX dA h ad σ.txt σ.len σ.wt σ.pr σ.tools σ.load σ.purse σ.beg σ.ways σ.told σ.calls σ.sm σ.sorts σ.visits σ.vm τ.read τ.rm τ.at_ τ.place τ.end_ τ.ents τ.em τ.combos τ.all_ τ.weight ((goD σ row ch bag sd (k + 1)).1.2.2.2.1) ((goD σ row ch bag sd (k + 1)).1.2.2.2.2.2) ((goD σ row ch bag sd (k + 1)).1.2.1) ((goD σ row ch bag sd (k + 1)).1.2.2.2.2.1) ((goD σ row ch bag sd (k + 1)).1.2.2.1) τ.chosen) H := by rw [← eh_37, ← eh_38, ← eh_39, ← eh_40, ← eh_41]; exact hP
            exact ih_3 (k + 1) (nI (k + 1)) (nI ((goD σ row ch bag sd k).2)) (nI (toN σ row k)) ls _ _ (by omega) (by omega) rfl (by rw [goD, if_pos h105]) (by rw [goD_x1]) (lv_sub hl [0, 4, 1, 5, 6, 7] rfl) hP hS
        refine lv_icmp_ne (tgt := 65) hx hb dX3_go_58 rfl (fun h58 => ?_) (fun h58 => ?_)
        · have h58 : ¬ ((en row k) = 6) := fun z9 => h58 ((nz_eq (a := en row k) (b := 6) rfl rfl (by omega) (by omega)).mpr z9)
          have hlt := ((hR.2 k (by omega)).resolve_left h58)
          have hpl := hI.pl2 _ hlt.1
          refine lv_aload_n hx hb dX3_go_65 rfl (lv_at hl 4 rfl) ?_
          refine va_get (D := D) (ci := 0) (v := .ref (ad 5)) (C := RX3) (T := TX3) (N := 31) hx hb hts in_X3 hown hK hP 0 rfl rfl 12 (by decide) (hts _ q1126) (fun _ h9 => h9) rfl dX3_go_66 ?_
          refine lv_bipush (v := 6) hx hb dX3_go_69 rfl ?_
          refine lv_iload hx hb dX3_go_71 (lv_at hl 0 rfl) ?_
          refine lv_imul hx hb dX3_go_73 ?_
          refine wa_iald (f := σ.calls) hx hb hK hP 6 0 rfl rfl (6 * (en row k)) ((nz_mul rfl rfl)) (by omega) (by decide) dX3_go_74 ?_
          refine w_topi (y := nI (plF σ (en row k))) (hpl.2) ?_
          exact hJ75_5 (nI (plF σ (en row k))) ls (by rw [if_neg h58]) (lv_sub hl [0, 1, 2, 3, 4, 5, 6] rfl)
        · have h58 : (en row k) = 6 := (nz_eq (a := en row k) (b := 6) rfl rfl (by omega) (by omega)).mp h58
          refine lv_iconst (v := 0) hx hb dX3_go_61 rfl ?_
          refine lv_goto (tgt := 75) hx hb dX3_go_62 rfl ?_
          exact hJ75_5 (0) ls (by rw [if_pos h58]) (lv_sub hl [0, 1, 2, 3, 4, 5, 6] rfl)
  exact hL36_1 _ 0 0 (nI sd) 0 ls _ _ (Nat.lt_succ_self _) (by omega) rfl rfl rfl (lv_sub hl [0, 1, 2, 3, 4, 5] rfl) hP hS

theorem in64k {c : Int32} (h : inP c.toInt64 0 65535) : ∃ j : Nat, j < 65536 ∧ c = nI j := by
  obtain ⟨j, a, b⟩ := inP_of 65535 (by decide) h
  exact ⟨j, by omega, b⟩

theorem cw_X3_X3_go_B {R : Room} {s : State} {args : Array Value} (hts : ∀ w ∈ lw_all, w.before args s = true) (hR : rmX3_go_B.frames + 1 ≤ R.frames ∧ 8 + (12 + 11) + rmX3_go_B.locals ≤ R.locals) : CallW R s args RX3 RX3 227 yX3_go cX3_go 12 none (ws_ yX3_go cX3_go 12 none) rmX3_go_B 0 0 2 := cwV 2 hts (lw_V q1391 q1393 qs57 q83 q1394) rfl rfl rfl (by decide +kernel) hR
def rmX3_run : Room := { frames := 5, cells := 0, slots := 0, locals := 117 }
set_option maxHeartbeats 1000000 in
theorem mt_X3_run (l : Launch) (D : va_G) (dA : Nat → ClassId) (h : Nat) (ad : Nat → Nat) (σ : St) (τ : Sc) (hmD : mD h ad) (sd : Int32) (bag : Int32) (row : Int32) (n_ : Int32) (w : Int32) (hI : Inv σ) : Met l yX3_run (ws_ yX3_run cX3_run 7 (some .int)) rmX3_run (va_Pc [.ref h, .int sd, .int bag, .int row, .int n_, .int w] (mB D dA h ad σ τ)) (va_Qi (fun r (u : MS) => r = runF σ sd bag row n_ w ∧ u.1 = σ) (fun u t => mB D dA h ad u.1 u.2 t) (mA h ad)) 0 0 (mA h ad) := by
  refine w_start (by decide) (Nat.le_of_ble_eq_true rfl) ?_
  intro p e s m args below meth c Q ls hQ hx hb hr hlocks hml hown hnm hts hB hl
  have hown : s.vm.findClass RX3 = some m.cls := hown
  have hl : lv_has ls 7 [(0, .ref h), (1, .int sd), (2, .int bag), (3, .int row), (4, .int n_), (5, .int w)] := hl
  obtain ⟨hP, hK⟩ := hB
  have hP : va_P D vwCl (mX dA h ad σ.txt σ.len σ.wt σ.pr σ.tools σ.load σ.purse σ.beg σ.ways σ.told σ.calls σ.sm σ.sorts σ.visits σ.vm τ.read τ.rm τ.at_ τ.place τ.end_ τ.ents τ.em τ.combos τ.all_ τ.weight τ.gain τ.ad_ τ.minute τ.ds τ.bl τ.chosen) s.heap := hP
  have hS : va_S (mA h ad) s.heap s.heap [] := va_S.rf
  refine lv_aload_n hx hb dX3_run_0 rfl (lv_at hl 0 rfl) ?_
  refine lv_iload_n hx hb dX3_run_1 rfl (lv_at hl 2 rfl) ?_
  refine lv_iload_n hx hb dX3_run_2 rfl (lv_at hl 3 rfl) ?_
  refine lv_iload hx hb dX3_run_3 (lv_at hl 4 rfl) ?_
  refine cVi (As := [.int bag, .int row, .int n_]) (rest := []) ⟨hx, hb, hml, hown, hts⟩ (mt_X3_refusesBag l D dA h ad σ τ bag row n_ hI) (cw_X3_X3_refusesBag hts ⟨Nat.le_of_ble_eq_true rfl, Nat.le_of_ble_eq_true rfl⟩) mB_bl (mB_now hK hP) (va_recv hK hP (ci := 0) (q0 := 0) rfl rfl) rfl hl.1 rfl (Nat.le_of_ble_eq_true rfl) dX3_run_5 ⟨Nat.le_of_ble_eq_true rfl, Nat.le_of_ble_eq_true rfl⟩ ?_
  refine lv_istore (lv' := [(6, .int (refBF σ bag row n_)), (0, .ref h), (1, .int sd), (2, .int bag), (3, .int row), (4, .int n_), (5, .int w)]) hx hb dX3_run_8 hl (by decide) rfl (fun ls hl => ?_)
  refine lv_iload hx hb dX3_run_10 (lv_at hl 0 rfl) ?_
  refine lv_if_eq (tgt := 18) hx hb dX3_run_12 rfl (fun h12 => ?_) (fun h12 => ?_)
  · have h12 : (refBF σ bag row n_) = 0 := h12
    obtain ⟨j, hj1, hj6, rfl, hR, htw⟩ := ref_ok (refB_ok h12).1
    have hix : ix (nI j) = j := ix_nI (Nat.lt_succ_of_le hj6) (by decide)
    have hcb := com_bd hI hR
    refine lv_iload_n hx hb dX3_run_18 rfl (lv_at hl 2 rfl) ?_
    refine lv_i2l (v := (sd : Int32).toInt64) hx hb dX3_run_19 rfl ?_
    refine lv_lconst (v := 0) hx hb dX3_run_20 rfl ?_
    refine lv_ldc2 (v := 65535) hx hb hown (hts _ q1537) dX3_run_21 ?_
    refine cSi (As := [.long ((sd : Int32).toInt64), .long 0, .long 65535]) (rest := []) ⟨hx, hb, hml, hown, hts⟩ (mt_X3_in l ((sd : Int32).toInt64) 0 65535) (cw_X3_X3_in hts ⟨Nat.le_of_ble_eq_true rfl, Nat.le_of_ble_eq_true rfl⟩) w_blT (fun _ _ _ => trivial) rfl hl.1 rfl (Nat.le_of_ble_eq_true rfl) dX3_run_24 ⟨Nat.le_of_ble_eq_true rfl, Nat.le_of_ble_eq_true rfl⟩ ?_
    refine lv_if_eq (tgt := 43) hx hb dX3_run_27 rfl (fun h27 => ?_) (fun h27 => ?_)
    · have h27 : ¬ (inP ((sd : Int32).toInt64) 0 65535) := b01_0.mp h27
      refine lv_bipush (v := (-3)) hx hb dX3_run_43 rfl ?_
      exact rm_i (u := (σ, τ)) hQ hx hb hr hlocks hK hP hS (⟨by subst_vars; simp only [runF, eq_true h12, eq_false h27, hix, if_true, if_false, ite_true, ite_false, not_true_eq_false, not_false_eq_true, and_true, true_and, and_false, false_and, or_true, true_or, or_false, false_or, and_self, or_self, eq_self], rfl⟩) dX3_run_45
    · have h27 : inP ((sd : Int32).toInt64) 0 65535 := b01_n h27
      obtain ⟨d, hd, rfl⟩ := in64k h27
      have hix_d : ix (nI d) = d := ix_nI hd (by decide)
      refine lv_iload hx hb dX3_run_30 (lv_at hl 6 rfl) ?_
      refine lv_i2l (v := (w : Int32).toInt64) hx hb dX3_run_32 rfl ?_
      refine lv_lconst (v := 0) hx hb dX3_run_33 rfl ?_
      refine lv_ldc2 (v := 3) hx hb hown (hts _ q1312) dX3_run_34 ?_
      refine cSi (As := [.long ((w : Int32).toInt64), .long 0, .long 3]) (rest := []) ⟨hx, hb, hml, hown, hts⟩ (mt_X3_in l ((w : Int32).toInt64) 0 3) (cw_X3_X3_in hts ⟨Nat.le_of_ble_eq_true rfl, Nat.le_of_ble_eq_true rfl⟩) w_blT (fun _ _ _ => trivial) rfl hl.1 rfl (Nat.le_of_ble_eq_true rfl) dX3_run_37 ⟨Nat.le_of_ble_eq_true rfl, Nat.le_of_ble_eq_true rfl⟩ ?_
      refine lv_if_ne (tgt := 46) hx hb dX3_run_40 rfl (fun h40 => ?_) (fun h40 => ?_)
      · have h40 : inP ((w : Int32).toInt64) 0 3 := b01_n h40
        refine lv_aload_n hx hb dX3_run_46 rfl (lv_at hl 1 rfl) ?_
        refine lv_iload_n hx hb dX3_run_47 rfl (lv_at hl 4 rfl) ?_
        refine lv_iload hx hb dX3_run_48 (lv_at hl 5 rfl) ?_
        refine mcVv (As := [.int row, .int (nI j)]) (rest := []) ⟨hx, hb, hml, hown, hts⟩ (mt_X3_layRow l D dA h ad σ τ hmD row j hI hR) (cw_X3_X3_layRow hts ⟨Nat.le_of_ble_eq_true rfl, Nat.le_of_ble_eq_true rfl⟩) (mB_now hK hP) (va_recv hK hP (ci := 0) (q0 := 0) rfl rfl) rfl hl.1 rfl (Nat.le_of_ble_eq_true rfl) dX3_run_50 ⟨Nat.le_of_ble_eq_true rfl, Nat.le_of_ble_eq_true rfl⟩ hS (fun u_2 H locs hp_3 hP hS => ?_)
        subst hp_3
        have hP : va_P D vwCl (mX dA h ad σ.txt σ.len σ.wt σ.pr σ.tools σ.load σ.purse σ.beg σ.ways σ.told σ.calls σ.sm σ.sorts σ.visits σ.vm τ.read τ.rm τ.at_ τ.place τ.end_ (entU row τ.ents j) (nI j) (nI (comN σ row j)) (allP σ row j) τ.weight τ.gain τ.ad_ τ.minute τ.ds τ.bl τ.chosen) H := hP
        obtain ⟨g_4, eg_4⟩ : ∃ x, x = entU row τ.ents j := ⟨_, rfl⟩
        rw [← eg_4] at hP
        obtain ⟨g_5, eg_5⟩ : ∃ x, x = nI (comN σ row j) := ⟨_, rfl⟩
        rw [← eg_5] at hP
        obtain ⟨g_6, eg_6⟩ : ∃ x, x = allP σ row j := ⟨_, rfl⟩
        rw [← eg_6] at hP
        refine lv_aload_n hx hb dX3_run_53 rfl (lv_at hl 1 rfl) ?_
        refine lv_iconst (v := 0) hx hb dX3_run_54 rfl ?_
        refine mcVv (As := [.int 0]) (rest := []) ⟨hx, hb, hml, hown, hts⟩ (mt_X3_layChosen l D dA h ad σ ((τ.read, τ.rm, τ.at_, τ.place, τ.end_, g_4, nI j, g_5, g_6, τ.weight, τ.gain, τ.ad_, τ.minute, τ.ds, τ.bl, τ.chosen) : Sc) hmD row j 0 hI hR rfl (fun i hi => by rw [eg_4]; exact entU_at j i hi) (by omega)) (cw_X3_X3_layChosen hts ⟨Nat.le_of_ble_eq_true rfl, Nat.le_of_ble_eq_true rfl⟩) (mB_now hK hP) (va_recv hK hP (ci := 0) (q0 := 0) rfl rfl) rfl hl.1 rfl (Nat.le_of_ble_eq_true rfl) dX3_run_55 ⟨Nat.le_of_ble_eq_true rfl, Nat.le_of_ble_eq_true rfl⟩ hS (fun u_8 H locs hp_9 hP hS => ?_)
        subst hp_9
        have hP : va_P D vwCl (mX dA h ad σ.txt σ.len σ.wt σ.pr σ.tools σ.load σ.purse σ.beg σ.ways σ.told σ.calls σ.sm σ.sorts σ.visits σ.vm τ.read τ.rm τ.at_ τ.place τ.end_ g_4 (nI j) g_5 g_6 (weiF σ row 0 j) τ.gain τ.ad_ τ.minute τ.ds τ.bl (choU σ row 0 τ.chosen j)) H := hP
        obtain ⟨g_10, eg_10⟩ : ∃ x, x = choU σ row 0 τ.chosen j := ⟨_, rfl⟩
        rw [← eg_10] at hP
        obtain ⟨g_11, eg_11⟩ : ∃ x, x = weiF σ row 0 j := ⟨_, rfl⟩
        rw [← eg_11] at hP
        refine lv_aload_n hx hb dX3_run_58 rfl (lv_at hl 1 rfl) ?_
        refine lv_iload_n hx hb dX3_run_59 rfl (lv_at hl 3 rfl) ?_
        refine lv_iload_n hx hb dX3_run_60 rfl (lv_at hl 2 rfl) ?_
        refine mcVv (As := [.int bag, .int (nI d)]) (rest := []) ⟨hx, hb, hml, hown, hts⟩ (mt_X3_go_B l D dA h ad σ ((τ.read, τ.rm, τ.at_, τ.place, τ.end_, g_4, nI j, g_5, g_6, g_11, τ.gain, τ.ad_, τ.minute, τ.ds, τ.bl, g_10) : Sc) hmD row j (chN σ row 0) bag d hI hR rfl (fun i hi => by rw [eg_4]; exact entU_at j i hi) (ch_ok hR eg_10) hd) (cw_X3_X3_go_B hts ⟨Nat.le_of_ble_eq_true rfl, Nat.le_of_ble_eq_true rfl⟩) (mB_now hK hP) (va_recv hK hP (ci := 0) (q0 := 0) rfl rfl) rfl hl.1 rfl (Nat.le_of_ble_eq_true rfl) dX3_run_61 ⟨Nat.le_of_ble_eq_true rfl, Nat.le_of_ble_eq_true rfl⟩ hS (fun u_13 H locs hp_14 hP hS => ?_)
        subst hp_14
        have hP : va_P D vwCl (mX dA h ad σ.txt σ.len σ.wt σ.pr σ.tools σ.load σ.purse σ.beg σ.ways σ.told σ.calls σ.sm σ.sorts σ.visits σ.vm τ.read τ.rm τ.at_ τ.place τ.end_ g_4 (nI j) g_5 g_6 g_11 ((goD σ row (chN σ row 0) bag d j).1.2.2.2.1) ((goD σ row (chN σ row 0) bag d j).1.2.2.2.2.2) ((goD σ row (chN σ row 0) bag d j).1.2.1) ((goD σ row (chN σ row 0) bag d j).1.2.2.2.2.1) ((goD σ row (chN σ row 0) bag d j).1.2.2.1) g_10) H := hP
        obtain ⟨g_15, eg_15⟩ : ∃ x, x = (goD σ row (chN σ row 0) bag d j).1.2.1 := ⟨_, rfl⟩
        rw [← eg_15] at hP
        obtain ⟨g_16, eg_16⟩ : ∃ x, x = (goD σ row (chN σ row 0) bag d j).1.2.2.1 := ⟨_, rfl⟩
        rw [← eg_16] at hP
        obtain ⟨g_17, eg_17⟩ : ∃ x, x = (goD σ row (chN σ row 0) bag d j).1.2.2.2.1 := ⟨_, rfl⟩
        rw [← eg_17] at hP
        obtain ⟨g_18, eg_18⟩ : ∃ x, x = (goD σ row (chN σ row 0) bag d j).1.2.2.2.2.1 := ⟨_, rfl⟩
        rw [← eg_18] at hP
        obtain ⟨g_19, eg_19⟩ : ∃ x, x = (goD σ row (chN σ row 0) bag d j).1.2.2.2.2.2 := ⟨_, rfl⟩
        rw [← eg_19] at hP
        refine lv_iload hx hb dX3_run_64 (lv_at hl 6 rfl) ?_
        refine lv_if_ne (tgt := 80) hx hb dX3_run_66 rfl (fun h66 => ?_) (fun h66 => ?_)
        · have h66 : ¬ (w = 0) := h66
          refine lv_iload hx hb dX3_run_80 (lv_at hl 6 rfl) ?_
          refine lv_iconst (v := 1) hx hb dX3_run_82 rfl ?_
          refine lv_icmp_ne (tgt := 93) hx hb dX3_run_83 rfl (fun h83 => ?_) (fun h83 => ?_)
          · have h83 : ¬ (w = 1) := h83
            refine lv_iload hx hb dX3_run_93 (lv_at hl 6 rfl) ?_
            refine lv_iconst (v := 2) hx hb dX3_run_95 rfl ?_
            refine lv_icmp_ne (tgt := 106) hx hb dX3_run_96 rfl (fun h96 => ?_) (fun h96 => ?_)
            · have h96 : ¬ (w = 2) := h96
              refine lv_aload_n hx hb dX3_run_106 rfl (lv_at hl 1 rfl) ?_
              refine va_get (D := D) (ci := 0) (v := .int g_16) (C := RX3) (T := TX3) (N := 31) hx hb hts in_X3 hown hK hP 0 rfl rfl 29 (by decide) (hts _ q1143) (fun _ h9 => h9) rfl dX3_run_107 ?_
              exact rm_i (u := (σ, ((τ.read, τ.rm, τ.at_, τ.place, τ.end_, g_4, nI j, g_5, g_6, g_11, g_17, g_19, g_15, g_18, g_16, g_10) : Sc))) hQ hx hb hr hlocks hK hP hS (⟨by subst_vars; simp only [runF, eq_true h12, eq_true h27, eq_true h40, eq_false h66, eq_false h83, eq_false h96, hix, hix_d, if_true, if_false, ite_true, ite_false, not_true_eq_false, not_false_eq_true, and_true, true_and, and_false, false_and, or_true, true_or, or_false, false_or, and_self, or_self, eq_self], rfl⟩) dX3_run_110
            · have h96 : w = 2 := h96
              refine lv_aload_n hx hb dX3_run_99 rfl (lv_at hl 1 rfl) ?_
              refine va_get (D := D) (ci := 0) (v := .int g_18) (C := RX3) (T := TX3) (N := 31) hx hb hts in_X3 hown hK hP 0 rfl rfl 28 (by decide) (hts _ q1142) (fun _ h9 => h9) rfl dX3_run_100 ?_
              refine lv_goto (tgt := 110) hx hb dX3_run_103 rfl ?_
              exact rm_i (u := (σ, ((τ.read, τ.rm, τ.at_, τ.place, τ.end_, g_4, nI j, g_5, g_6, g_11, g_17, g_19, g_15, g_18, g_16, g_10) : Sc))) hQ hx hb hr hlocks hK hP hS (⟨by subst_vars; simp only [runF, eq_true h12, eq_true h27, eq_true h40, eq_false h66, eq_false h83, eq_true h96, hix, hix_d, if_true, if_false, ite_true, ite_false, not_true_eq_false, not_false_eq_true, and_true, true_and, and_false, false_and, or_true, true_or, or_false, false_or, and_self, or_self, eq_self], rfl⟩) dX3_run_110
          · have h83 : w = 1 := h83
            refine lv_aload_n hx hb dX3_run_86 rfl (lv_at hl 1 rfl) ?_
            refine va_get (D := D) (ci := 0) (v := .int g_15) (C := RX3) (T := TX3) (N := 31) hx hb hts in_X3 hown hK hP 0 rfl rfl 27 (by decide) (hts _ q1141) (fun _ h9 => h9) rfl dX3_run_87 ?_
            refine lv_goto (tgt := 110) hx hb dX3_run_90 rfl ?_
            exact rm_i (u := (σ, ((τ.read, τ.rm, τ.at_, τ.place, τ.end_, g_4, nI j, g_5, g_6, g_11, g_17, g_19, g_15, g_18, g_16, g_10) : Sc))) hQ hx hb hr hlocks hK hP hS (⟨by subst_vars; simp only [runF, eq_true h12, eq_true h27, eq_true h40, eq_false h66, eq_true h83, hix, hix_d, if_true, if_false, ite_true, ite_false, not_true_eq_false, not_false_eq_true, and_true, true_and, and_false, false_and, or_true, true_or, or_false, false_or, and_self, or_self, eq_self], rfl⟩) dX3_run_110
        · have h66 : w = 0 := h66
          refine lv_aload_n hx hb dX3_run_69 rfl (lv_at hl 1 rfl) ?_
          refine va_get (D := D) (ci := 0) (v := .int g_17) (C := RX3) (T := TX3) (N := 31) hx hb hts in_X3 hown hK hP 0 rfl rfl 25 (by decide) (hts _ q1139) (fun _ h9 => h9) rfl dX3_run_70 ?_
          refine lv_sipush (v := 1000) hx hb dX3_run_73 rfl ?_
          refine lv_iadd hx hb dX3_run_76 ?_
          refine lv_goto (tgt := 110) hx hb dX3_run_77 rfl ?_
          exact rm_i (u := (σ, ((τ.read, τ.rm, τ.at_, τ.place, τ.end_, g_4, nI j, g_5, g_6, g_11, g_17, g_19, g_15, g_18, g_16, g_10) : Sc))) hQ hx hb hr hlocks hK hP hS (⟨by subst_vars; simp only [runF, eq_true h12, eq_true h27, eq_true h40, eq_true h66, hix, hix_d, if_true, if_false, ite_true, ite_false, not_true_eq_false, not_false_eq_true, and_true, true_and, and_false, false_and, or_true, true_or, or_false, false_or, and_self, or_self, eq_self], rfl⟩) dX3_run_110
      · have h40 : ¬ (inP ((w : Int32).toInt64) 0 3) := b01_0.mp h40
        refine lv_bipush (v := (-3)) hx hb dX3_run_43 rfl ?_
        exact rm_i (u := (σ, τ)) hQ hx hb hr hlocks hK hP hS (⟨by subst_vars; simp only [runF, eq_true h12, eq_true h27, eq_false h40, hix, hix_d, if_true, if_false, ite_true, ite_false, not_true_eq_false, not_false_eq_true, and_true, true_and, and_false, false_and, or_true, true_or, or_false, false_or, and_self, or_self, eq_self], rfl⟩) dX3_run_45
  · have h12 : ¬ ((refBF σ bag row n_) = 0) := h12
    refine lv_iload hx hb dX3_run_15 (lv_at hl 0 rfl) ?_
    exact rm_i (u := (σ, τ)) hQ hx hb hr hlocks hK hP hS (⟨by subst_vars; simp only [runF, eq_false h12, if_true, if_false, ite_true, ite_false, not_true_eq_false, not_false_eq_true, and_true, true_and, and_false, false_and, or_true, true_or, or_false, false_or, and_self, or_self, eq_self], rfl⟩) dX3_run_17
