/-! THE COMPONENT's METHODS 5: a day by draws -/
set_option maxRecDepth 100000
/-- a row that isn't refused: HOME, or calls that are told and have sorts -/
def okT (σ : St) (row : Int32) (n : Nat) : Prop := ∀ i, i < n → en row i = 6 ∨ (en row i < 6 ∧ hasP σ.told (nI (en row i)) ∧ 0 < σ.sm (en row i))
theorem bad_T {σ : St} {row : Int32} : ∀ n, badU σ row n = false → okT σ row n
  | 0, _, i, hi => absurd hi (Nat.not_lt_zero _)
  | n + 1, h, i, hi => by
    rw [badU, Bool.or_eq_false_iff] at h
    by_cases e : i = n
    · subst e
      have h2 := of_decide_eq_false h.2
      by_cases h6 : entF row i = 6
      · rw [en_eq] at h6
        exact Or.inl ((nI_eq (a := en row i) (b := 6) (by have := en_lt row i; omega) (by decide)).mp h6)
      · have hu : useP σ (entF row i) := Decidable.byContradiction fun q => h2 ⟨h6, q⟩
        obtain ⟨j, hj, e⟩ := in5 hu.1.1
        have e2 : en row i = j := by unfold en; rw [e]; exact ix_nI hj (by decide)
        have h3 := hu.2
        have e3 : ix (entF row i) = j := e2
        have h4 := hu.1.2
        rw [e3] at h3
        rw [e] at h4
        exact Or.inr ⟨by omega, by rw [e2]; exact h4, by rw [e2]; omega⟩
    · exact bad_T n h.1 i (by omega)
theorem ref_T {σ : St} {row n : Int32} (h : refF σ row n = 0) : ∃ j, 1 ≤ j ∧ j ≤ 6 ∧ n = nI j ∧ okT σ row j ∧ twF row j = 0 := by
  unfold refF at h
  by_cases h1 : inP n.toInt64 1 6
  · obtain ⟨j, a, b, rfl⟩ := in16 h1
    rw [if_pos h1, ix_nI (n := j) (N := 7) (by omega) (by decide)] at h
    cases hb : badU σ row j with
    | true => rw [if_pos hb] at h; exact absurd h (by decide)
    | false =>
      rw [if_neg (by rw [hb]; decide)] at h
      by_cases h2 : twF row j = 0
      · exact ⟨j, a, b, rfl, bad_T j hb, h2⟩
      · rw [if_neg h2] at h; exact absurd h (by decide)
  · rw [if_neg h1] at h; exact absurd h (by decide)
theorem okT_R {σ : St} {row : Int32} {n : Nat} (hn : n ≤ 6) (h : okT σ row n) : okR σ row n := ⟨hn, fun i hi => (h i hi).imp id (fun q => ⟨q.1, q.2.2⟩)⟩
theorem refW_0 (σ : St) (bag row n : Int32) : refW σ bag row n 0 = refBF σ bag row n := by
  unfold refW refBF
  by_cases h : refF σ row n = 0
  · rw [if_pos h, if_pos h, h]
    rfl
  · rw [if_neg h, if_neg h]
theorem refB_okB {σ : St} {bag row n : Int32} (h : refBF σ bag row n = 0) : refF σ row n = 0 ∧ bagP bag := by
  unfold refBF at h
  by_cases h1 : refF σ row n = 0
  · rw [if_pos h1] at h
    by_cases h2 : bagP bag
    · exact ⟨h1, h2⟩
    · rw [if_neg h2] at h; exact absurd h (by decide)
  · rw [if_neg h1] at h; exact absurd h h1
theorem st_late {σ : St} (hI : Inv σ) {c s : Nat} (hc : c < 6) {g : GS} (h : lateP σ (arrF σ g.1 g.2.1 c) c) : (stepC σ c s g).2.1 = g.2.1 + σ.ways (6 * g.1 + plF σ c) ∧ (stepC σ c s g).2.2.1 = g.2.2.1 ∧ (stepC σ c s g).2.2.2.1 = g.2.2.2.1 - σ.calls (6 * c + 4) ∧ (stepC σ c s g).2.2.2.2.1 = g.2.2.2.2.1 ∧ (stepC σ c s g).2.2.2.2.2 = 0 := by
  have hl : leftL σ (arrF σ g.1 g.2.1 c) g.2.2.1 c s = -1 := by unfold leftL; rw [if_pos h]
  have hn : ¬ ¬ leftL σ (arrF σ g.1 g.2.1 c) g.2.2.1 c s = -1 := fun z => z hl
  unfold stepC
  dsimp only
  rw [if_pos h, if_neg hn, if_neg hn, if_neg hn, if_neg hn, late_arr hI hc h]
  refine ⟨Int32.add_zero _, rfl, (Int32.sub_eq_add_neg _ _).symm, Int32.or_zero, ?_⟩
  split <;> rfl
theorem st_met {σ : St} {c s : Nat} {g : GS} (h : ¬ lateP σ (arrF σ g.1 g.2.1 c) c) (hm : ¬ leftF σ g.2.2.1 c s = -1) : (stepC σ c s g).2.1 = arrF σ g.1 g.2.1 c + σ.sorts (16 * c + 4 * s + 1) ∧ (stepC σ c s g).2.2.1 = leftF σ g.2.2.1 c s ∧ (stepC σ c s g).2.2.2.1 = g.2.2.2.1 + σ.calls (6 * c + 3) ∧ (stepC σ c s g).2.2.2.2.1 = g.2.2.2.2.1 ||| (1 : Int32) <<< (nI c &&& 31) ∧ (stepC σ c s g).2.2.2.2.2 = if g.2.2.2.2.2 = 0 then 0 else 1 := by
  have hl : leftL σ (arrF σ g.1 g.2.1 c) g.2.2.1 c s = leftF σ g.2.2.1 c s := by unfold leftL; rw [if_neg h]
  unfold stepC
  dsimp only
  rw [hl, if_neg h, if_pos hm, if_pos hm, if_pos hm, if_pos hm, if_pos hm]
  exact ⟨rfl, rfl, rfl, rfl, rfl⟩
theorem st_not {σ : St} {c s : Nat} {g : GS} (h : ¬ lateP σ (arrF σ g.1 g.2.1 c) c) (hm : leftF σ g.2.2.1 c s = -1) : (stepC σ c s g).2.1 = arrF σ g.1 g.2.1 c + σ.calls (6 * c + 5) ∧ (stepC σ c s g).2.2.1 = g.2.2.1 ∧ (stepC σ c s g).2.2.2.1 = g.2.2.2.1 + -σ.calls (6 * c + 4) ∧ (stepC σ c s g).2.2.2.2.1 = g.2.2.2.2.1 ∧ (stepC σ c s g).2.2.2.2.2 = 0 := by
  have hl : leftL σ (arrF σ g.1 g.2.1 c) g.2.2.1 c s = -1 := by unfold leftL; rw [if_neg h]; exact hm
  have hn : ¬ ¬ leftL σ (arrF σ g.1 g.2.1 c) g.2.2.1 c s = -1 := fun z => z hl
  unfold stepC
  dsimp only
  rw [if_neg h, if_neg hn, if_neg hn, if_neg hn, if_neg hn, if_neg hn]
  refine ⟨rfl, rfl, rfl, Int32.or_zero, ?_⟩
  split <;> rfl
theorem gd_late {σ : St} {row : Int32} {ch : Nat → Nat} {bag : Int32} {sd k : Nat} {g : GS × Nat} (hg : g = goD σ row ch bag sd k) (h6 : ¬ en row k = 6) (h : lateP σ (arrF σ g.1.1 g.1.2.1 (en row k)) (en row k)) : (stepC σ (en row k) (ch k) g.1, g.2) = goD σ row ch bag sd (k + 1) := by
  rw [goD, if_neg h6, ← hg, chD, if_pos h, drD, if_pos h]
theorem gd_call {σ : St} {row : Int32} {ch : Nat → Nat} {bag : Int32} {sd k i : Nat} {g : GS × Nat} (hg : g = goD σ row ch bag sd k) (h6 : ¬ en row k = 6) (h : ¬ lateP σ (arrF σ g.1.1 g.1.2.1 (en row k)) (en row k)) (hi : sbN σ (en row k) (dnx g.2 / 64 % toT σ (en row k)) = i) : (stepC σ (en row k) i g.1, dnx g.2) = goD σ row ch bag sd (k + 1) := by
  rw [goD, if_neg h6, ← hg, chD, if_neg h, drD, if_neg h, hi]
theorem gd_home {σ : St} {row : Int32} {ch : Nat → Nat} {bag : Int32} {sd k : Nat} {g : GS × Nat} (hg : g = goD σ row ch bag sd k) (h6 : en row k = 6) : (stepH σ bag g.1, g.2) = goD σ row ch bag sd (k + 1) := by
  rw [goD, if_pos h6, ← hg]
theorem sum1000 (a b : Int32) : a + 1000 - b = a - b + 1000 := by
  rw [Int32.sub_eq_add_neg, Int32.sub_eq_add_neg, Int32.add_assoc, Int32.add_comm 1000, ← Int32.add_assoc]
theorem sum1001 (a b : Int32) : a + 1000 + b = a + b + 1000 := by
  rw [Int32.add_assoc, Int32.add_comm 1000, ← Int32.add_assoc]
theorem run_eq {σ : St} {sd bag row n w : Int32} (h : refBF σ bag row n = 0) (h2 : inP sd.toInt64 0 65535) (h3 : inP w.toInt64 0 3) {g : GS × Nat} (hg : g = goD σ row (chN σ row 0) bag (ix sd) (ix n)) : runF σ sd bag row n w = if w = 0 then g.1.2.2.2.1 + 1000 else if w = 1 then g.1.2.1 else if w = 2 then g.1.2.2.2.2.1 else g.1.2.2.1 := by
  rw [runF, if_pos h, if_pos h2, if_pos h3, ← hg]

theorem cw_X0_X0_faultOf {R : Room} {s : State} {args : Array Value} (hts : ∀ w ∈ lw_all, w.before args s = true) (hR : rmX0_faultOf.frames + 1 ≤ R.frames ∧ 8 + (6 + 11) + rmX0_faultOf.locals ≤ R.locals) : CallW R s args RX0 RX0 214 yX0_faultOf cX0_faultOf 6 (some .int) (ws_ yX0_faultOf cX0_faultOf 6 (some .int)) rmX0_faultOf 0 0 4 := cwV 4 hts (lw_V q915 q917 qs22 q77 q918) rfl rfl rfl (by decide +kernel) hR
def rmX0_run : Room := { frames := 5, cells := 0, slots := 0, locals := 118 }
set_option maxHeartbeats 1000000 in
theorem mt_X0_run (l : Launch) (D : va_G) (dA : Nat → ClassId) (x : Nat) (ad : Nat → Nat) (μ : Lay) (σ : St) (ω : Om) (sd_ : Int32) (bag : Int32) (row : Int32) (n_ : Int32) (w : Int32) (hI : Inv σ) (hR : Rel dA μ σ) : Met l yX0_run (ws_ yX0_run cX0_run 20 (some .int)) rmX0_run (va_Pc [.ref x, .int sd_, .int bag, .int row, .int n_, .int w] (cB D dA x ad μ σ ω)) (roQ (.int (runF σ sd_ bag row n_ w))) 0 0 (fun _ => False) := by
  refine w_start (by decide) (Nat.le_of_ble_eq_true rfl) ?_
  intro p e s m args below meth c Q ls hQ hx hb hr hlocks hml hown hnm hts hB hl
  have hown : s.vm.findClass RX0 = some m.cls := hown
  have hl : lv_has ls 20 [(0, .ref x), (1, .int sd_), (2, .int bag), (3, .int row), (4, .int n_), (5, .int w)] := hl
  obtain ⟨hP, hK, hN⟩ := hB
  refine lv_aload_n hx hb dX0_run_0 rfl (lv_at hl 0 rfl) ?_
  refine lv_iload_n hx hb dX0_run_1 rfl (lv_at hl 2 rfl) ?_
  refine lv_iload_n hx hb dX0_run_2 rfl (lv_at hl 3 rfl) ?_
  refine lv_iload hx hb dX0_run_3 (lv_at hl 4 rfl) ?_
  refine lv_iconst (v := 0) hx hb dX0_run_5 rfl ?_
  refine dV (v := .int (refW σ bag row n_ 0)) (As := [.int bag, .int row, .int n_, .int 0]) (rest := []) ⟨hx, hb, hml, hown, hts⟩ (mt_X0_faultOf l D dA x ad μ σ ω bag row n_ 0 hI hR) (cw_X0_X0_faultOf hts ⟨Nat.le_of_ble_eq_true rfl, Nat.le_of_ble_eq_true rfl⟩) cB_bw (cB_now hK hN hP) (va_recv hK hP (ci := 1) (q0 := 0) rfl rfl) rfl hl.1 rfl (Nat.le_of_ble_eq_true rfl) dX0_run_6 ⟨Nat.le_of_ble_eq_true rfl, Nat.le_of_ble_eq_true rfl⟩ ?_
  refine w_topi (y := refBF σ bag row n_) (refW_0 σ bag row n_) ?_
  refine lv_istore (lv' := [(6, .int (refBF σ bag row n_)), (0, .ref x), (1, .int sd_), (2, .int bag), (3, .int row), (4, .int n_), (5, .int w)]) hx hb dX0_run_9 hl (by decide) rfl (fun ls hl => ?_)
  refine lv_iload hx hb dX0_run_11 (lv_at hl 0 rfl) ?_
  refine lv_if_eq (tgt := 19) hx hb dX0_run_13 rfl (fun h13 => ?_) (fun h13 => ?_)
  · have h13 : (refBF σ bag row n_) = 0 := h13
    obtain ⟨hrf, hbg0⟩ := refB_okB h13
    obtain ⟨j, hj1, hj, rfl, hoT, htw⟩ := ref_T hrf
    have hix : ix (nI j) = j := ix_nI (Nat.lt_succ_of_le hj) (by decide)
    have hoR := okT_R hj hoT
    refine lv_iload_n hx hb dX0_run_19 rfl (lv_at hl 2 rfl) ?_
    refine lv_i2l (v := (sd_ : Int32).toInt64) hx hb dX0_run_20 rfl ?_
    refine lv_lconst (v := 0) hx hb dX0_run_21 rfl ?_
    refine lv_ldc2 (v := 65535) hx hb hown (hts _ q1102) dX0_run_22 ?_
    refine cSi (As := [.long ((sd_ : Int32).toInt64), .long 0, .long 65535]) (rest := []) ⟨hx, hb, hml, hown, hts⟩ (mt_X0_in l ((sd_ : Int32).toInt64) 0 65535) (cw_X0_X0_in hts ⟨Nat.le_of_ble_eq_true rfl, Nat.le_of_ble_eq_true rfl⟩) w_blT (fun _ _ _ => trivial) rfl hl.1 rfl (Nat.le_of_ble_eq_true rfl) dX0_run_25 ⟨Nat.le_of_ble_eq_true rfl, Nat.le_of_ble_eq_true rfl⟩ ?_
    refine lv_if_eq (tgt := 44) hx hb dX0_run_28 rfl (fun h28 => ?_) (fun h28 => ?_)
    · have h28 : ¬ (inP ((sd_ : Int32).toInt64) 0 65535) := b01_0.mp h28
      refine lv_bipush (v := (-3)) hx hb dX0_run_44 rfl ?_
      exact q_i hQ hx hb hr hlocks rfl (by rw [runF, if_pos h13, if_neg h28]) dX0_run_46
    · have h28 : inP ((sd_ : Int32).toInt64) 0 65535 := b01_n h28
      obtain ⟨sd, hsd, rfl⟩ := inP_of 65535 (by decide) h28
      have hisd : ix (nI sd) = sd := ix_nI (N := 65536) (by omega) (by decide)
      refine lv_iload hx hb dX0_run_31 (lv_at hl 6 rfl) ?_
      refine lv_i2l (v := (w : Int32).toInt64) hx hb dX0_run_33 rfl ?_
      refine lv_lconst (v := 0) hx hb dX0_run_34 rfl ?_
      refine lv_ldc2 (v := 3) hx hb hown (hts _ q1000) dX0_run_35 ?_
      refine cSi (As := [.long ((w : Int32).toInt64), .long 0, .long 3]) (rest := []) ⟨hx, hb, hml, hown, hts⟩ (mt_X0_in l ((w : Int32).toInt64) 0 3) (cw_X0_X0_in hts ⟨Nat.le_of_ble_eq_true rfl, Nat.le_of_ble_eq_true rfl⟩) w_blT (fun _ _ _ => trivial) rfl hl.1 rfl (Nat.le_of_ble_eq_true rfl) dX0_run_38 ⟨Nat.le_of_ble_eq_true rfl, Nat.le_of_ble_eq_true rfl⟩ ?_
      refine lv_if_ne (tgt := 47) hx hb dX0_run_41 rfl (fun h41 => ?_) (fun h41 => ?_)
      · have h41 : inP ((w : Int32).toInt64) 0 3 := b01_n h41
        refine lv_iload_n hx hb dX0_run_47 rfl (lv_at hl 2 rfl) ?_
        refine lv_istore (lv' := [(7, .int (nI sd)), (6, .int (refBF σ bag row (nI j))), (0, .ref x), (1, .int (nI sd)), (2, .int bag), (3, .int row), (4, .int (nI j)), (5, .int w)]) hx hb dX0_run_48 hl (by decide) rfl (fun ls hl => ?_)
        refine lv_sipush (v := 1000) hx hb dX0_run_50 rfl ?_
        refine lv_istore (lv' := [(8, .int 1000), (7, .int (nI sd)), (6, .int (refBF σ bag row (nI j))), (0, .ref x), (1, .int (nI sd)), (2, .int bag), (3, .int row), (4, .int (nI j)), (5, .int w)]) hx hb dX0_run_53 hl (by decide) rfl (fun ls hl => ?_)
        refine lv_aload_n hx hb dX0_run_55 rfl (lv_at hl 3 rfl) ?_
        refine va_get (D := D) (ci := 1) (v := .int σ.beg) (C := RX0) (T := TX0) (N := 11) hx hb hts in_X0 hown hK hP 0 rfl rfl 3 (by decide) (hts _ q214) (fun _ h9 => h9) rfl dX0_run_56 ?_
        refine lv_istore (lv' := [(9, .int σ.beg), (8, .int 1000), (7, .int (nI sd)), (6, .int (refBF σ bag row (nI j))), (0, .ref x), (1, .int (nI sd)), (2, .int bag), (3, .int row), (4, .int (nI j)), (5, .int w)]) hx hb dX0_run_59 hl (by decide) rfl (fun ls hl => ?_)
        refine lv_iconst (v := 0) hx hb dX0_run_61 rfl ?_
        refine lv_istore (lv' := [(10, .int 0), (9, .int σ.beg), (8, .int 1000), (7, .int (nI sd)), (6, .int (refBF σ bag row (nI j))), (0, .ref x), (1, .int (nI sd)), (2, .int bag), (3, .int row), (4, .int (nI j)), (5, .int w)]) hx hb dX0_run_62 hl (by decide) rfl (fun ls hl => ?_)
        refine lv_iload_n hx hb dX0_run_64 rfl (lv_at hl 7 rfl) ?_
        refine lv_istore (lv' := [(11, .int bag), (10, .int 0), (9, .int σ.beg), (8, .int 1000), (7, .int (nI sd)), (6, .int (refBF σ bag row (nI j))), (0, .ref x), (1, .int (nI sd)), (2, .int bag), (3, .int row), (4, .int (nI j)), (5, .int w)]) hx hb dX0_run_65 hl (by decide) rfl (fun ls hl => ?_)
        refine lv_iconst (v := 0) hx hb dX0_run_67 rfl ?_
        refine lv_istore (lv' := [(12, .int 0), (11, .int bag), (10, .int 0), (9, .int σ.beg), (8, .int 1000), (7, .int (nI sd)), (6, .int (refBF σ bag row (nI j))), (0, .ref x), (1, .int (nI sd)), (2, .int bag), (3, .int row), (4, .int (nI j)), (5, .int w)]) hx hb dX0_run_68 hl (by decide) rfl (fun ls hl => ?_)
        refine lv_iconst (v := 0) hx hb dX0_run_70 rfl ?_
        refine lv_istore (lv' := [(13, .int 0), (12, .int 0), (11, .int bag), (10, .int 0), (9, .int σ.beg), (8, .int 1000), (7, .int (nI sd)), (6, .int (refBF σ bag row (nI j))), (0, .ref x), (1, .int (nI sd)), (2, .int bag), (3, .int row), (4, .int (nI j)), (5, .int w)]) hx hb dX0_run_71 hl (by decide) rfl (fun ls hl => ?_)
        have hL73_1 : ∀ (n_2 : Nat) (k : Nat) (g : GS × Nat) (x13 : Int32) (x12 : Int32) (x11 : Int32) (x10 : Int32) (x9 : Int32) (x8 : Int32) (x7 : Int32) (ls : Array Slot), (6 - k) < n_2 → (k ≤ j) → (g = goD σ row (chN σ row 0) bag sd k) → (g.1.1 < 6) → (g.2 < 65536) → (byP g.1.2.2.1) → x13 = (nI k) → x12 = (g.1.2.2.2.2.1) → x11 = (g.1.2.2.1) → x10 = (nI g.1.1) → x9 = (g.1.2.1) → x8 = (g.1.2.2.2.1 + 1000) → x7 = (nI g.2) → lv_has ls 20 [(13, .int x13), (12, .int x12), (11, .int x11), (10, .int x10), (9, .int x9), (8, .int x8), (7, .int x7), (6, .int (refBF σ bag row (nI j))), (0, .ref x), (1, .int (nI sd)), (2, .int bag), (3, .int row), (4, .int (nI j)), (5, .int w)] → W p l e rmX0_run s m args below meth c s.heap [] 0 0 Q (F0 m 73 ls []) := by
          intro n_2
          induction n_2 with
          | zero => intro k g x13 x12 x11 x10 x9 x8 x7 ls hm_4; exact absurd hm_4 (Nat.not_lt_zero _)
          | succ n_2 ih_3 =>
            intro k g x13 x12 x11 x10 x9 x8 x7 ls hm_4 hk hg hx6 hdr hby ex13 ex12 ex11 ex10 ex9 ex8 ex7 hl
            subst ex13 ex12 ex11 ex10 ex9 ex8 ex7
            refine lv_iload hx hb dX0_run_73 (lv_at hl 0 rfl) ?_
            refine lv_iload hx hb dX0_run_75 (lv_at hl 12 rfl) ?_
            refine lv_icmp_ge (tgt := 384) hx hb dX0_run_77 rfl (fun h77 => ?_) (fun h77 => ?_)
            · have h77 : j ≤ k := (nz_le (a := j) (b := k) rfl rfl (by omega) (by omega)).mp h77
              obtain rfl : k = j := by omega
              refine lv_iload hx hb dX0_run_384 (lv_at hl 13 rfl) ?_
              refine lv_if_ne (tgt := 394) hx hb dX0_run_386 rfl (fun h386 => ?_) (fun h386 => ?_)
              · have h386 : ¬ (w = 0) := h386
                refine lv_iload hx hb dX0_run_394 (lv_at hl 13 rfl) ?_
                refine lv_iconst (v := 1) hx hb dX0_run_396 rfl ?_
                refine lv_icmp_ne (tgt := 405) hx hb dX0_run_397 rfl (fun h397 => ?_) (fun h397 => ?_)
                · have h397 : ¬ (w = 1) := h397
                  refine lv_iload hx hb dX0_run_405 (lv_at hl 13 rfl) ?_
                  refine lv_iconst (v := 2) hx hb dX0_run_407 rfl ?_
                  refine lv_icmp_ne (tgt := 416) hx hb dX0_run_408 rfl (fun h408 => ?_) (fun h408 => ?_)
                  · have h408 : ¬ (w = 2) := h408
                    refine lv_iload hx hb dX0_run_416 (lv_at hl 2 rfl) ?_
                    exact q_i hQ hx hb hr hlocks rfl (by rw [run_eq h13 h28 h41 (g := g) (by rw [hg, hix, hisd])]; simp only [eq_false h386, eq_false h397, eq_false h408, if_true, if_false, ite_true, ite_false, not_true_eq_false, not_false_eq_true, and_true, true_and, and_false, false_and, or_true, true_or, or_false, false_or, and_self, or_self, eq_self]) dX0_run_418
                  · have h408 : w = 2 := h408
                    refine lv_iload hx hb dX0_run_411 (lv_at hl 1 rfl) ?_
                    refine lv_goto (tgt := 418) hx hb dX0_run_413 rfl ?_
                    exact q_i hQ hx hb hr hlocks rfl (by rw [run_eq h13 h28 h41 (g := g) (by rw [hg, hix, hisd])]; simp only [eq_false h386, eq_false h397, eq_true h408, if_true, if_false, ite_true, ite_false, not_true_eq_false, not_false_eq_true, and_true, true_and, and_false, false_and, or_true, true_or, or_false, false_or, and_self, or_self, eq_self]) dX0_run_418
                · have h397 : w = 1 := h397
                  refine lv_iload hx hb dX0_run_400 (lv_at hl 4 rfl) ?_
                  refine lv_goto (tgt := 418) hx hb dX0_run_402 rfl ?_
                  exact q_i hQ hx hb hr hlocks rfl (by rw [run_eq h13 h28 h41 (g := g) (by rw [hg, hix, hisd])]; simp only [eq_false h386, eq_true h397, if_true, if_false, ite_true, ite_false, not_true_eq_false, not_false_eq_true, and_true, true_and, and_false, false_and, or_true, true_or, or_false, false_or, and_self, or_self, eq_self]) dX0_run_418
              · have h386 : w = 0 := h386
                refine lv_iload hx hb dX0_run_389 (lv_at hl 5 rfl) ?_
                refine lv_goto (tgt := 418) hx hb dX0_run_391 rfl ?_
                exact q_i hQ hx hb hr hlocks rfl (by rw [run_eq h13 h28 h41 (g := g) (by rw [hg, hix, hisd])]; simp only [eq_true h386, if_true, if_false, ite_true, ite_false, not_true_eq_false, not_false_eq_true, and_true, true_and, and_false, false_and, or_true, true_or, or_false, false_or, and_self, or_self, eq_self]) dX0_run_418
            · have h77 : ¬ (j ≤ k) := fun z9 => h77 ((nz_le (a := j) (b := k) rfl rfl (by omega) (by omega)).mpr z9)
              have hen := en_lt row k
              refine lv_iload_n hx hb dX0_run_80 rfl (lv_at hl 11 rfl) ?_
              refine lv_iconst (v := 4) hx hb dX0_run_81 rfl ?_
              refine lv_iload hx hb dX0_run_82 (lv_at hl 0 rfl) ?_
              refine lv_imul hx hb dX0_run_84 ?_
              refine lv_ishr hx hb dX0_run_85 ?_
              refine lv_bipush (v := 15) hx hb dX0_run_86 rfl ?_
              refine lv_iand hx hb dX0_run_88 ?_
              refine w_topi (y := nI (en row k)) (en_eq row k) ?_
              refine lv_istore (lv' := [(14, .int (nI (en row k))), (13, .int (nI k)), (12, .int g.1.2.2.2.2.1), (11, .int g.1.2.2.1), (10, .int (nI g.1.1)), (9, .int g.1.2.1), (8, .int (g.1.2.2.2.1 + 1000)), (7, .int (nI g.2)), (6, .int (refBF σ bag row (nI j))), (0, .ref x), (1, .int (nI sd)), (2, .int bag), (3, .int row), (4, .int (nI j)), (5, .int w)]) hx hb dX0_run_89 hl (by decide) rfl (fun ls hl => ?_)
              refine lv_iload hx hb dX0_run_91 (lv_at hl 0 rfl) ?_
              refine lv_bipush (v := 6) hx hb dX0_run_93 rfl ?_
              refine lv_icmp_ne (tgt := 121) hx hb dX0_run_95 rfl (fun h95 => ?_) (fun h95 => ?_)
              · have h95 : ¬ ((en row k) = 6) := fun z9 => h95 ((nz_eq (a := en row k) (b := 6) rfl rfl (by omega) (by omega)).mpr z9)
                obtain ⟨hc6, hTc, hs0⟩ := (hoT k (by omega)).resolve_left h95
                have hsm := hI.sm (en row k) hc6
                have hpl := (hI.pl2 (en row k) hc6).1
                have htt := toT_ok hI hc6
                refine lv_aload_n hx hb dX0_run_121 rfl (lv_at hl 9 rfl) ?_
                refine va_get (D := D) (ci := 1) (v := .ref (ad 2)) (C := RX0) (T := TX0) (N := 11) hx hb hts in_X0 hown hK hP 0 rfl rfl 5 (by decide) (hts _ q218) (fun _ h9 => h9) rfl dX0_run_122 ?_
                refine lv_iload hx hb dX0_run_125 (lv_at hl 0 rfl) ?_
                refine wa_aald (v := .ref (μ.cA (en row k))) hx hb hK hP 3 5 rfl rfl rfl (en row k) (rfl) (by omega) (by decide) (cO_t hTc) dX0_run_127 ?_
                refine lv_astore (lv' := [(15, .ref (μ.cA (en row k))), (14, .int (nI (en row k))), (13, .int (nI k)), (12, .int g.1.2.2.2.2.1), (11, .int g.1.2.2.1), (10, .int (nI g.1.1)), (9, .int g.1.2.1), (8, .int (g.1.2.2.2.1 + 1000)), (7, .int (nI g.2)), (6, .int (refBF σ bag row (nI j))), (0, .ref x), (1, .int (nI sd)), (2, .int bag), (3, .int row), (4, .int (nI j)), (5, .int w)]) hx hb dX0_run_128 hl (by decide) rfl (fun ls hl => ?_)
                refine lv_iload hx hb dX0_run_130 (lv_at hl 6 rfl) ?_
                refine lv_aload_n hx hb dX0_run_132 rfl (lv_at hl 10 rfl) ?_
                refine va_get (D := D) (ci := 1) (v := .ref (ad 1)) (C := RX0) (T := TX0) (N := 11) hx hb hts in_X0 hown hK hP 0 rfl rfl 4 (by decide) (hts _ q216) (fun _ h9 => h9) rfl dX0_run_133 ?_
                refine lv_iload hx hb dX0_run_136 (lv_at hl 5 rfl) ?_
                refine wa_aald (v := .ref (ad (6 + g.1.1))) hx hb hK hP 2 4 rfl rfl rfl (g.1.1) (rfl) (by omega) (by decide) (rfl) dX0_run_138 ?_
                refine lv_aload hx hb dX0_run_139 (lv_at hl 0 rfl) ?_
                refine dV (v := .int ((fun k0_ => σ.calls (6 * (en row k) + k0_)) 0)) (As := []) (rest := [.ref (ad (6 + g.1.1)), .int g.1.2.1]) ⟨hx, hb, hml, hown, hts⟩ (mt_X7_place l D dA (μ.cA (en row k)) (μ.kA (en row k)) (μ.lA (en row k)) (total σ (en row k)) (fun k0_ => σ.calls (6 * (en row k) + k0_))) (cw_X0_X7_place hts ⟨Nat.le_of_ble_eq_true rfl, Nat.le_of_ble_eq_true rfl⟩) pB_bw (pB_now hK (pl2 (pl1 hP (hR.2.1 (en row k) hc6 hTc).1.1 (hR.2.1 (en row k) hc6 hTc).1.2) (pl1 hP (hR.2.1 (en row k) hc6 hTc).2.1.1 (hR.2.1 (en row k) hc6 hTc).2.1.2))) (va_recv hK (pl1 hP (hR.2.1 (en row k) hc6 hTc).1.1 (hR.2.1 (en row k) hc6 hTc).1.2) (ci := 5) (q0 := 0) rfl rfl) rfl hl.1 rfl (Nat.le_of_ble_eq_true rfl) dX0_run_141 ⟨Nat.le_of_ble_eq_true rfl, Nat.le_of_ble_eq_true rfl⟩ ?_
                refine w_topi (y := nI (plF σ (en row k))) ((hI.pl2 (en row k) hc6).2) ?_
                refine wa_sald (v := σ.ways (6 * g.1.1 + (plF σ (en row k)))) hx hb hK (way_row hP (i := g.1.1) (by omega)) 0 2 rfl rfl (plF σ (en row k)) (rfl) (by omega) (by decide) (rfl) dX0_run_144 ?_
                refine lv_iadd hx hb dX0_run_145 ?_
                refine lv_istore (lv' := [(9, .int (g.1.2.1 + (σ.ways (6 * g.1.1 + (plF σ (en row k)))))), (15, .ref (μ.cA (en row k))), (14, .int (nI (en row k))), (13, .int (nI k)), (12, .int g.1.2.2.2.2.1), (11, .int g.1.2.2.1), (10, .int (nI g.1.1)), (8, .int (g.1.2.2.2.1 + 1000)), (7, .int (nI g.2)), (6, .int (refBF σ bag row (nI j))), (0, .ref x), (1, .int (nI sd)), (2, .int bag), (3, .int row), (4, .int (nI j)), (5, .int w)]) hx hb dX0_run_146 hl (by decide) rfl (fun ls hl => ?_)
                refine lv_aload hx hb dX0_run_148 (lv_at hl 1 rfl) ?_
                refine dV (v := .int ((fun k0_ => σ.calls (6 * (en row k) + k0_)) 0)) (As := []) (rest := []) ⟨hx, hb, hml, hown, hts⟩ (mt_X7_place l D dA (μ.cA (en row k)) (μ.kA (en row k)) (μ.lA (en row k)) (total σ (en row k)) (fun k0_ => σ.calls (6 * (en row k) + k0_))) (cw_X0_X7_place hts ⟨Nat.le_of_ble_eq_true rfl, Nat.le_of_ble_eq_true rfl⟩) pB_bw (pB_now hK (pl2 (pl1 hP (hR.2.1 (en row k) hc6 hTc).1.1 (hR.2.1 (en row k) hc6 hTc).1.2) (pl1 hP (hR.2.1 (en row k) hc6 hTc).2.1.1 (hR.2.1 (en row k) hc6 hTc).2.1.2))) (va_recv hK (pl1 hP (hR.2.1 (en row k) hc6 hTc).1.1 (hR.2.1 (en row k) hc6 hTc).1.2) (ci := 5) (q0 := 0) rfl rfl) rfl hl.1 rfl (Nat.le_of_ble_eq_true rfl) dX0_run_150 ⟨Nat.le_of_ble_eq_true rfl, Nat.le_of_ble_eq_true rfl⟩ ?_
                refine w_topi (y := nI (plF σ (en row k))) ((hI.pl2 (en row k) hc6).2) ?_
                refine lv_istore (lv' := [(10, .int (nI (plF σ (en row k)))), (9, .int (g.1.2.1 + (σ.ways (6 * g.1.1 + (plF σ (en row k)))))), (15, .ref (μ.cA (en row k))), (14, .int (nI (en row k))), (13, .int (nI k)), (12, .int g.1.2.2.2.2.1), (11, .int g.1.2.2.1), (8, .int (g.1.2.2.2.1 + 1000)), (7, .int (nI g.2)), (6, .int (refBF σ bag row (nI j))), (0, .ref x), (1, .int (nI sd)), (2, .int bag), (3, .int row), (4, .int (nI j)), (5, .int w)]) hx hb dX0_run_153 hl (by decide) rfl (fun ls hl => ?_)
                refine lv_aload hx hb dX0_run_155 (lv_at hl 2 rfl) ?_
                refine lv_iload hx hb dX0_run_157 (lv_at hl 1 rfl) ?_
                refine dV (v := .int (begW (fun k0_ => σ.calls (6 * (en row k) + k0_)) (g.1.2.1 + (σ.ways (6 * g.1.1 + (plF σ (en row k))))))) (As := [.int (g.1.2.1 + (σ.ways (6 * g.1.1 + (plF σ (en row k)))))]) (rest := []) ⟨hx, hb, hml, hown, hts⟩ (mt_X7_begins l D dA (μ.cA (en row k)) (μ.kA (en row k)) (μ.lA (en row k)) (total σ (en row k)) (fun k0_ => σ.calls (6 * (en row k) + k0_)) (g.1.2.1 + (σ.ways (6 * g.1.1 + (plF σ (en row k)))))) (cw_X0_X7_begins hts ⟨Nat.le_of_ble_eq_true rfl, Nat.le_of_ble_eq_true rfl⟩) pB_bw (pB_now hK (pl2 (pl1 hP (hR.2.1 (en row k) hc6 hTc).1.1 (hR.2.1 (en row k) hc6 hTc).1.2) (pl1 hP (hR.2.1 (en row k) hc6 hTc).2.1.1 (hR.2.1 (en row k) hc6 hTc).2.1.2))) (va_recv hK (pl1 hP (hR.2.1 (en row k) hc6 hTc).1.1 (hR.2.1 (en row k) hc6 hTc).1.2) (ci := 5) (q0 := 0) rfl rfl) rfl hl.1 rfl (Nat.le_of_ble_eq_true rfl) dX0_run_159 ⟨Nat.le_of_ble_eq_true rfl, Nat.le_of_ble_eq_true rfl⟩ ?_
                refine w_topi (y := bgF σ g.1.1 g.1.2.1 (en row k)) (beg_eq hI hc6 g.1.2.1) ?_
                refine lv_iconst (v := (-1)) hx hb dX0_run_162 rfl ?_
                refine lv_icmp_ne (tgt := 179) hx hb dX0_run_163 rfl (fun h163 => ?_) (fun h163 => ?_)
                · have h163 : ¬ ((bgF σ g.1.1 g.1.2.1 (en row k)) = (-1)) := h163
                  obtain ⟨hnl, hbg⟩ := bg_n hI hc6 h163
                  have hdl : dnx g.2 < 65536 := Nat.mod_lt _ (by decide)
                  refine lv_iload hx hb dX0_run_179 (lv_at hl 8 rfl) ?_
                  refine lv_sipush (v := 25173) hx hb dX0_run_181 rfl ?_
                  refine lv_imul hx hb dX0_run_184 ?_
                  refine lv_sipush (v := 13849) hx hb dX0_run_185 rfl ?_
                  refine lv_iadd hx hb dX0_run_188 ?_
                  refine lv_ldcw (v := 65536) hx hb hown (hts _ q1103) dX0_run_189 ?_
                  refine lv_irem hx hb dX0_run_192 (by decide) ?_
                  refine w_topi (y := nI (dnx g.2)) ((nz_rem (a := g.2 * 25173 + 13849) (d := 65536) (nz_add (nz_mul rfl rfl) rfl) rfl (by omega) (by decide) (by decide))) ?_
                  refine lv_istore (lv' := [(7, .int (nI (dnx g.2))), (10, .int (nI (plF σ (en row k)))), (9, .int (g.1.2.1 + (σ.ways (6 * g.1.1 + (plF σ (en row k)))))), (15, .ref (μ.cA (en row k))), (14, .int (nI (en row k))), (13, .int (nI k)), (12, .int g.1.2.2.2.2.1), (11, .int g.1.2.2.1), (8, .int (g.1.2.2.2.1 + 1000)), (6, .int (refBF σ bag row (nI j))), (0, .ref x), (1, .int (nI sd)), (2, .int bag), (3, .int row), (4, .int (nI j)), (5, .int w)]) hx hb dX0_run_193 hl (by decide) rfl (fun ls hl => ?_)
                  refine lv_iload hx hb dX0_run_195 (lv_at hl 0 rfl) ?_
                  refine lv_bipush (v := 64) hx hb dX0_run_197 rfl ?_
                  refine lv_idiv hx hb dX0_run_199 (by decide) ?_
                  refine lv_aload hx hb dX0_run_200 (lv_at hl 3 rfl) ?_
                  refine va_get (D := D) (ci := 5) (v := .int (total σ (en row k))) (C := RX7) (T := TX7) (N := 3) hx hb hts in_X7 hown hK (pl1 hP (hR.2.1 (en row k) hc6 hTc).1.1 (hR.2.1 (en row k) hc6 hTc).1.2) 0 rfl rfl 2 (by decide) (hts _ q704) (fun _ h9 => h9) rfl dX0_run_202 ?_
                  refine w_topi (y := nI (toT σ (en row k))) (htt.1) ?_
                  refine lv_irem hx hb dX0_run_205 (nI_ne0 (by omega) (by omega)) ?_
                  refine w_topi (y := nI (dnx g.2 / 64 % toT σ (en row k))) ((nz_rem (a := dnx g.2 / 64) (d := toT σ (en row k)) (nz_div (a := dnx g.2) (d := 64) rfl rfl (by omega) (by decide) (by decide)) rfl (by omega) (by omega) (by omega))) ?_
                  refine lv_istore (lv' := [(16, .int (nI (dnx g.2 / 64 % toT σ (en row k)))), (7, .int (nI (dnx g.2))), (10, .int (nI (plF σ (en row k)))), (9, .int (g.1.2.1 + (σ.ways (6 * g.1.1 + (plF σ (en row k)))))), (15, .ref (μ.cA (en row k))), (14, .int (nI (en row k))), (13, .int (nI k)), (12, .int g.1.2.2.2.2.1), (11, .int g.1.2.2.1), (8, .int (g.1.2.2.2.1 + 1000)), (6, .int (refBF σ bag row (nI j))), (0, .ref x), (1, .int (nI sd)), (2, .int bag), (3, .int row), (4, .int (nI j)), (5, .int w)]) hx hb dX0_run_206 hl (by decide) rfl (fun ls hl => ?_)
                  refine lv_iconst (v := 0) hx hb dX0_run_208 rfl ?_
                  refine lv_istore (lv' := [(17, .int 0), (16, .int (nI (dnx g.2 / 64 % toT σ (en row k)))), (7, .int (nI (dnx g.2))), (10, .int (nI (plF σ (en row k)))), (9, .int (g.1.2.1 + (σ.ways (6 * g.1.1 + (plF σ (en row k)))))), (15, .ref (μ.cA (en row k))), (14, .int (nI (en row k))), (13, .int (nI k)), (12, .int g.1.2.2.2.2.1), (11, .int g.1.2.2.1), (8, .int (g.1.2.2.2.1 + 1000)), (6, .int (refBF σ bag row (nI j))), (0, .ref x), (1, .int (nI sd)), (2, .int bag), (3, .int row), (4, .int (nI j)), (5, .int w)]) hx hb dX0_run_209 hl (by decide) rfl (fun ls hl => ?_)
                  have hL211_5 : ∀ (n_6 : Nat) (i2 : Nat) (mm : Nat) (x17 : Int32) (x16 : Int32) (ls : Array Slot), (4 - i2) < n_6 → (i2 ≤ σ.sm (en row k)) → (mm + tnN σ (en row k) i2 < toT σ (en row k)) → (sbG σ (en row k) (4 - i2) i2 mm = sbN σ (en row k) (dnx g.2 / 64 % toT σ (en row k))) → x17 = (nI i2) → x16 = (nI mm) → lv_has ls 20 [(17, .int x17), (16, .int x16), (7, .int (nI (dnx g.2))), (10, .int (nI (plF σ (en row k)))), (9, .int (g.1.2.1 + (σ.ways (6 * g.1.1 + (plF σ (en row k)))))), (15, .ref (μ.cA (en row k))), (14, .int (nI (en row k))), (13, .int (nI k)), (12, .int g.1.2.2.2.2.1), (11, .int g.1.2.2.1), (8, .int (g.1.2.2.2.1 + 1000)), (6, .int (refBF σ bag row (nI j))), (0, .ref x), (1, .int (nI sd)), (2, .int bag), (3, .int row), (4, .int (nI j)), (5, .int w)] → W p l e rmX0_run s m args below meth c s.heap [] 0 0 Q (F0 m 211 ls []) := by
                    intro n_6
                    induction n_6 with
                    | zero => intro i2 mm x17 x16 ls hm_8; exact absurd hm_8 (Nat.not_lt_zero _)
                    | succ n_6 ih_7 =>
                      intro i2 mm x17 x16 ls hm_8 hi0 hmm hsb ex17 ex16 hl
                      subst ex17 ex16
                      have hi2 : i2 < σ.sm (en row k) := Nat.lt_of_le_of_ne hi0 (fun q => by rw [q] at hmm; unfold toT at hmm; omega)
                      have hlk := lk_ok hI hc6 hi2
                      refine lv_iload hx hb dX0_run_211 (lv_at hl 1 rfl) ?_
                      refine lv_aload hx hb dX0_run_213 (lv_at hl 5 rfl) ?_
                      refine va_get (D := D) (ci := 5) (v := .ref (μ.lA (en row k))) (C := RX7) (T := TX7) (N := 3) hx hb hts in_X7 hown hK (pl1 hP (hR.2.1 (en row k) hc6 hTc).1.1 (hR.2.1 (en row k) hc6 hTc).1.2) 0 rfl rfl 1 (by decide) (hts _ q701) (fun _ h9 => h9) rfl dX0_run_215 ?_
                      refine lv_iload hx hb dX0_run_218 (lv_at hl 0 rfl) ?_
                      refine g_sort (rest := [.int (nI mm)]) ⟨hx, hb, hml, hown, hts⟩ (cw_X0_J2_get hts ⟨Nat.le_of_ble_eq_true rfl, Nat.le_of_ble_eq_true rfl⟩) hK hP (hR.2.1 (en row k) hc6 hTc) (hI.sm (en row k) hc6) hi2 hl.1 rfl (Nat.le_of_ble_eq_true rfl) dX0_run_220 ⟨Nat.le_of_ble_eq_true rfl, Nat.le_of_ble_eq_true rfl⟩ ?_
                      refine va_castS hx hb hown (hts _ q717) (hK.1 6 _ rfl).2 (va_recv hK (pl1 hP ((hR.2.1 (en row k) hc6 hTc).2.2.2.2 i2 hi2).1 ((hR.2.1 (en row k) hc6 hTc).2.2.2.2 i2 hi2).2) (ci := 6) (q0 := 0) rfl rfl) dX0_run_223 ?_
                      refine va_get (D := D) (ci := 6) (v := .int (σ.sorts (16 * (en row k) + 4 * i2))) (C := RX9) (T := TX9) (N := 4) hx hb hts in_X9 hown hK (pl1 hP ((hR.2.1 (en row k) hc6 hTc).2.2.2.2 i2 hi2).1 ((hR.2.1 (en row k) hc6 hTc).2.2.2.2 i2 hi2).2) 0 rfl rfl 2 (by decide) (hts _ q729) (fun _ h9 => h9) rfl dX0_run_226 ?_
                      refine w_topi (y := nI (lkN σ (en row k) i2)) ((lk_ok hI hc6 hi2).2.2) ?_
                      refine lv_icmp_lt (tgt := 259) hx hb dX0_run_229 rfl (fun h229 => ?_) (fun h229 => ?_)
                      · have h229 : mm < (lkN σ (en row k) i2) := (nz_lt (a := mm) (b := lkN σ (en row k) i2) rfl rfl (by omega) (by omega)).mp h229
                        have hfin : sbN σ (en row k) (dnx g.2 / 64 % toT σ (en row k)) = i2 := by rw [← hsb, show 4 - i2 = (3 - i2) + 1 by omega, sbG, if_pos h229]
                        refine lv_aload hx hb dX0_run_259 (lv_at hl 5 rfl) ?_
                        refine va_get (D := D) (ci := 5) (v := .ref (μ.lA (en row k))) (C := RX7) (T := TX7) (N := 3) hx hb hts in_X7 hown hK (pl1 hP (hR.2.1 (en row k) hc6 hTc).1.1 (hR.2.1 (en row k) hc6 hTc).1.2) 0 rfl rfl 1 (by decide) (hts _ q701) (fun _ h9 => h9) rfl dX0_run_261 ?_
                        refine lv_iload hx hb dX0_run_264 (lv_at hl 0 rfl) ?_
                        refine g_sort (rest := []) ⟨hx, hb, hml, hown, hts⟩ (cw_X0_J2_get hts ⟨Nat.le_of_ble_eq_true rfl, Nat.le_of_ble_eq_true rfl⟩) hK hP (hR.2.1 (en row k) hc6 hTc) (hI.sm (en row k) hc6) hi2 hl.1 rfl (Nat.le_of_ble_eq_true rfl) dX0_run_266 ⟨Nat.le_of_ble_eq_true rfl, Nat.le_of_ble_eq_true rfl⟩ ?_
                        refine va_castS hx hb hown (hts _ q717) (hK.1 6 _ rfl).2 (va_recv hK (pl1 hP ((hR.2.1 (en row k) hc6 hTc).2.2.2.2 i2 hi2).1 ((hR.2.1 (en row k) hc6 hTc).2.2.2.2 i2 hi2).2) (ci := 6) (q0 := 0) rfl rfl) dX0_run_269 ?_
                        refine lv_astore (lv' := [(18, .ref (μ.sA (en row k) i2)), (17, .int (nI i2)), (16, .int (nI mm)), (7, .int (nI (dnx g.2))), (10, .int (nI (plF σ (en row k)))), (9, .int (g.1.2.1 + (σ.ways (6 * g.1.1 + (plF σ (en row k)))))), (15, .ref (μ.cA (en row k))), (14, .int (nI (en row k))), (13, .int (nI k)), (12, .int g.1.2.2.2.2.1), (11, .int g.1.2.2.1), (8, .int (g.1.2.2.2.1 + 1000)), (6, .int (refBF σ bag row (nI j))), (0, .ref x), (1, .int (nI sd)), (2, .int bag), (3, .int row), (4, .int (nI j)), (5, .int w)]) hx hb dX0_run_272 hl (by decide) rfl (fun ls hl => ?_)
                        refine lv_aload hx hb dX0_run_274 (lv_at hl 0 rfl) ?_
                        refine lv_iload hx hb dX0_run_276 (lv_at hl 10 rfl) ?_
                        refine dU (v := .int (b01 (metP g.1.2.2.1 (σ.sorts (16 * (en row k) + 4 * i2 + 2)) (σ.sorts (16 * (en row k) + 4 * i2 + 3))))) (As := [.int g.1.2.2.1]) (rest := []) ⟨hx, hb, hml, hown, hts⟩ (mt_X8_isMet_S l D dA (μ.sA (en row k) i2) (σ.sorts (16 * (en row k) + 4 * i2 + 2)) (σ.sorts (16 * (en row k) + 4 * i2 + 3)) (σ.sorts (16 * (en row k) + 4 * i2)) (σ.sorts (16 * (en row k) + 4 * i2 + 1)) g.1.2.2.1) (cw_X0_X8_isMet_S_X9 hts ⟨Nat.le_of_ble_eq_true rfl, Nat.le_of_ble_eq_true rfl⟩) pB_bw (pB_now hK (pl1 hP ((hR.2.1 (en row k) hc6 hTc).2.2.2.2 i2 hi2).1 ((hR.2.1 (en row k) hc6 hTc).2.2.2.2 i2 hi2).2)) (va_recv hK (pl1 hP ((hR.2.1 (en row k) hc6 hTc).2.2.2.2 i2 hi2).1 ((hR.2.1 (en row k) hc6 hTc).2.2.2.2 i2 hi2).2) (ci := 6) (q0 := 0) rfl rfl) rfl hl.1 rfl (Nat.le_of_ble_eq_true rfl) dX0_run_278 ⟨Nat.le_of_ble_eq_true rfl, Nat.le_of_ble_eq_true rfl⟩ ?_
                        refine w_topi (y := b01 (¬ leftF σ g.1.2.2.1 (en row k) i2 = -1)) (b01_iff (met_left hby (en row k) i2)) ?_
                        refine lv_istore (lv' := [(19, .int (b01 (¬ leftF σ g.1.2.2.1 (en row k) i2 = -1))), (18, .ref (μ.sA (en row k) i2)), (17, .int (nI i2)), (16, .int (nI mm)), (7, .int (nI (dnx g.2))), (10, .int (nI (plF σ (en row k)))), (9, .int (g.1.2.1 + (σ.ways (6 * g.1.1 + (plF σ (en row k)))))), (15, .ref (μ.cA (en row k))), (14, .int (nI (en row k))), (13, .int (nI k)), (12, .int g.1.2.2.2.2.1), (11, .int g.1.2.2.1), (8, .int (g.1.2.2.2.1 + 1000)), (6, .int (refBF σ bag row (nI j))), (0, .ref x), (1, .int (nI sd)), (2, .int bag), (3, .int row), (4, .int (nI j)), (5, .int w)]) hx hb dX0_run_281 hl (by decide) rfl (fun ls hl => ?_)
                        by_cases hme : leftF σ g.1.2.2.1 (en row k) i2 = -1
                        · skip
                          rw [b01_f (show ¬ ¬ leftF σ g.1.2.2.1 (en row k) i2 = -1 from fun z => z hme)] at hl
                          refine lv_aload hx hb dX0_run_283 (lv_at hl 7 rfl) ?_
                          refine lv_iload hx hb dX0_run_285 (lv_at hl 6 rfl) ?_
                          refine dV (v := .int (begW (fun k0_ => σ.calls (6 * (en row k) + k0_)) (g.1.2.1 + (σ.ways (6 * g.1.1 + (plF σ (en row k))))))) (As := [.int (g.1.2.1 + (σ.ways (6 * g.1.1 + (plF σ (en row k)))))]) (rest := []) ⟨hx, hb, hml, hown, hts⟩ (mt_X7_begins l D dA (μ.cA (en row k)) (μ.kA (en row k)) (μ.lA (en row k)) (total σ (en row k)) (fun k0_ => σ.calls (6 * (en row k) + k0_)) (g.1.2.1 + (σ.ways (6 * g.1.1 + (plF σ (en row k)))))) (cw_X0_X7_begins hts ⟨Nat.le_of_ble_eq_true rfl, Nat.le_of_ble_eq_true rfl⟩) pB_bw (pB_now hK (pl2 (pl1 hP (hR.2.1 (en row k) hc6 hTc).1.1 (hR.2.1 (en row k) hc6 hTc).1.2) (pl1 hP (hR.2.1 (en row k) hc6 hTc).2.1.1 (hR.2.1 (en row k) hc6 hTc).2.1.2))) (va_recv hK (pl1 hP (hR.2.1 (en row k) hc6 hTc).1.1 (hR.2.1 (en row k) hc6 hTc).1.2) (ci := 5) (q0 := 0) rfl rfl) rfl hl.1 rfl (Nat.le_of_ble_eq_true rfl) dX0_run_287 ⟨Nat.le_of_ble_eq_true rfl, Nat.le_of_ble_eq_true rfl⟩ ?_
                          refine w_topi (y := arrF σ g.1.1 g.1.2.1 (en row k)) ((beg_eq hI hc6 g.1.2.1).trans hbg) ?_
                          refine lv_iload hx hb dX0_run_290 (lv_at hl 0 rfl) ?_
                          refine lv_if_eq (tgt := 303) hx hb dX0_run_292 rfl (fun _ => ?_) (fun h9 => ?_)
                          rotate_left
                          · exact absurd (by decide) h9
                          refine lv_aload hx hb dX0_run_303 (lv_at hl 7 rfl) ?_
                          refine va_get (D := D) (ci := 5) (v := .ref (μ.kA (en row k))) (C := RX7) (T := TX7) (N := 3) hx hb hts in_X7 hown hK (pl1 hP (hR.2.1 (en row k) hc6 hTc).1.1 (hR.2.1 (en row k) hc6 hTc).1.2) 0 rfl rfl 0 (by decide) (hts _ q698) (fun _ h9 => h9) rfl dX0_run_305 ?_
                          refine lv_iconst (v := 5) hx hb dX0_run_308 rfl ?_
                          refine wa_iald1 (v := σ.calls (6 * (en row k) + 5)) hx hb hK (pl1 hP (hR.2.1 (en row k) hc6 hTc).2.1.1 (hR.2.1 (en row k) hc6 hTc).2.1.2) 0 0 rfl rfl (5) (rfl) (by omega) (by decide) (rfl) dX0_run_309 ?_
                          refine lv_iadd hx hb dX0_run_310 ?_
                          refine lv_istore (lv' := [(9, .int ((arrF σ g.1.1 g.1.2.1 (en row k)) + (σ.calls (6 * (en row k) + 5)))), (19, .int 0), (18, .ref (μ.sA (en row k) i2)), (17, .int (nI i2)), (16, .int (nI mm)), (7, .int (nI (dnx g.2))), (10, .int (nI (plF σ (en row k)))), (15, .ref (μ.cA (en row k))), (14, .int (nI (en row k))), (13, .int (nI k)), (12, .int g.1.2.2.2.2.1), (11, .int g.1.2.2.1), (8, .int (g.1.2.2.2.1 + 1000)), (6, .int (refBF σ bag row (nI j))), (0, .ref x), (1, .int (nI sd)), (2, .int bag), (3, .int row), (4, .int (nI j)), (5, .int w)]) hx hb dX0_run_311 hl (by decide) rfl (fun ls hl => ?_)
                          refine lv_iload hx hb dX0_run_313 (lv_at hl 12 rfl) ?_
                          refine lv_iload hx hb dX0_run_315 (lv_at hl 1 rfl) ?_
                          refine lv_if_eq (tgt := 328) hx hb dX0_run_317 rfl (fun _ => ?_) (fun h9 => ?_)
                          rotate_left
                          · exact absurd (by decide) h9
                          refine lv_aload hx hb dX0_run_328 (lv_at hl 7 rfl) ?_
                          refine dV (v := .int ((fun k0_ => σ.calls (6 * (en row k) + k0_)) 4)) (As := []) (rest := [.int (g.1.2.2.2.1 + 1000)]) ⟨hx, hb, hml, hown, hts⟩ (mt_X7_again l D dA (μ.cA (en row k)) (μ.kA (en row k)) (μ.lA (en row k)) (total σ (en row k)) (fun k0_ => σ.calls (6 * (en row k) + k0_))) (cw_X0_X7_again hts ⟨Nat.le_of_ble_eq_true rfl, Nat.le_of_ble_eq_true rfl⟩) pB_bw (pB_now hK (pl2 (pl1 hP (hR.2.1 (en row k) hc6 hTc).1.1 (hR.2.1 (en row k) hc6 hTc).1.2) (pl1 hP (hR.2.1 (en row k) hc6 hTc).2.1.1 (hR.2.1 (en row k) hc6 hTc).2.1.2))) (va_recv hK (pl1 hP (hR.2.1 (en row k) hc6 hTc).1.1 (hR.2.1 (en row k) hc6 hTc).1.2) (ci := 5) (q0 := 0) rfl rfl) rfl hl.1 rfl (Nat.le_of_ble_eq_true rfl) dX0_run_330 ⟨Nat.le_of_ble_eq_true rfl, Nat.le_of_ble_eq_true rfl⟩ ?_
                          refine w_topi (y := σ.calls (6 * (en row k) + 4)) (rfl) ?_
                          refine lv_ineg hx hb dX0_run_333 ?_
                          refine lv_iadd hx hb dX0_run_334 ?_
                          refine lv_istore (lv' := [(8, .int ((g.1.2.2.2.1 + 1000) + (-(σ.calls (6 * (en row k) + 4))))), (9, .int ((arrF σ g.1.1 g.1.2.1 (en row k)) + (σ.calls (6 * (en row k) + 5)))), (19, .int 0), (18, .ref (μ.sA (en row k) i2)), (17, .int (nI i2)), (16, .int (nI mm)), (7, .int (nI (dnx g.2))), (10, .int (nI (plF σ (en row k)))), (15, .ref (μ.cA (en row k))), (14, .int (nI (en row k))), (13, .int (nI k)), (12, .int g.1.2.2.2.2.1), (11, .int g.1.2.2.1), (6, .int (refBF σ bag row (nI j))), (0, .ref x), (1, .int (nI sd)), (2, .int bag), (3, .int row), (4, .int (nI j)), (5, .int w)]) hx hb dX0_run_335 hl (by decide) rfl (fun ls hl => ?_)
                          refine lv_iload hx hb dX0_run_337 (lv_at hl 2 rfl) ?_
                          refine lv_if_eq (tgt := 356) hx hb dX0_run_339 rfl (fun _ => ?_) (fun h9 => ?_)
                          rotate_left
                          · exact absurd (by decide) h9
                          refine lv_iload hx hb dX0_run_356 (lv_at hl 12 rfl) ?_
                          refine lv_istore (lv' := [(11, .int g.1.2.2.1), (8, .int ((g.1.2.2.2.1 + 1000) + (-(σ.calls (6 * (en row k) + 4))))), (9, .int ((arrF σ g.1.1 g.1.2.1 (en row k)) + (σ.calls (6 * (en row k) + 5)))), (19, .int 0), (18, .ref (μ.sA (en row k) i2)), (17, .int (nI i2)), (16, .int (nI mm)), (7, .int (nI (dnx g.2))), (10, .int (nI (plF σ (en row k)))), (15, .ref (μ.cA (en row k))), (14, .int (nI (en row k))), (13, .int (nI k)), (12, .int g.1.2.2.2.2.1), (6, .int (refBF σ bag row (nI j))), (0, .ref x), (1, .int (nI sd)), (2, .int bag), (3, .int row), (4, .int (nI j)), (5, .int w)]) hx hb dX0_run_358 hl (by decide) rfl (fun ls hl => ?_)
                          refine lv_iload hx hb dX0_run_360 (lv_at hl 12 rfl) ?_
                          refine lv_iload hx hb dX0_run_362 (lv_at hl 3 rfl) ?_
                          refine lv_if_eq (tgt := 374) hx hb dX0_run_364 rfl (fun _ => ?_) (fun h9 => ?_)
                          rotate_left
                          · exact absurd (by decide) h9
                          refine lv_iconst (v := 0) hx hb dX0_run_374 rfl ?_
                          refine lv_ior hx hb dX0_run_375 ?_
                          refine lv_istore (lv' := [(12, .int (g.1.2.2.2.2.1 ||| 0)), (11, .int g.1.2.2.1), (8, .int ((g.1.2.2.2.1 + 1000) + (-(σ.calls (6 * (en row k) + 4))))), (9, .int ((arrF σ g.1.1 g.1.2.1 (en row k)) + (σ.calls (6 * (en row k) + 5)))), (19, .int 0), (18, .ref (μ.sA (en row k) i2)), (17, .int (nI i2)), (16, .int (nI mm)), (7, .int (nI (dnx g.2))), (10, .int (nI (plF σ (en row k)))), (15, .ref (μ.cA (en row k))), (14, .int (nI (en row k))), (13, .int (nI k)), (6, .int (refBF σ bag row (nI j))), (0, .ref x), (1, .int (nI sd)), (2, .int bag), (3, .int row), (4, .int (nI j)), (5, .int w)]) hx hb dX0_run_376 hl (by decide) rfl (fun ls hl => ?_)
                          refine lv_iinc (v := nI (k + 1)) (lv' := [(13, .int (nI (k + 1))), (12, .int (g.1.2.2.2.2.1 ||| 0)), (11, .int g.1.2.2.1), (8, .int ((g.1.2.2.2.1 + 1000) + (-(σ.calls (6 * (en row k) + 4))))), (9, .int ((arrF σ g.1.1 g.1.2.1 (en row k)) + (σ.calls (6 * (en row k) + 5)))), (19, .int 0), (18, .ref (μ.sA (en row k) i2)), (17, .int (nI i2)), (16, .int (nI mm)), (7, .int (nI (dnx g.2))), (10, .int (nI (plF σ (en row k)))), (15, .ref (μ.cA (en row k))), (14, .int (nI (en row k))), (6, .int (refBF σ bag row (nI j))), (0, .ref x), (1, .int (nI sd)), (2, .int bag), (3, .int row), (4, .int (nI j)), (5, .int w)]) hx hb dX0_run_378 hl (k := 12) rfl (nI_1 k) (by decide) rfl (fun ls hl => ?_)
                          refine lv_goto (tgt := 73) hx hb dX0_run_381 rfl ?_
                          exact ih_3 (k + 1) (stepC σ (en row k) i2 g.1, dnx g.2) (nI (k + 1)) (g.1.2.2.2.2.1 ||| 0) g.1.2.2.1 (nI (plF σ (en row k))) ((arrF σ g.1.1 g.1.2.1 (en row k)) + (σ.calls (6 * (en row k) + 5))) ((g.1.2.2.2.1 + 1000) + (-(σ.calls (6 * (en row k) + 4)))) (nI (dnx g.2)) ls (by omega) (by omega) (gd_call hg h95 hnl hfin) (by show plF σ (en row k) < 6; exact hpl) (by show dnx g.2 < 65536; exact hdl) (by show byP (stepC σ (en row k) i2 g.1).2.2.1; rw [(st_not hnl hme).2.1]; exact hby) rfl (by show _ = (stepC σ (en row k) i2 g.1).2.2.2.2.1; rw [(st_not hnl hme).2.2.2.1, Int32.or_zero]) ((st_not hnl hme).2.1.symm) rfl ((st_not hnl hme).1.symm) (by show _ = (stepC σ (en row k) i2 g.1).2.2.2.1 + 1000; rw [(st_not hnl hme).2.2.1, sum1001]) rfl (lv_sub hl [0, 1, 2, 10, 4, 3, 9, 13, 14, 15, 16, 17, 18, 19] rfl)
                        · skip
                          rw [b01_t (show ¬ leftF σ g.1.2.2.1 (en row k) i2 = -1 from hme)] at hl
                          refine lv_aload hx hb dX0_run_283 (lv_at hl 7 rfl) ?_
                          refine lv_iload hx hb dX0_run_285 (lv_at hl 6 rfl) ?_
                          refine dV (v := .int (begW (fun k0_ => σ.calls (6 * (en row k) + k0_)) (g.1.2.1 + (σ.ways (6 * g.1.1 + (plF σ (en row k))))))) (As := [.int (g.1.2.1 + (σ.ways (6 * g.1.1 + (plF σ (en row k)))))]) (rest := []) ⟨hx, hb, hml, hown, hts⟩ (mt_X7_begins l D dA (μ.cA (en row k)) (μ.kA (en row k)) (μ.lA (en row k)) (total σ (en row k)) (fun k0_ => σ.calls (6 * (en row k) + k0_)) (g.1.2.1 + (σ.ways (6 * g.1.1 + (plF σ (en row k)))))) (cw_X0_X7_begins hts ⟨Nat.le_of_ble_eq_true rfl, Nat.le_of_ble_eq_true rfl⟩) pB_bw (pB_now hK (pl2 (pl1 hP (hR.2.1 (en row k) hc6 hTc).1.1 (hR.2.1 (en row k) hc6 hTc).1.2) (pl1 hP (hR.2.1 (en row k) hc6 hTc).2.1.1 (hR.2.1 (en row k) hc6 hTc).2.1.2))) (va_recv hK (pl1 hP (hR.2.1 (en row k) hc6 hTc).1.1 (hR.2.1 (en row k) hc6 hTc).1.2) (ci := 5) (q0 := 0) rfl rfl) rfl hl.1 rfl (Nat.le_of_ble_eq_true rfl) dX0_run_287 ⟨Nat.le_of_ble_eq_true rfl, Nat.le_of_ble_eq_true rfl⟩ ?_
                          refine w_topi (y := arrF σ g.1.1 g.1.2.1 (en row k)) ((beg_eq hI hc6 g.1.2.1).trans hbg) ?_
                          refine lv_iload hx hb dX0_run_290 (lv_at hl 0 rfl) ?_
                          refine lv_if_eq (tgt := 303) hx hb dX0_run_292 rfl (fun h9 => ?_) (fun _ => ?_)
                          · exact absurd h9 (by decide)
                          refine lv_aload hx hb dX0_run_295 (lv_at hl 1 rfl) ?_
                          refine va_get (D := D) (ci := 6) (v := .int (σ.sorts (16 * (en row k) + 4 * i2 + 1))) (C := RX9) (T := TX9) (N := 4) hx hb hts in_X9 hown hK (pl1 hP ((hR.2.1 (en row k) hc6 hTc).2.2.2.2 i2 hi2).1 ((hR.2.1 (en row k) hc6 hTc).2.2.2.2 i2 hi2).2) 0 rfl rfl 3 (by decide) (hts _ q732) (fun _ h9 => h9) rfl dX0_run_297 ?_
                          refine lv_goto (tgt := 310) hx hb dX0_run_300 rfl ?_
                          refine lv_iadd hx hb dX0_run_310 ?_
                          refine lv_istore (lv' := [(9, .int ((arrF σ g.1.1 g.1.2.1 (en row k)) + (σ.sorts (16 * (en row k) + 4 * i2 + 1)))), (19, .int 1), (18, .ref (μ.sA (en row k) i2)), (17, .int (nI i2)), (16, .int (nI mm)), (7, .int (nI (dnx g.2))), (10, .int (nI (plF σ (en row k)))), (15, .ref (μ.cA (en row k))), (14, .int (nI (en row k))), (13, .int (nI k)), (12, .int g.1.2.2.2.2.1), (11, .int g.1.2.2.1), (8, .int (g.1.2.2.2.1 + 1000)), (6, .int (refBF σ bag row (nI j))), (0, .ref x), (1, .int (nI sd)), (2, .int bag), (3, .int row), (4, .int (nI j)), (5, .int w)]) hx hb dX0_run_311 hl (by decide) rfl (fun ls hl => ?_)
                          refine lv_iload hx hb dX0_run_313 (lv_at hl 12 rfl) ?_
                          refine lv_iload hx hb dX0_run_315 (lv_at hl 1 rfl) ?_
                          refine lv_if_eq (tgt := 328) hx hb dX0_run_317 rfl (fun h9 => ?_) (fun _ => ?_)
                          · exact absurd h9 (by decide)
                          refine lv_aload hx hb dX0_run_320 (lv_at hl 7 rfl) ?_
                          refine dV (v := .int ((fun k0_ => σ.calls (6 * (en row k) + k0_)) 3)) (As := []) (rest := [.int (g.1.2.2.2.1 + 1000)]) ⟨hx, hb, hml, hown, hts⟩ (mt_X7_worth l D dA (μ.cA (en row k)) (μ.kA (en row k)) (μ.lA (en row k)) (total σ (en row k)) (fun k0_ => σ.calls (6 * (en row k) + k0_))) (cw_X0_X7_worth hts ⟨Nat.le_of_ble_eq_true rfl, Nat.le_of_ble_eq_true rfl⟩) pB_bw (pB_now hK (pl2 (pl1 hP (hR.2.1 (en row k) hc6 hTc).1.1 (hR.2.1 (en row k) hc6 hTc).1.2) (pl1 hP (hR.2.1 (en row k) hc6 hTc).2.1.1 (hR.2.1 (en row k) hc6 hTc).2.1.2))) (va_recv hK (pl1 hP (hR.2.1 (en row k) hc6 hTc).1.1 (hR.2.1 (en row k) hc6 hTc).1.2) (ci := 5) (q0 := 0) rfl rfl) rfl hl.1 rfl (Nat.le_of_ble_eq_true rfl) dX0_run_322 ⟨Nat.le_of_ble_eq_true rfl, Nat.le_of_ble_eq_true rfl⟩ ?_
                          refine w_topi (y := σ.calls (6 * (en row k) + 3)) (rfl) ?_
                          refine lv_goto (tgt := 334) hx hb dX0_run_325 rfl ?_
                          refine lv_iadd hx hb dX0_run_334 ?_
                          refine lv_istore (lv' := [(8, .int ((g.1.2.2.2.1 + 1000) + (σ.calls (6 * (en row k) + 3)))), (9, .int ((arrF σ g.1.1 g.1.2.1 (en row k)) + (σ.sorts (16 * (en row k) + 4 * i2 + 1)))), (19, .int 1), (18, .ref (μ.sA (en row k) i2)), (17, .int (nI i2)), (16, .int (nI mm)), (7, .int (nI (dnx g.2))), (10, .int (nI (plF σ (en row k)))), (15, .ref (μ.cA (en row k))), (14, .int (nI (en row k))), (13, .int (nI k)), (12, .int g.1.2.2.2.2.1), (11, .int g.1.2.2.1), (6, .int (refBF σ bag row (nI j))), (0, .ref x), (1, .int (nI sd)), (2, .int bag), (3, .int row), (4, .int (nI j)), (5, .int w)]) hx hb dX0_run_335 hl (by decide) rfl (fun ls hl => ?_)
                          refine lv_iload hx hb dX0_run_337 (lv_at hl 2 rfl) ?_
                          refine lv_if_eq (tgt := 356) hx hb dX0_run_339 rfl (fun h9 => ?_) (fun _ => ?_)
                          · exact absurd h9 (by decide)
                          refine lv_aload hx hb dX0_run_342 (lv_at hl 3 rfl) ?_
                          refine lv_iload hx hb dX0_run_344 (lv_at hl 12 rfl) ?_
                          refine lv_aload_n hx hb dX0_run_346 rfl (lv_at hl 14 rfl) ?_
                          refine dV (v := .int (ptF σ.tools 8)) (As := []) (rest := [.int g.1.2.2.1, .ref (μ.sA (en row k) i2)]) ⟨hx, hb, hml, hown, hts⟩ (mt_X0_parts l D dA x ad μ σ ω hI hR) (cw_X0_X0_parts hts ⟨Nat.le_of_ble_eq_true rfl, Nat.le_of_ble_eq_true rfl⟩) cB_bw (cB_now hK hN hP) (va_recv hK hP (ci := 1) (q0 := 0) rfl rfl) rfl hl.1 rfl (Nat.le_of_ble_eq_true rfl) dX0_run_347 ⟨Nat.le_of_ble_eq_true rfl, Nat.le_of_ble_eq_true rfl⟩ ?_
                          refine dU (v := .int (lefW g.1.2.2.1 (σ.sorts (16 * (en row k) + 4 * i2 + 2)) (σ.sorts (16 * (en row k) + 4 * i2 + 3)) (ptF σ.tools 8))) (As := [.int g.1.2.2.1, .int (ptF σ.tools 8)]) (rest := []) ⟨hx, hb, hml, hown, hts⟩ (mt_X8_left_S l D dA (μ.sA (en row k) i2) (σ.sorts (16 * (en row k) + 4 * i2 + 2)) (σ.sorts (16 * (en row k) + 4 * i2 + 3)) (σ.sorts (16 * (en row k) + 4 * i2)) (σ.sorts (16 * (en row k) + 4 * i2 + 1)) g.1.2.2.1 (ptF σ.tools 8)) (cw_X0_X8_left_S_X9 hts ⟨Nat.le_of_ble_eq_true rfl, Nat.le_of_ble_eq_true rfl⟩) pB_bw (pB_now hK (pl1 hP ((hR.2.1 (en row k) hc6 hTc).2.2.2.2 i2 hi2).1 ((hR.2.1 (en row k) hc6 hTc).2.2.2.2 i2 hi2).2)) (va_recv hK (pl1 hP ((hR.2.1 (en row k) hc6 hTc).2.2.2.2 i2 hi2).1 ((hR.2.1 (en row k) hc6 hTc).2.2.2.2 i2 hi2).2) (ci := 6) (q0 := 0) rfl rfl) rfl hl.1 rfl (Nat.le_of_ble_eq_true rfl) dX0_run_350 ⟨Nat.le_of_ble_eq_true rfl, Nat.le_of_ble_eq_true rfl⟩ ?_
                          refine w_topi (y := leftF σ g.1.2.2.1 (en row k) i2) (lef_eq hI hby hc6 (by omega) ((met_left hby (en row k) i2).mpr hme)) ?_
                          refine lv_goto (tgt := 358) hx hb dX0_run_353 rfl ?_
                          refine lv_istore (lv' := [(11, .int (leftF σ g.1.2.2.1 (en row k) i2)), (8, .int ((g.1.2.2.2.1 + 1000) + (σ.calls (6 * (en row k) + 3)))), (9, .int ((arrF σ g.1.1 g.1.2.1 (en row k)) + (σ.sorts (16 * (en row k) + 4 * i2 + 1)))), (19, .int 1), (18, .ref (μ.sA (en row k) i2)), (17, .int (nI i2)), (16, .int (nI mm)), (7, .int (nI (dnx g.2))), (10, .int (nI (plF σ (en row k)))), (15, .ref (μ.cA (en row k))), (14, .int (nI (en row k))), (13, .int (nI k)), (12, .int g.1.2.2.2.2.1), (6, .int (refBF σ bag row (nI j))), (0, .ref x), (1, .int (nI sd)), (2, .int bag), (3, .int row), (4, .int (nI j)), (5, .int w)]) hx hb dX0_run_358 hl (by decide) rfl (fun ls hl => ?_)
                          refine lv_iload hx hb dX0_run_360 (lv_at hl 12 rfl) ?_
                          refine lv_iload hx hb dX0_run_362 (lv_at hl 3 rfl) ?_
                          refine lv_if_eq (tgt := 374) hx hb dX0_run_364 rfl (fun h9 => ?_) (fun _ => ?_)
                          · exact absurd h9 (by decide)
                          refine lv_iconst (v := 1) hx hb dX0_run_367 rfl ?_
                          refine lv_iload hx hb dX0_run_368 (lv_at hl 10 rfl) ?_
                          refine lv_ishl hx hb dX0_run_370 ?_
                          refine lv_goto (tgt := 375) hx hb dX0_run_371 rfl ?_
                          refine lv_ior hx hb dX0_run_375 ?_
                          refine lv_istore (lv' := [(12, .int (g.1.2.2.2.2.1 ||| ((1 : Int32) <<< ((nI (en row k)) &&& 31)))), (11, .int (leftF σ g.1.2.2.1 (en row k) i2)), (8, .int ((g.1.2.2.2.1 + 1000) + (σ.calls (6 * (en row k) + 3)))), (9, .int ((arrF σ g.1.1 g.1.2.1 (en row k)) + (σ.sorts (16 * (en row k) + 4 * i2 + 1)))), (19, .int 1), (18, .ref (μ.sA (en row k) i2)), (17, .int (nI i2)), (16, .int (nI mm)), (7, .int (nI (dnx g.2))), (10, .int (nI (plF σ (en row k)))), (15, .ref (μ.cA (en row k))), (14, .int (nI (en row k))), (13, .int (nI k)), (6, .int (refBF σ bag row (nI j))), (0, .ref x), (1, .int (nI sd)), (2, .int bag), (3, .int row), (4, .int (nI j)), (5, .int w)]) hx hb dX0_run_376 hl (by decide) rfl (fun ls hl => ?_)
                          refine lv_iinc (v := nI (k + 1)) (lv' := [(13, .int (nI (k + 1))), (12, .int (g.1.2.2.2.2.1 ||| ((1 : Int32) <<< ((nI (en row k)) &&& 31)))), (11, .int (leftF σ g.1.2.2.1 (en row k) i2)), (8, .int ((g.1.2.2.2.1 + 1000) + (σ.calls (6 * (en row k) + 3)))), (9, .int ((arrF σ g.1.1 g.1.2.1 (en row k)) + (σ.sorts (16 * (en row k) + 4 * i2 + 1)))), (19, .int 1), (18, .ref (μ.sA (en row k) i2)), (17, .int (nI i2)), (16, .int (nI mm)), (7, .int (nI (dnx g.2))), (10, .int (nI (plF σ (en row k)))), (15, .ref (μ.cA (en row k))), (14, .int (nI (en row k))), (6, .int (refBF σ bag row (nI j))), (0, .ref x), (1, .int (nI sd)), (2, .int bag), (3, .int row), (4, .int (nI j)), (5, .int w)]) hx hb dX0_run_378 hl (k := 12) rfl (nI_1 k) (by decide) rfl (fun ls hl => ?_)
                          refine lv_goto (tgt := 73) hx hb dX0_run_381 rfl ?_
                          exact ih_3 (k + 1) (stepC σ (en row k) i2 g.1, dnx g.2) (nI (k + 1)) (g.1.2.2.2.2.1 ||| ((1 : Int32) <<< ((nI (en row k)) &&& 31))) (leftF σ g.1.2.2.1 (en row k) i2) (nI (plF σ (en row k))) ((arrF σ g.1.1 g.1.2.1 (en row k)) + (σ.sorts (16 * (en row k) + 4 * i2 + 1))) ((g.1.2.2.2.1 + 1000) + (σ.calls (6 * (en row k) + 3))) (nI (dnx g.2)) ls (by omega) (by omega) (gd_call hg h95 hnl hfin) (by show plF σ (en row k) < 6; exact hpl) (by show dnx g.2 < 65536; exact hdl) (by show byP (stepC σ (en row k) i2 g.1).2.2.1; rw [(st_met hnl hme).2.1]; exact left_by hby hme) rfl (st_met hnl hme).2.2.2.1.symm ((st_met hnl hme).2.1.symm) rfl ((st_met hnl hme).1.symm) (by show _ = (stepC σ (en row k) i2 g.1).2.2.2.1 + 1000; rw [(st_met hnl hme).2.2.1, sum1001]) rfl (lv_sub hl [0, 1, 2, 10, 4, 3, 9, 13, 14, 15, 16, 17, 18, 19] rfl)
                      · have h229 : ¬ (mm < (lkN σ (en row k) i2)) := fun z9 => h229 ((nz_lt (a := mm) (b := lkN σ (en row k) i2) rfl rfl (by omega) (by omega)).mpr z9)
                        refine lv_iload hx hb dX0_run_232 (lv_at hl 1 rfl) ?_
                        refine lv_aload hx hb dX0_run_234 (lv_at hl 5 rfl) ?_
                        refine va_get (D := D) (ci := 5) (v := .ref (μ.lA (en row k))) (C := RX7) (T := TX7) (N := 3) hx hb hts in_X7 hown hK (pl1 hP (hR.2.1 (en row k) hc6 hTc).1.1 (hR.2.1 (en row k) hc6 hTc).1.2) 0 rfl rfl 1 (by decide) (hts _ q701) (fun _ h9 => h9) rfl dX0_run_236 ?_
                        refine lv_iload hx hb dX0_run_239 (lv_at hl 0 rfl) ?_
                        refine g_sort (rest := [.int (nI mm)]) ⟨hx, hb, hml, hown, hts⟩ (cw_X0_J2_get hts ⟨Nat.le_of_ble_eq_true rfl, Nat.le_of_ble_eq_true rfl⟩) hK hP (hR.2.1 (en row k) hc6 hTc) (hI.sm (en row k) hc6) hi2 hl.1 rfl (Nat.le_of_ble_eq_true rfl) dX0_run_241 ⟨Nat.le_of_ble_eq_true rfl, Nat.le_of_ble_eq_true rfl⟩ ?_
                        refine va_castS hx hb hown (hts _ q717) (hK.1 6 _ rfl).2 (va_recv hK (pl1 hP ((hR.2.1 (en row k) hc6 hTc).2.2.2.2 i2 hi2).1 ((hR.2.1 (en row k) hc6 hTc).2.2.2.2 i2 hi2).2) (ci := 6) (q0 := 0) rfl rfl) dX0_run_244 ?_
                        refine va_get (D := D) (ci := 6) (v := .int (σ.sorts (16 * (en row k) + 4 * i2))) (C := RX9) (T := TX9) (N := 4) hx hb hts in_X9 hown hK (pl1 hP ((hR.2.1 (en row k) hc6 hTc).2.2.2.2 i2 hi2).1 ((hR.2.1 (en row k) hc6 hTc).2.2.2.2 i2 hi2).2) 0 rfl rfl 2 (by decide) (hts _ q729) (fun _ h9 => h9) rfl dX0_run_247 ?_
                        refine w_topi (y := nI (lkN σ (en row k) i2)) ((lk_ok hI hc6 hi2).2.2) ?_
                        refine lv_isub hx hb dX0_run_250 ?_
                        refine lv_istore (lv' := [(16, .int ((nI mm) - (nI (lkN σ (en row k) i2)))), (17, .int (nI i2)), (7, .int (nI (dnx g.2))), (10, .int (nI (plF σ (en row k)))), (9, .int (g.1.2.1 + (σ.ways (6 * g.1.1 + (plF σ (en row k)))))), (15, .ref (μ.cA (en row k))), (14, .int (nI (en row k))), (13, .int (nI k)), (12, .int g.1.2.2.2.2.1), (11, .int g.1.2.2.1), (8, .int (g.1.2.2.2.1 + 1000)), (6, .int (refBF σ bag row (nI j))), (0, .ref x), (1, .int (nI sd)), (2, .int bag), (3, .int row), (4, .int (nI j)), (5, .int w)]) hx hb dX0_run_251 hl (by decide) rfl (fun ls hl => ?_)
                        refine lv_iinc (v := nI (i2 + 1)) (lv' := [(17, .int (nI (i2 + 1))), (16, .int ((nI mm) - (nI (lkN σ (en row k) i2)))), (7, .int (nI (dnx g.2))), (10, .int (nI (plF σ (en row k)))), (9, .int (g.1.2.1 + (σ.ways (6 * g.1.1 + (plF σ (en row k)))))), (15, .ref (μ.cA (en row k))), (14, .int (nI (en row k))), (13, .int (nI k)), (12, .int g.1.2.2.2.2.1), (11, .int g.1.2.2.1), (8, .int (g.1.2.2.2.1 + 1000)), (6, .int (refBF σ bag row (nI j))), (0, .ref x), (1, .int (nI sd)), (2, .int bag), (3, .int row), (4, .int (nI j)), (5, .int w)]) hx hb dX0_run_253 hl (k := 1) rfl (nI_1 i2) (by decide) rfl (fun ls hl => ?_)
                        refine lv_goto (tgt := 211) hx hb dX0_run_256 rfl ?_
                        exact ih_7 (i2 + 1) (mm - lkN σ (en row k) i2) (nI (i2 + 1)) ((nI mm) - (nI (lkN σ (en row k) i2))) ls (by omega) (by omega) (by rw [tnN]; omega) (by rw [← hsb, show 4 - i2 = (4 - (i2 + 1)) + 1 by omega, sbG, if_neg h229]) rfl (nz_sub rfl rfl (by omega)) (lv_sub hl [0, 1, 2, 3, 4, 5, 6, 7, 8, 9, 10, 11, 12, 13, 14, 15, 16, 17] rfl)
                  exact hL211_5 _ 0 (dnx g.2 / 64 % toT σ (en row k)) 0 (nI (dnx g.2 / 64 % toT σ (en row k))) ls (Nat.lt_succ_self _) (by omega) (by show _ + 0 < _; exact Nat.mod_lt _ (by omega)) rfl rfl rfl (lv_sub hl [0, 1, 2, 3, 4, 5, 6, 7, 8, 9, 10, 11, 12, 13, 14, 15, 16, 17] rfl)
                · have h163 : (bgF σ g.1.1 g.1.2.1 (en row k)) = (-1) := h163
                  have hlt := (bg_late hI hc6).mp h163
                  refine lv_iload hx hb dX0_run_166 (lv_at hl 7 rfl) ?_
                  refine lv_aload hx hb dX0_run_168 (lv_at hl 2 rfl) ?_
                  refine dV (v := .int ((fun k0_ => σ.calls (6 * (en row k) + k0_)) 4)) (As := []) (rest := [.int (g.1.2.2.2.1 + 1000)]) ⟨hx, hb, hml, hown, hts⟩ (mt_X7_again l D dA (μ.cA (en row k)) (μ.kA (en row k)) (μ.lA (en row k)) (total σ (en row k)) (fun k0_ => σ.calls (6 * (en row k) + k0_))) (cw_X0_X7_again hts ⟨Nat.le_of_ble_eq_true rfl, Nat.le_of_ble_eq_true rfl⟩) pB_bw (pB_now hK (pl2 (pl1 hP (hR.2.1 (en row k) hc6 hTc).1.1 (hR.2.1 (en row k) hc6 hTc).1.2) (pl1 hP (hR.2.1 (en row k) hc6 hTc).2.1.1 (hR.2.1 (en row k) hc6 hTc).2.1.2))) (va_recv hK (pl1 hP (hR.2.1 (en row k) hc6 hTc).1.1 (hR.2.1 (en row k) hc6 hTc).1.2) (ci := 5) (q0 := 0) rfl rfl) rfl hl.1 rfl (Nat.le_of_ble_eq_true rfl) dX0_run_170 ⟨Nat.le_of_ble_eq_true rfl, Nat.le_of_ble_eq_true rfl⟩ ?_
                  refine w_topi (y := σ.calls (6 * (en row k) + 4)) (rfl) ?_
                  refine lv_isub hx hb dX0_run_173 ?_
                  refine lv_istore (lv' := [(8, .int ((g.1.2.2.2.1 + 1000) - (σ.calls (6 * (en row k) + 4)))), (10, .int (nI (plF σ (en row k)))), (9, .int (g.1.2.1 + (σ.ways (6 * g.1.1 + (plF σ (en row k)))))), (15, .ref (μ.cA (en row k))), (14, .int (nI (en row k))), (13, .int (nI k)), (12, .int g.1.2.2.2.2.1), (11, .int g.1.2.2.1), (7, .int (nI g.2)), (6, .int (refBF σ bag row (nI j))), (0, .ref x), (1, .int (nI sd)), (2, .int bag), (3, .int row), (4, .int (nI j)), (5, .int w)]) hx hb dX0_run_174 hl (by decide) rfl (fun ls hl => ?_)
                  refine lv_goto (tgt := 378) hx hb dX0_run_176 rfl ?_
                  refine lv_iinc (v := nI (k + 1)) (lv' := [(13, .int (nI (k + 1))), (8, .int ((g.1.2.2.2.1 + 1000) - (σ.calls (6 * (en row k) + 4)))), (10, .int (nI (plF σ (en row k)))), (9, .int (g.1.2.1 + (σ.ways (6 * g.1.1 + (plF σ (en row k)))))), (15, .ref (μ.cA (en row k))), (14, .int (nI (en row k))), (12, .int g.1.2.2.2.2.1), (11, .int g.1.2.2.1), (7, .int (nI g.2)), (6, .int (refBF σ bag row (nI j))), (0, .ref x), (1, .int (nI sd)), (2, .int bag), (3, .int row), (4, .int (nI j)), (5, .int w)]) hx hb dX0_run_378 hl (k := 5) rfl (nI_1 k) (by decide) rfl (fun ls hl => ?_)
                  refine lv_goto (tgt := 73) hx hb dX0_run_381 rfl ?_
                  exact ih_3 (k + 1) (stepC σ (en row k) (chN σ row 0 k) g.1, g.2) (nI (k + 1)) g.1.2.2.2.2.1 g.1.2.2.1 (nI (plF σ (en row k))) (g.1.2.1 + (σ.ways (6 * g.1.1 + (plF σ (en row k))))) ((g.1.2.2.2.1 + 1000) - (σ.calls (6 * (en row k) + 4))) (nI g.2) ls (by omega) (by omega) (gd_late hg h95 hlt) (by show plF σ (en row k) < 6; exact hpl) hdr (by show byP (stepC σ (en row k) (chN σ row 0 k) g.1).2.2.1; rw [(st_late hI hc6 hlt).2.1]; exact hby) rfl (st_late hI hc6 hlt).2.2.2.1.symm ((st_late hI hc6 hlt).2.1.symm) rfl ((st_late hI hc6 hlt).1.symm) (by show _ = (stepC σ (en row k) (chN σ row 0 k) g.1).2.2.2.1 + 1000; rw [(st_late hI hc6 hlt).2.2.1, sum1000]) rfl (lv_sub hl [0, 6, 7, 2, 3, 1, 8, 9, 10, 11, 12, 13, 14, 15] rfl)
              · have h95 : (en row k) = 6 := (nz_eq (a := en row k) (b := 6) rfl rfl (by omega) (by omega)).mp h95
                refine lv_iload hx hb dX0_run_98 (lv_at hl 5 rfl) ?_
                refine lv_aload_n hx hb dX0_run_100 rfl (lv_at hl 9 rfl) ?_
                refine va_get (D := D) (ci := 1) (v := .ref (ad 1)) (C := RX0) (T := TX0) (N := 11) hx hb hts in_X0 hown hK hP 0 rfl rfl 4 (by decide) (hts _ q216) (fun _ h9 => h9) rfl dX0_run_101 ?_
                refine lv_iload hx hb dX0_run_104 (lv_at hl 4 rfl) ?_
                refine wa_aald (v := .ref (ad (6 + g.1.1))) hx hb hK hP 2 4 rfl rfl rfl (g.1.1) (rfl) (by omega) (by decide) (rfl) dX0_run_106 ?_
                refine lv_iconst (v := 0) hx hb dX0_run_107 rfl ?_
                refine wa_sald (v := σ.ways (6 * g.1.1 + 0)) hx hb hK (way_row hP (i := g.1.1) (by omega)) 0 2 rfl rfl (0) (rfl) (by omega) (by decide) (rfl) dX0_run_108 ?_
                refine lv_iadd hx hb dX0_run_109 ?_
                refine lv_istore (lv' := [(9, .int (g.1.2.1 + (σ.ways (6 * g.1.1 + 0)))), (14, .int (nI (en row k))), (13, .int (nI k)), (12, .int g.1.2.2.2.2.1), (11, .int g.1.2.2.1), (10, .int (nI g.1.1)), (8, .int (g.1.2.2.2.1 + 1000)), (7, .int (nI g.2)), (6, .int (refBF σ bag row (nI j))), (0, .ref x), (1, .int (nI sd)), (2, .int bag), (3, .int row), (4, .int (nI j)), (5, .int w)]) hx hb dX0_run_110 hl (by decide) rfl (fun ls hl => ?_)
                refine lv_iconst (v := 0) hx hb dX0_run_112 rfl ?_
                refine lv_istore (lv' := [(10, .int 0), (9, .int (g.1.2.1 + (σ.ways (6 * g.1.1 + 0)))), (14, .int (nI (en row k))), (13, .int (nI k)), (12, .int g.1.2.2.2.2.1), (11, .int g.1.2.2.1), (8, .int (g.1.2.2.2.1 + 1000)), (7, .int (nI g.2)), (6, .int (refBF σ bag row (nI j))), (0, .ref x), (1, .int (nI sd)), (2, .int bag), (3, .int row), (4, .int (nI j)), (5, .int w)]) hx hb dX0_run_113 hl (by decide) rfl (fun ls hl => ?_)
                refine lv_iload_n hx hb dX0_run_115 rfl (lv_at hl 11 rfl) ?_
                refine lv_istore (lv' := [(11, .int bag), (10, .int 0), (9, .int (g.1.2.1 + (σ.ways (6 * g.1.1 + 0)))), (14, .int (nI (en row k))), (13, .int (nI k)), (12, .int g.1.2.2.2.2.1), (8, .int (g.1.2.2.2.1 + 1000)), (7, .int (nI g.2)), (6, .int (refBF σ bag row (nI j))), (0, .ref x), (1, .int (nI sd)), (2, .int bag), (3, .int row), (4, .int (nI j)), (5, .int w)]) hx hb dX0_run_116 hl (by decide) rfl (fun ls hl => ?_)
                refine lv_goto (tgt := 378) hx hb dX0_run_118 rfl ?_
                refine lv_iinc (v := nI (k + 1)) (lv' := [(13, .int (nI (k + 1))), (11, .int bag), (10, .int 0), (9, .int (g.1.2.1 + (σ.ways (6 * g.1.1 + 0)))), (14, .int (nI (en row k))), (12, .int g.1.2.2.2.2.1), (8, .int (g.1.2.2.2.1 + 1000)), (7, .int (nI g.2)), (6, .int (refBF σ bag row (nI j))), (0, .ref x), (1, .int (nI sd)), (2, .int bag), (3, .int row), (4, .int (nI j)), (5, .int w)]) hx hb dX0_run_378 hl (k := 4) rfl (nI_1 k) (by decide) rfl (fun ls hl => ?_)
                refine lv_goto (tgt := 73) hx hb dX0_run_381 rfl ?_
                exact ih_3 (k + 1) (stepH σ bag g.1, g.2) (nI (k + 1)) g.1.2.2.2.2.1 bag 0 (g.1.2.1 + (σ.ways (6 * g.1.1 + 0))) (g.1.2.2.2.1 + 1000) (nI g.2) ls (by omega) (by omega) (gd_home hg h95) (show (0 : Nat) < 6 by decide) hdr (bag_by hbg0) rfl rfl rfl rfl rfl rfl rfl (lv_sub hl [0, 5, 1, 2, 3, 6, 7, 8, 9, 10, 11, 12, 13, 14] rfl)
        exact hL73_1 _ 0 ((0, σ.beg, bag, 0, 0, 1), sd) 0 0 bag 0 σ.beg 1000 (nI sd) ls (Nat.lt_succ_self _) (by omega) rfl (show (0 : Nat) < 6 by decide) (by show sd < 65536; omega) (bag_by hbg0) rfl rfl rfl rfl rfl rfl rfl (lv_sub hl [0, 1, 2, 3, 4, 5, 6, 7, 8, 9, 10, 11, 12, 13] rfl)
      · have h41 : ¬ (inP ((w : Int32).toInt64) 0 3) := b01_0.mp h41
        refine lv_bipush (v := (-3)) hx hb dX0_run_44 rfl ?_
        exact q_i hQ hx hb hr hlocks rfl (by rw [runF, if_pos h13, if_pos h28, if_neg h41]) dX0_run_46
  · have h13 : ¬ ((refBF σ bag row n_) = 0) := h13
    refine lv_iload hx hb dX0_run_16 (lv_at hl 0 rfl) ?_
    exact q_i hQ hx hb hr hlocks rfl (by rw [runF, if_neg h13]) dX0_run_18
