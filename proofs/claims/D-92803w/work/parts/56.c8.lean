/-! THE COMPONENT's METHODS 8: means, all done, ends, best bags, the text -/
set_option maxRecDepth 100000
theorem ref_c (σ : St) (row n : Int32) : refF σ row n = 0 ∨ refF σ row n = -2 ∨ refF σ row n = -3 := by
  unfold refF
  by_cases h1 : inP n.toInt64 1 6
  · rw [if_pos h1]
    by_cases h2 : badU σ row (ix n) = true
    · rw [if_pos h2]; exact Or.inr (Or.inl rfl)
    · rw [if_neg h2]
      by_cases h3 : twF row (ix n) = 0
      · rw [if_pos h3]; exact Or.inl rfl
      · rw [if_neg h3]; exact Or.inr (Or.inr rfl)
  · rw [if_neg h1]; exact Or.inr (Or.inr rfl)
theorem refW_ok {σ : St} {bag row n w : Int32} (h : refW σ bag row n w = 0) : refF σ row n = 0 ∧ bagP bag ∧ partP w ∧ refBF σ bag row n = 0 := by
  unfold refW at h
  by_cases h1 : refF σ row n = 0
  · rw [if_pos h1] at h
    by_cases h2 : bagP bag
    · rw [if_pos h2] at h
      by_cases h3 : partP w
      · exact ⟨h1, h2, h3, by rw [refBF, if_pos h1, if_pos h2, h1]⟩
      · rw [if_neg h3] at h; exact absurd h (by decide)
    · rw [if_neg h2] at h; exact absurd h (by decide)
  · rw [if_neg h1] at h; exact absurd h h1
theorem mean_ref {σ : St} {bag row n w : Int32} (h : ¬ refW σ bag row n w = 0) : (-9000000000000000000) - (refW σ bag row n w).toInt64 = meanF σ bag row n w := by
  unfold refW at *
  unfold meanF refBF
  by_cases h1 : refF σ row n = 0
  · rw [if_pos h1] at h
    simp only [if_pos h1]
    by_cases h2 : bagP bag
    · rw [if_pos h2] at h
      simp only [if_pos h2]
      by_cases h3 : partP w
      · rw [if_pos h3] at h; exact absurd rfl h
      · rw [if_neg h3, if_pos h1, if_neg h3]; rfl
    · simp only [if_neg h2]; rfl
  · simp only [if_neg h1]
    rcases ref_c σ row n with q | q | q
    · exact absurd q h1
    · rw [q]; rfl
    · rw [q]; rfl
theorem all_ref {σ : St} {bag row n w : Int32} (h : ¬ refW σ bag row n w = 0) : (refW σ bag row n w).toInt64 = allF σ bag row n w := by
  unfold refW at *
  unfold allF refBF
  by_cases h1 : refF σ row n = 0
  · rw [if_pos h1] at h
    simp only [if_pos h1]
    by_cases h2 : bagP bag
    · rw [if_pos h2] at h
      simp only [if_pos h2]
      by_cases h3 : partP w
      · rw [if_pos h3] at h; exact absurd rfl h
      · rw [if_neg h3, if_pos h1, if_neg h3]; rfl
    · simp only [if_neg h2]; rfl
  · simp only [if_neg h1]
    rcases ref_c σ row n with q | q | q
    · exact absurd q h1
    · rw [q]; rfl
    · rw [q]; rfl
section CT
variable {p : Program} {l : Launch} {e : Env} {R : Room} {s : State} {m : MethodId} {args : Array Value} {below : List Frame} {meth : Method} {c : Code} {H H0 : Heap} {locs : List Loc} {cells slots : Nat} {Q : State → Prop} {cc : ByteArray} {pc : Nat} {ls : Array Slot} {rest : List Value}
theorem wc_bast {D : va_G} {dA : Nat → ClassId} {x : Nat} {ad : Nat → Nat} {μ : Lay} {σ : St} {ω : Om} {j : Nat} {i y z : Int32} (hcD : cD x ad μ) (hx : p.tables.exec = Jvm.exec) (hb : c.code = cc) (hK : va_K D vwCl (vwTy dA) s) (hP : va_P D vwCl (cW dA x ad μ σ ω) H) (hS : va_S (cA x ad μ) H0 H locs) (hi : i = nI j) (hj : j < 200) (hy : y.toInt8.toInt32 = z.toInt8.toInt32) (hdg : decode cc pc = .ok (.bastore, 1))
    (kk : ∀ (H1 : Heap) (locs1 : List Loc), va_P D vwCl (cW dA x ad μ (σ.s_txt (upd σ.txt j z)) ω) H1 → va_S (cA x ad μ) H0 H1 locs1 → W p l e R s m args below meth c H1 locs1 cells slots Q (F0 m (pc + 1) ls rest)) : W p l e R s m args below meth c H locs cells slots Q (F0 m pc ls (.int y :: .int i :: .ref (ad 3) :: rest)) := by
  subst hi
  refine va_bast hx hb hK hP (cD_va hcD dA σ ω) hS 4 1 rfl rfl (vp_in_nI hj (by decide)) hdg (fun H1 locs1 hP1 _ hS1 => kk H1 locs1 ?_ hS1)
  rw [nI_clamp (by omega)] at hP1
  have e : upd (fun i => (σ.txt i).toInt8.toInt32) j (vp_nar .byte y) = fun i => (upd σ.txt j z i).toInt8.toInt32 := by
    funext k
    unfold upd
    by_cases h : k = j
    · rw [if_pos h, if_pos h, ← hy]; rfl
    · rw [if_neg h, if_neg h]
  rw [e] at hP1
  exact hP1
end CT
theorem byte_eq (b : Int64) : (b.toInt32.toInt8.toInt32).toInt8.toInt32 = (b &&& 255).toInt32.toInt8.toInt32 := by
  have h : (b &&& 255).toInt8 = b.toInt8 := by
    rw [Int64.toInt8_and]
    show b.toInt8 &&& (-1) = _
    exact Int8.and_neg_one
  rw [Int8.toInt8_toInt32, Int64.toInt8_toInt32, Int64.toInt8_toInt32, h]

theorem cw_X0_X0_walked {R : Room} {s : State} {args : Array Value} (hts : ∀ w ∈ lw_all, w.before args s = true) (hR : rmX0_walked.frames + 1 ≤ R.frames ∧ 8 + (4 + 11) + rmX0_walked.locals ≤ R.locals) : CallW R s args RX0 RX0 221 yX0_walked cX0_walked 4 (some (.object "CarryUp$Walk")) (ws_ yX0_walked cX0_walked 4 (some (.object "CarryUp$Walk"))) rmX0_walked 0 0 3 := cwV 3 hts (lw_V q927 q929 qs24 q77 q930) rfl rfl rfl (by decide +kernel) hR
def rmX0_mean : Room := { frames := 11, cells := 0, slots := 0, locals := 319 }
set_option maxHeartbeats 1000000 in
theorem mt_X0_mean (l : Launch) (D : va_G) (dA : Nat → ClassId) (x : Nat) (ad : Nat → Nat) (μ : Lay) (σ : St) (ω : Om) (hcD : cD x ad μ) (bag : Int32) (row : Int32) (n_ : Int32) (w : Int32) (hI : Inv σ) (hR : Rel dA μ σ) : Met l yX0_mean (ws_ yX0_mean cX0_mean 7 (some .long)) rmX0_mean (va_Pc [.ref x, .int bag, .int row, .int n_, .int w] (cB D dA x ad μ σ ω)) (cQE (some (.long (meanF σ bag row n_ w))) D dA x ad μ σ (fun o => True)) 0 0 (cA x ad μ) := by
  refine w_start (by decide) (Nat.le_of_ble_eq_true rfl) ?_
  intro p e s m args below meth c Q ls hQ hx hb hr hlocks hml hown hnm hts hB hl
  have hown : s.vm.findClass RX0 = some m.cls := hown
  have hl : lv_has ls 7 [(0, .ref x), (1, .int bag), (2, .int row), (3, .int n_), (4, .int w)] := hl
  obtain ⟨hP, hK, hN⟩ := hB
  have hP : va_P D vwCl (cW dA x ad μ σ ω) s.heap := hP
  have hS : va_S (cA x ad μ) s.heap s.heap [] := va_S.rf
  refine lv_aload_n hx hb dX0_mean_0 rfl (lv_at hl 0 rfl) ?_
  refine lv_iload_n hx hb dX0_mean_1 rfl (lv_at hl 1 rfl) ?_
  refine lv_iload_n hx hb dX0_mean_2 rfl (lv_at hl 2 rfl) ?_
  refine lv_iload_n hx hb dX0_mean_3 rfl (lv_at hl 3 rfl) ?_
  refine lv_iload hx hb dX0_mean_4 (lv_at hl 4 rfl) ?_
  refine dV (v := .int (refW σ bag row n_ w)) (As := [.int bag, .int row, .int n_, .int w]) (rest := []) ⟨hx, hb, hml, hown, hts⟩ (mt_X0_faultOf l D dA x ad μ σ ω bag row n_ w hI hR) (cw_X0_X0_faultOf hts ⟨Nat.le_of_ble_eq_true rfl, Nat.le_of_ble_eq_true rfl⟩) cB_bw (cB_now hK hN hP) (va_recv hK hP (ci := 1) (q0 := 0) rfl rfl) rfl hl.1 rfl (Nat.le_of_ble_eq_true rfl) dX0_mean_6 ⟨Nat.le_of_ble_eq_true rfl, Nat.le_of_ble_eq_true rfl⟩ ?_
  refine lv_istore (lv' := [(5, .int (refW σ bag row n_ w)), (0, .ref x), (1, .int bag), (2, .int row), (3, .int n_), (4, .int w)]) hx hb dX0_mean_9 hl (by decide) rfl (fun ls hl => ?_)
  refine lv_iload hx hb dX0_mean_11 (lv_at hl 0 rfl) ?_
  refine lv_if_eq (tgt := 22) hx hb dX0_mean_13 rfl (fun h13 => ?_) (fun h13 => ?_)
  · have h13 : (refW σ bag row n_ w) = 0 := h13
    have hrf0 := refW_ok h13
    obtain ⟨hrf, hbg0, hpt, hrB⟩ := hrf0
    obtain ⟨j, hj1, hj, rfl, hoT, htw⟩ := ref_T hrf
    have hix : ix (nI j) = j := ix_nI (Nat.lt_succ_of_le hj) (by decide)
    refine lv_aload_n hx hb dX0_mean_22 rfl (lv_at hl 1 rfl) ?_
    refine lv_iload_n hx hb dX0_mean_23 rfl (lv_at hl 2 rfl) ?_
    refine lv_iload_n hx hb dX0_mean_24 rfl (lv_at hl 3 rfl) ?_
    refine lv_iload_n hx hb dX0_mean_25 rfl (lv_at hl 4 rfl) ?_
    refine dM (v := some (.ref (ad 4))) (σ' := σ) (ω' := ((bag, row, nI j, ptF σ.tools 8, (-1), 0, (brT σ row (-1) 0 j bag).1, (brT σ row (-1) 0 j bag).2.1, belT σ row (-1) j, (brT σ row (-1) 0 j bag).2.2, ω.mb) : Om)) (As := [.int bag, .int row, .int (nI j)]) (rest := []) ⟨hx, hb, hml, hown, hts⟩ (mt_X0_walked l D dA x ad μ σ ω hcD bag row j hI hR (bag_by hbg0) hoT hj1 hj) (cw_X0_X0_walked hts ⟨Nat.le_of_ble_eq_true rfl, Nat.le_of_ble_eq_true rfl⟩) (cB_now hK hN hP) (va_recv hK hP (ci := 1) (q0 := 0) rfl rfl) rfl hl.1 rfl (Nat.le_of_ble_eq_true rfl) dX0_mean_26 ⟨Nat.le_of_ble_eq_true rfl, Nat.le_of_ble_eq_true rfl⟩ hS (fun H locs hP hS => ?_)
    change W p l e rmX0_mean s m args below meth c H locs 0 0 Q (F0 m 29 ls [.ref (ad 4)])
    refine lv_astore (lv' := [(6, .ref (ad 4)), (5, .int (refW σ bag row (nI j) w)), (0, .ref x), (1, .int bag), (2, .int row), (3, .int (nI j)), (4, .int w)]) hx hb dX0_mean_29 hl (by decide) rfl (fun ls hl => ?_)
    refine lv_aload hx hb dX0_mean_31 (lv_at hl 0 rfl) ?_
    refine va_get (D := D) (ci := 2) (v := .long ((brT σ row (-1) 0 j bag).1)) (C := RX1) (T := TX1) (N := 11) hx hb hts in_X1 hown hK hP 5 rfl rfl 6 (by decide) (hts _ q136) (fun _ h9 => h9) rfl dX0_mean_33 ?_
    refine w_topl (y := mnF σ row j bag) (br_1 hI hoT hj bag) ?_
    refine lv_aload hx hb dX0_mean_36 (lv_at hl 0 rfl) ?_
    refine va_get (D := D) (ci := 2) (v := .long (belT σ row (-1) j)) (C := RX1) (T := TX1) (N := 11) hx hb hts in_X1 hown hK hP 5 rfl rfl 8 (by decide) (hts _ q140) (fun _ h9 => h9) rfl dX0_mean_38 ?_
    refine w_topl (y := allP σ row j) (bel_all σ row j) ?_
    refine lv_iload hx hb dX0_mean_41 (lv_at hl 6 rfl) ?_
    refine cSl (As := [.long (mnF σ row j bag), .long (allP σ row j), .int w]) (rest := []) ⟨hx, hb, hml, hown, hts⟩ (mt_X0_part l (mnF σ row j bag) (allP σ row j) w (all_ne hI (okT_R hj hoT))) (cw_X0_X0_part hts ⟨Nat.le_of_ble_eq_true rfl, Nat.le_of_ble_eq_true rfl⟩) w_blT (fun _ _ _ => trivial) rfl hl.1 rfl (Nat.le_of_ble_eq_true rfl) dX0_mean_43 ⟨Nat.le_of_ble_eq_true rfl, Nat.le_of_ble_eq_true rfl⟩ ?_
    exact cme_l hQ hx hb hr hlocks hK hN hP hS (by rw [meanF, if_pos hrB, if_pos hpt, hix]) (rfl) (trivial) dX0_mean_46
  · have h13 : ¬ ((refW σ bag row n_ w) = 0) := h13
    refine lv_iload hx hb dX0_mean_16 (lv_at hl 0 rfl) ?_
    refine cSl (As := [.int (refW σ bag row n_ w)]) (rest := []) ⟨hx, hb, hml, hown, hts⟩ (mt_X0_refused l (refW σ bag row n_ w)) (cw_X0_X0_refused hts ⟨Nat.le_of_ble_eq_true rfl, Nat.le_of_ble_eq_true rfl⟩) w_blT (fun _ _ _ => trivial) rfl hl.1 rfl (Nat.le_of_ble_eq_true rfl) dX0_mean_18 ⟨Nat.le_of_ble_eq_true rfl, Nat.le_of_ble_eq_true rfl⟩ ?_
    exact cme_l hQ hx hb hr hlocks hK hN hP hS (mean_ref h13) (rfl) (trivial) dX0_mean_21

def rmX0_all : Room := { frames := 11, cells := 0, slots := 0, locals := 319 }
set_option maxHeartbeats 1000000 in
theorem mt_X0_all (l : Launch) (D : va_G) (dA : Nat → ClassId) (x : Nat) (ad : Nat → Nat) (μ : Lay) (σ : St) (ω : Om) (hcD : cD x ad μ) (bag : Int32) (row : Int32) (n_ : Int32) (w : Int32) (hI : Inv σ) (hR : Rel dA μ σ) : Met l yX0_all (ws_ yX0_all cX0_all 7 (some .long)) rmX0_all (va_Pc [.ref x, .int bag, .int row, .int n_, .int w] (cB D dA x ad μ σ ω)) (cQE (some (.long (allF σ bag row n_ w))) D dA x ad μ σ (fun o => True)) 0 0 (cA x ad μ) := by
  refine w_start (by decide) (Nat.le_of_ble_eq_true rfl) ?_
  intro p e s m args below meth c Q ls hQ hx hb hr hlocks hml hown hnm hts hB hl
  have hown : s.vm.findClass RX0 = some m.cls := hown
  have hl : lv_has ls 7 [(0, .ref x), (1, .int bag), (2, .int row), (3, .int n_), (4, .int w)] := hl
  obtain ⟨hP, hK, hN⟩ := hB
  have hP : va_P D vwCl (cW dA x ad μ σ ω) s.heap := hP
  have hS : va_S (cA x ad μ) s.heap s.heap [] := va_S.rf
  refine lv_aload_n hx hb dX0_all_0 rfl (lv_at hl 0 rfl) ?_
  refine lv_iload_n hx hb dX0_all_1 rfl (lv_at hl 1 rfl) ?_
  refine lv_iload_n hx hb dX0_all_2 rfl (lv_at hl 2 rfl) ?_
  refine lv_iload_n hx hb dX0_all_3 rfl (lv_at hl 3 rfl) ?_
  refine lv_iload hx hb dX0_all_4 (lv_at hl 4 rfl) ?_
  refine dV (v := .int (refW σ bag row n_ w)) (As := [.int bag, .int row, .int n_, .int w]) (rest := []) ⟨hx, hb, hml, hown, hts⟩ (mt_X0_faultOf l D dA x ad μ σ ω bag row n_ w hI hR) (cw_X0_X0_faultOf hts ⟨Nat.le_of_ble_eq_true rfl, Nat.le_of_ble_eq_true rfl⟩) cB_bw (cB_now hK hN hP) (va_recv hK hP (ci := 1) (q0 := 0) rfl rfl) rfl hl.1 rfl (Nat.le_of_ble_eq_true rfl) dX0_all_6 ⟨Nat.le_of_ble_eq_true rfl, Nat.le_of_ble_eq_true rfl⟩ ?_
  refine lv_istore (lv' := [(5, .int (refW σ bag row n_ w)), (0, .ref x), (1, .int bag), (2, .int row), (3, .int n_), (4, .int w)]) hx hb dX0_all_9 hl (by decide) rfl (fun ls hl => ?_)
  refine lv_iload hx hb dX0_all_11 (lv_at hl 0 rfl) ?_
  refine lv_if_eq (tgt := 20) hx hb dX0_all_13 rfl (fun h13 => ?_) (fun h13 => ?_)
  · have h13 : (refW σ bag row n_ w) = 0 := h13
    have hrf0 := refW_ok h13
    obtain ⟨hrf, hbg0, hpt, hrB⟩ := hrf0
    obtain ⟨j, hj1, hj, rfl, hoT, htw⟩ := ref_T hrf
    have hix : ix (nI j) = j := ix_nI (Nat.lt_succ_of_le hj) (by decide)
    refine lv_aload_n hx hb dX0_all_20 rfl (lv_at hl 1 rfl) ?_
    refine lv_iload_n hx hb dX0_all_21 rfl (lv_at hl 2 rfl) ?_
    refine lv_iload_n hx hb dX0_all_22 rfl (lv_at hl 3 rfl) ?_
    refine lv_iload_n hx hb dX0_all_23 rfl (lv_at hl 4 rfl) ?_
    refine dM (v := some (.ref (ad 4))) (σ' := σ) (ω' := ((bag, row, nI j, ptF σ.tools 8, (-1), 0, (brT σ row (-1) 0 j bag).1, (brT σ row (-1) 0 j bag).2.1, belT σ row (-1) j, (brT σ row (-1) 0 j bag).2.2, ω.mb) : Om)) (As := [.int bag, .int row, .int (nI j)]) (rest := []) ⟨hx, hb, hml, hown, hts⟩ (mt_X0_walked l D dA x ad μ σ ω hcD bag row j hI hR (bag_by hbg0) hoT hj1 hj) (cw_X0_X0_walked hts ⟨Nat.le_of_ble_eq_true rfl, Nat.le_of_ble_eq_true rfl⟩) (cB_now hK hN hP) (va_recv hK hP (ci := 1) (q0 := 0) rfl rfl) rfl hl.1 rfl (Nat.le_of_ble_eq_true rfl) dX0_all_24 ⟨Nat.le_of_ble_eq_true rfl, Nat.le_of_ble_eq_true rfl⟩ hS (fun H locs hP hS => ?_)
    change W p l e rmX0_all s m args below meth c H locs 0 0 Q (F0 m 27 ls [.ref (ad 4)])
    refine lv_astore (lv' := [(6, .ref (ad 4)), (5, .int (refW σ bag row (nI j) w)), (0, .ref x), (1, .int bag), (2, .int row), (3, .int (nI j)), (4, .int w)]) hx hb dX0_all_27 hl (by decide) rfl (fun ls hl => ?_)
    refine lv_aload hx hb dX0_all_29 (lv_at hl 0 rfl) ?_
    refine va_get (D := D) (ci := 2) (v := .long ((brT σ row (-1) 0 j bag).2.1)) (C := RX1) (T := TX1) (N := 11) hx hb hts in_X1 hown hK hP 5 rfl rfl 7 (by decide) (hts _ q138) (fun _ h9 => h9) rfl dX0_all_31 ?_
    refine w_topl (y := dnF σ row j bag) (br_2 hI hoT hj bag) ?_
    refine lv_aload hx hb dX0_all_34 (lv_at hl 0 rfl) ?_
    refine va_get (D := D) (ci := 2) (v := .long (belT σ row (-1) j)) (C := RX1) (T := TX1) (N := 11) hx hb hts in_X1 hown hK hP 5 rfl rfl 8 (by decide) (hts _ q140) (fun _ h9 => h9) rfl dX0_all_36 ?_
    refine w_topl (y := allP σ row j) (bel_all σ row j) ?_
    refine lv_iload hx hb dX0_all_39 (lv_at hl 6 rfl) ?_
    refine cSl (As := [.long (dnF σ row j bag), .long (allP σ row j), .int w]) (rest := []) ⟨hx, hb, hml, hown, hts⟩ (mt_X0_part l (dnF σ row j bag) (allP σ row j) w (all_ne hI (okT_R hj hoT))) (cw_X0_X0_part hts ⟨Nat.le_of_ble_eq_true rfl, Nat.le_of_ble_eq_true rfl⟩) w_blT (fun _ _ _ => trivial) rfl hl.1 rfl (Nat.le_of_ble_eq_true rfl) dX0_all_41 ⟨Nat.le_of_ble_eq_true rfl, Nat.le_of_ble_eq_true rfl⟩ ?_
    exact cme_l hQ hx hb hr hlocks hK hN hP hS (by rw [allF, if_pos hrB, if_pos hpt, hix]) (rfl) (trivial) dX0_all_44
  · have h13 : ¬ ((refW σ bag row n_ w) = 0) := h13
    refine lv_iload hx hb dX0_all_16 (lv_at hl 0 rfl) ?_
    refine lv_i2l (v := (refW σ bag row n_ w : Int32).toInt64) hx hb dX0_all_18 rfl ?_
    exact cme_l hQ hx hb hr hlocks hK hN hP hS (all_ref h13) (rfl) (trivial) dX0_all_19

def rmX0_end : Room := { frames := 11, cells := 0, slots := 0, locals := 319 }
set_option maxHeartbeats 1000000 in
theorem mt_X0_end (l : Launch) (D : va_G) (dA : Nat → ClassId) (x : Nat) (ad : Nat → Nat) (μ : Lay) (σ : St) (ω : Om) (hcD : cD x ad μ) (bag : Int32) (row : Int32) (n_ : Int32) (hI : Inv σ) (hR : Rel dA μ σ) : Met l yX0_end (ws_ yX0_end cX0_end 5 (some .int)) rmX0_end (va_Pc [.ref x, .int bag, .int row, .int n_] (cB D dA x ad μ σ ω)) (cQE (some (.int (endF σ bag row n_))) D dA x ad μ σ (fun o => True)) 0 0 (cA x ad μ) := by
  refine w_start (by decide) (Nat.le_of_ble_eq_true rfl) ?_
  intro p e s m args below meth c Q ls hQ hx hb hr hlocks hml hown hnm hts hB hl
  have hown : s.vm.findClass RX0 = some m.cls := hown
  have hl : lv_has ls 5 [(0, .ref x), (1, .int bag), (2, .int row), (3, .int n_)] := hl
  obtain ⟨hP, hK, hN⟩ := hB
  have hP : va_P D vwCl (cW dA x ad μ σ ω) s.heap := hP
  have hS : va_S (cA x ad μ) s.heap s.heap [] := va_S.rf
  refine lv_aload_n hx hb dX0_end_0 rfl (lv_at hl 0 rfl) ?_
  refine lv_iload_n hx hb dX0_end_1 rfl (lv_at hl 1 rfl) ?_
  refine lv_iload_n hx hb dX0_end_2 rfl (lv_at hl 2 rfl) ?_
  refine lv_iload_n hx hb dX0_end_3 rfl (lv_at hl 3 rfl) ?_
  refine lv_iconst (v := 0) hx hb dX0_end_4 rfl ?_
  refine dV (v := .int (refW σ bag row n_ 0)) (As := [.int bag, .int row, .int n_, .int 0]) (rest := []) ⟨hx, hb, hml, hown, hts⟩ (mt_X0_faultOf l D dA x ad μ σ ω bag row n_ 0 hI hR) (cw_X0_X0_faultOf hts ⟨Nat.le_of_ble_eq_true rfl, Nat.le_of_ble_eq_true rfl⟩) cB_bw (cB_now hK hN hP) (va_recv hK hP (ci := 1) (q0 := 0) rfl rfl) rfl hl.1 rfl (Nat.le_of_ble_eq_true rfl) dX0_end_5 ⟨Nat.le_of_ble_eq_true rfl, Nat.le_of_ble_eq_true rfl⟩ ?_
  refine w_topi (y := refBF σ bag row n_) (refW_0 σ bag row n_) ?_
  refine lv_istore (lv' := [(4, .int (refBF σ bag row n_)), (0, .ref x), (1, .int bag), (2, .int row), (3, .int n_)]) hx hb dX0_end_8 hl (by decide) rfl (fun ls hl => ?_)
  refine lv_iload hx hb dX0_end_10 (lv_at hl 0 rfl) ?_
  refine lv_if_eq (tgt := 20) hx hb dX0_end_12 rfl (fun h12 => ?_) (fun h12 => ?_)
  · have h12 : (refBF σ bag row n_) = 0 := h12
    obtain ⟨hrf, hbg0⟩ := refB_okB h12
    obtain ⟨j, hj1, hj, rfl, hoT, htw⟩ := ref_T hrf
    have hix : ix (nI j) = j := ix_nI (Nat.lt_succ_of_le hj) (by decide)
    refine lv_aload_n hx hb dX0_end_20 rfl (lv_at hl 1 rfl) ?_
    refine lv_iload_n hx hb dX0_end_21 rfl (lv_at hl 2 rfl) ?_
    refine lv_iload_n hx hb dX0_end_22 rfl (lv_at hl 3 rfl) ?_
    refine lv_iload_n hx hb dX0_end_23 rfl (lv_at hl 4 rfl) ?_
    refine dM (v := some (.ref (ad 4))) (σ' := σ) (ω' := ((bag, row, nI j, ptF σ.tools 8, (-1), 0, (brT σ row (-1) 0 j bag).1, (brT σ row (-1) 0 j bag).2.1, belT σ row (-1) j, (brT σ row (-1) 0 j bag).2.2, ω.mb) : Om)) (As := [.int bag, .int row, .int (nI j)]) (rest := []) ⟨hx, hb, hml, hown, hts⟩ (mt_X0_walked l D dA x ad μ σ ω hcD bag row j hI hR (bag_by hbg0) hoT hj1 hj) (cw_X0_X0_walked hts ⟨Nat.le_of_ble_eq_true rfl, Nat.le_of_ble_eq_true rfl⟩) (cB_now hK hN hP) (va_recv hK hP (ci := 1) (q0 := 0) rfl rfl) rfl hl.1 rfl (Nat.le_of_ble_eq_true rfl) dX0_end_24 ⟨Nat.le_of_ble_eq_true rfl, Nat.le_of_ble_eq_true rfl⟩ hS (fun H locs hP hS => ?_)
    change W p l e rmX0_end s m args below meth c H locs 0 0 Q (F0 m 27 ls [.ref (ad 4)])
    refine va_get (D := D) (ci := 2) (v := .int ((brT σ row (-1) 0 j bag).2.2)) (C := RX1) (T := TX1) (N := 11) hx hb hts in_X1 hown hK hP 5 rfl rfl 9 (by decide) (hts _ q142) (fun _ h9 => h9) rfl dX0_end_27 ?_
    refine w_topi (y := edF σ row j bag) (br_3 hI hoT bag) ?_
    exact cme_i hQ hx hb hr hlocks hK hN hP hS (by rw [endF, if_pos h12, hix]) (rfl) (trivial) dX0_end_30
  · have h12 : ¬ ((refBF σ bag row n_) = 0) := h12
    refine lv_iload hx hb dX0_end_15 (lv_at hl 0 rfl) ?_
    refine lv_goto (tgt := 30) hx hb dX0_end_17 rfl ?_
    exact cme_i hQ hx hb hr hlocks hK hN hP hS (by rw [endF, if_neg h12]) (rfl) (trivial) dX0_end_30

theorem cw_X0_X0_bestOf {R : Room} {s : State} {args : Array Value} (hts : ∀ w ∈ lw_all, w.before args s = true) (hR : rmX0_bestOf.frames + 1 ≤ R.frames ∧ 8 + (7 + 11) + rmX0_bestOf.locals ≤ R.locals) : CallW R s args RX0 RX0 241 yX0_bestOf cX0_bestOf 7 (some .int) (ws_ yX0_bestOf cX0_bestOf 7 (some .int)) rmX0_bestOf 0 0 4 := cwV 4 hts (lw_V q983 q985 qs27 q77 q986) rfl rfl rfl (by decide +kernel) hR
def rmX0_best : Room := { frames := 11, cells := 0, slots := 0, locals := 322 }
set_option maxHeartbeats 1000000 in
theorem mt_X0_best (l : Launch) (D : va_G) (dA : Nat → ClassId) (x : Nat) (ad : Nat → Nat) (μ : Lay) (σ : St) (ω : Om) (hcD : cD x ad μ) (row : Int32) (n_ : Int32) (hI : Inv σ) (hR : Rel dA μ σ) : Met l yX0_best (ws_ yX0_best cX0_best 4 (some .int)) rmX0_best (va_Pc [.ref x, .int row, .int n_] (cB D dA x ad μ σ ω)) (cQE (some (.int (bestF σ row n_))) D dA x ad μ σ (fun o => True)) 0 0 (cA x ad μ) := by
  refine w_start (by decide) (Nat.le_of_ble_eq_true rfl) ?_
  intro p e s m args below meth c Q ls hQ hx hb hr hlocks hml hown hnm hts hB hl
  have hown : s.vm.findClass RX0 = some m.cls := hown
  have hl : lv_has ls 4 [(0, .ref x), (1, .int row), (2, .int n_)] := hl
  obtain ⟨hP, hK, hN⟩ := hB
  have hP : va_P D vwCl (cW dA x ad μ σ ω) s.heap := hP
  have hS : va_S (cA x ad μ) s.heap s.heap [] := va_S.rf
  refine lv_aload_n hx hb dX0_best_0 rfl (lv_at hl 0 rfl) ?_
  refine lv_iload_n hx hb dX0_best_1 rfl (lv_at hl 1 rfl) ?_
  refine lv_iload_n hx hb dX0_best_2 rfl (lv_at hl 2 rfl) ?_
  refine dV (v := .int (refF σ row n_)) (As := [.int row, .int n_]) (rest := []) ⟨hx, hb, hml, hown, hts⟩ (mt_X0_faultOf_2 l D dA x ad μ σ ω row n_ hI hR) (cw_X0_X0_faultOf_2 hts ⟨Nat.le_of_ble_eq_true rfl, Nat.le_of_ble_eq_true rfl⟩) cB_bw (cB_now hK hN hP) (va_recv hK hP (ci := 1) (q0 := 0) rfl rfl) rfl hl.1 rfl (Nat.le_of_ble_eq_true rfl) dX0_best_3 ⟨Nat.le_of_ble_eq_true rfl, Nat.le_of_ble_eq_true rfl⟩ ?_
  refine lv_istore_n (lv' := [(3, .int (refF σ row n_)), (0, .ref x), (1, .int row), (2, .int n_)]) hx hb dX0_best_6 rfl hl (by decide) rfl (fun ls hl => ?_)
  refine lv_iload_n hx hb dX0_best_7 rfl (lv_at hl 0 rfl) ?_
  refine lv_if_eq (tgt := 15) hx hb dX0_best_8 rfl (fun h8 => ?_) (fun h8 => ?_)
  · have h8 : (refF σ row n_) = 0 := h8
    obtain ⟨j, hj1, hj, rfl, hoT, htw⟩ := ref_T h8
    have hix : ix (nI j) = j := ix_nI (Nat.lt_succ_of_le hj) (by decide)
    refine lv_aload_n hx hb dX0_best_15 rfl (lv_at hl 1 rfl) ?_
    refine lv_iload_n hx hb dX0_best_16 rfl (lv_at hl 2 rfl) ?_
    refine lv_iload_n hx hb dX0_best_17 rfl (lv_at hl 3 rfl) ?_
    refine lv_iconst (v := (-1)) hx hb dX0_best_18 rfl ?_
    refine lv_iconst (v := 0) hx hb dX0_best_19 rfl ?_
    refine dME (v := some (.int ((bsG σ (brB σ row (-1) 0 j) ω.mb 256).1))) (σ' := σ) (As := [.int row, .int (nI j), .int (-1), .int 0]) (rest := []) ⟨hx, hb, hml, hown, hts⟩ (mt_X0_bestOf l D dA x ad μ σ ω hcD row j (-1) 0 hI hR hoT hj1 hj) (cw_X0_X0_bestOf hts ⟨Nat.le_of_ble_eq_true rfl, Nat.le_of_ble_eq_true rfl⟩) (cB_now hK hN hP) (va_recv hK hP (ci := 1) (q0 := 0) rfl rfl) rfl hl.1 rfl (Nat.le_of_ble_eq_true rfl) dX0_best_20 ⟨Nat.le_of_ble_eq_true rfl, Nat.le_of_ble_eq_true rfl⟩ hS (fun o_1 ho_2 H locs hP hS => ?_)
    change W p l e rmX0_best s m args below meth c H locs 0 0 Q (F0 m 23 ls [.int ((bsG σ (brB σ row (-1) 0 j) ω.mb 256).1)])
    refine w_topi (y := bbF σ row j) (best_1 hI hoT hj _) ?_
    exact cme_i hQ hx hb hr hlocks hK hN hP hS (by rw [bestF, if_pos h8, hix]) (rfl) (trivial) dX0_best_23
  · have h8 : ¬ ((refF σ row n_) = 0) := h8
    refine lv_iload_n hx hb dX0_best_11 rfl (lv_at hl 0 rfl) ?_
    refine lv_goto (tgt := 23) hx hb dX0_best_12 rfl ?_
    exact cme_i hQ hx hb hr hlocks hK hN hP hS (by rw [bestF, if_neg h8]) (rfl) (trivial) dX0_best_23

def rmX0_sure : Room := { frames := 11, cells := 0, slots := 0, locals := 319 }
set_option maxHeartbeats 1000000 in
theorem mt_X0_sure (l : Launch) (D : va_G) (dA : Nat → ClassId) (x : Nat) (ad : Nat → Nat) (μ : Lay) (σ : St) (ω : Om) (hcD : cD x ad μ) (row : Int32) (n_ : Int32) (a_ : Int32) (b_ : Int32) (hI : Inv σ) (hR : Rel dA μ σ) : Met l yX0_sure (ws_ yX0_sure cX0_sure 9 (some .int)) rmX0_sure (va_Pc [.ref x, .int row, .int n_, .int a_, .int b_] (cB D dA x ad μ σ ω)) (cQE (some (.int (sureF σ row n_ a_ b_))) D dA x ad μ σ (fun o => True)) 0 0 (cA x ad μ) := by
  refine w_start (by decide) (Nat.le_of_ble_eq_true rfl) ?_
  intro p e s m args below meth c Q ls hQ hx hb hr hlocks hml hown hnm hts hB hl
  have hown : s.vm.findClass RX0 = some m.cls := hown
  have hl : lv_has ls 9 [(0, .ref x), (1, .int row), (2, .int n_), (3, .int a_), (4, .int b_)] := hl
  obtain ⟨hP, hK, hN⟩ := hB
  have hP : va_P D vwCl (cW dA x ad μ σ ω) s.heap := hP
  have hS : va_S (cA x ad μ) s.heap s.heap [] := va_S.rf
  refine lv_aload_n hx hb dX0_sure_0 rfl (lv_at hl 0 rfl) ?_
  refine lv_iload_n hx hb dX0_sure_1 rfl (lv_at hl 1 rfl) ?_
  refine lv_iload_n hx hb dX0_sure_2 rfl (lv_at hl 2 rfl) ?_
  refine dV (v := .int (refF σ row n_)) (As := [.int row, .int n_]) (rest := []) ⟨hx, hb, hml, hown, hts⟩ (mt_X0_faultOf_2 l D dA x ad μ σ ω row n_ hI hR) (cw_X0_X0_faultOf_2 hts ⟨Nat.le_of_ble_eq_true rfl, Nat.le_of_ble_eq_true rfl⟩) cB_bw (cB_now hK hN hP) (va_recv hK hP (ci := 1) (q0 := 0) rfl rfl) rfl hl.1 rfl (Nat.le_of_ble_eq_true rfl) dX0_sure_3 ⟨Nat.le_of_ble_eq_true rfl, Nat.le_of_ble_eq_true rfl⟩ ?_
  refine lv_istore (lv' := [(5, .int (refF σ row n_)), (0, .ref x), (1, .int row), (2, .int n_), (3, .int a_), (4, .int b_)]) hx hb dX0_sure_6 hl (by decide) rfl (fun ls hl => ?_)
  refine lv_iload hx hb dX0_sure_8 (lv_at hl 0 rfl) ?_
  refine lv_if_eq (tgt := 16) hx hb dX0_sure_10 rfl (fun h10 => ?_) (fun h10 => ?_)
  · have h10 : (refF σ row n_) = 0 := h10
    obtain ⟨j, hj1, hj, rfl, hoT, htw⟩ := ref_T h10
    have hix : ix (nI j) = j := ix_nI (Nat.lt_succ_of_le hj) (by decide)
    refine lv_iload hx hb dX0_sure_16 (lv_at hl 5 rfl) ?_
    refine lv_i2l (v := (b_ : Int32).toInt64) hx hb dX0_sure_18 rfl ?_
    refine lv_lconst (v := 1) hx hb dX0_sure_19 rfl ?_
    refine lv_ldc2 (v := 99) hx hb hown (hts _ q991) dX0_sure_20 ?_
    refine cSi (As := [.long ((b_ : Int32).toInt64), .long 1, .long 99]) (rest := []) ⟨hx, hb, hml, hown, hts⟩ (mt_X0_in l ((b_ : Int32).toInt64) 1 99) (cw_X0_X0_in hts ⟨Nat.le_of_ble_eq_true rfl, Nat.le_of_ble_eq_true rfl⟩) w_blT (fun _ _ _ => trivial) rfl hl.1 rfl (Nat.le_of_ble_eq_true rfl) dX0_sure_23 ⟨Nat.le_of_ble_eq_true rfl, Nat.le_of_ble_eq_true rfl⟩ ?_
    refine lv_if_eq (tgt := 41) hx hb dX0_sure_26 rfl (fun h26 => ?_) (fun h26 => ?_)
    · have h26 : ¬ (inP ((b_ : Int32).toInt64) 1 99) := b01_0.mp h26
      refine lv_bipush (v := (-3)) hx hb dX0_sure_41 rfl ?_
      exact cme_i hQ hx hb hr hlocks hK hN hP hS (by rw [sureF, if_pos h10, if_neg h26]) (rfl) (trivial) dX0_sure_43
    · have h26 : inP ((b_ : Int32).toInt64) 1 99 := b01_n h26
      refine lv_iload_n hx hb dX0_sure_29 rfl (lv_at hl 4 rfl) ?_
      refine lv_i2l (v := (a_ : Int32).toInt64) hx hb dX0_sure_30 rfl ?_
      refine lv_lconst (v := 0) hx hb dX0_sure_31 rfl ?_
      refine lv_iload hx hb dX0_sure_32 (lv_at hl 5 rfl) ?_
      refine lv_i2l (v := (b_ : Int32).toInt64) hx hb dX0_sure_34 rfl ?_
      refine cSi (As := [.long ((a_ : Int32).toInt64), .long 0, .long ((b_ : Int32).toInt64)]) (rest := []) ⟨hx, hb, hml, hown, hts⟩ (mt_X0_in l ((a_ : Int32).toInt64) 0 ((b_ : Int32).toInt64)) (cw_X0_X0_in hts ⟨Nat.le_of_ble_eq_true rfl, Nat.le_of_ble_eq_true rfl⟩) w_blT (fun _ _ _ => trivial) rfl hl.1 rfl (Nat.le_of_ble_eq_true rfl) dX0_sure_35 ⟨Nat.le_of_ble_eq_true rfl, Nat.le_of_ble_eq_true rfl⟩ ?_
      refine lv_if_ne (tgt := 44) hx hb dX0_sure_38 rfl (fun h38 => ?_) (fun h38 => ?_)
      · have h38 : inP ((a_ : Int32).toInt64) 0 ((b_ : Int32).toInt64) := b01_n h38
        refine lv_iconst (v := (-1)) hx hb dX0_sure_44 rfl ?_
        refine lv_istore (lv' := [(6, .int (-1)), (5, .int (refF σ row (nI j))), (0, .ref x), (1, .int row), (2, .int (nI j)), (3, .int a_), (4, .int b_)]) hx hb dX0_sure_45 hl (by decide) rfl (fun ls hl => ?_)
        refine lv_iconst (v := 0) hx hb dX0_sure_47 rfl ?_
        refine lv_istore (lv' := [(7, .int 0), (6, .int (-1)), (5, .int (refF σ row (nI j))), (0, .ref x), (1, .int row), (2, .int (nI j)), (3, .int a_), (4, .int b_)]) hx hb dX0_sure_48 hl (by decide) rfl (fun ls hl => ?_)
        have hL50_1 : ∀ (n_2 : Nat) (k : Nat) (o : Om) (x7 : Int32) (x6 : Int32) (ls : Array Slot) (H : Heap) (locs : List Loc), (256 - k) < n_2 → (k ≤ 256) → x7 = (nI k) → x6 = (srG σ row j a_ b_ k) → lv_has ls 9 [(7, .int x7), (6, .int x6), (5, .int (refF σ row (nI j))), (0, .ref x), (1, .int row), (2, .int (nI j)), (3, .int a_), (4, .int b_)] → va_P D vwCl (cW dA x ad μ σ o) H → va_S (cA x ad μ) s.heap H locs → W p l e rmX0_sure s m args below meth c H locs 0 0 Q (F0 m 50 ls []) := by
          intro n_2
          induction n_2 with
          | zero => intro k o x7 x6 ls H locs hm_4; exact absurd hm_4 (Nat.not_lt_zero _)
          | succ n_2 ih_3 =>
            intro k o x7 x6 ls H locs hm_4 hk ex7 ex6 hl hP hS
            subst ex7 ex6
            refine lv_iload hx hb dX0_sure_50 (lv_at hl 0 rfl) ?_
            refine lv_sipush (v := 256) hx hb dX0_sure_52 rfl ?_
            refine lv_icmp_ge (tgt := 134) hx hb dX0_sure_55 rfl (fun h55 => ?_) (fun h55 => ?_)
            · have h55 : 256 ≤ k := (nz_le (a := 256) (b := k) rfl rfl (by omega) (by omega)).mp h55
              obtain rfl : k = 256 := by omega
              refine lv_iload hx hb dX0_sure_134 (lv_at hl 1 rfl) ?_
              exact cme_i hQ hx hb hr hlocks hK hN hP hS (by rw [sureF, if_pos h10, if_pos h26, if_pos h38, hix]) (rfl) (trivial) dX0_sure_136
            · have h55 : ¬ (256 ≤ k) := fun z9 => h55 ((nz_le (a := 256) (b := k) rfl rfl (by omega) (by omega)).mpr z9)
              refine lv_aload_n hx hb dX0_sure_58 rfl (lv_at hl 3 rfl) ?_
              refine lv_iload hx hb dX0_sure_59 (lv_at hl 0 rfl) ?_
              refine dV (v := .int (b01 (mayP σ (nI k)))) (As := [.int (nI k)]) (rest := []) ⟨hx, hb, hml, hown, hts⟩ (mt_X0_mayBe l D dA x ad μ σ o (nI k) hI hR) (cw_X0_X0_mayBe hts ⟨Nat.le_of_ble_eq_true rfl, Nat.le_of_ble_eq_true rfl⟩) cB_bw (cB_now hK hN hP) (va_recv hK hP (ci := 1) (q0 := 0) rfl rfl) rfl hl.1 rfl (Nat.le_of_ble_eq_true rfl) dX0_sure_61 ⟨Nat.le_of_ble_eq_true rfl, Nat.le_of_ble_eq_true rfl⟩ ?_
              refine lv_if_eq (tgt := 128) hx hb dX0_sure_64 rfl (fun h64 => ?_) (fun h64 => ?_)
              · have h64 : ¬ (mayP σ (nI k)) := b01_0.mp h64
                refine lv_iinc (v := nI (k + 1)) (lv' := [(7, .int (nI (k + 1))), (6, .int (srG σ row j a_ b_ k)), (5, .int (refF σ row (nI j))), (0, .ref x), (1, .int row), (2, .int (nI j)), (3, .int a_), (4, .int b_)]) hx hb dX0_sure_128 hl (k := 0) rfl (nI_1 k) (by decide) rfl (fun ls hl => ?_)
                refine lv_goto (tgt := 50) hx hb dX0_sure_131 rfl ?_
                exact ih_3 (k + 1) o (nI (k + 1)) (srG σ row j a_ b_ k) ls _ _ (by omega) (by omega) rfl (by rw [srG, srI, if_neg h64, if_pos rfl]) (lv_sub hl [0, 1, 2, 3, 4, 5, 6, 7] rfl) hP hS
              · have h64 : mayP σ (nI k) := b01_n h64
                refine lv_iload hx hb dX0_sure_67 (lv_at hl 1 rfl) ?_
                refine lv_iconst (v := (-1)) hx hb dX0_sure_69 rfl ?_
                refine lv_icmp_eq (tgt := 88) hx hb dX0_sure_70 rfl (fun h70 => ?_) (fun h70 => ?_)
                · have h70 : (srG σ row j a_ b_ k) = (-1) := h70
                  refine lv_aload_n hx hb dX0_sure_88 rfl (lv_at hl 3 rfl) ?_
                  refine lv_iload hx hb dX0_sure_89 (lv_at hl 0 rfl) ?_
                  refine lv_iload_n hx hb dX0_sure_91 rfl (lv_at hl 4 rfl) ?_
                  refine lv_iload_n hx hb dX0_sure_92 rfl (lv_at hl 5 rfl) ?_
                  refine dM (v := some (.ref (ad 4))) (σ' := σ) (ω' := (((nI k), row, nI j, ptF σ.tools 8, (-1), 0, (brT σ row (-1) 0 j (nI k)).1, (brT σ row (-1) 0 j (nI k)).2.1, belT σ row (-1) j, (brT σ row (-1) 0 j (nI k)).2.2, o.mb) : Om)) (As := [.int (nI k), .int row, .int (nI j)]) (rest := []) ⟨hx, hb, hml, hown, hts⟩ (mt_X0_walked l D dA x ad μ σ o hcD (nI k) row j hI hR (nat_by k (by omega)) hoT hj1 hj) (cw_X0_X0_walked hts ⟨Nat.le_of_ble_eq_true rfl, Nat.le_of_ble_eq_true rfl⟩) (cB_now hK hN hP) (va_recv hK hP (ci := 1) (q0 := 0) rfl rfl) rfl hl.1 rfl (Nat.le_of_ble_eq_true rfl) dX0_sure_93 ⟨Nat.le_of_ble_eq_true rfl, Nat.le_of_ble_eq_true rfl⟩ hS (fun H locs hP hS => ?_)
                  change W p l e rmX0_sure s m args below meth c H locs 0 0 Q (F0 m 96 ls [.ref (ad 4)])
                  refine lv_astore (lv' := [(8, .ref (ad 4)), (7, .int (nI k)), (6, .int (srG σ row j a_ b_ k)), (5, .int (refF σ row (nI j))), (0, .ref x), (1, .int row), (2, .int (nI j)), (3, .int a_), (4, .int b_)]) hx hb dX0_sure_96 hl (by decide) rfl (fun ls hl => ?_)
                  refine lv_aload hx hb dX0_sure_98 (lv_at hl 0 rfl) ?_
                  refine va_get (D := D) (ci := 2) (v := .long ((brT σ row (-1) 0 j (nI k)).2.1)) (C := RX1) (T := TX1) (N := 11) hx hb hts in_X1 hown hK hP 5 rfl rfl 7 (by decide) (hts _ q138) (fun _ h9 => h9) rfl dX0_sure_100 ?_
                  refine w_topl (y := dnF σ row j (nI k)) (br_2 hI hoT hj _) ?_
                  refine lv_iload hx hb dX0_sure_103 (lv_at hl 8 rfl) ?_
                  refine lv_i2l (v := (b_ : Int32).toInt64) hx hb dX0_sure_105 rfl ?_
                  refine lv_lmul hx hb dX0_sure_106 ?_
                  refine lv_aload hx hb dX0_sure_107 (lv_at hl 0 rfl) ?_
                  refine va_get (D := D) (ci := 2) (v := .long (belT σ row (-1) j)) (C := RX1) (T := TX1) (N := 11) hx hb hts in_X1 hown hK hP 5 rfl rfl 8 (by decide) (hts _ q140) (fun _ h9 => h9) rfl dX0_sure_109 ?_
                  refine w_topl (y := allP σ row j) (bel_all σ row j) ?_
                  refine lv_iload_n hx hb dX0_sure_112 rfl (lv_at hl 7 rfl) ?_
                  refine lv_i2l (v := (a_ : Int32).toInt64) hx hb dX0_sure_113 rfl ?_
                  refine lv_lmul hx hb dX0_sure_114 ?_
                  refine W.lcmp hx hb dX0_sure_115 ?_
                  refine lv_if_lt (tgt := 124) hx hb dX0_sure_116 rfl (fun h116 => ?_) (fun h116 => ?_)
                  · have h116 : ((dnF σ row j (nI k)) * ((b_ : Int32).toInt64)) < ((allP σ row j) * ((a_ : Int32).toInt64)) := (lg_cmp_lt ((dnF σ row j (nI k)) * ((b_ : Int32).toInt64)) ((allP σ row j) * ((a_ : Int32).toInt64))).mp h116
                    refine lv_iload hx hb dX0_sure_124 (lv_at hl 2 rfl) ?_
                    refine lv_istore (lv' := [(6, .int (srG σ row j a_ b_ k)), (8, .ref (ad 4)), (7, .int (nI k)), (5, .int (refF σ row (nI j))), (0, .ref x), (1, .int row), (2, .int (nI j)), (3, .int a_), (4, .int b_)]) hx hb dX0_sure_126 hl (by decide) rfl (fun ls hl => ?_)
                    refine lv_iinc (v := nI (k + 1)) (lv' := [(7, .int (nI (k + 1))), (6, .int (srG σ row j a_ b_ k)), (8, .ref (ad 4)), (5, .int (refF σ row (nI j))), (0, .ref x), (1, .int row), (2, .int (nI j)), (3, .int a_), (4, .int b_)]) hx hb dX0_sure_128 hl (k := 2) rfl (nI_1 k) (by decide) rfl (fun ls hl => ?_)
                    refine lv_goto (tgt := 50) hx hb dX0_sure_131 rfl ?_
                    exact ih_3 (k + 1) (((nI k), row, nI j, ptF σ.tools 8, (-1), 0, (brT σ row (-1) 0 j (nI k)).1, (brT σ row (-1) 0 j (nI k)).2.1, belT σ row (-1) j, (brT σ row (-1) 0 j (nI k)).2.2, o.mb) : Om) (nI (k + 1)) (srG σ row j a_ b_ k) ls _ _ (by omega) (by omega) rfl (by rw [srG, srI, if_pos h64, if_pos h70, if_neg (by decide), if_pos h116]) (lv_sub hl [0, 1, 3, 4, 5, 6, 7, 8] rfl) hP hS
                  · have h116 : ¬ (((dnF σ row j (nI k)) * ((b_ : Int32).toInt64)) < ((allP σ row j) * ((a_ : Int32).toInt64))) := fun z9 => h116 ((lg_cmp_lt ((dnF σ row j (nI k)) * ((b_ : Int32).toInt64)) ((allP σ row j) * ((a_ : Int32).toInt64))).mpr z9)
                    refine lv_iload hx hb dX0_sure_119 (lv_at hl 1 rfl) ?_
                    refine lv_goto (tgt := 126) hx hb dX0_sure_121 rfl ?_
                    refine lv_istore (lv' := [(6, .int (nI k)), (8, .ref (ad 4)), (7, .int (nI k)), (5, .int (refF σ row (nI j))), (0, .ref x), (1, .int row), (2, .int (nI j)), (3, .int a_), (4, .int b_)]) hx hb dX0_sure_126 hl (by decide) rfl (fun ls hl => ?_)
                    refine lv_iinc (v := nI (k + 1)) (lv' := [(7, .int (nI (k + 1))), (6, .int (nI k)), (8, .ref (ad 4)), (5, .int (refF σ row (nI j))), (0, .ref x), (1, .int row), (2, .int (nI j)), (3, .int a_), (4, .int b_)]) hx hb dX0_sure_128 hl (k := 2) rfl (nI_1 k) (by decide) rfl (fun ls hl => ?_)
                    refine lv_goto (tgt := 50) hx hb dX0_sure_131 rfl ?_
                    exact ih_3 (k + 1) (((nI k), row, nI j, ptF σ.tools 8, (-1), 0, (brT σ row (-1) 0 j (nI k)).1, (brT σ row (-1) 0 j (nI k)).2.1, belT σ row (-1) j, (brT σ row (-1) 0 j (nI k)).2.2, o.mb) : Om) (nI (k + 1)) (nI k) ls _ _ (by omega) (by omega) rfl (by rw [srG, srI, if_pos h64, if_pos h70, if_neg (by decide), if_neg h116]) (lv_sub hl [0, 1, 3, 4, 5, 6, 7, 8] rfl) hP hS
                · have h70 : ¬ ((srG σ row j a_ b_ k) = (-1)) := h70
                  refine lv_aload_n hx hb dX0_sure_73 rfl (lv_at hl 3 rfl) ?_
                  refine lv_iload hx hb dX0_sure_74 (lv_at hl 0 rfl) ?_
                  refine dV (v := .int (wsum σ.wt (nI k) 8)) (As := [.int (nI k)]) (rest := []) ⟨hx, hb, hml, hown, hts⟩ (mt_X0_weightOf l D dA x ad μ σ o (nI k) hI hR) (cw_X0_X0_weightOf hts ⟨Nat.le_of_ble_eq_true rfl, Nat.le_of_ble_eq_true rfl⟩) cB_bw (cB_now hK hN hP) (va_recv hK hP (ci := 1) (q0 := 0) rfl rfl) rfl hl.1 rfl (Nat.le_of_ble_eq_true rfl) dX0_sure_76 ⟨Nat.le_of_ble_eq_true rfl, Nat.le_of_ble_eq_true rfl⟩ ?_
                  refine lv_aload_n hx hb dX0_sure_79 rfl (lv_at hl 3 rfl) ?_
                  refine lv_iload hx hb dX0_sure_80 (lv_at hl 1 rfl) ?_
                  refine dV (v := .int (wsum σ.wt (srG σ row j a_ b_ k) 8)) (As := [.int (srG σ row j a_ b_ k)]) (rest := [.int (wsum σ.wt (nI k) 8)]) ⟨hx, hb, hml, hown, hts⟩ (mt_X0_weightOf l D dA x ad μ σ o (srG σ row j a_ b_ k) hI hR) (cw_X0_X0_weightOf hts ⟨Nat.le_of_ble_eq_true rfl, Nat.le_of_ble_eq_true rfl⟩) cB_bw (cB_now hK hN hP) (va_recv hK hP (ci := 1) (q0 := 0) rfl rfl) rfl hl.1 rfl (Nat.le_of_ble_eq_true rfl) dX0_sure_82 ⟨Nat.le_of_ble_eq_true rfl, Nat.le_of_ble_eq_true rfl⟩ ?_
                  refine lv_icmp_ge (tgt := 128) hx hb dX0_sure_85 rfl (fun h85 => ?_) (fun h85 => ?_)
                  · have h85 : (wsum σ.wt (srG σ row j a_ b_ k) 8) ≤ (wsum σ.wt (nI k) 8) := h85
                    refine lv_iinc (v := nI (k + 1)) (lv' := [(7, .int (nI (k + 1))), (6, .int (srG σ row j a_ b_ k)), (5, .int (refF σ row (nI j))), (0, .ref x), (1, .int row), (2, .int (nI j)), (3, .int a_), (4, .int b_)]) hx hb dX0_sure_128 hl (k := 0) rfl (nI_1 k) (by decide) rfl (fun ls hl => ?_)
                    refine lv_goto (tgt := 50) hx hb dX0_sure_131 rfl ?_
                    exact ih_3 (k + 1) o (nI (k + 1)) (srG σ row j a_ b_ k) ls _ _ (by omega) (by omega) rfl (by rw [srG, srI, if_pos h64, if_neg h70, if_pos h85, if_pos rfl]) (lv_sub hl [0, 1, 2, 3, 4, 5, 6, 7] rfl) hP hS
                  · have h85 : ¬ ((wsum σ.wt (srG σ row j a_ b_ k) 8) ≤ (wsum σ.wt (nI k) 8)) := h85
                    refine lv_aload_n hx hb dX0_sure_88 rfl (lv_at hl 3 rfl) ?_
                    refine lv_iload hx hb dX0_sure_89 (lv_at hl 0 rfl) ?_
                    refine lv_iload_n hx hb dX0_sure_91 rfl (lv_at hl 4 rfl) ?_
                    refine lv_iload_n hx hb dX0_sure_92 rfl (lv_at hl 5 rfl) ?_
                    refine dM (v := some (.ref (ad 4))) (σ' := σ) (ω' := (((nI k), row, nI j, ptF σ.tools 8, (-1), 0, (brT σ row (-1) 0 j (nI k)).1, (brT σ row (-1) 0 j (nI k)).2.1, belT σ row (-1) j, (brT σ row (-1) 0 j (nI k)).2.2, o.mb) : Om)) (As := [.int (nI k), .int row, .int (nI j)]) (rest := []) ⟨hx, hb, hml, hown, hts⟩ (mt_X0_walked l D dA x ad μ σ o hcD (nI k) row j hI hR (nat_by k (by omega)) hoT hj1 hj) (cw_X0_X0_walked hts ⟨Nat.le_of_ble_eq_true rfl, Nat.le_of_ble_eq_true rfl⟩) (cB_now hK hN hP) (va_recv hK hP (ci := 1) (q0 := 0) rfl rfl) rfl hl.1 rfl (Nat.le_of_ble_eq_true rfl) dX0_sure_93 ⟨Nat.le_of_ble_eq_true rfl, Nat.le_of_ble_eq_true rfl⟩ hS (fun H locs hP hS => ?_)
                    change W p l e rmX0_sure s m args below meth c H locs 0 0 Q (F0 m 96 ls [.ref (ad 4)])
                    refine lv_astore (lv' := [(8, .ref (ad 4)), (7, .int (nI k)), (6, .int (srG σ row j a_ b_ k)), (5, .int (refF σ row (nI j))), (0, .ref x), (1, .int row), (2, .int (nI j)), (3, .int a_), (4, .int b_)]) hx hb dX0_sure_96 hl (by decide) rfl (fun ls hl => ?_)
                    refine lv_aload hx hb dX0_sure_98 (lv_at hl 0 rfl) ?_
                    refine va_get (D := D) (ci := 2) (v := .long ((brT σ row (-1) 0 j (nI k)).2.1)) (C := RX1) (T := TX1) (N := 11) hx hb hts in_X1 hown hK hP 5 rfl rfl 7 (by decide) (hts _ q138) (fun _ h9 => h9) rfl dX0_sure_100 ?_
                    refine w_topl (y := dnF σ row j (nI k)) (br_2 hI hoT hj _) ?_
                    refine lv_iload hx hb dX0_sure_103 (lv_at hl 8 rfl) ?_
                    refine lv_i2l (v := (b_ : Int32).toInt64) hx hb dX0_sure_105 rfl ?_
                    refine lv_lmul hx hb dX0_sure_106 ?_
                    refine lv_aload hx hb dX0_sure_107 (lv_at hl 0 rfl) ?_
                    refine va_get (D := D) (ci := 2) (v := .long (belT σ row (-1) j)) (C := RX1) (T := TX1) (N := 11) hx hb hts in_X1 hown hK hP 5 rfl rfl 8 (by decide) (hts _ q140) (fun _ h9 => h9) rfl dX0_sure_109 ?_
                    refine w_topl (y := allP σ row j) (bel_all σ row j) ?_
                    refine lv_iload_n hx hb dX0_sure_112 rfl (lv_at hl 7 rfl) ?_
                    refine lv_i2l (v := (a_ : Int32).toInt64) hx hb dX0_sure_113 rfl ?_
                    refine lv_lmul hx hb dX0_sure_114 ?_
                    refine W.lcmp hx hb dX0_sure_115 ?_
                    refine lv_if_lt (tgt := 124) hx hb dX0_sure_116 rfl (fun h116 => ?_) (fun h116 => ?_)
                    · have h116 : ((dnF σ row j (nI k)) * ((b_ : Int32).toInt64)) < ((allP σ row j) * ((a_ : Int32).toInt64)) := (lg_cmp_lt ((dnF σ row j (nI k)) * ((b_ : Int32).toInt64)) ((allP σ row j) * ((a_ : Int32).toInt64))).mp h116
                      refine lv_iload hx hb dX0_sure_124 (lv_at hl 2 rfl) ?_
                      refine lv_istore (lv' := [(6, .int (srG σ row j a_ b_ k)), (8, .ref (ad 4)), (7, .int (nI k)), (5, .int (refF σ row (nI j))), (0, .ref x), (1, .int row), (2, .int (nI j)), (3, .int a_), (4, .int b_)]) hx hb dX0_sure_126 hl (by decide) rfl (fun ls hl => ?_)
                      refine lv_iinc (v := nI (k + 1)) (lv' := [(7, .int (nI (k + 1))), (6, .int (srG σ row j a_ b_ k)), (8, .ref (ad 4)), (5, .int (refF σ row (nI j))), (0, .ref x), (1, .int row), (2, .int (nI j)), (3, .int a_), (4, .int b_)]) hx hb dX0_sure_128 hl (k := 2) rfl (nI_1 k) (by decide) rfl (fun ls hl => ?_)
                      refine lv_goto (tgt := 50) hx hb dX0_sure_131 rfl ?_
                      exact ih_3 (k + 1) (((nI k), row, nI j, ptF σ.tools 8, (-1), 0, (brT σ row (-1) 0 j (nI k)).1, (brT σ row (-1) 0 j (nI k)).2.1, belT σ row (-1) j, (brT σ row (-1) 0 j (nI k)).2.2, o.mb) : Om) (nI (k + 1)) (srG σ row j a_ b_ k) ls _ _ (by omega) (by omega) rfl (by rw [srG, srI, if_pos h64, if_neg h70, if_neg h85, if_neg (by decide), if_pos h116]) (lv_sub hl [0, 1, 3, 4, 5, 6, 7, 8] rfl) hP hS
                    · have h116 : ¬ (((dnF σ row j (nI k)) * ((b_ : Int32).toInt64)) < ((allP σ row j) * ((a_ : Int32).toInt64))) := fun z9 => h116 ((lg_cmp_lt ((dnF σ row j (nI k)) * ((b_ : Int32).toInt64)) ((allP σ row j) * ((a_ : Int32).toInt64))).mpr z9)
                      refine lv_iload hx hb dX0_sure_119 (lv_at hl 1 rfl) ?_
                      refine lv_goto (tgt := 126) hx hb dX0_sure_121 rfl ?_
                      refine lv_istore (lv' := [(6, .int (nI k)), (8, .ref (ad 4)), (7, .int (nI k)), (5, .int (refF σ row (nI j))), (0, .ref x), (1, .int row), (2, .int (nI j)), (3, .int a_), (4, .int b_)]) hx hb dX0_sure_126 hl (by decide) rfl (fun ls hl => ?_)
                      refine lv_iinc (v := nI (k + 1)) (lv' := [(7, .int (nI (k + 1))), (6, .int (nI k)), (8, .ref (ad 4)), (5, .int (refF σ row (nI j))), (0, .ref x), (1, .int row), (2, .int (nI j)), (3, .int a_), (4, .int b_)]) hx hb dX0_sure_128 hl (k := 2) rfl (nI_1 k) (by decide) rfl (fun ls hl => ?_)
                      refine lv_goto (tgt := 50) hx hb dX0_sure_131 rfl ?_
                      exact ih_3 (k + 1) (((nI k), row, nI j, ptF σ.tools 8, (-1), 0, (brT σ row (-1) 0 j (nI k)).1, (brT σ row (-1) 0 j (nI k)).2.1, belT σ row (-1) j, (brT σ row (-1) 0 j (nI k)).2.2, o.mb) : Om) (nI (k + 1)) (nI k) ls _ _ (by omega) (by omega) rfl (by rw [srG, srI, if_pos h64, if_neg h70, if_neg h85, if_neg (by decide), if_neg h116]) (lv_sub hl [0, 1, 3, 4, 5, 6, 7, 8] rfl) hP hS
        exact hL50_1 _ 0 ω 0 (-1) ls _ _ (Nat.lt_succ_self _) (by omega) rfl rfl (lv_sub hl [0, 1, 2, 3, 4, 5, 6, 7] rfl) hP hS
      · have h38 : ¬ (inP ((a_ : Int32).toInt64) 0 ((b_ : Int32).toInt64)) := b01_0.mp h38
        refine lv_bipush (v := (-3)) hx hb dX0_sure_41 rfl ?_
        exact cme_i hQ hx hb hr hlocks hK hN hP hS (by rw [sureF, if_pos h10, if_pos h26, if_neg h38]) (rfl) (trivial) dX0_sure_43
  · have h10 : ¬ ((refF σ row n_) = 0) := h10
    refine lv_iload hx hb dX0_sure_13 (lv_at hl 0 rfl) ?_
    exact cme_i hQ hx hb hr hlocks hK hN hP hS (by rw [sureF, if_neg h10]) (rfl) (trivial) dX0_sure_15

def rmX0_erase : Room := { frames := 0, cells := 0, slots := 0, locals := 0 }
set_option maxHeartbeats 1000000 in
theorem mt_X0_erase (l : Launch) (D : va_G) (dA : Nat → ClassId) (x : Nat) (ad : Nat → Nat) (μ : Lay) (σ : St) (ω : Om) (hcD : cD x ad μ) (hI : Inv σ) (hR : Rel dA μ σ) : Met l yX0_erase (ws_ yX0_erase cX0_erase 2 (some .int)) rmX0_erase (va_Pc [.ref x] (cB D dA x ad μ σ ω)) (cQ (some (.int (nI σ.len))) D dA x ad μ (erS σ) ω) 0 0 (cA x ad μ) := by
  refine w_start (by decide) (Nat.le_of_ble_eq_true rfl) ?_
  intro p e s m args below meth c Q ls hQ hx hb hr hlocks hml hown hnm hts hB hl
  have hown : s.vm.findClass RX0 = some m.cls := hown
  have hl : lv_has ls 2 [(0, .ref x)] := hl
  obtain ⟨hP, hK, hN⟩ := hB
  have hP : va_P D vwCl (cW dA x ad μ σ ω) s.heap := hP
  have hS : va_S (cA x ad μ) s.heap s.heap [] := va_S.rf
  refine lv_aload_n hx hb dX0_erase_0 rfl (lv_at hl 0 rfl) ?_
  refine va_get (D := D) (ci := 1) (v := .int (nI σ.len)) (C := RX0) (T := TX0) (N := 11) hx hb hts in_X0 hown hK hP 0 rfl rfl 7 (by decide) (hts _ q222) (fun _ h9 => h9) rfl dX0_erase_1 ?_
  refine lv_istore_n (lv' := [(1, .int (nI σ.len)), (0, .ref x)]) hx hb dX0_erase_4 rfl hl (by decide) rfl (fun ls hl => ?_)
  refine lv_aload_n hx hb dX0_erase_5 rfl (lv_at hl 1 rfl) ?_
  refine lv_iconst (v := 0) hx hb dX0_erase_6 rfl ?_
  refine va_put (D := D) (ci := 1) (v := .int (nI 0)) (ty := .int) (C := RX0) (T := TX0) (N := 11) hx hb hts in_X0 tyX0 tyX0_ok nmX0 hown hK hP (cD_va hcD dA σ ω) hS 0 rfl rfl 7 (by decide) (hts _ q222) (fun _ h9 => h9) rfl (by decide +kernel) rfl rfl (Nat.le_of_ble_eq_true rfl) dX0_erase_7 (fun H locs hP _ hS => ?_)
  have hP : va_P D vwCl (cW dA x ad μ (σ.s_len 0) ω) H := hP
  refine lv_iload_n hx hb dX0_erase_10 rfl (lv_at hl 0 rfl) ?_
  exact cm_i hQ hx hb hr hlocks hK hN hP hS (rfl) (rfl) (rfl) dX0_erase_11

def rmX0_write : Room := { frames := 1, cells := 0, slots := 0, locals := 25 }
set_option maxHeartbeats 1000000 in
theorem mt_X0_write (l : Launch) (D : va_G) (dA : Nat → ClassId) (x : Nat) (ad : Nat → Nat) (μ : Lay) (σ : St) (ω : Om) (hcD : cD x ad μ) (b_ : Int64) (n_ : Int32) (hI : Inv σ) (hR : Rel dA μ σ) : Met l yX0_write (ws_ yX0_write cX0_write 5 (some .int)) rmX0_write (va_Pc [.ref x, .long b_, .int n_] (cB D dA x ad μ σ ω)) (cQ (some (.int (wrF σ n_))) D dA x ad μ (wrS σ b_ n_) ω) 0 0 (cA x ad μ) := by
  refine w_start (by decide) (Nat.le_of_ble_eq_true rfl) ?_
  intro p e s m args below meth c Q ls hQ hx hb hr hlocks hml hown hnm hts hB hl
  have hown : s.vm.findClass RX0 = some m.cls := hown
  have hl : lv_has ls 5 [(0, .ref x), (1, .long b_), (3, .int n_)] := hl
  obtain ⟨hP, hK, hN⟩ := hB
  have hP : va_P D vwCl (cW dA x ad μ σ ω) s.heap := hP
  have hS : va_S (cA x ad μ) s.heap s.heap [] := va_S.rf
  have hlen := hI.len
  refine lv_iload_n hx hb dX0_write_0 rfl (lv_at hl 2 rfl) ?_
  refine lv_i2l (v := (n_ : Int32).toInt64) hx hb dX0_write_1 rfl ?_
  refine lv_lconst (v := 1) hx hb dX0_write_2 rfl ?_
  refine lv_ldc2 (v := 8) hx hb hown (hts _ q253) dX0_write_3 ?_
  refine cSi (As := [.long ((n_ : Int32).toInt64), .long 1, .long 8]) (rest := []) ⟨hx, hb, hml, hown, hts⟩ (mt_X0_in l ((n_ : Int32).toInt64) 1 8) (cw_X0_X0_in hts ⟨Nat.le_of_ble_eq_true rfl, Nat.le_of_ble_eq_true rfl⟩) w_blT (fun _ _ _ => trivial) rfl hl.1 rfl (Nat.le_of_ble_eq_true rfl) dX0_write_6 ⟨Nat.le_of_ble_eq_true rfl, Nat.le_of_ble_eq_true rfl⟩ ?_
  refine lv_if_ne (tgt := 15) hx hb dX0_write_9 rfl (fun h9 => ?_) (fun h9 => ?_)
  · have h9 : inP ((n_ : Int32).toInt64) 1 8 := b01_n h9
    obtain ⟨j, hj1, hj, rfl⟩ := in18 h9
    have hix : ix (nI j) = j := ix_nI (Nat.lt_succ_of_le hj) (by decide)
    refine lv_aload_n hx hb dX0_write_15 rfl (lv_at hl 0 rfl) ?_
    refine va_get (D := D) (ci := 1) (v := .int (nI σ.len)) (C := RX0) (T := TX0) (N := 11) hx hb hts in_X0 hown hK hP 0 rfl rfl 7 (by decide) (hts _ q222) (fun _ h9 => h9) rfl dX0_write_16 ?_
    refine lv_iload_n hx hb dX0_write_19 rfl (lv_at hl 2 rfl) ?_
    refine lv_iadd hx hb dX0_write_20 ?_
    refine lv_aload_n hx hb dX0_write_21 rfl (lv_at hl 0 rfl) ?_
    refine va_get (D := D) (ci := 1) (v := .ref (ad 3)) (C := RX0) (T := TX0) (N := 11) hx hb hts in_X0 hown hK hP 0 rfl rfl 6 (by decide) (hts _ q220) (fun _ h9 => h9) rfl dX0_write_22 ?_
    refine va_alen (v := nI 200) hx hb hK hP 4 1 rfl rfl rfl dX0_write_25 ?_
    refine lv_icmp_le (tgt := 32) hx hb dX0_write_26 rfl (fun h26 => ?_) (fun h26 => ?_)
    · have h26 : (σ.len + j) ≤ 200 := (nz_le (a := σ.len + j) (b := 200) (nz_add rfl rfl) rfl (by omega) (by omega)).mp h26
      refine lv_iconst (v := 0) hx hb dX0_write_32 rfl ?_
      refine lv_istore (lv' := [(4, .int 0), (0, .ref x), (1, .long b_), (3, .int (nI j))]) hx hb dX0_write_33 hl (by decide) rfl (fun ls hl => ?_)
      have hL35_1 : ∀ (n_2 : Nat) (k : Nat) (x4 : Int32) (ls : Array Slot) (H : Heap) (locs : List Loc), (8 - k) < n_2 → (k ≤ j) → x4 = (nI k) → lv_has ls 5 [(4, .int x4), (0, .ref x), (1, .long b_), (3, .int (nI j))] → va_P D vwCl (cW dA x ad μ ((σ.s_txt (wrT σ b_ k)).s_len (σ.len + k)) ω) H → va_S (cA x ad μ) s.heap H locs → W p l e rmX0_write s m args below meth c H locs 0 0 Q (F0 m 35 ls []) := by
        intro n_2
        induction n_2 with
        | zero => intro k x4 ls H locs hm_4; exact absurd hm_4 (Nat.not_lt_zero _)
        | succ n_2 ih_3 =>
          intro k x4 ls H locs hm_4 hk ex4 hl hP hS
          subst ex4
          refine lv_iload hx hb dX0_write_35 (lv_at hl 0 rfl) ?_
          refine lv_iload_n hx hb dX0_write_37 rfl (lv_at hl 3 rfl) ?_
          refine lv_icmp_ge (tgt := 72) hx hb dX0_write_38 rfl (fun h38 => ?_) (fun h38 => ?_)
          · have h38 : j ≤ k := (nz_le (a := j) (b := k) rfl rfl (by omega) (by omega)).mp h38
            obtain rfl : k = j := by omega
            refine lv_aload_n hx hb dX0_write_72 rfl (lv_at hl 1 rfl) ?_
            refine va_get (D := D) (ci := 1) (v := .int (nI (σ.len + k))) (C := RX0) (T := TX0) (N := 11) hx hb hts in_X0 hown hK hP 0 rfl rfl 7 (by decide) (hts _ q222) (fun _ h9 => h9) rfl dX0_write_73 ?_
            exact cm_i hQ hx hb hr hlocks hK hN hP hS (by rw [wrF, if_pos h9, hix, if_pos h26]) (by rw [wrS, if_pos h9, hix, if_pos h26]) (rfl) dX0_write_76
          · have h38 : ¬ (j ≤ k) := fun z9 => h38 ((nz_le (a := j) (b := k) rfl rfl (by omega) (by omega)).mpr z9)
            refine lv_aload_n hx hb dX0_write_41 rfl (lv_at hl 1 rfl) ?_
            refine va_get (D := D) (ci := 1) (v := .ref (ad 3)) (C := RX0) (T := TX0) (N := 11) hx hb hts in_X0 hown hK hP 0 rfl rfl 6 (by decide) (hts _ q220) (fun _ h9 => h9) rfl dX0_write_42 ?_
            refine lv_aload_n hx hb dX0_write_45 rfl (lv_at hl 1 rfl) ?_
            refine lv_dup hx hb dX0_write_46 rfl ?_
            refine va_get (D := D) (ci := 1) (v := .int (nI (σ.len + k))) (C := RX0) (T := TX0) (N := 11) hx hb hts in_X0 hown hK hP 0 rfl rfl 7 (by decide) (hts _ q222) (fun _ h9 => h9) rfl dX0_write_47 ?_
            refine lv_dup_x1 hx hb dX0_write_50 rfl rfl ?_
            refine lv_iconst (v := 1) hx hb dX0_write_51 rfl ?_
            refine lv_iadd hx hb dX0_write_52 ?_
            refine w_topi (nz_add rfl rfl) ?_
            refine va_put (D := D) (ci := 1) (v := .int (nI ((σ.len + k) + 1))) (ty := .int) (C := RX0) (T := TX0) (N := 11) hx hb hts in_X0 tyX0 tyX0_ok nmX0 hown hK hP (cD_va hcD dA ((σ.s_txt (wrT σ b_ k)).s_len (σ.len + k)) ω) hS 0 rfl rfl 7 (by decide) (hts _ q222) (fun _ h9 => h9) rfl (by decide +kernel) rfl rfl (Nat.le_of_ble_eq_true rfl) dX0_write_53 (fun H locs hP _ hS => ?_)
            have hP : va_P D vwCl (cW dA x ad μ ((σ.s_txt (wrT σ b_ k)).s_len ((σ.len + k) + 1)) ω) H := hP
            refine lv_lload_n hx hb dX0_write_56 rfl (lv_at hl 2 rfl) ?_
            refine lv_bipush (v := 8) hx hb dX0_write_57 rfl ?_
            refine lv_iload hx hb dX0_write_59 (lv_at hl 0 rfl) ?_
            refine lv_imul hx hb dX0_write_61 ?_
            refine lv_lshr (v := b_ >>> ((8 * (nI k) : Int32).toInt64 &&& 63)) hx hb dX0_write_62 rfl ?_
            refine lv_l2i (v := (b_ >>> ((8 * (nI k) : Int32).toInt64 &&& 63) : Int64).toInt32) hx hb dX0_write_63 rfl ?_
            refine lv_i2b (v := ((b_ >>> ((8 * (nI k) : Int32).toInt64 &&& 63) : Int64).toInt32 : Int32).toInt8.toInt32) hx hb dX0_write_64 rfl ?_
            refine wc_bast (σ := ((σ.s_txt (wrT σ b_ k)).s_len ((σ.len + k) + 1))) (j := σ.len + k) (z := ((b_ >>> (((8 * nI k : Int32)).toInt64 &&& 63)) &&& 255).toInt32) hcD hx hb hK hP hS (rfl) (by omega) (byte_eq _) dX0_write_65 (fun H locs hP hS => ?_)
            have hP : va_P D vwCl (cW dA x ad μ ((σ.s_txt (upd (wrT σ b_ k) (σ.len + k) (((b_ >>> (((8 * nI k : Int32)).toInt64 &&& 63)) &&& 255).toInt32))).s_len ((σ.len + k) + 1)) ω) H := hP
            refine lv_iinc (v := nI (k + 1)) (lv' := [(4, .int (nI (k + 1))), (0, .ref x), (1, .long b_), (3, .int (nI j))]) hx hb dX0_write_66 hl (k := 0) rfl (nI_1 k) (by decide) rfl (fun ls hl => ?_)
            refine lv_goto (tgt := 35) hx hb dX0_write_69 rfl ?_
            exact ih_3 (k + 1) (nI (k + 1)) ls _ _ (by omega) (by omega) rfl (lv_sub hl [0, 1, 2, 3] rfl) hP hS
      exact hL35_1 _ 0 0 ls _ _ (Nat.lt_succ_self _) (by omega) rfl (lv_sub hl [0, 1, 2, 3] rfl) hP hS
    · have h26 : ¬ ((σ.len + j) ≤ 200) := fun z9 => h26 ((nz_le (a := σ.len + j) (b := 200) (nz_add rfl rfl) rfl (by omega) (by omega)).mpr z9)
      refine lv_bipush (v := (-5)) hx hb dX0_write_29 rfl ?_
      exact cm_i hQ hx hb hr hlocks hK hN hP hS (by rw [wrF, if_pos h9, hix, if_neg h26]) (by rw [wrS, if_pos h9, hix, if_neg h26]) (rfl) dX0_write_31
  · have h9 : ¬ (inP ((n_ : Int32).toInt64) 1 8) := b01_0.mp h9
    refine lv_bipush (v := (-3)) hx hb dX0_write_12 rfl ?_
    exact cm_i hQ hx hb hr hlocks hK hN hP hS (by rw [wrF, if_neg h9]) (by rw [wrS, if_neg h9]) (rfl) dX0_write_14
