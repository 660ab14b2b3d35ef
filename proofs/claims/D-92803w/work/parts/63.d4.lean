/-! CELLS MADE 4: lists that grow -/
set_option maxRecDepth 100000
/-- what an array of visits names is there, and none of the world's own cells -/
def anyE (g : Nat → Option Nat) (n : Nat) (L : va_W) (sz : Nat) (U : State) : Prop := ∀ i, i < n → ∀ y, g i = some y → (∃ cell : Cell, U.heap[y]? = some cell ∧ cell.vm.isStatics = false ∧ U.vm.findClass "CarryUp$Visit" = some cell.cls) ∧ ¬ va_A L sz y
theorem any_bw {D : va_G} {dA : Nat → ClassId} {κ : KZ} {L : va_W} {sz : Nat} {g : Nat → Option Nat} {n : Nat} : w_bw (fun U => aB D dA κ L sz U ∧ anyE g n L sz U) := fun U U' e w q => ⟨aB_bw U U' e w q.1, fun i hi y hy => by
  obtain ⟨⟨cell, h1, h2, h3⟩, h4⟩ := q.2 i hi y hy
  exact ⟨⟨cell, by rw [e]; exact h1, h2, by rw [w.alike.findClass]; exact h3⟩, h4⟩⟩
theorem any_el {s : State} {H : Heap} {locs : List Loc} {L : va_W} {g : Nat → Option Nat} {n i y : Nat} (hY : anyE g n L s.heap.size s) (hS : va_S (va_A L s.heap.size) s.heap H locs) (hi : i < n) (hy : g i = some y) : ∃ cell : Cell, H[y]? = some cell ∧ cell.vm.isStatics = false ∧ s.vm.findClass "CarryUp$Visit" = some cell.cls := by
  obtain ⟨⟨cell, h1, h2, h3⟩, h4⟩ := hY i hi y hy
  exact ⟨cell, by rw [hS.2.1 y (Array.getElem?_eq_some_iff.mp h1).1 h4]; exact h1, h2, h3⟩
theorem any_cp {s : State} {H : Heap} {locs : List Loc} {L : va_W} {g : Nat → Option Nat} {n N i y : Nat} (hY : anyE g n L s.heap.size s) (hS : va_S (va_A L s.heap.size) s.heap H locs) (hN : N < 2 ^ 31) (hNn : N ≤ n) (hi : i < (nI N).toNatClampNeg) (hy : g ((0 : Int32).toNatClampNeg + i) = some y) : ∃ cell : Cell, H[y]? = some cell ∧ cell.vm.isStatics = false ∧ s.vm.findClass "CarryUp$Visit" = some cell.cls := by
  rw [nI_clamp hN] at hi
  rw [show (0 : Int32).toNatClampNeg = 0 from rfl, Nat.zero_add] at hy
  exact any_el hY hS (by omega) hy
theorem any_now {s : State} {H : Heap} {locs : List Loc} {L wc : va_W} {g : Nat → Option Nat} {n : Nat} (hY : anyE g n L s.heap.size s) (hS : va_S (va_A L s.heap.size) s.heap H locs) (hsub : ∀ q, va_A wc H.size q → va_A L s.heap.size q) : ∀ U : State, U.heap = H → s.WarmedH U.vm → anyE g n wc H.size U := by
  intro U hU hW i hi y hy
  obtain ⟨cell, h1, h2, h3⟩ := any_el hY hS hi hy
  exact ⟨⟨cell, by rw [hU]; exact h1, h2, by rw [hW.alike.findClass]; exact h3⟩, fun z => (hY i hi y hy).2 (hsub y z)⟩
theorem cast_asg {C E : String} {s : State} (h : va_Nw (.castable C E) s) : ∀ comp c0 : ClassId, s.vm.findClass E = some comp → s.vm.findClass C = some c0 → s.vm.assignable c0 comp = true := by
  intro comp c0 h1 h2
  obtain ⟨c1, t1, f1, f2, f3⟩ := Cond.castable_spec (va_Nw.use (A := #[]) rfl h)
  cases f1.symm.trans h2
  cases f2.symm.trans h1
  exact f3
theorem arr_recv {D : va_G} {dA : Nat → ClassId} {s : State} {H : Heap} {ws : va_W} {a n : Nat} {g : Nat → Option Nat} (hK : va_K D vwCl (vwTy dA) s) (hP : va_P D vwCl ws H) (q : Nat) (hq : ws[q]? = some (a, .inl (dA 3, rfs n g))) : ∃ cell : Cell, H[a]? = some cell ∧ cell.vm.isStatics = false ∧ s.vm.findClass "[Ljava/lang/Object;" = some cell.cls := by
  have h := hP q _ hq
  obtain ⟨_, _, _, _, _, hf⟩ := (hK.2 3 _ rfl).2
  exact ⟨_, h, rfl, hf⟩
section AX
variable {p : Program} {l : Launch} {e : Env} {R : Room} {s : State} {m : MethodId} {args : Array Value} {below : List Frame} {meth : Method} {c : Code} {H : Heap} {locs : List Loc} {cells slots : Nat} {Q : State → Prop}
variable {y x : MethodName} {bytes cc : ByteArray} {maxL nL n index mc ms : Nat} {ret : Option FieldType} {rm : Room} {Ts wds : List Cond} {own C owner : String} {b : Addr} {As rest st0 : List Value} {pc : Nat} {ls : Array Slot}
variable {D : va_G} {dA : Nat → ClassId} {κ : KZ} {ws wc wr : va_W} {A : Nat → Prop} {S : Type} {f : S → Option Value × va_W} {g : Nat → Option Nat} {ng : Nat}
theorem aVx (S0 : CallFix p m c cc nL s args Ts own) (hM : Met l y wds rm (va_Pc (.ref b :: As) (fun U => aB D dA κ wc H.size U ∧ anyE g ng wc H.size U)) (aQ f D wc H.size) mc ms (va_A wc H.size)) (cw : CallW R s args own C index y bytes maxL ret wds rm mc ms n) (hnow : ∀ U : State, U.heap = H → s.WarmedH U.vm → aB D dA κ wc H.size U ∧ anyE g ng wc H.size U) (hrc : ∃ cellB : Cell, H[b]? = some cellB ∧ cellB.vm.isStatics = false ∧ s.vm.findClass C = some cellB.cls)
    (hn : As.length = n) (hsize : ls.size = nL) (hst : st0 = As.reverse ++ .ref b :: rest) (hW : (rest.map fun v => v.category).sum ≤ 8) (hdg : decode cc pc = .ok (.invokevirtual index, 3)) (hf : cells + mc ≤ R.cells ∧ slots + ms ≤ R.slots) (hP : va_P D vwCl ws H) (hD : va_D A ws) (hS : va_S A s.heap H locs) (hA : ∀ q, s.heap.size ≤ q → A q) (isC isR : List Nat) (hC : isC.map (fun i => ws[i]?) = wc.map some) (hR : isR.map (fun i => ws[i]?) = wr.map some) (hnR : va_nd isR = true) (hdis : ∀ i ∈ isR, i ∉ isC)
    (kk : ∀ (u : S) (H1 : Heap) (locs1 : List Loc), va_P D vwCl (wr ++ (f u).2) H1 → va_D A (wr ++ (f u).2) → va_S A s.heap H1 locs1 → W p l e R s m args below meth c H1 locs1 (cells + mc) (slots + ms) Q (F0 m (pc + 3) ls ((f u).1.toList ++ rest))) : W p l e R s m args below meth c H locs cells slots Q (F0 m pc ls st0) :=
  a_go (va_runV (As := As) (rest := rest) S0 hM cw ⟨any_bw.blind _, hrc, fun U hU hW => ⟨rfl, hnow U hU hW⟩⟩ rfl hn hsize hst (lv_room hW) hdg hf) hP hD hS hA isC isR hC hR hnR hdis kk
theorem aSx (S0 : CallFix p m c cc nL s args Ts own) (hM : Met l y wds rm (va_Pc As (fun U => aB D dA κ wc H.size U ∧ anyE g ng wc H.size U)) (aQ f D wc H.size) mc ms (va_A wc H.size)) (cw : CallB R s args own index y bytes maxL ret wds rm mc ms n ∧ (Cond.static y).before args s = true) (hnow : ∀ U : State, U.heap = H → s.WarmedH U.vm → aB D dA κ wc H.size U ∧ anyE g ng wc H.size U)
    (hn : As.length = n) (hsize : ls.size = nL) (hst : st0 = As.reverse ++ rest) (hW : (rest.map fun v => v.category).sum ≤ 8) (hdg : decode cc pc = .ok (.invokestatic index, 3)) (hf : cells + mc ≤ R.cells ∧ slots + ms ≤ R.slots) (hP : va_P D vwCl ws H) (hD : va_D A ws) (hS : va_S A s.heap H locs) (hA : ∀ q, s.heap.size ≤ q → A q) (isC isR : List Nat) (hC : isC.map (fun i => ws[i]?) = wc.map some) (hR : isR.map (fun i => ws[i]?) = wr.map some) (hnR : va_nd isR = true) (hdis : ∀ i ∈ isR, i ∉ isC)
    (kk : ∀ (u : S) (H1 : Heap) (locs1 : List Loc), va_P D vwCl (wr ++ (f u).2) H1 → va_D A (wr ++ (f u).2) → va_S A s.heap H1 locs1 → W p l e R s m args below meth c H1 locs1 (cells + mc) (slots + ms) Q (F0 m (pc + 3) ls ((f u).1.toList ++ rest))) : W p l e R s m args below meth c H locs cells slots Q (F0 m pc ls st0) :=
  a_go (va_runS (As := As) (rest := rest) S0 hM cw ⟨any_bw.blind _, fun U hU hW => ⟨rfl, hnow U hU hW⟩⟩ rfl hn hsize hst (lv_room hW) hdg hf) hP hD hS hA isC isR hC hR hnR hdis kk
end AX
theorem mx1 {h : Nat} (h1 : 1 ≤ h) (h2 : h ≤ 100) : (if nI 1 < nI h then nI h else nI 1) = nI h := by
  by_cases q : nI 1 < nI h
  · rw [if_pos q]
  · rw [if_neg q]
    have : ¬ 1 < h := fun z => q ((nI_ltI (a := 1) (b := h) (by omega) (by omega)).mpr z)
    congr 1; omega

def rmJ7_newLength : Room := { frames := 1, cells := 0, slots := 0, locals := 29 }
set_option maxHeartbeats 1000000 in
theorem mt_J7_newLength (l : Launch) (n_ : Nat) (h_ : Nat) (h1 : 1 ≤ h_) (h2 : h_ ≤ 100) (h3 : n_ ≤ 100) : Met l yJ7_newLength (ws_ yJ7_newLength cJ7_newLength 4 (some .int)) rmJ7_newLength (va_Pc [.int (nI n_), .int (nI 1), .int (nI h_)] (fun _ => True)) (vp_Si (fun r => r = nI (n_ + h_))) 0 0 (fun _ => False) := by
  refine w_start (by decide) (Nat.le_of_ble_eq_true rfl) ?_
  intro p e s m args below meth c Q ls hQ hx hb hr hlocks hml hown hnm hts hB hl
  have hown : s.vm.findClass RJ7 = some m.cls := hown
  have hl : lv_has ls 4 [(0, .int (nI n_)), (1, .int (nI 1)), (2, .int (nI h_))] := hl
  refine lv_iload_n hx hb dJ7_newLength_0 rfl (lv_at hl 0 rfl) ?_
  refine lv_iload_n hx hb dJ7_newLength_1 rfl (lv_at hl 1 rfl) ?_
  refine lv_iload_n hx hb dJ7_newLength_2 rfl (lv_at hl 2 rfl) ?_
  refine va_mmax hx hb (hml.trans hl.1.symm) hown (hts _ q366) (hts _ q367) (hts _ q90) (hts _ q368) (Nat.le_of_ble_eq_true rfl) (Nat.le_of_ble_eq_true rfl) (Nat.le_of_ble_eq_true rfl) (Nat.le_of_ble_eq_true rfl) dJ7_newLength_3 ?_
  refine w_topi (y := nI h_) (mx1 h1 h2) ?_
  refine lv_iadd hx hb dJ7_newLength_6 ?_
  refine w_topi (nz_add rfl rfl) ?_
  refine lv_istore_n (lv' := [(3, .int (nI (n_ + h_))), (0, .int (nI n_)), (1, .int (nI 1)), (2, .int (nI h_))]) hx hb dJ7_newLength_7 rfl hl (by decide) rfl (fun ls hl => ?_)
  refine lv_iconst (v := 0) hx hb dJ7_newLength_8 rfl ?_
  refine lv_iload_n hx hb dJ7_newLength_9 rfl (lv_at hl 0 rfl) ?_
  refine lv_icmp_ge (tgt := 21) hx hb dJ7_newLength_10 rfl (fun h10 => ?_) (fun h10 => ?_)
  · have h10 : (n_ + h_) ≤ 0 := (nz_le (a := n_ + h_) (b := 0) rfl rfl (by omega) (by omega)).mp h10
    exact absurd h10 (by omega)
  · have h10 : ¬ ((n_ + h_) ≤ 0) := fun z9 => h10 ((nz_le (a := n_ + h_) (b := 0) rfl rfl (by omega) (by omega)).mpr z9)
    refine lv_iload_n hx hb dJ7_newLength_13 rfl (lv_at hl 0 rfl) ?_
    refine lv_ldc (v := 2147483639) hx hb hown (hts _ q369) dJ7_newLength_14 ?_
    refine lv_icmp_gt (tgt := 21) hx hb dJ7_newLength_16 rfl (fun h16 => ?_) (fun h16 => ?_)
    · have h16 : 2147483639 < (n_ + h_) := (nz_lt (a := 2147483639) (b := n_ + h_) rfl rfl (by omega) (by omega)).mp h16
      exact absurd h16 (by omega)
    · have h16 : ¬ (2147483639 < (n_ + h_)) := fun z9 => h16 ((nz_lt (a := 2147483639) (b := n_ + h_) rfl rfl (by omega) (by omega)).mpr z9)
      refine lv_iload_n hx hb dJ7_newLength_19 rfl (lv_at hl 0 rfl) ?_
      exact r_i hQ hx hb hr hlocks rfl (rfl) dJ7_newLength_20

def rmJ9_copyOf_3_A : Room := { frames := 1, cells := 1, slots := 15, locals := 60 }
set_option maxHeartbeats 1000000 in
theorem mt_J9_copyOf_3_A (l : Launch) (D : va_G) (dA : Nat → ClassId) (κ : KZ) (sz : Nat) (e_ : Nat) (g_ : Nat → Option Nat) : Met l yJ9_copyOf_3 (ws_ yJ9_copyOf_3 cJ9_copyOf_3 4 (some (.array (.object "java/lang/Object")))) rmJ9_copyOf_3_A (va_Pc [.ref e_, .int (nI 15), .ref (κ.2.1 7)] (fun U => aB D dA κ [(e_, .inl (dA 3, rfs 10 g_))] sz U ∧ anyE g_ 10 [(e_, .inl (dA 3, rfs 10 g_))] sz U)) (aQ (fun (q_ : Nat) => ((some (.ref q_)), [(e_, .inl (dA 3, rfs 10 g_)), (q_, .inl (dA 3, rfs 15 (va_cpy g_ (fun _ => none) 0 0 10)))])) D [(e_, .inl (dA 3, rfs 10 g_))] sz) 1 15 (va_A [(e_, .inl (dA 3, rfs 10 g_))] sz) := by
  refine w_start (by decide) (Nat.le_of_ble_eq_true rfl) ?_
  intro p e s m args below meth c Q ls hQ hx hb hr hlocks hml hown hnm hts hB hl
  have hown : s.vm.findClass RJ9 = some m.cls := hown
  have hl : lv_has ls 4 [(0, .ref e_), (1, .int (nI 15)), (2, .ref (κ.2.1 7))] := hl
  obtain ⟨⟨hP, hD, hK, hZ, hk0, hge, rfl⟩, hY⟩ := hB
  have hA : ∀ q : Nat, s.heap.size ≤ q → va_A [(e_, .inl (dA 3, rfs 10 g_))] s.heap.size q := fun q h => Or.inr h
  have hAn : ∀ q : Nat, va_A [(e_, .inl (dA 3, rfs 10 g_))] s.heap.size q → κ.1 ≤ q := fun q h => by
    rcases h with ⟨k, e, h⟩ | h
    · exact hge k _ h
    · exact Nat.le_trans hk0 h
  have hS : va_S (va_A [(e_, .inl (dA 3, rfs 10 g_))] s.heap.size) s.heap s.heap [] := va_S.rf
  have hP : va_P D vwCl [(e_, .inl (dA 3, rfs 10 g_))] s.heap := hP
  have hD : va_D (va_A [(e_, .inl (dA 3, rfs 10 g_))] s.heap.size) [(e_, .inl (dA 3, rfs 10 g_))] := hD
  refine lv_aload_n hx hb dJ9_copyOf_3_0 rfl (lv_at hl 2 rfl) ?_
  refine va_ldcM hx hb hown (hts _ q799) hZ.2.2.2.1 dJ9_copyOf_3_1 ?_
  refine lv_acmp_ne (rx := some (κ.2.1 7)) (ry := some (κ.2.1 7)) (tgt := 13) hx hb dJ9_copyOf_3_3 rfl (fun h9 => ?_) (fun h9 => ?_)
  · exact absurd rfl h9
  refine lv_iload_n hx hb dJ9_copyOf_3_6 rfl (lv_at hl 1 rfl) ?_
  refine va_newq (D := D) (n := nI 15) (N' := 15) hx hb hown (hts _ q800) hZ.2.2.1 hK hP hD hS hA (nI_pos (by omega)) (nI_clamp (by omega)) (by omega) (Nat.le_of_ble_eq_true rfl) (Nat.le_of_ble_eq_true rfl) dJ9_copyOf_3_7 (fun q_1 cA H hK9 hP hD hS => ?_)
  obtain rfl : cA = dA 3 := ra_uniq (hK9.2 7 _ rfl).2 (hK.2 3 _ rfl).2
  clear hK9
  have hP : va_P D vwCl [(e_, .inl (dA 3, rfs 10 g_)), (q_1, .inl (dA 3, rfs 15 (fun _ => none)))] H := hP
  have hD : va_D (va_A [(e_, .inl (dA 3, rfs 10 g_))] s.heap.size) [(e_, .inl (dA 3, rfs 10 g_)), (q_1, .inl (dA 3, rfs 15 (fun _ => none)))] := hD
  refine lv_goto (tgt := 24) hx hb dJ9_copyOf_3_10 rfl ?_
  refine lv_astore_n (lv' := [(3, .ref q_1), (0, .ref e_), (1, .int (nI 15)), (2, .ref (κ.2.1 7))]) hx hb dJ9_copyOf_3_24 rfl hl (by decide) rfl (fun ls hl => ?_)
  refine lv_aload_n hx hb dJ9_copyOf_3_25 rfl (lv_at hl 1 rfl) ?_
  refine lv_iconst (v := 0) hx hb dJ9_copyOf_3_26 rfl ?_
  refine lv_aload_n hx hb dJ9_copyOf_3_27 rfl (lv_at hl 0 rfl) ?_
  refine lv_iconst (v := 0) hx hb dJ9_copyOf_3_28 rfl ?_
  refine lv_aload_n hx hb dJ9_copyOf_3_29 rfl (lv_at hl 1 rfl) ?_
  refine va_alen (v := nI 10) hx hb hK hP 0 3 rfl rfl rfl dJ9_copyOf_3_30 ?_
  refine lv_iload_n hx hb dJ9_copyOf_3_31 rfl (lv_at hl 2 rfl) ?_
  refine va_mmin hx hb (hml.trans hl.1.symm) hown (hts _ q384) (hts _ q385) (hts _ q90) (hts _ q386) (Nat.le_of_ble_eq_true rfl) (Nat.le_of_ble_eq_true rfl) (Nat.le_of_ble_eq_true rfl) (Nat.le_of_ble_eq_true rfl) dJ9_copyOf_3_32 ?_
  refine w_topi (y := nI 10) (by decide) ?_
  refine va_copyq (D := D) (C := "CarryUp$Visit") (sp := 0) (dp := 0) (n := nI 10) hx hb (hml.trans hl.1.symm) hown (hts _ q387) (hts _ q389) (hts _ q388) (hts _ q92) hK hP hD hS 0 1 3 3 rfl rfl rfl rfl (by decide) (by decide) (by decide) (by decide) (by decide) (fun i hi y hy => any_cp hY hS (by decide) (by decide) hi hy) (cast_asg (hZ.2.1 ("CarryUp$Visit", "java/lang/Object") (by decide))) (Nat.le_of_ble_eq_true rfl) (Nat.le_of_ble_eq_true rfl) dJ9_copyOf_3_35 (fun H locs hP hD hS => ?_)
  rw [nI_clamp (by omega)] at hP hD
  have hP : va_P D vwCl [(e_, .inl (dA 3, rfs 10 g_)), (q_1, .inl (dA 3, rfs 15 (va_cpy g_ (fun _ => none) 0 0 10)))] H := hP
  have hD : va_D (va_A [(e_, .inl (dA 3, rfs 10 g_))] s.heap.size) [(e_, .inl (dA 3, rfs 10 g_)), (q_1, .inl (dA 3, rfs 15 (va_cpy g_ (fun _ => none) 0 0 10)))] := hD
  refine lv_aload_n hx hb dJ9_copyOf_3_38 rfl (lv_at hl 0 rfl) ?_
  exact ar_a q_1 hQ hx hb hr (Or.inr ⟨_, rfl⟩) hlocks hP hD hS (Nat.le_of_ble_eq_true rfl) (Nat.le_of_ble_eq_true rfl) (rfl) [0, 1] (rfl) (rfl) rfl dJ9_copyOf_3_39

theorem cw_J9_J9_copyOf_3_A {R : Room} {s : State} {args : Array Value} (hts : ∀ w ∈ lw_all, w.before args s = true) (hR : rmJ9_copyOf_3_A.frames + 1 ≤ R.frames ∧ 8 + (4 + 11) + rmJ9_copyOf_3_A.locals ≤ R.locals) : CallB R s args RJ9 300 yJ9_copyOf_3 cJ9_copyOf_3 4 (some (.array (.object "java/lang/Object"))) (ws_ yJ9_copyOf_3 cJ9_copyOf_3 4 (some (.array (.object "java/lang/Object")))) rmJ9_copyOf_3_A 1 15 3 ∧ (Cond.static yJ9_copyOf_3).before args s = true := va_cwS 3 hts (lw_S q796 q797 q91 q798) rfl rfl rfl (by decide +kernel) hR
def rmJ9_copyOf_2_A : Room := { frames := 2, cells := 1, slots := 15, locals := 83 }
set_option maxHeartbeats 1000000 in
theorem mt_J9_copyOf_2_A (l : Launch) (D : va_G) (dA : Nat → ClassId) (κ : KZ) (sz : Nat) (e_ : Nat) (g_ : Nat → Option Nat) : Met l yJ9_copyOf_2 (ws_ yJ9_copyOf_2 cJ9_copyOf_2 2 (some (.array (.object "java/lang/Object")))) rmJ9_copyOf_2_A (va_Pc [.ref e_, .int (nI 15)] (fun U => aB D dA κ [(e_, .inl (dA 3, rfs 10 g_))] sz U ∧ anyE g_ 10 [(e_, .inl (dA 3, rfs 10 g_))] sz U)) (aQ (fun (q_ : Nat) => ((some (.ref q_)), [(e_, .inl (dA 3, rfs 10 g_)), (q_, .inl (dA 3, rfs 15 (va_cpy g_ (fun _ => none) 0 0 10)))])) D [(e_, .inl (dA 3, rfs 10 g_))] sz) 1 15 (va_A [(e_, .inl (dA 3, rfs 10 g_))] sz) := by
  refine w_start (by decide) (Nat.le_of_ble_eq_true rfl) ?_
  intro p e s m args below meth c Q ls hQ hx hb hr hlocks hml hown hnm hts hB hl
  have hown : s.vm.findClass RJ9 = some m.cls := hown
  have hl : lv_has ls 2 [(0, .ref e_), (1, .int (nI 15))] := hl
  obtain ⟨⟨hP, hD, hK, hZ, hk0, hge, rfl⟩, hY⟩ := hB
  have hA : ∀ q : Nat, s.heap.size ≤ q → va_A [(e_, .inl (dA 3, rfs 10 g_))] s.heap.size q := fun q h => Or.inr h
  have hAn : ∀ q : Nat, va_A [(e_, .inl (dA 3, rfs 10 g_))] s.heap.size q → κ.1 ≤ q := fun q h => by
    rcases h with ⟨k, e, h⟩ | h
    · exact hge k _ h
    · exact Nat.le_trans hk0 h
  have hS : va_S (va_A [(e_, .inl (dA 3, rfs 10 g_))] s.heap.size) s.heap s.heap [] := va_S.rf
  have hP : va_P D vwCl [(e_, .inl (dA 3, rfs 10 g_))] s.heap := hP
  have hD : va_D (va_A [(e_, .inl (dA 3, rfs 10 g_))] s.heap.size) [(e_, .inl (dA 3, rfs 10 g_))] := hD
  refine lv_aload_n hx hb dJ9_copyOf_2_0 rfl (lv_at hl 0 rfl) ?_
  refine lv_iload_n hx hb dJ9_copyOf_2_1 rfl (lv_at hl 1 rfl) ?_
  refine lv_aload_n hx hb dJ9_copyOf_2_2 rfl (lv_at hl 0 rfl) ?_
  refine va_getC (C := "[Ljava/lang/Object;") hx hb (hml.trans hl.1.symm) hown (hts _ q778) (va_Dc.use hZ.2.2.2.2.1) (hts _ q1567) (hts _ q779) (hts _ q795) hZ.2.2.2.1 (arr_recv hK hP 0 rfl) (Nat.le_of_ble_eq_true rfl) (Nat.le_of_ble_eq_true rfl) dJ9_copyOf_2_3 ?_
  refine aSx (wc := [(e_, .inl (dA 3, rfs 10 g_))]) (wr := []) (As := [.ref e_, .int (nI 15), .ref (κ.2.1 7)]) (rest := []) ⟨hx, hb, hml, hown, hts⟩ (mt_J9_copyOf_3_A l D dA κ s.heap.size e_ g_) (cw_J9_J9_copyOf_3_A hts ⟨Nat.le_of_ble_eq_true rfl, Nat.le_of_ble_eq_true rfl⟩) (fun U h1 h2 => ⟨a_now hK hZ hP hD hS hk0 hAn [0] rfl rfl rfl U h1 h2, any_now hY hS (va_free (wc := [(e_, .inl (dA 3, rfs 10 g_))]) hD hS hA [0] rfl) U h1 h2⟩) rfl hl.1 rfl (Nat.le_of_ble_eq_true rfl) dJ9_copyOf_2_6 ⟨Nat.le_of_ble_eq_true rfl, Nat.le_of_ble_eq_true rfl⟩ hP hD hS hA [0] [] rfl rfl rfl (by decide) (fun q__1 H locs hP hD hS => ?_)
  have hP : va_P D vwCl [(e_, .inl (dA 3, rfs 10 g_)), (q__1, .inl (dA 3, rfs 15 (va_cpy g_ (fun _ => none) 0 0 10)))] H := hP
  have hD : va_D (va_A [(e_, .inl (dA 3, rfs 10 g_))] s.heap.size) [(e_, .inl (dA 3, rfs 10 g_)), (q__1, .inl (dA 3, rfs 15 (va_cpy g_ (fun _ => none) 0 0 10)))] := hD
  change W p l e rmJ9_copyOf_2_A s m args below meth c H locs 1 15 Q (F0 m 9 ls [.ref q__1])
  exact ar_a q__1 hQ hx hb hr (Or.inr ⟨_, rfl⟩) hlocks hP hD hS (Nat.le_of_ble_eq_true rfl) (Nat.le_of_ble_eq_true rfl) (rfl) [0, 1] (rfl) (rfl) rfl dJ9_copyOf_2_9

def rmJ9_copyOf_3_B : Room := { frames := 1, cells := 1, slots := 22, locals := 60 }
set_option maxHeartbeats 1000000 in
theorem mt_J9_copyOf_3_B (l : Launch) (D : va_G) (dA : Nat → ClassId) (κ : KZ) (sz : Nat) (e_ : Nat) (g_ : Nat → Option Nat) : Met l yJ9_copyOf_3 (ws_ yJ9_copyOf_3 cJ9_copyOf_3 4 (some (.array (.object "java/lang/Object")))) rmJ9_copyOf_3_B (va_Pc [.ref e_, .int (nI 22), .ref (κ.2.1 7)] (fun U => aB D dA κ [(e_, .inl (dA 3, rfs 15 g_))] sz U ∧ anyE g_ 15 [(e_, .inl (dA 3, rfs 15 g_))] sz U)) (aQ (fun (q_ : Nat) => ((some (.ref q_)), [(e_, .inl (dA 3, rfs 15 g_)), (q_, .inl (dA 3, rfs 22 (va_cpy g_ (fun _ => none) 0 0 15)))])) D [(e_, .inl (dA 3, rfs 15 g_))] sz) 1 22 (va_A [(e_, .inl (dA 3, rfs 15 g_))] sz) := by
  refine w_start (by decide) (Nat.le_of_ble_eq_true rfl) ?_
  intro p e s m args below meth c Q ls hQ hx hb hr hlocks hml hown hnm hts hB hl
  have hown : s.vm.findClass RJ9 = some m.cls := hown
  have hl : lv_has ls 4 [(0, .ref e_), (1, .int (nI 22)), (2, .ref (κ.2.1 7))] := hl
  obtain ⟨⟨hP, hD, hK, hZ, hk0, hge, rfl⟩, hY⟩ := hB
  have hA : ∀ q : Nat, s.heap.size ≤ q → va_A [(e_, .inl (dA 3, rfs 15 g_))] s.heap.size q := fun q h => Or.inr h
  have hAn : ∀ q : Nat, va_A [(e_, .inl (dA 3, rfs 15 g_))] s.heap.size q → κ.1 ≤ q := fun q h => by
    rcases h with ⟨k, e, h⟩ | h
    · exact hge k _ h
    · exact Nat.le_trans hk0 h
  have hS : va_S (va_A [(e_, .inl (dA 3, rfs 15 g_))] s.heap.size) s.heap s.heap [] := va_S.rf
  have hP : va_P D vwCl [(e_, .inl (dA 3, rfs 15 g_))] s.heap := hP
  have hD : va_D (va_A [(e_, .inl (dA 3, rfs 15 g_))] s.heap.size) [(e_, .inl (dA 3, rfs 15 g_))] := hD
  refine lv_aload_n hx hb dJ9_copyOf_3_0 rfl (lv_at hl 2 rfl) ?_
  refine va_ldcM hx hb hown (hts _ q799) hZ.2.2.2.1 dJ9_copyOf_3_1 ?_
  refine lv_acmp_ne (rx := some (κ.2.1 7)) (ry := some (κ.2.1 7)) (tgt := 13) hx hb dJ9_copyOf_3_3 rfl (fun h9 => ?_) (fun h9 => ?_)
  · exact absurd rfl h9
  refine lv_iload_n hx hb dJ9_copyOf_3_6 rfl (lv_at hl 1 rfl) ?_
  refine va_newq (D := D) (n := nI 22) (N' := 22) hx hb hown (hts _ q800) hZ.2.2.1 hK hP hD hS hA (nI_pos (by omega)) (nI_clamp (by omega)) (by omega) (Nat.le_of_ble_eq_true rfl) (Nat.le_of_ble_eq_true rfl) dJ9_copyOf_3_7 (fun q_1 cA H hK9 hP hD hS => ?_)
  obtain rfl : cA = dA 3 := ra_uniq (hK9.2 7 _ rfl).2 (hK.2 3 _ rfl).2
  clear hK9
  have hP : va_P D vwCl [(e_, .inl (dA 3, rfs 15 g_)), (q_1, .inl (dA 3, rfs 22 (fun _ => none)))] H := hP
  have hD : va_D (va_A [(e_, .inl (dA 3, rfs 15 g_))] s.heap.size) [(e_, .inl (dA 3, rfs 15 g_)), (q_1, .inl (dA 3, rfs 22 (fun _ => none)))] := hD
  refine lv_goto (tgt := 24) hx hb dJ9_copyOf_3_10 rfl ?_
  refine lv_astore_n (lv' := [(3, .ref q_1), (0, .ref e_), (1, .int (nI 22)), (2, .ref (κ.2.1 7))]) hx hb dJ9_copyOf_3_24 rfl hl (by decide) rfl (fun ls hl => ?_)
  refine lv_aload_n hx hb dJ9_copyOf_3_25 rfl (lv_at hl 1 rfl) ?_
  refine lv_iconst (v := 0) hx hb dJ9_copyOf_3_26 rfl ?_
  refine lv_aload_n hx hb dJ9_copyOf_3_27 rfl (lv_at hl 0 rfl) ?_
  refine lv_iconst (v := 0) hx hb dJ9_copyOf_3_28 rfl ?_
  refine lv_aload_n hx hb dJ9_copyOf_3_29 rfl (lv_at hl 1 rfl) ?_
  refine va_alen (v := nI 15) hx hb hK hP 0 3 rfl rfl rfl dJ9_copyOf_3_30 ?_
  refine lv_iload_n hx hb dJ9_copyOf_3_31 rfl (lv_at hl 2 rfl) ?_
  refine va_mmin hx hb (hml.trans hl.1.symm) hown (hts _ q384) (hts _ q385) (hts _ q90) (hts _ q386) (Nat.le_of_ble_eq_true rfl) (Nat.le_of_ble_eq_true rfl) (Nat.le_of_ble_eq_true rfl) (Nat.le_of_ble_eq_true rfl) dJ9_copyOf_3_32 ?_
  refine w_topi (y := nI 15) (by decide) ?_
  refine va_copyq (D := D) (C := "CarryUp$Visit") (sp := 0) (dp := 0) (n := nI 15) hx hb (hml.trans hl.1.symm) hown (hts _ q387) (hts _ q389) (hts _ q388) (hts _ q92) hK hP hD hS 0 1 3 3 rfl rfl rfl rfl (by decide) (by decide) (by decide) (by decide) (by decide) (fun i hi y hy => any_cp hY hS (by decide) (by decide) hi hy) (cast_asg (hZ.2.1 ("CarryUp$Visit", "java/lang/Object") (by decide))) (Nat.le_of_ble_eq_true rfl) (Nat.le_of_ble_eq_true rfl) dJ9_copyOf_3_35 (fun H locs hP hD hS => ?_)
  rw [nI_clamp (by omega)] at hP hD
  have hP : va_P D vwCl [(e_, .inl (dA 3, rfs 15 g_)), (q_1, .inl (dA 3, rfs 22 (va_cpy g_ (fun _ => none) 0 0 15)))] H := hP
  have hD : va_D (va_A [(e_, .inl (dA 3, rfs 15 g_))] s.heap.size) [(e_, .inl (dA 3, rfs 15 g_)), (q_1, .inl (dA 3, rfs 22 (va_cpy g_ (fun _ => none) 0 0 15)))] := hD
  refine lv_aload_n hx hb dJ9_copyOf_3_38 rfl (lv_at hl 0 rfl) ?_
  exact ar_a q_1 hQ hx hb hr (Or.inr ⟨_, rfl⟩) hlocks hP hD hS (Nat.le_of_ble_eq_true rfl) (Nat.le_of_ble_eq_true rfl) (rfl) [0, 1] (rfl) (rfl) rfl dJ9_copyOf_3_39

theorem cw_J9_J9_copyOf_3_B {R : Room} {s : State} {args : Array Value} (hts : ∀ w ∈ lw_all, w.before args s = true) (hR : rmJ9_copyOf_3_B.frames + 1 ≤ R.frames ∧ 8 + (4 + 11) + rmJ9_copyOf_3_B.locals ≤ R.locals) : CallB R s args RJ9 300 yJ9_copyOf_3 cJ9_copyOf_3 4 (some (.array (.object "java/lang/Object"))) (ws_ yJ9_copyOf_3 cJ9_copyOf_3 4 (some (.array (.object "java/lang/Object")))) rmJ9_copyOf_3_B 1 22 3 ∧ (Cond.static yJ9_copyOf_3).before args s = true := va_cwS 3 hts (lw_S q796 q797 q91 q798) rfl rfl rfl (by decide +kernel) hR
def rmJ9_copyOf_2_B : Room := { frames := 2, cells := 1, slots := 22, locals := 83 }
set_option maxHeartbeats 1000000 in
theorem mt_J9_copyOf_2_B (l : Launch) (D : va_G) (dA : Nat → ClassId) (κ : KZ) (sz : Nat) (e_ : Nat) (g_ : Nat → Option Nat) : Met l yJ9_copyOf_2 (ws_ yJ9_copyOf_2 cJ9_copyOf_2 2 (some (.array (.object "java/lang/Object")))) rmJ9_copyOf_2_B (va_Pc [.ref e_, .int (nI 22)] (fun U => aB D dA κ [(e_, .inl (dA 3, rfs 15 g_))] sz U ∧ anyE g_ 15 [(e_, .inl (dA 3, rfs 15 g_))] sz U)) (aQ (fun (q_ : Nat) => ((some (.ref q_)), [(e_, .inl (dA 3, rfs 15 g_)), (q_, .inl (dA 3, rfs 22 (va_cpy g_ (fun _ => none) 0 0 15)))])) D [(e_, .inl (dA 3, rfs 15 g_))] sz) 1 22 (va_A [(e_, .inl (dA 3, rfs 15 g_))] sz) := by
  refine w_start (by decide) (Nat.le_of_ble_eq_true rfl) ?_
  intro p e s m args below meth c Q ls hQ hx hb hr hlocks hml hown hnm hts hB hl
  have hown : s.vm.findClass RJ9 = some m.cls := hown
  have hl : lv_has ls 2 [(0, .ref e_), (1, .int (nI 22))] := hl
  obtain ⟨⟨hP, hD, hK, hZ, hk0, hge, rfl⟩, hY⟩ := hB
  have hA : ∀ q : Nat, s.heap.size ≤ q → va_A [(e_, .inl (dA 3, rfs 15 g_))] s.heap.size q := fun q h => Or.inr h
  have hAn : ∀ q : Nat, va_A [(e_, .inl (dA 3, rfs 15 g_))] s.heap.size q → κ.1 ≤ q := fun q h => by
    rcases h with ⟨k, e, h⟩ | h
    · exact hge k _ h
    · exact Nat.le_trans hk0 h
  have hS : va_S (va_A [(e_, .inl (dA 3, rfs 15 g_))] s.heap.size) s.heap s.heap [] := va_S.rf
  have hP : va_P D vwCl [(e_, .inl (dA 3, rfs 15 g_))] s.heap := hP
  have hD : va_D (va_A [(e_, .inl (dA 3, rfs 15 g_))] s.heap.size) [(e_, .inl (dA 3, rfs 15 g_))] := hD
  refine lv_aload_n hx hb dJ9_copyOf_2_0 rfl (lv_at hl 0 rfl) ?_
  refine lv_iload_n hx hb dJ9_copyOf_2_1 rfl (lv_at hl 1 rfl) ?_
  refine lv_aload_n hx hb dJ9_copyOf_2_2 rfl (lv_at hl 0 rfl) ?_
  refine va_getC (C := "[Ljava/lang/Object;") hx hb (hml.trans hl.1.symm) hown (hts _ q778) (va_Dc.use hZ.2.2.2.2.1) (hts _ q1567) (hts _ q779) (hts _ q795) hZ.2.2.2.1 (arr_recv hK hP 0 rfl) (Nat.le_of_ble_eq_true rfl) (Nat.le_of_ble_eq_true rfl) dJ9_copyOf_2_3 ?_
  refine aSx (wc := [(e_, .inl (dA 3, rfs 15 g_))]) (wr := []) (As := [.ref e_, .int (nI 22), .ref (κ.2.1 7)]) (rest := []) ⟨hx, hb, hml, hown, hts⟩ (mt_J9_copyOf_3_B l D dA κ s.heap.size e_ g_) (cw_J9_J9_copyOf_3_B hts ⟨Nat.le_of_ble_eq_true rfl, Nat.le_of_ble_eq_true rfl⟩) (fun U h1 h2 => ⟨a_now hK hZ hP hD hS hk0 hAn [0] rfl rfl rfl U h1 h2, any_now hY hS (va_free (wc := [(e_, .inl (dA 3, rfs 15 g_))]) hD hS hA [0] rfl) U h1 h2⟩) rfl hl.1 rfl (Nat.le_of_ble_eq_true rfl) dJ9_copyOf_2_6 ⟨Nat.le_of_ble_eq_true rfl, Nat.le_of_ble_eq_true rfl⟩ hP hD hS hA [0] [] rfl rfl rfl (by decide) (fun q__1 H locs hP hD hS => ?_)
  have hP : va_P D vwCl [(e_, .inl (dA 3, rfs 15 g_)), (q__1, .inl (dA 3, rfs 22 (va_cpy g_ (fun _ => none) 0 0 15)))] H := hP
  have hD : va_D (va_A [(e_, .inl (dA 3, rfs 15 g_))] s.heap.size) [(e_, .inl (dA 3, rfs 15 g_)), (q__1, .inl (dA 3, rfs 22 (va_cpy g_ (fun _ => none) 0 0 15)))] := hD
  change W p l e rmJ9_copyOf_2_B s m args below meth c H locs 1 22 Q (F0 m 9 ls [.ref q__1])
  exact ar_a q__1 hQ hx hb hr (Or.inr ⟨_, rfl⟩) hlocks hP hD hS (Nat.le_of_ble_eq_true rfl) (Nat.le_of_ble_eq_true rfl) (rfl) [0, 1] (rfl) (rfl) rfl dJ9_copyOf_2_9
