/-! THE COMPONENT's METHODS 7: a row with a bag, the best bag -/
set_option maxRecDepth 100000
/-- a writer's end where the scratch isn't told but for P -/
def cQE (v : Option Value) (D : va_G) (dA : Nat → ClassId) (x : Nat) (ad : Nat → Nat) (μ : Lay) (σ : St) (P : Om → Prop) : Array Value → State → Outcome → State → Prop := fun _ st oc t => oc = .returned v ∧ (∃ ω : Om, P ω ∧ cB D dA x ad μ σ ω t) ∧ va_F (cA x ad μ) st t
section CME
variable {p : Program} {l : Launch} {e : Env} {R : Room} {s : State} {m : MethodId} {args : Array Value} {below : List Frame} {meth : Method} {c : Code} {H H0 : Heap} {locs : List Loc} {cells slots : Nat} {Q : State → Prop}
variable {y : MethodName} {bytes cc : ByteArray} {maxL nL n index : Nat} {ret : Option FieldType} {rm : Room} {Ts ws : List Cond} {own C : String} {b : Addr} {As rest st0 : List Value} {pc : Nat} {ls : Array Slot}
variable {D : va_G} {dA : Nat → ClassId} {x : Nat} {ad : Nat → Nat} {μ : Lay} {σ σ' σ1 : St} {ω ω1 : Om} {P : Om → Prop}
theorem dME {v : Option Value} (S : CallFix p m c cc nL s args Ts own) (hM : Met l y ws rm (va_Pc (.ref b :: As) (cB D dA x ad μ σ ω)) (cQE v D dA x ad μ σ' P) 0 0 (cA x ad μ)) (cw : CallW R s args own C index y bytes maxL ret ws rm 0 0 n) (hB : ∀ U : State, U.heap = H → s.WarmedH U.vm → cB D dA x ad μ σ ω U) (hrc : ∃ cellB : Cell, H[b]? = some cellB ∧ cellB.vm.isStatics = false ∧ s.vm.findClass C = some cellB.cls)
    (hn : As.length = n) (hsize : ls.size = nL) (hst : st0 = As.reverse ++ .ref b :: rest) (hW : (rest.map fun v => v.category).sum ≤ 8) (hdg : decode cc pc = .ok (.invokevirtual index, 3)) (hf : cells + 0 ≤ R.cells ∧ slots + 0 ≤ R.slots) (hS : va_S (cA x ad μ) H0 H locs)
    (kk : ∀ (o : Om), P o → ∀ (H1 : Heap) (locs1 : List Loc), va_P D vwCl (cW dA x ad μ σ' o) H1 → va_S (cA x ad μ) H0 H1 locs1 → W p l e R s m args below meth c H1 locs1 cells slots Q (F0 m (pc + 3) ls (v.toList ++ rest))) : W p l e R s m args below meth c H locs cells slots Q (F0 m pc ls st0) := by
  have hr := va_runV (p := p) (l := l) (e := e) (R := R) (below := below) (meth := meth) (H := H) (locs := locs) (cells := cells) (slots := slots) (g := F0 m pc ls st0) (As := As) (rest := rest) S hM cw ⟨cB_bw.blind _, hrc, fun U hU hW => ⟨rfl, hB U hU hW⟩⟩ rfl hn hsize hst (lv_room hW) hdg hf
  intro T hT X
  obtain ⟨v', st₀, t, T', L, h0, X', hL, e1, e2, ⟨hv, ⟨o, ho, hB⟩, hz, hk⟩, st⟩ := hr T hT X
  cases hv
  rw [h0] at hz hk
  obtain ⟨t2, a1, b1⟩ := kk o ho T'.heap (locs ++ L) (by rw [e1]; exact hB.1)
    ⟨Nat.le_trans hS.1 (by rw [e1]; exact hz), fun q h1 h2 => by rw [e1, hk q (Nat.lt_of_lt_of_le h1 hS.1) h2]; exact hS.2.1 q h1 h2, fun q hq => by
      rcases List.mem_append.mp hq with h | h
      · exact hS.2.2 q h
      · exact hL q h⟩ T' rfl X'
  exact ⟨t2, st t2 a1, b1⟩
theorem cme_i {v w : Int32} (hQ : Q = MQ below (cQE (some (.int w)) D dA x ad μ σ P) args s cells slots (cA x ad μ)) (hx : p.tables.exec = Jvm.exec) (hb : c.code = cc) (hr : meth.sig.returnType = some .int) (hlocks : meth.locks = false) (hK : va_K D vwCl (vwTy dA) s) (hN : cN s) (hP : va_P D vwCl (cW dA x ad μ σ1 ω1) H) (hS : va_S (cA x ad μ) s.heap H locs) (hv : v = w) (h1 : σ1 = σ) (h2 : P ω1) (hdg : decode cc pc = .ok (.ireturn, 1)) : W p l e R s m args below meth c H locs cells slots Q (F0 m pc ls [.int v]) := by
  subst hQ h1 hv
  exact W.iret hx hb hr (fun t ht hW => ⟨rfl, ⟨ω1, h2, cB_now hK hN hP t ht hW⟩, hS.F ht⟩) hS.2.2 hdg hlocks
theorem cme_l {v w : Int64} (hQ : Q = MQ below (cQE (some (.long w)) D dA x ad μ σ P) args s cells slots (cA x ad μ)) (hx : p.tables.exec = Jvm.exec) (hb : c.code = cc) (hr : meth.sig.returnType = some .long) (hlocks : meth.locks = false) (hK : va_K D vwCl (vwTy dA) s) (hN : cN s) (hP : va_P D vwCl (cW dA x ad μ σ1 ω1) H) (hS : va_S (cA x ad μ) s.heap H locs) (hv : v = w) (h1 : σ1 = σ) (h2 : P ω1) (hdg : decode cc pc = .ok (.lreturn, 1)) : W p l e R s m args below meth c H locs cells slots Q (F0 m pc ls [.long v]) := by
  subst hQ h1 hv
  exact W.lret hx hb hr (fun t ht hW => ⟨rfl, ⟨ω1, h2, cB_now hK hN hP t ht hW⟩, hS.F ht⟩) hS.2.2 hdg hlocks
end CME
/-- a whole row with a bag -/
def brT (σ : St) (row kn so : Int32) (j : Nat) (bag : Int32) : OT := goT σ row bag kn so j 0 0 σ.beg bag 0 (belT σ row kn j) 1 (0, 0, 0)
/-- the best bag, and what it brings -/
def bsG (σ : St) (f : Int32 → Int64) (mb : Int64) : Nat → Int32 × Int64
  | 0 => (-1, mb)
  | k + 1 => if mayP σ (nI k) then (if (bsG σ f mb k).1 = -1 then (nI k, f (nI k)) else if f (nI k) ≤ (bsG σ f mb k).2 then bsG σ f mb k else (nI k, f (nI k))) else bsG σ f mb k
abbrev brB (σ : St) (row kn so : Int32) (j : Nat) : Int32 → Int64 := fun bag => (brT σ row kn so j bag).1

theorem cw_X1_X1_goOn_6 {R : Room} {s : State} {args : Array Value} (hts : ∀ w ∈ lw_all, w.before args s = true) (hR : rmX1_goOn_6.frames + 1 ≤ R.frames ∧ 8 + (16 + 11) + rmX1_goOn_6.locals ≤ R.locals) : CallW R s args RX1 RX1 66 yX1_goOn cX1_goOn 16 none (ws_ yX1_goOn cX1_goOn 16 none) rmX1_goOn_6 0 0 7 := cwV 7 hts (lw_V q944 q946 qs26 q78 q947) rfl rfl rfl (by decide +kernel) hR
def rmX1_run : Room := { frames := 9, cells := 0, slots := 0, locals := 274 }
set_option maxHeartbeats 1000000 in
theorem mt_X1_run (l : Launch) (D : va_G) (dA : Nat → ClassId) (x : Nat) (ad : Nat → Nat) (μ : Lay) (σ : St) (ω : Om) (hcD : cD x ad μ) (row : Int32) (j : Nat) (kn : Int32) (so : Int32) (bag : Int32) (hI : Inv σ) (hR : Rel dA μ σ) (hy : byP bag) (hoT : okT σ row j) (hj1 : 1 ≤ j) (hj : j ≤ 6) : Met l yX1_run (ws_ yX1_run cX1_run 3 (some (.object "CarryUp$Walk"))) rmX1_run (va_Pc [.ref (ad 4), .int bag] (cB D dA x ad μ σ ((ω.full, row, nI j, ptF σ.tools 8, kn, so, ω.brings, ω.done, ω.below, ω.end_, ω.mb) : Om))) (cQ (some (.ref (ad 4))) D dA x ad μ σ ((bag, row, nI j, ptF σ.tools 8, kn, so, (brT σ row kn so j bag).1, (brT σ row kn so j bag).2.1, belT σ row kn j, (brT σ row kn so j bag).2.2, ω.mb) : Om)) 0 0 (cA x ad μ) := by
  refine w_start (by decide) (Nat.le_of_ble_eq_true rfl) ?_
  intro p e s m args below meth c Q ls hQ hx hb hr hlocks hml hown hnm hts hB hl
  have hown : s.vm.findClass RX1 = some m.cls := hown
  have hl : lv_has ls 3 [(0, .ref (ad 4)), (1, .int bag)] := hl
  obtain ⟨hP, hK, hN⟩ := hB
  have hP : va_P D vwCl (cW dA x ad μ σ ((ω.full, row, nI j, ptF σ.tools 8, kn, so, ω.brings, ω.done, ω.below, ω.end_, ω.mb) : Om)) s.heap := hP
  have hS : va_S (cA x ad μ) s.heap s.heap [] := va_S.rf
  refine lv_aload_n hx hb dX1_run_0 rfl (lv_at hl 0 rfl) ?_
  refine lv_iload_n hx hb dX1_run_1 rfl (lv_at hl 1 rfl) ?_
  refine va_put (D := D) (ci := 2) (v := .int bag) (ty := .int) (C := RX1) (T := TX1) (N := 11) hx hb hts in_X1 tyX1 tyX1_ok nmX1 hown hK hP (cD_va hcD dA σ ((ω.full, row, nI j, ptF σ.tools 8, kn, so, ω.brings, ω.done, ω.below, ω.end_, ω.mb) : Om)) hS 5 rfl rfl 0 (by decide) (hts _ q129) (fun _ h9 => h9) rfl (by decide +kernel) rfl rfl (Nat.le_of_ble_eq_true rfl) dX1_run_2 (fun H locs hP _ hS => ?_)
  have hP : va_P D vwCl (cW dA x ad μ σ ((bag, row, nI j, ptF σ.tools 8, kn, so, ω.brings, ω.done, ω.below, ω.end_, ω.mb) : Om)) H := hP
  refine lv_aload_n hx hb dX1_run_5 rfl (lv_at hl 0 rfl) ?_
  refine lv_lconst (v := 0) hx hb dX1_run_6 rfl ?_
  refine va_put (D := D) (ci := 2) (v := .long 0) (ty := .long) (C := RX1) (T := TX1) (N := 11) hx hb hts in_X1 tyX1 tyX1_ok nmX1 hown hK hP (cD_va hcD dA σ ((bag, row, nI j, ptF σ.tools 8, kn, so, ω.brings, ω.done, ω.below, ω.end_, ω.mb) : Om)) hS 5 rfl rfl 6 (by decide) (hts _ q135) (fun _ h9 => h9) rfl (by decide +kernel) rfl rfl (Nat.le_of_ble_eq_true rfl) dX1_run_7 (fun H locs hP _ hS => ?_)
  have hP : va_P D vwCl (cW dA x ad μ σ ((bag, row, nI j, ptF σ.tools 8, kn, so, 0, ω.done, ω.below, ω.end_, ω.mb) : Om)) H := hP
  refine lv_aload_n hx hb dX1_run_10 rfl (lv_at hl 0 rfl) ?_
  refine lv_lconst (v := 0) hx hb dX1_run_11 rfl ?_
  refine va_put (D := D) (ci := 2) (v := .long 0) (ty := .long) (C := RX1) (T := TX1) (N := 11) hx hb hts in_X1 tyX1 tyX1_ok nmX1 hown hK hP (cD_va hcD dA σ ((bag, row, nI j, ptF σ.tools 8, kn, so, 0, ω.done, ω.below, ω.end_, ω.mb) : Om)) hS 5 rfl rfl 7 (by decide) (hts _ q137) (fun _ h9 => h9) rfl (by decide +kernel) rfl rfl (Nat.le_of_ble_eq_true rfl) dX1_run_12 (fun H locs hP _ hS => ?_)
  have hP : va_P D vwCl (cW dA x ad μ σ ((bag, row, nI j, ptF σ.tools 8, kn, so, 0, 0, ω.below, ω.end_, ω.mb) : Om)) H := hP
  refine lv_aload_n hx hb dX1_run_15 rfl (lv_at hl 0 rfl) ?_
  refine lv_lconst (v := 1) hx hb dX1_run_16 rfl ?_
  refine va_put (D := D) (ci := 2) (v := .long 1) (ty := .long) (C := RX1) (T := TX1) (N := 11) hx hb hts in_X1 tyX1 tyX1_ok nmX1 hown hK hP (cD_va hcD dA σ ((bag, row, nI j, ptF σ.tools 8, kn, so, 0, 0, ω.below, ω.end_, ω.mb) : Om)) hS 5 rfl rfl 8 (by decide) (hts _ q139) (fun _ h9 => h9) rfl (by decide +kernel) rfl rfl (Nat.le_of_ble_eq_true rfl) dX1_run_17 (fun H locs hP _ hS => ?_)
  have hP : va_P D vwCl (cW dA x ad μ σ ((bag, row, nI j, ptF σ.tools 8, kn, so, 0, 0, 1, ω.end_, ω.mb) : Om)) H := hP
  refine lv_aload_n hx hb dX1_run_20 rfl (lv_at hl 0 rfl) ?_
  refine lv_iconst (v := 0) hx hb dX1_run_21 rfl ?_
  refine va_put (D := D) (ci := 2) (v := .int 0) (ty := .int) (C := RX1) (T := TX1) (N := 11) hx hb hts in_X1 tyX1 tyX1_ok nmX1 hown hK hP (cD_va hcD dA σ ((bag, row, nI j, ptF σ.tools 8, kn, so, 0, 0, 1, ω.end_, ω.mb) : Om)) hS 5 rfl rfl 9 (by decide) (hts _ q141) (fun _ h9 => h9) rfl (by decide +kernel) rfl rfl (Nat.le_of_ble_eq_true rfl) dX1_run_22 (fun H locs hP _ hS => ?_)
  have hP : va_P D vwCl (cW dA x ad μ σ ((bag, row, nI j, ptF σ.tools 8, kn, so, 0, 0, 1, 0, ω.mb) : Om)) H := hP
  refine lv_iconst (v := 0) hx hb dX1_run_25 rfl ?_
  refine lv_istore_n (lv' := [(2, .int 0), (0, .ref (ad 4)), (1, .int bag)]) hx hb dX1_run_26 rfl hl (by decide) rfl (fun ls hl => ?_)
  have hL27_1 : ∀ (n_2 : Nat) (k : Nat) (x2 : Int32) (ls : Array Slot) (H : Heap) (locs : List Loc), (6 - k) < n_2 → (k ≤ j) → x2 = (nI k) → lv_has ls 3 [(2, .int x2), (0, .ref (ad 4)), (1, .int bag)] → va_P D vwCl (cW dA x ad μ σ ((bag, row, nI j, ptF σ.tools 8, kn, so, 0, 0, belT σ row kn k, 0, ω.mb) : Om)) H → va_S (cA x ad μ) s.heap H locs → W p l e rmX1_run s m args below meth c H locs 0 0 Q (F0 m 27 ls []) := by
    intro n_2
    induction n_2 with
    | zero => intro k x2 ls H locs hm_4; exact absurd hm_4 (Nat.not_lt_zero _)
    | succ n_2 ih_3 =>
      intro k x2 ls H locs hm_4 hk ex2 hl hP hS
      subst ex2
      refine lv_iload_n hx hb dX1_run_27 rfl (lv_at hl 0 rfl) ?_
      refine lv_aload_n hx hb dX1_run_28 rfl (lv_at hl 1 rfl) ?_
      refine va_get (D := D) (ci := 2) (v := .int (nI j)) (C := RX1) (T := TX1) (N := 11) hx hb hts in_X1 hown hK hP 5 rfl rfl 2 (by decide) (hts _ q131) (fun _ h9 => h9) rfl dX1_run_29 ?_
      refine lv_icmp_ge (tgt := 93) hx hb dX1_run_32 rfl (fun h32 => ?_) (fun h32 => ?_)
      · have h32 : j ≤ k := (nz_le (a := j) (b := k) rfl rfl (by omega) (by omega)).mp h32
        obtain rfl : j = k := by omega
        refine lv_aload_n hx hb dX1_run_93 rfl (lv_at hl 1 rfl) ?_
        refine lv_iconst (v := 0) hx hb dX1_run_94 rfl ?_
        refine lv_iconst (v := 0) hx hb dX1_run_95 rfl ?_
        refine lv_aload_n hx hb dX1_run_96 rfl (lv_at hl 1 rfl) ?_
        refine va_get (D := D) (ci := 2) (v := .ref x) (C := RX1) (T := TX1) (N := 11) hx hb hts in_X1 hown hK hP 5 rfl rfl 10 (by decide) (hts _ q143) (fun _ h9 => h9) rfl dX1_run_97 ?_
        refine va_getN (D := D) (ci := 1) (v := .int σ.beg) (C := RX0) (T := TX0) (N := 11) hx hb hts in_X0 hown hK hP 0 rfl rfl 3 (by decide) (va_Nw.use rfl hN.2.1) (fun _ h9 => h9) rfl dX1_run_100 ?_
        refine lv_aload_n hx hb dX1_run_103 rfl (lv_at hl 1 rfl) ?_
        refine va_get (D := D) (ci := 2) (v := .int bag) (C := RX1) (T := TX1) (N := 11) hx hb hts in_X1 hown hK hP 5 rfl rfl 0 (by decide) (hts _ q129) (fun _ h9 => h9) rfl dX1_run_104 ?_
        refine lv_iconst (v := 0) hx hb dX1_run_107 rfl ?_
        refine lv_aload_n hx hb dX1_run_108 rfl (lv_at hl 1 rfl) ?_
        refine va_get (D := D) (ci := 2) (v := .long (belT σ row kn j)) (C := RX1) (T := TX1) (N := 11) hx hb hts in_X1 hown hK hP 5 rfl rfl 8 (by decide) (hts _ q139) (fun _ h9 => h9) rfl dX1_run_109 ?_
        refine lv_iconst (v := 1) hx hb dX1_run_112 rfl ?_
        by_cases hd1 : j = 1
        · skip
          subst hd1
          refine dM (v := none) (σ' := σ) (ω' := ((bag, row, nI 1, ptF σ.tools 8, kn, so, (goT σ row bag kn so 1 0 0 σ.beg bag 0 (belT σ row kn 1) 1 (0, 0, 0)).1, (goT σ row bag kn so 1 0 0 σ.beg bag 0 (belT σ row kn 1) 1 (0, 0, 0)).2.1, belT σ row kn 1, (goT σ row bag kn so 1 0 0 σ.beg bag 0 (belT σ row kn 1) 1 (0, 0, 0)).2.2, ω.mb) : Om)) (As := [.int 0, .int 0, .int σ.beg, .int bag, .int 0, .long (belT σ row kn 1), .int 1]) (rest := []) ⟨hx, hb, hml, hown, hts⟩ (mt_X1_goOn_1 l D dA x ad μ σ ((bag, row, nI 1, ptF σ.tools 8, kn, so, 0, 0, belT σ row kn 1, 0, ω.mb) : Om) hcD bag row 1 kn so 0 0 σ.beg bag 0 (belT σ row kn 1) 1 hI hR (by decide) hy hy hoT (by omega) hj) (cw_X1_X1_goOn_1 hts ⟨Nat.le_of_ble_eq_true rfl, Nat.le_of_ble_eq_true rfl⟩) (cB_now hK hN hP) (va_recv hK hP (ci := 2) (q0 := 5) rfl rfl) rfl hl.1 rfl (Nat.le_of_ble_eq_true rfl) dX1_run_113 ⟨Nat.le_of_ble_eq_true rfl, Nat.le_of_ble_eq_true rfl⟩ hS (fun H locs hP hS => ?_)
          change W p l e rmX1_run s m args below meth c H locs 0 0 Q (F0 m 116 ls [])
          refine lv_aload_n hx hb dX1_run_116 rfl (lv_at hl 1 rfl) ?_
          exact cm_a hQ hx hb hr (Or.inl ⟨_, rfl⟩) hlocks hK hN hP hS (rfl) (rfl) (rfl) dX1_run_117
        · skip
          by_cases hd2 : j = 2
          · skip
            subst hd2
            refine dM (v := none) (σ' := σ) (ω' := ((bag, row, nI 2, ptF σ.tools 8, kn, so, (goT σ row bag kn so 2 0 0 σ.beg bag 0 (belT σ row kn 2) 1 (0, 0, 0)).1, (goT σ row bag kn so 2 0 0 σ.beg bag 0 (belT σ row kn 2) 1 (0, 0, 0)).2.1, belT σ row kn 2, (goT σ row bag kn so 2 0 0 σ.beg bag 0 (belT σ row kn 2) 1 (0, 0, 0)).2.2, ω.mb) : Om)) (As := [.int 0, .int 0, .int σ.beg, .int bag, .int 0, .long (belT σ row kn 2), .int 1]) (rest := []) ⟨hx, hb, hml, hown, hts⟩ (mt_X1_goOn_2 l D dA x ad μ σ ((bag, row, nI 2, ptF σ.tools 8, kn, so, 0, 0, belT σ row kn 2, 0, ω.mb) : Om) hcD bag row 2 kn so 0 0 σ.beg bag 0 (belT σ row kn 2) 1 hI hR (by decide) hy hy hoT (by omega) hj) (cw_X1_X1_goOn_2 hts ⟨Nat.le_of_ble_eq_true rfl, Nat.le_of_ble_eq_true rfl⟩) (cB_now hK hN hP) (va_recv hK hP (ci := 2) (q0 := 5) rfl rfl) rfl hl.1 rfl (Nat.le_of_ble_eq_true rfl) dX1_run_113 ⟨Nat.le_of_ble_eq_true rfl, Nat.le_of_ble_eq_true rfl⟩ hS (fun H locs hP hS => ?_)
            change W p l e rmX1_run s m args below meth c H locs 0 0 Q (F0 m 116 ls [])
            refine lv_aload_n hx hb dX1_run_116 rfl (lv_at hl 1 rfl) ?_
            exact cm_a hQ hx hb hr (Or.inl ⟨_, rfl⟩) hlocks hK hN hP hS (rfl) (rfl) (rfl) dX1_run_117
          · skip
            by_cases hd3 : j = 3
            · skip
              subst hd3
              refine dM (v := none) (σ' := σ) (ω' := ((bag, row, nI 3, ptF σ.tools 8, kn, so, (goT σ row bag kn so 3 0 0 σ.beg bag 0 (belT σ row kn 3) 1 (0, 0, 0)).1, (goT σ row bag kn so 3 0 0 σ.beg bag 0 (belT σ row kn 3) 1 (0, 0, 0)).2.1, belT σ row kn 3, (goT σ row bag kn so 3 0 0 σ.beg bag 0 (belT σ row kn 3) 1 (0, 0, 0)).2.2, ω.mb) : Om)) (As := [.int 0, .int 0, .int σ.beg, .int bag, .int 0, .long (belT σ row kn 3), .int 1]) (rest := []) ⟨hx, hb, hml, hown, hts⟩ (mt_X1_goOn_3 l D dA x ad μ σ ((bag, row, nI 3, ptF σ.tools 8, kn, so, 0, 0, belT σ row kn 3, 0, ω.mb) : Om) hcD bag row 3 kn so 0 0 σ.beg bag 0 (belT σ row kn 3) 1 hI hR (by decide) hy hy hoT (by omega) hj) (cw_X1_X1_goOn_3 hts ⟨Nat.le_of_ble_eq_true rfl, Nat.le_of_ble_eq_true rfl⟩) (cB_now hK hN hP) (va_recv hK hP (ci := 2) (q0 := 5) rfl rfl) rfl hl.1 rfl (Nat.le_of_ble_eq_true rfl) dX1_run_113 ⟨Nat.le_of_ble_eq_true rfl, Nat.le_of_ble_eq_true rfl⟩ hS (fun H locs hP hS => ?_)
              change W p l e rmX1_run s m args below meth c H locs 0 0 Q (F0 m 116 ls [])
              refine lv_aload_n hx hb dX1_run_116 rfl (lv_at hl 1 rfl) ?_
              exact cm_a hQ hx hb hr (Or.inl ⟨_, rfl⟩) hlocks hK hN hP hS (rfl) (rfl) (rfl) dX1_run_117
            · skip
              by_cases hd4 : j = 4
              · skip
                subst hd4
                refine dM (v := none) (σ' := σ) (ω' := ((bag, row, nI 4, ptF σ.tools 8, kn, so, (goT σ row bag kn so 4 0 0 σ.beg bag 0 (belT σ row kn 4) 1 (0, 0, 0)).1, (goT σ row bag kn so 4 0 0 σ.beg bag 0 (belT σ row kn 4) 1 (0, 0, 0)).2.1, belT σ row kn 4, (goT σ row bag kn so 4 0 0 σ.beg bag 0 (belT σ row kn 4) 1 (0, 0, 0)).2.2, ω.mb) : Om)) (As := [.int 0, .int 0, .int σ.beg, .int bag, .int 0, .long (belT σ row kn 4), .int 1]) (rest := []) ⟨hx, hb, hml, hown, hts⟩ (mt_X1_goOn_4 l D dA x ad μ σ ((bag, row, nI 4, ptF σ.tools 8, kn, so, 0, 0, belT σ row kn 4, 0, ω.mb) : Om) hcD bag row 4 kn so 0 0 σ.beg bag 0 (belT σ row kn 4) 1 hI hR (by decide) hy hy hoT (by omega) hj) (cw_X1_X1_goOn_4 hts ⟨Nat.le_of_ble_eq_true rfl, Nat.le_of_ble_eq_true rfl⟩) (cB_now hK hN hP) (va_recv hK hP (ci := 2) (q0 := 5) rfl rfl) rfl hl.1 rfl (Nat.le_of_ble_eq_true rfl) dX1_run_113 ⟨Nat.le_of_ble_eq_true rfl, Nat.le_of_ble_eq_true rfl⟩ hS (fun H locs hP hS => ?_)
                change W p l e rmX1_run s m args below meth c H locs 0 0 Q (F0 m 116 ls [])
                refine lv_aload_n hx hb dX1_run_116 rfl (lv_at hl 1 rfl) ?_
                exact cm_a hQ hx hb hr (Or.inl ⟨_, rfl⟩) hlocks hK hN hP hS (rfl) (rfl) (rfl) dX1_run_117
              · skip
                by_cases hd5 : j = 5
                · skip
                  subst hd5
                  refine dM (v := none) (σ' := σ) (ω' := ((bag, row, nI 5, ptF σ.tools 8, kn, so, (goT σ row bag kn so 5 0 0 σ.beg bag 0 (belT σ row kn 5) 1 (0, 0, 0)).1, (goT σ row bag kn so 5 0 0 σ.beg bag 0 (belT σ row kn 5) 1 (0, 0, 0)).2.1, belT σ row kn 5, (goT σ row bag kn so 5 0 0 σ.beg bag 0 (belT σ row kn 5) 1 (0, 0, 0)).2.2, ω.mb) : Om)) (As := [.int 0, .int 0, .int σ.beg, .int bag, .int 0, .long (belT σ row kn 5), .int 1]) (rest := []) ⟨hx, hb, hml, hown, hts⟩ (mt_X1_goOn_5 l D dA x ad μ σ ((bag, row, nI 5, ptF σ.tools 8, kn, so, 0, 0, belT σ row kn 5, 0, ω.mb) : Om) hcD bag row 5 kn so 0 0 σ.beg bag 0 (belT σ row kn 5) 1 hI hR (by decide) hy hy hoT (by omega) hj) (cw_X1_X1_goOn_5 hts ⟨Nat.le_of_ble_eq_true rfl, Nat.le_of_ble_eq_true rfl⟩) (cB_now hK hN hP) (va_recv hK hP (ci := 2) (q0 := 5) rfl rfl) rfl hl.1 rfl (Nat.le_of_ble_eq_true rfl) dX1_run_113 ⟨Nat.le_of_ble_eq_true rfl, Nat.le_of_ble_eq_true rfl⟩ hS (fun H locs hP hS => ?_)
                  change W p l e rmX1_run s m args below meth c H locs 0 0 Q (F0 m 116 ls [])
                  refine lv_aload_n hx hb dX1_run_116 rfl (lv_at hl 1 rfl) ?_
                  exact cm_a hQ hx hb hr (Or.inl ⟨_, rfl⟩) hlocks hK hN hP hS (rfl) (rfl) (rfl) dX1_run_117
                · skip
                  by_cases hd6 : j = 6
                  · skip
                    subst hd6
                    refine dM (v := none) (σ' := σ) (ω' := ((bag, row, nI 6, ptF σ.tools 8, kn, so, (goT σ row bag kn so 6 0 0 σ.beg bag 0 (belT σ row kn 6) 1 (0, 0, 0)).1, (goT σ row bag kn so 6 0 0 σ.beg bag 0 (belT σ row kn 6) 1 (0, 0, 0)).2.1, belT σ row kn 6, (goT σ row bag kn so 6 0 0 σ.beg bag 0 (belT σ row kn 6) 1 (0, 0, 0)).2.2, ω.mb) : Om)) (As := [.int 0, .int 0, .int σ.beg, .int bag, .int 0, .long (belT σ row kn 6), .int 1]) (rest := []) ⟨hx, hb, hml, hown, hts⟩ (mt_X1_goOn_6 l D dA x ad μ σ ((bag, row, nI 6, ptF σ.tools 8, kn, so, 0, 0, belT σ row kn 6, 0, ω.mb) : Om) hcD bag row 6 kn so 0 0 σ.beg bag 0 (belT σ row kn 6) 1 hI hR (by decide) hy hy hoT (by omega) hj) (cw_X1_X1_goOn_6 hts ⟨Nat.le_of_ble_eq_true rfl, Nat.le_of_ble_eq_true rfl⟩) (cB_now hK hN hP) (va_recv hK hP (ci := 2) (q0 := 5) rfl rfl) rfl hl.1 rfl (Nat.le_of_ble_eq_true rfl) dX1_run_113 ⟨Nat.le_of_ble_eq_true rfl, Nat.le_of_ble_eq_true rfl⟩ hS (fun H locs hP hS => ?_)
                    change W p l e rmX1_run s m args below meth c H locs 0 0 Q (F0 m 116 ls [])
                    refine lv_aload_n hx hb dX1_run_116 rfl (lv_at hl 1 rfl) ?_
                    exact cm_a hQ hx hb hr (Or.inl ⟨_, rfl⟩) hlocks hK hN hP hS (rfl) (rfl) (rfl) dX1_run_117
                  · skip
                    exact absurd hj (by omega)
      · have h32 : ¬ (j ≤ k) := fun z9 => h32 ((nz_le (a := j) (b := k) rfl rfl (by omega) (by omega)).mpr z9)
        have hen := en_lt row k
        refine lv_aload_n hx hb dX1_run_35 rfl (lv_at hl 1 rfl) ?_
        refine lv_dup hx hb dX1_run_36 rfl ?_
        refine va_get (D := D) (ci := 2) (v := .long (belT σ row kn k)) (C := RX1) (T := TX1) (N := 11) hx hb hts in_X1 hown hK hP 5 rfl rfl 8 (by decide) (hts _ q139) (fun _ h9 => h9) rfl dX1_run_37 ?_
        refine lv_aload_n hx hb dX1_run_40 rfl (lv_at hl 1 rfl) ?_
        refine lv_iload_n hx hb dX1_run_41 rfl (lv_at hl 0 rfl) ?_
        refine dV (v := .int (entF row k)) (As := [.int (nI k)]) (rest := [.long (belT σ row kn k), .ref (ad 4)]) ⟨hx, hb, hml, hown, hts⟩ (mt_X1_at l D dA x ad μ σ ((bag, row, nI j, ptF σ.tools 8, kn, so, 0, 0, belT σ row kn k, 0, ω.mb) : Om) row k hI hR) (cw_X1_X1_at hts ⟨Nat.le_of_ble_eq_true rfl, Nat.le_of_ble_eq_true rfl⟩) cB_bw (cB_now hK hN hP) (va_recv hK hP (ci := 2) (q0 := 5) rfl rfl) rfl hl.1 rfl (Nat.le_of_ble_eq_true rfl) dX1_run_42 ⟨Nat.le_of_ble_eq_true rfl, Nat.le_of_ble_eq_true rfl⟩ ?_
        refine w_topi (y := nI (en row k)) (en_eq row k) ?_
        refine lv_bipush (v := 6) hx hb dX1_run_45 rfl ?_
        have hJ83_5 : ∀ (v_6 : Int64) (ls : Array Slot), v_6 = (if (en row k) = 6 then 1 else if (nI (en row k)) = kn then 1 else (total σ (en row k) : Int32).toInt64) → lv_has ls 3 [(2, .int (nI k)), (0, .ref (ad 4)), (1, .int bag)] → W p l e rmX1_run s m args below meth c H locs 0 0 Q (F0 m 83 ls [.long v_6, .long (belT σ row kn k), .ref (ad 4)]) := by
          intro v_6 ls ev_6 hl
          refine lv_lmul hx hb dX1_run_83 ?_
          refine va_put (D := D) (ci := 2) (v := .long ((belT σ row kn k) * v_6)) (ty := .long) (C := RX1) (T := TX1) (N := 11) hx hb hts in_X1 tyX1 tyX1_ok nmX1 hown hK hP (cD_va hcD dA σ ((bag, row, nI j, ptF σ.tools 8, kn, so, 0, 0, belT σ row kn k, 0, ω.mb) : Om)) hS 5 rfl rfl 8 (by decide) (hts _ q139) (fun _ h9 => h9) rfl (by decide +kernel) rfl rfl (Nat.le_of_ble_eq_true rfl) dX1_run_84 (fun H locs hP _ hS => ?_)
          have hP : va_P D vwCl (cW dA x ad μ σ ((bag, row, nI j, ptF σ.tools 8, kn, so, 0, 0, (belT σ row kn k) * v_6, 0, ω.mb) : Om)) H := hP
          refine lv_iinc (v := nI (k + 1)) (lv' := [(2, .int (nI (k + 1))), (0, .ref (ad 4)), (1, .int bag)]) hx hb dX1_run_87 hl (k := 0) rfl (nI_1 k) (by decide) rfl (fun ls hl => ?_)
          refine lv_goto (tgt := 27) hx hb dX1_run_90 rfl ?_
          have eh_7 : (belT σ row kn k) * v_6 = belT σ row kn (k + 1) := (by subst_vars; rw [belT])
          have hP : va_P D vwCl (cW dA x ad μ σ ((bag, row, nI j, ptF σ.tools 8, kn, so, 0, 0, belT σ row kn (k + 1), 0, ω.mb) : Om)) H := by rw [← eh_7]; exact hP
          exact ih_3 (k + 1) (nI (k + 1)) ls _ _ (by omega) (by omega) rfl (lv_sub hl [0, 1, 2] rfl) hP hS
        refine lv_icmp_eq (tgt := 62) hx hb dX1_run_47 rfl (fun h47 => ?_) (fun h47 => ?_)
        · have h47 : (en row k) = 6 := (nz_eq (a := en row k) (b := 6) rfl rfl (by omega) (by omega)).mp h47
          refine lv_lconst (v := 1) hx hb dX1_run_62 rfl ?_
          refine lv_goto (tgt := 83) hx hb dX1_run_63 rfl ?_
          exact hJ83_5 (1) ls (by rw [if_pos h47]) (lv_sub hl [0, 1, 2] rfl)
        · have h47 : ¬ ((en row k) = 6) := fun z9 => h47 ((nz_eq (a := en row k) (b := 6) rfl rfl (by omega) (by omega)).mpr z9)
          obtain ⟨hc6, hTc, hs0⟩ := (hoT k (by omega)).resolve_left h47
          refine lv_aload_n hx hb dX1_run_50 rfl (lv_at hl 1 rfl) ?_
          refine lv_iload_n hx hb dX1_run_51 rfl (lv_at hl 0 rfl) ?_
          refine dV (v := .int (entF row k)) (As := [.int (nI k)]) (rest := [.long (belT σ row kn k), .ref (ad 4)]) ⟨hx, hb, hml, hown, hts⟩ (mt_X1_at l D dA x ad μ σ ((bag, row, nI j, ptF σ.tools 8, kn, so, 0, 0, belT σ row kn k, 0, ω.mb) : Om) row k hI hR) (cw_X1_X1_at hts ⟨Nat.le_of_ble_eq_true rfl, Nat.le_of_ble_eq_true rfl⟩) cB_bw (cB_now hK hN hP) (va_recv hK hP (ci := 2) (q0 := 5) rfl rfl) rfl hl.1 rfl (Nat.le_of_ble_eq_true rfl) dX1_run_52 ⟨Nat.le_of_ble_eq_true rfl, Nat.le_of_ble_eq_true rfl⟩ ?_
          refine w_topi (y := nI (en row k)) (en_eq row k) ?_
          refine lv_aload_n hx hb dX1_run_55 rfl (lv_at hl 1 rfl) ?_
          refine va_get (D := D) (ci := 2) (v := .int kn) (C := RX1) (T := TX1) (N := 11) hx hb hts in_X1 hown hK hP 5 rfl rfl 4 (by decide) (hts _ q133) (fun _ h9 => h9) rfl dX1_run_56 ?_
          refine lv_icmp_ne (tgt := 66) hx hb dX1_run_59 rfl (fun h59 => ?_) (fun h59 => ?_)
          · have h59 : ¬ ((nI (en row k)) = kn) := h59
            refine lv_aload_n hx hb dX1_run_66 rfl (lv_at hl 1 rfl) ?_
            refine va_get (D := D) (ci := 2) (v := .ref x) (C := RX1) (T := TX1) (N := 11) hx hb hts in_X1 hown hK hP 5 rfl rfl 10 (by decide) (hts _ q143) (fun _ h9 => h9) rfl dX1_run_67 ?_
            refine va_getN (D := D) (ci := 1) (v := .ref (ad 2)) (C := RX0) (T := TX0) (N := 11) hx hb hts in_X0 hown hK hP 0 rfl rfl 5 (by decide) (va_Nw.use rfl hN.2.2.2.1) (fun _ h9 => h9) rfl dX1_run_70 ?_
            refine lv_aload_n hx hb dX1_run_73 rfl (lv_at hl 1 rfl) ?_
            refine lv_iload_n hx hb dX1_run_74 rfl (lv_at hl 0 rfl) ?_
            refine dV (v := .int (entF row k)) (As := [.int (nI k)]) (rest := [.ref (ad 2), .long (belT σ row kn k), .ref (ad 4)]) ⟨hx, hb, hml, hown, hts⟩ (mt_X1_at l D dA x ad μ σ ((bag, row, nI j, ptF σ.tools 8, kn, so, 0, 0, belT σ row kn k, 0, ω.mb) : Om) row k hI hR) (cw_X1_X1_at hts ⟨Nat.le_of_ble_eq_true rfl, Nat.le_of_ble_eq_true rfl⟩) cB_bw (cB_now hK hN hP) (va_recv hK hP (ci := 2) (q0 := 5) rfl rfl) rfl hl.1 rfl (Nat.le_of_ble_eq_true rfl) dX1_run_75 ⟨Nat.le_of_ble_eq_true rfl, Nat.le_of_ble_eq_true rfl⟩ ?_
            refine w_topi (y := nI (en row k)) (en_eq row k) ?_
            refine wa_aald (v := .ref (μ.cA (en row k))) hx hb hK hP 3 5 rfl rfl rfl (en row k) (rfl) (by omega) (by decide) (cO_t hTc) dX1_run_78 ?_
            refine va_get (D := D) (ci := 5) (v := .int (total σ (en row k))) (C := RX7) (T := TX7) (N := 3) hx hb hts in_X7 hown hK (pl1 hP (hR.2.1 (en row k) hc6 hTc).1.1 (hR.2.1 (en row k) hc6 hTc).1.2) 0 rfl rfl 2 (by decide) (hts _ q702) (fun _ h9 => h9) rfl dX1_run_79 ?_
            refine lv_i2l (v := (total σ (en row k) : Int32).toInt64) hx hb dX1_run_82 rfl ?_
            exact hJ83_5 ((total σ (en row k) : Int32).toInt64) ls (by rw [if_neg h47, if_neg h59]) (lv_sub hl [0, 1, 2] rfl)
          · have h59 : (nI (en row k)) = kn := h59
            refine lv_lconst (v := 1) hx hb dX1_run_62 rfl ?_
            refine lv_goto (tgt := 83) hx hb dX1_run_63 rfl ?_
            exact hJ83_5 (1) ls (by rw [if_neg h47, if_pos h59]) (lv_sub hl [0, 1, 2] rfl)
  exact hL27_1 _ 0 0 ls _ _ (Nat.lt_succ_self _) (by omega) rfl (lv_sub hl [0, 1, 2] rfl) hP hS

theorem cw_X0_X1_lay {R : Room} {s : State} {args : Array Value} (hts : ∀ w ∈ lw_all, w.before args s = true) (hR : rmX1_lay.frames + 1 ≤ R.frames ∧ 8 + (5 + 11) + rmX1_lay.locals ≤ R.locals) : CallW R s args RX0 RX1 89 yX1_lay cX1_lay 5 (some (.object "CarryUp$Walk")) (ws_ yX1_lay cX1_lay 5 (some (.object "CarryUp$Walk"))) rmX1_lay 0 0 4 := cwV 4 hts (lw_V q931 q932 q933 q78 q934) rfl rfl rfl (by decide +kernel) hR
theorem cw_X0_X1_run {R : Room} {s : State} {args : Array Value} (hts : ∀ w ∈ lw_all, w.before args s = true) (hR : rmX1_run.frames + 1 ≤ R.frames ∧ 8 + (3 + 11) + rmX1_run.locals ≤ R.locals) : CallW R s args RX0 RX1 95 yX1_run cX1_run 3 (some (.object "CarryUp$Walk")) (ws_ yX1_run cX1_run 3 (some (.object "CarryUp$Walk"))) rmX1_run 0 0 1 := cwV 1 hts (lw_V q936 q937 q938 q78 q939) rfl rfl rfl (by decide +kernel) hR
def rmX0_walked : Room := { frames := 10, cells := 0, slots := 0, locals := 296 }
set_option maxHeartbeats 1000000 in
theorem mt_X0_walked (l : Launch) (D : va_G) (dA : Nat → ClassId) (x : Nat) (ad : Nat → Nat) (μ : Lay) (σ : St) (ω : Om) (hcD : cD x ad μ) (bag : Int32) (row : Int32) (j : Nat) (hI : Inv σ) (hR : Rel dA μ σ) (hy : byP bag) (hoT : okT σ row j) (hj1 : 1 ≤ j) (hj : j ≤ 6) : Met l yX0_walked (ws_ yX0_walked cX0_walked 4 (some (.object "CarryUp$Walk"))) rmX0_walked (va_Pc [.ref x, .int bag, .int row, .int (nI j)] (cB D dA x ad μ σ ω)) (cQ (some (.ref (ad 4))) D dA x ad μ σ ((bag, row, nI j, ptF σ.tools 8, (-1), 0, (brT σ row (-1) 0 j bag).1, (brT σ row (-1) 0 j bag).2.1, belT σ row (-1) j, (brT σ row (-1) 0 j bag).2.2, ω.mb) : Om)) 0 0 (cA x ad μ) := by
  refine w_start (by decide) (Nat.le_of_ble_eq_true rfl) ?_
  intro p e s m args below meth c Q ls hQ hx hb hr hlocks hml hown hnm hts hB hl
  have hown : s.vm.findClass RX0 = some m.cls := hown
  have hl : lv_has ls 4 [(0, .ref x), (1, .int bag), (2, .int row), (3, .int (nI j))] := hl
  obtain ⟨hP, hK, hN⟩ := hB
  have hP : va_P D vwCl (cW dA x ad μ σ ω) s.heap := hP
  have hS : va_S (cA x ad μ) s.heap s.heap [] := va_S.rf
  refine lv_aload_n hx hb dX0_walked_0 rfl (lv_at hl 0 rfl) ?_
  refine va_get (D := D) (ci := 1) (v := .ref (ad 4)) (C := RX0) (T := TX0) (N := 11) hx hb hts in_X0 hown hK hP 0 rfl rfl 8 (by decide) (hts _ q223) (fun _ h9 => h9) rfl dX0_walked_1 ?_
  refine lv_iload_n hx hb dX0_walked_4 rfl (lv_at hl 2 rfl) ?_
  refine lv_iload_n hx hb dX0_walked_5 rfl (lv_at hl 3 rfl) ?_
  refine lv_iconst (v := (-1)) hx hb dX0_walked_6 rfl ?_
  refine lv_iconst (v := 0) hx hb dX0_walked_7 rfl ?_
  refine dM (v := some (.ref (ad 4))) (σ' := σ) (ω' := ((ω.full, row, nI j, ptF σ.tools 8, (-1), 0, ω.brings, ω.done, ω.below, ω.end_, ω.mb) : Om)) (As := [.int row, .int (nI j), .int (-1), .int 0]) (rest := []) ⟨hx, hb, hml, hown, hts⟩ (mt_X1_lay l D dA x ad μ σ ω hcD row j (-1) 0 hI hR) (cw_X0_X1_lay hts ⟨Nat.le_of_ble_eq_true rfl, Nat.le_of_ble_eq_true rfl⟩) (cB_now hK hN hP) (va_recv hK hP (ci := 2) (q0 := 5) rfl rfl) rfl hl.1 rfl (Nat.le_of_ble_eq_true rfl) dX0_walked_8 ⟨Nat.le_of_ble_eq_true rfl, Nat.le_of_ble_eq_true rfl⟩ hS (fun H locs hP hS => ?_)
  change W p l e rmX0_walked s m args below meth c H locs 0 0 Q (F0 m 11 ls [.ref (ad 4)])
  refine lv_iload_n hx hb dX0_walked_11 rfl (lv_at hl 1 rfl) ?_
  refine dM (v := some (.ref (ad 4))) (σ' := σ) (ω' := ((bag, row, nI j, ptF σ.tools 8, (-1), 0, (brT σ row (-1) 0 j bag).1, (brT σ row (-1) 0 j bag).2.1, belT σ row (-1) j, (brT σ row (-1) 0 j bag).2.2, ω.mb) : Om)) (As := [.int bag]) (rest := []) ⟨hx, hb, hml, hown, hts⟩ (mt_X1_run l D dA x ad μ σ ((ω.full, row, nI j, ptF σ.tools 8, (-1), 0, ω.brings, ω.done, ω.below, ω.end_, ω.mb) : Om) hcD row j (-1) 0 bag hI hR (by omega) (by omega) (by omega) (by omega)) (cw_X0_X1_run hts ⟨Nat.le_of_ble_eq_true rfl, Nat.le_of_ble_eq_true rfl⟩) (cB_now hK hN hP) (va_recv hK hP (ci := 2) (q0 := 5) rfl rfl) rfl hl.1 rfl (Nat.le_of_ble_eq_true rfl) dX0_walked_12 ⟨Nat.le_of_ble_eq_true rfl, Nat.le_of_ble_eq_true rfl⟩ hS (fun H locs hP hS => ?_)
  change W p l e rmX0_walked s m args below meth c H locs 0 0 Q (F0 m 15 ls [.ref (ad 4)])
  exact cm_a hQ hx hb hr (Or.inl ⟨_, rfl⟩) hlocks hK hN hP hS (rfl) (rfl) (rfl) dX0_walked_15

def rmX0_bestOf : Room := { frames := 10, cells := 0, slots := 0, locals := 296 }
set_option maxHeartbeats 1000000 in
theorem mt_X0_bestOf (l : Launch) (D : va_G) (dA : Nat → ClassId) (x : Nat) (ad : Nat → Nat) (μ : Lay) (σ : St) (ω : Om) (hcD : cD x ad μ) (row : Int32) (j : Nat) (kn : Int32) (so : Int32) (hI : Inv σ) (hR : Rel dA μ σ) (hoT : okT σ row j) (hj1 : 1 ≤ j) (hj : j ≤ 6) : Met l yX0_bestOf (ws_ yX0_bestOf cX0_bestOf 7 (some .int)) rmX0_bestOf (va_Pc [.ref x, .int row, .int (nI j), .int kn, .int so] (cB D dA x ad μ σ ω)) (cQE (some (.int ((bsG σ (brB σ row kn so j) ω.mb 256).1))) D dA x ad μ σ (fun o => o.mb = (bsG σ (brB σ row kn so j) ω.mb 256).2 ∧ (¬ (bsG σ (brB σ row kn so j) ω.mb 256).1 = -1 → o.below = belT σ row kn j))) 0 0 (cA x ad μ) := by
  refine w_start (by decide) (Nat.le_of_ble_eq_true rfl) ?_
  intro p e s m args below meth c Q ls hQ hx hb hr hlocks hml hown hnm hts hB hl
  have hown : s.vm.findClass RX0 = some m.cls := hown
  have hl : lv_has ls 7 [(0, .ref x), (1, .int row), (2, .int (nI j)), (3, .int kn), (4, .int so)] := hl
  obtain ⟨hP, hK, hN⟩ := hB
  have hP : va_P D vwCl (cW dA x ad μ σ ω) s.heap := hP
  have hS : va_S (cA x ad μ) s.heap s.heap [] := va_S.rf
  refine lv_iconst (v := (-1)) hx hb dX0_bestOf_0 rfl ?_
  refine lv_istore (lv' := [(5, .int (-1)), (0, .ref x), (1, .int row), (2, .int (nI j)), (3, .int kn), (4, .int so)]) hx hb dX0_bestOf_1 hl (by decide) rfl (fun ls hl => ?_)
  refine lv_aload_n hx hb dX0_bestOf_3 rfl (lv_at hl 1 rfl) ?_
  refine va_get (D := D) (ci := 1) (v := .ref (ad 4)) (C := RX0) (T := TX0) (N := 11) hx hb hts in_X0 hown hK hP 0 rfl rfl 8 (by decide) (hts _ q223) (fun _ h9 => h9) rfl dX0_bestOf_4 ?_
  refine lv_iload_n hx hb dX0_bestOf_7 rfl (lv_at hl 2 rfl) ?_
  refine lv_iload_n hx hb dX0_bestOf_8 rfl (lv_at hl 3 rfl) ?_
  refine lv_iload_n hx hb dX0_bestOf_9 rfl (lv_at hl 4 rfl) ?_
  refine lv_iload hx hb dX0_bestOf_10 (lv_at hl 5 rfl) ?_
  refine dM (v := some (.ref (ad 4))) (σ' := σ) (ω' := ((ω.full, row, nI j, ptF σ.tools 8, kn, so, ω.brings, ω.done, ω.below, ω.end_, ω.mb) : Om)) (As := [.int row, .int (nI j), .int kn, .int so]) (rest := []) ⟨hx, hb, hml, hown, hts⟩ (mt_X1_lay l D dA x ad μ σ ω hcD row j kn so hI hR) (cw_X0_X1_lay hts ⟨Nat.le_of_ble_eq_true rfl, Nat.le_of_ble_eq_true rfl⟩) (cB_now hK hN hP) (va_recv hK hP (ci := 2) (q0 := 5) rfl rfl) rfl hl.1 rfl (Nat.le_of_ble_eq_true rfl) dX0_bestOf_12 ⟨Nat.le_of_ble_eq_true rfl, Nat.le_of_ble_eq_true rfl⟩ hS (fun H locs hP hS => ?_)
  change W p l e rmX0_bestOf s m args below meth c H locs 0 0 Q (F0 m 15 ls [.ref (ad 4)])
  refine lv_pop hx hb dX0_bestOf_15 rfl ?_
  refine lv_iconst (v := 0) hx hb dX0_bestOf_16 rfl ?_
  refine lv_istore (lv' := [(6, .int 0), (5, .int (-1)), (0, .ref x), (1, .int row), (2, .int (nI j)), (3, .int kn), (4, .int so)]) hx hb dX0_bestOf_17 hl (by decide) rfl (fun ls hl => ?_)
  have hL19_1 : ∀ (n_2 : Nat) (k : Nat) (bt : Int32) (o : Om) (x6 : Int32) (ls : Array Slot) (H : Heap) (locs : List Loc), (256 - k) < n_2 → (k ≤ 256) → ((bt, o.mb) = bsG σ (brB σ row kn so j) ω.mb k) → (¬ bt = -1 → o.below = belT σ row kn j) → x6 = (nI k) → lv_has ls 7 [(6, .int x6), (5, .int bt), (0, .ref x), (1, .int row), (2, .int (nI j)), (3, .int kn), (4, .int so)] → va_P D vwCl (cW dA x ad μ σ ((o.full, row, nI j, ptF σ.tools 8, kn, so, o.brings, o.done, o.below, o.end_, o.mb) : Om)) H → va_S (cA x ad μ) s.heap H locs → W p l e rmX0_bestOf s m args below meth c H locs 0 0 Q (F0 m 19 ls []) := by
    intro n_2
    induction n_2 with
    | zero => intro k bt o x6 ls H locs hm_4; exact absurd hm_4 (Nat.not_lt_zero _)
    | succ n_2 ih_3 =>
      intro k bt o x6 ls H locs hm_4 hk hbs hbl ex6 hl hP hS
      subst ex6
      refine lv_iload hx hb dX0_bestOf_19 (lv_at hl 0 rfl) ?_
      refine lv_sipush (v := 256) hx hb dX0_bestOf_21 rfl ?_
      refine lv_icmp_ge (tgt := 88) hx hb dX0_bestOf_24 rfl (fun h24 => ?_) (fun h24 => ?_)
      · have h24 : 256 ≤ k := (nz_le (a := 256) (b := k) rfl rfl (by omega) (by omega)).mp h24
        obtain rfl : k = 256 := by omega
        refine lv_iload hx hb dX0_bestOf_88 (lv_at hl 1 rfl) ?_
        exact cme_i hQ hx hb hr hlocks hK hN hP hS (congrArg Prod.fst hbs) (rfl) (⟨by rw [← hbs]; rfl, fun q => hbl (fun z => q (by rw [← hbs]; exact z))⟩) dX0_bestOf_90
      · have h24 : ¬ (256 ≤ k) := fun z9 => h24 ((nz_le (a := 256) (b := k) rfl rfl (by omega) (by omega)).mpr z9)
        refine lv_aload_n hx hb dX0_bestOf_27 rfl (lv_at hl 2 rfl) ?_
        refine lv_iload hx hb dX0_bestOf_28 (lv_at hl 0 rfl) ?_
        refine dV (v := .int (b01 (mayP σ (nI k)))) (As := [.int (nI k)]) (rest := []) ⟨hx, hb, hml, hown, hts⟩ (mt_X0_mayBe l D dA x ad μ σ ((o.full, row, nI j, ptF σ.tools 8, kn, so, o.brings, o.done, o.below, o.end_, o.mb) : Om) (nI k) hI hR) (cw_X0_X0_mayBe hts ⟨Nat.le_of_ble_eq_true rfl, Nat.le_of_ble_eq_true rfl⟩) cB_bw (cB_now hK hN hP) (va_recv hK hP (ci := 1) (q0 := 0) rfl rfl) rfl hl.1 rfl (Nat.le_of_ble_eq_true rfl) dX0_bestOf_30 ⟨Nat.le_of_ble_eq_true rfl, Nat.le_of_ble_eq_true rfl⟩ ?_
        refine lv_if_eq (tgt := 82) hx hb dX0_bestOf_33 rfl (fun h33 => ?_) (fun h33 => ?_)
        · have h33 : ¬ (mayP σ (nI k)) := b01_0.mp h33
          refine lv_iinc (v := nI (k + 1)) (lv' := [(6, .int (nI (k + 1))), (5, .int bt), (0, .ref x), (1, .int row), (2, .int (nI j)), (3, .int kn), (4, .int so)]) hx hb dX0_bestOf_82 hl (k := 0) rfl (nI_1 k) (by decide) rfl (fun ls hl => ?_)
          refine lv_goto (tgt := 19) hx hb dX0_bestOf_85 rfl ?_
          exact ih_3 (k + 1) bt ((o.full, row, nI j, ptF σ.tools 8, kn, so, o.brings, o.done, o.below, o.end_, o.mb) : Om) (nI (k + 1)) ls _ _ (by omega) (by omega) (by rw [bsG, ← hbs]; dsimp only; rw [if_neg h33]; rfl) hbl rfl (lv_sub hl [0, 1, 2, 3, 4, 5, 6] rfl) hP hS
        · have h33 : mayP σ (nI k) := b01_n h33
          refine lv_aload_n hx hb dX0_bestOf_36 rfl (lv_at hl 2 rfl) ?_
          refine va_get (D := D) (ci := 1) (v := .ref (ad 4)) (C := RX0) (T := TX0) (N := 11) hx hb hts in_X0 hown hK hP 0 rfl rfl 8 (by decide) (hts _ q223) (fun _ h9 => h9) rfl dX0_bestOf_37 ?_
          refine lv_iload hx hb dX0_bestOf_40 (lv_at hl 0 rfl) ?_
          refine dM (v := some (.ref (ad 4))) (σ' := σ) (ω' := (((nI k), row, nI j, ptF σ.tools 8, kn, so, (brT σ row kn so j (nI k)).1, (brT σ row kn so j (nI k)).2.1, belT σ row kn j, (brT σ row kn so j (nI k)).2.2, o.mb) : Om)) (As := [.int (nI k)]) (rest := []) ⟨hx, hb, hml, hown, hts⟩ (mt_X1_run l D dA x ad μ σ ((o.full, row, nI j, ptF σ.tools 8, kn, so, o.brings, o.done, o.below, o.end_, o.mb) : Om) hcD row j kn so (nI k) hI hR (nat_by k (by omega)) hoT hj1 hj) (cw_X0_X1_run hts ⟨Nat.le_of_ble_eq_true rfl, Nat.le_of_ble_eq_true rfl⟩) (cB_now hK hN hP) (va_recv hK hP (ci := 2) (q0 := 5) rfl rfl) rfl hl.1 rfl (Nat.le_of_ble_eq_true rfl) dX0_bestOf_42 ⟨Nat.le_of_ble_eq_true rfl, Nat.le_of_ble_eq_true rfl⟩ hS (fun H locs hP hS => ?_)
          change W p l e rmX0_bestOf s m args below meth c H locs 0 0 Q (F0 m 45 ls [.ref (ad 4)])
          refine lv_pop hx hb dX0_bestOf_45 rfl ?_
          refine lv_iload hx hb dX0_bestOf_46 (lv_at hl 1 rfl) ?_
          refine lv_iconst (v := (-1)) hx hb dX0_bestOf_48 rfl ?_
          refine lv_icmp_eq (tgt := 67) hx hb dX0_bestOf_49 rfl (fun h49 => ?_) (fun h49 => ?_)
          · have h49 : bt = (-1) := h49
            refine lv_iload hx hb dX0_bestOf_67 (lv_at hl 0 rfl) ?_
            refine lv_istore (lv' := [(5, .int (nI k)), (6, .int (nI k)), (0, .ref x), (1, .int row), (2, .int (nI j)), (3, .int kn), (4, .int so)]) hx hb dX0_bestOf_69 hl (by decide) rfl (fun ls hl => ?_)
            refine lv_aload_n hx hb dX0_bestOf_71 rfl (lv_at hl 2 rfl) ?_
            refine lv_aload_n hx hb dX0_bestOf_72 rfl (lv_at hl 2 rfl) ?_
            refine va_get (D := D) (ci := 1) (v := .ref (ad 4)) (C := RX0) (T := TX0) (N := 11) hx hb hts in_X0 hown hK hP 0 rfl rfl 8 (by decide) (hts _ q223) (fun _ h9 => h9) rfl dX0_bestOf_73 ?_
            refine va_get (D := D) (ci := 2) (v := .long ((brT σ row kn so j (nI k)).1)) (C := RX1) (T := TX1) (N := 11) hx hb hts in_X1 hown hK hP 5 rfl rfl 6 (by decide) (hts _ q136) (fun _ h9 => h9) rfl dX0_bestOf_76 ?_
            refine va_put (D := D) (ci := 1) (v := .long ((brT σ row kn so j (nI k)).1)) (ty := .long) (C := RX0) (T := TX0) (N := 11) hx hb hts in_X0 tyX0 tyX0_ok nmX0 hown hK hP (cD_va hcD dA σ (((nI k), row, nI j, ptF σ.tools 8, kn, so, (brT σ row kn so j (nI k)).1, (brT σ row kn so j (nI k)).2.1, belT σ row kn j, (brT σ row kn so j (nI k)).2.2, o.mb) : Om)) hS 0 rfl rfl 10 (by decide) (hts _ q225) (fun _ h9 => h9) rfl (by decide +kernel) rfl rfl (Nat.le_of_ble_eq_true rfl) dX0_bestOf_79 (fun H locs hP _ hS => ?_)
            have hP : va_P D vwCl (cW dA x ad μ σ (((nI k), row, nI j, ptF σ.tools 8, kn, so, (brT σ row kn so j (nI k)).1, (brT σ row kn so j (nI k)).2.1, belT σ row kn j, (brT σ row kn so j (nI k)).2.2, (brT σ row kn so j (nI k)).1) : Om)) H := hP
            refine lv_iinc (v := nI (k + 1)) (lv' := [(6, .int (nI (k + 1))), (5, .int (nI k)), (0, .ref x), (1, .int row), (2, .int (nI j)), (3, .int kn), (4, .int so)]) hx hb dX0_bestOf_82 hl (k := 1) rfl (nI_1 k) (by decide) rfl (fun ls hl => ?_)
            refine lv_goto (tgt := 19) hx hb dX0_bestOf_85 rfl ?_
            exact ih_3 (k + 1) (nI k) (((nI k), row, nI j, ptF σ.tools 8, kn, so, (brT σ row kn so j (nI k)).1, (brT σ row kn so j (nI k)).2.1, belT σ row kn j, (brT σ row kn so j (nI k)).2.2, (brT σ row kn so j (nI k)).1) : Om) (nI (k + 1)) ls _ _ (by omega) (by omega) (by rw [bsG, ← hbs]; dsimp only; rw [if_pos h33, if_pos h49]; rfl) (fun _ => rfl) rfl (lv_sub hl [0, 1, 2, 3, 4, 5, 6] rfl) hP hS
          · have h49 : ¬ (bt = (-1)) := h49
            refine lv_aload_n hx hb dX0_bestOf_52 rfl (lv_at hl 2 rfl) ?_
            refine va_get (D := D) (ci := 1) (v := .ref (ad 4)) (C := RX0) (T := TX0) (N := 11) hx hb hts in_X0 hown hK hP 0 rfl rfl 8 (by decide) (hts _ q223) (fun _ h9 => h9) rfl dX0_bestOf_53 ?_
            refine va_get (D := D) (ci := 2) (v := .long ((brT σ row kn so j (nI k)).1)) (C := RX1) (T := TX1) (N := 11) hx hb hts in_X1 hown hK hP 5 rfl rfl 6 (by decide) (hts _ q136) (fun _ h9 => h9) rfl dX0_bestOf_56 ?_
            refine lv_aload_n hx hb dX0_bestOf_59 rfl (lv_at hl 2 rfl) ?_
            refine va_get (D := D) (ci := 1) (v := .long o.mb) (C := RX0) (T := TX0) (N := 11) hx hb hts in_X0 hown hK hP 0 rfl rfl 10 (by decide) (hts _ q225) (fun _ h9 => h9) rfl dX0_bestOf_60 ?_
            refine W.lcmp hx hb dX0_bestOf_63 ?_
            refine lv_if_le (tgt := 82) hx hb dX0_bestOf_64 rfl (fun h64 => ?_) (fun h64 => ?_)
            · have h64 : ((brT σ row kn so j (nI k)).1) ≤ o.mb := (lg_cmp_le ((brT σ row kn so j (nI k)).1) o.mb).mp h64
              refine lv_iinc (v := nI (k + 1)) (lv' := [(6, .int (nI (k + 1))), (5, .int bt), (0, .ref x), (1, .int row), (2, .int (nI j)), (3, .int kn), (4, .int so)]) hx hb dX0_bestOf_82 hl (k := 0) rfl (nI_1 k) (by decide) rfl (fun ls hl => ?_)
              refine lv_goto (tgt := 19) hx hb dX0_bestOf_85 rfl ?_
              exact ih_3 (k + 1) bt (((nI k), row, nI j, ptF σ.tools 8, kn, so, (brT σ row kn so j (nI k)).1, (brT σ row kn so j (nI k)).2.1, belT σ row kn j, (brT σ row kn so j (nI k)).2.2, o.mb) : Om) (nI (k + 1)) ls _ _ (by omega) (by omega) (by rw [bsG, ← hbs]; dsimp only; rw [if_pos h33, if_neg h49, if_pos h64]; rfl) (fun _ => rfl) rfl (lv_sub hl [0, 1, 2, 3, 4, 5, 6] rfl) hP hS
            · have h64 : ¬ (((brT σ row kn so j (nI k)).1) ≤ o.mb) := fun z9 => h64 ((lg_cmp_le ((brT σ row kn so j (nI k)).1) o.mb).mpr z9)
              refine lv_iload hx hb dX0_bestOf_67 (lv_at hl 0 rfl) ?_
              refine lv_istore (lv' := [(5, .int (nI k)), (6, .int (nI k)), (0, .ref x), (1, .int row), (2, .int (nI j)), (3, .int kn), (4, .int so)]) hx hb dX0_bestOf_69 hl (by decide) rfl (fun ls hl => ?_)
              refine lv_aload_n hx hb dX0_bestOf_71 rfl (lv_at hl 2 rfl) ?_
              refine lv_aload_n hx hb dX0_bestOf_72 rfl (lv_at hl 2 rfl) ?_
              refine va_get (D := D) (ci := 1) (v := .ref (ad 4)) (C := RX0) (T := TX0) (N := 11) hx hb hts in_X0 hown hK hP 0 rfl rfl 8 (by decide) (hts _ q223) (fun _ h9 => h9) rfl dX0_bestOf_73 ?_
              refine va_get (D := D) (ci := 2) (v := .long ((brT σ row kn so j (nI k)).1)) (C := RX1) (T := TX1) (N := 11) hx hb hts in_X1 hown hK hP 5 rfl rfl 6 (by decide) (hts _ q136) (fun _ h9 => h9) rfl dX0_bestOf_76 ?_
              refine va_put (D := D) (ci := 1) (v := .long ((brT σ row kn so j (nI k)).1)) (ty := .long) (C := RX0) (T := TX0) (N := 11) hx hb hts in_X0 tyX0 tyX0_ok nmX0 hown hK hP (cD_va hcD dA σ (((nI k), row, nI j, ptF σ.tools 8, kn, so, (brT σ row kn so j (nI k)).1, (brT σ row kn so j (nI k)).2.1, belT σ row kn j, (brT σ row kn so j (nI k)).2.2, o.mb) : Om)) hS 0 rfl rfl 10 (by decide) (hts _ q225) (fun _ h9 => h9) rfl (by decide +kernel) rfl rfl (Nat.le_of_ble_eq_true rfl) dX0_bestOf_79 (fun H locs hP _ hS => ?_)
              have hP : va_P D vwCl (cW dA x ad μ σ (((nI k), row, nI j, ptF σ.tools 8, kn, so, (brT σ row kn so j (nI k)).1, (brT σ row kn so j (nI k)).2.1, belT σ row kn j, (brT σ row kn so j (nI k)).2.2, (brT σ row kn so j (nI k)).1) : Om)) H := hP
              refine lv_iinc (v := nI (k + 1)) (lv' := [(6, .int (nI (k + 1))), (5, .int (nI k)), (0, .ref x), (1, .int row), (2, .int (nI j)), (3, .int kn), (4, .int so)]) hx hb dX0_bestOf_82 hl (k := 1) rfl (nI_1 k) (by decide) rfl (fun ls hl => ?_)
              refine lv_goto (tgt := 19) hx hb dX0_bestOf_85 rfl ?_
              exact ih_3 (k + 1) (nI k) (((nI k), row, nI j, ptF σ.tools 8, kn, so, (brT σ row kn so j (nI k)).1, (brT σ row kn so j (nI k)).2.1, belT σ row kn j, (brT σ row kn so j (nI k)).2.2, (brT σ row kn so j (nI k)).1) : Om) (nI (k + 1)) ls _ _ (by omega) (by omega) (by rw [bsG, ← hbs]; dsimp only; rw [if_pos h33, if_neg h49, if_neg h64]; rfl) (fun _ => rfl) rfl (lv_sub hl [0, 1, 2, 3, 4, 5, 6] rfl) hP hS
  exact hL19_1 _ 0 (-1) ((ω.full, row, nI j, ptF σ.tools 8, kn, so, ω.brings, ω.done, ω.below, ω.end_, ω.mb) : Om) 0 ls _ _ (Nat.lt_succ_self _) (by omega) rfl (fun q => absurd rfl q) rfl (lv_sub hl [0, 1, 2, 3, 4, 5, 6] rfl) hP hS
