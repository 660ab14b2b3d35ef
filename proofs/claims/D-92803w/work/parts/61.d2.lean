/-! CELLS MADE 2: lists that grow, calls -/
set_option maxRecDepth 100000
theorem ra_uniq {U : State} {c1 c2 : ClassId} {ty : FieldType} (h1 : va_RA U c1 ty) (h2 : va_RA U c2 ty) : c1 = c2 := by
  cases ty with
  | object C =>
    obtain ⟨_, _, _, _, _, a⟩ := h1
    obtain ⟨_, _, _, _, _, b⟩ := h2
    exact Option.some.inj (a.symm.trans b)
  | _ => exact Option.some.inj (Eq.trans (Eq.symm h1) h2)
theorem max10 : (if (10 : Int32) < nI 1 then nI 1 else 10) = nI 10 := by decide

def rmJ2_grow_2_E : Room := { frames := 1, cells := 1, slots := 10, locals := 29 }
set_option maxHeartbeats 1000000 in
theorem mt_J2_grow_2_E (l : Launch) (D : va_G) (dA : Nat → ClassId) (κ : KZ) (sz : Nat) (o_ : Nat) (f0 : Int32) : Met l yJ2_grow_2 (ws_ yJ2_grow_2 cJ2_grow_2 4 (some (.array (.object "java/lang/Object")))) rmJ2_grow_2_E (va_Pc [.ref o_, .int (nI 1)] (aB D dA κ [(o_, .inr (8, [.int f0, .ref (κ.2.1 0), .int (nI 0)]))] sz)) (aQ (fun (e_ : Nat) => ((some (.ref e_)), [(o_, .inr (8, [.int f0, .ref e_, .int (nI 0)])), (e_, .inl (dA 3, rfs 10 (fun _ => none)))])) D [(o_, .inr (8, [.int f0, .ref (κ.2.1 0), .int (nI 0)]))] sz) 1 10 (va_A [(o_, .inr (8, [.int f0, .ref (κ.2.1 0), .int (nI 0)]))] sz) := by
  refine w_start (by decide) (Nat.le_of_ble_eq_true rfl) ?_
  intro p e s m args below meth c Q ls hQ hx hb hr hlocks hml hown hnm hts hB hl
  have hown : s.vm.findClass RJ2 = some m.cls := hown
  have hl : lv_has ls 4 [(0, .ref o_), (1, .int (nI 1))] := hl
  obtain ⟨hP, hD, hK, hZ, hk0, hge, rfl⟩ := hB
  have hA : ∀ q : Nat, s.heap.size ≤ q → va_A [(o_, .inr (8, [.int f0, .ref (κ.2.1 0), .int (nI 0)]))] s.heap.size q := fun q h => Or.inr h
  have hAn : ∀ q : Nat, va_A [(o_, .inr (8, [.int f0, .ref (κ.2.1 0), .int (nI 0)]))] s.heap.size q → κ.1 ≤ q := fun q h => by
    rcases h with ⟨k, e, h⟩ | h
    · exact hge k _ h
    · exact Nat.le_trans hk0 h
  have hS : va_S (va_A [(o_, .inr (8, [.int f0, .ref (κ.2.1 0), .int (nI 0)]))] s.heap.size) s.heap s.heap [] := va_S.rf
  have hP : va_P D vwCl [(o_, .inr (8, [.int f0, .ref (κ.2.1 0), .int (nI 0)]))] s.heap := hP
  have hD : va_D (va_A [(o_, .inr (8, [.int f0, .ref (κ.2.1 0), .int (nI 0)]))] s.heap.size) [(o_, .inr (8, [.int f0, .ref (κ.2.1 0), .int (nI 0)]))] := hD
  refine lv_aload_n hx hb dJ2_grow_2_0 rfl (lv_at hl 0 rfl) ?_
  refine va_get (D := D) (ci := 8) (v := .ref (κ.2.1 0)) (C := RJ2) (T := TJ2) (N := 3) hx hb hts in_J2 hown hK hP 0 rfl rfl 1 (by decide) (hts _ q183) (fun _ h9 => h9) rfl dJ2_grow_2_1 ?_
  refine va_tlen (v := nI 0) hx hb (va_T.narrow hZ.1.2.2.1 hAn) hS rfl dJ2_grow_2_4 ?_
  refine lv_istore_n (lv' := [(2, .int (nI 0)), (0, .ref o_), (1, .int (nI 1))]) hx hb dJ2_grow_2_5 rfl hl (by decide) rfl (fun ls hl => ?_)
  refine lv_iload_n hx hb dJ2_grow_2_6 rfl (lv_at hl 0 rfl) ?_
  refine lv_if_gt (tgt := 20) hx hb dJ2_grow_2_7 rfl (fun h7 => ?_) (fun h7 => ?_)
  · have h7 : 0 < 0 := (nz_lt (a := 0) (b := 0) rfl rfl (by omega) (by omega)).mp h7
    exact absurd h7 (Nat.lt_irrefl _)
  · have h7 : ¬ (0 < 0) := fun z9 => h7 ((nz_lt (a := 0) (b := 0) rfl rfl (by omega) (by omega)).mpr z9)
    refine lv_aload_n hx hb dJ2_grow_2_10 rfl (lv_at hl 1 rfl) ?_
    refine va_get (D := D) (ci := 8) (v := .ref (κ.2.1 0)) (C := RJ2) (T := TJ2) (N := 3) hx hb hts in_J2 hown hK hP 0 rfl rfl 1 (by decide) (hts _ q183) (fun _ h9 => h9) rfl dJ2_grow_2_11 ?_
    refine va_gets (v := .ref (κ.2.1 0)) hx hb (va_Z.narrow hZ.1.2.1 hAn) hS hown (hts _ q181) (fun _ h9 => h9) dJ2_grow_2_14 ?_
    refine lv_acmp_eq (rx := some (κ.2.1 0)) (ry := some (κ.2.1 0)) (tgt := 45) hx hb dJ2_grow_2_17 rfl (fun h9 => ?_) (fun h9 => ?_)
    rotate_left
    · exact absurd rfl h9
    refine lv_aload_n hx hb dJ2_grow_2_45 rfl (lv_at hl 1 rfl) ?_
    refine lv_bipush (v := 10) hx hb dJ2_grow_2_46 rfl ?_
    refine lv_iload_n hx hb dJ2_grow_2_48 rfl (lv_at hl 2 rfl) ?_
    refine va_mmax hx hb (hml.trans hl.1.symm) hown (hts _ q801) (hts _ q367) (hts _ q90) (hts _ q368) (Nat.le_of_ble_eq_true rfl) (Nat.le_of_ble_eq_true rfl) (Nat.le_of_ble_eq_true rfl) (Nat.le_of_ble_eq_true rfl) dJ2_grow_2_49 ?_
    refine w_topi (y := nI 10) (max10) ?_
    refine va_newq (D := D) (n := nI 10) (N' := 10) hx hb hown (hts _ q802) hZ.2.2.1 hK hP hD hS hA (nI_pos (by omega)) (nI_clamp (by omega)) (by omega) (Nat.le_of_ble_eq_true rfl) (Nat.le_of_ble_eq_true rfl) dJ2_grow_2_52 (fun q_1 cA H hK9 hP hD hS => ?_)
    obtain rfl : cA = dA 3 := ra_uniq (hK9.2 7 _ rfl).2 (hK.2 3 _ rfl).2
    clear hK9
    have hP : va_P D vwCl [(o_, .inr (8, [.int f0, .ref (κ.2.1 0), .int (nI 0)])), (q_1, .inl (dA 3, rfs 10 (fun _ => none)))] H := hP
    have hD : va_D (va_A [(o_, .inr (8, [.int f0, .ref (κ.2.1 0), .int (nI 0)]))] s.heap.size) [(o_, .inr (8, [.int f0, .ref (κ.2.1 0), .int (nI 0)])), (q_1, .inl (dA 3, rfs 10 (fun _ => none)))] := hD
    refine lv_dup_x1 hx hb dJ2_grow_2_55 rfl rfl ?_
    refine va_put (D := D) (ci := 8) (v := .ref q_1) (ty := (.array (.object "java/lang/Object"))) (C := RJ2) (T := TJ2) (N := 3) hx hb hts in_J2 tyJ2 tyJ2_ok nmJ2 hown hK hP hD hS 0 rfl rfl 1 (by decide) (hts _ q183) (fun _ h9 => h9) rfl (by decide +kernel) (rfl) (rfl) (Nat.le_of_ble_eq_true rfl) dJ2_grow_2_56 (fun H locs hP hD hS => ?_)
    have hP : va_P D vwCl [(o_, .inr (8, [.int f0, .ref q_1, .int (nI 0)])), (q_1, .inl (dA 3, rfs 10 (fun _ => none)))] H := hP
    have hD : va_D (va_A [(o_, .inr (8, [.int f0, .ref (κ.2.1 0), .int (nI 0)]))] s.heap.size) [(o_, .inr (8, [.int f0, .ref q_1, .int (nI 0)])), (q_1, .inl (dA 3, rfs 10 (fun _ => none)))] := hD
    exact ar_a q_1 hQ hx hb hr (Or.inr ⟨_, rfl⟩) hlocks hP hD hS (Nat.le_of_ble_eq_true rfl) (Nat.le_of_ble_eq_true rfl) (rfl) [0, 1] (rfl) (rfl) rfl dJ2_grow_2_59

theorem cw_J2_J2_grow_2_E {R : Room} {s : State} {args : Array Value} (hts : ∀ w ∈ lw_all, w.before args s = true) (hR : rmJ2_grow_2_E.frames + 1 ≤ R.frames ∧ 8 + (4 + 11) + rmJ2_grow_2_E.locals ≤ R.locals) : CallW R s args RJ2 RJ2 69 yJ2_grow_2 cJ2_grow_2 4 (some (.array (.object "java/lang/Object"))) (ws_ yJ2_grow_2 cJ2_grow_2 4 (some (.array (.object "java/lang/Object")))) rmJ2_grow_2_E 1 10 1 := cwV 1 hts (lw_V q770 q772 qs15 q81 q773) rfl rfl rfl (by decide +kernel) hR
def rmJ2_grow_E : Room := { frames := 2, cells := 1, slots := 10, locals := 52 }
set_option maxHeartbeats 1000000 in
theorem mt_J2_grow_E (l : Launch) (D : va_G) (dA : Nat → ClassId) (κ : KZ) (sz : Nat) (o_ : Nat) (f0 : Int32) : Met l yJ2_grow (ws_ yJ2_grow cJ2_grow 1 (some (.array (.object "java/lang/Object")))) rmJ2_grow_E (va_Pc [.ref o_] (aB D dA κ [(o_, .inr (8, [.int f0, .ref (κ.2.1 0), .int (nI 0)]))] sz)) (aQ (fun (e_ : Nat) => ((some (.ref e_)), [(o_, .inr (8, [.int f0, .ref e_, .int (nI 0)])), (e_, .inl (dA 3, rfs 10 (fun _ => none)))])) D [(o_, .inr (8, [.int f0, .ref (κ.2.1 0), .int (nI 0)]))] sz) 1 10 (va_A [(o_, .inr (8, [.int f0, .ref (κ.2.1 0), .int (nI 0)]))] sz) := by
  refine w_start (by decide) (Nat.le_of_ble_eq_true rfl) ?_
  intro p e s m args below meth c Q ls hQ hx hb hr hlocks hml hown hnm hts hB hl
  have hown : s.vm.findClass RJ2 = some m.cls := hown
  have hl : lv_has ls 1 [(0, .ref o_)] := hl
  obtain ⟨hP, hD, hK, hZ, hk0, hge, rfl⟩ := hB
  have hA : ∀ q : Nat, s.heap.size ≤ q → va_A [(o_, .inr (8, [.int f0, .ref (κ.2.1 0), .int (nI 0)]))] s.heap.size q := fun q h => Or.inr h
  have hAn : ∀ q : Nat, va_A [(o_, .inr (8, [.int f0, .ref (κ.2.1 0), .int (nI 0)]))] s.heap.size q → κ.1 ≤ q := fun q h => by
    rcases h with ⟨k, e, h⟩ | h
    · exact hge k _ h
    · exact Nat.le_trans hk0 h
  have hS : va_S (va_A [(o_, .inr (8, [.int f0, .ref (κ.2.1 0), .int (nI 0)]))] s.heap.size) s.heap s.heap [] := va_S.rf
  have hP : va_P D vwCl [(o_, .inr (8, [.int f0, .ref (κ.2.1 0), .int (nI 0)]))] s.heap := hP
  have hD : va_D (va_A [(o_, .inr (8, [.int f0, .ref (κ.2.1 0), .int (nI 0)]))] s.heap.size) [(o_, .inr (8, [.int f0, .ref (κ.2.1 0), .int (nI 0)]))] := hD
  refine lv_aload_n hx hb dJ2_grow_0 rfl (lv_at hl 0 rfl) ?_
  refine lv_aload_n hx hb dJ2_grow_1 rfl (lv_at hl 0 rfl) ?_
  refine va_get (D := D) (ci := 8) (v := .int (nI 0)) (C := RJ2) (T := TJ2) (N := 3) hx hb hts in_J2 hown hK hP 0 rfl rfl 2 (by decide) (hts _ q184) (fun _ h9 => h9) rfl dJ2_grow_2 ?_
  refine lv_iconst (v := 1) hx hb dJ2_grow_5 rfl ?_
  refine lv_iadd hx hb dJ2_grow_6 ?_
  refine w_topi (nz_add rfl rfl) ?_
  refine aV (wc := [(o_, .inr (8, [.int f0, .ref (κ.2.1 0), .int (nI 0)]))]) (wr := []) (As := [.int (nI (0 + 1))]) (rest := []) ⟨hx, hb, hml, hown, hts⟩ (mt_J2_grow_2_E l D dA κ s.heap.size o_ f0) (cw_J2_J2_grow_2_E hts ⟨Nat.le_of_ble_eq_true rfl, Nat.le_of_ble_eq_true rfl⟩) (a_now hK hZ hP hD hS hk0 hAn [0] rfl rfl rfl) (va_recv hK hP (ci := 8) (q0 := 0) rfl rfl) rfl hl.1 rfl (Nat.le_of_ble_eq_true rfl) dJ2_grow_7 ⟨Nat.le_of_ble_eq_true rfl, Nat.le_of_ble_eq_true rfl⟩ hP hD hS hA [0] [] rfl rfl rfl (by decide) (fun e__1 H locs hP hD hS => ?_)
  have hP : va_P D vwCl [(o_, .inr (8, [.int f0, .ref e__1, .int (nI 0)])), (e__1, .inl (dA 3, rfs 10 (fun _ => none)))] H := hP
  have hD : va_D (va_A [(o_, .inr (8, [.int f0, .ref (κ.2.1 0), .int (nI 0)]))] s.heap.size) [(o_, .inr (8, [.int f0, .ref e__1, .int (nI 0)])), (e__1, .inl (dA 3, rfs 10 (fun _ => none)))] := hD
  change W p l e rmJ2_grow_E s m args below meth c H locs 1 10 Q (F0 m 10 ls [.ref e__1])
  exact ar_a e__1 hQ hx hb hr (Or.inr ⟨_, rfl⟩) hlocks hP hD hS (Nat.le_of_ble_eq_true rfl) (Nat.le_of_ble_eq_true rfl) (rfl) [0, 1] (rfl) (rfl) rfl dJ2_grow_10

theorem cw_J2_J2_grow_E {R : Room} {s : State} {args : Array Value} (hts : ∀ w ∈ lw_all, w.before args s = true) (hR : rmJ2_grow_E.frames + 1 ≤ R.frames ∧ 8 + (1 + 11) + rmJ2_grow_E.locals ≤ R.locals) : CallW R s args RJ2 RJ2 129 yJ2_grow cJ2_grow 1 (some (.array (.object "java/lang/Object"))) (ws_ yJ2_grow cJ2_grow 1 (some (.array (.object "java/lang/Object")))) rmJ2_grow_E 1 10 0 := cwV 0 hts (lw_V q766 q768 qs14 q81 q769) rfl rfl rfl (by decide +kernel) hR
def rmJ2_add_2_SE : Room := { frames := 3, cells := 1, slots := 10, locals := 72 }
set_option maxHeartbeats 1000000 in
theorem mt_J2_add_2_SE (l : Launch) (D : va_G) (dA : Nat → ClassId) (κ : KZ) (sz : Nat) (o_ : Nat) (v_ : Nat) (f0 : Int32) (a0 : Int32) (a1 : Int32) (a2 : Int32) (a3 : Int32) : Met l yJ2_add_2 (ws_ yJ2_add_2 cJ2_add_2 4 none) rmJ2_add_2_SE (va_Pc [.ref o_, .ref v_, .ref (κ.2.1 0), .int (nI 0)] (aB D dA κ [(o_, .inr (8, [.int f0, .ref (κ.2.1 0), .int (nI 0)])), (v_, .inr (6, [.int a0, .int a1, .int a2, .int a3]))] sz)) (aQ (fun (e_ : Nat) => (none, [(o_, .inr (8, [.int f0, .ref e_, .int (nI 1)])), (e_, .inl (dA 3, rfs 10 (va_up (fun _ => none) 0 (some v_)))), (v_, .inr (6, [.int a0, .int a1, .int a2, .int a3]))])) D [(o_, .inr (8, [.int f0, .ref (κ.2.1 0), .int (nI 0)])), (v_, .inr (6, [.int a0, .int a1, .int a2, .int a3]))] sz) 1 10 (va_A [(o_, .inr (8, [.int f0, .ref (κ.2.1 0), .int (nI 0)])), (v_, .inr (6, [.int a0, .int a1, .int a2, .int a3]))] sz) := by
  refine w_start (by decide) (Nat.le_of_ble_eq_true rfl) ?_
  intro p e s m args below meth c Q ls hQ hx hb hr hlocks hml hown hnm hts hB hl
  have hown : s.vm.findClass RJ2 = some m.cls := hown
  have hl : lv_has ls 4 [(0, .ref o_), (1, .ref v_), (2, .ref (κ.2.1 0)), (3, .int (nI 0))] := hl
  obtain ⟨hP, hD, hK, hZ, hk0, hge, rfl⟩ := hB
  have hA : ∀ q : Nat, s.heap.size ≤ q → va_A [(o_, .inr (8, [.int f0, .ref (κ.2.1 0), .int (nI 0)])), (v_, .inr (6, [.int a0, .int a1, .int a2, .int a3]))] s.heap.size q := fun q h => Or.inr h
  have hAn : ∀ q : Nat, va_A [(o_, .inr (8, [.int f0, .ref (κ.2.1 0), .int (nI 0)])), (v_, .inr (6, [.int a0, .int a1, .int a2, .int a3]))] s.heap.size q → κ.1 ≤ q := fun q h => by
    rcases h with ⟨k, e, h⟩ | h
    · exact hge k _ h
    · exact Nat.le_trans hk0 h
  have hS : va_S (va_A [(o_, .inr (8, [.int f0, .ref (κ.2.1 0), .int (nI 0)])), (v_, .inr (6, [.int a0, .int a1, .int a2, .int a3]))] s.heap.size) s.heap s.heap [] := va_S.rf
  have hP : va_P D vwCl [(o_, .inr (8, [.int f0, .ref (κ.2.1 0), .int (nI 0)])), (v_, .inr (6, [.int a0, .int a1, .int a2, .int a3]))] s.heap := hP
  have hD : va_D (va_A [(o_, .inr (8, [.int f0, .ref (κ.2.1 0), .int (nI 0)])), (v_, .inr (6, [.int a0, .int a1, .int a2, .int a3]))] s.heap.size) [(o_, .inr (8, [.int f0, .ref (κ.2.1 0), .int (nI 0)])), (v_, .inr (6, [.int a0, .int a1, .int a2, .int a3]))] := hD
  refine lv_iload_n hx hb dJ2_add_2_0 rfl (lv_at hl 3 rfl) ?_
  refine lv_aload_n hx hb dJ2_add_2_1 rfl (lv_at hl 2 rfl) ?_
  refine va_tlen (v := nI 0) hx hb (va_T.narrow hZ.1.2.2.1 hAn) hS rfl dJ2_add_2_2 ?_
  refine lv_icmp_ne (tgt := 11) hx hb dJ2_add_2_3 rfl (fun h3 => ?_) (fun h3 => ?_)
  · have h3 : ¬ (0 = 0) := fun z9 => h3 ((nz_eq (a := 0) (b := 0) rfl rfl (by omega) (by omega)).mpr z9)
    exact absurd rfl h3
  · have h3 : 0 = 0 := (nz_eq (a := 0) (b := 0) rfl rfl (by omega) (by omega)).mp h3
    refine lv_aload_n hx hb dJ2_add_2_6 rfl (lv_at hl 0 rfl) ?_
    refine aV (wc := [(o_, .inr (8, [.int f0, .ref (κ.2.1 0), .int (nI 0)]))]) (wr := [(v_, .inr (6, [.int a0, .int a1, .int a2, .int a3]))]) (As := []) (rest := []) ⟨hx, hb, hml, hown, hts⟩ (mt_J2_grow_E l D dA κ s.heap.size o_ f0) (cw_J2_J2_grow_E hts ⟨Nat.le_of_ble_eq_true rfl, Nat.le_of_ble_eq_true rfl⟩) (a_now hK hZ hP hD hS hk0 hAn [0] rfl rfl rfl) (va_recv hK hP (ci := 8) (q0 := 0) rfl rfl) rfl hl.1 rfl (Nat.le_of_ble_eq_true rfl) dJ2_add_2_7 ⟨Nat.le_of_ble_eq_true rfl, Nat.le_of_ble_eq_true rfl⟩ hP hD hS hA [0] [1] rfl rfl rfl (by decide) (fun e__1 H locs hP hD hS => ?_)
    have hP : va_P D vwCl [(v_, .inr (6, [.int a0, .int a1, .int a2, .int a3])), (o_, .inr (8, [.int f0, .ref e__1, .int (nI 0)])), (e__1, .inl (dA 3, rfs 10 (fun _ => none)))] H := hP
    have hD : va_D (va_A [(o_, .inr (8, [.int f0, .ref (κ.2.1 0), .int (nI 0)])), (v_, .inr (6, [.int a0, .int a1, .int a2, .int a3]))] s.heap.size) [(v_, .inr (6, [.int a0, .int a1, .int a2, .int a3])), (o_, .inr (8, [.int f0, .ref e__1, .int (nI 0)])), (e__1, .inl (dA 3, rfs 10 (fun _ => none)))] := hD
    change W p l e rmJ2_add_2_SE s m args below meth c H locs 1 10 Q (F0 m 10 ls [.ref e__1])
    refine lv_astore_n (lv' := [(2, .ref e__1), (0, .ref o_), (1, .ref v_), (3, .int (nI 0))]) hx hb dJ2_add_2_10 rfl hl (by decide) rfl (fun ls hl => ?_)
    refine lv_aload_n hx hb dJ2_add_2_11 rfl (lv_at hl 0 rfl) ?_
    refine lv_iload_n hx hb dJ2_add_2_12 rfl (lv_at hl 3 rfl) ?_
    refine lv_aload_n hx hb dJ2_add_2_13 rfl (lv_at hl 2 rfl) ?_
    refine va_astqO (D := D) hx hb hK hP hD hS 2 3 0 6 rfl rfl (hZ.2.1 ("CarryUp$Sort", "java/lang/Object") (by decide)) rfl rfl (vp_in_nI (by omega) (by omega)) dJ2_add_2_14 (fun H locs hP hD hS => ?_)
    rw [nI_clamp (by omega)] at hP hD
    have hP : va_P D vwCl [(v_, .inr (6, [.int a0, .int a1, .int a2, .int a3])), (o_, .inr (8, [.int f0, .ref e__1, .int (nI 0)])), (e__1, .inl (dA 3, rfs 10 (va_up (fun _ => none) 0 (some v_))))] H := hP
    have hD : va_D (va_A [(o_, .inr (8, [.int f0, .ref (κ.2.1 0), .int (nI 0)])), (v_, .inr (6, [.int a0, .int a1, .int a2, .int a3]))] s.heap.size) [(v_, .inr (6, [.int a0, .int a1, .int a2, .int a3])), (o_, .inr (8, [.int f0, .ref e__1, .int (nI 0)])), (e__1, .inl (dA 3, rfs 10 (va_up (fun _ => none) 0 (some v_))))] := hD
    refine lv_aload_n hx hb dJ2_add_2_15 rfl (lv_at hl 1 rfl) ?_
    refine lv_iload_n hx hb dJ2_add_2_16 rfl (lv_at hl 3 rfl) ?_
    refine lv_iconst (v := 1) hx hb dJ2_add_2_17 rfl ?_
    refine lv_iadd hx hb dJ2_add_2_18 ?_
    refine w_topi (nz_add rfl rfl) ?_
    refine va_put (D := D) (ci := 8) (v := .int (nI (0 + 1))) (ty := .int) (C := RJ2) (T := TJ2) (N := 3) hx hb hts in_J2 tyJ2 tyJ2_ok nmJ2 hown hK hP hD hS 1 rfl rfl 2 (by decide) (hts _ q184) (fun _ h9 => h9) rfl (by decide +kernel) (rfl) (rfl) (Nat.le_of_ble_eq_true rfl) dJ2_add_2_19 (fun H locs hP hD hS => ?_)
    have hP : va_P D vwCl [(v_, .inr (6, [.int a0, .int a1, .int a2, .int a3])), (o_, .inr (8, [.int f0, .ref e__1, .int (nI (0 + 1))])), (e__1, .inl (dA 3, rfs 10 (va_up (fun _ => none) 0 (some v_))))] H := hP
    have hD : va_D (va_A [(o_, .inr (8, [.int f0, .ref (κ.2.1 0), .int (nI 0)])), (v_, .inr (6, [.int a0, .int a1, .int a2, .int a3]))] s.heap.size) [(v_, .inr (6, [.int a0, .int a1, .int a2, .int a3])), (o_, .inr (8, [.int f0, .ref e__1, .int (nI (0 + 1))])), (e__1, .inl (dA 3, rfs 10 (va_up (fun _ => none) 0 (some v_))))] := hD
    exact ar_v e__1 hQ hx hb hr hlocks hP hD hS (Nat.le_of_ble_eq_true rfl) (Nat.le_of_ble_eq_true rfl) (rfl) [1, 2, 0] (rfl) (rfl) rfl dJ2_add_2_22

theorem cw_J2_J2_add_2_SE {R : Room} {s : State} {args : Array Value} (hts : ∀ w ∈ lw_all, w.before args s = true) (hR : rmJ2_add_2_SE.frames + 1 ≤ R.frames ∧ 8 + (4 + 11) + rmJ2_add_2_SE.locals ≤ R.locals) : CallW R s args RJ2 RJ2 131 yJ2_add_2 cJ2_add_2 4 none (ws_ yJ2_add_2 cJ2_add_2 4 none) rmJ2_add_2_SE 1 10 3 := cwV 3 hts (lw_V q762 q764 qs13 q81 q765) rfl rfl rfl (by decide +kernel) hR
def rmJ2_add_SE : Room := { frames := 4, cells := 1, slots := 10, locals := 95 }
set_option maxHeartbeats 1000000 in
theorem mt_J2_add_SE (l : Launch) (D : va_G) (dA : Nat → ClassId) (κ : KZ) (sz : Nat) (o_ : Nat) (v_ : Nat) (f0 : Int32) (a0 : Int32) (a1 : Int32) (a2 : Int32) (a3 : Int32) : Met l yJ2_add (ws_ yJ2_add cJ2_add 2 (some .boolean)) rmJ2_add_SE (va_Pc [.ref o_, .ref v_] (aB D dA κ [(o_, .inr (8, [.int f0, .ref (κ.2.1 0), .int (nI 0)])), (v_, .inr (6, [.int a0, .int a1, .int a2, .int a3]))] sz)) (aQ (fun (e_ : Nat) => ((some (.int 1)), [(o_, .inr (8, [.int (f0 + 1), .ref e_, .int (nI 1)])), (e_, .inl (dA 3, rfs 10 (va_up (fun _ => none) 0 (some v_)))), (v_, .inr (6, [.int a0, .int a1, .int a2, .int a3]))])) D [(o_, .inr (8, [.int f0, .ref (κ.2.1 0), .int (nI 0)])), (v_, .inr (6, [.int a0, .int a1, .int a2, .int a3]))] sz) 1 10 (va_A [(o_, .inr (8, [.int f0, .ref (κ.2.1 0), .int (nI 0)])), (v_, .inr (6, [.int a0, .int a1, .int a2, .int a3]))] sz) := by
  refine w_start (by decide) (Nat.le_of_ble_eq_true rfl) ?_
  intro p e s m args below meth c Q ls hQ hx hb hr hlocks hml hown hnm hts hB hl
  have hown : s.vm.findClass RJ2 = some m.cls := hown
  have hl : lv_has ls 2 [(0, .ref o_), (1, .ref v_)] := hl
  obtain ⟨hP, hD, hK, hZ, hk0, hge, rfl⟩ := hB
  have hA : ∀ q : Nat, s.heap.size ≤ q → va_A [(o_, .inr (8, [.int f0, .ref (κ.2.1 0), .int (nI 0)])), (v_, .inr (6, [.int a0, .int a1, .int a2, .int a3]))] s.heap.size q := fun q h => Or.inr h
  have hAn : ∀ q : Nat, va_A [(o_, .inr (8, [.int f0, .ref (κ.2.1 0), .int (nI 0)])), (v_, .inr (6, [.int a0, .int a1, .int a2, .int a3]))] s.heap.size q → κ.1 ≤ q := fun q h => by
    rcases h with ⟨k, e, h⟩ | h
    · exact hge k _ h
    · exact Nat.le_trans hk0 h
  have hS : va_S (va_A [(o_, .inr (8, [.int f0, .ref (κ.2.1 0), .int (nI 0)])), (v_, .inr (6, [.int a0, .int a1, .int a2, .int a3]))] s.heap.size) s.heap s.heap [] := va_S.rf
  have hP : va_P D vwCl [(o_, .inr (8, [.int f0, .ref (κ.2.1 0), .int (nI 0)])), (v_, .inr (6, [.int a0, .int a1, .int a2, .int a3]))] s.heap := hP
  have hD : va_D (va_A [(o_, .inr (8, [.int f0, .ref (κ.2.1 0), .int (nI 0)])), (v_, .inr (6, [.int a0, .int a1, .int a2, .int a3]))] s.heap.size) [(o_, .inr (8, [.int f0, .ref (κ.2.1 0), .int (nI 0)])), (v_, .inr (6, [.int a0, .int a1, .int a2, .int a3]))] := hD
  refine lv_aload_n hx hb dJ2_add_0 rfl (lv_at hl 0 rfl) ?_
  refine lv_dup hx hb dJ2_add_1 rfl ?_
  refine va_get (D := D) (ci := 8) (v := .int f0) (C := RJ2) (T := TJ2) (N := 3) hx hb hts in_J2 hown hK hP 0 rfl rfl 0 (by decide) (hts _ q186) (fun x9 h9 => u_same (hts _ q187) x9 h9) rfl dJ2_add_2 ?_
  refine lv_iconst (v := 1) hx hb dJ2_add_5 rfl ?_
  refine lv_iadd hx hb dJ2_add_6 ?_
  refine va_put (D := D) (ci := 8) (v := .int (f0 + 1)) (ty := .int) (C := RJ2) (T := TJ2) (N := 3) hx hb hts in_J2 tyJ2 tyJ2_ok nmJ2 hown hK hP hD hS 0 rfl rfl 0 (by decide) (hts _ q186) (fun x9 h9 => u_same (hts _ q187) x9 h9) rfl (by decide +kernel) (rfl) (rfl) (Nat.le_of_ble_eq_true rfl) dJ2_add_7 (fun H locs hP hD hS => ?_)
  have hP : va_P D vwCl [(o_, .inr (8, [.int (f0 + 1), .ref (κ.2.1 0), .int (nI 0)])), (v_, .inr (6, [.int a0, .int a1, .int a2, .int a3]))] H := hP
  have hD : va_D (va_A [(o_, .inr (8, [.int f0, .ref (κ.2.1 0), .int (nI 0)])), (v_, .inr (6, [.int a0, .int a1, .int a2, .int a3]))] s.heap.size) [(o_, .inr (8, [.int (f0 + 1), .ref (κ.2.1 0), .int (nI 0)])), (v_, .inr (6, [.int a0, .int a1, .int a2, .int a3]))] := hD
  refine lv_aload_n hx hb dJ2_add_10 rfl (lv_at hl 0 rfl) ?_
  refine lv_aload_n hx hb dJ2_add_11 rfl (lv_at hl 1 rfl) ?_
  refine lv_aload_n hx hb dJ2_add_12 rfl (lv_at hl 0 rfl) ?_
  refine va_get (D := D) (ci := 8) (v := .ref (κ.2.1 0)) (C := RJ2) (T := TJ2) (N := 3) hx hb hts in_J2 hown hK hP 0 rfl rfl 1 (by decide) (hts _ q183) (fun _ h9 => h9) rfl dJ2_add_13 ?_
  refine lv_aload_n hx hb dJ2_add_16 rfl (lv_at hl 0 rfl) ?_
  refine va_get (D := D) (ci := 8) (v := .int (nI 0)) (C := RJ2) (T := TJ2) (N := 3) hx hb hts in_J2 hown hK hP 0 rfl rfl 2 (by decide) (hts _ q184) (fun _ h9 => h9) rfl dJ2_add_17 ?_
  refine aV (wc := [(o_, .inr (8, [.int (f0 + 1), .ref (κ.2.1 0), .int (nI 0)])), (v_, .inr (6, [.int a0, .int a1, .int a2, .int a3]))]) (wr := []) (As := [.ref v_, .ref (κ.2.1 0), .int (nI 0)]) (rest := []) ⟨hx, hb, hml, hown, hts⟩ (mt_J2_add_2_SE l D dA κ H.size o_ v_ (f0 + 1) a0 a1 a2 a3) (cw_J2_J2_add_2_SE hts ⟨Nat.le_of_ble_eq_true rfl, Nat.le_of_ble_eq_true rfl⟩) (a_now hK hZ hP hD hS hk0 hAn [0, 1] rfl rfl rfl) (va_recv hK hP (ci := 8) (q0 := 0) rfl rfl) rfl hl.1 rfl (Nat.le_of_ble_eq_true rfl) dJ2_add_20 ⟨Nat.le_of_ble_eq_true rfl, Nat.le_of_ble_eq_true rfl⟩ hP hD hS hA [0, 1] [] rfl rfl rfl (by decide) (fun e__1 H locs hP hD hS => ?_)
  have hP : va_P D vwCl [(o_, .inr (8, [.int (f0 + 1), .ref e__1, .int (nI 1)])), (e__1, .inl (dA 3, rfs 10 (va_up (fun _ => none) 0 (some v_)))), (v_, .inr (6, [.int a0, .int a1, .int a2, .int a3]))] H := hP
  have hD : va_D (va_A [(o_, .inr (8, [.int f0, .ref (κ.2.1 0), .int (nI 0)])), (v_, .inr (6, [.int a0, .int a1, .int a2, .int a3]))] s.heap.size) [(o_, .inr (8, [.int (f0 + 1), .ref e__1, .int (nI 1)])), (e__1, .inl (dA 3, rfs 10 (va_up (fun _ => none) 0 (some v_)))), (v_, .inr (6, [.int a0, .int a1, .int a2, .int a3]))] := hD
  change W p l e rmJ2_add_SE s m args below meth c H locs 1 10 Q (F0 m 23 ls [])
  refine lv_iconst (v := 1) hx hb dJ2_add_23 rfl ?_
  exact ar_z e__1 hQ hx hb hr hlocks (Or.inr rfl) hP hD hS (Nat.le_of_ble_eq_true rfl) (Nat.le_of_ble_eq_true rfl) (rfl) [0, 1, 2] (rfl) (rfl) rfl dJ2_add_24

def rmJ2_add_2_S : Room := { frames := 0, cells := 0, slots := 0, locals := 0 }
set_option maxHeartbeats 1000000 in
theorem mt_J2_add_2_S (l : Launch) (D : va_G) (dA : Nat → ClassId) (κ : KZ) (sz : Nat) (o_ : Nat) (v_ : Nat) (e_ : Nat) (f0 : Int32) (k_ : Nat) (N_ : Nat) (g_ : Nat → Option Nat) (a0 : Int32) (a1 : Int32) (a2 : Int32) (a3 : Int32) (hk : k_ < N_) (hN : N_ ≤ 22) : Met l yJ2_add_2 (ws_ yJ2_add_2 cJ2_add_2 4 none) rmJ2_add_2_S (va_Pc [.ref o_, .ref v_, .ref e_, .int (nI k_)] (aB D dA κ [(o_, .inr (8, [.int f0, .ref e_, .int (nI k_)])), (e_, .inl (dA 3, rfs N_ g_)), (v_, .inr (6, [.int a0, .int a1, .int a2, .int a3]))] sz)) (aQ (fun (_ : Unit) => (none, [(o_, .inr (8, [.int f0, .ref e_, .int (nI (k_ + 1))])), (e_, .inl (dA 3, rfs N_ (va_up g_ k_ (some v_)))), (v_, .inr (6, [.int a0, .int a1, .int a2, .int a3]))])) D [(o_, .inr (8, [.int f0, .ref e_, .int (nI k_)])), (e_, .inl (dA 3, rfs N_ g_)), (v_, .inr (6, [.int a0, .int a1, .int a2, .int a3]))] sz) 0 0 (va_A [(o_, .inr (8, [.int f0, .ref e_, .int (nI k_)])), (e_, .inl (dA 3, rfs N_ g_)), (v_, .inr (6, [.int a0, .int a1, .int a2, .int a3]))] sz) := by
  refine w_start (by decide) (Nat.le_of_ble_eq_true rfl) ?_
  intro p e s m args below meth c Q ls hQ hx hb hr hlocks hml hown hnm hts hB hl
  have hown : s.vm.findClass RJ2 = some m.cls := hown
  have hl : lv_has ls 4 [(0, .ref o_), (1, .ref v_), (2, .ref e_), (3, .int (nI k_))] := hl
  obtain ⟨hP, hD, hK, hZ, hk0, hge, rfl⟩ := hB
  have hA : ∀ q : Nat, s.heap.size ≤ q → va_A [(o_, .inr (8, [.int f0, .ref e_, .int (nI k_)])), (e_, .inl (dA 3, rfs N_ g_)), (v_, .inr (6, [.int a0, .int a1, .int a2, .int a3]))] s.heap.size q := fun q h => Or.inr h
  have hAn : ∀ q : Nat, va_A [(o_, .inr (8, [.int f0, .ref e_, .int (nI k_)])), (e_, .inl (dA 3, rfs N_ g_)), (v_, .inr (6, [.int a0, .int a1, .int a2, .int a3]))] s.heap.size q → κ.1 ≤ q := fun q h => by
    rcases h with ⟨k, e, h⟩ | h
    · exact hge k _ h
    · exact Nat.le_trans hk0 h
  have hS : va_S (va_A [(o_, .inr (8, [.int f0, .ref e_, .int (nI k_)])), (e_, .inl (dA 3, rfs N_ g_)), (v_, .inr (6, [.int a0, .int a1, .int a2, .int a3]))] s.heap.size) s.heap s.heap [] := va_S.rf
  have hP : va_P D vwCl [(o_, .inr (8, [.int f0, .ref e_, .int (nI k_)])), (e_, .inl (dA 3, rfs N_ g_)), (v_, .inr (6, [.int a0, .int a1, .int a2, .int a3]))] s.heap := hP
  have hD : va_D (va_A [(o_, .inr (8, [.int f0, .ref e_, .int (nI k_)])), (e_, .inl (dA 3, rfs N_ g_)), (v_, .inr (6, [.int a0, .int a1, .int a2, .int a3]))] s.heap.size) [(o_, .inr (8, [.int f0, .ref e_, .int (nI k_)])), (e_, .inl (dA 3, rfs N_ g_)), (v_, .inr (6, [.int a0, .int a1, .int a2, .int a3]))] := hD
  refine lv_iload_n hx hb dJ2_add_2_0 rfl (lv_at hl 3 rfl) ?_
  refine lv_aload_n hx hb dJ2_add_2_1 rfl (lv_at hl 2 rfl) ?_
  refine va_alen (v := nI N_) hx hb hK hP 1 3 rfl rfl rfl dJ2_add_2_2 ?_
  refine lv_icmp_ne (tgt := 11) hx hb dJ2_add_2_3 rfl (fun h3 => ?_) (fun h3 => ?_)
  · have h3 : ¬ (k_ = N_) := fun z9 => h3 ((nz_eq (a := k_) (b := N_) rfl rfl (by omega) (by omega)).mpr z9)
    refine lv_aload_n hx hb dJ2_add_2_11 rfl (lv_at hl 2 rfl) ?_
    refine lv_iload_n hx hb dJ2_add_2_12 rfl (lv_at hl 3 rfl) ?_
    refine lv_aload_n hx hb dJ2_add_2_13 rfl (lv_at hl 1 rfl) ?_
    refine va_astqO (D := D) hx hb hK hP hD hS 1 3 2 6 rfl rfl (hZ.2.1 ("CarryUp$Sort", "java/lang/Object") (by decide)) rfl rfl (vp_in_nI (by omega) (by omega)) dJ2_add_2_14 (fun H locs hP hD hS => ?_)
    rw [nI_clamp (by omega)] at hP hD
    have hP : va_P D vwCl [(o_, .inr (8, [.int f0, .ref e_, .int (nI k_)])), (e_, .inl (dA 3, rfs N_ (va_up g_ k_ (some v_)))), (v_, .inr (6, [.int a0, .int a1, .int a2, .int a3]))] H := hP
    have hD : va_D (va_A [(o_, .inr (8, [.int f0, .ref e_, .int (nI k_)])), (e_, .inl (dA 3, rfs N_ g_)), (v_, .inr (6, [.int a0, .int a1, .int a2, .int a3]))] s.heap.size) [(o_, .inr (8, [.int f0, .ref e_, .int (nI k_)])), (e_, .inl (dA 3, rfs N_ (va_up g_ k_ (some v_)))), (v_, .inr (6, [.int a0, .int a1, .int a2, .int a3]))] := hD
    refine lv_aload_n hx hb dJ2_add_2_15 rfl (lv_at hl 0 rfl) ?_
    refine lv_iload_n hx hb dJ2_add_2_16 rfl (lv_at hl 3 rfl) ?_
    refine lv_iconst (v := 1) hx hb dJ2_add_2_17 rfl ?_
    refine lv_iadd hx hb dJ2_add_2_18 ?_
    refine w_topi (nz_add rfl rfl) ?_
    refine va_put (D := D) (ci := 8) (v := .int (nI (k_ + 1))) (ty := .int) (C := RJ2) (T := TJ2) (N := 3) hx hb hts in_J2 tyJ2 tyJ2_ok nmJ2 hown hK hP hD hS 0 rfl rfl 2 (by decide) (hts _ q184) (fun _ h9 => h9) rfl (by decide +kernel) (rfl) (rfl) (Nat.le_of_ble_eq_true rfl) dJ2_add_2_19 (fun H locs hP hD hS => ?_)
    have hP : va_P D vwCl [(o_, .inr (8, [.int f0, .ref e_, .int (nI (k_ + 1))])), (e_, .inl (dA 3, rfs N_ (va_up g_ k_ (some v_)))), (v_, .inr (6, [.int a0, .int a1, .int a2, .int a3]))] H := hP
    have hD : va_D (va_A [(o_, .inr (8, [.int f0, .ref e_, .int (nI k_)])), (e_, .inl (dA 3, rfs N_ g_)), (v_, .inr (6, [.int a0, .int a1, .int a2, .int a3]))] s.heap.size) [(o_, .inr (8, [.int f0, .ref e_, .int (nI (k_ + 1))])), (e_, .inl (dA 3, rfs N_ (va_up g_ k_ (some v_)))), (v_, .inr (6, [.int a0, .int a1, .int a2, .int a3]))] := hD
    exact ar_v () hQ hx hb hr hlocks hP hD hS (Nat.le_of_ble_eq_true rfl) (Nat.le_of_ble_eq_true rfl) (rfl) [0, 1, 2] (rfl) (rfl) rfl dJ2_add_2_22
  · have h3 : k_ = N_ := (nz_eq (a := k_) (b := N_) rfl rfl (by omega) (by omega)).mp h3
    exact absurd h3 (by omega)

theorem cw_J2_J2_add_2_S {R : Room} {s : State} {args : Array Value} (hts : ∀ w ∈ lw_all, w.before args s = true) (hR : rmJ2_add_2_S.frames + 1 ≤ R.frames ∧ 8 + (4 + 11) + rmJ2_add_2_S.locals ≤ R.locals) : CallW R s args RJ2 RJ2 131 yJ2_add_2 cJ2_add_2 4 none (ws_ yJ2_add_2 cJ2_add_2 4 none) rmJ2_add_2_S 0 0 3 := cwV 3 hts (lw_V q762 q764 qs13 q81 q765) rfl rfl rfl (by decide +kernel) hR
def rmJ2_add_S : Room := { frames := 1, cells := 0, slots := 0, locals := 23 }
set_option maxHeartbeats 1000000 in
theorem mt_J2_add_S (l : Launch) (D : va_G) (dA : Nat → ClassId) (κ : KZ) (sz : Nat) (o_ : Nat) (v_ : Nat) (e_ : Nat) (f0 : Int32) (k_ : Nat) (N_ : Nat) (g_ : Nat → Option Nat) (a0 : Int32) (a1 : Int32) (a2 : Int32) (a3 : Int32) (hk : k_ < N_) (hN : N_ ≤ 22) : Met l yJ2_add (ws_ yJ2_add cJ2_add 2 (some .boolean)) rmJ2_add_S (va_Pc [.ref o_, .ref v_] (aB D dA κ [(o_, .inr (8, [.int f0, .ref e_, .int (nI k_)])), (e_, .inl (dA 3, rfs N_ g_)), (v_, .inr (6, [.int a0, .int a1, .int a2, .int a3]))] sz)) (aQ (fun (_ : Unit) => ((some (.int 1)), [(o_, .inr (8, [.int (f0 + 1), .ref e_, .int (nI (k_ + 1))])), (e_, .inl (dA 3, rfs N_ (va_up g_ k_ (some v_)))), (v_, .inr (6, [.int a0, .int a1, .int a2, .int a3]))])) D [(o_, .inr (8, [.int f0, .ref e_, .int (nI k_)])), (e_, .inl (dA 3, rfs N_ g_)), (v_, .inr (6, [.int a0, .int a1, .int a2, .int a3]))] sz) 0 0 (va_A [(o_, .inr (8, [.int f0, .ref e_, .int (nI k_)])), (e_, .inl (dA 3, rfs N_ g_)), (v_, .inr (6, [.int a0, .int a1, .int a2, .int a3]))] sz) := by
  refine w_start (by decide) (Nat.le_of_ble_eq_true rfl) ?_
  intro p e s m args below meth c Q ls hQ hx hb hr hlocks hml hown hnm hts hB hl
  have hown : s.vm.findClass RJ2 = some m.cls := hown
  have hl : lv_has ls 2 [(0, .ref o_), (1, .ref v_)] := hl
  obtain ⟨hP, hD, hK, hZ, hk0, hge, rfl⟩ := hB
  have hA : ∀ q : Nat, s.heap.size ≤ q → va_A [(o_, .inr (8, [.int f0, .ref e_, .int (nI k_)])), (e_, .inl (dA 3, rfs N_ g_)), (v_, .inr (6, [.int a0, .int a1, .int a2, .int a3]))] s.heap.size q := fun q h => Or.inr h
  have hAn : ∀ q : Nat, va_A [(o_, .inr (8, [.int f0, .ref e_, .int (nI k_)])), (e_, .inl (dA 3, rfs N_ g_)), (v_, .inr (6, [.int a0, .int a1, .int a2, .int a3]))] s.heap.size q → κ.1 ≤ q := fun q h => by
    rcases h with ⟨k, e, h⟩ | h
    · exact hge k _ h
    · exact Nat.le_trans hk0 h
  have hS : va_S (va_A [(o_, .inr (8, [.int f0, .ref e_, .int (nI k_)])), (e_, .inl (dA 3, rfs N_ g_)), (v_, .inr (6, [.int a0, .int a1, .int a2, .int a3]))] s.heap.size) s.heap s.heap [] := va_S.rf
  have hP : va_P D vwCl [(o_, .inr (8, [.int f0, .ref e_, .int (nI k_)])), (e_, .inl (dA 3, rfs N_ g_)), (v_, .inr (6, [.int a0, .int a1, .int a2, .int a3]))] s.heap := hP
  have hD : va_D (va_A [(o_, .inr (8, [.int f0, .ref e_, .int (nI k_)])), (e_, .inl (dA 3, rfs N_ g_)), (v_, .inr (6, [.int a0, .int a1, .int a2, .int a3]))] s.heap.size) [(o_, .inr (8, [.int f0, .ref e_, .int (nI k_)])), (e_, .inl (dA 3, rfs N_ g_)), (v_, .inr (6, [.int a0, .int a1, .int a2, .int a3]))] := hD
  refine lv_aload_n hx hb dJ2_add_0 rfl (lv_at hl 0 rfl) ?_
  refine lv_dup hx hb dJ2_add_1 rfl ?_
  refine va_get (D := D) (ci := 8) (v := .int f0) (C := RJ2) (T := TJ2) (N := 3) hx hb hts in_J2 hown hK hP 0 rfl rfl 0 (by decide) (hts _ q186) (fun x9 h9 => u_same (hts _ q187) x9 h9) rfl dJ2_add_2 ?_
  refine lv_iconst (v := 1) hx hb dJ2_add_5 rfl ?_
  refine lv_iadd hx hb dJ2_add_6 ?_
  refine va_put (D := D) (ci := 8) (v := .int (f0 + 1)) (ty := .int) (C := RJ2) (T := TJ2) (N := 3) hx hb hts in_J2 tyJ2 tyJ2_ok nmJ2 hown hK hP hD hS 0 rfl rfl 0 (by decide) (hts _ q186) (fun x9 h9 => u_same (hts _ q187) x9 h9) rfl (by decide +kernel) (rfl) (rfl) (Nat.le_of_ble_eq_true rfl) dJ2_add_7 (fun H locs hP hD hS => ?_)
  have hP : va_P D vwCl [(o_, .inr (8, [.int (f0 + 1), .ref e_, .int (nI k_)])), (e_, .inl (dA 3, rfs N_ g_)), (v_, .inr (6, [.int a0, .int a1, .int a2, .int a3]))] H := hP
  have hD : va_D (va_A [(o_, .inr (8, [.int f0, .ref e_, .int (nI k_)])), (e_, .inl (dA 3, rfs N_ g_)), (v_, .inr (6, [.int a0, .int a1, .int a2, .int a3]))] s.heap.size) [(o_, .inr (8, [.int (f0 + 1), .ref e_, .int (nI k_)])), (e_, .inl (dA 3, rfs N_ g_)), (v_, .inr (6, [.int a0, .int a1, .int a2, .int a3]))] := hD
  refine lv_aload_n hx hb dJ2_add_10 rfl (lv_at hl 0 rfl) ?_
  refine lv_aload_n hx hb dJ2_add_11 rfl (lv_at hl 1 rfl) ?_
  refine lv_aload_n hx hb dJ2_add_12 rfl (lv_at hl 0 rfl) ?_
  refine va_get (D := D) (ci := 8) (v := .ref e_) (C := RJ2) (T := TJ2) (N := 3) hx hb hts in_J2 hown hK hP 0 rfl rfl 1 (by decide) (hts _ q183) (fun _ h9 => h9) rfl dJ2_add_13 ?_
  refine lv_aload_n hx hb dJ2_add_16 rfl (lv_at hl 0 rfl) ?_
  refine va_get (D := D) (ci := 8) (v := .int (nI k_)) (C := RJ2) (T := TJ2) (N := 3) hx hb hts in_J2 hown hK hP 0 rfl rfl 2 (by decide) (hts _ q184) (fun _ h9 => h9) rfl dJ2_add_17 ?_
  refine aV (wc := [(o_, .inr (8, [.int (f0 + 1), .ref e_, .int (nI k_)])), (e_, .inl (dA 3, rfs N_ g_)), (v_, .inr (6, [.int a0, .int a1, .int a2, .int a3]))]) (wr := []) (As := [.ref v_, .ref e_, .int (nI k_)]) (rest := []) ⟨hx, hb, hml, hown, hts⟩ (mt_J2_add_2_S l D dA κ H.size o_ v_ e_ (f0 + 1) k_ N_ g_ a0 a1 a2 a3 (by omega) (by omega)) (cw_J2_J2_add_2_S hts ⟨Nat.le_of_ble_eq_true rfl, Nat.le_of_ble_eq_true rfl⟩) (a_now hK hZ hP hD hS hk0 hAn [0, 1, 2] rfl rfl rfl) (va_recv hK hP (ci := 8) (q0 := 0) rfl rfl) rfl hl.1 rfl (Nat.le_of_ble_eq_true rfl) dJ2_add_20 ⟨Nat.le_of_ble_eq_true rfl, Nat.le_of_ble_eq_true rfl⟩ hP hD hS hA [0, 1, 2] [] rfl rfl rfl (by decide) (fun u H locs hP hD hS => ?_)
  have hP : va_P D vwCl [(o_, .inr (8, [.int (f0 + 1), .ref e_, .int (nI (k_ + 1))])), (e_, .inl (dA 3, rfs N_ (va_up g_ k_ (some v_)))), (v_, .inr (6, [.int a0, .int a1, .int a2, .int a3]))] H := hP
  have hD : va_D (va_A [(o_, .inr (8, [.int f0, .ref e_, .int (nI k_)])), (e_, .inl (dA 3, rfs N_ g_)), (v_, .inr (6, [.int a0, .int a1, .int a2, .int a3]))] s.heap.size) [(o_, .inr (8, [.int (f0 + 1), .ref e_, .int (nI (k_ + 1))])), (e_, .inl (dA 3, rfs N_ (va_up g_ k_ (some v_)))), (v_, .inr (6, [.int a0, .int a1, .int a2, .int a3]))] := hD
  change W p l e rmJ2_add_S s m args below meth c H locs 0 0 Q (F0 m 23 ls [])
  refine lv_iconst (v := 1) hx hb dJ2_add_23 rfl ?_
  exact ar_z () hQ hx hb hr hlocks (Or.inr rfl) hP hD hS (Nat.le_of_ble_eq_true rfl) (Nat.le_of_ble_eq_true rfl) (rfl) [0, 1, 2] (rfl) (rfl) rfl dJ2_add_24

def rmJ2_add_2_VE : Room := { frames := 3, cells := 1, slots := 10, locals := 72 }
set_option maxHeartbeats 1000000 in
theorem mt_J2_add_2_VE (l : Launch) (D : va_G) (dA : Nat → ClassId) (κ : KZ) (sz : Nat) (o_ : Nat) (v_ : Nat) (f0 : Int32) (a0 : Int32) (a1 : Int32) (a2 : Int32) : Met l yJ2_add_2 (ws_ yJ2_add_2 cJ2_add_2 4 none) rmJ2_add_2_VE (va_Pc [.ref o_, .ref v_, .ref (κ.2.1 0), .int (nI 0)] (aB D dA κ [(o_, .inr (8, [.int f0, .ref (κ.2.1 0), .int (nI 0)])), (v_, .inr (7, [.int a0, .int a1, .int a2]))] sz)) (aQ (fun (e_ : Nat) => (none, [(o_, .inr (8, [.int f0, .ref e_, .int (nI 1)])), (e_, .inl (dA 3, rfs 10 (va_up (fun _ => none) 0 (some v_)))), (v_, .inr (7, [.int a0, .int a1, .int a2]))])) D [(o_, .inr (8, [.int f0, .ref (κ.2.1 0), .int (nI 0)])), (v_, .inr (7, [.int a0, .int a1, .int a2]))] sz) 1 10 (va_A [(o_, .inr (8, [.int f0, .ref (κ.2.1 0), .int (nI 0)])), (v_, .inr (7, [.int a0, .int a1, .int a2]))] sz) := by
  refine w_start (by decide) (Nat.le_of_ble_eq_true rfl) ?_
  intro p e s m args below meth c Q ls hQ hx hb hr hlocks hml hown hnm hts hB hl
  have hown : s.vm.findClass RJ2 = some m.cls := hown
  have hl : lv_has ls 4 [(0, .ref o_), (1, .ref v_), (2, .ref (κ.2.1 0)), (3, .int (nI 0))] := hl
  obtain ⟨hP, hD, hK, hZ, hk0, hge, rfl⟩ := hB
  have hA : ∀ q : Nat, s.heap.size ≤ q → va_A [(o_, .inr (8, [.int f0, .ref (κ.2.1 0), .int (nI 0)])), (v_, .inr (7, [.int a0, .int a1, .int a2]))] s.heap.size q := fun q h => Or.inr h
  have hAn : ∀ q : Nat, va_A [(o_, .inr (8, [.int f0, .ref (κ.2.1 0), .int (nI 0)])), (v_, .inr (7, [.int a0, .int a1, .int a2]))] s.heap.size q → κ.1 ≤ q := fun q h => by
    rcases h with ⟨k, e, h⟩ | h
    · exact hge k _ h
    · exact Nat.le_trans hk0 h
  have hS : va_S (va_A [(o_, .inr (8, [.int f0, .ref (κ.2.1 0), .int (nI 0)])), (v_, .inr (7, [.int a0, .int a1, .int a2]))] s.heap.size) s.heap s.heap [] := va_S.rf
  have hP : va_P D vwCl [(o_, .inr (8, [.int f0, .ref (κ.2.1 0), .int (nI 0)])), (v_, .inr (7, [.int a0, .int a1, .int a2]))] s.heap := hP
  have hD : va_D (va_A [(o_, .inr (8, [.int f0, .ref (κ.2.1 0), .int (nI 0)])), (v_, .inr (7, [.int a0, .int a1, .int a2]))] s.heap.size) [(o_, .inr (8, [.int f0, .ref (κ.2.1 0), .int (nI 0)])), (v_, .inr (7, [.int a0, .int a1, .int a2]))] := hD
  refine lv_iload_n hx hb dJ2_add_2_0 rfl (lv_at hl 3 rfl) ?_
  refine lv_aload_n hx hb dJ2_add_2_1 rfl (lv_at hl 2 rfl) ?_
  refine va_tlen (v := nI 0) hx hb (va_T.narrow hZ.1.2.2.1 hAn) hS rfl dJ2_add_2_2 ?_
  refine lv_icmp_ne (tgt := 11) hx hb dJ2_add_2_3 rfl (fun h3 => ?_) (fun h3 => ?_)
  · have h3 : ¬ (0 = 0) := fun z9 => h3 ((nz_eq (a := 0) (b := 0) rfl rfl (by omega) (by omega)).mpr z9)
    exact absurd rfl h3
  · have h3 : 0 = 0 := (nz_eq (a := 0) (b := 0) rfl rfl (by omega) (by omega)).mp h3
    refine lv_aload_n hx hb dJ2_add_2_6 rfl (lv_at hl 0 rfl) ?_
    refine aV (wc := [(o_, .inr (8, [.int f0, .ref (κ.2.1 0), .int (nI 0)]))]) (wr := [(v_, .inr (7, [.int a0, .int a1, .int a2]))]) (As := []) (rest := []) ⟨hx, hb, hml, hown, hts⟩ (mt_J2_grow_E l D dA κ s.heap.size o_ f0) (cw_J2_J2_grow_E hts ⟨Nat.le_of_ble_eq_true rfl, Nat.le_of_ble_eq_true rfl⟩) (a_now hK hZ hP hD hS hk0 hAn [0] rfl rfl rfl) (va_recv hK hP (ci := 8) (q0 := 0) rfl rfl) rfl hl.1 rfl (Nat.le_of_ble_eq_true rfl) dJ2_add_2_7 ⟨Nat.le_of_ble_eq_true rfl, Nat.le_of_ble_eq_true rfl⟩ hP hD hS hA [0] [1] rfl rfl rfl (by decide) (fun e__1 H locs hP hD hS => ?_)
    have hP : va_P D vwCl [(v_, .inr (7, [.int a0, .int a1, .int a2])), (o_, .inr (8, [.int f0, .ref e__1, .int (nI 0)])), (e__1, .inl (dA 3, rfs 10 (fun _ => none)))] H := hP
    have hD : va_D (va_A [(o_, .inr (8, [.int f0, .ref (κ.2.1 0), .int (nI 0)])), (v_, .inr (7, [.int a0, .int a1, .int a2]))] s.heap.size) [(v_, .inr (7, [.int a0, .int a1, .int a2])), (o_, .inr (8, [.int f0, .ref e__1, .int (nI 0)])), (e__1, .inl (dA 3, rfs 10 (fun _ => none)))] := hD
    change W p l e rmJ2_add_2_VE s m args below meth c H locs 1 10 Q (F0 m 10 ls [.ref e__1])
    refine lv_astore_n (lv' := [(2, .ref e__1), (0, .ref o_), (1, .ref v_), (3, .int (nI 0))]) hx hb dJ2_add_2_10 rfl hl (by decide) rfl (fun ls hl => ?_)
    refine lv_aload_n hx hb dJ2_add_2_11 rfl (lv_at hl 0 rfl) ?_
    refine lv_iload_n hx hb dJ2_add_2_12 rfl (lv_at hl 3 rfl) ?_
    refine lv_aload_n hx hb dJ2_add_2_13 rfl (lv_at hl 2 rfl) ?_
    refine va_astqO (D := D) hx hb hK hP hD hS 2 3 0 7 rfl rfl (hZ.2.1 ("CarryUp$Visit", "java/lang/Object") (by decide)) rfl rfl (vp_in_nI (by omega) (by omega)) dJ2_add_2_14 (fun H locs hP hD hS => ?_)
    rw [nI_clamp (by omega)] at hP hD
    have hP : va_P D vwCl [(v_, .inr (7, [.int a0, .int a1, .int a2])), (o_, .inr (8, [.int f0, .ref e__1, .int (nI 0)])), (e__1, .inl (dA 3, rfs 10 (va_up (fun _ => none) 0 (some v_))))] H := hP
    have hD : va_D (va_A [(o_, .inr (8, [.int f0, .ref (κ.2.1 0), .int (nI 0)])), (v_, .inr (7, [.int a0, .int a1, .int a2]))] s.heap.size) [(v_, .inr (7, [.int a0, .int a1, .int a2])), (o_, .inr (8, [.int f0, .ref e__1, .int (nI 0)])), (e__1, .inl (dA 3, rfs 10 (va_up (fun _ => none) 0 (some v_))))] := hD
    refine lv_aload_n hx hb dJ2_add_2_15 rfl (lv_at hl 1 rfl) ?_
    refine lv_iload_n hx hb dJ2_add_2_16 rfl (lv_at hl 3 rfl) ?_
    refine lv_iconst (v := 1) hx hb dJ2_add_2_17 rfl ?_
    refine lv_iadd hx hb dJ2_add_2_18 ?_
    refine w_topi (nz_add rfl rfl) ?_
    refine va_put (D := D) (ci := 8) (v := .int (nI (0 + 1))) (ty := .int) (C := RJ2) (T := TJ2) (N := 3) hx hb hts in_J2 tyJ2 tyJ2_ok nmJ2 hown hK hP hD hS 1 rfl rfl 2 (by decide) (hts _ q184) (fun _ h9 => h9) rfl (by decide +kernel) (rfl) (rfl) (Nat.le_of_ble_eq_true rfl) dJ2_add_2_19 (fun H locs hP hD hS => ?_)
    have hP : va_P D vwCl [(v_, .inr (7, [.int a0, .int a1, .int a2])), (o_, .inr (8, [.int f0, .ref e__1, .int (nI (0 + 1))])), (e__1, .inl (dA 3, rfs 10 (va_up (fun _ => none) 0 (some v_))))] H := hP
    have hD : va_D (va_A [(o_, .inr (8, [.int f0, .ref (κ.2.1 0), .int (nI 0)])), (v_, .inr (7, [.int a0, .int a1, .int a2]))] s.heap.size) [(v_, .inr (7, [.int a0, .int a1, .int a2])), (o_, .inr (8, [.int f0, .ref e__1, .int (nI (0 + 1))])), (e__1, .inl (dA 3, rfs 10 (va_up (fun _ => none) 0 (some v_))))] := hD
    exact ar_v e__1 hQ hx hb hr hlocks hP hD hS (Nat.le_of_ble_eq_true rfl) (Nat.le_of_ble_eq_true rfl) (rfl) [1, 2, 0] (rfl) (rfl) rfl dJ2_add_2_22

theorem cw_J2_J2_add_2_VE {R : Room} {s : State} {args : Array Value} (hts : ∀ w ∈ lw_all, w.before args s = true) (hR : rmJ2_add_2_VE.frames + 1 ≤ R.frames ∧ 8 + (4 + 11) + rmJ2_add_2_VE.locals ≤ R.locals) : CallW R s args RJ2 RJ2 131 yJ2_add_2 cJ2_add_2 4 none (ws_ yJ2_add_2 cJ2_add_2 4 none) rmJ2_add_2_VE 1 10 3 := cwV 3 hts (lw_V q762 q764 qs13 q81 q765) rfl rfl rfl (by decide +kernel) hR
def rmJ2_add_VE : Room := { frames := 4, cells := 1, slots := 10, locals := 95 }
set_option maxHeartbeats 1000000 in
theorem mt_J2_add_VE (l : Launch) (D : va_G) (dA : Nat → ClassId) (κ : KZ) (sz : Nat) (o_ : Nat) (v_ : Nat) (f0 : Int32) (a0 : Int32) (a1 : Int32) (a2 : Int32) : Met l yJ2_add (ws_ yJ2_add cJ2_add 2 (some .boolean)) rmJ2_add_VE (va_Pc [.ref o_, .ref v_] (aB D dA κ [(o_, .inr (8, [.int f0, .ref (κ.2.1 0), .int (nI 0)])), (v_, .inr (7, [.int a0, .int a1, .int a2]))] sz)) (aQ (fun (e_ : Nat) => ((some (.int 1)), [(o_, .inr (8, [.int (f0 + 1), .ref e_, .int (nI 1)])), (e_, .inl (dA 3, rfs 10 (va_up (fun _ => none) 0 (some v_)))), (v_, .inr (7, [.int a0, .int a1, .int a2]))])) D [(o_, .inr (8, [.int f0, .ref (κ.2.1 0), .int (nI 0)])), (v_, .inr (7, [.int a0, .int a1, .int a2]))] sz) 1 10 (va_A [(o_, .inr (8, [.int f0, .ref (κ.2.1 0), .int (nI 0)])), (v_, .inr (7, [.int a0, .int a1, .int a2]))] sz) := by
  refine w_start (by decide) (Nat.le_of_ble_eq_true rfl) ?_
  intro p e s m args below meth c Q ls hQ hx hb hr hlocks hml hown hnm hts hB hl
  have hown : s.vm.findClass RJ2 = some m.cls := hown
  have hl : lv_has ls 2 [(0, .ref o_), (1, .ref v_)] := hl
  obtain ⟨hP, hD, hK, hZ, hk0, hge, rfl⟩ := hB
  have hA : ∀ q : Nat, s.heap.size ≤ q → va_A [(o_, .inr (8, [.int f0, .ref (κ.2.1 0), .int (nI 0)])), (v_, .inr (7, [.int a0, .int a1, .int a2]))] s.heap.size q := fun q h => Or.inr h
  have hAn : ∀ q : Nat, va_A [(o_, .inr (8, [.int f0, .ref (κ.2.1 0), .int (nI 0)])), (v_, .inr (7, [.int a0, .int a1, .int a2]))] s.heap.size q → κ.1 ≤ q := fun q h => by
    rcases h with ⟨k, e, h⟩ | h
    · exact hge k _ h
    · exact Nat.le_trans hk0 h
  have hS : va_S (va_A [(o_, .inr (8, [.int f0, .ref (κ.2.1 0), .int (nI 0)])), (v_, .inr (7, [.int a0, .int a1, .int a2]))] s.heap.size) s.heap s.heap [] := va_S.rf
  have hP : va_P D vwCl [(o_, .inr (8, [.int f0, .ref (κ.2.1 0), .int (nI 0)])), (v_, .inr (7, [.int a0, .int a1, .int a2]))] s.heap := hP
  have hD : va_D (va_A [(o_, .inr (8, [.int f0, .ref (κ.2.1 0), .int (nI 0)])), (v_, .inr (7, [.int a0, .int a1, .int a2]))] s.heap.size) [(o_, .inr (8, [.int f0, .ref (κ.2.1 0), .int (nI 0)])), (v_, .inr (7, [.int a0, .int a1, .int a2]))] := hD
  refine lv_aload_n hx hb dJ2_add_0 rfl (lv_at hl 0 rfl) ?_
  refine lv_dup hx hb dJ2_add_1 rfl ?_
  refine va_get (D := D) (ci := 8) (v := .int f0) (C := RJ2) (T := TJ2) (N := 3) hx hb hts in_J2 hown hK hP 0 rfl rfl 0 (by decide) (hts _ q186) (fun x9 h9 => u_same (hts _ q187) x9 h9) rfl dJ2_add_2 ?_
  refine lv_iconst (v := 1) hx hb dJ2_add_5 rfl ?_
  refine lv_iadd hx hb dJ2_add_6 ?_
  refine va_put (D := D) (ci := 8) (v := .int (f0 + 1)) (ty := .int) (C := RJ2) (T := TJ2) (N := 3) hx hb hts in_J2 tyJ2 tyJ2_ok nmJ2 hown hK hP hD hS 0 rfl rfl 0 (by decide) (hts _ q186) (fun x9 h9 => u_same (hts _ q187) x9 h9) rfl (by decide +kernel) (rfl) (rfl) (Nat.le_of_ble_eq_true rfl) dJ2_add_7 (fun H locs hP hD hS => ?_)
  have hP : va_P D vwCl [(o_, .inr (8, [.int (f0 + 1), .ref (κ.2.1 0), .int (nI 0)])), (v_, .inr (7, [.int a0, .int a1, .int a2]))] H := hP
  have hD : va_D (va_A [(o_, .inr (8, [.int f0, .ref (κ.2.1 0), .int (nI 0)])), (v_, .inr (7, [.int a0, .int a1, .int a2]))] s.heap.size) [(o_, .inr (8, [.int (f0 + 1), .ref (κ.2.1 0), .int (nI 0)])), (v_, .inr (7, [.int a0, .int a1, .int a2]))] := hD
  refine lv_aload_n hx hb dJ2_add_10 rfl (lv_at hl 0 rfl) ?_
  refine lv_aload_n hx hb dJ2_add_11 rfl (lv_at hl 1 rfl) ?_
  refine lv_aload_n hx hb dJ2_add_12 rfl (lv_at hl 0 rfl) ?_
  refine va_get (D := D) (ci := 8) (v := .ref (κ.2.1 0)) (C := RJ2) (T := TJ2) (N := 3) hx hb hts in_J2 hown hK hP 0 rfl rfl 1 (by decide) (hts _ q183) (fun _ h9 => h9) rfl dJ2_add_13 ?_
  refine lv_aload_n hx hb dJ2_add_16 rfl (lv_at hl 0 rfl) ?_
  refine va_get (D := D) (ci := 8) (v := .int (nI 0)) (C := RJ2) (T := TJ2) (N := 3) hx hb hts in_J2 hown hK hP 0 rfl rfl 2 (by decide) (hts _ q184) (fun _ h9 => h9) rfl dJ2_add_17 ?_
  refine aV (wc := [(o_, .inr (8, [.int (f0 + 1), .ref (κ.2.1 0), .int (nI 0)])), (v_, .inr (7, [.int a0, .int a1, .int a2]))]) (wr := []) (As := [.ref v_, .ref (κ.2.1 0), .int (nI 0)]) (rest := []) ⟨hx, hb, hml, hown, hts⟩ (mt_J2_add_2_VE l D dA κ H.size o_ v_ (f0 + 1) a0 a1 a2) (cw_J2_J2_add_2_VE hts ⟨Nat.le_of_ble_eq_true rfl, Nat.le_of_ble_eq_true rfl⟩) (a_now hK hZ hP hD hS hk0 hAn [0, 1] rfl rfl rfl) (va_recv hK hP (ci := 8) (q0 := 0) rfl rfl) rfl hl.1 rfl (Nat.le_of_ble_eq_true rfl) dJ2_add_20 ⟨Nat.le_of_ble_eq_true rfl, Nat.le_of_ble_eq_true rfl⟩ hP hD hS hA [0, 1] [] rfl rfl rfl (by decide) (fun e__1 H locs hP hD hS => ?_)
  have hP : va_P D vwCl [(o_, .inr (8, [.int (f0 + 1), .ref e__1, .int (nI 1)])), (e__1, .inl (dA 3, rfs 10 (va_up (fun _ => none) 0 (some v_)))), (v_, .inr (7, [.int a0, .int a1, .int a2]))] H := hP
  have hD : va_D (va_A [(o_, .inr (8, [.int f0, .ref (κ.2.1 0), .int (nI 0)])), (v_, .inr (7, [.int a0, .int a1, .int a2]))] s.heap.size) [(o_, .inr (8, [.int (f0 + 1), .ref e__1, .int (nI 1)])), (e__1, .inl (dA 3, rfs 10 (va_up (fun _ => none) 0 (some v_)))), (v_, .inr (7, [.int a0, .int a1, .int a2]))] := hD
  change W p l e rmJ2_add_VE s m args below meth c H locs 1 10 Q (F0 m 23 ls [])
  refine lv_iconst (v := 1) hx hb dJ2_add_23 rfl ?_
  exact ar_z e__1 hQ hx hb hr hlocks (Or.inr rfl) hP hD hS (Nat.le_of_ble_eq_true rfl) (Nat.le_of_ble_eq_true rfl) (rfl) [0, 1, 2] (rfl) (rfl) rfl dJ2_add_24

def rmJ2_add_2_V : Room := { frames := 0, cells := 0, slots := 0, locals := 0 }
set_option maxHeartbeats 1000000 in
theorem mt_J2_add_2_V (l : Launch) (D : va_G) (dA : Nat → ClassId) (κ : KZ) (sz : Nat) (o_ : Nat) (v_ : Nat) (e_ : Nat) (f0 : Int32) (k_ : Nat) (N_ : Nat) (g_ : Nat → Option Nat) (a0 : Int32) (a1 : Int32) (a2 : Int32) (hk : k_ < N_) (hN : N_ ≤ 22) : Met l yJ2_add_2 (ws_ yJ2_add_2 cJ2_add_2 4 none) rmJ2_add_2_V (va_Pc [.ref o_, .ref v_, .ref e_, .int (nI k_)] (aB D dA κ [(o_, .inr (8, [.int f0, .ref e_, .int (nI k_)])), (e_, .inl (dA 3, rfs N_ g_)), (v_, .inr (7, [.int a0, .int a1, .int a2]))] sz)) (aQ (fun (_ : Unit) => (none, [(o_, .inr (8, [.int f0, .ref e_, .int (nI (k_ + 1))])), (e_, .inl (dA 3, rfs N_ (va_up g_ k_ (some v_)))), (v_, .inr (7, [.int a0, .int a1, .int a2]))])) D [(o_, .inr (8, [.int f0, .ref e_, .int (nI k_)])), (e_, .inl (dA 3, rfs N_ g_)), (v_, .inr (7, [.int a0, .int a1, .int a2]))] sz) 0 0 (va_A [(o_, .inr (8, [.int f0, .ref e_, .int (nI k_)])), (e_, .inl (dA 3, rfs N_ g_)), (v_, .inr (7, [.int a0, .int a1, .int a2]))] sz) := by
  refine w_start (by decide) (Nat.le_of_ble_eq_true rfl) ?_
  intro p e s m args below meth c Q ls hQ hx hb hr hlocks hml hown hnm hts hB hl
  have hown : s.vm.findClass RJ2 = some m.cls := hown
  have hl : lv_has ls 4 [(0, .ref o_), (1, .ref v_), (2, .ref e_), (3, .int (nI k_))] := hl
  obtain ⟨hP, hD, hK, hZ, hk0, hge, rfl⟩ := hB
  have hA : ∀ q : Nat, s.heap.size ≤ q → va_A [(o_, .inr (8, [.int f0, .ref e_, .int (nI k_)])), (e_, .inl (dA 3, rfs N_ g_)), (v_, .inr (7, [.int a0, .int a1, .int a2]))] s.heap.size q := fun q h => Or.inr h
  have hAn : ∀ q : Nat, va_A [(o_, .inr (8, [.int f0, .ref e_, .int (nI k_)])), (e_, .inl (dA 3, rfs N_ g_)), (v_, .inr (7, [.int a0, .int a1, .int a2]))] s.heap.size q → κ.1 ≤ q := fun q h => by
    rcases h with ⟨k, e, h⟩ | h
    · exact hge k _ h
    · exact Nat.le_trans hk0 h
  have hS : va_S (va_A [(o_, .inr (8, [.int f0, .ref e_, .int (nI k_)])), (e_, .inl (dA 3, rfs N_ g_)), (v_, .inr (7, [.int a0, .int a1, .int a2]))] s.heap.size) s.heap s.heap [] := va_S.rf
  have hP : va_P D vwCl [(o_, .inr (8, [.int f0, .ref e_, .int (nI k_)])), (e_, .inl (dA 3, rfs N_ g_)), (v_, .inr (7, [.int a0, .int a1, .int a2]))] s.heap := hP
  have hD : va_D (va_A [(o_, .inr (8, [.int f0, .ref e_, .int (nI k_)])), (e_, .inl (dA 3, rfs N_ g_)), (v_, .inr (7, [.int a0, .int a1, .int a2]))] s.heap.size) [(o_, .inr (8, [.int f0, .ref e_, .int (nI k_)])), (e_, .inl (dA 3, rfs N_ g_)), (v_, .inr (7, [.int a0, .int a1, .int a2]))] := hD
  refine lv_iload_n hx hb dJ2_add_2_0 rfl (lv_at hl 3 rfl) ?_
  refine lv_aload_n hx hb dJ2_add_2_1 rfl (lv_at hl 2 rfl) ?_
  refine va_alen (v := nI N_) hx hb hK hP 1 3 rfl rfl rfl dJ2_add_2_2 ?_
  refine lv_icmp_ne (tgt := 11) hx hb dJ2_add_2_3 rfl (fun h3 => ?_) (fun h3 => ?_)
  · have h3 : ¬ (k_ = N_) := fun z9 => h3 ((nz_eq (a := k_) (b := N_) rfl rfl (by omega) (by omega)).mpr z9)
    refine lv_aload_n hx hb dJ2_add_2_11 rfl (lv_at hl 2 rfl) ?_
    refine lv_iload_n hx hb dJ2_add_2_12 rfl (lv_at hl 3 rfl) ?_
    refine lv_aload_n hx hb dJ2_add_2_13 rfl (lv_at hl 1 rfl) ?_
    refine va_astqO (D := D) hx hb hK hP hD hS 1 3 2 7 rfl rfl (hZ.2.1 ("CarryUp$Visit", "java/lang/Object") (by decide)) rfl rfl (vp_in_nI (by omega) (by omega)) dJ2_add_2_14 (fun H locs hP hD hS => ?_)
    rw [nI_clamp (by omega)] at hP hD
    have hP : va_P D vwCl [(o_, .inr (8, [.int f0, .ref e_, .int (nI k_)])), (e_, .inl (dA 3, rfs N_ (va_up g_ k_ (some v_)))), (v_, .inr (7, [.int a0, .int a1, .int a2]))] H := hP
    have hD : va_D (va_A [(o_, .inr (8, [.int f0, .ref e_, .int (nI k_)])), (e_, .inl (dA 3, rfs N_ g_)), (v_, .inr (7, [.int a0, .int a1, .int a2]))] s.heap.size) [(o_, .inr (8, [.int f0, .ref e_, .int (nI k_)])), (e_, .inl (dA 3, rfs N_ (va_up g_ k_ (some v_)))), (v_, .inr (7, [.int a0, .int a1, .int a2]))] := hD
    refine lv_aload_n hx hb dJ2_add_2_15 rfl (lv_at hl 0 rfl) ?_
    refine lv_iload_n hx hb dJ2_add_2_16 rfl (lv_at hl 3 rfl) ?_
    refine lv_iconst (v := 1) hx hb dJ2_add_2_17 rfl ?_
    refine lv_iadd hx hb dJ2_add_2_18 ?_
    refine w_topi (nz_add rfl rfl) ?_
    refine va_put (D := D) (ci := 8) (v := .int (nI (k_ + 1))) (ty := .int) (C := RJ2) (T := TJ2) (N := 3) hx hb hts in_J2 tyJ2 tyJ2_ok nmJ2 hown hK hP hD hS 0 rfl rfl 2 (by decide) (hts _ q184) (fun _ h9 => h9) rfl (by decide +kernel) (rfl) (rfl) (Nat.le_of_ble_eq_true rfl) dJ2_add_2_19 (fun H locs hP hD hS => ?_)
    have hP : va_P D vwCl [(o_, .inr (8, [.int f0, .ref e_, .int (nI (k_ + 1))])), (e_, .inl (dA 3, rfs N_ (va_up g_ k_ (some v_)))), (v_, .inr (7, [.int a0, .int a1, .int a2]))] H := hP
    have hD : va_D (va_A [(o_, .inr (8, [.int f0, .ref e_, .int (nI k_)])), (e_, .inl (dA 3, rfs N_ g_)), (v_, .inr (7, [.int a0, .int a1, .int a2]))] s.heap.size) [(o_, .inr (8, [.int f0, .ref e_, .int (nI (k_ + 1))])), (e_, .inl (dA 3, rfs N_ (va_up g_ k_ (some v_)))), (v_, .inr (7, [.int a0, .int a1, .int a2]))] := hD
    exact ar_v () hQ hx hb hr hlocks hP hD hS (Nat.le_of_ble_eq_true rfl) (Nat.le_of_ble_eq_true rfl) (rfl) [0, 1, 2] (rfl) (rfl) rfl dJ2_add_2_22
  · have h3 : k_ = N_ := (nz_eq (a := k_) (b := N_) rfl rfl (by omega) (by omega)).mp h3
    exact absurd h3 (by omega)

theorem cw_J2_J2_add_2_V {R : Room} {s : State} {args : Array Value} (hts : ∀ w ∈ lw_all, w.before args s = true) (hR : rmJ2_add_2_V.frames + 1 ≤ R.frames ∧ 8 + (4 + 11) + rmJ2_add_2_V.locals ≤ R.locals) : CallW R s args RJ2 RJ2 131 yJ2_add_2 cJ2_add_2 4 none (ws_ yJ2_add_2 cJ2_add_2 4 none) rmJ2_add_2_V 0 0 3 := cwV 3 hts (lw_V q762 q764 qs13 q81 q765) rfl rfl rfl (by decide +kernel) hR
def rmJ2_add_V : Room := { frames := 1, cells := 0, slots := 0, locals := 23 }
set_option maxHeartbeats 1000000 in
theorem mt_J2_add_V (l : Launch) (D : va_G) (dA : Nat → ClassId) (κ : KZ) (sz : Nat) (o_ : Nat) (v_ : Nat) (e_ : Nat) (f0 : Int32) (k_ : Nat) (N_ : Nat) (g_ : Nat → Option Nat) (a0 : Int32) (a1 : Int32) (a2 : Int32) (hk : k_ < N_) (hN : N_ ≤ 22) : Met l yJ2_add (ws_ yJ2_add cJ2_add 2 (some .boolean)) rmJ2_add_V (va_Pc [.ref o_, .ref v_] (aB D dA κ [(o_, .inr (8, [.int f0, .ref e_, .int (nI k_)])), (e_, .inl (dA 3, rfs N_ g_)), (v_, .inr (7, [.int a0, .int a1, .int a2]))] sz)) (aQ (fun (_ : Unit) => ((some (.int 1)), [(o_, .inr (8, [.int (f0 + 1), .ref e_, .int (nI (k_ + 1))])), (e_, .inl (dA 3, rfs N_ (va_up g_ k_ (some v_)))), (v_, .inr (7, [.int a0, .int a1, .int a2]))])) D [(o_, .inr (8, [.int f0, .ref e_, .int (nI k_)])), (e_, .inl (dA 3, rfs N_ g_)), (v_, .inr (7, [.int a0, .int a1, .int a2]))] sz) 0 0 (va_A [(o_, .inr (8, [.int f0, .ref e_, .int (nI k_)])), (e_, .inl (dA 3, rfs N_ g_)), (v_, .inr (7, [.int a0, .int a1, .int a2]))] sz) := by
  refine w_start (by decide) (Nat.le_of_ble_eq_true rfl) ?_
  intro p e s m args below meth c Q ls hQ hx hb hr hlocks hml hown hnm hts hB hl
  have hown : s.vm.findClass RJ2 = some m.cls := hown
  have hl : lv_has ls 2 [(0, .ref o_), (1, .ref v_)] := hl
  obtain ⟨hP, hD, hK, hZ, hk0, hge, rfl⟩ := hB
  have hA : ∀ q : Nat, s.heap.size ≤ q → va_A [(o_, .inr (8, [.int f0, .ref e_, .int (nI k_)])), (e_, .inl (dA 3, rfs N_ g_)), (v_, .inr (7, [.int a0, .int a1, .int a2]))] s.heap.size q := fun q h => Or.inr h
  have hAn : ∀ q : Nat, va_A [(o_, .inr (8, [.int f0, .ref e_, .int (nI k_)])), (e_, .inl (dA 3, rfs N_ g_)), (v_, .inr (7, [.int a0, .int a1, .int a2]))] s.heap.size q → κ.1 ≤ q := fun q h => by
    rcases h with ⟨k, e, h⟩ | h
    · exact hge k _ h
    · exact Nat.le_trans hk0 h
  have hS : va_S (va_A [(o_, .inr (8, [.int f0, .ref e_, .int (nI k_)])), (e_, .inl (dA 3, rfs N_ g_)), (v_, .inr (7, [.int a0, .int a1, .int a2]))] s.heap.size) s.heap s.heap [] := va_S.rf
  have hP : va_P D vwCl [(o_, .inr (8, [.int f0, .ref e_, .int (nI k_)])), (e_, .inl (dA 3, rfs N_ g_)), (v_, .inr (7, [.int a0, .int a1, .int a2]))] s.heap := hP
  have hD : va_D (va_A [(o_, .inr (8, [.int f0, .ref e_, .int (nI k_)])), (e_, .inl (dA 3, rfs N_ g_)), (v_, .inr (7, [.int a0, .int a1, .int a2]))] s.heap.size) [(o_, .inr (8, [.int f0, .ref e_, .int (nI k_)])), (e_, .inl (dA 3, rfs N_ g_)), (v_, .inr (7, [.int a0, .int a1, .int a2]))] := hD
  refine lv_aload_n hx hb dJ2_add_0 rfl (lv_at hl 0 rfl) ?_
  refine lv_dup hx hb dJ2_add_1 rfl ?_
  refine va_get (D := D) (ci := 8) (v := .int f0) (C := RJ2) (T := TJ2) (N := 3) hx hb hts in_J2 hown hK hP 0 rfl rfl 0 (by decide) (hts _ q186) (fun x9 h9 => u_same (hts _ q187) x9 h9) rfl dJ2_add_2 ?_
  refine lv_iconst (v := 1) hx hb dJ2_add_5 rfl ?_
  refine lv_iadd hx hb dJ2_add_6 ?_
  refine va_put (D := D) (ci := 8) (v := .int (f0 + 1)) (ty := .int) (C := RJ2) (T := TJ2) (N := 3) hx hb hts in_J2 tyJ2 tyJ2_ok nmJ2 hown hK hP hD hS 0 rfl rfl 0 (by decide) (hts _ q186) (fun x9 h9 => u_same (hts _ q187) x9 h9) rfl (by decide +kernel) (rfl) (rfl) (Nat.le_of_ble_eq_true rfl) dJ2_add_7 (fun H locs hP hD hS => ?_)
  have hP : va_P D vwCl [(o_, .inr (8, [.int (f0 + 1), .ref e_, .int (nI k_)])), (e_, .inl (dA 3, rfs N_ g_)), (v_, .inr (7, [.int a0, .int a1, .int a2]))] H := hP
  have hD : va_D (va_A [(o_, .inr (8, [.int f0, .ref e_, .int (nI k_)])), (e_, .inl (dA 3, rfs N_ g_)), (v_, .inr (7, [.int a0, .int a1, .int a2]))] s.heap.size) [(o_, .inr (8, [.int (f0 + 1), .ref e_, .int (nI k_)])), (e_, .inl (dA 3, rfs N_ g_)), (v_, .inr (7, [.int a0, .int a1, .int a2]))] := hD
  refine lv_aload_n hx hb dJ2_add_10 rfl (lv_at hl 0 rfl) ?_
  refine lv_aload_n hx hb dJ2_add_11 rfl (lv_at hl 1 rfl) ?_
  refine lv_aload_n hx hb dJ2_add_12 rfl (lv_at hl 0 rfl) ?_
  refine va_get (D := D) (ci := 8) (v := .ref e_) (C := RJ2) (T := TJ2) (N := 3) hx hb hts in_J2 hown hK hP 0 rfl rfl 1 (by decide) (hts _ q183) (fun _ h9 => h9) rfl dJ2_add_13 ?_
  refine lv_aload_n hx hb dJ2_add_16 rfl (lv_at hl 0 rfl) ?_
  refine va_get (D := D) (ci := 8) (v := .int (nI k_)) (C := RJ2) (T := TJ2) (N := 3) hx hb hts in_J2 hown hK hP 0 rfl rfl 2 (by decide) (hts _ q184) (fun _ h9 => h9) rfl dJ2_add_17 ?_
  refine aV (wc := [(o_, .inr (8, [.int (f0 + 1), .ref e_, .int (nI k_)])), (e_, .inl (dA 3, rfs N_ g_)), (v_, .inr (7, [.int a0, .int a1, .int a2]))]) (wr := []) (As := [.ref v_, .ref e_, .int (nI k_)]) (rest := []) ⟨hx, hb, hml, hown, hts⟩ (mt_J2_add_2_V l D dA κ H.size o_ v_ e_ (f0 + 1) k_ N_ g_ a0 a1 a2 (by omega) (by omega)) (cw_J2_J2_add_2_V hts ⟨Nat.le_of_ble_eq_true rfl, Nat.le_of_ble_eq_true rfl⟩) (a_now hK hZ hP hD hS hk0 hAn [0, 1, 2] rfl rfl rfl) (va_recv hK hP (ci := 8) (q0 := 0) rfl rfl) rfl hl.1 rfl (Nat.le_of_ble_eq_true rfl) dJ2_add_20 ⟨Nat.le_of_ble_eq_true rfl, Nat.le_of_ble_eq_true rfl⟩ hP hD hS hA [0, 1, 2] [] rfl rfl rfl (by decide) (fun u H locs hP hD hS => ?_)
  have hP : va_P D vwCl [(o_, .inr (8, [.int (f0 + 1), .ref e_, .int (nI (k_ + 1))])), (e_, .inl (dA 3, rfs N_ (va_up g_ k_ (some v_)))), (v_, .inr (7, [.int a0, .int a1, .int a2]))] H := hP
  have hD : va_D (va_A [(o_, .inr (8, [.int f0, .ref e_, .int (nI k_)])), (e_, .inl (dA 3, rfs N_ g_)), (v_, .inr (7, [.int a0, .int a1, .int a2]))] s.heap.size) [(o_, .inr (8, [.int (f0 + 1), .ref e_, .int (nI (k_ + 1))])), (e_, .inl (dA 3, rfs N_ (va_up g_ k_ (some v_)))), (v_, .inr (7, [.int a0, .int a1, .int a2]))] := hD
  change W p l e rmJ2_add_V s m args below meth c H locs 0 0 Q (F0 m 23 ls [])
  refine lv_iconst (v := 1) hx hb dJ2_add_23 rfl ?_
  exact ar_z () hQ hx hb hr hlocks (Or.inr rfl) hP hD hS (Nat.le_of_ble_eq_true rfl) (Nat.le_of_ble_eq_true rfl) (rfl) [0, 1, 2] (rfl) (rfl) rfl dJ2_add_24
