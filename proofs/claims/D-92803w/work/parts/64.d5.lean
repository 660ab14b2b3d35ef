/-! CELLS MADE 5: lists that grow again -/
set_option maxRecDepth 100000

theorem cw_J2_J7_newLength {R : Room} {s : State} {args : Array Value} (hts : ∀ w ∈ lw_all, w.before args s = true) (hR : rmJ7_newLength.frames + 1 ≤ R.frames ∧ 8 + (4 + 11) + rmJ7_newLength.locals ≤ R.locals) : CallB R s args RJ2 73 yJ7_newLength cJ7_newLength 4 (some .int) (ws_ yJ7_newLength cJ7_newLength 4 (some .int)) rmJ7_newLength 0 0 3 ∧ (Cond.static yJ7_newLength).before args s = true := va_cwS 3 hts (lw_S q774 q364 q89 q365) rfl rfl rfl (by decide +kernel) hR
theorem cw_J2_J9_copyOf_2_A {R : Room} {s : State} {args : Array Value} (hts : ∀ w ∈ lw_all, w.before args s = true) (hR : rmJ9_copyOf_2_A.frames + 1 ≤ R.frames ∧ 8 + (2 + 11) + rmJ9_copyOf_2_A.locals ≤ R.locals) : CallB R s args RJ2 66 yJ9_copyOf_2 cJ9_copyOf_2 2 (some (.array (.object "java/lang/Object"))) (ws_ yJ9_copyOf_2 cJ9_copyOf_2 2 (some (.array (.object "java/lang/Object")))) rmJ9_copyOf_2_A 1 15 2 ∧ (Cond.static yJ9_copyOf_2).before args s = true := va_cwS 2 hts (lw_S q775 q776 q91 q777) rfl rfl rfl (by decide +kernel) hR
def rmJ2_grow_2_A : Room := { frames := 3, cells := 1, slots := 15, locals := 104 }
set_option maxHeartbeats 1000000 in
theorem mt_J2_grow_2_A (l : Launch) (D : va_G) (dA : Nat → ClassId) (κ : KZ) (sz : Nat) (o_ : Nat) (e_ : Nat) (f0 : Int32) (g_ : Nat → Option Nat) : Met l yJ2_grow_2 (ws_ yJ2_grow_2 cJ2_grow_2 4 (some (.array (.object "java/lang/Object")))) rmJ2_grow_2_A (va_Pc [.ref o_, .int (nI 11)] (fun U => aB D dA κ [(o_, .inr (8, [.int f0, .ref e_, .int (nI 10)])), (e_, .inl (dA 3, rfs 10 g_))] sz U ∧ anyE g_ 10 [(o_, .inr (8, [.int f0, .ref e_, .int (nI 10)])), (e_, .inl (dA 3, rfs 10 g_))] sz U)) (aQ (fun (q_ : Nat) => ((some (.ref q_)), [(o_, .inr (8, [.int f0, .ref q_, .int (nI 10)])), (q_, .inl (dA 3, rfs 15 (va_cpy g_ (fun _ => none) 0 0 10)))])) D [(o_, .inr (8, [.int f0, .ref e_, .int (nI 10)])), (e_, .inl (dA 3, rfs 10 g_))] sz) 1 15 (va_A [(o_, .inr (8, [.int f0, .ref e_, .int (nI 10)])), (e_, .inl (dA 3, rfs 10 g_))] sz) := by
  refine w_start (by decide) (Nat.le_of_ble_eq_true rfl) ?_
  intro p e s m args below meth c Q ls hQ hx hb hr hlocks hml hown hnm hts hB hl
  have hown : s.vm.findClass RJ2 = some m.cls := hown
  have hl : lv_has ls 4 [(0, .ref o_), (1, .int (nI 11))] := hl
  obtain ⟨⟨hP, hD, hK, hZ, hk0, hge, rfl⟩, hY⟩ := hB
  have hA : ∀ q : Nat, s.heap.size ≤ q → va_A [(o_, .inr (8, [.int f0, .ref e_, .int (nI 10)])), (e_, .inl (dA 3, rfs 10 g_))] s.heap.size q := fun q h => Or.inr h
  have hAn : ∀ q : Nat, va_A [(o_, .inr (8, [.int f0, .ref e_, .int (nI 10)])), (e_, .inl (dA 3, rfs 10 g_))] s.heap.size q → κ.1 ≤ q := fun q h => by
    rcases h with ⟨k, e, h⟩ | h
    · exact hge k _ h
    · exact Nat.le_trans hk0 h
  have hS : va_S (va_A [(o_, .inr (8, [.int f0, .ref e_, .int (nI 10)])), (e_, .inl (dA 3, rfs 10 g_))] s.heap.size) s.heap s.heap [] := va_S.rf
  have hP : va_P D vwCl [(o_, .inr (8, [.int f0, .ref e_, .int (nI 10)])), (e_, .inl (dA 3, rfs 10 g_))] s.heap := hP
  have hD : va_D (va_A [(o_, .inr (8, [.int f0, .ref e_, .int (nI 10)])), (e_, .inl (dA 3, rfs 10 g_))] s.heap.size) [(o_, .inr (8, [.int f0, .ref e_, .int (nI 10)])), (e_, .inl (dA 3, rfs 10 g_))] := hD
  refine lv_aload_n hx hb dJ2_grow_2_0 rfl (lv_at hl 0 rfl) ?_
  refine va_get (D := D) (ci := 8) (v := .ref e_) (C := RJ2) (T := TJ2) (N := 3) hx hb hts in_J2 hown hK hP 0 rfl rfl 1 (by decide) (hts _ q183) (fun _ h9 => h9) rfl dJ2_grow_2_1 ?_
  refine va_alen (v := nI 10) hx hb hK hP 1 3 rfl rfl rfl dJ2_grow_2_4 ?_
  refine lv_istore_n (lv' := [(2, .int (nI 10)), (0, .ref o_), (1, .int (nI 11))]) hx hb dJ2_grow_2_5 rfl hl (by decide) rfl (fun ls hl => ?_)
  refine lv_iload_n hx hb dJ2_grow_2_6 rfl (lv_at hl 0 rfl) ?_
  refine lv_if_gt (tgt := 20) hx hb dJ2_grow_2_7 rfl (fun h7 => ?_) (fun h7 => ?_)
  · have h7 : 0 < 10 := (nz_lt (a := 0) (b := 10) rfl rfl (by omega) (by omega)).mp h7
    refine lv_iload_n hx hb dJ2_grow_2_20 rfl (lv_at hl 0 rfl) ?_
    refine lv_iload_n hx hb dJ2_grow_2_21 rfl (lv_at hl 2 rfl) ?_
    refine lv_iload_n hx hb dJ2_grow_2_22 rfl (lv_at hl 0 rfl) ?_
    refine lv_isub hx hb dJ2_grow_2_23 ?_
    refine w_topi (nz_sub (a := 11) (b := 10) rfl rfl (by omega)) ?_
    refine lv_iload_n hx hb dJ2_grow_2_24 rfl (lv_at hl 0 rfl) ?_
    refine lv_iconst (v := 1) hx hb dJ2_grow_2_25 rfl ?_
    refine lv_ishr hx hb dJ2_grow_2_26 ?_
    refine w_topi (y := nI 5) (by decide) ?_
    refine cSi (As := [.int (nI 10), .int (nI (11 - 10)), .int (nI 5)]) (rest := []) ⟨hx, hb, hml, hown, hts⟩ (mt_J7_newLength l 10 5 (by omega) (by omega) (by omega)) (cw_J2_J7_newLength hts ⟨Nat.le_of_ble_eq_true rfl, Nat.le_of_ble_eq_true rfl⟩) w_blT (fun _ _ _ => trivial) rfl hl.1 rfl (Nat.le_of_ble_eq_true rfl) dJ2_grow_2_27 ⟨Nat.le_of_ble_eq_true rfl, Nat.le_of_ble_eq_true rfl⟩ ?_
    refine lv_istore_n (lv' := [(3, .int (nI (10 + 5))), (2, .int (nI 10)), (0, .ref o_), (1, .int (nI 11))]) hx hb dJ2_grow_2_30 rfl hl (by decide) rfl (fun ls hl => ?_)
    refine lv_aload_n hx hb dJ2_grow_2_31 rfl (lv_at hl 2 rfl) ?_
    refine lv_aload_n hx hb dJ2_grow_2_32 rfl (lv_at hl 2 rfl) ?_
    refine va_get (D := D) (ci := 8) (v := .ref e_) (C := RJ2) (T := TJ2) (N := 3) hx hb hts in_J2 hown hK hP 0 rfl rfl 1 (by decide) (hts _ q183) (fun _ h9 => h9) rfl dJ2_grow_2_33 ?_
    refine lv_iload_n hx hb dJ2_grow_2_36 rfl (lv_at hl 0 rfl) ?_
    refine aSx (wc := [(e_, .inl (dA 3, rfs 10 g_))]) (wr := [(o_, .inr (8, [.int f0, .ref e_, .int (nI 10)]))]) (As := [.ref e_, .int (nI (10 + 5))]) (rest := [.ref o_]) ⟨hx, hb, hml, hown, hts⟩ (mt_J9_copyOf_2_A l D dA κ s.heap.size e_ g_) (cw_J2_J9_copyOf_2_A hts ⟨Nat.le_of_ble_eq_true rfl, Nat.le_of_ble_eq_true rfl⟩) (fun U h1 h2 => ⟨a_now hK hZ hP hD hS hk0 hAn [1] rfl rfl rfl U h1 h2, any_now hY hS (va_free (wc := [(e_, .inl (dA 3, rfs 10 g_))]) hD hS hA [1] rfl) U h1 h2⟩) rfl hl.1 rfl (Nat.le_of_ble_eq_true rfl) dJ2_grow_2_37 ⟨Nat.le_of_ble_eq_true rfl, Nat.le_of_ble_eq_true rfl⟩ hP hD hS hA [1] [0] rfl rfl rfl (by decide) (fun q__1 H locs hP hD hS => ?_)
    have hP : va_P D vwCl [(o_, .inr (8, [.int f0, .ref e_, .int (nI 10)])), (e_, .inl (dA 3, rfs 10 g_)), (q__1, .inl (dA 3, rfs 15 (va_cpy g_ (fun _ => none) 0 0 10)))] H := hP
    have hD : va_D (va_A [(o_, .inr (8, [.int f0, .ref e_, .int (nI 10)])), (e_, .inl (dA 3, rfs 10 g_))] s.heap.size) [(o_, .inr (8, [.int f0, .ref e_, .int (nI 10)])), (e_, .inl (dA 3, rfs 10 g_)), (q__1, .inl (dA 3, rfs 15 (va_cpy g_ (fun _ => none) 0 0 10)))] := hD
    change W p l e rmJ2_grow_2_A s m args below meth c H locs 1 15 Q (F0 m 40 ls [.ref q__1, .ref o_])
    refine lv_dup_x1 hx hb dJ2_grow_2_40 rfl rfl ?_
    refine va_put (D := D) (ci := 8) (v := .ref q__1) (ty := (.array (.object "java/lang/Object"))) (C := RJ2) (T := TJ2) (N := 3) hx hb hts in_J2 tyJ2 tyJ2_ok nmJ2 hown hK hP hD hS 0 rfl rfl 1 (by decide) (hts _ q183) (fun _ h9 => h9) rfl (by decide +kernel) (rfl) (rfl) (Nat.le_of_ble_eq_true rfl) dJ2_grow_2_41 (fun H locs hP hD hS => ?_)
    have hP : va_P D vwCl [(o_, .inr (8, [.int f0, .ref q__1, .int (nI 10)])), (e_, .inl (dA 3, rfs 10 g_)), (q__1, .inl (dA 3, rfs 15 (va_cpy g_ (fun _ => none) 0 0 10)))] H := hP
    have hD : va_D (va_A [(o_, .inr (8, [.int f0, .ref e_, .int (nI 10)])), (e_, .inl (dA 3, rfs 10 g_))] s.heap.size) [(o_, .inr (8, [.int f0, .ref q__1, .int (nI 10)])), (e_, .inl (dA 3, rfs 10 g_)), (q__1, .inl (dA 3, rfs 15 (va_cpy g_ (fun _ => none) 0 0 10)))] := hD
    exact ar_a q__1 hQ hx hb hr (Or.inr ⟨_, rfl⟩) hlocks hP hD hS (Nat.le_of_ble_eq_true rfl) (Nat.le_of_ble_eq_true rfl) (rfl) [0, 2] (rfl) (rfl) rfl dJ2_grow_2_44
  · have h7 : ¬ (0 < 10) := fun z9 => h7 ((nz_lt (a := 0) (b := 10) rfl rfl (by omega) (by omega)).mpr z9)
    exact absurd (by omega) h7

theorem cw_J2_J2_grow_2_A {R : Room} {s : State} {args : Array Value} (hts : ∀ w ∈ lw_all, w.before args s = true) (hR : rmJ2_grow_2_A.frames + 1 ≤ R.frames ∧ 8 + (4 + 11) + rmJ2_grow_2_A.locals ≤ R.locals) : CallW R s args RJ2 RJ2 69 yJ2_grow_2 cJ2_grow_2 4 (some (.array (.object "java/lang/Object"))) (ws_ yJ2_grow_2 cJ2_grow_2 4 (some (.array (.object "java/lang/Object")))) rmJ2_grow_2_A 1 15 1 := cwV 1 hts (lw_V q770 q772 qs15 q81 q773) rfl rfl rfl (by decide +kernel) hR
def rmJ2_grow_A : Room := { frames := 4, cells := 1, slots := 15, locals := 127 }
set_option maxHeartbeats 1000000 in
theorem mt_J2_grow_A (l : Launch) (D : va_G) (dA : Nat → ClassId) (κ : KZ) (sz : Nat) (o_ : Nat) (e_ : Nat) (f0 : Int32) (g_ : Nat → Option Nat) : Met l yJ2_grow (ws_ yJ2_grow cJ2_grow 1 (some (.array (.object "java/lang/Object")))) rmJ2_grow_A (va_Pc [.ref o_] (fun U => aB D dA κ [(o_, .inr (8, [.int f0, .ref e_, .int (nI 10)])), (e_, .inl (dA 3, rfs 10 g_))] sz U ∧ anyE g_ 10 [(o_, .inr (8, [.int f0, .ref e_, .int (nI 10)])), (e_, .inl (dA 3, rfs 10 g_))] sz U)) (aQ (fun (q_ : Nat) => ((some (.ref q_)), [(o_, .inr (8, [.int f0, .ref q_, .int (nI 10)])), (q_, .inl (dA 3, rfs 15 (va_cpy g_ (fun _ => none) 0 0 10)))])) D [(o_, .inr (8, [.int f0, .ref e_, .int (nI 10)])), (e_, .inl (dA 3, rfs 10 g_))] sz) 1 15 (va_A [(o_, .inr (8, [.int f0, .ref e_, .int (nI 10)])), (e_, .inl (dA 3, rfs 10 g_))] sz) := by
  refine w_start (by decide) (Nat.le_of_ble_eq_true rfl) ?_
  intro p e s m args below meth c Q ls hQ hx hb hr hlocks hml hown hnm hts hB hl
  have hown : s.vm.findClass RJ2 = some m.cls := hown
  have hl : lv_has ls 1 [(0, .ref o_)] := hl
  obtain ⟨⟨hP, hD, hK, hZ, hk0, hge, rfl⟩, hY⟩ := hB
  have hA : ∀ q : Nat, s.heap.size ≤ q → va_A [(o_, .inr (8, [.int f0, .ref e_, .int (nI 10)])), (e_, .inl (dA 3, rfs 10 g_))] s.heap.size q := fun q h => Or.inr h
  have hAn : ∀ q : Nat, va_A [(o_, .inr (8, [.int f0, .ref e_, .int (nI 10)])), (e_, .inl (dA 3, rfs 10 g_))] s.heap.size q → κ.1 ≤ q := fun q h => by
    rcases h with ⟨k, e, h⟩ | h
    · exact hge k _ h
    · exact Nat.le_trans hk0 h
  have hS : va_S (va_A [(o_, .inr (8, [.int f0, .ref e_, .int (nI 10)])), (e_, .inl (dA 3, rfs 10 g_))] s.heap.size) s.heap s.heap [] := va_S.rf
  have hP : va_P D vwCl [(o_, .inr (8, [.int f0, .ref e_, .int (nI 10)])), (e_, .inl (dA 3, rfs 10 g_))] s.heap := hP
  have hD : va_D (va_A [(o_, .inr (8, [.int f0, .ref e_, .int (nI 10)])), (e_, .inl (dA 3, rfs 10 g_))] s.heap.size) [(o_, .inr (8, [.int f0, .ref e_, .int (nI 10)])), (e_, .inl (dA 3, rfs 10 g_))] := hD
  refine lv_aload_n hx hb dJ2_grow_0 rfl (lv_at hl 0 rfl) ?_
  refine lv_aload_n hx hb dJ2_grow_1 rfl (lv_at hl 0 rfl) ?_
  refine va_get (D := D) (ci := 8) (v := .int (nI 10)) (C := RJ2) (T := TJ2) (N := 3) hx hb hts in_J2 hown hK hP 0 rfl rfl 2 (by decide) (hts _ q184) (fun _ h9 => h9) rfl dJ2_grow_2 ?_
  refine lv_iconst (v := 1) hx hb dJ2_grow_5 rfl ?_
  refine lv_iadd hx hb dJ2_grow_6 ?_
  refine w_topi (nz_add rfl rfl) ?_
  refine aVx (wc := [(o_, .inr (8, [.int f0, .ref e_, .int (nI 10)])), (e_, .inl (dA 3, rfs 10 g_))]) (wr := []) (As := [.int (nI (10 + 1))]) (rest := []) ⟨hx, hb, hml, hown, hts⟩ (mt_J2_grow_2_A l D dA κ s.heap.size o_ e_ f0 g_) (cw_J2_J2_grow_2_A hts ⟨Nat.le_of_ble_eq_true rfl, Nat.le_of_ble_eq_true rfl⟩) (fun U h1 h2 => ⟨a_now hK hZ hP hD hS hk0 hAn [0, 1] rfl rfl rfl U h1 h2, any_now hY hS (va_free (wc := [(o_, .inr (8, [.int f0, .ref e_, .int (nI 10)])), (e_, .inl (dA 3, rfs 10 g_))]) hD hS hA [0, 1] rfl) U h1 h2⟩) (va_recv hK hP (ci := 8) (q0 := 0) rfl rfl) rfl hl.1 rfl (Nat.le_of_ble_eq_true rfl) dJ2_grow_7 ⟨Nat.le_of_ble_eq_true rfl, Nat.le_of_ble_eq_true rfl⟩ hP hD hS hA [0, 1] [] rfl rfl rfl (by decide) (fun q__1 H locs hP hD hS => ?_)
  have hP : va_P D vwCl [(o_, .inr (8, [.int f0, .ref q__1, .int (nI 10)])), (q__1, .inl (dA 3, rfs 15 (va_cpy g_ (fun _ => none) 0 0 10)))] H := hP
  have hD : va_D (va_A [(o_, .inr (8, [.int f0, .ref e_, .int (nI 10)])), (e_, .inl (dA 3, rfs 10 g_))] s.heap.size) [(o_, .inr (8, [.int f0, .ref q__1, .int (nI 10)])), (q__1, .inl (dA 3, rfs 15 (va_cpy g_ (fun _ => none) 0 0 10)))] := hD
  change W p l e rmJ2_grow_A s m args below meth c H locs 1 15 Q (F0 m 10 ls [.ref q__1])
  exact ar_a q__1 hQ hx hb hr (Or.inr ⟨_, rfl⟩) hlocks hP hD hS (Nat.le_of_ble_eq_true rfl) (Nat.le_of_ble_eq_true rfl) (rfl) [0, 1] (rfl) (rfl) rfl dJ2_grow_10

theorem cw_J2_J2_grow_A {R : Room} {s : State} {args : Array Value} (hts : ∀ w ∈ lw_all, w.before args s = true) (hR : rmJ2_grow_A.frames + 1 ≤ R.frames ∧ 8 + (1 + 11) + rmJ2_grow_A.locals ≤ R.locals) : CallW R s args RJ2 RJ2 129 yJ2_grow cJ2_grow 1 (some (.array (.object "java/lang/Object"))) (ws_ yJ2_grow cJ2_grow 1 (some (.array (.object "java/lang/Object")))) rmJ2_grow_A 1 15 0 := cwV 0 hts (lw_V q766 q768 qs14 q81 q769) rfl rfl rfl (by decide +kernel) hR
def rmJ2_add_2_VA : Room := { frames := 5, cells := 1, slots := 15, locals := 147 }
set_option maxHeartbeats 1000000 in
theorem mt_J2_add_2_VA (l : Launch) (D : va_G) (dA : Nat → ClassId) (κ : KZ) (sz : Nat) (o_ : Nat) (e_ : Nat) (f0 : Int32) (g_ : Nat → Option Nat) (v_ : Nat) (a0 : Int32) (a1 : Int32) (a2 : Int32) : Met l yJ2_add_2 (ws_ yJ2_add_2 cJ2_add_2 4 none) rmJ2_add_2_VA (va_Pc [.ref o_, .ref v_, .ref e_, .int (nI 10)] (fun U => aB D dA κ [(o_, .inr (8, [.int f0, .ref e_, .int (nI 10)])), (e_, .inl (dA 3, rfs 10 g_)), (v_, .inr (7, [.int a0, .int a1, .int a2]))] sz U ∧ anyE g_ 10 [(o_, .inr (8, [.int f0, .ref e_, .int (nI 10)])), (e_, .inl (dA 3, rfs 10 g_)), (v_, .inr (7, [.int a0, .int a1, .int a2]))] sz U)) (aQ (fun (q_ : Nat) => (none, [(o_, .inr (8, [.int f0, .ref q_, .int (nI 11)])), (q_, .inl (dA 3, rfs 15 (va_up (va_cpy g_ (fun _ => none) 0 0 10) 10 (some v_)))), (v_, .inr (7, [.int a0, .int a1, .int a2]))])) D [(o_, .inr (8, [.int f0, .ref e_, .int (nI 10)])), (e_, .inl (dA 3, rfs 10 g_)), (v_, .inr (7, [.int a0, .int a1, .int a2]))] sz) 1 15 (va_A [(o_, .inr (8, [.int f0, .ref e_, .int (nI 10)])), (e_, .inl (dA 3, rfs 10 g_)), (v_, .inr (7, [.int a0, .int a1, .int a2]))] sz) := by
  refine w_start (by decide) (Nat.le_of_ble_eq_true rfl) ?_
  intro p e s m args below meth c Q ls hQ hx hb hr hlocks hml hown hnm hts hB hl
  have hown : s.vm.findClass RJ2 = some m.cls := hown
  have hl : lv_has ls 4 [(0, .ref o_), (1, .ref v_), (2, .ref e_), (3, .int (nI 10))] := hl
  obtain ⟨⟨hP, hD, hK, hZ, hk0, hge, rfl⟩, hY⟩ := hB
  have hA : ∀ q : Nat, s.heap.size ≤ q → va_A [(o_, .inr (8, [.int f0, .ref e_, .int (nI 10)])), (e_, .inl (dA 3, rfs 10 g_)), (v_, .inr (7, [.int a0, .int a1, .int a2]))] s.heap.size q := fun q h => Or.inr h
  have hAn : ∀ q : Nat, va_A [(o_, .inr (8, [.int f0, .ref e_, .int (nI 10)])), (e_, .inl (dA 3, rfs 10 g_)), (v_, .inr (7, [.int a0, .int a1, .int a2]))] s.heap.size q → κ.1 ≤ q := fun q h => by
    rcases h with ⟨k, e, h⟩ | h
    · exact hge k _ h
    · exact Nat.le_trans hk0 h
  have hS : va_S (va_A [(o_, .inr (8, [.int f0, .ref e_, .int (nI 10)])), (e_, .inl (dA 3, rfs 10 g_)), (v_, .inr (7, [.int a0, .int a1, .int a2]))] s.heap.size) s.heap s.heap [] := va_S.rf
  have hP : va_P D vwCl [(o_, .inr (8, [.int f0, .ref e_, .int (nI 10)])), (e_, .inl (dA 3, rfs 10 g_)), (v_, .inr (7, [.int a0, .int a1, .int a2]))] s.heap := hP
  have hD : va_D (va_A [(o_, .inr (8, [.int f0, .ref e_, .int (nI 10)])), (e_, .inl (dA 3, rfs 10 g_)), (v_, .inr (7, [.int a0, .int a1, .int a2]))] s.heap.size) [(o_, .inr (8, [.int f0, .ref e_, .int (nI 10)])), (e_, .inl (dA 3, rfs 10 g_)), (v_, .inr (7, [.int a0, .int a1, .int a2]))] := hD
  refine lv_iload_n hx hb dJ2_add_2_0 rfl (lv_at hl 3 rfl) ?_
  refine lv_aload_n hx hb dJ2_add_2_1 rfl (lv_at hl 2 rfl) ?_
  refine va_alen (v := nI 10) hx hb hK hP 1 3 rfl rfl rfl dJ2_add_2_2 ?_
  refine lv_icmp_ne (tgt := 11) hx hb dJ2_add_2_3 rfl (fun h3 => ?_) (fun h3 => ?_)
  · have h3 : ¬ (10 = 10) := fun z9 => h3 ((nz_eq (a := 10) (b := 10) rfl rfl (by omega) (by omega)).mpr z9)
    exact absurd rfl h3
  · have h3 : 10 = 10 := (nz_eq (a := 10) (b := 10) rfl rfl (by omega) (by omega)).mp h3
    refine lv_aload_n hx hb dJ2_add_2_6 rfl (lv_at hl 0 rfl) ?_
    refine aVx (wc := [(o_, .inr (8, [.int f0, .ref e_, .int (nI 10)])), (e_, .inl (dA 3, rfs 10 g_))]) (wr := [(v_, .inr (7, [.int a0, .int a1, .int a2]))]) (As := []) (rest := []) ⟨hx, hb, hml, hown, hts⟩ (mt_J2_grow_A l D dA κ s.heap.size o_ e_ f0 g_) (cw_J2_J2_grow_A hts ⟨Nat.le_of_ble_eq_true rfl, Nat.le_of_ble_eq_true rfl⟩) (fun U h1 h2 => ⟨a_now hK hZ hP hD hS hk0 hAn [0, 1] rfl rfl rfl U h1 h2, any_now hY hS (va_free (wc := [(o_, .inr (8, [.int f0, .ref e_, .int (nI 10)])), (e_, .inl (dA 3, rfs 10 g_))]) hD hS hA [0, 1] rfl) U h1 h2⟩) (va_recv hK hP (ci := 8) (q0 := 0) rfl rfl) rfl hl.1 rfl (Nat.le_of_ble_eq_true rfl) dJ2_add_2_7 ⟨Nat.le_of_ble_eq_true rfl, Nat.le_of_ble_eq_true rfl⟩ hP hD hS hA [0, 1] [2] rfl rfl rfl (by decide) (fun q__1 H locs hP hD hS => ?_)
    have hP : va_P D vwCl [(v_, .inr (7, [.int a0, .int a1, .int a2])), (o_, .inr (8, [.int f0, .ref q__1, .int (nI 10)])), (q__1, .inl (dA 3, rfs 15 (va_cpy g_ (fun _ => none) 0 0 10)))] H := hP
    have hD : va_D (va_A [(o_, .inr (8, [.int f0, .ref e_, .int (nI 10)])), (e_, .inl (dA 3, rfs 10 g_)), (v_, .inr (7, [.int a0, .int a1, .int a2]))] s.heap.size) [(v_, .inr (7, [.int a0, .int a1, .int a2])), (o_, .inr (8, [.int f0, .ref q__1, .int (nI 10)])), (q__1, .inl (dA 3, rfs 15 (va_cpy g_ (fun _ => none) 0 0 10)))] := hD
    change W p l e rmJ2_add_2_VA s m args below meth c H locs 1 15 Q (F0 m 10 ls [.ref q__1])
    refine lv_astore_n (lv' := [(2, .ref q__1), (0, .ref o_), (1, .ref v_), (3, .int (nI 10))]) hx hb dJ2_add_2_10 rfl hl (by decide) rfl (fun ls hl => ?_)
    refine lv_aload_n hx hb dJ2_add_2_11 rfl (lv_at hl 0 rfl) ?_
    refine lv_iload_n hx hb dJ2_add_2_12 rfl (lv_at hl 3 rfl) ?_
    refine lv_aload_n hx hb dJ2_add_2_13 rfl (lv_at hl 2 rfl) ?_
    refine va_astqO (D := D) hx hb hK hP hD hS 2 3 0 7 rfl rfl (hZ.2.1 ("CarryUp$Visit", "java/lang/Object") (by decide)) rfl rfl (vp_in_nI (by omega) (by omega)) dJ2_add_2_14 (fun H locs hP hD hS => ?_)
    rw [nI_clamp (by omega)] at hP hD
    have hP : va_P D vwCl [(v_, .inr (7, [.int a0, .int a1, .int a2])), (o_, .inr (8, [.int f0, .ref q__1, .int (nI 10)])), (q__1, .inl (dA 3, rfs 15 (va_up (va_cpy g_ (fun _ => none) 0 0 10) 10 (some v_))))] H := hP
    have hD : va_D (va_A [(o_, .inr (8, [.int f0, .ref e_, .int (nI 10)])), (e_, .inl (dA 3, rfs 10 g_)), (v_, .inr (7, [.int a0, .int a1, .int a2]))] s.heap.size) [(v_, .inr (7, [.int a0, .int a1, .int a2])), (o_, .inr (8, [.int f0, .ref q__1, .int (nI 10)])), (q__1, .inl (dA 3, rfs 15 (va_up (va_cpy g_ (fun _ => none) 0 0 10) 10 (some v_))))] := hD
    refine lv_aload_n hx hb dJ2_add_2_15 rfl (lv_at hl 1 rfl) ?_
    refine lv_iload_n hx hb dJ2_add_2_16 rfl (lv_at hl 3 rfl) ?_
    refine lv_iconst (v := 1) hx hb dJ2_add_2_17 rfl ?_
    refine lv_iadd hx hb dJ2_add_2_18 ?_
    refine w_topi (nz_add rfl rfl) ?_
    refine va_put (D := D) (ci := 8) (v := .int (nI (10 + 1))) (ty := .int) (C := RJ2) (T := TJ2) (N := 3) hx hb hts in_J2 tyJ2 tyJ2_ok nmJ2 hown hK hP hD hS 1 rfl rfl 2 (by decide) (hts _ q184) (fun _ h9 => h9) rfl (by decide +kernel) (rfl) (rfl) (Nat.le_of_ble_eq_true rfl) dJ2_add_2_19 (fun H locs hP hD hS => ?_)
    have hP : va_P D vwCl [(v_, .inr (7, [.int a0, .int a1, .int a2])), (o_, .inr (8, [.int f0, .ref q__1, .int (nI (10 + 1))])), (q__1, .inl (dA 3, rfs 15 (va_up (va_cpy g_ (fun _ => none) 0 0 10) 10 (some v_))))] H := hP
    have hD : va_D (va_A [(o_, .inr (8, [.int f0, .ref e_, .int (nI 10)])), (e_, .inl (dA 3, rfs 10 g_)), (v_, .inr (7, [.int a0, .int a1, .int a2]))] s.heap.size) [(v_, .inr (7, [.int a0, .int a1, .int a2])), (o_, .inr (8, [.int f0, .ref q__1, .int (nI (10 + 1))])), (q__1, .inl (dA 3, rfs 15 (va_up (va_cpy g_ (fun _ => none) 0 0 10) 10 (some v_))))] := hD
    exact ar_v q__1 hQ hx hb hr hlocks hP hD hS (Nat.le_of_ble_eq_true rfl) (Nat.le_of_ble_eq_true rfl) (rfl) [1, 2, 0] (rfl) (rfl) rfl dJ2_add_2_22

theorem cw_J2_J2_add_2_VA {R : Room} {s : State} {args : Array Value} (hts : ∀ w ∈ lw_all, w.before args s = true) (hR : rmJ2_add_2_VA.frames + 1 ≤ R.frames ∧ 8 + (4 + 11) + rmJ2_add_2_VA.locals ≤ R.locals) : CallW R s args RJ2 RJ2 131 yJ2_add_2 cJ2_add_2 4 none (ws_ yJ2_add_2 cJ2_add_2 4 none) rmJ2_add_2_VA 1 15 3 := cwV 3 hts (lw_V q762 q764 qs13 q81 q765) rfl rfl rfl (by decide +kernel) hR
def rmJ2_add_VA : Room := { frames := 6, cells := 1, slots := 15, locals := 170 }
set_option maxHeartbeats 1000000 in
theorem mt_J2_add_VA (l : Launch) (D : va_G) (dA : Nat → ClassId) (κ : KZ) (sz : Nat) (o_ : Nat) (e_ : Nat) (f0 : Int32) (g_ : Nat → Option Nat) (v_ : Nat) (a0 : Int32) (a1 : Int32) (a2 : Int32) : Met l yJ2_add (ws_ yJ2_add cJ2_add 2 (some .boolean)) rmJ2_add_VA (va_Pc [.ref o_, .ref v_] (fun U => aB D dA κ [(o_, .inr (8, [.int f0, .ref e_, .int (nI 10)])), (e_, .inl (dA 3, rfs 10 g_)), (v_, .inr (7, [.int a0, .int a1, .int a2]))] sz U ∧ anyE g_ 10 [(o_, .inr (8, [.int f0, .ref e_, .int (nI 10)])), (e_, .inl (dA 3, rfs 10 g_)), (v_, .inr (7, [.int a0, .int a1, .int a2]))] sz U)) (aQ (fun (q_ : Nat) => ((some (.int 1)), [(o_, .inr (8, [.int (f0 + 1), .ref q_, .int (nI 11)])), (q_, .inl (dA 3, rfs 15 (va_up (va_cpy g_ (fun _ => none) 0 0 10) 10 (some v_)))), (v_, .inr (7, [.int a0, .int a1, .int a2]))])) D [(o_, .inr (8, [.int f0, .ref e_, .int (nI 10)])), (e_, .inl (dA 3, rfs 10 g_)), (v_, .inr (7, [.int a0, .int a1, .int a2]))] sz) 1 15 (va_A [(o_, .inr (8, [.int f0, .ref e_, .int (nI 10)])), (e_, .inl (dA 3, rfs 10 g_)), (v_, .inr (7, [.int a0, .int a1, .int a2]))] sz) := by
  refine w_start (by decide) (Nat.le_of_ble_eq_true rfl) ?_
  intro p e s m args below meth c Q ls hQ hx hb hr hlocks hml hown hnm hts hB hl
  have hown : s.vm.findClass RJ2 = some m.cls := hown
  have hl : lv_has ls 2 [(0, .ref o_), (1, .ref v_)] := hl
  obtain ⟨⟨hP, hD, hK, hZ, hk0, hge, rfl⟩, hY⟩ := hB
  have hA : ∀ q : Nat, s.heap.size ≤ q → va_A [(o_, .inr (8, [.int f0, .ref e_, .int (nI 10)])), (e_, .inl (dA 3, rfs 10 g_)), (v_, .inr (7, [.int a0, .int a1, .int a2]))] s.heap.size q := fun q h => Or.inr h
  have hAn : ∀ q : Nat, va_A [(o_, .inr (8, [.int f0, .ref e_, .int (nI 10)])), (e_, .inl (dA 3, rfs 10 g_)), (v_, .inr (7, [.int a0, .int a1, .int a2]))] s.heap.size q → κ.1 ≤ q := fun q h => by
    rcases h with ⟨k, e, h⟩ | h
    · exact hge k _ h
    · exact Nat.le_trans hk0 h
  have hS : va_S (va_A [(o_, .inr (8, [.int f0, .ref e_, .int (nI 10)])), (e_, .inl (dA 3, rfs 10 g_)), (v_, .inr (7, [.int a0, .int a1, .int a2]))] s.heap.size) s.heap s.heap [] := va_S.rf
  have hP : va_P D vwCl [(o_, .inr (8, [.int f0, .ref e_, .int (nI 10)])), (e_, .inl (dA 3, rfs 10 g_)), (v_, .inr (7, [.int a0, .int a1, .int a2]))] s.heap := hP
  have hD : va_D (va_A [(o_, .inr (8, [.int f0, .ref e_, .int (nI 10)])), (e_, .inl (dA 3, rfs 10 g_)), (v_, .inr (7, [.int a0, .int a1, .int a2]))] s.heap.size) [(o_, .inr (8, [.int f0, .ref e_, .int (nI 10)])), (e_, .inl (dA 3, rfs 10 g_)), (v_, .inr (7, [.int a0, .int a1, .int a2]))] := hD
  refine lv_aload_n hx hb dJ2_add_0 rfl (lv_at hl 0 rfl) ?_
  refine lv_dup hx hb dJ2_add_1 rfl ?_
  refine va_get (D := D) (ci := 8) (v := .int f0) (C := RJ2) (T := TJ2) (N := 3) hx hb hts in_J2 hown hK hP 0 rfl rfl 0 (by decide) (hts _ q186) (fun x9 h9 => u_same (hts _ q187) x9 h9) rfl dJ2_add_2 ?_
  refine lv_iconst (v := 1) hx hb dJ2_add_5 rfl ?_
  refine lv_iadd hx hb dJ2_add_6 ?_
  refine va_put (D := D) (ci := 8) (v := .int (f0 + 1)) (ty := .int) (C := RJ2) (T := TJ2) (N := 3) hx hb hts in_J2 tyJ2 tyJ2_ok nmJ2 hown hK hP hD hS 0 rfl rfl 0 (by decide) (hts _ q186) (fun x9 h9 => u_same (hts _ q187) x9 h9) rfl (by decide +kernel) (rfl) (rfl) (Nat.le_of_ble_eq_true rfl) dJ2_add_7 (fun H locs hP hD hS => ?_)
  have hP : va_P D vwCl [(o_, .inr (8, [.int (f0 + 1), .ref e_, .int (nI 10)])), (e_, .inl (dA 3, rfs 10 g_)), (v_, .inr (7, [.int a0, .int a1, .int a2]))] H := hP
  have hD : va_D (va_A [(o_, .inr (8, [.int f0, .ref e_, .int (nI 10)])), (e_, .inl (dA 3, rfs 10 g_)), (v_, .inr (7, [.int a0, .int a1, .int a2]))] s.heap.size) [(o_, .inr (8, [.int (f0 + 1), .ref e_, .int (nI 10)])), (e_, .inl (dA 3, rfs 10 g_)), (v_, .inr (7, [.int a0, .int a1, .int a2]))] := hD
  refine lv_aload_n hx hb dJ2_add_10 rfl (lv_at hl 0 rfl) ?_
  refine lv_aload_n hx hb dJ2_add_11 rfl (lv_at hl 1 rfl) ?_
  refine lv_aload_n hx hb dJ2_add_12 rfl (lv_at hl 0 rfl) ?_
  refine va_get (D := D) (ci := 8) (v := .ref e_) (C := RJ2) (T := TJ2) (N := 3) hx hb hts in_J2 hown hK hP 0 rfl rfl 1 (by decide) (hts _ q183) (fun _ h9 => h9) rfl dJ2_add_13 ?_
  refine lv_aload_n hx hb dJ2_add_16 rfl (lv_at hl 0 rfl) ?_
  refine va_get (D := D) (ci := 8) (v := .int (nI 10)) (C := RJ2) (T := TJ2) (N := 3) hx hb hts in_J2 hown hK hP 0 rfl rfl 2 (by decide) (hts _ q184) (fun _ h9 => h9) rfl dJ2_add_17 ?_
  refine aVx (wc := [(o_, .inr (8, [.int (f0 + 1), .ref e_, .int (nI 10)])), (e_, .inl (dA 3, rfs 10 g_)), (v_, .inr (7, [.int a0, .int a1, .int a2]))]) (wr := []) (As := [.ref v_, .ref e_, .int (nI 10)]) (rest := []) ⟨hx, hb, hml, hown, hts⟩ (mt_J2_add_2_VA l D dA κ H.size o_ e_ (f0 + 1) g_ v_ a0 a1 a2) (cw_J2_J2_add_2_VA hts ⟨Nat.le_of_ble_eq_true rfl, Nat.le_of_ble_eq_true rfl⟩) (fun U h1 h2 => ⟨a_now hK hZ hP hD hS hk0 hAn [0, 1, 2] rfl rfl rfl U h1 h2, any_now hY hS (va_free (wc := [(o_, .inr (8, [.int (f0 + 1), .ref e_, .int (nI 10)])), (e_, .inl (dA 3, rfs 10 g_)), (v_, .inr (7, [.int a0, .int a1, .int a2]))]) hD hS hA [0, 1, 2] rfl) U h1 h2⟩) (va_recv hK hP (ci := 8) (q0 := 0) rfl rfl) rfl hl.1 rfl (Nat.le_of_ble_eq_true rfl) dJ2_add_20 ⟨Nat.le_of_ble_eq_true rfl, Nat.le_of_ble_eq_true rfl⟩ hP hD hS hA [0, 1, 2] [] rfl rfl rfl (by decide) (fun q__1 H locs hP hD hS => ?_)
  have hP : va_P D vwCl [(o_, .inr (8, [.int (f0 + 1), .ref q__1, .int (nI 11)])), (q__1, .inl (dA 3, rfs 15 (va_up (va_cpy g_ (fun _ => none) 0 0 10) 10 (some v_)))), (v_, .inr (7, [.int a0, .int a1, .int a2]))] H := hP
  have hD : va_D (va_A [(o_, .inr (8, [.int f0, .ref e_, .int (nI 10)])), (e_, .inl (dA 3, rfs 10 g_)), (v_, .inr (7, [.int a0, .int a1, .int a2]))] s.heap.size) [(o_, .inr (8, [.int (f0 + 1), .ref q__1, .int (nI 11)])), (q__1, .inl (dA 3, rfs 15 (va_up (va_cpy g_ (fun _ => none) 0 0 10) 10 (some v_)))), (v_, .inr (7, [.int a0, .int a1, .int a2]))] := hD
  change W p l e rmJ2_add_VA s m args below meth c H locs 1 15 Q (F0 m 23 ls [])
  refine lv_iconst (v := 1) hx hb dJ2_add_23 rfl ?_
  exact ar_z q__1 hQ hx hb hr hlocks (Or.inr rfl) hP hD hS (Nat.le_of_ble_eq_true rfl) (Nat.le_of_ble_eq_true rfl) (rfl) [0, 1, 2] (rfl) (rfl) rfl dJ2_add_24

theorem cw_J2_J9_copyOf_2_B {R : Room} {s : State} {args : Array Value} (hts : ∀ w ∈ lw_all, w.before args s = true) (hR : rmJ9_copyOf_2_B.frames + 1 ≤ R.frames ∧ 8 + (2 + 11) + rmJ9_copyOf_2_B.locals ≤ R.locals) : CallB R s args RJ2 66 yJ9_copyOf_2 cJ9_copyOf_2 2 (some (.array (.object "java/lang/Object"))) (ws_ yJ9_copyOf_2 cJ9_copyOf_2 2 (some (.array (.object "java/lang/Object")))) rmJ9_copyOf_2_B 1 22 2 ∧ (Cond.static yJ9_copyOf_2).before args s = true := va_cwS 2 hts (lw_S q775 q776 q91 q777) rfl rfl rfl (by decide +kernel) hR
def rmJ2_grow_2_B : Room := { frames := 3, cells := 1, slots := 22, locals := 104 }
set_option maxHeartbeats 1000000 in
theorem mt_J2_grow_2_B (l : Launch) (D : va_G) (dA : Nat → ClassId) (κ : KZ) (sz : Nat) (o_ : Nat) (e_ : Nat) (f0 : Int32) (g_ : Nat → Option Nat) : Met l yJ2_grow_2 (ws_ yJ2_grow_2 cJ2_grow_2 4 (some (.array (.object "java/lang/Object")))) rmJ2_grow_2_B (va_Pc [.ref o_, .int (nI 16)] (fun U => aB D dA κ [(o_, .inr (8, [.int f0, .ref e_, .int (nI 15)])), (e_, .inl (dA 3, rfs 15 g_))] sz U ∧ anyE g_ 15 [(o_, .inr (8, [.int f0, .ref e_, .int (nI 15)])), (e_, .inl (dA 3, rfs 15 g_))] sz U)) (aQ (fun (q_ : Nat) => ((some (.ref q_)), [(o_, .inr (8, [.int f0, .ref q_, .int (nI 15)])), (q_, .inl (dA 3, rfs 22 (va_cpy g_ (fun _ => none) 0 0 15)))])) D [(o_, .inr (8, [.int f0, .ref e_, .int (nI 15)])), (e_, .inl (dA 3, rfs 15 g_))] sz) 1 22 (va_A [(o_, .inr (8, [.int f0, .ref e_, .int (nI 15)])), (e_, .inl (dA 3, rfs 15 g_))] sz) := by
  refine w_start (by decide) (Nat.le_of_ble_eq_true rfl) ?_
  intro p e s m args below meth c Q ls hQ hx hb hr hlocks hml hown hnm hts hB hl
  have hown : s.vm.findClass RJ2 = some m.cls := hown
  have hl : lv_has ls 4 [(0, .ref o_), (1, .int (nI 16))] := hl
  obtain ⟨⟨hP, hD, hK, hZ, hk0, hge, rfl⟩, hY⟩ := hB
  have hA : ∀ q : Nat, s.heap.size ≤ q → va_A [(o_, .inr (8, [.int f0, .ref e_, .int (nI 15)])), (e_, .inl (dA 3, rfs 15 g_))] s.heap.size q := fun q h => Or.inr h
  have hAn : ∀ q : Nat, va_A [(o_, .inr (8, [.int f0, .ref e_, .int (nI 15)])), (e_, .inl (dA 3, rfs 15 g_))] s.heap.size q → κ.1 ≤ q := fun q h => by
    rcases h with ⟨k, e, h⟩ | h
    · exact hge k _ h
    · exact Nat.le_trans hk0 h
  have hS : va_S (va_A [(o_, .inr (8, [.int f0, .ref e_, .int (nI 15)])), (e_, .inl (dA 3, rfs 15 g_))] s.heap.size) s.heap s.heap [] := va_S.rf
  have hP : va_P D vwCl [(o_, .inr (8, [.int f0, .ref e_, .int (nI 15)])), (e_, .inl (dA 3, rfs 15 g_))] s.heap := hP
  have hD : va_D (va_A [(o_, .inr (8, [.int f0, .ref e_, .int (nI 15)])), (e_, .inl (dA 3, rfs 15 g_))] s.heap.size) [(o_, .inr (8, [.int f0, .ref e_, .int (nI 15)])), (e_, .inl (dA 3, rfs 15 g_))] := hD
  refine lv_aload_n hx hb dJ2_grow_2_0 rfl (lv_at hl 0 rfl) ?_
  refine va_get (D := D) (ci := 8) (v := .ref e_) (C := RJ2) (T := TJ2) (N := 3) hx hb hts in_J2 hown hK hP 0 rfl rfl 1 (by decide) (hts _ q183) (fun _ h9 => h9) rfl dJ2_grow_2_1 ?_
  refine va_alen (v := nI 15) hx hb hK hP 1 3 rfl rfl rfl dJ2_grow_2_4 ?_
  refine lv_istore_n (lv' := [(2, .int (nI 15)), (0, .ref o_), (1, .int (nI 16))]) hx hb dJ2_grow_2_5 rfl hl (by decide) rfl (fun ls hl => ?_)
  refine lv_iload_n hx hb dJ2_grow_2_6 rfl (lv_at hl 0 rfl) ?_
  refine lv_if_gt (tgt := 20) hx hb dJ2_grow_2_7 rfl (fun h7 => ?_) (fun h7 => ?_)
  · have h7 : 0 < 15 := (nz_lt (a := 0) (b := 15) rfl rfl (by omega) (by omega)).mp h7
    refine lv_iload_n hx hb dJ2_grow_2_20 rfl (lv_at hl 0 rfl) ?_
    refine lv_iload_n hx hb dJ2_grow_2_21 rfl (lv_at hl 2 rfl) ?_
    refine lv_iload_n hx hb dJ2_grow_2_22 rfl (lv_at hl 0 rfl) ?_
    refine lv_isub hx hb dJ2_grow_2_23 ?_
    refine w_topi (nz_sub (a := 16) (b := 15) rfl rfl (by omega)) ?_
    refine lv_iload_n hx hb dJ2_grow_2_24 rfl (lv_at hl 0 rfl) ?_
    refine lv_iconst (v := 1) hx hb dJ2_grow_2_25 rfl ?_
    refine lv_ishr hx hb dJ2_grow_2_26 ?_
    refine w_topi (y := nI 7) (by decide) ?_
    refine cSi (As := [.int (nI 15), .int (nI (16 - 15)), .int (nI 7)]) (rest := []) ⟨hx, hb, hml, hown, hts⟩ (mt_J7_newLength l 15 7 (by omega) (by omega) (by omega)) (cw_J2_J7_newLength hts ⟨Nat.le_of_ble_eq_true rfl, Nat.le_of_ble_eq_true rfl⟩) w_blT (fun _ _ _ => trivial) rfl hl.1 rfl (Nat.le_of_ble_eq_true rfl) dJ2_grow_2_27 ⟨Nat.le_of_ble_eq_true rfl, Nat.le_of_ble_eq_true rfl⟩ ?_
    refine lv_istore_n (lv' := [(3, .int (nI (15 + 7))), (2, .int (nI 15)), (0, .ref o_), (1, .int (nI 16))]) hx hb dJ2_grow_2_30 rfl hl (by decide) rfl (fun ls hl => ?_)
    refine lv_aload_n hx hb dJ2_grow_2_31 rfl (lv_at hl 2 rfl) ?_
    refine lv_aload_n hx hb dJ2_grow_2_32 rfl (lv_at hl 2 rfl) ?_
    refine va_get (D := D) (ci := 8) (v := .ref e_) (C := RJ2) (T := TJ2) (N := 3) hx hb hts in_J2 hown hK hP 0 rfl rfl 1 (by decide) (hts _ q183) (fun _ h9 => h9) rfl dJ2_grow_2_33 ?_
    refine lv_iload_n hx hb dJ2_grow_2_36 rfl (lv_at hl 0 rfl) ?_
    refine aSx (wc := [(e_, .inl (dA 3, rfs 15 g_))]) (wr := [(o_, .inr (8, [.int f0, .ref e_, .int (nI 15)]))]) (As := [.ref e_, .int (nI (15 + 7))]) (rest := [.ref o_]) ⟨hx, hb, hml, hown, hts⟩ (mt_J9_copyOf_2_B l D dA κ s.heap.size e_ g_) (cw_J2_J9_copyOf_2_B hts ⟨Nat.le_of_ble_eq_true rfl, Nat.le_of_ble_eq_true rfl⟩) (fun U h1 h2 => ⟨a_now hK hZ hP hD hS hk0 hAn [1] rfl rfl rfl U h1 h2, any_now hY hS (va_free (wc := [(e_, .inl (dA 3, rfs 15 g_))]) hD hS hA [1] rfl) U h1 h2⟩) rfl hl.1 rfl (Nat.le_of_ble_eq_true rfl) dJ2_grow_2_37 ⟨Nat.le_of_ble_eq_true rfl, Nat.le_of_ble_eq_true rfl⟩ hP hD hS hA [1] [0] rfl rfl rfl (by decide) (fun q__1 H locs hP hD hS => ?_)
    have hP : va_P D vwCl [(o_, .inr (8, [.int f0, .ref e_, .int (nI 15)])), (e_, .inl (dA 3, rfs 15 g_)), (q__1, .inl (dA 3, rfs 22 (va_cpy g_ (fun _ => none) 0 0 15)))] H := hP
    have hD : va_D (va_A [(o_, .inr (8, [.int f0, .ref e_, .int (nI 15)])), (e_, .inl (dA 3, rfs 15 g_))] s.heap.size) [(o_, .inr (8, [.int f0, .ref e_, .int (nI 15)])), (e_, .inl (dA 3, rfs 15 g_)), (q__1, .inl (dA 3, rfs 22 (va_cpy g_ (fun _ => none) 0 0 15)))] := hD
    change W p l e rmJ2_grow_2_B s m args below meth c H locs 1 22 Q (F0 m 40 ls [.ref q__1, .ref o_])
    refine lv_dup_x1 hx hb dJ2_grow_2_40 rfl rfl ?_
    refine va_put (D := D) (ci := 8) (v := .ref q__1) (ty := (.array (.object "java/lang/Object"))) (C := RJ2) (T := TJ2) (N := 3) hx hb hts in_J2 tyJ2 tyJ2_ok nmJ2 hown hK hP hD hS 0 rfl rfl 1 (by decide) (hts _ q183) (fun _ h9 => h9) rfl (by decide +kernel) (rfl) (rfl) (Nat.le_of_ble_eq_true rfl) dJ2_grow_2_41 (fun H locs hP hD hS => ?_)
    have hP : va_P D vwCl [(o_, .inr (8, [.int f0, .ref q__1, .int (nI 15)])), (e_, .inl (dA 3, rfs 15 g_)), (q__1, .inl (dA 3, rfs 22 (va_cpy g_ (fun _ => none) 0 0 15)))] H := hP
    have hD : va_D (va_A [(o_, .inr (8, [.int f0, .ref e_, .int (nI 15)])), (e_, .inl (dA 3, rfs 15 g_))] s.heap.size) [(o_, .inr (8, [.int f0, .ref q__1, .int (nI 15)])), (e_, .inl (dA 3, rfs 15 g_)), (q__1, .inl (dA 3, rfs 22 (va_cpy g_ (fun _ => none) 0 0 15)))] := hD
    exact ar_a q__1 hQ hx hb hr (Or.inr ⟨_, rfl⟩) hlocks hP hD hS (Nat.le_of_ble_eq_true rfl) (Nat.le_of_ble_eq_true rfl) (rfl) [0, 2] (rfl) (rfl) rfl dJ2_grow_2_44
  · have h7 : ¬ (0 < 15) := fun z9 => h7 ((nz_lt (a := 0) (b := 15) rfl rfl (by omega) (by omega)).mpr z9)
    exact absurd (by omega) h7

theorem cw_J2_J2_grow_2_B {R : Room} {s : State} {args : Array Value} (hts : ∀ w ∈ lw_all, w.before args s = true) (hR : rmJ2_grow_2_B.frames + 1 ≤ R.frames ∧ 8 + (4 + 11) + rmJ2_grow_2_B.locals ≤ R.locals) : CallW R s args RJ2 RJ2 69 yJ2_grow_2 cJ2_grow_2 4 (some (.array (.object "java/lang/Object"))) (ws_ yJ2_grow_2 cJ2_grow_2 4 (some (.array (.object "java/lang/Object")))) rmJ2_grow_2_B 1 22 1 := cwV 1 hts (lw_V q770 q772 qs15 q81 q773) rfl rfl rfl (by decide +kernel) hR
def rmJ2_grow_B : Room := { frames := 4, cells := 1, slots := 22, locals := 127 }
set_option maxHeartbeats 1000000 in
theorem mt_J2_grow_B (l : Launch) (D : va_G) (dA : Nat → ClassId) (κ : KZ) (sz : Nat) (o_ : Nat) (e_ : Nat) (f0 : Int32) (g_ : Nat → Option Nat) : Met l yJ2_grow (ws_ yJ2_grow cJ2_grow 1 (some (.array (.object "java/lang/Object")))) rmJ2_grow_B (va_Pc [.ref o_] (fun U => aB D dA κ [(o_, .inr (8, [.int f0, .ref e_, .int (nI 15)])), (e_, .inl (dA 3, rfs 15 g_))] sz U ∧ anyE g_ 15 [(o_, .inr (8, [.int f0, .ref e_, .int (nI 15)])), (e_, .inl (dA 3, rfs 15 g_))] sz U)) (aQ (fun (q_ : Nat) => ((some (.ref q_)), [(o_, .inr (8, [.int f0, .ref q_, .int (nI 15)])), (q_, .inl (dA 3, rfs 22 (va_cpy g_ (fun _ => none) 0 0 15)))])) D [(o_, .inr (8, [.int f0, .ref e_, .int (nI 15)])), (e_, .inl (dA 3, rfs 15 g_))] sz) 1 22 (va_A [(o_, .inr (8, [.int f0, .ref e_, .int (nI 15)])), (e_, .inl (dA 3, rfs 15 g_))] sz) := by
  refine w_start (by decide) (Nat.le_of_ble_eq_true rfl) ?_
  intro p e s m args below meth c Q ls hQ hx hb hr hlocks hml hown hnm hts hB hl
  have hown : s.vm.findClass RJ2 = some m.cls := hown
  have hl : lv_has ls 1 [(0, .ref o_)] := hl
  obtain ⟨⟨hP, hD, hK, hZ, hk0, hge, rfl⟩, hY⟩ := hB
  have hA : ∀ q : Nat, s.heap.size ≤ q → va_A [(o_, .inr (8, [.int f0, .ref e_, .int (nI 15)])), (e_, .inl (dA 3, rfs 15 g_))] s.heap.size q := fun q h => Or.inr h
  have hAn : ∀ q : Nat, va_A [(o_, .inr (8, [.int f0, .ref e_, .int (nI 15)])), (e_, .inl (dA 3, rfs 15 g_))] s.heap.size q → κ.1 ≤ q := fun q h => by
    rcases h with ⟨k, e, h⟩ | h
    · exact hge k _ h
    · exact Nat.le_trans hk0 h
  have hS : va_S (va_A [(o_, .inr (8, [.int f0, .ref e_, .int (nI 15)])), (e_, .inl (dA 3, rfs 15 g_))] s.heap.size) s.heap s.heap [] := va_S.rf
  have hP : va_P D vwCl [(o_, .inr (8, [.int f0, .ref e_, .int (nI 15)])), (e_, .inl (dA 3, rfs 15 g_))] s.heap := hP
  have hD : va_D (va_A [(o_, .inr (8, [.int f0, .ref e_, .int (nI 15)])), (e_, .inl (dA 3, rfs 15 g_))] s.heap.size) [(o_, .inr (8, [.int f0, .ref e_, .int (nI 15)])), (e_, .inl (dA 3, rfs 15 g_))] := hD
  refine lv_aload_n hx hb dJ2_grow_0 rfl (lv_at hl 0 rfl) ?_
  refine lv_aload_n hx hb dJ2_grow_1 rfl (lv_at hl 0 rfl) ?_
  refine va_get (D := D) (ci := 8) (v := .int (nI 15)) (C := RJ2) (T := TJ2) (N := 3) hx hb hts in_J2 hown hK hP 0 rfl rfl 2 (by decide) (hts _ q184) (fun _ h9 => h9) rfl dJ2_grow_2 ?_
  refine lv_iconst (v := 1) hx hb dJ2_grow_5 rfl ?_
  refine lv_iadd hx hb dJ2_grow_6 ?_
  refine w_topi (nz_add rfl rfl) ?_
  refine aVx (wc := [(o_, .inr (8, [.int f0, .ref e_, .int (nI 15)])), (e_, .inl (dA 3, rfs 15 g_))]) (wr := []) (As := [.int (nI (15 + 1))]) (rest := []) ⟨hx, hb, hml, hown, hts⟩ (mt_J2_grow_2_B l D dA κ s.heap.size o_ e_ f0 g_) (cw_J2_J2_grow_2_B hts ⟨Nat.le_of_ble_eq_true rfl, Nat.le_of_ble_eq_true rfl⟩) (fun U h1 h2 => ⟨a_now hK hZ hP hD hS hk0 hAn [0, 1] rfl rfl rfl U h1 h2, any_now hY hS (va_free (wc := [(o_, .inr (8, [.int f0, .ref e_, .int (nI 15)])), (e_, .inl (dA 3, rfs 15 g_))]) hD hS hA [0, 1] rfl) U h1 h2⟩) (va_recv hK hP (ci := 8) (q0 := 0) rfl rfl) rfl hl.1 rfl (Nat.le_of_ble_eq_true rfl) dJ2_grow_7 ⟨Nat.le_of_ble_eq_true rfl, Nat.le_of_ble_eq_true rfl⟩ hP hD hS hA [0, 1] [] rfl rfl rfl (by decide) (fun q__1 H locs hP hD hS => ?_)
  have hP : va_P D vwCl [(o_, .inr (8, [.int f0, .ref q__1, .int (nI 15)])), (q__1, .inl (dA 3, rfs 22 (va_cpy g_ (fun _ => none) 0 0 15)))] H := hP
  have hD : va_D (va_A [(o_, .inr (8, [.int f0, .ref e_, .int (nI 15)])), (e_, .inl (dA 3, rfs 15 g_))] s.heap.size) [(o_, .inr (8, [.int f0, .ref q__1, .int (nI 15)])), (q__1, .inl (dA 3, rfs 22 (va_cpy g_ (fun _ => none) 0 0 15)))] := hD
  change W p l e rmJ2_grow_B s m args below meth c H locs 1 22 Q (F0 m 10 ls [.ref q__1])
  exact ar_a q__1 hQ hx hb hr (Or.inr ⟨_, rfl⟩) hlocks hP hD hS (Nat.le_of_ble_eq_true rfl) (Nat.le_of_ble_eq_true rfl) (rfl) [0, 1] (rfl) (rfl) rfl dJ2_grow_10

theorem cw_J2_J2_grow_B {R : Room} {s : State} {args : Array Value} (hts : ∀ w ∈ lw_all, w.before args s = true) (hR : rmJ2_grow_B.frames + 1 ≤ R.frames ∧ 8 + (1 + 11) + rmJ2_grow_B.locals ≤ R.locals) : CallW R s args RJ2 RJ2 129 yJ2_grow cJ2_grow 1 (some (.array (.object "java/lang/Object"))) (ws_ yJ2_grow cJ2_grow 1 (some (.array (.object "java/lang/Object")))) rmJ2_grow_B 1 22 0 := cwV 0 hts (lw_V q766 q768 qs14 q81 q769) rfl rfl rfl (by decide +kernel) hR
def rmJ2_add_2_VB : Room := { frames := 5, cells := 1, slots := 22, locals := 147 }
set_option maxHeartbeats 1000000 in
theorem mt_J2_add_2_VB (l : Launch) (D : va_G) (dA : Nat → ClassId) (κ : KZ) (sz : Nat) (o_ : Nat) (e_ : Nat) (f0 : Int32) (g_ : Nat → Option Nat) (v_ : Nat) (a0 : Int32) (a1 : Int32) (a2 : Int32) : Met l yJ2_add_2 (ws_ yJ2_add_2 cJ2_add_2 4 none) rmJ2_add_2_VB (va_Pc [.ref o_, .ref v_, .ref e_, .int (nI 15)] (fun U => aB D dA κ [(o_, .inr (8, [.int f0, .ref e_, .int (nI 15)])), (e_, .inl (dA 3, rfs 15 g_)), (v_, .inr (7, [.int a0, .int a1, .int a2]))] sz U ∧ anyE g_ 15 [(o_, .inr (8, [.int f0, .ref e_, .int (nI 15)])), (e_, .inl (dA 3, rfs 15 g_)), (v_, .inr (7, [.int a0, .int a1, .int a2]))] sz U)) (aQ (fun (q_ : Nat) => (none, [(o_, .inr (8, [.int f0, .ref q_, .int (nI 16)])), (q_, .inl (dA 3, rfs 22 (va_up (va_cpy g_ (fun _ => none) 0 0 15) 15 (some v_)))), (v_, .inr (7, [.int a0, .int a1, .int a2]))])) D [(o_, .inr (8, [.int f0, .ref e_, .int (nI 15)])), (e_, .inl (dA 3, rfs 15 g_)), (v_, .inr (7, [.int a0, .int a1, .int a2]))] sz) 1 22 (va_A [(o_, .inr (8, [.int f0, .ref e_, .int (nI 15)])), (e_, .inl (dA 3, rfs 15 g_)), (v_, .inr (7, [.int a0, .int a1, .int a2]))] sz) := by
  refine w_start (by decide) (Nat.le_of_ble_eq_true rfl) ?_
  intro p e s m args below meth c Q ls hQ hx hb hr hlocks hml hown hnm hts hB hl
  have hown : s.vm.findClass RJ2 = some m.cls := hown
  have hl : lv_has ls 4 [(0, .ref o_), (1, .ref v_), (2, .ref e_), (3, .int (nI 15))] := hl
  obtain ⟨⟨hP, hD, hK, hZ, hk0, hge, rfl⟩, hY⟩ := hB
  have hA : ∀ q : Nat, s.heap.size ≤ q → va_A [(o_, .inr (8, [.int f0, .ref e_, .int (nI 15)])), (e_, .inl (dA 3, rfs 15 g_)), (v_, .inr (7, [.int a0, .int a1, .int a2]))] s.heap.size q := fun q h => Or.inr h
  have hAn : ∀ q : Nat, va_A [(o_, .inr (8, [.int f0, .ref e_, .int (nI 15)])), (e_, .inl (dA 3, rfs 15 g_)), (v_, .inr (7, [.int a0, .int a1, .int a2]))] s.heap.size q → κ.1 ≤ q := fun q h => by
    rcases h with ⟨k, e, h⟩ | h
    · exact hge k _ h
    · exact Nat.le_trans hk0 h
  have hS : va_S (va_A [(o_, .inr (8, [.int f0, .ref e_, .int (nI 15)])), (e_, .inl (dA 3, rfs 15 g_)), (v_, .inr (7, [.int a0, .int a1, .int a2]))] s.heap.size) s.heap s.heap [] := va_S.rf
  have hP : va_P D vwCl [(o_, .inr (8, [.int f0, .ref e_, .int (nI 15)])), (e_, .inl (dA 3, rfs 15 g_)), (v_, .inr (7, [.int a0, .int a1, .int a2]))] s.heap := hP
  have hD : va_D (va_A [(o_, .inr (8, [.int f0, .ref e_, .int (nI 15)])), (e_, .inl (dA 3, rfs 15 g_)), (v_, .inr (7, [.int a0, .int a1, .int a2]))] s.heap.size) [(o_, .inr (8, [.int f0, .ref e_, .int (nI 15)])), (e_, .inl (dA 3, rfs 15 g_)), (v_, .inr (7, [.int a0, .int a1, .int a2]))] := hD
  refine lv_iload_n hx hb dJ2_add_2_0 rfl (lv_at hl 3 rfl) ?_
  refine lv_aload_n hx hb dJ2_add_2_1 rfl (lv_at hl 2 rfl) ?_
  refine va_alen (v := nI 15) hx hb hK hP 1 3 rfl rfl rfl dJ2_add_2_2 ?_
  refine lv_icmp_ne (tgt := 11) hx hb dJ2_add_2_3 rfl (fun h3 => ?_) (fun h3 => ?_)
  · have h3 : ¬ (15 = 15) := fun z9 => h3 ((nz_eq (a := 15) (b := 15) rfl rfl (by omega) (by omega)).mpr z9)
    exact absurd rfl h3
  · have h3 : 15 = 15 := (nz_eq (a := 15) (b := 15) rfl rfl (by omega) (by omega)).mp h3
    refine lv_aload_n hx hb dJ2_add_2_6 rfl (lv_at hl 0 rfl) ?_
    refine aVx (wc := [(o_, .inr (8, [.int f0, .ref e_, .int (nI 15)])), (e_, .inl (dA 3, rfs 15 g_))]) (wr := [(v_, .inr (7, [.int a0, .int a1, .int a2]))]) (As := []) (rest := []) ⟨hx, hb, hml, hown, hts⟩ (mt_J2_grow_B l D dA κ s.heap.size o_ e_ f0 g_) (cw_J2_J2_grow_B hts ⟨Nat.le_of_ble_eq_true rfl, Nat.le_of_ble_eq_true rfl⟩) (fun U h1 h2 => ⟨a_now hK hZ hP hD hS hk0 hAn [0, 1] rfl rfl rfl U h1 h2, any_now hY hS (va_free (wc := [(o_, .inr (8, [.int f0, .ref e_, .int (nI 15)])), (e_, .inl (dA 3, rfs 15 g_))]) hD hS hA [0, 1] rfl) U h1 h2⟩) (va_recv hK hP (ci := 8) (q0 := 0) rfl rfl) rfl hl.1 rfl (Nat.le_of_ble_eq_true rfl) dJ2_add_2_7 ⟨Nat.le_of_ble_eq_true rfl, Nat.le_of_ble_eq_true rfl⟩ hP hD hS hA [0, 1] [2] rfl rfl rfl (by decide) (fun q__1 H locs hP hD hS => ?_)
    have hP : va_P D vwCl [(v_, .inr (7, [.int a0, .int a1, .int a2])), (o_, .inr (8, [.int f0, .ref q__1, .int (nI 15)])), (q__1, .inl (dA 3, rfs 22 (va_cpy g_ (fun _ => none) 0 0 15)))] H := hP
    have hD : va_D (va_A [(o_, .inr (8, [.int f0, .ref e_, .int (nI 15)])), (e_, .inl (dA 3, rfs 15 g_)), (v_, .inr (7, [.int a0, .int a1, .int a2]))] s.heap.size) [(v_, .inr (7, [.int a0, .int a1, .int a2])), (o_, .inr (8, [.int f0, .ref q__1, .int (nI 15)])), (q__1, .inl (dA 3, rfs 22 (va_cpy g_ (fun _ => none) 0 0 15)))] := hD
    change W p l e rmJ2_add_2_VB s m args below meth c H locs 1 22 Q (F0 m 10 ls [.ref q__1])
    refine lv_astore_n (lv' := [(2, .ref q__1), (0, .ref o_), (1, .ref v_), (3, .int (nI 15))]) hx hb dJ2_add_2_10 rfl hl (by decide) rfl (fun ls hl => ?_)
    refine lv_aload_n hx hb dJ2_add_2_11 rfl (lv_at hl 0 rfl) ?_
    refine lv_iload_n hx hb dJ2_add_2_12 rfl (lv_at hl 3 rfl) ?_
    refine lv_aload_n hx hb dJ2_add_2_13 rfl (lv_at hl 2 rfl) ?_
    refine va_astqO (D := D) hx hb hK hP hD hS 2 3 0 7 rfl rfl (hZ.2.1 ("CarryUp$Visit", "java/lang/Object") (by decide)) rfl rfl (vp_in_nI (by omega) (by omega)) dJ2_add_2_14 (fun H locs hP hD hS => ?_)
    rw [nI_clamp (by omega)] at hP hD
    have hP : va_P D vwCl [(v_, .inr (7, [.int a0, .int a1, .int a2])), (o_, .inr (8, [.int f0, .ref q__1, .int (nI 15)])), (q__1, .inl (dA 3, rfs 22 (va_up (va_cpy g_ (fun _ => none) 0 0 15) 15 (some v_))))] H := hP
    have hD : va_D (va_A [(o_, .inr (8, [.int f0, .ref e_, .int (nI 15)])), (e_, .inl (dA 3, rfs 15 g_)), (v_, .inr (7, [.int a0, .int a1, .int a2]))] s.heap.size) [(v_, .inr (7, [.int a0, .int a1, .int a2])), (o_, .inr (8, [.int f0, .ref q__1, .int (nI 15)])), (q__1, .inl (dA 3, rfs 22 (va_up (va_cpy g_ (fun _ => none) 0 0 15) 15 (some v_))))] := hD
    refine lv_aload_n hx hb dJ2_add_2_15 rfl (lv_at hl 1 rfl) ?_
    refine lv_iload_n hx hb dJ2_add_2_16 rfl (lv_at hl 3 rfl) ?_
    refine lv_iconst (v := 1) hx hb dJ2_add_2_17 rfl ?_
    refine lv_iadd hx hb dJ2_add_2_18 ?_
    refine w_topi (nz_add rfl rfl) ?_
    refine va_put (D := D) (ci := 8) (v := .int (nI (15 + 1))) (ty := .int) (C := RJ2) (T := TJ2) (N := 3) hx hb hts in_J2 tyJ2 tyJ2_ok nmJ2 hown hK hP hD hS 1 rfl rfl 2 (by decide) (hts _ q184) (fun _ h9 => h9) rfl (by decide +kernel) (rfl) (rfl) (Nat.le_of_ble_eq_true rfl) dJ2_add_2_19 (fun H locs hP hD hS => ?_)
    have hP : va_P D vwCl [(v_, .inr (7, [.int a0, .int a1, .int a2])), (o_, .inr (8, [.int f0, .ref q__1, .int (nI (15 + 1))])), (q__1, .inl (dA 3, rfs 22 (va_up (va_cpy g_ (fun _ => none) 0 0 15) 15 (some v_))))] H := hP
    have hD : va_D (va_A [(o_, .inr (8, [.int f0, .ref e_, .int (nI 15)])), (e_, .inl (dA 3, rfs 15 g_)), (v_, .inr (7, [.int a0, .int a1, .int a2]))] s.heap.size) [(v_, .inr (7, [.int a0, .int a1, .int a2])), (o_, .inr (8, [.int f0, .ref q__1, .int (nI (15 + 1))])), (q__1, .inl (dA 3, rfs 22 (va_up (va_cpy g_ (fun _ => none) 0 0 15) 15 (some v_))))] := hD
    exact ar_v q__1 hQ hx hb hr hlocks hP hD hS (Nat.le_of_ble_eq_true rfl) (Nat.le_of_ble_eq_true rfl) (rfl) [1, 2, 0] (rfl) (rfl) rfl dJ2_add_2_22

theorem cw_J2_J2_add_2_VB {R : Room} {s : State} {args : Array Value} (hts : ∀ w ∈ lw_all, w.before args s = true) (hR : rmJ2_add_2_VB.frames + 1 ≤ R.frames ∧ 8 + (4 + 11) + rmJ2_add_2_VB.locals ≤ R.locals) : CallW R s args RJ2 RJ2 131 yJ2_add_2 cJ2_add_2 4 none (ws_ yJ2_add_2 cJ2_add_2 4 none) rmJ2_add_2_VB 1 22 3 := cwV 3 hts (lw_V q762 q764 qs13 q81 q765) rfl rfl rfl (by decide +kernel) hR
def rmJ2_add_VB : Room := { frames := 6, cells := 1, slots := 22, locals := 170 }
set_option maxHeartbeats 1000000 in
theorem mt_J2_add_VB (l : Launch) (D : va_G) (dA : Nat → ClassId) (κ : KZ) (sz : Nat) (o_ : Nat) (e_ : Nat) (f0 : Int32) (g_ : Nat → Option Nat) (v_ : Nat) (a0 : Int32) (a1 : Int32) (a2 : Int32) : Met l yJ2_add (ws_ yJ2_add cJ2_add 2 (some .boolean)) rmJ2_add_VB (va_Pc [.ref o_, .ref v_] (fun U => aB D dA κ [(o_, .inr (8, [.int f0, .ref e_, .int (nI 15)])), (e_, .inl (dA 3, rfs 15 g_)), (v_, .inr (7, [.int a0, .int a1, .int a2]))] sz U ∧ anyE g_ 15 [(o_, .inr (8, [.int f0, .ref e_, .int (nI 15)])), (e_, .inl (dA 3, rfs 15 g_)), (v_, .inr (7, [.int a0, .int a1, .int a2]))] sz U)) (aQ (fun (q_ : Nat) => ((some (.int 1)), [(o_, .inr (8, [.int (f0 + 1), .ref q_, .int (nI 16)])), (q_, .inl (dA 3, rfs 22 (va_up (va_cpy g_ (fun _ => none) 0 0 15) 15 (some v_)))), (v_, .inr (7, [.int a0, .int a1, .int a2]))])) D [(o_, .inr (8, [.int f0, .ref e_, .int (nI 15)])), (e_, .inl (dA 3, rfs 15 g_)), (v_, .inr (7, [.int a0, .int a1, .int a2]))] sz) 1 22 (va_A [(o_, .inr (8, [.int f0, .ref e_, .int (nI 15)])), (e_, .inl (dA 3, rfs 15 g_)), (v_, .inr (7, [.int a0, .int a1, .int a2]))] sz) := by
  refine w_start (by decide) (Nat.le_of_ble_eq_true rfl) ?_
  intro p e s m args below meth c Q ls hQ hx hb hr hlocks hml hown hnm hts hB hl
  have hown : s.vm.findClass RJ2 = some m.cls := hown
  have hl : lv_has ls 2 [(0, .ref o_), (1, .ref v_)] := hl
  obtain ⟨⟨hP, hD, hK, hZ, hk0, hge, rfl⟩, hY⟩ := hB
  have hA : ∀ q : Nat, s.heap.size ≤ q → va_A [(o_, .inr (8, [.int f0, .ref e_, .int (nI 15)])), (e_, .inl (dA 3, rfs 15 g_)), (v_, .inr (7, [.int a0, .int a1, .int a2]))] s.heap.size q := fun q h => Or.inr h
  have hAn : ∀ q : Nat, va_A [(o_, .inr (8, [.int f0, .ref e_, .int (nI 15)])), (e_, .inl (dA 3, rfs 15 g_)), (v_, .inr (7, [.int a0, .int a1, .int a2]))] s.heap.size q → κ.1 ≤ q := fun q h => by
    rcases h with ⟨k, e, h⟩ | h
    · exact hge k _ h
    · exact Nat.le_trans hk0 h
  have hS : va_S (va_A [(o_, .inr (8, [.int f0, .ref e_, .int (nI 15)])), (e_, .inl (dA 3, rfs 15 g_)), (v_, .inr (7, [.int a0, .int a1, .int a2]))] s.heap.size) s.heap s.heap [] := va_S.rf
  have hP : va_P D vwCl [(o_, .inr (8, [.int f0, .ref e_, .int (nI 15)])), (e_, .inl (dA 3, rfs 15 g_)), (v_, .inr (7, [.int a0, .int a1, .int a2]))] s.heap := hP
  have hD : va_D (va_A [(o_, .inr (8, [.int f0, .ref e_, .int (nI 15)])), (e_, .inl (dA 3, rfs 15 g_)), (v_, .inr (7, [.int a0, .int a1, .int a2]))] s.heap.size) [(o_, .inr (8, [.int f0, .ref e_, .int (nI 15)])), (e_, .inl (dA 3, rfs 15 g_)), (v_, .inr (7, [.int a0, .int a1, .int a2]))] := hD
  refine lv_aload_n hx hb dJ2_add_0 rfl (lv_at hl 0 rfl) ?_
  refine lv_dup hx hb dJ2_add_1 rfl ?_
  refine va_get (D := D) (ci := 8) (v := .int f0) (C := RJ2) (T := TJ2) (N := 3) hx hb hts in_J2 hown hK hP 0 rfl rfl 0 (by decide) (hts _ q186) (fun x9 h9 => u_same (hts _ q187) x9 h9) rfl dJ2_add_2 ?_
  refine lv_iconst (v := 1) hx hb dJ2_add_5 rfl ?_
  refine lv_iadd hx hb dJ2_add_6 ?_
  refine va_put (D := D) (ci := 8) (v := .int (f0 + 1)) (ty := .int) (C := RJ2) (T := TJ2) (N := 3) hx hb hts in_J2 tyJ2 tyJ2_ok nmJ2 hown hK hP hD hS 0 rfl rfl 0 (by decide) (hts _ q186) (fun x9 h9 => u_same (hts _ q187) x9 h9) rfl (by decide +kernel) (rfl) (rfl) (Nat.le_of_ble_eq_true rfl) dJ2_add_7 (fun H locs hP hD hS => ?_)
  have hP : va_P D vwCl [(o_, .inr (8, [.int (f0 + 1), .ref e_, .int (nI 15)])), (e_, .inl (dA 3, rfs 15 g_)), (v_, .inr (7, [.int a0, .int a1, .int a2]))] H := hP
  have hD : va_D (va_A [(o_, .inr (8, [.int f0, .ref e_, .int (nI 15)])), (e_, .inl (dA 3, rfs 15 g_)), (v_, .inr (7, [.int a0, .int a1, .int a2]))] s.heap.size) [(o_, .inr (8, [.int (f0 + 1), .ref e_, .int (nI 15)])), (e_, .inl (dA 3, rfs 15 g_)), (v_, .inr (7, [.int a0, .int a1, .int a2]))] := hD
  refine lv_aload_n hx hb dJ2_add_10 rfl (lv_at hl 0 rfl) ?_
  refine lv_aload_n hx hb dJ2_add_11 rfl (lv_at hl 1 rfl) ?_
  refine lv_aload_n hx hb dJ2_add_12 rfl (lv_at hl 0 rfl) ?_
  refine va_get (D := D) (ci := 8) (v := .ref e_) (C := RJ2) (T := TJ2) (N := 3) hx hb hts in_J2 hown hK hP 0 rfl rfl 1 (by decide) (hts _ q183) (fun _ h9 => h9) rfl dJ2_add_13 ?_
  refine lv_aload_n hx hb dJ2_add_16 rfl (lv_at hl 0 rfl) ?_
  refine va_get (D := D) (ci := 8) (v := .int (nI 15)) (C := RJ2) (T := TJ2) (N := 3) hx hb hts in_J2 hown hK hP 0 rfl rfl 2 (by decide) (hts _ q184) (fun _ h9 => h9) rfl dJ2_add_17 ?_
  refine aVx (wc := [(o_, .inr (8, [.int (f0 + 1), .ref e_, .int (nI 15)])), (e_, .inl (dA 3, rfs 15 g_)), (v_, .inr (7, [.int a0, .int a1, .int a2]))]) (wr := []) (As := [.ref v_, .ref e_, .int (nI 15)]) (rest := []) ⟨hx, hb, hml, hown, hts⟩ (mt_J2_add_2_VB l D dA κ H.size o_ e_ (f0 + 1) g_ v_ a0 a1 a2) (cw_J2_J2_add_2_VB hts ⟨Nat.le_of_ble_eq_true rfl, Nat.le_of_ble_eq_true rfl⟩) (fun U h1 h2 => ⟨a_now hK hZ hP hD hS hk0 hAn [0, 1, 2] rfl rfl rfl U h1 h2, any_now hY hS (va_free (wc := [(o_, .inr (8, [.int (f0 + 1), .ref e_, .int (nI 15)])), (e_, .inl (dA 3, rfs 15 g_)), (v_, .inr (7, [.int a0, .int a1, .int a2]))]) hD hS hA [0, 1, 2] rfl) U h1 h2⟩) (va_recv hK hP (ci := 8) (q0 := 0) rfl rfl) rfl hl.1 rfl (Nat.le_of_ble_eq_true rfl) dJ2_add_20 ⟨Nat.le_of_ble_eq_true rfl, Nat.le_of_ble_eq_true rfl⟩ hP hD hS hA [0, 1, 2] [] rfl rfl rfl (by decide) (fun q__1 H locs hP hD hS => ?_)
  have hP : va_P D vwCl [(o_, .inr (8, [.int (f0 + 1), .ref q__1, .int (nI 16)])), (q__1, .inl (dA 3, rfs 22 (va_up (va_cpy g_ (fun _ => none) 0 0 15) 15 (some v_)))), (v_, .inr (7, [.int a0, .int a1, .int a2]))] H := hP
  have hD : va_D (va_A [(o_, .inr (8, [.int f0, .ref e_, .int (nI 15)])), (e_, .inl (dA 3, rfs 15 g_)), (v_, .inr (7, [.int a0, .int a1, .int a2]))] s.heap.size) [(o_, .inr (8, [.int (f0 + 1), .ref q__1, .int (nI 16)])), (q__1, .inl (dA 3, rfs 22 (va_up (va_cpy g_ (fun _ => none) 0 0 15) 15 (some v_)))), (v_, .inr (7, [.int a0, .int a1, .int a2]))] := hD
  change W p l e rmJ2_add_VB s m args below meth c H locs 1 22 Q (F0 m 23 ls [])
  refine lv_iconst (v := 1) hx hb dJ2_add_23 rfl ?_
  exact ar_z q__1 hQ hx hb hr hlocks (Or.inr rfl) hP hD hS (Nat.le_of_ble_eq_true rfl) (Nat.le_of_ble_eq_true rfl) (rfl) [0, 1, 2] (rfl) (rfl) rfl dJ2_add_24
