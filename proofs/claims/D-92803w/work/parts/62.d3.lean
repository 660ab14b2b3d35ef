/-! CELLS MADE 3: calls -/
set_option maxRecDepth 100000

def rmX7_init : Room := { frames := 4, cells := 1, slots := 3, locals := 84 }
set_option maxHeartbeats 1000000 in
theorem mt_X7_init (l : Launch) (D : va_G) (dA : Nat → ClassId) (κ : KZ) (sz : Nat) (o_ : Nat) (t_ : Nat) : Met l yX7_init (ws_ yX7_init cX7_init 2 none) rmX7_init (va_Pc [.ref o_, .ref t_] (aB D dA κ [(o_, .inr (5, [.null, .null, .int 0]))] sz)) (aQ (fun (l_ : Nat) => (none, [(o_, .inr (5, [.ref t_, .ref l_, .int 0])), (l_, .inr (8, [.int 0, .ref (κ.2.1 0), .int 0]))])) D [(o_, .inr (5, [.null, .null, .int 0]))] sz) 1 3 (va_A [(o_, .inr (5, [.null, .null, .int 0]))] sz) := by
  refine w_start (by decide) (Nat.le_of_ble_eq_true rfl) ?_
  intro p e s m args below meth c Q ls hQ hx hb hr hlocks hml hown hnm hts hB hl
  have hown : s.vm.findClass RX7 = some m.cls := hown
  have hl : lv_has ls 2 [(0, .ref o_), (1, .ref t_)] := hl
  obtain ⟨hP, hD, hK, hZ, hk0, hge, rfl⟩ := hB
  have hA : ∀ q : Nat, s.heap.size ≤ q → va_A [(o_, .inr (5, [.null, .null, .int 0]))] s.heap.size q := fun q h => Or.inr h
  have hAn : ∀ q : Nat, va_A [(o_, .inr (5, [.null, .null, .int 0]))] s.heap.size q → κ.1 ≤ q := fun q h => by
    rcases h with ⟨k, e, h⟩ | h
    · exact hge k _ h
    · exact Nat.le_trans hk0 h
  have hS : va_S (va_A [(o_, .inr (5, [.null, .null, .int 0]))] s.heap.size) s.heap s.heap [] := va_S.rf
  have hP : va_P D vwCl [(o_, .inr (5, [.null, .null, .int 0]))] s.heap := hP
  have hD : va_D (va_A [(o_, .inr (5, [.null, .null, .int 0]))] s.heap.size) [(o_, .inr (5, [.null, .null, .int 0]))] := hD
  refine lv_aload_n hx hb dX7_init_0 rfl (lv_at hl 0 rfl) ?_
  refine W.objInit hx hb hown (hts _ q693) (hts _ q115) (hts _ q116) rfl (by rw [hml]; exact hl.1) rfl dX7_init_1 (Nat.le_of_ble_eq_true rfl) (Nat.le_of_ble_eq_true rfl) ?_
  refine W.eq (g2 := F0 m 4 ls []) rfl ?_
  refine lv_aload_n hx hb dX7_init_4 rfl (lv_at hl 0 rfl) ?_
  refine va_new (D := D) (ci := 8) (fs := [.int 0, .null, .int 0]) (C := RJ2) (T := TJ2) (N := 3) hx hb hts in_J2 tyJ2 tyJ2_ok hown (hts _ q694) (hts _ q170) (hts _ q81) hK hP hD hS hA rfl (fun j hj => by rcases (show j = 0 ∨ j = 1 ∨ j = 2 by omega) with rfl | rfl | rfl <;> rfl) (Nat.le_of_ble_eq_true rfl) (Nat.le_of_ble_eq_true rfl) dX7_init_5 (fun q_1 H hP hD hS => ?_)
  have hP : va_P D vwCl [(o_, .inr (5, [.null, .null, .int 0])), (q_1, .inr (8, [.int 0, .null, .int 0]))] H := hP
  have hD : va_D (va_A [(o_, .inr (5, [.null, .null, .int 0]))] s.heap.size) [(o_, .inr (5, [.null, .null, .int 0])), (q_1, .inr (8, [.int 0, .null, .int 0]))] := hD
  refine lv_dup hx hb dX7_init_8 rfl ?_
  refine aI (wc := [(q_1, .inr (8, [.int 0, .null, .int 0]))]) (wr := [(o_, .inr (5, [.null, .null, .int 0]))]) (As := []) (rest := [.ref q_1, .ref o_]) ⟨hx, hb, hml, hown, hts⟩ (mt_J2_init l D dA κ H.size q_1 0 0) (cwI 0 hts (lw_meth q173) rfl rfl rfl (hts _ q81) (hts _ q695) (hts _ q172) rfl (by decide +kernel) ⟨Nat.le_of_ble_eq_true rfl, Nat.le_of_ble_eq_true rfl⟩) (a_now hK hZ hP hD hS hk0 hAn [1] rfl rfl rfl) rfl hl.1 rfl (Nat.le_of_ble_eq_true rfl) dX7_init_9 ⟨Nat.le_of_ble_eq_true rfl, Nat.le_of_ble_eq_true rfl⟩ hP hD hS hA [1] [0] rfl rfl rfl (by decide) (fun u H locs hP hD hS => ?_)
  have hP : va_P D vwCl [(o_, .inr (5, [.null, .null, .int 0])), (q_1, .inr (8, [.int 0, .ref (κ.2.1 0), .int 0]))] H := hP
  have hD : va_D (va_A [(o_, .inr (5, [.null, .null, .int 0]))] s.heap.size) [(o_, .inr (5, [.null, .null, .int 0])), (q_1, .inr (8, [.int 0, .ref (κ.2.1 0), .int 0]))] := hD
  change W p l e rmX7_init s m args below meth c H locs 1 3 Q (F0 m 12 ls [.ref q_1, .ref o_])
  refine va_putF (D := D) (ci := 5) (v := .ref q_1) (ty := (.object "java/util/ArrayList")) (C := RX7) (T := TX7) (N := 3) hx hb hts in_X7 tyX7 tyX7_ok nmX7 hown hK hP hD hS 0 rfl rfl 1 (by decide) (hts _ q699) (fun _ h9 => h9) rfl hnm rfl (by decide +kernel) (rfl) (rfl) (Nat.le_of_ble_eq_true rfl) dX7_init_12 (fun H locs hP hD hS => ?_)
  have hP : va_P D vwCl [(o_, .inr (5, [.null, .ref q_1, .int 0])), (q_1, .inr (8, [.int 0, .ref (κ.2.1 0), .int 0]))] H := hP
  have hD : va_D (va_A [(o_, .inr (5, [.null, .null, .int 0]))] s.heap.size) [(o_, .inr (5, [.null, .ref q_1, .int 0])), (q_1, .inr (8, [.int 0, .ref (κ.2.1 0), .int 0]))] := hD
  refine lv_aload_n hx hb dX7_init_15 rfl (lv_at hl 0 rfl) ?_
  refine lv_aload_n hx hb dX7_init_16 rfl (lv_at hl 1 rfl) ?_
  refine va_putF (D := D) (ci := 5) (v := .ref t_) (ty := (.array .int)) (C := RX7) (T := TX7) (N := 3) hx hb hts in_X7 tyX7 tyX7_ok nmX7 hown hK hP hD hS 0 rfl rfl 0 (by decide) (hts _ q696) (fun _ h9 => h9) rfl hnm rfl (by decide +kernel) (rfl) (rfl) (Nat.le_of_ble_eq_true rfl) dX7_init_17 (fun H locs hP hD hS => ?_)
  have hP : va_P D vwCl [(o_, .inr (5, [.ref t_, .ref q_1, .int 0])), (q_1, .inr (8, [.int 0, .ref (κ.2.1 0), .int 0]))] H := hP
  have hD : va_D (va_A [(o_, .inr (5, [.null, .null, .int 0]))] s.heap.size) [(o_, .inr (5, [.ref t_, .ref q_1, .int 0])), (q_1, .inr (8, [.int 0, .ref (κ.2.1 0), .int 0]))] := hD
  exact ar_v q_1 hQ hx hb hr hlocks hP hD hS (Nat.le_of_ble_eq_true rfl) (Nat.le_of_ble_eq_true rfl) (rfl) [0, 1] (rfl) (rfl) rfl dX7_init_20

theorem cw_X7_J2_size {R : Room} {s : State} {args : Array Value} (hts : ∀ w ∈ lw_all, w.before args s = true) (hR : rmJ2_size.frames + 1 ≤ R.frames ∧ 8 + (1 + 11) + rmJ2_size.locals ≤ R.locals) : CallW R s args RX7 RJ2 28 yJ2_size cJ2_size 1 (some .int) (ws_ yJ2_size cJ2_size 1 (some .int)) rmJ2_size 0 0 0 := cwV 0 hts (lw_V q754 q755 q756 q81 q757) rfl rfl rfl (by decide +kernel) hR
theorem cw_X7_J2_add_SE {R : Room} {s : State} {args : Array Value} (hts : ∀ w ∈ lw_all, w.before args s = true) (hR : rmJ2_add_SE.frames + 1 ≤ R.frames ∧ 8 + (2 + 11) + rmJ2_add_SE.locals ≤ R.locals) : CallW R s args RX7 RJ2 32 yJ2_add cJ2_add 2 (some .boolean) (ws_ yJ2_add cJ2_add 2 (some .boolean)) rmJ2_add_SE 1 10 1 := cwV 1 hts (lw_V q758 q759 q760 q81 q761) rfl rfl rfl (by decide +kernel) hR
def rmX7_add_E : Room := { frames := 5, cells := 1, slots := 10, locals := 116 }
set_option maxHeartbeats 1000000 in
theorem mt_X7_add_E (l : Launch) (D : va_G) (dA : Nat → ClassId) (κ : KZ) (sz : Nat) (o_ : Nat) (t_ : Nat) (l_ : Nat) (lk : Int32) (m_ : Int32) (v_ : Nat) (a0 : Int32) (a1 : Int32) (a2 : Int32) (a3 : Int32) : Met l yX7_add (ws_ yX7_add cX7_add 2 none) rmX7_add_E (va_Pc [.ref o_, .ref v_] (aB D dA κ [(o_, .inr (5, [.ref t_, .ref l_, .int lk])), (l_, .inr (8, [.int m_, .ref (κ.2.1 0), .int (nI 0)])), (v_, .inr (6, [.int a0, .int a1, .int a2, .int a3]))] sz)) (aQ (fun (e_ : Nat) => (none, [(o_, .inr (5, [.ref t_, .ref l_, .int (lk + a2)])), (l_, .inr (8, [.int (m_ + 1), .ref e_, .int (nI 1)])), (e_, .inl (dA 3, rfs 10 (va_up (fun _ => none) 0 (some v_)))), (v_, .inr (6, [.int a0, .int a1, .int a2, .int a3]))])) D [(o_, .inr (5, [.ref t_, .ref l_, .int lk])), (l_, .inr (8, [.int m_, .ref (κ.2.1 0), .int (nI 0)])), (v_, .inr (6, [.int a0, .int a1, .int a2, .int a3]))] sz) 1 10 (va_A [(o_, .inr (5, [.ref t_, .ref l_, .int lk])), (l_, .inr (8, [.int m_, .ref (κ.2.1 0), .int (nI 0)])), (v_, .inr (6, [.int a0, .int a1, .int a2, .int a3]))] sz) := by
  refine w_start (by decide) (Nat.le_of_ble_eq_true rfl) ?_
  intro p e s m args below meth c Q ls hQ hx hb hr hlocks hml hown hnm hts hB hl
  have hown : s.vm.findClass RX7 = some m.cls := hown
  have hl : lv_has ls 2 [(0, .ref o_), (1, .ref v_)] := hl
  obtain ⟨hP, hD, hK, hZ, hk0, hge, rfl⟩ := hB
  have hA : ∀ q : Nat, s.heap.size ≤ q → va_A [(o_, .inr (5, [.ref t_, .ref l_, .int lk])), (l_, .inr (8, [.int m_, .ref (κ.2.1 0), .int (nI 0)])), (v_, .inr (6, [.int a0, .int a1, .int a2, .int a3]))] s.heap.size q := fun q h => Or.inr h
  have hAn : ∀ q : Nat, va_A [(o_, .inr (5, [.ref t_, .ref l_, .int lk])), (l_, .inr (8, [.int m_, .ref (κ.2.1 0), .int (nI 0)])), (v_, .inr (6, [.int a0, .int a1, .int a2, .int a3]))] s.heap.size q → κ.1 ≤ q := fun q h => by
    rcases h with ⟨k, e, h⟩ | h
    · exact hge k _ h
    · exact Nat.le_trans hk0 h
  have hS : va_S (va_A [(o_, .inr (5, [.ref t_, .ref l_, .int lk])), (l_, .inr (8, [.int m_, .ref (κ.2.1 0), .int (nI 0)])), (v_, .inr (6, [.int a0, .int a1, .int a2, .int a3]))] s.heap.size) s.heap s.heap [] := va_S.rf
  have hP : va_P D vwCl [(o_, .inr (5, [.ref t_, .ref l_, .int lk])), (l_, .inr (8, [.int m_, .ref (κ.2.1 0), .int (nI 0)])), (v_, .inr (6, [.int a0, .int a1, .int a2, .int a3]))] s.heap := hP
  have hD : va_D (va_A [(o_, .inr (5, [.ref t_, .ref l_, .int lk])), (l_, .inr (8, [.int m_, .ref (κ.2.1 0), .int (nI 0)])), (v_, .inr (6, [.int a0, .int a1, .int a2, .int a3]))] s.heap.size) [(o_, .inr (5, [.ref t_, .ref l_, .int lk])), (l_, .inr (8, [.int m_, .ref (κ.2.1 0), .int (nI 0)])), (v_, .inr (6, [.int a0, .int a1, .int a2, .int a3]))] := hD
  refine lv_aload_n hx hb dX7_add_0 rfl (lv_at hl 0 rfl) ?_
  refine va_get (D := D) (ci := 5) (v := .ref l_) (C := RX7) (T := TX7) (N := 3) hx hb hts in_X7 hown hK hP 0 rfl rfl 1 (by decide) (hts _ q699) (fun _ h9 => h9) rfl dX7_add_1 ?_
  refine dV (v := .int (nI 0)) (As := []) (rest := []) ⟨hx, hb, hml, hown, hts⟩ (mt_J2_size l D dA l_ (κ.2.1 0) m_ 0) (cw_X7_J2_size hts ⟨Nat.le_of_ble_eq_true rfl, Nat.le_of_ble_eq_true rfl⟩) pB_bw (pB_now hK (p1 hP 1 rfl)) (va_recv hK hP (ci := 8) (q0 := 1) rfl rfl) rfl hl.1 rfl (Nat.le_of_ble_eq_true rfl) dX7_add_4 ⟨Nat.le_of_ble_eq_true rfl, Nat.le_of_ble_eq_true rfl⟩ ?_
  refine lv_iconst (v := 4) hx hb dX7_add_7 rfl ?_
  refine lv_icmp_ge (tgt := 33) hx hb dX7_add_8 rfl (fun h8 => ?_) (fun h8 => ?_)
  · have h8 : 4 ≤ 0 := (nz_le (a := 4) (b := 0) rfl rfl (by omega) (by omega)).mp h8
    exact absurd h8 (by omega)
  · have h8 : ¬ (4 ≤ 0) := fun z9 => h8 ((nz_le (a := 4) (b := 0) rfl rfl (by omega) (by omega)).mpr z9)
    refine lv_aload_n hx hb dX7_add_11 rfl (lv_at hl 0 rfl) ?_
    refine va_get (D := D) (ci := 5) (v := .ref l_) (C := RX7) (T := TX7) (N := 3) hx hb hts in_X7 hown hK hP 0 rfl rfl 1 (by decide) (hts _ q699) (fun _ h9 => h9) rfl dX7_add_12 ?_
    refine lv_aload_n hx hb dX7_add_15 rfl (lv_at hl 1 rfl) ?_
    refine aV (wc := [(l_, .inr (8, [.int m_, .ref (κ.2.1 0), .int (nI 0)])), (v_, .inr (6, [.int a0, .int a1, .int a2, .int a3]))]) (wr := [(o_, .inr (5, [.ref t_, .ref l_, .int lk]))]) (As := [.ref v_]) (rest := []) ⟨hx, hb, hml, hown, hts⟩ (mt_J2_add_SE l D dA κ s.heap.size l_ v_ m_ a0 a1 a2 a3) (cw_X7_J2_add_SE hts ⟨Nat.le_of_ble_eq_true rfl, Nat.le_of_ble_eq_true rfl⟩) (a_now hK hZ hP hD hS hk0 hAn [1, 2] rfl rfl rfl) (va_recv hK hP (ci := 8) (q0 := 1) rfl rfl) rfl hl.1 rfl (Nat.le_of_ble_eq_true rfl) dX7_add_16 ⟨Nat.le_of_ble_eq_true rfl, Nat.le_of_ble_eq_true rfl⟩ hP hD hS hA [1, 2] [0] rfl rfl rfl (by decide) (fun e__1 H locs hP hD hS => ?_)
    have hP : va_P D vwCl [(o_, .inr (5, [.ref t_, .ref l_, .int lk])), (l_, .inr (8, [.int (m_ + 1), .ref e__1, .int (nI 1)])), (e__1, .inl (dA 3, rfs 10 (va_up (fun _ => none) 0 (some v_)))), (v_, .inr (6, [.int a0, .int a1, .int a2, .int a3]))] H := hP
    have hD : va_D (va_A [(o_, .inr (5, [.ref t_, .ref l_, .int lk])), (l_, .inr (8, [.int m_, .ref (κ.2.1 0), .int (nI 0)])), (v_, .inr (6, [.int a0, .int a1, .int a2, .int a3]))] s.heap.size) [(o_, .inr (5, [.ref t_, .ref l_, .int lk])), (l_, .inr (8, [.int (m_ + 1), .ref e__1, .int (nI 1)])), (e__1, .inl (dA 3, rfs 10 (va_up (fun _ => none) 0 (some v_)))), (v_, .inr (6, [.int a0, .int a1, .int a2, .int a3]))] := hD
    change W p l e rmX7_add_E s m args below meth c H locs 1 10 Q (F0 m 19 ls [.int 1])
    refine lv_pop hx hb dX7_add_19 rfl ?_
    refine lv_aload_n hx hb dX7_add_20 rfl (lv_at hl 0 rfl) ?_
    refine lv_dup hx hb dX7_add_21 rfl ?_
    refine va_get (D := D) (ci := 5) (v := .int lk) (C := RX7) (T := TX7) (N := 3) hx hb hts in_X7 hown hK hP 0 rfl rfl 2 (by decide) (hts _ q703) (fun _ h9 => h9) rfl dX7_add_22 ?_
    refine lv_aload_n hx hb dX7_add_25 rfl (lv_at hl 1 rfl) ?_
    refine va_get (D := D) (ci := 6) (v := .int a2) (C := RX9) (T := TX9) (N := 4) hx hb hts in_X9 hown hK hP 3 rfl rfl 2 (by decide) (hts _ q728) (fun _ h9 => h9) rfl dX7_add_26 ?_
    refine lv_iadd hx hb dX7_add_29 ?_
    refine va_put (D := D) (ci := 5) (v := .int (lk + a2)) (ty := .int) (C := RX7) (T := TX7) (N := 3) hx hb hts in_X7 tyX7 tyX7_ok nmX7 hown hK hP hD hS 0 rfl rfl 2 (by decide) (hts _ q703) (fun _ h9 => h9) rfl (by decide +kernel) (rfl) (rfl) (Nat.le_of_ble_eq_true rfl) dX7_add_30 (fun H locs hP hD hS => ?_)
    have hP : va_P D vwCl [(o_, .inr (5, [.ref t_, .ref l_, .int (lk + a2)])), (l_, .inr (8, [.int (m_ + 1), .ref e__1, .int (nI 1)])), (e__1, .inl (dA 3, rfs 10 (va_up (fun _ => none) 0 (some v_)))), (v_, .inr (6, [.int a0, .int a1, .int a2, .int a3]))] H := hP
    have hD : va_D (va_A [(o_, .inr (5, [.ref t_, .ref l_, .int lk])), (l_, .inr (8, [.int m_, .ref (κ.2.1 0), .int (nI 0)])), (v_, .inr (6, [.int a0, .int a1, .int a2, .int a3]))] s.heap.size) [(o_, .inr (5, [.ref t_, .ref l_, .int (lk + a2)])), (l_, .inr (8, [.int (m_ + 1), .ref e__1, .int (nI 1)])), (e__1, .inl (dA 3, rfs 10 (va_up (fun _ => none) 0 (some v_)))), (v_, .inr (6, [.int a0, .int a1, .int a2, .int a3]))] := hD
    exact ar_v e__1 hQ hx hb hr hlocks hP hD hS (Nat.le_of_ble_eq_true rfl) (Nat.le_of_ble_eq_true rfl) (rfl) [0, 1, 2, 3] (rfl) (rfl) rfl dX7_add_33

theorem cw_X7_J2_add_S {R : Room} {s : State} {args : Array Value} (hts : ∀ w ∈ lw_all, w.before args s = true) (hR : rmJ2_add_S.frames + 1 ≤ R.frames ∧ 8 + (2 + 11) + rmJ2_add_S.locals ≤ R.locals) : CallW R s args RX7 RJ2 32 yJ2_add cJ2_add 2 (some .boolean) (ws_ yJ2_add cJ2_add 2 (some .boolean)) rmJ2_add_S 0 0 1 := cwV 1 hts (lw_V q758 q759 q760 q81 q761) rfl rfl rfl (by decide +kernel) hR
def rmX7_add_K : Room := { frames := 2, cells := 0, slots := 0, locals := 44 }
set_option maxHeartbeats 1000000 in
theorem mt_X7_add_K (l : Launch) (D : va_G) (dA : Nat → ClassId) (κ : KZ) (sz : Nat) (o_ : Nat) (t_ : Nat) (l_ : Nat) (lk : Int32) (m_ : Int32) (v_ : Nat) (a0 : Int32) (a1 : Int32) (a2 : Int32) (a3 : Int32) (e_ : Nat) (k_ : Nat) (g_ : Nat → Option Nat) (hk4 : k_ < 4) : Met l yX7_add (ws_ yX7_add cX7_add 2 none) rmX7_add_K (va_Pc [.ref o_, .ref v_] (aB D dA κ [(o_, .inr (5, [.ref t_, .ref l_, .int lk])), (l_, .inr (8, [.int m_, .ref e_, .int (nI k_)])), (e_, .inl (dA 3, rfs 10 g_)), (v_, .inr (6, [.int a0, .int a1, .int a2, .int a3]))] sz)) (aQ (fun (_ : Unit) => (none, [(o_, .inr (5, [.ref t_, .ref l_, .int (lk + a2)])), (l_, .inr (8, [.int (m_ + 1), .ref e_, .int (nI (k_ + 1))])), (e_, .inl (dA 3, rfs 10 (va_up g_ k_ (some v_)))), (v_, .inr (6, [.int a0, .int a1, .int a2, .int a3]))])) D [(o_, .inr (5, [.ref t_, .ref l_, .int lk])), (l_, .inr (8, [.int m_, .ref e_, .int (nI k_)])), (e_, .inl (dA 3, rfs 10 g_)), (v_, .inr (6, [.int a0, .int a1, .int a2, .int a3]))] sz) 0 0 (va_A [(o_, .inr (5, [.ref t_, .ref l_, .int lk])), (l_, .inr (8, [.int m_, .ref e_, .int (nI k_)])), (e_, .inl (dA 3, rfs 10 g_)), (v_, .inr (6, [.int a0, .int a1, .int a2, .int a3]))] sz) := by
  refine w_start (by decide) (Nat.le_of_ble_eq_true rfl) ?_
  intro p e s m args below meth c Q ls hQ hx hb hr hlocks hml hown hnm hts hB hl
  have hown : s.vm.findClass RX7 = some m.cls := hown
  have hl : lv_has ls 2 [(0, .ref o_), (1, .ref v_)] := hl
  obtain ⟨hP, hD, hK, hZ, hk0, hge, rfl⟩ := hB
  have hA : ∀ q : Nat, s.heap.size ≤ q → va_A [(o_, .inr (5, [.ref t_, .ref l_, .int lk])), (l_, .inr (8, [.int m_, .ref e_, .int (nI k_)])), (e_, .inl (dA 3, rfs 10 g_)), (v_, .inr (6, [.int a0, .int a1, .int a2, .int a3]))] s.heap.size q := fun q h => Or.inr h
  have hAn : ∀ q : Nat, va_A [(o_, .inr (5, [.ref t_, .ref l_, .int lk])), (l_, .inr (8, [.int m_, .ref e_, .int (nI k_)])), (e_, .inl (dA 3, rfs 10 g_)), (v_, .inr (6, [.int a0, .int a1, .int a2, .int a3]))] s.heap.size q → κ.1 ≤ q := fun q h => by
    rcases h with ⟨k, e, h⟩ | h
    · exact hge k _ h
    · exact Nat.le_trans hk0 h
  have hS : va_S (va_A [(o_, .inr (5, [.ref t_, .ref l_, .int lk])), (l_, .inr (8, [.int m_, .ref e_, .int (nI k_)])), (e_, .inl (dA 3, rfs 10 g_)), (v_, .inr (6, [.int a0, .int a1, .int a2, .int a3]))] s.heap.size) s.heap s.heap [] := va_S.rf
  have hP : va_P D vwCl [(o_, .inr (5, [.ref t_, .ref l_, .int lk])), (l_, .inr (8, [.int m_, .ref e_, .int (nI k_)])), (e_, .inl (dA 3, rfs 10 g_)), (v_, .inr (6, [.int a0, .int a1, .int a2, .int a3]))] s.heap := hP
  have hD : va_D (va_A [(o_, .inr (5, [.ref t_, .ref l_, .int lk])), (l_, .inr (8, [.int m_, .ref e_, .int (nI k_)])), (e_, .inl (dA 3, rfs 10 g_)), (v_, .inr (6, [.int a0, .int a1, .int a2, .int a3]))] s.heap.size) [(o_, .inr (5, [.ref t_, .ref l_, .int lk])), (l_, .inr (8, [.int m_, .ref e_, .int (nI k_)])), (e_, .inl (dA 3, rfs 10 g_)), (v_, .inr (6, [.int a0, .int a1, .int a2, .int a3]))] := hD
  refine lv_aload_n hx hb dX7_add_0 rfl (lv_at hl 0 rfl) ?_
  refine va_get (D := D) (ci := 5) (v := .ref l_) (C := RX7) (T := TX7) (N := 3) hx hb hts in_X7 hown hK hP 0 rfl rfl 1 (by decide) (hts _ q699) (fun _ h9 => h9) rfl dX7_add_1 ?_
  refine dV (v := .int (nI k_)) (As := []) (rest := []) ⟨hx, hb, hml, hown, hts⟩ (mt_J2_size l D dA l_ e_ m_ k_) (cw_X7_J2_size hts ⟨Nat.le_of_ble_eq_true rfl, Nat.le_of_ble_eq_true rfl⟩) pB_bw (pB_now hK (p1 hP 1 rfl)) (va_recv hK hP (ci := 8) (q0 := 1) rfl rfl) rfl hl.1 rfl (Nat.le_of_ble_eq_true rfl) dX7_add_4 ⟨Nat.le_of_ble_eq_true rfl, Nat.le_of_ble_eq_true rfl⟩ ?_
  refine lv_iconst (v := 4) hx hb dX7_add_7 rfl ?_
  refine lv_icmp_ge (tgt := 33) hx hb dX7_add_8 rfl (fun h8 => ?_) (fun h8 => ?_)
  · have h8 : 4 ≤ k_ := (nz_le (a := 4) (b := k_) rfl rfl (by omega) (by omega)).mp h8
    exact absurd h8 (by omega)
  · have h8 : ¬ (4 ≤ k_) := fun z9 => h8 ((nz_le (a := 4) (b := k_) rfl rfl (by omega) (by omega)).mpr z9)
    refine lv_aload_n hx hb dX7_add_11 rfl (lv_at hl 0 rfl) ?_
    refine va_get (D := D) (ci := 5) (v := .ref l_) (C := RX7) (T := TX7) (N := 3) hx hb hts in_X7 hown hK hP 0 rfl rfl 1 (by decide) (hts _ q699) (fun _ h9 => h9) rfl dX7_add_12 ?_
    refine lv_aload_n hx hb dX7_add_15 rfl (lv_at hl 1 rfl) ?_
    refine aV (wc := [(l_, .inr (8, [.int m_, .ref e_, .int (nI k_)])), (e_, .inl (dA 3, rfs 10 g_)), (v_, .inr (6, [.int a0, .int a1, .int a2, .int a3]))]) (wr := [(o_, .inr (5, [.ref t_, .ref l_, .int lk]))]) (As := [.ref v_]) (rest := []) ⟨hx, hb, hml, hown, hts⟩ (mt_J2_add_S l D dA κ s.heap.size l_ v_ e_ m_ k_ 10 g_ a0 a1 a2 a3 (by omega) (by omega)) (cw_X7_J2_add_S hts ⟨Nat.le_of_ble_eq_true rfl, Nat.le_of_ble_eq_true rfl⟩) (a_now hK hZ hP hD hS hk0 hAn [1, 2, 3] rfl rfl rfl) (va_recv hK hP (ci := 8) (q0 := 1) rfl rfl) rfl hl.1 rfl (Nat.le_of_ble_eq_true rfl) dX7_add_16 ⟨Nat.le_of_ble_eq_true rfl, Nat.le_of_ble_eq_true rfl⟩ hP hD hS hA [1, 2, 3] [0] rfl rfl rfl (by decide) (fun u H locs hP hD hS => ?_)
    have hP : va_P D vwCl [(o_, .inr (5, [.ref t_, .ref l_, .int lk])), (l_, .inr (8, [.int (m_ + 1), .ref e_, .int (nI (k_ + 1))])), (e_, .inl (dA 3, rfs 10 (va_up g_ k_ (some v_)))), (v_, .inr (6, [.int a0, .int a1, .int a2, .int a3]))] H := hP
    have hD : va_D (va_A [(o_, .inr (5, [.ref t_, .ref l_, .int lk])), (l_, .inr (8, [.int m_, .ref e_, .int (nI k_)])), (e_, .inl (dA 3, rfs 10 g_)), (v_, .inr (6, [.int a0, .int a1, .int a2, .int a3]))] s.heap.size) [(o_, .inr (5, [.ref t_, .ref l_, .int lk])), (l_, .inr (8, [.int (m_ + 1), .ref e_, .int (nI (k_ + 1))])), (e_, .inl (dA 3, rfs 10 (va_up g_ k_ (some v_)))), (v_, .inr (6, [.int a0, .int a1, .int a2, .int a3]))] := hD
    change W p l e rmX7_add_K s m args below meth c H locs 0 0 Q (F0 m 19 ls [.int 1])
    refine lv_pop hx hb dX7_add_19 rfl ?_
    refine lv_aload_n hx hb dX7_add_20 rfl (lv_at hl 0 rfl) ?_
    refine lv_dup hx hb dX7_add_21 rfl ?_
    refine va_get (D := D) (ci := 5) (v := .int lk) (C := RX7) (T := TX7) (N := 3) hx hb hts in_X7 hown hK hP 0 rfl rfl 2 (by decide) (hts _ q703) (fun _ h9 => h9) rfl dX7_add_22 ?_
    refine lv_aload_n hx hb dX7_add_25 rfl (lv_at hl 1 rfl) ?_
    refine va_get (D := D) (ci := 6) (v := .int a2) (C := RX9) (T := TX9) (N := 4) hx hb hts in_X9 hown hK hP 3 rfl rfl 2 (by decide) (hts _ q728) (fun _ h9 => h9) rfl dX7_add_26 ?_
    refine lv_iadd hx hb dX7_add_29 ?_
    refine va_put (D := D) (ci := 5) (v := .int (lk + a2)) (ty := .int) (C := RX7) (T := TX7) (N := 3) hx hb hts in_X7 tyX7 tyX7_ok nmX7 hown hK hP hD hS 0 rfl rfl 2 (by decide) (hts _ q703) (fun _ h9 => h9) rfl (by decide +kernel) (rfl) (rfl) (Nat.le_of_ble_eq_true rfl) dX7_add_30 (fun H locs hP hD hS => ?_)
    have hP : va_P D vwCl [(o_, .inr (5, [.ref t_, .ref l_, .int (lk + a2)])), (l_, .inr (8, [.int (m_ + 1), .ref e_, .int (nI (k_ + 1))])), (e_, .inl (dA 3, rfs 10 (va_up g_ k_ (some v_)))), (v_, .inr (6, [.int a0, .int a1, .int a2, .int a3]))] H := hP
    have hD : va_D (va_A [(o_, .inr (5, [.ref t_, .ref l_, .int lk])), (l_, .inr (8, [.int m_, .ref e_, .int (nI k_)])), (e_, .inl (dA 3, rfs 10 g_)), (v_, .inr (6, [.int a0, .int a1, .int a2, .int a3]))] s.heap.size) [(o_, .inr (5, [.ref t_, .ref l_, .int (lk + a2)])), (l_, .inr (8, [.int (m_ + 1), .ref e_, .int (nI (k_ + 1))])), (e_, .inl (dA 3, rfs 10 (va_up g_ k_ (some v_)))), (v_, .inr (6, [.int a0, .int a1, .int a2, .int a3]))] := hD
    exact ar_v () hQ hx hb hr hlocks hP hD hS (Nat.le_of_ble_eq_true rfl) (Nat.le_of_ble_eq_true rfl) (rfl) [0, 1, 2, 3] (rfl) (rfl) rfl dX7_add_33

def rmX7_add_F : Room := { frames := 1, cells := 0, slots := 0, locals := 20 }
set_option maxHeartbeats 1000000 in
theorem mt_X7_add_F (l : Launch) (D : va_G) (dA : Nat → ClassId) (κ : KZ) (sz : Nat) (o_ : Nat) (t_ : Nat) (l_ : Nat) (lk : Int32) (m_ : Int32) (v_ : Nat) (a0 : Int32) (a1 : Int32) (a2 : Int32) (a3 : Int32) (e_ : Nat) : Met l yX7_add (ws_ yX7_add cX7_add 2 none) rmX7_add_F (va_Pc [.ref o_, .ref v_] (aB D dA κ [(o_, .inr (5, [.ref t_, .ref l_, .int lk])), (l_, .inr (8, [.int m_, .ref e_, .int (nI 4)])), (v_, .inr (6, [.int a0, .int a1, .int a2, .int a3]))] sz)) (aQ (fun (_ : Unit) => (none, [(o_, .inr (5, [.ref t_, .ref l_, .int lk])), (l_, .inr (8, [.int m_, .ref e_, .int (nI 4)])), (v_, .inr (6, [.int a0, .int a1, .int a2, .int a3]))])) D [(o_, .inr (5, [.ref t_, .ref l_, .int lk])), (l_, .inr (8, [.int m_, .ref e_, .int (nI 4)])), (v_, .inr (6, [.int a0, .int a1, .int a2, .int a3]))] sz) 0 0 (va_A [(o_, .inr (5, [.ref t_, .ref l_, .int lk])), (l_, .inr (8, [.int m_, .ref e_, .int (nI 4)])), (v_, .inr (6, [.int a0, .int a1, .int a2, .int a3]))] sz) := by
  refine w_start (by decide) (Nat.le_of_ble_eq_true rfl) ?_
  intro p e s m args below meth c Q ls hQ hx hb hr hlocks hml hown hnm hts hB hl
  have hown : s.vm.findClass RX7 = some m.cls := hown
  have hl : lv_has ls 2 [(0, .ref o_), (1, .ref v_)] := hl
  obtain ⟨hP, hD, hK, hZ, hk0, hge, rfl⟩ := hB
  have hA : ∀ q : Nat, s.heap.size ≤ q → va_A [(o_, .inr (5, [.ref t_, .ref l_, .int lk])), (l_, .inr (8, [.int m_, .ref e_, .int (nI 4)])), (v_, .inr (6, [.int a0, .int a1, .int a2, .int a3]))] s.heap.size q := fun q h => Or.inr h
  have hAn : ∀ q : Nat, va_A [(o_, .inr (5, [.ref t_, .ref l_, .int lk])), (l_, .inr (8, [.int m_, .ref e_, .int (nI 4)])), (v_, .inr (6, [.int a0, .int a1, .int a2, .int a3]))] s.heap.size q → κ.1 ≤ q := fun q h => by
    rcases h with ⟨k, e, h⟩ | h
    · exact hge k _ h
    · exact Nat.le_trans hk0 h
  have hS : va_S (va_A [(o_, .inr (5, [.ref t_, .ref l_, .int lk])), (l_, .inr (8, [.int m_, .ref e_, .int (nI 4)])), (v_, .inr (6, [.int a0, .int a1, .int a2, .int a3]))] s.heap.size) s.heap s.heap [] := va_S.rf
  have hP : va_P D vwCl [(o_, .inr (5, [.ref t_, .ref l_, .int lk])), (l_, .inr (8, [.int m_, .ref e_, .int (nI 4)])), (v_, .inr (6, [.int a0, .int a1, .int a2, .int a3]))] s.heap := hP
  have hD : va_D (va_A [(o_, .inr (5, [.ref t_, .ref l_, .int lk])), (l_, .inr (8, [.int m_, .ref e_, .int (nI 4)])), (v_, .inr (6, [.int a0, .int a1, .int a2, .int a3]))] s.heap.size) [(o_, .inr (5, [.ref t_, .ref l_, .int lk])), (l_, .inr (8, [.int m_, .ref e_, .int (nI 4)])), (v_, .inr (6, [.int a0, .int a1, .int a2, .int a3]))] := hD
  refine lv_aload_n hx hb dX7_add_0 rfl (lv_at hl 0 rfl) ?_
  refine va_get (D := D) (ci := 5) (v := .ref l_) (C := RX7) (T := TX7) (N := 3) hx hb hts in_X7 hown hK hP 0 rfl rfl 1 (by decide) (hts _ q699) (fun _ h9 => h9) rfl dX7_add_1 ?_
  refine dV (v := .int (nI 4)) (As := []) (rest := []) ⟨hx, hb, hml, hown, hts⟩ (mt_J2_size l D dA l_ e_ m_ 4) (cw_X7_J2_size hts ⟨Nat.le_of_ble_eq_true rfl, Nat.le_of_ble_eq_true rfl⟩) pB_bw (pB_now hK (p1 hP 1 rfl)) (va_recv hK hP (ci := 8) (q0 := 1) rfl rfl) rfl hl.1 rfl (Nat.le_of_ble_eq_true rfl) dX7_add_4 ⟨Nat.le_of_ble_eq_true rfl, Nat.le_of_ble_eq_true rfl⟩ ?_
  refine lv_iconst (v := 4) hx hb dX7_add_7 rfl ?_
  refine lv_icmp_ge (tgt := 33) hx hb dX7_add_8 rfl (fun h8 => ?_) (fun h8 => ?_)
  · have h8 : 4 ≤ 4 := (nz_le (a := 4) (b := 4) rfl rfl (by omega) (by omega)).mp h8
    exact ar_v () hQ hx hb hr hlocks hP hD hS (Nat.le_of_ble_eq_true rfl) (Nat.le_of_ble_eq_true rfl) (rfl) [0, 1, 2] (rfl) (rfl) rfl dX7_add_33
  · have h8 : ¬ (4 ≤ 4) := fun z9 => h8 ((nz_le (a := 4) (b := 4) rfl rfl (by omega) (by omega)).mpr z9)
    exact absurd (by omega) h8
