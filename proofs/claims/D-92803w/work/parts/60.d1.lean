/-! CELLS MADE 1: constructors of small objects, lists -/
set_option maxRecDepth 100000

def rmX2_init_T : Room := { frames := 1, cells := 0, slots := 0, locals := 24 }
set_option maxHeartbeats 1000000 in
theorem mt_X2_init_T (l : Launch) (D : va_G) (dA : Nat → ClassId) (κ : KZ) (sz : Nat) (o_ : Nat) (w_ : Int32) (p_ : Int32) (f0 : Int32) (f1 : Int32) : Met l yX2_init (ws_ yX2_init cX2_init 3 none) rmX2_init_T (va_Pc [.ref o_, .int w_, .int p_] (aB D dA κ [(o_, .inr (3, [.int f0, .int f1]))] sz)) (aQ (fun (_ : Unit) => (none, [(o_, .inr (3, [.int w_, .int p_]))])) D [(o_, .inr (3, [.int f0, .int f1]))] sz) 0 0 (va_A [(o_, .inr (3, [.int f0, .int f1]))] sz) := by
  refine w_start (by decide) (Nat.le_of_ble_eq_true rfl) ?_
  intro p e s m args below meth c Q ls hQ hx hb hr hlocks hml hown hnm hts hB hl
  have hown : s.vm.findClass RX2 = some m.cls := hown
  have hl : lv_has ls 3 [(0, .ref o_), (1, .int w_), (2, .int p_)] := hl
  obtain ⟨hP, hD, hK, hZ, hk0, hge, rfl⟩ := hB
  have hA : ∀ q : Nat, s.heap.size ≤ q → va_A [(o_, .inr (3, [.int f0, .int f1]))] s.heap.size q := fun q h => Or.inr h
  have hAn : ∀ q : Nat, va_A [(o_, .inr (3, [.int f0, .int f1]))] s.heap.size q → κ.1 ≤ q := fun q h => by
    rcases h with ⟨k, e, h⟩ | h
    · exact hge k _ h
    · exact Nat.le_trans hk0 h
  have hS : va_S (va_A [(o_, .inr (3, [.int f0, .int f1]))] s.heap.size) s.heap s.heap [] := va_S.rf
  have hP : va_P D vwCl [(o_, .inr (3, [.int f0, .int f1]))] s.heap := hP
  have hD : va_D (va_A [(o_, .inr (3, [.int f0, .int f1]))] s.heap.size) [(o_, .inr (3, [.int f0, .int f1]))] := hD
  refine lv_aload_n hx hb dX2_init_0 rfl (lv_at hl 0 rfl) ?_
  refine W.objInit hx hb hown (hts _ q200) (hts _ q115) (hts _ q116) rfl (by rw [hml]; exact hl.1) rfl dX2_init_1 (Nat.le_of_ble_eq_true rfl) (Nat.le_of_ble_eq_true rfl) ?_
  refine W.eq (g2 := F0 m 4 ls []) rfl ?_
  refine lv_aload_n hx hb dX2_init_4 rfl (lv_at hl 0 rfl) ?_
  refine lv_iload_n hx hb dX2_init_5 rfl (lv_at hl 1 rfl) ?_
  refine va_putF (D := D) (ci := 3) (v := .int w_) (ty := .int) (C := RX2) (T := TX2) (N := 2) hx hb hts in_X2 tyX2 tyX2_ok nmX2 hown hK hP hD hS 0 rfl rfl 0 (by decide) (hts _ q201) (fun _ h9 => h9) rfl hnm rfl (by decide +kernel) (rfl) (rfl) (Nat.le_of_ble_eq_true rfl) dX2_init_6 (fun H locs hP hD hS => ?_)
  have hP : va_P D vwCl [(o_, .inr (3, [.int w_, .int f1]))] H := hP
  have hD : va_D (va_A [(o_, .inr (3, [.int f0, .int f1]))] s.heap.size) [(o_, .inr (3, [.int w_, .int f1]))] := hD
  refine lv_aload_n hx hb dX2_init_9 rfl (lv_at hl 0 rfl) ?_
  refine lv_iload_n hx hb dX2_init_10 rfl (lv_at hl 2 rfl) ?_
  refine va_putF (D := D) (ci := 3) (v := .int p_) (ty := .int) (C := RX2) (T := TX2) (N := 2) hx hb hts in_X2 tyX2 tyX2_ok nmX2 hown hK hP hD hS 0 rfl rfl 1 (by decide) (hts _ q203) (fun _ h9 => h9) rfl hnm rfl (by decide +kernel) (rfl) (rfl) (Nat.le_of_ble_eq_true rfl) dX2_init_11 (fun H locs hP hD hS => ?_)
  have hP : va_P D vwCl [(o_, .inr (3, [.int w_, .int p_]))] H := hP
  have hD : va_D (va_A [(o_, .inr (3, [.int f0, .int f1]))] s.heap.size) [(o_, .inr (3, [.int w_, .int p_]))] := hD
  exact ar_v () hQ hx hb hr hlocks hP hD hS (Nat.le_of_ble_eq_true rfl) (Nat.le_of_ble_eq_true rfl) (rfl) [0] (rfl) (rfl) rfl dX2_init_14

def rmX2_init_O : Room := { frames := 1, cells := 0, slots := 0, locals := 24 }
set_option maxHeartbeats 1000000 in
theorem mt_X2_init_O (l : Launch) (D : va_G) (dA : Nat → ClassId) (κ : KZ) (sz : Nat) (o_ : Nat) (w_ : Int32) (p_ : Int32) (f0 : Int32) (f1 : Int32) : Met l yX2_init (ws_ yX2_init cX2_init 3 none) rmX2_init_O (va_Pc [.ref o_, .int w_, .int p_] (aB D dA κ [(o_, .inr (4, [.int f0, .int f1]))] sz)) (aQ (fun (_ : Unit) => (none, [(o_, .inr (4, [.int w_, .int p_]))])) D [(o_, .inr (4, [.int f0, .int f1]))] sz) 0 0 (va_A [(o_, .inr (4, [.int f0, .int f1]))] sz) := by
  refine w_start (by decide) (Nat.le_of_ble_eq_true rfl) ?_
  intro p e s m args below meth c Q ls hQ hx hb hr hlocks hml hown hnm hts hB hl
  have hown : s.vm.findClass RX2 = some m.cls := hown
  have hl : lv_has ls 3 [(0, .ref o_), (1, .int w_), (2, .int p_)] := hl
  obtain ⟨hP, hD, hK, hZ, hk0, hge, rfl⟩ := hB
  have hA : ∀ q : Nat, s.heap.size ≤ q → va_A [(o_, .inr (4, [.int f0, .int f1]))] s.heap.size q := fun q h => Or.inr h
  have hAn : ∀ q : Nat, va_A [(o_, .inr (4, [.int f0, .int f1]))] s.heap.size q → κ.1 ≤ q := fun q h => by
    rcases h with ⟨k, e, h⟩ | h
    · exact hge k _ h
    · exact Nat.le_trans hk0 h
  have hS : va_S (va_A [(o_, .inr (4, [.int f0, .int f1]))] s.heap.size) s.heap s.heap [] := va_S.rf
  have hP : va_P D vwCl [(o_, .inr (4, [.int f0, .int f1]))] s.heap := hP
  have hD : va_D (va_A [(o_, .inr (4, [.int f0, .int f1]))] s.heap.size) [(o_, .inr (4, [.int f0, .int f1]))] := hD
  refine lv_aload_n hx hb dX2_init_0 rfl (lv_at hl 0 rfl) ?_
  refine W.objInit hx hb hown (hts _ q200) (hts _ q115) (hts _ q116) rfl (by rw [hml]; exact hl.1) rfl dX2_init_1 (Nat.le_of_ble_eq_true rfl) (Nat.le_of_ble_eq_true rfl) ?_
  refine W.eq (g2 := F0 m 4 ls []) rfl ?_
  refine lv_aload_n hx hb dX2_init_4 rfl (lv_at hl 0 rfl) ?_
  refine lv_iload_n hx hb dX2_init_5 rfl (lv_at hl 1 rfl) ?_
  refine va_putF (D := D) (ci := 4) (v := .int w_) (ty := .int) (C := RX6) (T := TX6) (N := 2) hx hb hts in_X6 tyX6 tyX6_ok nmX6 hown hK hP hD hS 0 rfl rfl 0 (by decide) (hts _ q201) (fun _ h9 => h9) rfl hnm rfl (by decide +kernel) (rfl) (rfl) (Nat.le_of_ble_eq_true rfl) dX2_init_6 (fun H locs hP hD hS => ?_)
  have hP : va_P D vwCl [(o_, .inr (4, [.int w_, .int f1]))] H := hP
  have hD : va_D (va_A [(o_, .inr (4, [.int f0, .int f1]))] s.heap.size) [(o_, .inr (4, [.int w_, .int f1]))] := hD
  refine lv_aload_n hx hb dX2_init_9 rfl (lv_at hl 0 rfl) ?_
  refine lv_iload_n hx hb dX2_init_10 rfl (lv_at hl 2 rfl) ?_
  refine va_putF (D := D) (ci := 4) (v := .int p_) (ty := .int) (C := RX6) (T := TX6) (N := 2) hx hb hts in_X6 tyX6 tyX6_ok nmX6 hown hK hP hD hS 0 rfl rfl 1 (by decide) (hts _ q203) (fun _ h9 => h9) rfl hnm rfl (by decide +kernel) (rfl) (rfl) (Nat.le_of_ble_eq_true rfl) dX2_init_11 (fun H locs hP hD hS => ?_)
  have hP : va_P D vwCl [(o_, .inr (4, [.int w_, .int p_]))] H := hP
  have hD : va_D (va_A [(o_, .inr (4, [.int f0, .int f1]))] s.heap.size) [(o_, .inr (4, [.int w_, .int p_]))] := hD
  exact ar_v () hQ hx hb hr hlocks hP hD hS (Nat.le_of_ble_eq_true rfl) (Nat.le_of_ble_eq_true rfl) (rfl) [0] (rfl) (rfl) rfl dX2_init_14

def rmX6_init : Room := { frames := 2, cells := 0, slots := 0, locals := 46 }
set_option maxHeartbeats 1000000 in
theorem mt_X6_init (l : Launch) (D : va_G) (dA : Nat → ClassId) (κ : KZ) (sz : Nat) (o_ : Nat) (w_ : Int32) (p_ : Int32) (f0 : Int32) (f1 : Int32) : Met l yX6_init (ws_ yX6_init cX6_init 3 none) rmX6_init (va_Pc [.ref o_, .int w_, .int p_] (aB D dA κ [(o_, .inr (4, [.int f0, .int f1]))] sz)) (aQ (fun (_ : Unit) => (none, [(o_, .inr (4, [.int w_, .int p_]))])) D [(o_, .inr (4, [.int f0, .int f1]))] sz) 0 0 (va_A [(o_, .inr (4, [.int f0, .int f1]))] sz) := by
  refine w_start (by decide) (Nat.le_of_ble_eq_true rfl) ?_
  intro p e s m args below meth c Q ls hQ hx hb hr hlocks hml hown hnm hts hB hl
  have hown : s.vm.findClass RX6 = some m.cls := hown
  have hl : lv_has ls 3 [(0, .ref o_), (1, .int w_), (2, .int p_)] := hl
  obtain ⟨hP, hD, hK, hZ, hk0, hge, rfl⟩ := hB
  have hA : ∀ q : Nat, s.heap.size ≤ q → va_A [(o_, .inr (4, [.int f0, .int f1]))] s.heap.size q := fun q h => Or.inr h
  have hAn : ∀ q : Nat, va_A [(o_, .inr (4, [.int f0, .int f1]))] s.heap.size q → κ.1 ≤ q := fun q h => by
    rcases h with ⟨k, e, h⟩ | h
    · exact hge k _ h
    · exact Nat.le_trans hk0 h
  have hS : va_S (va_A [(o_, .inr (4, [.int f0, .int f1]))] s.heap.size) s.heap s.heap [] := va_S.rf
  have hP : va_P D vwCl [(o_, .inr (4, [.int f0, .int f1]))] s.heap := hP
  have hD : va_D (va_A [(o_, .inr (4, [.int f0, .int f1]))] s.heap.size) [(o_, .inr (4, [.int f0, .int f1]))] := hD
  refine lv_aload_n hx hb dX6_init_0 rfl (lv_at hl 0 rfl) ?_
  refine lv_iload_n hx hb dX6_init_1 rfl (lv_at hl 1 rfl) ?_
  refine lv_iload_n hx hb dX6_init_2 rfl (lv_at hl 2 rfl) ?_
  refine aI (wc := [(o_, .inr (4, [.int f0, .int f1]))]) (wr := []) (As := [.int w_, .int p_]) (rest := []) ⟨hx, hb, hml, hown, hts⟩ (mt_X2_init_O l D dA κ s.heap.size o_ w_ p_ f0 f1) (cwI 2 hts (lw_meth q199) rfl rfl rfl (hts _ q82) (hts _ q685) (hts _ q198) rfl (by decide +kernel) ⟨Nat.le_of_ble_eq_true rfl, Nat.le_of_ble_eq_true rfl⟩) (a_now hK hZ hP hD hS hk0 hAn [0] rfl rfl rfl) rfl hl.1 rfl (Nat.le_of_ble_eq_true rfl) dX6_init_3 ⟨Nat.le_of_ble_eq_true rfl, Nat.le_of_ble_eq_true rfl⟩ hP hD hS hA [0] [] rfl rfl rfl (by decide) (fun u H locs hP hD hS => ?_)
  have hP : va_P D vwCl [(o_, .inr (4, [.int w_, .int p_]))] H := hP
  have hD : va_D (va_A [(o_, .inr (4, [.int f0, .int f1]))] s.heap.size) [(o_, .inr (4, [.int w_, .int p_]))] := hD
  change W p l e rmX6_init s m args below meth c H locs 0 0 Q (F0 m 6 ls [])
  exact ar_v () hQ hx hb hr hlocks hP hD hS (Nat.le_of_ble_eq_true rfl) (Nat.le_of_ble_eq_true rfl) (rfl) [0] (rfl) (rfl) rfl dX6_init_6

def rmX8_init_S : Room := { frames := 1, cells := 0, slots := 0, locals := 24 }
set_option maxHeartbeats 1000000 in
theorem mt_X8_init_S (l : Launch) (D : va_G) (dA : Nat → ClassId) (κ : KZ) (sz : Nat) (o_ : Nat) (al : Int32) (on : Int32) (f0 : Int32) (f1 : Int32) (f2 : Int32) (f3 : Int32) : Met l yX8_init (ws_ yX8_init cX8_init 3 none) rmX8_init_S (va_Pc [.ref o_, .int al, .int on] (aB D dA κ [(o_, .inr (6, [.int f0, .int f1, .int f2, .int f3]))] sz)) (aQ (fun (_ : Unit) => (none, [(o_, .inr (6, [.int al, .int on, .int f2, .int f3]))])) D [(o_, .inr (6, [.int f0, .int f1, .int f2, .int f3]))] sz) 0 0 (va_A [(o_, .inr (6, [.int f0, .int f1, .int f2, .int f3]))] sz) := by
  refine w_start (by decide) (Nat.le_of_ble_eq_true rfl) ?_
  intro p e s m args below meth c Q ls hQ hx hb hr hlocks hml hown hnm hts hB hl
  have hown : s.vm.findClass RX8 = some m.cls := hown
  have hl : lv_has ls 3 [(0, .ref o_), (1, .int al), (2, .int on)] := hl
  obtain ⟨hP, hD, hK, hZ, hk0, hge, rfl⟩ := hB
  have hA : ∀ q : Nat, s.heap.size ≤ q → va_A [(o_, .inr (6, [.int f0, .int f1, .int f2, .int f3]))] s.heap.size q := fun q h => Or.inr h
  have hAn : ∀ q : Nat, va_A [(o_, .inr (6, [.int f0, .int f1, .int f2, .int f3]))] s.heap.size q → κ.1 ≤ q := fun q h => by
    rcases h with ⟨k, e, h⟩ | h
    · exact hge k _ h
    · exact Nat.le_trans hk0 h
  have hS : va_S (va_A [(o_, .inr (6, [.int f0, .int f1, .int f2, .int f3]))] s.heap.size) s.heap s.heap [] := va_S.rf
  have hP : va_P D vwCl [(o_, .inr (6, [.int f0, .int f1, .int f2, .int f3]))] s.heap := hP
  have hD : va_D (va_A [(o_, .inr (6, [.int f0, .int f1, .int f2, .int f3]))] s.heap.size) [(o_, .inr (6, [.int f0, .int f1, .int f2, .int f3]))] := hD
  refine lv_aload_n hx hb dX8_init_0 rfl (lv_at hl 0 rfl) ?_
  refine W.objInit hx hb hown (hts _ q725) (hts _ q115) (hts _ q116) rfl (by rw [hml]; exact hl.1) rfl dX8_init_1 (Nat.le_of_ble_eq_true rfl) (Nat.le_of_ble_eq_true rfl) ?_
  refine W.eq (g2 := F0 m 4 ls []) rfl ?_
  refine lv_aload_n hx hb dX8_init_4 rfl (lv_at hl 0 rfl) ?_
  refine lv_iload_n hx hb dX8_init_5 rfl (lv_at hl 1 rfl) ?_
  refine va_putF (D := D) (ci := 6) (v := .int al) (ty := .int) (C := RX9) (T := TX9) (N := 4) hx hb hts in_X9 tyX9 tyX9_ok nmX9 hown hK hP hD hS 0 rfl rfl 0 (by decide) (hts _ q734) (fun _ h9 => h9) rfl hnm rfl (by decide +kernel) (rfl) (rfl) (Nat.le_of_ble_eq_true rfl) dX8_init_6 (fun H locs hP hD hS => ?_)
  have hP : va_P D vwCl [(o_, .inr (6, [.int al, .int f1, .int f2, .int f3]))] H := hP
  have hD : va_D (va_A [(o_, .inr (6, [.int f0, .int f1, .int f2, .int f3]))] s.heap.size) [(o_, .inr (6, [.int al, .int f1, .int f2, .int f3]))] := hD
  refine lv_aload_n hx hb dX8_init_9 rfl (lv_at hl 0 rfl) ?_
  refine lv_iload_n hx hb dX8_init_10 rfl (lv_at hl 2 rfl) ?_
  refine va_putF (D := D) (ci := 6) (v := .int on) (ty := .int) (C := RX9) (T := TX9) (N := 4) hx hb hts in_X9 tyX9 tyX9_ok nmX9 hown hK hP hD hS 0 rfl rfl 1 (by decide) (hts _ q738) (fun _ h9 => h9) rfl hnm rfl (by decide +kernel) (rfl) (rfl) (Nat.le_of_ble_eq_true rfl) dX8_init_11 (fun H locs hP hD hS => ?_)
  have hP : va_P D vwCl [(o_, .inr (6, [.int al, .int on, .int f2, .int f3]))] H := hP
  have hD : va_D (va_A [(o_, .inr (6, [.int f0, .int f1, .int f2, .int f3]))] s.heap.size) [(o_, .inr (6, [.int al, .int on, .int f2, .int f3]))] := hD
  exact ar_v () hQ hx hb hr hlocks hP hD hS (Nat.le_of_ble_eq_true rfl) (Nat.le_of_ble_eq_true rfl) (rfl) [0] (rfl) (rfl) rfl dX8_init_14

def rmX8_init_V : Room := { frames := 1, cells := 0, slots := 0, locals := 24 }
set_option maxHeartbeats 1000000 in
theorem mt_X8_init_V (l : Launch) (D : va_G) (dA : Nat → ClassId) (κ : KZ) (sz : Nat) (o_ : Nat) (al : Int32) (on : Int32) (f0 : Int32) (f1 : Int32) (f2 : Int32) : Met l yX8_init (ws_ yX8_init cX8_init 3 none) rmX8_init_V (va_Pc [.ref o_, .int al, .int on] (aB D dA κ [(o_, .inr (7, [.int f0, .int f1, .int f2]))] sz)) (aQ (fun (_ : Unit) => (none, [(o_, .inr (7, [.int al, .int on, .int f2]))])) D [(o_, .inr (7, [.int f0, .int f1, .int f2]))] sz) 0 0 (va_A [(o_, .inr (7, [.int f0, .int f1, .int f2]))] sz) := by
  refine w_start (by decide) (Nat.le_of_ble_eq_true rfl) ?_
  intro p e s m args below meth c Q ls hQ hx hb hr hlocks hml hown hnm hts hB hl
  have hown : s.vm.findClass RX8 = some m.cls := hown
  have hl : lv_has ls 3 [(0, .ref o_), (1, .int al), (2, .int on)] := hl
  obtain ⟨hP, hD, hK, hZ, hk0, hge, rfl⟩ := hB
  have hA : ∀ q : Nat, s.heap.size ≤ q → va_A [(o_, .inr (7, [.int f0, .int f1, .int f2]))] s.heap.size q := fun q h => Or.inr h
  have hAn : ∀ q : Nat, va_A [(o_, .inr (7, [.int f0, .int f1, .int f2]))] s.heap.size q → κ.1 ≤ q := fun q h => by
    rcases h with ⟨k, e, h⟩ | h
    · exact hge k _ h
    · exact Nat.le_trans hk0 h
  have hS : va_S (va_A [(o_, .inr (7, [.int f0, .int f1, .int f2]))] s.heap.size) s.heap s.heap [] := va_S.rf
  have hP : va_P D vwCl [(o_, .inr (7, [.int f0, .int f1, .int f2]))] s.heap := hP
  have hD : va_D (va_A [(o_, .inr (7, [.int f0, .int f1, .int f2]))] s.heap.size) [(o_, .inr (7, [.int f0, .int f1, .int f2]))] := hD
  refine lv_aload_n hx hb dX8_init_0 rfl (lv_at hl 0 rfl) ?_
  refine W.objInit hx hb hown (hts _ q725) (hts _ q115) (hts _ q116) rfl (by rw [hml]; exact hl.1) rfl dX8_init_1 (Nat.le_of_ble_eq_true rfl) (Nat.le_of_ble_eq_true rfl) ?_
  refine W.eq (g2 := F0 m 4 ls []) rfl ?_
  refine lv_aload_n hx hb dX8_init_4 rfl (lv_at hl 0 rfl) ?_
  refine lv_iload_n hx hb dX8_init_5 rfl (lv_at hl 1 rfl) ?_
  refine va_putF (D := D) (ci := 7) (v := .int al) (ty := .int) (C := RX10) (T := TX10) (N := 3) hx hb hts in_X10 tyX10 tyX10_ok nmX10 hown hK hP hD hS 0 rfl rfl 0 (by decide) (hts _ q734) (fun _ h9 => h9) rfl hnm rfl (by decide +kernel) (rfl) (rfl) (Nat.le_of_ble_eq_true rfl) dX8_init_6 (fun H locs hP hD hS => ?_)
  have hP : va_P D vwCl [(o_, .inr (7, [.int al, .int f1, .int f2]))] H := hP
  have hD : va_D (va_A [(o_, .inr (7, [.int f0, .int f1, .int f2]))] s.heap.size) [(o_, .inr (7, [.int al, .int f1, .int f2]))] := hD
  refine lv_aload_n hx hb dX8_init_9 rfl (lv_at hl 0 rfl) ?_
  refine lv_iload_n hx hb dX8_init_10 rfl (lv_at hl 2 rfl) ?_
  refine va_putF (D := D) (ci := 7) (v := .int on) (ty := .int) (C := RX10) (T := TX10) (N := 3) hx hb hts in_X10 tyX10 tyX10_ok nmX10 hown hK hP hD hS 0 rfl rfl 1 (by decide) (hts _ q738) (fun _ h9 => h9) rfl hnm rfl (by decide +kernel) (rfl) (rfl) (Nat.le_of_ble_eq_true rfl) dX8_init_11 (fun H locs hP hD hS => ?_)
  have hP : va_P D vwCl [(o_, .inr (7, [.int al, .int on, .int f2]))] H := hP
  have hD : va_D (va_A [(o_, .inr (7, [.int f0, .int f1, .int f2]))] s.heap.size) [(o_, .inr (7, [.int al, .int on, .int f2]))] := hD
  exact ar_v () hQ hx hb hr hlocks hP hD hS (Nat.le_of_ble_eq_true rfl) (Nat.le_of_ble_eq_true rfl) (rfl) [0] (rfl) (rfl) rfl dX8_init_14

def rmX9_init : Room := { frames := 2, cells := 0, slots := 0, locals := 46 }
set_option maxHeartbeats 1000000 in
theorem mt_X9_init (l : Launch) (D : va_G) (dA : Nat → ClassId) (κ : KZ) (sz : Nat) (o_ : Nat) (lk : Int32) (mi : Int32) (al : Int32) (on : Int32) (f0 : Int32) (f1 : Int32) (f2 : Int32) (f3 : Int32) : Met l yX9_init (ws_ yX9_init cX9_init 5 none) rmX9_init (va_Pc [.ref o_, .int lk, .int mi, .int al, .int on] (aB D dA κ [(o_, .inr (6, [.int f0, .int f1, .int f2, .int f3]))] sz)) (aQ (fun (_ : Unit) => (none, [(o_, .inr (6, [.int al, .int on, .int lk, .int mi]))])) D [(o_, .inr (6, [.int f0, .int f1, .int f2, .int f3]))] sz) 0 0 (va_A [(o_, .inr (6, [.int f0, .int f1, .int f2, .int f3]))] sz) := by
  refine w_start (by decide) (Nat.le_of_ble_eq_true rfl) ?_
  intro p e s m args below meth c Q ls hQ hx hb hr hlocks hml hown hnm hts hB hl
  have hown : s.vm.findClass RX9 = some m.cls := hown
  have hl : lv_has ls 5 [(0, .ref o_), (1, .int lk), (2, .int mi), (3, .int al), (4, .int on)] := hl
  obtain ⟨hP, hD, hK, hZ, hk0, hge, rfl⟩ := hB
  have hA : ∀ q : Nat, s.heap.size ≤ q → va_A [(o_, .inr (6, [.int f0, .int f1, .int f2, .int f3]))] s.heap.size q := fun q h => Or.inr h
  have hAn : ∀ q : Nat, va_A [(o_, .inr (6, [.int f0, .int f1, .int f2, .int f3]))] s.heap.size q → κ.1 ≤ q := fun q h => by
    rcases h with ⟨k, e, h⟩ | h
    · exact hge k _ h
    · exact Nat.le_trans hk0 h
  have hS : va_S (va_A [(o_, .inr (6, [.int f0, .int f1, .int f2, .int f3]))] s.heap.size) s.heap s.heap [] := va_S.rf
  have hP : va_P D vwCl [(o_, .inr (6, [.int f0, .int f1, .int f2, .int f3]))] s.heap := hP
  have hD : va_D (va_A [(o_, .inr (6, [.int f0, .int f1, .int f2, .int f3]))] s.heap.size) [(o_, .inr (6, [.int f0, .int f1, .int f2, .int f3]))] := hD
  refine lv_aload_n hx hb dX9_init_0 rfl (lv_at hl 0 rfl) ?_
  refine lv_iload_n hx hb dX9_init_1 rfl (lv_at hl 3 rfl) ?_
  refine lv_iload hx hb dX9_init_2 (lv_at hl 4 rfl) ?_
  refine aI (wc := [(o_, .inr (6, [.int f0, .int f1, .int f2, .int f3]))]) (wr := []) (As := [.int al, .int on]) (rest := []) ⟨hx, hb, hml, hown, hts⟩ (mt_X8_init_S l D dA κ s.heap.size o_ al on f0 f1 f2 f3) (cwI 2 hts (lw_meth q724) rfl rfl rfl (hts _ q105) (hts _ q722) (hts _ q723) rfl (by decide +kernel) ⟨Nat.le_of_ble_eq_true rfl, Nat.le_of_ble_eq_true rfl⟩) (a_now hK hZ hP hD hS hk0 hAn [0] rfl rfl rfl) rfl hl.1 rfl (Nat.le_of_ble_eq_true rfl) dX9_init_4 ⟨Nat.le_of_ble_eq_true rfl, Nat.le_of_ble_eq_true rfl⟩ hP hD hS hA [0] [] rfl rfl rfl (by decide) (fun u H locs hP hD hS => ?_)
  have hP : va_P D vwCl [(o_, .inr (6, [.int al, .int on, .int f2, .int f3]))] H := hP
  have hD : va_D (va_A [(o_, .inr (6, [.int f0, .int f1, .int f2, .int f3]))] s.heap.size) [(o_, .inr (6, [.int al, .int on, .int f2, .int f3]))] := hD
  change W p l e rmX9_init s m args below meth c H locs 0 0 Q (F0 m 7 ls [])
  refine lv_aload_n hx hb dX9_init_7 rfl (lv_at hl 0 rfl) ?_
  refine lv_iload_n hx hb dX9_init_8 rfl (lv_at hl 1 rfl) ?_
  refine va_putF (D := D) (ci := 6) (v := .int lk) (ty := .int) (C := RX9) (T := TX9) (N := 4) hx hb hts in_X9 tyX9 tyX9_ok nmX9 hown hK hP hD hS 0 rfl rfl 2 (by decide) (hts _ q726) (fun _ h9 => h9) rfl hnm rfl (by decide +kernel) (rfl) (rfl) (Nat.le_of_ble_eq_true rfl) dX9_init_9 (fun H locs hP hD hS => ?_)
  have hP : va_P D vwCl [(o_, .inr (6, [.int al, .int on, .int lk, .int f3]))] H := hP
  have hD : va_D (va_A [(o_, .inr (6, [.int f0, .int f1, .int f2, .int f3]))] s.heap.size) [(o_, .inr (6, [.int al, .int on, .int lk, .int f3]))] := hD
  refine lv_aload_n hx hb dX9_init_12 rfl (lv_at hl 0 rfl) ?_
  refine lv_iload_n hx hb dX9_init_13 rfl (lv_at hl 2 rfl) ?_
  refine va_putF (D := D) (ci := 6) (v := .int mi) (ty := .int) (C := RX9) (T := TX9) (N := 4) hx hb hts in_X9 tyX9 tyX9_ok nmX9 hown hK hP hD hS 0 rfl rfl 3 (by decide) (hts _ q730) (fun _ h9 => h9) rfl hnm rfl (by decide +kernel) (rfl) (rfl) (Nat.le_of_ble_eq_true rfl) dX9_init_14 (fun H locs hP hD hS => ?_)
  have hP : va_P D vwCl [(o_, .inr (6, [.int al, .int on, .int lk, .int mi]))] H := hP
  have hD : va_D (va_A [(o_, .inr (6, [.int f0, .int f1, .int f2, .int f3]))] s.heap.size) [(o_, .inr (6, [.int al, .int on, .int lk, .int mi]))] := hD
  exact ar_v () hQ hx hb hr hlocks hP hD hS (Nat.le_of_ble_eq_true rfl) (Nat.le_of_ble_eq_true rfl) (rfl) [0] (rfl) (rfl) rfl dX9_init_17

def rmX10_init : Room := { frames := 2, cells := 0, slots := 0, locals := 46 }
set_option maxHeartbeats 1000000 in
theorem mt_X10_init (l : Launch) (D : va_G) (dA : Nat → ClassId) (κ : KZ) (sz : Nat) (o_ : Nat) (w_ : Nat) (bg : Int32) (al : Int32) (on : Int32) (lk : Int32) (mi : Int32) (f0 : Int32) (f1 : Int32) (f2 : Int32) : Met l yX10_init (ws_ yX10_init cX10_init 3 none) rmX10_init (va_Pc [.ref o_, .ref w_, .int bg] (aB D dA κ [(o_, .inr (7, [.int f0, .int f1, .int f2])), (w_, .inr (6, [.int al, .int on, .int lk, .int mi]))] sz)) (aQ (fun (_ : Unit) => (none, [(o_, .inr (7, [.int al, .int on, .int bg])), (w_, .inr (6, [.int al, .int on, .int lk, .int mi]))])) D [(o_, .inr (7, [.int f0, .int f1, .int f2])), (w_, .inr (6, [.int al, .int on, .int lk, .int mi]))] sz) 0 0 (va_A [(o_, .inr (7, [.int f0, .int f1, .int f2])), (w_, .inr (6, [.int al, .int on, .int lk, .int mi]))] sz) := by
  refine w_start (by decide) (Nat.le_of_ble_eq_true rfl) ?_
  intro p e s m args below meth c Q ls hQ hx hb hr hlocks hml hown hnm hts hB hl
  have hown : s.vm.findClass RX10 = some m.cls := hown
  have hl : lv_has ls 3 [(0, .ref o_), (1, .ref w_), (2, .int bg)] := hl
  obtain ⟨hP, hD, hK, hZ, hk0, hge, rfl⟩ := hB
  have hA : ∀ q : Nat, s.heap.size ≤ q → va_A [(o_, .inr (7, [.int f0, .int f1, .int f2])), (w_, .inr (6, [.int al, .int on, .int lk, .int mi]))] s.heap.size q := fun q h => Or.inr h
  have hAn : ∀ q : Nat, va_A [(o_, .inr (7, [.int f0, .int f1, .int f2])), (w_, .inr (6, [.int al, .int on, .int lk, .int mi]))] s.heap.size q → κ.1 ≤ q := fun q h => by
    rcases h with ⟨k, e, h⟩ | h
    · exact hge k _ h
    · exact Nat.le_trans hk0 h
  have hS : va_S (va_A [(o_, .inr (7, [.int f0, .int f1, .int f2])), (w_, .inr (6, [.int al, .int on, .int lk, .int mi]))] s.heap.size) s.heap s.heap [] := va_S.rf
  have hP : va_P D vwCl [(o_, .inr (7, [.int f0, .int f1, .int f2])), (w_, .inr (6, [.int al, .int on, .int lk, .int mi]))] s.heap := hP
  have hD : va_D (va_A [(o_, .inr (7, [.int f0, .int f1, .int f2])), (w_, .inr (6, [.int al, .int on, .int lk, .int mi]))] s.heap.size) [(o_, .inr (7, [.int f0, .int f1, .int f2])), (w_, .inr (6, [.int al, .int on, .int lk, .int mi]))] := hD
  refine lv_aload_n hx hb dX10_init_0 rfl (lv_at hl 0 rfl) ?_
  refine lv_aload_n hx hb dX10_init_1 rfl (lv_at hl 1 rfl) ?_
  refine va_get (D := D) (ci := 6) (v := .int al) (C := RX9) (T := TX9) (N := 4) hx hb hts in_X9 hown hK hP 1 rfl rfl 0 (by decide) (hts _ q733) (fun _ h9 => h9) rfl dX10_init_2 ?_
  refine lv_aload_n hx hb dX10_init_5 rfl (lv_at hl 1 rfl) ?_
  refine va_get (D := D) (ci := 6) (v := .int on) (C := RX9) (T := TX9) (N := 4) hx hb hts in_X9 hown hK hP 1 rfl rfl 1 (by decide) (hts _ q737) (fun _ h9 => h9) rfl dX10_init_6 ?_
  refine aI (wc := [(o_, .inr (7, [.int f0, .int f1, .int f2]))]) (wr := [(w_, .inr (6, [.int al, .int on, .int lk, .int mi]))]) (As := [.int al, .int on]) (rest := []) ⟨hx, hb, hml, hown, hts⟩ (mt_X8_init_V l D dA κ s.heap.size o_ al on f0 f1 f2) (cwI 2 hts (lw_meth q724) rfl rfl rfl (hts _ q105) (hts _ q1062) (hts _ q723) rfl (by decide +kernel) ⟨Nat.le_of_ble_eq_true rfl, Nat.le_of_ble_eq_true rfl⟩) (a_now hK hZ hP hD hS hk0 hAn [0] rfl rfl rfl) rfl hl.1 rfl (Nat.le_of_ble_eq_true rfl) dX10_init_9 ⟨Nat.le_of_ble_eq_true rfl, Nat.le_of_ble_eq_true rfl⟩ hP hD hS hA [0] [1] rfl rfl rfl (by decide) (fun u H locs hP hD hS => ?_)
  have hP : va_P D vwCl [(w_, .inr (6, [.int al, .int on, .int lk, .int mi])), (o_, .inr (7, [.int al, .int on, .int f2]))] H := hP
  have hD : va_D (va_A [(o_, .inr (7, [.int f0, .int f1, .int f2])), (w_, .inr (6, [.int al, .int on, .int lk, .int mi]))] s.heap.size) [(w_, .inr (6, [.int al, .int on, .int lk, .int mi])), (o_, .inr (7, [.int al, .int on, .int f2]))] := hD
  change W p l e rmX10_init s m args below meth c H locs 0 0 Q (F0 m 12 ls [])
  refine lv_aload_n hx hb dX10_init_12 rfl (lv_at hl 0 rfl) ?_
  refine lv_iload_n hx hb dX10_init_13 rfl (lv_at hl 2 rfl) ?_
  refine va_putF (D := D) (ci := 7) (v := .int bg) (ty := .int) (C := RX10) (T := TX10) (N := 3) hx hb hts in_X10 tyX10 tyX10_ok nmX10 hown hK hP hD hS 1 rfl rfl 2 (by decide) (hts _ q1063) (fun _ h9 => h9) rfl hnm rfl (by decide +kernel) (rfl) (rfl) (Nat.le_of_ble_eq_true rfl) dX10_init_14 (fun H locs hP hD hS => ?_)
  have hP : va_P D vwCl [(w_, .inr (6, [.int al, .int on, .int lk, .int mi])), (o_, .inr (7, [.int al, .int on, .int bg]))] H := hP
  have hD : va_D (va_A [(o_, .inr (7, [.int f0, .int f1, .int f2])), (w_, .inr (6, [.int al, .int on, .int lk, .int mi]))] s.heap.size) [(w_, .inr (6, [.int al, .int on, .int lk, .int mi])), (o_, .inr (7, [.int al, .int on, .int bg]))] := hD
  exact ar_v () hQ hx hb hr hlocks hP hD hS (Nat.le_of_ble_eq_true rfl) (Nat.le_of_ble_eq_true rfl) (rfl) [1, 0] (rfl) (rfl) rfl dX10_init_17

def rmJ0_init : Room := { frames := 1, cells := 0, slots := 0, locals := 24 }
set_option maxHeartbeats 1000000 in
theorem mt_J0_init (l : Launch) (D : va_G) (dA : Nat → ClassId) (κ : KZ) (sz : Nat) (o_ : Nat) (f0 : Int32) (f2 : Int32) : Met l yJ0_init (ws_ yJ0_init cJ0_init 1 none) rmJ0_init (va_Pc [.ref o_] (aB D dA κ [(o_, .inr (8, [.int f0, .null, .int f2]))] sz)) (aQ (fun (_ : Unit) => (none, [(o_, .inr (8, [.int f0, .null, .int f2]))])) D [(o_, .inr (8, [.int f0, .null, .int f2]))] sz) 0 0 (va_A [(o_, .inr (8, [.int f0, .null, .int f2]))] sz) := by
  refine w_start (by decide) (Nat.le_of_ble_eq_true rfl) ?_
  intro p e s m args below meth c Q ls hQ hx hb hr hlocks hml hown hnm hts hB hl
  have hown : s.vm.findClass RJ0 = some m.cls := hown
  have hl : lv_has ls 1 [(0, .ref o_)] := hl
  obtain ⟨hP, hD, hK, hZ, hk0, hge, rfl⟩ := hB
  have hA : ∀ q : Nat, s.heap.size ≤ q → va_A [(o_, .inr (8, [.int f0, .null, .int f2]))] s.heap.size q := fun q h => Or.inr h
  have hAn : ∀ q : Nat, va_A [(o_, .inr (8, [.int f0, .null, .int f2]))] s.heap.size q → κ.1 ≤ q := fun q h => by
    rcases h with ⟨k, e, h⟩ | h
    · exact hge k _ h
    · exact Nat.le_trans hk0 h
  have hS : va_S (va_A [(o_, .inr (8, [.int f0, .null, .int f2]))] s.heap.size) s.heap s.heap [] := va_S.rf
  have hP : va_P D vwCl [(o_, .inr (8, [.int f0, .null, .int f2]))] s.heap := hP
  have hD : va_D (va_A [(o_, .inr (8, [.int f0, .null, .int f2]))] s.heap.size) [(o_, .inr (8, [.int f0, .null, .int f2]))] := hD
  refine lv_aload_n hx hb dJ0_init_0 rfl (lv_at hl 0 rfl) ?_
  refine W.objInit hx hb hown (hts _ q180) (hts _ q115) (hts _ q116) rfl (by rw [hml]; exact hl.1) rfl dJ0_init_1 (Nat.le_of_ble_eq_true rfl) (Nat.le_of_ble_eq_true rfl) ?_
  refine W.eq (g2 := F0 m 4 ls []) rfl ?_
  exact ar_v () hQ hx hb hr hlocks hP hD hS (Nat.le_of_ble_eq_true rfl) (Nat.le_of_ble_eq_true rfl) (rfl) [0] (rfl) (rfl) rfl dJ0_init_4

def rmJ1_init : Room := { frames := 2, cells := 0, slots := 0, locals := 44 }
set_option maxHeartbeats 1000000 in
theorem mt_J1_init (l : Launch) (D : va_G) (dA : Nat → ClassId) (κ : KZ) (sz : Nat) (o_ : Nat) (f0 : Int32) (f2 : Int32) : Met l yJ1_init (ws_ yJ1_init cJ1_init 1 none) rmJ1_init (va_Pc [.ref o_] (aB D dA κ [(o_, .inr (8, [.int f0, .null, .int f2]))] sz)) (aQ (fun (_ : Unit) => (none, [(o_, .inr (8, [.int 0, .null, .int f2]))])) D [(o_, .inr (8, [.int f0, .null, .int f2]))] sz) 0 0 (va_A [(o_, .inr (8, [.int f0, .null, .int f2]))] sz) := by
  refine w_start (by decide) (Nat.le_of_ble_eq_true rfl) ?_
  intro p e s m args below meth c Q ls hQ hx hb hr hlocks hml hown hnm hts hB hl
  have hown : s.vm.findClass RJ1 = some m.cls := hown
  have hl : lv_has ls 1 [(0, .ref o_)] := hl
  obtain ⟨hP, hD, hK, hZ, hk0, hge, rfl⟩ := hB
  have hA : ∀ q : Nat, s.heap.size ≤ q → va_A [(o_, .inr (8, [.int f0, .null, .int f2]))] s.heap.size q := fun q h => Or.inr h
  have hAn : ∀ q : Nat, va_A [(o_, .inr (8, [.int f0, .null, .int f2]))] s.heap.size q → κ.1 ≤ q := fun q h => by
    rcases h with ⟨k, e, h⟩ | h
    · exact hge k _ h
    · exact Nat.le_trans hk0 h
  have hS : va_S (va_A [(o_, .inr (8, [.int f0, .null, .int f2]))] s.heap.size) s.heap s.heap [] := va_S.rf
  have hP : va_P D vwCl [(o_, .inr (8, [.int f0, .null, .int f2]))] s.heap := hP
  have hD : va_D (va_A [(o_, .inr (8, [.int f0, .null, .int f2]))] s.heap.size) [(o_, .inr (8, [.int f0, .null, .int f2]))] := hD
  refine lv_aload_n hx hb dJ1_init_0 rfl (lv_at hl 0 rfl) ?_
  refine aI (wc := [(o_, .inr (8, [.int f0, .null, .int f2]))]) (wr := []) (As := []) (rest := []) ⟨hx, hb, hml, hown, hts⟩ (mt_J0_init l D dA κ s.heap.size o_ f0 f2) (cwI 0 hts (lw_meth q179) rfl rfl rfl (hts _ q79) (hts _ q177) (hts _ q178) rfl (by decide +kernel) ⟨Nat.le_of_ble_eq_true rfl, Nat.le_of_ble_eq_true rfl⟩) (a_now hK hZ hP hD hS hk0 hAn [0] rfl rfl rfl) rfl hl.1 rfl (Nat.le_of_ble_eq_true rfl) dJ1_init_1 ⟨Nat.le_of_ble_eq_true rfl, Nat.le_of_ble_eq_true rfl⟩ hP hD hS hA [0] [] rfl rfl rfl (by decide) (fun u H locs hP hD hS => ?_)
  have hP : va_P D vwCl [(o_, .inr (8, [.int f0, .null, .int f2]))] H := hP
  have hD : va_D (va_A [(o_, .inr (8, [.int f0, .null, .int f2]))] s.heap.size) [(o_, .inr (8, [.int f0, .null, .int f2]))] := hD
  change W p l e rmJ1_init s m args below meth c H locs 0 0 Q (F0 m 4 ls [])
  refine lv_aload_n hx hb dJ1_init_4 rfl (lv_at hl 0 rfl) ?_
  refine lv_iconst (v := 0) hx hb dJ1_init_5 rfl ?_
  refine va_put (D := D) (ci := 8) (v := .int 0) (ty := .int) (C := RJ2) (T := TJ2) (N := 3) hx hb hts in_J2 tyJ2 tyJ2_ok nmJ2 hown hK hP hD hS 0 rfl rfl 0 (by decide) (hts _ q185) (fun _ h9 => h9) rfl (by decide +kernel) (rfl) (rfl) (Nat.le_of_ble_eq_true rfl) dJ1_init_6 (fun H locs hP hD hS => ?_)
  have hP : va_P D vwCl [(o_, .inr (8, [.int 0, .null, .int f2]))] H := hP
  have hD : va_D (va_A [(o_, .inr (8, [.int f0, .null, .int f2]))] s.heap.size) [(o_, .inr (8, [.int 0, .null, .int f2]))] := hD
  exact ar_v () hQ hx hb hr hlocks hP hD hS (Nat.le_of_ble_eq_true rfl) (Nat.le_of_ble_eq_true rfl) (rfl) [0] (rfl) (rfl) rfl dJ1_init_9

def rmJ2_init : Room := { frames := 3, cells := 0, slots := 0, locals := 64 }
set_option maxHeartbeats 1000000 in
theorem mt_J2_init (l : Launch) (D : va_G) (dA : Nat → ClassId) (κ : KZ) (sz : Nat) (o_ : Nat) (f0 : Int32) (f2 : Int32) : Met l yJ2_init (ws_ yJ2_init cJ2_init 1 none) rmJ2_init (va_Pc [.ref o_] (aB D dA κ [(o_, .inr (8, [.int f0, .null, .int f2]))] sz)) (aQ (fun (_ : Unit) => (none, [(o_, .inr (8, [.int 0, .ref (κ.2.1 0), .int f2]))])) D [(o_, .inr (8, [.int f0, .null, .int f2]))] sz) 0 0 (va_A [(o_, .inr (8, [.int f0, .null, .int f2]))] sz) := by
  refine w_start (by decide) (Nat.le_of_ble_eq_true rfl) ?_
  intro p e s m args below meth c Q ls hQ hx hb hr hlocks hml hown hnm hts hB hl
  have hown : s.vm.findClass RJ2 = some m.cls := hown
  have hl : lv_has ls 1 [(0, .ref o_)] := hl
  obtain ⟨hP, hD, hK, hZ, hk0, hge, rfl⟩ := hB
  have hA : ∀ q : Nat, s.heap.size ≤ q → va_A [(o_, .inr (8, [.int f0, .null, .int f2]))] s.heap.size q := fun q h => Or.inr h
  have hAn : ∀ q : Nat, va_A [(o_, .inr (8, [.int f0, .null, .int f2]))] s.heap.size q → κ.1 ≤ q := fun q h => by
    rcases h with ⟨k, e, h⟩ | h
    · exact hge k _ h
    · exact Nat.le_trans hk0 h
  have hS : va_S (va_A [(o_, .inr (8, [.int f0, .null, .int f2]))] s.heap.size) s.heap s.heap [] := va_S.rf
  have hP : va_P D vwCl [(o_, .inr (8, [.int f0, .null, .int f2]))] s.heap := hP
  have hD : va_D (va_A [(o_, .inr (8, [.int f0, .null, .int f2]))] s.heap.size) [(o_, .inr (8, [.int f0, .null, .int f2]))] := hD
  refine lv_aload_n hx hb dJ2_init_0 rfl (lv_at hl 0 rfl) ?_
  refine aI (wc := [(o_, .inr (8, [.int f0, .null, .int f2]))]) (wr := []) (As := []) (rest := []) ⟨hx, hb, hml, hown, hts⟩ (mt_J1_init l D dA κ s.heap.size o_ f0 f2) (cwI 0 hts (lw_meth q176) rfl rfl rfl (hts _ q80) (hts _ q174) (hts _ q175) rfl (by decide +kernel) ⟨Nat.le_of_ble_eq_true rfl, Nat.le_of_ble_eq_true rfl⟩) (a_now hK hZ hP hD hS hk0 hAn [0] rfl rfl rfl) rfl hl.1 rfl (Nat.le_of_ble_eq_true rfl) dJ2_init_1 ⟨Nat.le_of_ble_eq_true rfl, Nat.le_of_ble_eq_true rfl⟩ hP hD hS hA [0] [] rfl rfl rfl (by decide) (fun u H locs hP hD hS => ?_)
  have hP : va_P D vwCl [(o_, .inr (8, [.int 0, .null, .int f2]))] H := hP
  have hD : va_D (va_A [(o_, .inr (8, [.int f0, .null, .int f2]))] s.heap.size) [(o_, .inr (8, [.int 0, .null, .int f2]))] := hD
  change W p l e rmJ2_init s m args below meth c H locs 0 0 Q (F0 m 4 ls [])
  refine lv_aload_n hx hb dJ2_init_4 rfl (lv_at hl 0 rfl) ?_
  refine va_gets (v := .ref (κ.2.1 0)) hx hb (va_Z.narrow hZ.1.2.1 hAn) hS hown (hts _ q181) (fun _ h9 => h9) dJ2_init_5 ?_
  refine va_put (D := D) (ci := 8) (v := .ref (κ.2.1 0)) (ty := (.array (.object "java/lang/Object"))) (C := RJ2) (T := TJ2) (N := 3) hx hb hts in_J2 tyJ2 tyJ2_ok nmJ2 hown hK hP hD hS 0 rfl rfl 1 (by decide) (hts _ q183) (fun _ h9 => h9) rfl (by decide +kernel) (rfl) (rfl) (Nat.le_of_ble_eq_true rfl) dJ2_init_8 (fun H locs hP hD hS => ?_)
  have hP : va_P D vwCl [(o_, .inr (8, [.int 0, .ref (κ.2.1 0), .int f2]))] H := hP
  have hD : va_D (va_A [(o_, .inr (8, [.int f0, .null, .int f2]))] s.heap.size) [(o_, .inr (8, [.int 0, .ref (κ.2.1 0), .int f2]))] := hD
  exact ar_v () hQ hx hb hr hlocks hP hD hS (Nat.le_of_ble_eq_true rfl) (Nat.le_of_ble_eq_true rfl) (rfl) [0] (rfl) (rfl) rfl dJ2_init_11
