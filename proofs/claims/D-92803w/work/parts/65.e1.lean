/-! TEXT 1: StringBuilder, String -/
set_option maxRecDepth 100000

def rmJ3_init : Room := { frames := 1, cells := 1, slots := 16, locals := 24 }
set_option maxHeartbeats 1000000 in
theorem mt_J3_init (l : Launch) (D : va_G) (dA : Nat → ClassId) (κ : KZ) (sz : Nat) (o_ : Nat) : Met l yJ3_init (ws_ yJ3_init cJ3_init 2 none) rmJ3_init (va_Pc [.ref o_, .int (nI 16)] (aB D dA κ [(o_, .inr (10, [.null, .int 0, .int 0, .int 0]))] sz)) (aQ (fun (e_ : Nat) => (none, [(o_, .inr (10, [.ref e_, .int 0, .int 0, .int 0])), (e_, .inl (dA 1, 16, .inl (fun _ => 0)))])) D [(o_, .inr (10, [.null, .int 0, .int 0, .int 0]))] sz) 1 16 (va_A [(o_, .inr (10, [.null, .int 0, .int 0, .int 0]))] sz) := by
  refine w_start (by decide) (Nat.le_of_ble_eq_true rfl) ?_
  intro p e s m args below meth c Q ls hQ hx hb hr hlocks hml hown hnm hts hB hl
  have hown : s.vm.findClass RJ3 = some m.cls := hown
  have hl : lv_has ls 2 [(0, .ref o_), (1, .int (nI 16))] := hl
  obtain ⟨hP, hD, hK, hZ, hk0, hge, rfl⟩ := hB
  have hA : ∀ q : Nat, s.heap.size ≤ q → va_A [(o_, .inr (10, [.null, .int 0, .int 0, .int 0]))] s.heap.size q := fun q h => Or.inr h
  have hAn : ∀ q : Nat, va_A [(o_, .inr (10, [.null, .int 0, .int 0, .int 0]))] s.heap.size q → κ.1 ≤ q := fun q h => by
    rcases h with ⟨k, e, h⟩ | h
    · exact hge k _ h
    · exact Nat.le_trans hk0 h
  have hS : va_S (va_A [(o_, .inr (10, [.null, .int 0, .int 0, .int 0]))] s.heap.size) s.heap s.heap [] := va_S.rf
  have hP : va_P D vwCl [(o_, .inr (10, [.null, .int 0, .int 0, .int 0]))] s.heap := hP
  have hD : va_D (va_A [(o_, .inr (10, [.null, .int 0, .int 0, .int 0]))] s.heap.size) [(o_, .inr (10, [.null, .int 0, .int 0, .int 0]))] := hD
  refine lv_aload_n hx hb dJ3_init_0 rfl (lv_at hl 0 rfl) ?_
  refine W.objInit hx hb hown (hts _ q325) (hts _ q115) (hts _ q116) rfl (by rw [hml]; exact hl.1) rfl dJ3_init_1 (Nat.le_of_ble_eq_true rfl) (Nat.le_of_ble_eq_true rfl) ?_
  refine W.eq (g2 := F0 m 4 ls []) rfl ?_
  refine va_gets (v := .int 1) hx hb (va_Z.narrow hZ.1.1 hAn) hS hown (hts _ q326) (fun _ h9 => h9) dJ3_init_4 ?_
  refine lv_if_eq (tgt := 25) hx hb dJ3_init_7 rfl (fun h9 => ?_) (fun _ => ?_)
  · exact absurd h9 (by decide)
  refine lv_aload_n hx hb dJ3_init_10 rfl (lv_at hl 0 rfl) ?_
  refine lv_iload_n hx hb dJ3_init_11 rfl (lv_at hl 1 rfl) ?_
  refine va_newa (D := D) (atype := .byte) (ty := .byte) (n := nI 16) (N' := 16) (a0 := (16, .inl (fun _ => 0))) hx hb (hts _ q168) rfl hK hP hD hS hA (fun _ => rfl) (nI_pos (by omega)) (nI_clamp (by omega)) (Nat.le_of_ble_eq_true rfl) (Nat.le_of_ble_eq_true rfl) (Nat.le_of_ble_eq_true rfl) dJ3_init_12 (fun q_1 cA H hK9 hP hD hS => ?_)
  obtain rfl : cA = dA 1 := ra_uniq (hK9.2 7 _ rfl).2 (hK.2 1 _ rfl).2
  clear hK9
  have hP : va_P D vwCl [(o_, .inr (10, [.null, .int 0, .int 0, .int 0])), (q_1, .inl (dA 1, 16, .inl (fun _ => 0)))] H := hP
  have hD : va_D (va_A [(o_, .inr (10, [.null, .int 0, .int 0, .int 0]))] s.heap.size) [(o_, .inr (10, [.null, .int 0, .int 0, .int 0])), (q_1, .inl (dA 1, 16, .inl (fun _ => 0)))] := hD
  refine va_put (D := D) (ci := 10) (v := .ref q_1) (ty := (.array .byte)) (C := RJ4) (T := TJ4) (N := 4) hx hb hts in_J4 tyJ4 tyJ4_ok nmJ4 hown hK hP hD hS 0 rfl rfl 0 (by decide) (hts _ q335) (fun _ h9 => h9) rfl (by decide +kernel) (rfl) (rfl) (Nat.le_of_ble_eq_true rfl) dJ3_init_14 (fun H locs hP hD hS => ?_)
  have hP : va_P D vwCl [(o_, .inr (10, [.ref q_1, .int 0, .int 0, .int 0])), (q_1, .inl (dA 1, 16, .inl (fun _ => 0)))] H := hP
  have hD : va_D (va_A [(o_, .inr (10, [.null, .int 0, .int 0, .int 0]))] s.heap.size) [(o_, .inr (10, [.ref q_1, .int 0, .int 0, .int 0])), (q_1, .inl (dA 1, 16, .inl (fun _ => 0)))] := hD
  refine lv_aload_n hx hb dJ3_init_17 rfl (lv_at hl 0 rfl) ?_
  refine lv_iconst (v := 0) hx hb dJ3_init_18 rfl ?_
  refine va_put (D := D) (ci := 10) (v := .int 0) (ty := .byte) (C := RJ4) (T := TJ4) (N := 4) hx hb hts in_J4 tyJ4 tyJ4_ok nmJ4 hown hK hP hD hS 0 rfl rfl 1 (by decide) (hts _ q336) (fun _ h9 => h9) rfl (by decide +kernel) (rfl) (rfl) (Nat.le_of_ble_eq_true rfl) dJ3_init_19 (fun H locs hP hD hS => ?_)
  have hP : va_P D vwCl [(o_, .inr (10, [.ref q_1, .int 0, .int 0, .int 0])), (q_1, .inl (dA 1, 16, .inl (fun _ => 0)))] H := hP
  have hD : va_D (va_A [(o_, .inr (10, [.null, .int 0, .int 0, .int 0]))] s.heap.size) [(o_, .inr (10, [.ref q_1, .int 0, .int 0, .int 0])), (q_1, .inl (dA 1, 16, .inl (fun _ => 0)))] := hD
  refine lv_goto (tgt := 38) hx hb dJ3_init_22 rfl ?_
  exact ar_v q_1 hQ hx hb hr hlocks hP hD hS (Nat.le_of_ble_eq_true rfl) (Nat.le_of_ble_eq_true rfl) (rfl) [0, 1] (rfl) (rfl) rfl dJ3_init_38

def rmJ4_init : Room := { frames := 2, cells := 1, slots := 16, locals := 45 }
set_option maxHeartbeats 1000000 in
theorem mt_J4_init (l : Launch) (D : va_G) (dA : Nat → ClassId) (κ : KZ) (sz : Nat) (o_ : Nat) : Met l yJ4_init (ws_ yJ4_init cJ4_init 1 none) rmJ4_init (va_Pc [.ref o_] (aB D dA κ [(o_, .inr (10, [.null, .int 0, .int 0, .int 0]))] sz)) (aQ (fun (e_ : Nat) => (none, [(o_, .inr (10, [.ref e_, .int 0, .int 0, .int 0])), (e_, .inl (dA 1, 16, .inl (fun _ => 0)))])) D [(o_, .inr (10, [.null, .int 0, .int 0, .int 0]))] sz) 1 16 (va_A [(o_, .inr (10, [.null, .int 0, .int 0, .int 0]))] sz) := by
  refine w_start (by decide) (Nat.le_of_ble_eq_true rfl) ?_
  intro p e s m args below meth c Q ls hQ hx hb hr hlocks hml hown hnm hts hB hl
  have hown : s.vm.findClass RJ4 = some m.cls := hown
  have hl : lv_has ls 1 [(0, .ref o_)] := hl
  obtain ⟨hP, hD, hK, hZ, hk0, hge, rfl⟩ := hB
  have hA : ∀ q : Nat, s.heap.size ≤ q → va_A [(o_, .inr (10, [.null, .int 0, .int 0, .int 0]))] s.heap.size q := fun q h => Or.inr h
  have hAn : ∀ q : Nat, va_A [(o_, .inr (10, [.null, .int 0, .int 0, .int 0]))] s.heap.size q → κ.1 ≤ q := fun q h => by
    rcases h with ⟨k, e, h⟩ | h
    · exact hge k _ h
    · exact Nat.le_trans hk0 h
  have hS : va_S (va_A [(o_, .inr (10, [.null, .int 0, .int 0, .int 0]))] s.heap.size) s.heap s.heap [] := va_S.rf
  have hP : va_P D vwCl [(o_, .inr (10, [.null, .int 0, .int 0, .int 0]))] s.heap := hP
  have hD : va_D (va_A [(o_, .inr (10, [.null, .int 0, .int 0, .int 0]))] s.heap.size) [(o_, .inr (10, [.null, .int 0, .int 0, .int 0]))] := hD
  refine lv_aload_n hx hb dJ4_init_0 rfl (lv_at hl 0 rfl) ?_
  refine lv_bipush (v := 16) hx hb dJ4_init_1 rfl ?_
  refine aI (wc := [(o_, .inr (10, [.null, .int 0, .int 0, .int 0]))]) (wr := []) (As := [.int 16]) (rest := []) ⟨hx, hb, hml, hown, hts⟩ (mt_J3_init l D dA κ s.heap.size o_) (cwI 1 hts (lw_meth q324) rfl rfl rfl (hts _ q85) (hts _ q322) (hts _ q323) rfl (by decide +kernel) ⟨Nat.le_of_ble_eq_true rfl, Nat.le_of_ble_eq_true rfl⟩) (a_now hK hZ hP hD hS hk0 hAn [0] rfl rfl rfl) rfl hl.1 rfl (Nat.le_of_ble_eq_true rfl) dJ4_init_3 ⟨Nat.le_of_ble_eq_true rfl, Nat.le_of_ble_eq_true rfl⟩ hP hD hS hA [0] [] rfl rfl rfl (by decide) (fun e__1 H locs hP hD hS => ?_)
  have hP : va_P D vwCl [(o_, .inr (10, [.ref e__1, .int 0, .int 0, .int 0])), (e__1, .inl (dA 1, 16, .inl (fun _ => 0)))] H := hP
  have hD : va_D (va_A [(o_, .inr (10, [.null, .int 0, .int 0, .int 0]))] s.heap.size) [(o_, .inr (10, [.ref e__1, .int 0, .int 0, .int 0])), (e__1, .inl (dA 1, 16, .inl (fun _ => 0)))] := hD
  change W p l e rmJ4_init s m args below meth c H locs 1 16 Q (F0 m 6 ls [])
  exact ar_v e__1 hQ hx hb hr hlocks hP hD hS (Nat.le_of_ble_eq_true rfl) (Nat.le_of_ble_eq_true rfl) (rfl) [0, 1] (rfl) (rfl) rfl dJ4_init_6

def rmJ3_isLatin1 : Room := { frames := 0, cells := 0, slots := 0, locals := 0 }
set_option maxHeartbeats 1000000 in
theorem mt_J3_isLatin1 (l : Launch) (D : va_G) (dA : Nat → ClassId) (κ : KZ) (sz : Nat) (o_ : Nat) (e_ : Nat) (k_ : Nat) : Met l yJ3_isLatin1 (ws_ yJ3_isLatin1 cJ3_isLatin1 1 (some .boolean)) rmJ3_isLatin1 (va_Pc [.ref o_] (aB D dA κ [(o_, .inr (10, [.ref e_, .int 0, .int 0, .int (nI k_)]))] sz)) (aQ (fun (_ : Unit) => ((some (.int 1)), [(o_, .inr (10, [.ref e_, .int 0, .int 0, .int (nI k_)]))])) D [(o_, .inr (10, [.ref e_, .int 0, .int 0, .int (nI k_)]))] sz) 0 0 (va_A [(o_, .inr (10, [.ref e_, .int 0, .int 0, .int (nI k_)]))] sz) := by
  refine w_start (by decide) (Nat.le_of_ble_eq_true rfl) ?_
  intro p e s m args below meth c Q ls hQ hx hb hr hlocks hml hown hnm hts hB hl
  have hown : s.vm.findClass RJ3 = some m.cls := hown
  have hl : lv_has ls 1 [(0, .ref o_)] := hl
  obtain ⟨hP, hD, hK, hZ, hk0, hge, rfl⟩ := hB
  have hA : ∀ q : Nat, s.heap.size ≤ q → va_A [(o_, .inr (10, [.ref e_, .int 0, .int 0, .int (nI k_)]))] s.heap.size q := fun q h => Or.inr h
  have hAn : ∀ q : Nat, va_A [(o_, .inr (10, [.ref e_, .int 0, .int 0, .int (nI k_)]))] s.heap.size q → κ.1 ≤ q := fun q h => by
    rcases h with ⟨k, e, h⟩ | h
    · exact hge k _ h
    · exact Nat.le_trans hk0 h
  have hS : va_S (va_A [(o_, .inr (10, [.ref e_, .int 0, .int 0, .int (nI k_)]))] s.heap.size) s.heap s.heap [] := va_S.rf
  have hP : va_P D vwCl [(o_, .inr (10, [.ref e_, .int 0, .int 0, .int (nI k_)]))] s.heap := hP
  have hD : va_D (va_A [(o_, .inr (10, [.ref e_, .int 0, .int 0, .int (nI k_)]))] s.heap.size) [(o_, .inr (10, [.ref e_, .int 0, .int 0, .int (nI k_)]))] := hD
  refine va_gets (v := .int 1) hx hb (va_Z.narrow hZ.1.1 hAn) hS hown (hts _ q326) (fun _ h9 => h9) dJ3_isLatin1_0 ?_
  refine lv_if_eq (tgt := 17) hx hb dJ3_isLatin1_3 rfl (fun h9 => ?_) (fun _ => ?_)
  · exact absurd h9 (by decide)
  refine lv_aload_n hx hb dJ3_isLatin1_6 rfl (lv_at hl 0 rfl) ?_
  refine va_get (D := D) (ci := 10) (v := .int 0) (C := RJ4) (T := TJ4) (N := 4) hx hb hts in_J4 hown hK hP 0 rfl rfl 1 (by decide) (hts _ q336) (fun _ h9 => h9) rfl dJ3_isLatin1_7 ?_
  refine lv_if_ne (tgt := 17) hx hb dJ3_isLatin1_10 rfl (fun h9 => ?_) (fun _ => ?_)
  · exact absurd h9 (by decide)
  refine lv_iconst (v := 1) hx hb dJ3_isLatin1_13 rfl ?_
  refine lv_goto (tgt := 18) hx hb dJ3_isLatin1_14 rfl ?_
  exact ar_z () hQ hx hb hr hlocks (Or.inr rfl) hP hD hS (Nat.le_of_ble_eq_true rfl) (Nat.le_of_ble_eq_true rfl) (rfl) [0] (rfl) (rfl) rfl dJ3_isLatin1_18
