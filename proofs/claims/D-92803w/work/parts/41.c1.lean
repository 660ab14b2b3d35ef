/-! THE COMPONENT's METHODS 1: small rows, the JDK's small methods, lists, things -/
set_option maxRecDepth 100000
theorem p1 {D : va_G} {ws : va_W} {H : Heap} {q : Nat × va_E} (hP : va_P D vwCl ws H) (k : Nat) (hk : ws[k]? = some q) : va_P D vwCl [q] H := by
  intro j r hr
  cases j with
  | zero => cases hr; exact hP k _ hk
  | succ j => cases hr
theorem lwm5 {a b c d e : Cond} (h1 : a ∈ lw_all) (h2 : b ∈ lw_all) (h3 : c ∈ lw_all) (h4 : d ∈ lw_all) (h5 : e ∈ lw_all) : ∀ w ∈ [a, b, c, d, e], w ∈ lw_all := by
  intro w hw
  simp only [List.mem_cons, List.not_mem_nil, or_false] at hw
  rcases hw with z | z | z | z | z <;> rw [z] <;> assumption
theorem lwm6 {a b c d e f : Cond} (h1 : a ∈ lw_all) (h2 : b ∈ lw_all) (h3 : c ∈ lw_all) (h4 : d ∈ lw_all) (h5 : e ∈ lw_all) (h6 : f ∈ lw_all) : ∀ w ∈ [a, b, c, d, e, f], w ∈ lw_all := by
  intro w hw
  simp only [List.mem_cons, List.not_mem_nil, or_false] at hw
  rcases hw with z | z | z | z | z | z <;> rw [z] <;> assumption
theorem cO_t {μ : Lay} {σ : St} {c : Nat} (h : hasP σ.told (nI c)) : va_rf (cO μ σ c) = .ref (μ.cA c) := by
  unfold cO
  rw [if_pos h]; rfl
theorem cO_n {μ : Lay} {σ : St} {c : Nat} (h : ¬ hasP σ.told (nI c)) : va_rf (cO μ σ c) = .null := by
  unfold cO
  rw [if_neg h]; rfl
theorem rf_s {g : Nat → Option Nat} {i v : Nat} (h : g i = some v) : va_rf (g i) = .ref v := by rw [h]; rfl

def rmJ11_checkIndex : Room := { frames := 0, cells := 0, slots := 0, locals := 0 }
set_option maxHeartbeats 1000000 in
theorem mt_J11_checkIndex (l : Launch) (i_ : Nat) (n_ : Nat) (hi : i_ < n_) (hn : n_ < 2 ^ 31) : Met l yJ11_checkIndex (ws_ yJ11_checkIndex cJ11_checkIndex 3 (some .int)) rmJ11_checkIndex (va_Pc [.int (nI i_), .int (nI n_), .null] (fun _ => True)) (vp_Si (fun r => r = nI i_)) 0 0 (fun _ => False) := by
  refine w_start (by decide) (Nat.le_of_ble_eq_true rfl) ?_
  intro p e s m args below meth c Q ls hQ hx hb hr hlocks hml hown hnm hts hB hl
  have hown : s.vm.findClass RJ11 = some m.cls := hown
  have hl : lv_has ls 3 [(0, .int (nI i_)), (1, .int (nI n_)), (2, .null)] := hl
  refine lv_iload_n hx hb dJ11_checkIndex_0 rfl (lv_at hl 0 rfl) ?_
  refine lv_if_lt (tgt := 9) hx hb dJ11_checkIndex_1 rfl (fun h1 => ?_) (fun h1 => ?_)
  · have h1 : i_ < 0 := (nz_lt (a := i_) (b := 0) rfl rfl (by omega) (by omega)).mp h1
    exact absurd h1 (Nat.not_lt_zero _)
  · have h1 : ¬ (i_ < 0) := fun z9 => h1 ((nz_lt (a := i_) (b := 0) rfl rfl (by omega) (by omega)).mpr z9)
    refine lv_iload_n hx hb dJ11_checkIndex_4 rfl (lv_at hl 0 rfl) ?_
    refine lv_iload_n hx hb dJ11_checkIndex_5 rfl (lv_at hl 1 rfl) ?_
    refine lv_icmp_lt (tgt := 16) hx hb dJ11_checkIndex_6 rfl (fun h6 => ?_) (fun h6 => ?_)
    · have h6 : i_ < n_ := (nz_lt (a := i_) (b := n_) rfl rfl (by omega) (by omega)).mp h6
      refine lv_iload_n hx hb dJ11_checkIndex_16 rfl (lv_at hl 0 rfl) ?_
      exact r_i hQ hx hb hr hlocks rfl (rfl) dJ11_checkIndex_17
    · have h6 : ¬ (i_ < n_) := fun z9 => h6 ((nz_lt (a := i_) (b := n_) rfl rfl (by omega) (by omega)).mpr z9)
      exact absurd hi h6

theorem cw_J18_J11_checkIndex {R : Room} {s : State} {args : Array Value} (hts : ∀ w ∈ lw_all, w.before args s = true) (hR : rmJ11_checkIndex.frames + 1 ≤ R.frames ∧ 8 + (3 + 11) + rmJ11_checkIndex.locals ≤ R.locals) : CallB R s args RJ18 105 yJ11_checkIndex cJ11_checkIndex 3 (some .int) (ws_ yJ11_checkIndex cJ11_checkIndex 3 (some .int)) rmJ11_checkIndex 0 0 3 ∧ (Cond.static yJ11_checkIndex).before args s = true := va_cwS 3 hts (lw_S q853 q441 q94 q442) rfl rfl rfl (by decide +kernel) hR
def rmJ18_checkIndex : Room := { frames := 1, cells := 0, slots := 0, locals := 22 }
set_option maxHeartbeats 1000000 in
theorem mt_J18_checkIndex (l : Launch) (i_ : Nat) (n_ : Nat) (hi : i_ < n_) (hn : n_ < 2 ^ 31) : Met l yJ18_checkIndex (ws_ yJ18_checkIndex cJ18_checkIndex 2 (some .int)) rmJ18_checkIndex (va_Pc [.int (nI i_), .int (nI n_)] (fun _ => True)) (vp_Si (fun r => r = nI i_)) 0 0 (fun _ => False) := by
  refine w_start (by decide) (Nat.le_of_ble_eq_true rfl) ?_
  intro p e s m args below meth c Q ls hQ hx hb hr hlocks hml hown hnm hts hB hl
  have hown : s.vm.findClass RJ18 = some m.cls := hown
  have hl : lv_has ls 2 [(0, .int (nI i_)), (1, .int (nI n_))] := hl
  refine lv_iload_n hx hb dJ18_checkIndex_0 rfl (lv_at hl 0 rfl) ?_
  refine lv_iload_n hx hb dJ18_checkIndex_1 rfl (lv_at hl 1 rfl) ?_
  refine lv_null hx hb dJ18_checkIndex_2 ?_
  refine cSi (As := [.int (nI i_), .int (nI n_), .null]) (rest := []) ⟨hx, hb, hml, hown, hts⟩ (mt_J11_checkIndex l i_ n_ (by omega) (by omega)) (cw_J18_J11_checkIndex hts ⟨Nat.le_of_ble_eq_true rfl, Nat.le_of_ble_eq_true rfl⟩) w_blT (fun _ _ _ => trivial) rfl hl.1 rfl (Nat.le_of_ble_eq_true rfl) dJ18_checkIndex_3 ⟨Nat.le_of_ble_eq_true rfl, Nat.le_of_ble_eq_true rfl⟩ ?_
  exact r_i hQ hx hb hr hlocks rfl (rfl) dJ18_checkIndex_6

def rmJ14_lowestOneBit : Room := { frames := 0, cells := 0, slots := 0, locals := 0 }
set_option maxHeartbeats 1000000 in
theorem mt_J14_lowestOneBit (l : Launch) (a : Int32) : Met l yJ14_lowestOneBit (ws_ yJ14_lowestOneBit cJ14_lowestOneBit 1 (some .int)) rmJ14_lowestOneBit (va_Pc [.int a] (fun _ => True)) (vp_Si (fun r => r = a &&& (-a))) 0 0 (fun _ => False) := by
  refine w_start (by decide) (Nat.le_of_ble_eq_true rfl) ?_
  intro p e s m args below meth c Q ls hQ hx hb hr hlocks hml hown hnm hts hB hl
  have hown : s.vm.findClass RJ14 = some m.cls := hown
  have hl : lv_has ls 1 [(0, .int a)] := hl
  refine lv_iload_n hx hb dJ14_lowestOneBit_0 rfl (lv_at hl 0 rfl) ?_
  refine lv_iload_n hx hb dJ14_lowestOneBit_1 rfl (lv_at hl 0 rfl) ?_
  refine lv_ineg hx hb dJ14_lowestOneBit_2 ?_
  refine lv_iand hx hb dJ14_lowestOneBit_3 ?_
  exact r_i hQ hx hb hr hlocks rfl (rfl) dJ14_lowestOneBit_4

def rmJ2_size : Room := { frames := 0, cells := 0, slots := 0, locals := 0 }
set_option maxHeartbeats 1000000 in
theorem mt_J2_size (l : Launch) (D : va_G) (dA : Nat → ClassId) (o_ : Nat) (e_ : Nat) (mc_ : Int32) (n_ : Nat) : Met l yJ2_size (ws_ yJ2_size cJ2_size 1 (some .int)) rmJ2_size (va_Pc [.ref o_] (pB D dA [(o_, .inr (8, [.int mc_, .ref e_, .int (nI n_)]))])) (roQ (.int (nI n_))) 0 0 (fun _ => False) := by
  refine w_start (by decide) (Nat.le_of_ble_eq_true rfl) ?_
  intro p e s m args below meth c Q ls hQ hx hb hr hlocks hml hown hnm hts hB hl
  have hown : s.vm.findClass RJ2 = some m.cls := hown
  have hl : lv_has ls 1 [(0, .ref o_)] := hl
  obtain ⟨hP, hK⟩ := hB
  have hP : va_P D vwCl [(o_, .inr (8, [.int mc_, .ref e_, .int (nI n_)]))] s.heap := hP
  refine lv_aload_n hx hb dJ2_size_0 rfl (lv_at hl 0 rfl) ?_
  refine va_get (D := D) (ci := 8) (v := .int (nI n_)) (C := RJ2) (T := TJ2) (N := 3) hx hb hts in_J2 hown hK hP 0 rfl rfl 2 (by decide) (hts _ q184) (fun _ h9 => h9) rfl dJ2_size_1 ?_
  exact q_i hQ hx hb hr hlocks rfl (rfl) dJ2_size_4

def rmJ2_isEmpty : Room := { frames := 0, cells := 0, slots := 0, locals := 0 }
set_option maxHeartbeats 1000000 in
theorem mt_J2_isEmpty (l : Launch) (D : va_G) (dA : Nat → ClassId) (o_ : Nat) (e_ : Nat) (mc_ : Int32) (n_ : Nat) (hn : n_ < 2 ^ 31) : Met l yJ2_isEmpty (ws_ yJ2_isEmpty cJ2_isEmpty 1 (some .boolean)) rmJ2_isEmpty (va_Pc [.ref o_] (pB D dA [(o_, .inr (8, [.int mc_, .ref e_, .int (nI n_)]))])) (roQ (.int (b01 (n_ = 0)))) 0 0 (fun _ => False) := by
  refine w_start (by decide) (Nat.le_of_ble_eq_true rfl) ?_
  intro p e s m args below meth c Q ls hQ hx hb hr hlocks hml hown hnm hts hB hl
  have hown : s.vm.findClass RJ2 = some m.cls := hown
  have hl : lv_has ls 1 [(0, .ref o_)] := hl
  obtain ⟨hP, hK⟩ := hB
  have hP : va_P D vwCl [(o_, .inr (8, [.int mc_, .ref e_, .int (nI n_)]))] s.heap := hP
  refine lv_aload_n hx hb dJ2_isEmpty_0 rfl (lv_at hl 0 rfl) ?_
  refine va_get (D := D) (ci := 8) (v := .int (nI n_)) (C := RJ2) (T := TJ2) (N := 3) hx hb hts in_J2 hown hK hP 0 rfl rfl 2 (by decide) (hts _ q184) (fun _ h9 => h9) rfl dJ2_isEmpty_1 ?_
  refine lv_if_ne (tgt := 11) hx hb dJ2_isEmpty_4 rfl (fun h4 => ?_) (fun h4 => ?_)
  · have h4 : ¬ (n_ = 0) := fun z9 => h4 ((nz_eq (a := n_) (b := 0) rfl rfl (by omega) (by omega)).mpr z9)
    refine lv_iconst (v := 0) hx hb dJ2_isEmpty_11 rfl ?_
    exact q_z hQ hx hb hr hlocks rfl (Or.inl rfl) ((b01_f h4).symm) dJ2_isEmpty_12
  · have h4 : n_ = 0 := (nz_eq (a := n_) (b := 0) rfl rfl (by omega) (by omega)).mp h4
    refine lv_iconst (v := 1) hx hb dJ2_isEmpty_7 rfl ?_
    refine lv_goto (tgt := 12) hx hb dJ2_isEmpty_8 rfl ?_
    exact q_z hQ hx hb hr hlocks rfl (Or.inr rfl) ((b01_t h4).symm) dJ2_isEmpty_12

def rmJ2_elementData : Room := { frames := 0, cells := 0, slots := 0, locals := 0 }
set_option maxHeartbeats 1000000 in
theorem mt_J2_elementData (l : Launch) (D : va_G) (dA : Nat → ClassId) (o_ : Nat) (e_ : Nat) (mc_ : Int32) (n_ : Nat) (N_ : Nat) (g_ : Nat → Option Nat) (i_ : Nat) (v_ : Nat) (hi : i_ < n_) (hn : n_ ≤ N_) (hN : N_ < 2 ^ 31) (hg : g_ i_ = some v_) : Met l yJ2_elementData (ws_ yJ2_elementData cJ2_elementData 2 (some (.object "java/lang/Object"))) rmJ2_elementData (va_Pc [.ref o_, .int (nI i_)] (pB D dA [(o_, .inr (8, [.int mc_, .ref e_, .int (nI n_)])), (e_, .inl (dA 3, rfs N_ g_))])) (roQ (.ref v_)) 0 0 (fun _ => False) := by
  refine w_start (by decide) (Nat.le_of_ble_eq_true rfl) ?_
  intro p e s m args below meth c Q ls hQ hx hb hr hlocks hml hown hnm hts hB hl
  have hown : s.vm.findClass RJ2 = some m.cls := hown
  have hl : lv_has ls 2 [(0, .ref o_), (1, .int (nI i_))] := hl
  obtain ⟨hP, hK⟩ := hB
  have hP : va_P D vwCl [(o_, .inr (8, [.int mc_, .ref e_, .int (nI n_)])), (e_, .inl (dA 3, rfs N_ g_))] s.heap := hP
  refine lv_aload_n hx hb dJ2_elementData_0 rfl (lv_at hl 0 rfl) ?_
  refine va_get (D := D) (ci := 8) (v := .ref e_) (C := RJ2) (T := TJ2) (N := 3) hx hb hts in_J2 hown hK hP 0 rfl rfl 1 (by decide) (hts _ q183) (fun _ h9 => h9) rfl dJ2_elementData_1 ?_
  refine lv_iload_n hx hb dJ2_elementData_4 rfl (lv_at hl 1 rfl) ?_
  refine wa_aald (v := .ref v_) hx hb hK hP 1 3 rfl rfl rfl (i_) (rfl) (by omega) (by omega) (rf_s hg) dJ2_elementData_5 ?_
  exact q_a hQ hx hb hr (Or.inl ⟨_, rfl⟩) hlocks rfl (rfl) dJ2_elementData_6

theorem cw_J2_J18_checkIndex {R : Room} {s : State} {args : Array Value} (hts : ∀ w ∈ lw_all, w.before args s = true) (hR : rmJ18_checkIndex.frames + 1 ≤ R.frames ∧ 8 + (2 + 11) + rmJ18_checkIndex.locals ≤ R.locals) : CallB R s args RJ2 118 yJ18_checkIndex cJ18_checkIndex 2 (some .int) (ws_ yJ18_checkIndex cJ18_checkIndex 2 (some .int)) rmJ18_checkIndex 0 0 2 ∧ (Cond.static yJ18_checkIndex).before args s = true := va_cwS 2 hts (lw_S q850 q851 q107 q852) rfl rfl rfl (by decide +kernel) hR
theorem cw_J2_J2_elementData {R : Room} {s : State} {args : Array Value} (hts : ∀ w ∈ lw_all, w.before args s = true) (hR : rmJ2_elementData.frames + 1 ≤ R.frames ∧ 8 + (2 + 11) + rmJ2_elementData.locals ≤ R.locals) : CallW R s args RJ2 RJ2 123 yJ2_elementData cJ2_elementData 2 (some (.object "java/lang/Object")) (ws_ yJ2_elementData cJ2_elementData 2 (some (.object "java/lang/Object"))) rmJ2_elementData 0 0 1 := cwV 1 hts (lw_V q854 q855 q856 q81 q857) rfl rfl rfl (by decide +kernel) hR
def rmJ2_get : Room := { frames := 2, cells := 0, slots := 0, locals := 43 }
set_option maxHeartbeats 1000000 in
theorem mt_J2_get (l : Launch) (D : va_G) (dA : Nat → ClassId) (o_ : Nat) (e_ : Nat) (mc_ : Int32) (n_ : Nat) (N_ : Nat) (g_ : Nat → Option Nat) (i_ : Nat) (v_ : Nat) (hi : i_ < n_) (hn : n_ ≤ N_) (hN : N_ < 2 ^ 31) (hg : g_ i_ = some v_) : Met l yJ2_get (ws_ yJ2_get cJ2_get 2 (some (.object "java/lang/Object"))) rmJ2_get (va_Pc [.ref o_, .int (nI i_)] (pB D dA [(o_, .inr (8, [.int mc_, .ref e_, .int (nI n_)])), (e_, .inl (dA 3, rfs N_ g_))])) (roQ (.ref v_)) 0 0 (fun _ => False) := by
  refine w_start (by decide) (Nat.le_of_ble_eq_true rfl) ?_
  intro p e s m args below meth c Q ls hQ hx hb hr hlocks hml hown hnm hts hB hl
  have hown : s.vm.findClass RJ2 = some m.cls := hown
  have hl : lv_has ls 2 [(0, .ref o_), (1, .int (nI i_))] := hl
  obtain ⟨hP, hK⟩ := hB
  have hP : va_P D vwCl [(o_, .inr (8, [.int mc_, .ref e_, .int (nI n_)])), (e_, .inl (dA 3, rfs N_ g_))] s.heap := hP
  refine lv_iload_n hx hb dJ2_get_0 rfl (lv_at hl 1 rfl) ?_
  refine lv_aload_n hx hb dJ2_get_1 rfl (lv_at hl 0 rfl) ?_
  refine va_get (D := D) (ci := 8) (v := .int (nI n_)) (C := RJ2) (T := TJ2) (N := 3) hx hb hts in_J2 hown hK hP 0 rfl rfl 2 (by decide) (hts _ q184) (fun _ h9 => h9) rfl dJ2_get_2 ?_
  refine cSi (As := [.int (nI i_), .int (nI n_)]) (rest := []) ⟨hx, hb, hml, hown, hts⟩ (mt_J18_checkIndex l i_ n_ hi (by omega)) (cw_J2_J18_checkIndex hts ⟨Nat.le_of_ble_eq_true rfl, Nat.le_of_ble_eq_true rfl⟩) w_blT (fun _ _ _ => trivial) rfl hl.1 rfl (Nat.le_of_ble_eq_true rfl) dJ2_get_5 ⟨Nat.le_of_ble_eq_true rfl, Nat.le_of_ble_eq_true rfl⟩ ?_
  refine lv_pop hx hb dJ2_get_8 rfl ?_
  refine lv_aload_n hx hb dJ2_get_9 rfl (lv_at hl 0 rfl) ?_
  refine lv_iload_n hx hb dJ2_get_10 rfl (lv_at hl 1 rfl) ?_
  refine dV (v := .ref v_) (As := [.int (nI i_)]) (rest := []) ⟨hx, hb, hml, hown, hts⟩ (mt_J2_elementData l D dA o_ e_ mc_ n_ N_ g_ i_ v_ hi hn hN hg) (cw_J2_J2_elementData hts ⟨Nat.le_of_ble_eq_true rfl, Nat.le_of_ble_eq_true rfl⟩) pB_bw (pB_now hK (pl2 (p1 hP 0 rfl) (p1 hP 1 rfl))) (va_recv hK hP (ci := 8) (q0 := 0) rfl rfl) rfl hl.1 rfl (Nat.le_of_ble_eq_true rfl) dJ2_get_11 ⟨Nat.le_of_ble_eq_true rfl, Nat.le_of_ble_eq_true rfl⟩ ?_
  exact q_a hQ hx hb hr (Or.inl ⟨_, rfl⟩) hlocks rfl (rfl) dJ2_get_14

abbrev metP (bag al on : Int32) : Prop := bag &&& al = al ∧ (on = 0 ∨ ¬ bag &&& on = 0)
def lefW (bag al on pa : Int32) : Int32 := bag &&& (((al ||| ((bag &&& on) &&& (-(bag &&& on)))) &&& pa) ^^^ (-1))

def rmX8_isMet_S : Room := { frames := 0, cells := 0, slots := 0, locals := 0 }
set_option maxHeartbeats 1000000 in
theorem mt_X8_isMet_S (l : Launch) (D : va_G) (dA : Nat → ClassId) (o_ : Nat) (al_ : Int32) (on_ : Int32) (lk_ : Int32) (mi_ : Int32) (bag : Int32) : Met l yX8_isMet (ws_ yX8_isMet cX8_isMet 2 (some .boolean)) rmX8_isMet_S (va_Pc [.ref o_, .int bag] (pB D dA [(o_, .inr (6, [.int al_, .int on_, .int lk_, .int mi_]))])) (roQ (.int (b01 (metP bag al_ on_)))) 0 0 (fun _ => False) := by
  refine w_start (by decide) (Nat.le_of_ble_eq_true rfl) ?_
  intro p e s m args below meth c Q ls hQ hx hb hr hlocks hml hown hnm hts hB hl
  have hown : s.vm.findClass RX8 = some m.cls := hown
  have hl : lv_has ls 2 [(0, .ref o_), (1, .int bag)] := hl
  obtain ⟨hP, hK⟩ := hB
  have hP : va_P D vwCl [(o_, .inr (6, [.int al_, .int on_, .int lk_, .int mi_]))] s.heap := hP
  refine lv_iload_n hx hb dX8_isMet_0 rfl (lv_at hl 1 rfl) ?_
  refine lv_aload_n hx hb dX8_isMet_1 rfl (lv_at hl 0 rfl) ?_
  refine va_get (D := D) (ci := 6) (v := .int al_) (C := RX9) (T := TX9) (N := 4) hx hb hts in_X9 hown hK hP 0 rfl rfl 0 (by decide) (hts _ q734) (fun _ h9 => h9) rfl dX8_isMet_2 ?_
  refine lv_iand hx hb dX8_isMet_5 ?_
  refine lv_aload_n hx hb dX8_isMet_6 rfl (lv_at hl 0 rfl) ?_
  refine va_get (D := D) (ci := 6) (v := .int al_) (C := RX9) (T := TX9) (N := 4) hx hb hts in_X9 hown hK hP 0 rfl rfl 0 (by decide) (hts _ q734) (fun _ h9 => h9) rfl dX8_isMet_7 ?_
  refine lv_icmp_ne (tgt := 33) hx hb dX8_isMet_10 rfl (fun h10 => ?_) (fun h10 => ?_)
  · have h10 : ¬ ((bag &&& al_) = al_) := h10
    refine lv_iconst (v := 0) hx hb dX8_isMet_33 rfl ?_
    exact q_z hQ hx hb hr hlocks rfl (Or.inl rfl) ((b01_f (by simp only [metP, eq_false h10, not_true_eq_false, not_false_eq_true, and_true, true_and, and_false, false_and, or_true, true_or, or_false, false_or, and_self, or_self, eq_self])).symm) dX8_isMet_34
  · have h10 : (bag &&& al_) = al_ := h10
    refine lv_aload_n hx hb dX8_isMet_13 rfl (lv_at hl 0 rfl) ?_
    refine va_get (D := D) (ci := 6) (v := .int on_) (C := RX9) (T := TX9) (N := 4) hx hb hts in_X9 hown hK hP 0 rfl rfl 1 (by decide) (hts _ q738) (fun _ h9 => h9) rfl dX8_isMet_14 ?_
    refine lv_if_eq (tgt := 29) hx hb dX8_isMet_17 rfl (fun h17 => ?_) (fun h17 => ?_)
    · have h17 : on_ = 0 := h17
      refine lv_iconst (v := 1) hx hb dX8_isMet_29 rfl ?_
      refine lv_goto (tgt := 34) hx hb dX8_isMet_30 rfl ?_
      exact q_z hQ hx hb hr hlocks rfl (Or.inr rfl) ((b01_t (by simp only [metP, eq_true h10, eq_true h17, not_true_eq_false, not_false_eq_true, and_true, true_and, and_false, false_and, or_true, true_or, or_false, false_or, and_self, or_self, eq_self])).symm) dX8_isMet_34
    · have h17 : ¬ (on_ = 0) := h17
      refine lv_iload_n hx hb dX8_isMet_20 rfl (lv_at hl 1 rfl) ?_
      refine lv_aload_n hx hb dX8_isMet_21 rfl (lv_at hl 0 rfl) ?_
      refine va_get (D := D) (ci := 6) (v := .int on_) (C := RX9) (T := TX9) (N := 4) hx hb hts in_X9 hown hK hP 0 rfl rfl 1 (by decide) (hts _ q738) (fun _ h9 => h9) rfl dX8_isMet_22 ?_
      refine lv_iand hx hb dX8_isMet_25 ?_
      refine lv_if_eq (tgt := 33) hx hb dX8_isMet_26 rfl (fun h26 => ?_) (fun h26 => ?_)
      · have h26 : (bag &&& on_) = 0 := h26
        refine lv_iconst (v := 0) hx hb dX8_isMet_33 rfl ?_
        exact q_z hQ hx hb hr hlocks rfl (Or.inl rfl) ((b01_f (by simp only [metP, eq_true h10, eq_false h17, eq_true h26, not_true_eq_false, not_false_eq_true, and_true, true_and, and_false, false_and, or_true, true_or, or_false, false_or, and_self, or_self, eq_self])).symm) dX8_isMet_34
      · have h26 : ¬ ((bag &&& on_) = 0) := h26
        refine lv_iconst (v := 1) hx hb dX8_isMet_29 rfl ?_
        refine lv_goto (tgt := 34) hx hb dX8_isMet_30 rfl ?_
        exact q_z hQ hx hb hr hlocks rfl (Or.inr rfl) ((b01_t (by simp only [metP, eq_true h10, eq_false h17, eq_false h26, not_true_eq_false, not_false_eq_true, and_true, true_and, and_false, false_and, or_true, true_or, or_false, false_or, and_self, or_self, eq_self])).symm) dX8_isMet_34

def rmX8_isMet_V : Room := { frames := 0, cells := 0, slots := 0, locals := 0 }
set_option maxHeartbeats 1000000 in
theorem mt_X8_isMet_V (l : Launch) (D : va_G) (dA : Nat → ClassId) (o_ : Nat) (al_ : Int32) (on_ : Int32) (bg_ : Int32) (bag : Int32) : Met l yX8_isMet (ws_ yX8_isMet cX8_isMet 2 (some .boolean)) rmX8_isMet_V (va_Pc [.ref o_, .int bag] (pB D dA [(o_, .inr (7, [.int al_, .int on_, .int bg_]))])) (roQ (.int (b01 (metP bag al_ on_)))) 0 0 (fun _ => False) := by
  refine w_start (by decide) (Nat.le_of_ble_eq_true rfl) ?_
  intro p e s m args below meth c Q ls hQ hx hb hr hlocks hml hown hnm hts hB hl
  have hown : s.vm.findClass RX8 = some m.cls := hown
  have hl : lv_has ls 2 [(0, .ref o_), (1, .int bag)] := hl
  obtain ⟨hP, hK⟩ := hB
  have hP : va_P D vwCl [(o_, .inr (7, [.int al_, .int on_, .int bg_]))] s.heap := hP
  refine lv_iload_n hx hb dX8_isMet_0 rfl (lv_at hl 1 rfl) ?_
  refine lv_aload_n hx hb dX8_isMet_1 rfl (lv_at hl 0 rfl) ?_
  refine va_get (D := D) (ci := 7) (v := .int al_) (C := RX10) (T := TX10) (N := 3) hx hb hts in_X10 hown hK hP 0 rfl rfl 0 (by decide) (hts _ q734) (fun _ h9 => h9) rfl dX8_isMet_2 ?_
  refine lv_iand hx hb dX8_isMet_5 ?_
  refine lv_aload_n hx hb dX8_isMet_6 rfl (lv_at hl 0 rfl) ?_
  refine va_get (D := D) (ci := 7) (v := .int al_) (C := RX10) (T := TX10) (N := 3) hx hb hts in_X10 hown hK hP 0 rfl rfl 0 (by decide) (hts _ q734) (fun _ h9 => h9) rfl dX8_isMet_7 ?_
  refine lv_icmp_ne (tgt := 33) hx hb dX8_isMet_10 rfl (fun h10 => ?_) (fun h10 => ?_)
  · have h10 : ¬ ((bag &&& al_) = al_) := h10
    refine lv_iconst (v := 0) hx hb dX8_isMet_33 rfl ?_
    exact q_z hQ hx hb hr hlocks rfl (Or.inl rfl) ((b01_f (by simp only [metP, eq_false h10, not_true_eq_false, not_false_eq_true, and_true, true_and, and_false, false_and, or_true, true_or, or_false, false_or, and_self, or_self, eq_self])).symm) dX8_isMet_34
  · have h10 : (bag &&& al_) = al_ := h10
    refine lv_aload_n hx hb dX8_isMet_13 rfl (lv_at hl 0 rfl) ?_
    refine va_get (D := D) (ci := 7) (v := .int on_) (C := RX10) (T := TX10) (N := 3) hx hb hts in_X10 hown hK hP 0 rfl rfl 1 (by decide) (hts _ q738) (fun _ h9 => h9) rfl dX8_isMet_14 ?_
    refine lv_if_eq (tgt := 29) hx hb dX8_isMet_17 rfl (fun h17 => ?_) (fun h17 => ?_)
    · have h17 : on_ = 0 := h17
      refine lv_iconst (v := 1) hx hb dX8_isMet_29 rfl ?_
      refine lv_goto (tgt := 34) hx hb dX8_isMet_30 rfl ?_
      exact q_z hQ hx hb hr hlocks rfl (Or.inr rfl) ((b01_t (by simp only [metP, eq_true h10, eq_true h17, not_true_eq_false, not_false_eq_true, and_true, true_and, and_false, false_and, or_true, true_or, or_false, false_or, and_self, or_self, eq_self])).symm) dX8_isMet_34
    · have h17 : ¬ (on_ = 0) := h17
      refine lv_iload_n hx hb dX8_isMet_20 rfl (lv_at hl 1 rfl) ?_
      refine lv_aload_n hx hb dX8_isMet_21 rfl (lv_at hl 0 rfl) ?_
      refine va_get (D := D) (ci := 7) (v := .int on_) (C := RX10) (T := TX10) (N := 3) hx hb hts in_X10 hown hK hP 0 rfl rfl 1 (by decide) (hts _ q738) (fun _ h9 => h9) rfl dX8_isMet_22 ?_
      refine lv_iand hx hb dX8_isMet_25 ?_
      refine lv_if_eq (tgt := 33) hx hb dX8_isMet_26 rfl (fun h26 => ?_) (fun h26 => ?_)
      · have h26 : (bag &&& on_) = 0 := h26
        refine lv_iconst (v := 0) hx hb dX8_isMet_33 rfl ?_
        exact q_z hQ hx hb hr hlocks rfl (Or.inl rfl) ((b01_f (by simp only [metP, eq_true h10, eq_false h17, eq_true h26, not_true_eq_false, not_false_eq_true, and_true, true_and, and_false, false_and, or_true, true_or, or_false, false_or, and_self, or_self, eq_self])).symm) dX8_isMet_34
      · have h26 : ¬ ((bag &&& on_) = 0) := h26
        refine lv_iconst (v := 1) hx hb dX8_isMet_29 rfl ?_
        refine lv_goto (tgt := 34) hx hb dX8_isMet_30 rfl ?_
        exact q_z hQ hx hb hr hlocks rfl (Or.inr rfl) ((b01_t (by simp only [metP, eq_true h10, eq_false h17, eq_false h26, not_true_eq_false, not_false_eq_true, and_true, true_and, and_false, false_and, or_true, true_or, or_false, false_or, and_self, or_self, eq_self])).symm) dX8_isMet_34

theorem cw_X8_J14_lowestOneBit {R : Room} {s : State} {args : Array Value} (hts : ∀ w ∈ lw_all, w.before args s = true) (hR : rmJ14_lowestOneBit.frames + 1 ≤ R.frames ∧ 8 + (1 + 11) + rmJ14_lowestOneBit.locals ≤ R.locals) : CallB R s args RX8 16 yJ14_lowestOneBit cJ14_lowestOneBit 1 (some .int) (ws_ yJ14_lowestOneBit cJ14_lowestOneBit 1 (some .int)) rmJ14_lowestOneBit 0 0 1 ∧ (Cond.static yJ14_lowestOneBit).before args s = true := va_cwS 1 hts (lw_S q898 q899 q99 q900) rfl rfl rfl (by decide +kernel) hR
def rmX8_left_S : Room := { frames := 1, cells := 0, slots := 0, locals := 20 }
set_option maxHeartbeats 1000000 in
theorem mt_X8_left_S (l : Launch) (D : va_G) (dA : Nat → ClassId) (o_ : Nat) (al_ : Int32) (on_ : Int32) (lk_ : Int32) (mi_ : Int32) (bag : Int32) (pa_ : Int32) : Met l yX8_left (ws_ yX8_left cX8_left 4 (some .int)) rmX8_left_S (va_Pc [.ref o_, .int bag, .int pa_] (pB D dA [(o_, .inr (6, [.int al_, .int on_, .int lk_, .int mi_]))])) (roQ (.int (lefW bag al_ on_ pa_))) 0 0 (fun _ => False) := by
  refine w_start (by decide) (Nat.le_of_ble_eq_true rfl) ?_
  intro p e s m args below meth c Q ls hQ hx hb hr hlocks hml hown hnm hts hB hl
  have hown : s.vm.findClass RX8 = some m.cls := hown
  have hl : lv_has ls 4 [(0, .ref o_), (1, .int bag), (2, .int pa_)] := hl
  obtain ⟨hP, hK⟩ := hB
  have hP : va_P D vwCl [(o_, .inr (6, [.int al_, .int on_, .int lk_, .int mi_]))] s.heap := hP
  refine lv_aload_n hx hb dX8_left_0 rfl (lv_at hl 0 rfl) ?_
  refine va_get (D := D) (ci := 6) (v := .int al_) (C := RX9) (T := TX9) (N := 4) hx hb hts in_X9 hown hK hP 0 rfl rfl 0 (by decide) (hts _ q734) (fun _ h9 => h9) rfl dX8_left_1 ?_
  refine lv_iload_n hx hb dX8_left_4 rfl (lv_at hl 1 rfl) ?_
  refine lv_aload_n hx hb dX8_left_5 rfl (lv_at hl 0 rfl) ?_
  refine va_get (D := D) (ci := 6) (v := .int on_) (C := RX9) (T := TX9) (N := 4) hx hb hts in_X9 hown hK hP 0 rfl rfl 1 (by decide) (hts _ q738) (fun _ h9 => h9) rfl dX8_left_6 ?_
  refine lv_iand hx hb dX8_left_9 ?_
  refine cSi (As := [.int (bag &&& on_)]) (rest := [.int al_]) ⟨hx, hb, hml, hown, hts⟩ (mt_J14_lowestOneBit l (bag &&& on_)) (cw_X8_J14_lowestOneBit hts ⟨Nat.le_of_ble_eq_true rfl, Nat.le_of_ble_eq_true rfl⟩) w_blT (fun _ _ _ => trivial) rfl hl.1 rfl (Nat.le_of_ble_eq_true rfl) dX8_left_10 ⟨Nat.le_of_ble_eq_true rfl, Nat.le_of_ble_eq_true rfl⟩ ?_
  refine lv_ior hx hb dX8_left_13 ?_
  refine lv_istore_n (lv' := [(3, .int (al_ ||| ((bag &&& on_) &&& (-(bag &&& on_))))), (0, .ref o_), (1, .int bag), (2, .int pa_)]) hx hb dX8_left_14 rfl hl (by decide) rfl (fun ls hl => ?_)
  refine lv_iload_n hx hb dX8_left_15 rfl (lv_at hl 2 rfl) ?_
  refine lv_iload_n hx hb dX8_left_16 rfl (lv_at hl 0 rfl) ?_
  refine lv_iload_n hx hb dX8_left_17 rfl (lv_at hl 3 rfl) ?_
  refine lv_iand hx hb dX8_left_18 ?_
  refine lv_iconst (v := (-1)) hx hb dX8_left_19 rfl ?_
  refine lv_ixor hx hb dX8_left_20 ?_
  refine lv_iand hx hb dX8_left_21 ?_
  exact q_i hQ hx hb hr hlocks rfl (rfl) dX8_left_22

abbrev savP (bg al on set : Int32) : Prop := ¬ metP bg al on ∧ metP (bg ||| set) al on

theorem cw_X10_X8_isMet_V_X10 {R : Room} {s : State} {args : Array Value} (hts : ∀ w ∈ lw_all, w.before args s = true) (hR : rmX8_isMet_V.frames + 1 ≤ R.frames ∧ 8 + (2 + 11) + rmX8_isMet_V.locals ≤ R.locals) : va_CU R s args RX10 RX10 "CarryUp$Want" 19 ⟨"CarryUp$Visit", "isMet", "(I)Z"⟩ yX8_isMet cX8_isMet 2 (some .boolean) (ws_ yX8_isMet cX8_isMet 2 (some .boolean)) rmX8_isMet_V 0 0 1 := va_cwU 1 hts (lw_app (lwm5 q1082 q1083 q1084 q886 q105) (lw_meth q887)) rfl rfl rfl rfl (by decide +kernel) hR
def rmX10_isSavedBy : Room := { frames := 1, cells := 0, slots := 0, locals := 21 }
set_option maxHeartbeats 1000000 in
theorem mt_X10_isSavedBy (l : Launch) (D : va_G) (dA : Nat → ClassId) (o_ : Nat) (al_ : Int32) (on_ : Int32) (bg_ : Int32) (set_ : Int32) : Met l yX10_isSavedBy (ws_ yX10_isSavedBy cX10_isSavedBy 2 (some .boolean)) rmX10_isSavedBy (va_Pc [.ref o_, .int set_] (pB D dA [(o_, .inr (7, [.int al_, .int on_, .int bg_]))])) (roQ (.int (b01 (savP bg_ al_ on_ set_)))) 0 0 (fun _ => False) := by
  refine w_start (by decide) (Nat.le_of_ble_eq_true rfl) ?_
  intro p e s m args below meth c Q ls hQ hx hb hr hlocks hml hown hnm hts hB hl
  have hown : s.vm.findClass RX10 = some m.cls := hown
  have hl : lv_has ls 2 [(0, .ref o_), (1, .int set_)] := hl
  obtain ⟨hP, hK⟩ := hB
  have hP : va_P D vwCl [(o_, .inr (7, [.int al_, .int on_, .int bg_]))] s.heap := hP
  refine lv_aload_n hx hb dX10_isSavedBy_0 rfl (lv_at hl 0 rfl) ?_
  refine lv_aload_n hx hb dX10_isSavedBy_1 rfl (lv_at hl 0 rfl) ?_
  refine va_get (D := D) (ci := 7) (v := .int bg_) (C := RX10) (T := TX10) (N := 3) hx hb hts in_X10 hown hK hP 0 rfl rfl 2 (by decide) (hts _ q1063) (fun _ h9 => h9) rfl dX10_isSavedBy_2 ?_
  refine dU (v := .int (b01 (metP bg_ al_ on_))) (As := [.int bg_]) (rest := []) ⟨hx, hb, hml, hown, hts⟩ (mt_X8_isMet_V l D dA o_ al_ on_ bg_ bg_) (cw_X10_X8_isMet_V_X10 hts ⟨Nat.le_of_ble_eq_true rfl, Nat.le_of_ble_eq_true rfl⟩) pB_bw (pB_now hK hP) (va_recv hK hP (ci := 7) (q0 := 0) rfl rfl) rfl hl.1 rfl (Nat.le_of_ble_eq_true rfl) dX10_isSavedBy_5 ⟨Nat.le_of_ble_eq_true rfl, Nat.le_of_ble_eq_true rfl⟩ ?_
  refine lv_if_ne (tgt := 28) hx hb dX10_isSavedBy_8 rfl (fun h8 => ?_) (fun h8 => ?_)
  · have h8 : metP bg_ al_ on_ := b01_n h8
    refine lv_iconst (v := 0) hx hb dX10_isSavedBy_28 rfl ?_
    exact q_z hQ hx hb hr hlocks rfl (Or.inl rfl) ((b01_f (by simp only [savP, eq_true h8, not_true_eq_false, not_false_eq_true, and_true, true_and, and_false, false_and, or_true, true_or, or_false, false_or, and_self, or_self, eq_self])).symm) dX10_isSavedBy_29
  · have h8 : ¬ (metP bg_ al_ on_) := b01_0.mp h8
    refine lv_aload_n hx hb dX10_isSavedBy_11 rfl (lv_at hl 0 rfl) ?_
    refine lv_aload_n hx hb dX10_isSavedBy_12 rfl (lv_at hl 0 rfl) ?_
    refine va_get (D := D) (ci := 7) (v := .int bg_) (C := RX10) (T := TX10) (N := 3) hx hb hts in_X10 hown hK hP 0 rfl rfl 2 (by decide) (hts _ q1063) (fun _ h9 => h9) rfl dX10_isSavedBy_13 ?_
    refine lv_iload_n hx hb dX10_isSavedBy_16 rfl (lv_at hl 1 rfl) ?_
    refine lv_ior hx hb dX10_isSavedBy_17 ?_
    refine dU (v := .int (b01 (metP (bg_ ||| set_) al_ on_))) (As := [.int (bg_ ||| set_)]) (rest := []) ⟨hx, hb, hml, hown, hts⟩ (mt_X8_isMet_V l D dA o_ al_ on_ bg_ (bg_ ||| set_)) (cw_X10_X8_isMet_V_X10 hts ⟨Nat.le_of_ble_eq_true rfl, Nat.le_of_ble_eq_true rfl⟩) pB_bw (pB_now hK hP) (va_recv hK hP (ci := 7) (q0 := 0) rfl rfl) rfl hl.1 rfl (Nat.le_of_ble_eq_true rfl) dX10_isSavedBy_18 ⟨Nat.le_of_ble_eq_true rfl, Nat.le_of_ble_eq_true rfl⟩ ?_
    refine lv_if_eq (tgt := 28) hx hb dX10_isSavedBy_21 rfl (fun h21 => ?_) (fun h21 => ?_)
    · have h21 : ¬ (metP (bg_ ||| set_) al_ on_) := b01_0.mp h21
      refine lv_iconst (v := 0) hx hb dX10_isSavedBy_28 rfl ?_
      exact q_z hQ hx hb hr hlocks rfl (Or.inl rfl) ((b01_f (by simp only [savP, eq_false h8, eq_false h21, not_true_eq_false, not_false_eq_true, and_true, true_and, and_false, false_and, or_true, true_or, or_false, false_or, and_self, or_self, eq_self])).symm) dX10_isSavedBy_29
    · have h21 : metP (bg_ ||| set_) al_ on_ := b01_n h21
      refine lv_iconst (v := 1) hx hb dX10_isSavedBy_24 rfl ?_
      refine lv_goto (tgt := 29) hx hb dX10_isSavedBy_25 rfl ?_
      exact q_z hQ hx hb hr hlocks rfl (Or.inr rfl) ((b01_t (by simp only [savP, eq_false h8, eq_true h21, not_true_eq_false, not_false_eq_true, and_true, true_and, and_false, false_and, or_true, true_or, or_false, false_or, and_self, or_self, eq_self])).symm) dX10_isSavedBy_29

def rmX7_place : Room := { frames := 0, cells := 0, slots := 0, locals := 0 }
set_option maxHeartbeats 1000000 in
theorem mt_X7_place (l : Launch) (D : va_G) (dA : Nat → ClassId) (o_ : Nat) (k_ : Nat) (l_ : Nat) (lk_ : Int32) (f_ : Nat → Int32) : Met l yX7_place (ws_ yX7_place cX7_place 1 (some .int)) rmX7_place (va_Pc [.ref o_] (pB D dA [(o_, .inr (5, [.ref k_, .ref l_, .int lk_])), (k_, .inl (dA 0, 6, .inl f_))])) (roQ (.int (f_ 0))) 0 0 (fun _ => False) := by
  refine w_start (by decide) (Nat.le_of_ble_eq_true rfl) ?_
  intro p e s m args below meth c Q ls hQ hx hb hr hlocks hml hown hnm hts hB hl
  have hown : s.vm.findClass RX7 = some m.cls := hown
  have hl : lv_has ls 1 [(0, .ref o_)] := hl
  obtain ⟨hP, hK⟩ := hB
  have hP : va_P D vwCl [(o_, .inr (5, [.ref k_, .ref l_, .int lk_])), (k_, .inl (dA 0, 6, .inl f_))] s.heap := hP
  refine lv_aload_n hx hb dX7_place_0 rfl (lv_at hl 0 rfl) ?_
  refine va_get (D := D) (ci := 5) (v := .ref k_) (C := RX7) (T := TX7) (N := 3) hx hb hts in_X7 hown hK hP 0 rfl rfl 0 (by decide) (hts _ q696) (fun _ h9 => h9) rfl dX7_place_1 ?_
  refine lv_iconst (v := 0) hx hb dX7_place_4 rfl ?_
  refine wa_iald1 (v := f_ 0) hx hb hK hP 1 0 rfl rfl (0) (rfl) (by omega) (by decide) (rfl) dX7_place_5 ?_
  exact q_i hQ hx hb hr hlocks rfl (rfl) dX7_place_6

def rmX7_worth : Room := { frames := 0, cells := 0, slots := 0, locals := 0 }
set_option maxHeartbeats 1000000 in
theorem mt_X7_worth (l : Launch) (D : va_G) (dA : Nat → ClassId) (o_ : Nat) (k_ : Nat) (l_ : Nat) (lk_ : Int32) (f_ : Nat → Int32) : Met l yX7_worth (ws_ yX7_worth cX7_worth 1 (some .int)) rmX7_worth (va_Pc [.ref o_] (pB D dA [(o_, .inr (5, [.ref k_, .ref l_, .int lk_])), (k_, .inl (dA 0, 6, .inl f_))])) (roQ (.int (f_ 3))) 0 0 (fun _ => False) := by
  refine w_start (by decide) (Nat.le_of_ble_eq_true rfl) ?_
  intro p e s m args below meth c Q ls hQ hx hb hr hlocks hml hown hnm hts hB hl
  have hown : s.vm.findClass RX7 = some m.cls := hown
  have hl : lv_has ls 1 [(0, .ref o_)] := hl
  obtain ⟨hP, hK⟩ := hB
  have hP : va_P D vwCl [(o_, .inr (5, [.ref k_, .ref l_, .int lk_])), (k_, .inl (dA 0, 6, .inl f_))] s.heap := hP
  refine lv_aload_n hx hb dX7_worth_0 rfl (lv_at hl 0 rfl) ?_
  refine va_get (D := D) (ci := 5) (v := .ref k_) (C := RX7) (T := TX7) (N := 3) hx hb hts in_X7 hown hK hP 0 rfl rfl 0 (by decide) (hts _ q696) (fun _ h9 => h9) rfl dX7_worth_1 ?_
  refine lv_iconst (v := 3) hx hb dX7_worth_4 rfl ?_
  refine wa_iald1 (v := f_ 3) hx hb hK hP 1 0 rfl rfl (3) (rfl) (by omega) (by decide) (rfl) dX7_worth_5 ?_
  exact q_i hQ hx hb hr hlocks rfl (rfl) dX7_worth_6

def rmX7_again : Room := { frames := 0, cells := 0, slots := 0, locals := 0 }
set_option maxHeartbeats 1000000 in
theorem mt_X7_again (l : Launch) (D : va_G) (dA : Nat → ClassId) (o_ : Nat) (k_ : Nat) (l_ : Nat) (lk_ : Int32) (f_ : Nat → Int32) : Met l yX7_again (ws_ yX7_again cX7_again 1 (some .int)) rmX7_again (va_Pc [.ref o_] (pB D dA [(o_, .inr (5, [.ref k_, .ref l_, .int lk_])), (k_, .inl (dA 0, 6, .inl f_))])) (roQ (.int (f_ 4))) 0 0 (fun _ => False) := by
  refine w_start (by decide) (Nat.le_of_ble_eq_true rfl) ?_
  intro p e s m args below meth c Q ls hQ hx hb hr hlocks hml hown hnm hts hB hl
  have hown : s.vm.findClass RX7 = some m.cls := hown
  have hl : lv_has ls 1 [(0, .ref o_)] := hl
  obtain ⟨hP, hK⟩ := hB
  have hP : va_P D vwCl [(o_, .inr (5, [.ref k_, .ref l_, .int lk_])), (k_, .inl (dA 0, 6, .inl f_))] s.heap := hP
  refine lv_aload_n hx hb dX7_again_0 rfl (lv_at hl 0 rfl) ?_
  refine va_get (D := D) (ci := 5) (v := .ref k_) (C := RX7) (T := TX7) (N := 3) hx hb hts in_X7 hown hK hP 0 rfl rfl 0 (by decide) (hts _ q696) (fun _ h9 => h9) rfl dX7_again_1 ?_
  refine lv_iconst (v := 4) hx hb dX7_again_4 rfl ?_
  refine wa_iald1 (v := f_ 4) hx hb hK hP 1 0 rfl rfl (4) (rfl) (by omega) (by decide) (rfl) dX7_again_5 ?_
  exact q_i hQ hx hb hr hlocks rfl (rfl) dX7_again_6

def begW (f : Nat → Int32) (mi : Int32) : Int32 := if mi ≤ f 2 then (if mi < f 1 then f 1 else mi) else -1

def rmX7_begins : Room := { frames := 1, cells := 0, slots := 0, locals := 29 }
set_option maxHeartbeats 1000000 in
theorem mt_X7_begins (l : Launch) (D : va_G) (dA : Nat → ClassId) (o_ : Nat) (k_ : Nat) (l_ : Nat) (lk_ : Int32) (f_ : Nat → Int32) (mi_ : Int32) : Met l yX7_begins (ws_ yX7_begins cX7_begins 2 (some .int)) rmX7_begins (va_Pc [.ref o_, .int mi_] (pB D dA [(o_, .inr (5, [.ref k_, .ref l_, .int lk_])), (k_, .inl (dA 0, 6, .inl f_))])) (roQ (.int (begW f_ mi_))) 0 0 (fun _ => False) := by
  refine w_start (by decide) (Nat.le_of_ble_eq_true rfl) ?_
  intro p e s m args below meth c Q ls hQ hx hb hr hlocks hml hown hnm hts hB hl
  have hown : s.vm.findClass RX7 = some m.cls := hown
  have hl : lv_has ls 2 [(0, .ref o_), (1, .int mi_)] := hl
  obtain ⟨hP, hK⟩ := hB
  have hP : va_P D vwCl [(o_, .inr (5, [.ref k_, .ref l_, .int lk_])), (k_, .inl (dA 0, 6, .inl f_))] s.heap := hP
  refine lv_iload_n hx hb dX7_begins_0 rfl (lv_at hl 1 rfl) ?_
  refine lv_aload_n hx hb dX7_begins_1 rfl (lv_at hl 0 rfl) ?_
  refine va_get (D := D) (ci := 5) (v := .ref k_) (C := RX7) (T := TX7) (N := 3) hx hb hts in_X7 hown hK hP 0 rfl rfl 0 (by decide) (hts _ q696) (fun _ h9 => h9) rfl dX7_begins_2 ?_
  refine lv_iconst (v := 2) hx hb dX7_begins_5 rfl ?_
  refine wa_iald1 (v := f_ 2) hx hb hK hP 1 0 rfl rfl (2) (rfl) (by omega) (by decide) (rfl) dX7_begins_6 ?_
  refine lv_icmp_le (tgt := 14) hx hb dX7_begins_7 rfl (fun h7 => ?_) (fun h7 => ?_)
  · have h7 : mi_ ≤ (f_ 2) := h7
    refine lv_iload_n hx hb dX7_begins_14 rfl (lv_at hl 1 rfl) ?_
    refine lv_aload_n hx hb dX7_begins_15 rfl (lv_at hl 0 rfl) ?_
    refine va_get (D := D) (ci := 5) (v := .ref k_) (C := RX7) (T := TX7) (N := 3) hx hb hts in_X7 hown hK hP 0 rfl rfl 0 (by decide) (hts _ q696) (fun _ h9 => h9) rfl dX7_begins_16 ?_
    refine lv_iconst (v := 1) hx hb dX7_begins_19 rfl ?_
    refine wa_iald1 (v := f_ 1) hx hb hK hP 1 0 rfl rfl (1) (rfl) (by omega) (by decide) (rfl) dX7_begins_20 ?_
    refine va_mmax hx hb (hml.trans hl.1.symm) hown (hts _ q957) (hts _ q367) (hts _ q90) (hts _ q368) (Nat.le_of_ble_eq_true rfl) (Nat.le_of_ble_eq_true rfl) (Nat.le_of_ble_eq_true rfl) (Nat.le_of_ble_eq_true rfl) dX7_begins_21 ?_
    exact q_i hQ hx hb hr hlocks rfl (by simp only [begW, eq_true h7, if_true, if_false, ite_true, ite_false, not_true_eq_false, not_false_eq_true, and_true, true_and, and_false, false_and, or_true, true_or, or_false, false_or, and_self, or_self, eq_self]) dX7_begins_24
  · have h7 : ¬ (mi_ ≤ (f_ 2)) := h7
    refine lv_iconst (v := (-1)) hx hb dX7_begins_10 rfl ?_
    refine lv_goto (tgt := 24) hx hb dX7_begins_11 rfl ?_
    exact q_i hQ hx hb hr hlocks rfl (by simp only [begW, eq_false h7, if_true, if_false, ite_true, ite_false, not_true_eq_false, not_false_eq_true, and_true, true_and, and_false, false_and, or_true, true_or, or_false, false_or, and_self, or_self, eq_self]) dX7_begins_24

def rmX2_isUsed : Room := { frames := 0, cells := 0, slots := 0, locals := 0 }
set_option maxHeartbeats 1000000 in
theorem mt_X2_isUsed (l : Launch) (o_ : Nat) : Met l yX2_isUsed (ws_ yX2_isUsed cX2_isUsed 1 (some .boolean)) rmX2_isUsed (va_Pc [.ref o_] (fun _ => True)) (roQ (.int 1)) 0 0 (fun _ => False) := by
  refine w_start (by decide) (Nat.le_of_ble_eq_true rfl) ?_
  intro p e s m args below meth c Q ls hQ hx hb hr hlocks hml hown hnm hts hB hl
  have hown : s.vm.findClass RX2 = some m.cls := hown
  have hl : lv_has ls 1 [(0, .ref o_)] := hl
  refine lv_iconst (v := 1) hx hb dX2_isUsed_0 rfl ?_
  exact q_z hQ hx hb hr hlocks rfl (Or.inr rfl) (rfl) dX2_isUsed_1

section CT
variable {p : Program} {l : Launch} {e : Env} {R : Room} {s : State} {m : MethodId} {args : Array Value} {below : List Frame} {meth : Method} {c : Code} {H : Heap} {locs : List Loc} {cells slots : Nat} {Q : State → Prop}
variable {y : MethodName} {bytes cc : ByteArray} {maxL nL n index : Nat} {ret : Option FieldType} {rm : Room} {Ts ws : List Cond} {own C : String} {cC : ClassId} {b : Addr} {As rest st0 : List Value} {pc : Nat} {ls : Array Slot} {B : State → Prop} {D : va_G} {dA : Nat → ClassId} {x : Nat} {ad : Nat → Nat} {μ : Lay} {σ : St} {ω : Om}
theorem dSU {v : Value} (hat : ClassAt s C cC) (S : CallFix p m c cc nL s args Ts own) (hM : Met l y ws rm (va_Pc (.ref b :: As) B) (roQ v) 0 0 (fun _ => False)) (cw : va_CS R s args own index y bytes maxL ret ws rm 0 0 n) (hbl : w_bw B) (hB : ∀ U : State, U.heap = H → s.WarmedH U.vm → B U) (hrc : ∃ cellB : Cell, H[b]? = some cellB ∧ cellB.vm.isStatics = false ∧ s.vm.findClass C = some cellB.cls)
    (hn : As.length = n) (hsize : ls.size = nL) (hst : st0 = As.reverse ++ .ref b :: rest) (hW : (rest.map fun v => v.category).sum ≤ 8) (hdg : decode cc pc = .ok (.invokespecial index, 3)) (hf : cells + 0 ≤ R.cells ∧ slots + 0 ≤ R.slots)
    (kk : W p l e R s m args below meth c H locs cells slots Q (F0 m (pc + 3) ls (v :: rest))) : W p l e R s m args below meth c H locs cells slots Q (F0 m pc ls st0) :=
  ro_go (va_runSU (As := As) (rest := rest) hat S hM cw ⟨hbl.blind _, hrc, fun U hU hW => ⟨rfl, hB U hU hW⟩⟩ rfl hn hsize hst (lv_room hW) hdg hf) kk
end CT
def rmX6_isUsed : Room := { frames := 1, cells := 0, slots := 0, locals := 20 }
set_option maxHeartbeats 1000000 in
theorem mt_X6_isUsed (l : Launch) (D : va_G) (dA : Nat → ClassId) (o_ : Nat) (a_ : Int32) (b_ : Int32) : Met l yX6_isUsed (ws_ yX6_isUsed cX6_isUsed 1 (some .boolean)) rmX6_isUsed (va_Pc [.ref o_] (pB D dA [(o_, .inr (4, [.int a_, .int b_]))])) (roQ (.int 0)) 0 0 (fun _ => False) := by
  refine w_start (by decide) (Nat.le_of_ble_eq_true rfl) ?_
  intro p e s m args below meth c Q ls hQ hx hb hr hlocks hml hown hnm hts hB hl
  have hown : s.vm.findClass RX6 = some m.cls := hown
  have hl : lv_has ls 1 [(0, .ref o_)] := hl
  obtain ⟨hP, hK⟩ := hB
  have hP : va_P D vwCl [(o_, .inr (4, [.int a_, .int b_]))] s.heap := hP
  refine lv_aload_n hx hb dX6_isUsed_0 rfl (lv_at hl 0 rfl) ?_
  refine dSU (v := .int 1) (As := []) (rest := []) (C := RX6) (hK.1 4 _ rfl).2 ⟨hx, hb, hml, hown, hts⟩ (mt_X2_isUsed l o_) (va_cwSU 0 hts (lw_app (lwm5 q822 q818 q688 q816 q82) (lw_meth q823)) rfl rfl rfl (by decide +kernel) ⟨Nat.le_of_ble_eq_true rfl, Nat.le_of_ble_eq_true rfl⟩) w_blT.bw (fun _ _ _ => trivial) (va_recv hK hP (ci := 4) (q0 := 0) rfl rfl) rfl hl.1 rfl (Nat.le_of_ble_eq_true rfl) dX6_isUsed_1 ⟨Nat.le_of_ble_eq_true rfl, Nat.le_of_ble_eq_true rfl⟩ ?_
  refine lv_if_ne (tgt := 11) hx hb dX6_isUsed_4 rfl (fun h4 => ?_) (fun h4 => ?_)
  · refine lv_iconst (v := 0) hx hb dX6_isUsed_11 rfl ?_
    exact q_z hQ hx hb hr hlocks rfl (Or.inl rfl) rfl dX6_isUsed_12
  · exact absurd h4 (by decide)
section CT2
variable {p : Program} {l : Launch} {e : Env} {R : Room} {s : State} {m : MethodId} {args : Array Value} {below : List Frame} {meth : Method} {c : Code} {H : Heap} {locs : List Loc} {cells slots : Nat} {Q : State → Prop}
variable {cc : ByteArray} {nL index : Nat} {own : String} {As rest st0 : List Value} {pc : Nat} {ls : Array Slot} {D : va_G} {dA : Nat → ClassId} {x : Nat} {ad : Nat → Nat} {μ : Lay} {σ : St} {ω : Om} {t : Nat}
theorem wt_get0 (hx : p.tables.exec = Jvm.exec) (hb : c.code = cc) (hts : ∀ w ∈ lw_all, w.before args s = true) (hown : s.vm.findClass own = some m.cls) (hK : va_K D vwCl (vwTy dA) s) (hP : va_P D vwCl (cW dA x ad μ σ ω) H) (hR : Rel dA μ σ) (ht : t < 8) (hlink : (Cond.fieldLink own index "CarryUp$Thing" "weight" "I").before args s = true) (hdg : decode cc pc = .ok (.getfield index, 3))
    (kk : W p l e R s m args below meth c H locs cells slots Q (F0 m (pc + 3) ls (.int (σ.wt t) :: rest))) : W p l e R s m args below meth c H locs cells slots Q (F0 m pc ls (.ref (μ.tA t) :: rest)) := by
  obtain ⟨ha, he⟩ := hR.1 t ht
  by_cases h : hasP σ.tools (nI t)
  · rw [if_pos h] at he
    exact va_get (D := D) (ci := 4) (C := RX6) (T := TX6) (N := 2) hx hb hts in_X6 hown hK (pl1 hP ha he) 0 rfl rfl 0 (by decide) hlink (fun _ h9 => h9) rfl hdg kk
  · rw [if_neg h] at he
    exact va_get (D := D) (ci := 3) (C := RX2) (T := TX2) (N := 2) hx hb hts in_X2 hown hK (pl1 hP ha he) 0 rfl rfl 0 (by decide) hlink (fun _ h9 => h9) rfl hdg kk
theorem wt_get1 (hx : p.tables.exec = Jvm.exec) (hb : c.code = cc) (hts : ∀ w ∈ lw_all, w.before args s = true) (hown : s.vm.findClass own = some m.cls) (hK : va_K D vwCl (vwTy dA) s) (hP : va_P D vwCl (cW dA x ad μ σ ω) H) (hR : Rel dA μ σ) (ht : t < 8) (hlink : (Cond.fieldLink own index "CarryUp$Thing" "price" "I").before args s = true) (hdg : decode cc pc = .ok (.getfield index, 3))
    (kk : W p l e R s m args below meth c H locs cells slots Q (F0 m (pc + 3) ls (.int (σ.pr t) :: rest))) : W p l e R s m args below meth c H locs cells slots Q (F0 m pc ls (.ref (μ.tA t) :: rest)) := by
  obtain ⟨ha, he⟩ := hR.1 t ht
  by_cases h : hasP σ.tools (nI t)
  · rw [if_pos h] at he
    exact va_get (D := D) (ci := 4) (C := RX6) (T := TX6) (N := 2) hx hb hts in_X6 hown hK (pl1 hP ha he) 0 rfl rfl 1 (by decide) hlink (fun _ h9 => h9) rfl hdg kk
  · rw [if_neg h] at he
    exact va_get (D := D) (ci := 3) (C := RX2) (T := TX2) (N := 2) hx hb hts in_X2 hown hK (pl1 hP ha he) 0 rfl rfl 1 (by decide) hlink (fun _ h9 => h9) rfl hdg kk
theorem wt_cast (hx : p.tables.exec = Jvm.exec) (hb : c.code = cc) (hown : s.vm.findClass own = some m.cls) (hK : va_K D vwCl (vwTy dA) s) (hP : va_P D vwCl (cW dA x ad μ σ ω) H) (hR : Rel dA μ σ) (hN : cN s) (ht : t < 8) (hlink : (Cond.classLink own index "CarryUp$Thing").before args s = true) (hdg : decode cc pc = .ok (.checkcast index, 3))
    (kk : W p l e R s m args below meth c H locs cells slots Q (F0 m (pc + 3) ls (.ref (μ.tA t) :: rest))) : W p l e R s m args below meth c H locs cells slots Q (F0 m pc ls (.ref (μ.tA t) :: rest)) := by
  obtain ⟨ha, he⟩ := hR.1 t ht
  by_cases h : hasP σ.tools (nI t)
  · rw [if_pos h] at he
    exact va_castY hx hb hown hlink hN.1 (va_recv hK (pl1 hP ha he) (ci := 4) (q0 := 0) rfl rfl) hdg kk
  · rw [if_neg h] at he
    exact va_castS hx hb hown hlink (hK.1 3 _ rfl).2 (va_recv hK (pl1 hP ha he) (ci := 3) (q0 := 0) rfl rfl) hdg kk
theorem wt_used (S : CallFix p m c cc nL s args lw_all own) (hK : va_K D vwCl (vwTy dA) s) (hP : va_P D vwCl (cW dA x ad μ σ ω) H) (hR : Rel dA μ σ) (ht : t < 8) (cw1 : CallW R s args own RX2 index yX2_isUsed cX2_isUsed 1 (some .boolean) (ws_ yX2_isUsed cX2_isUsed 1 (some .boolean)) rmX2_isUsed 0 0 0) (cw2 : va_CU R s args own RX6 "CarryUp$Thing" index yX2_isUsed yX6_isUsed cX6_isUsed 1 (some .boolean) (ws_ yX6_isUsed cX6_isUsed 1 (some .boolean)) rmX6_isUsed 0 0 0)
    (hsize : ls.size = nL) (hst : st0 = [] ++ .ref (μ.tA t) :: rest) (hW : (rest.map fun v => v.category).sum ≤ 8) (hdg : decode cc pc = .ok (.invokevirtual index, 3)) (hf : cells + 0 ≤ R.cells ∧ slots + 0 ≤ R.slots)
    (kk : W p l e R s m args below meth c H locs cells slots Q (F0 m (pc + 3) ls (.int (b01 (¬ hasP σ.tools (nI t))) :: rest))) : W p l e R s m args below meth c H locs cells slots Q (F0 m pc ls st0) := by
  obtain ⟨ha, he⟩ := hR.1 t ht
  by_cases h : hasP σ.tools (nI t)
  · rw [if_pos h] at he
    rw [b01_f (fun z => z h)] at kk
    exact dU (As := []) S (mt_X6_isUsed l D dA (μ.tA t) _ _) cw2 pB_bw (pB_now hK (pl1 hP ha he)) (va_recv hK (pl1 hP ha he) (ci := 4) (q0 := 0) rfl rfl) rfl hsize hst hW hdg hf kk
  · rw [if_neg h] at he
    rw [b01_t h] at kk
    exact dV (As := []) S (mt_X2_isUsed l (μ.tA t)) cw1 w_blT.bw (fun _ _ _ => trivial) (va_recv hK (pl1 hP ha he) (ci := 3) (q0 := 0) rfl rfl) rfl hsize hst hW hdg hf kk
theorem g_sort {i c1 : Nat} (S : CallFix p m c cc nL s args lw_all own) (cw : CallW R s args own RJ2 index yJ2_get cJ2_get 2 (some (.object "java/lang/Object")) (ws_ yJ2_get cJ2_get 2 (some (.object "java/lang/Object"))) rmJ2_get 0 0 1) (hK : va_K D vwCl (vwTy dA) s) (hP : va_P D vwCl (cW dA x ad μ σ ω) H) (hC : RelC dA μ σ c1) (hsm : σ.sm c1 ≤ 4) (hi : i < σ.sm c1)
    (hsize : ls.size = nL) (hst : st0 = [.int (nI i)] ++ .ref (μ.lA c1) :: rest) (hW : (rest.map fun v => v.category).sum ≤ 8) (hdg : decode cc pc = .ok (.invokevirtual index, 3)) (hf : cells + 0 ≤ R.cells ∧ slots + 0 ≤ R.slots)
    (kk : W p l e R s m args below meth c H locs cells slots Q (F0 m (pc + 3) ls (.ref (μ.sA c1 i) :: rest))) : W p l e R s m args below meth c H locs cells slots Q (F0 m pc ls st0) := by
  obtain ⟨h1, g, hg, hgs⟩ := hC.2.2.2.1 (by omega)
  exact dV (As := [.int (nI i)]) S (mt_J2_get l D dA (μ.lA c1) (μ.eA c1) (μ.mA c1) (σ.sm c1) 10 g i (μ.sA c1 i) hi (by omega) (by decide) (hgs i hi)) cw pB_bw (pB_now hK (pl2 (pl1 hP hC.2.2.1.1 hC.2.2.1.2) (pl1 hP h1 hg))) (va_recv hK (pl1 hP hC.2.2.1.1 hC.2.2.1.2) (ci := 8) (q0 := 0) rfl rfl) rfl hsize hst hW hdg hf kk
theorem g_visit {k : Nat} (S : CallFix p m c cc nL s args lw_all own) (cw : CallW R s args own RJ2 index yJ2_get cJ2_get 2 (some (.object "java/lang/Object")) (ws_ yJ2_get cJ2_get 2 (some (.object "java/lang/Object"))) rmJ2_get 0 0 1) (hK : va_K D vwCl (vwTy dA) s) (hP : va_P D vwCl (cW dA x ad μ σ ω) H) (hV : RelV dA μ σ) (hk : k < σ.vm)
    (hsize : ls.size = nL) (hst : st0 = [.int (nI k)] ++ .ref (ad 5) :: rest) (hW : (rest.map fun v => v.category).sum ≤ 8) (hdg : decode cc pc = .ok (.invokevirtual index, 3)) (hf : cells + 0 ≤ R.cells ∧ slots + 0 ≤ R.slots)
    (kk : W p l e R s m args below meth c H locs cells slots Q (F0 m (pc + 3) ls (.ref (μ.vA k) :: rest))) : W p l e R s m args below meth c H locs cells slots Q (F0 m pc ls st0) := by
  obtain ⟨h1, hn, hn2, g, hg, hgs⟩ := hV.1 (by omega)
  exact dV (As := [.int (nI k)]) S (mt_J2_get l D dA (ad 5) μ.bE μ.bM σ.vm μ.bN g k (μ.vA k) hk hn (by omega) (hgs k hk)) cw pB_bw (pB_now hK (pl2 (p1 hP 6 rfl) (pl1 hP h1 hg))) (va_recv hK hP (ci := 8) (q0 := 6) rfl rfl) rfl hsize hst hW hdg hf kk
end CT2
