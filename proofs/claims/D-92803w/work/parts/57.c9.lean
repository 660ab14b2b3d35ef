/-! THE COMPONENT's METHODS 9: knowing, both -/
set_option maxRecDepth 100000
def hsG (row c : Int32) : Nat → Int32
  | 0 => 0
  | k + 1 => hsG row c k ||| (if entF row k = c then (if c = 6 then 0 else 1) else 0)
theorem hs_01 (row c : Int32) : ∀ k, hsG row c k = 0 ∨ hsG row c k = 1
  | 0 => Or.inl rfl
  | k + 1 => by
    rw [hsG]
    rcases hs_01 row c k with h | h <;> rw [h] <;> split <;> (try split) <;> first | exact Or.inl rfl | exact Or.inr rfl
theorem hs_kn (row c : Int32) : ∀ k, k ≤ 6 → (hsG row c k = 0 ↔ knE row c k = -1)
  | 0, _ => ⟨fun _ => rfl, fun _ => rfl⟩
  | k + 1, hk => by
    have ih := hs_kn row c k (by omega)
    rw [hsG, knE]
    by_cases h6 : c = 6
    · rw [if_pos h6, if_pos h6, ← ih]
      split <;> rw [Int32.or_zero]
    · rw [if_neg h6, if_neg h6]
      by_cases he : entF row k = c
      · rw [if_pos he, if_pos he]
        constructor
        · intro q
          rcases hs_01 row c k with h | h <;> rw [h] at q <;> exact absurd q (by decide)
        · intro q; exact absurd q (nI_m1 k (by omega))
      · rw [if_neg he, if_neg he, Int32.or_zero]; exact ih
/-- the row of a number, figure by figure -/
def rwF (j k : Nat) : Nat → Int32
  | 0 => 0
  | t + 1 => rwF j k t ||| ((nI (k / 6 ^ t) - nI (k / 6 ^ t) / 6 * 6) <<< (((4 : Int32) * (nI (j - t) - 1)) &&& 31))
theorem rw_1 : ∀ k, k < 6 → rwF 1 k 1 = rowK 1 k := by decide +kernel
theorem rw_2 : ∀ k, k < 36 → rwF 2 k 2 = rowK 2 k := by decide +kernel
theorem rw_3 : ∀ k, k < 216 → rwF 3 k 3 = rowK 3 k := by decide +kernel
theorem rw_all {j k : Nat} (h1 : 1 ≤ j) (h3 : j ≤ 3) (hk : k < rowsN j) : rwF j k j = rowK j k := by
  rcases (show j = 1 ∨ j = 2 ∨ j = 3 by omega) with rfl | rfl | rfl
  · exact rw_1 k hk
  · exact rw_2 k hk
  · exact rw_3 k hk
theorem row_1 : ∀ k, k < 6 → ∃ r, r < 4096 ∧ rowK 1 k = nI r := fun k hk => ⟨k, by omega, rfl⟩
theorem row_m2 : ∀ k, k < 36 → rowK 2 k &&& 4095 = rowK 2 k := by decide +kernel
theorem row_m3 : ∀ k, k < 216 → rowK 3 k &&& 4095 = rowK 3 k := by decide +kernel
theorem row_n {j k : Nat} (h1 : 1 ≤ j) (h3 : j ≤ 3) (hk : k < rowsN j) : ∃ r, r < 4096 ∧ rowK j k = nI r := by
  have key : ∀ x : Int32, x &&& 4095 = x → ∃ r, r < 4096 ∧ x = nI r := by
    intro x h
    obtain ⟨r, hr, e⟩ := pk_andE x (m := 4095) 12 (by decide)
    exact ⟨r, hr, by rw [← e, h]⟩
  rcases (show j = 1 ∨ j = 2 ∨ j = 3 by omega) with rfl | rfl | rfl
  · exact row_1 k hk
  · exact key _ (row_m2 k hk)
  · exact key _ (row_m3 k hk)
theorem row_ne {j k : Nat} (h1 : 1 ≤ j) (h3 : j ≤ 3) (hk : k < rowsN j) : ¬ rowK j k = -1 := by
  obtain ⟨r, hr1, hr2⟩ := row_n h1 h3 hk
  rw [hr2]
  intro z
  have q := nI_toInt (n := r) (by omega)
  rw [z] at q
  have h2 : ((-1 : Int32)).toInt = -1 := by decide
  omega
theorem bs_n (σ : St) (f : Int32 → Int64) (mb : Int64) : ∀ k, k ≤ 256 → (bsG σ f mb k).1 = -1 ∨ ∃ b, b < 256 ∧ (bsG σ f mb k).1 = nI b
  | 0, _ => Or.inl rfl
  | k + 1, hk => by
    have ih := bs_n σ f mb k (by omega)
    rw [bs_s]
    by_cases hm : mayP σ (nI k)
    · rw [if_pos hm]
      by_cases h1 : (bsG σ f mb k).1 = -1
      · rw [if_pos h1]; exact Or.inr ⟨k, by omega, rfl⟩
      · rw [if_neg h1]
        by_cases h2 : f (nI k) ≤ (bsG σ f mb k).2
        · rw [if_pos h2]; exact ih
        · rw [if_neg h2]; exact Or.inr ⟨k, by omega, rfl⟩
    · rw [if_neg hm]; exact ih
theorem bb_n {σ : St} (hI : Inv σ) (hJ : Inv2 σ) {row : Int32} {j : Nat} (hoT : okT σ row j) (hj : j ≤ 6) : ∃ b, b < 256 ∧ bbF σ row j = nI b := by
  have := bs_n σ (brB σ row (-1) 0 j) 0 256 (Nat.le_refl _)
  rw [best_1 hI hoT hj 0] at this
  exact this.resolve_left (bb_ne hI hJ hoT hj)
def btO (g : Int32 × Int32 × Int64 × Int64) : Prop := (g.1 = -1 ∧ g.2.1 = -1) ∨ ∃ r b, r < 4096 ∧ b < 256 ∧ g.1 = nI r ∧ g.2.1 = nI b
theorem ref_okT {σ : St} {row : Int32} {j : Nat} (h1 : 1 ≤ j) (h6 : j ≤ 6) (h : refF σ row (nI j) = 0) : okT σ row j := by
  obtain ⟨j2, a, b, e, c, d⟩ := ref_T h
  have := (nI_eq (a := j) (b := j2) (by omega) (by omega)).mp e
  subst this
  exact c
theorem bt_O {σ : St} (hI : Inv σ) (hJ : Inv2 σ) {j : Nat} (h1 : 1 ≤ j) (h3 : j ≤ 3) : ∀ k, k ≤ rowsN j → btO (btG σ j k)
  | 0, _ => Or.inl ⟨rfl, rfl⟩
  | k + 1, hk => by
    have ih := bt_O hI hJ h1 h3 k (by omega)
    rw [btG]
    by_cases hr : refF σ (rowK j k) (nI j) = 0
    · rw [if_pos hr]
      by_cases hb : btI σ j (btG σ j k).1 (btG σ j k).2.2.1 (btG σ j k).2.2.2 k = 0
      · rw [if_pos hb]; exact ih
      · rw [if_neg hb]
        obtain ⟨r, hr1, hr2⟩ := row_n h1 h3 (show k < rowsN j by omega)
        obtain ⟨b, hb1, hb2⟩ := bb_n hI hJ (ref_okT h1 (by omega) hr) (by omega)
        exact Or.inr ⟨r, b, hr1, hb1, hr2, hb2⟩
    · rw [if_neg hr]; exact ih
/-- 256 times the row, and the bag -/
def bcF (g : Int32 × Int32 × Int64 × Int64) : Int32 := if g.1 = -1 then -1 else 256 * g.1 + g.2.1
theorem bc_m1 {g : Int32 × Int32 × Int64 × Int64} (h : btO g) : bcF g = -1 ↔ g.1 = -1 := by
  unfold bcF
  constructor
  · intro q
    rcases h with ⟨a, -⟩ | ⟨r, b, hr, hb, e1, e2⟩
    · exact a
    · rw [if_neg (by rw [e1]; intro z; have := (nI_toInt (n := r) (by omega)); rw [z] at this; have h2 : ((-1 : Int32)).toInt = -1 := by decide
                     omega), e1, e2, show (256 : Int32) = nI 256 from rfl, pk_mul, nI_add] at q
      have := nI_toInt (n := 256 * r + b) (by omega)
      rw [q] at this
      have h2 : ((-1 : Int32)).toInt = -1 := by decide
      omega
  · intro q; rw [if_pos q]
theorem bc_0 {g : Int32 × Int32 × Int64 × Int64} (h : btO g) (hn : ¬ bcF g = -1) : bcF g / 256 = g.1 ∧ bcF g - bcF g / 256 * 256 = g.2.1 := by
  rcases h with ⟨a, -⟩ | ⟨r, b, hr, hb, e1, e2⟩
  · exact absurd (by unfold bcF; rw [if_pos a]) hn
  · have h1 : ¬ g.1 = -1 := fun z => hn ((bc_m1 (Or.inr ⟨r, b, hr, hb, e1, e2⟩)).mpr z)
    have e : bcF g = nI (256 * r + b) := by unfold bcF; rw [if_neg h1, e1, e2, show (256 : Int32) = nI 256 from rfl, pk_mul, nI_add]
    rw [e, show (256 : Int32) = nI 256 from rfl, pk_div (by omega) (by decide) (by decide), e1, e2]
    constructor
    · congr 1; omega
    · rw [pk_mul, pk_sub (by omega)]; congr 1; omega
theorem bc_3 {g : Int32 × Int32 × Int64 × Int64} (h : btO g) (hn : bcF g = -1) : g.1 = -1 ∧ g.2.1 = -1 := by
  have h1 := (bc_m1 h).mp hn
  rcases h with a | ⟨r, b, hr, hb, e1, e2⟩
  · exact a
  · exfalso
    have := (nI_toInt (n := r) (by omega))
    rw [← e1, h1] at this
    have h2 : ((-1 : Int32)).toInt = -1 := by decide
    omega
theorem bt_y {σ : St} {j k : Nat} (h : refF σ (rowK j k) (nI j) = 0) (hi : ¬ btI σ j (btG σ j k).1 (btG σ j k).2.2.1 (btG σ j k).2.2.2 k = 0) : btG σ j (k + 1) = (rowK j k, bbF σ (rowK j k) j, mnF σ (rowK j k) j (bbF σ (rowK j k) j), allP σ (rowK j k) j) := by
  rw [btG, if_pos h, if_neg hi]
theorem bt_z {σ : St} {j k : Nat} (h : refF σ (rowK j k) (nI j) = 0) (hi : btI σ j (btG σ j k).1 (btG σ j k).2.2.1 (btG σ j k).2.2.2 k = 0) : btG σ j (k + 1) = btG σ j k := by
  rw [btG, if_pos h, if_pos hi]
theorem bc_y {r b : Int32} {m a : Int64} (h : ¬ r = -1) : bcF (r, b, m, a) = 256 * r + b := if_neg h
theorem dec_0 : ∀ r, r ≤ 3 → (nI r - 1 < 0 ↔ r = 0) := by decide +kernel
theorem dec_1 : ∀ r, r ≤ 3 → 1 ≤ r → nI r - 1 + (-1) = nI (r - 1) - 1 := by decide +kernel

theorem kout1 {n : Int32} {k : Nat} (hk : k ≤ 6) (hin : k = 0 ∨ nI (k - 1) < n) (h : n ≤ nI k) : ∀ {j : Nat}, 1 ≤ j → j ≤ 6 → n = nI j → k = j := by
  intro j h1 h6 e
  subst e
  have a := (nI_leI (a := j) (b := k) (by omega) (by omega)).mp h
  rcases hin with q | q
  · omega
  · have := (nI_ltI (a := k - 1) (b := j) (by omega) (by omega)).mp q
    omega
theorem kout2 {n : Int32} {k : Nat} (hk : k = 6) (hin : k = 0 ∨ nI (k - 1) < n) : ∀ {j : Nat}, 1 ≤ j → j ≤ 6 → n = nI j → k = j := by
  intro j h1 h6 e
  subst e
  rcases hin with q | q
  · omega
  · have := (nI_ltI (a := k - 1) (b := j) (by omega) (by omega)).mp q
    omega

def rmX0_know : Room := { frames := 11, cells := 0, slots := 0, locals := 322 }
set_option maxHeartbeats 1000000 in
theorem mt_X0_know (l : Launch) (D : va_G) (dA : Nat → ClassId) (x : Nat) (ad : Nat → Nat) (μ : Lay) (σ : St) (ω : Om) (hcD : cD x ad μ) (row : Int32) (n_ : Int32) (c_ : Int32) (w : Int32) (hI : Inv σ) (hR : Rel dA μ σ) (hJ : Inv2 σ) : Met l yX0_know (ws_ yX0_know cX0_know 10 (some .long)) rmX0_know (va_Pc [.ref x, .int row, .int n_, .int c_, .int w] (cB D dA x ad μ σ ω)) (cQE (some (.long (knowF σ row n_ c_ w))) D dA x ad μ σ (fun o => True)) 0 0 (cA x ad μ) := by
  refine w_start (by decide) (Nat.le_of_ble_eq_true rfl) ?_
  intro p e s m args below meth c Q ls hQ hx hb hr hlocks hml hown hnm hts hB hl
  have hown : s.vm.findClass RX0 = some m.cls := hown
  have hl : lv_has ls 10 [(0, .ref x), (1, .int row), (2, .int n_), (3, .int c_), (4, .int w)] := hl
  obtain ⟨hP, hK, hN⟩ := hB
  have hP : va_P D vwCl (cW dA x ad μ σ ω) s.heap := hP
  have hS : va_S (cA x ad μ) s.heap s.heap [] := va_S.rf
  refine lv_aload_n hx hb dX0_know_0 rfl (lv_at hl 0 rfl) ?_
  refine lv_iload_n hx hb dX0_know_1 rfl (lv_at hl 1 rfl) ?_
  refine lv_iload_n hx hb dX0_know_2 rfl (lv_at hl 2 rfl) ?_
  refine dV (v := .int (refF σ row n_)) (As := [.int row, .int n_]) (rest := []) ⟨hx, hb, hml, hown, hts⟩ (mt_X0_faultOf_2 l D dA x ad μ σ ω row n_ hI hR) (cw_X0_X0_faultOf_2 hts ⟨Nat.le_of_ble_eq_true rfl, Nat.le_of_ble_eq_true rfl⟩) cB_bw (cB_now hK hN hP) (va_recv hK hP (ci := 1) (q0 := 0) rfl rfl) rfl hl.1 rfl (Nat.le_of_ble_eq_true rfl) dX0_know_3 ⟨Nat.le_of_ble_eq_true rfl, Nat.le_of_ble_eq_true rfl⟩ ?_
  refine lv_istore (lv' := [(5, .int (refF σ row n_)), (0, .ref x), (1, .int row), (2, .int n_), (3, .int c_), (4, .int w)]) hx hb dX0_know_6 hl (by decide) rfl (fun ls hl => ?_)
  refine lv_iconst (v := 0) hx hb dX0_know_8 rfl ?_
  refine lv_istore (lv' := [(6, .int 0), (5, .int (refF σ row n_)), (0, .ref x), (1, .int row), (2, .int n_), (3, .int c_), (4, .int w)]) hx hb dX0_know_9 hl (by decide) rfl (fun ls hl => ?_)
  refine lv_iconst (v := 0) hx hb dX0_know_11 rfl ?_
  refine lv_istore (lv' := [(7, .int 0), (6, .int 0), (5, .int (refF σ row n_)), (0, .ref x), (1, .int row), (2, .int n_), (3, .int c_), (4, .int w)]) hx hb dX0_know_12 hl (by decide) rfl (fun ls hl => ?_)
  have hL14_1 : ∀ (n_2 : Nat) (k : Nat) (x7 : Int32) (x6 : Int32) (ls : Array Slot), (6 - k) < n_2 → (k ≤ 6) → (k = 0 ∨ nI (k - 1) < n_) → x7 = (nI k) → x6 = (hsG row c_ k) → lv_has ls 10 [(7, .int x7), (6, .int x6), (5, .int (refF σ row n_)), (0, .ref x), (1, .int row), (2, .int n_), (3, .int c_), (4, .int w)] → W p l e rmX0_know s m args below meth c s.heap [] 0 0 Q (F0 m 14 ls []) := by
    intro n_2
    induction n_2 with
    | zero => intro k x7 x6 ls hm_4; exact absurd hm_4 (Nat.not_lt_zero _)
    | succ n_2 ih_3 =>
      intro k x7 x6 ls hm_4 hk hin ex7 ex6 hl
      subst ex7 ex6
      refine lv_iload hx hb dX0_know_14 (lv_at hl 0 rfl) ?_
      refine lv_iload_n hx hb dX0_know_16 rfl (lv_at hl 5 rfl) ?_
      refine lv_icmp_ge (tgt := 62) hx hb dX0_know_17 rfl (fun h17 => ?_) (fun h17 => ?_)
      · have h17 : n_ ≤ (nI k) := h17
        have hout : ∀ j, 1 ≤ j → j ≤ 6 → n_ = nI j → k = j := fun j h1 h6 e => kout1 hk hin h17 h1 h6 e
        refine lv_iload_n hx hb dX0_know_62 rfl (lv_at hl 5 rfl) ?_
        refine lv_i2l (v := (n_ : Int32).toInt64) hx hb dX0_know_63 rfl ?_
        refine lv_lconst (v := 1) hx hb dX0_know_64 rfl ?_
        refine lv_ldc2 (v := 6) hx hb hown (hts _ q828) dX0_know_65 ?_
        refine cSi (As := [.long ((n_ : Int32).toInt64), .long 1, .long 6]) (rest := []) ⟨hx, hb, hml, hown, hts⟩ (mt_X0_in l ((n_ : Int32).toInt64) 1 6) (cw_X0_X0_in hts ⟨Nat.le_of_ble_eq_true rfl, Nat.le_of_ble_eq_true rfl⟩) w_blT (fun _ _ _ => trivial) rfl hl.1 rfl (Nat.le_of_ble_eq_true rfl) dX0_know_68 ⟨Nat.le_of_ble_eq_true rfl, Nat.le_of_ble_eq_true rfl⟩ ?_
        refine lv_if_ne (tgt := 80) hx hb dX0_know_71 rfl (fun h71 => ?_) (fun h71 => ?_)
        · have h71 : inP ((n_ : Int32).toInt64) 1 6 := b01_n h71
          obtain ⟨j, hj1, hj, rfl⟩ := in16 h71
          have hix : ix (nI j) = j := ix_nI (Nat.lt_succ_of_le hj) (by decide)
          have hkj : k = j := hout j hj1 hj rfl
          subst hkj
          refine lv_iload hx hb dX0_know_80 (lv_at hl 2 rfl) ?_
          refine lv_bipush (v := (-2)) hx hb dX0_know_82 rfl ?_
          refine lv_icmp_eq (tgt := 92) hx hb dX0_know_84 rfl (fun h84 => ?_) (fun h84 => ?_)
          · have h84 : (refF σ row (nI k)) = (-2) := h84
            refine lv_bipush (v := (-2)) hx hb dX0_know_92 rfl ?_
            refine cSl (As := [.int (-2)]) (rest := []) ⟨hx, hb, hml, hown, hts⟩ (mt_X0_refused l (-2)) (cw_X0_X0_refused hts ⟨Nat.le_of_ble_eq_true rfl, Nat.le_of_ble_eq_true rfl⟩) w_blT (fun _ _ _ => trivial) rfl hl.1 rfl (Nat.le_of_ble_eq_true rfl) dX0_know_94 ⟨Nat.le_of_ble_eq_true rfl, Nat.le_of_ble_eq_true rfl⟩ ?_
            exact cme_l hQ hx hb hr hlocks hK hN hP hS (by rw [knowF, if_pos h71, if_pos h84]; rfl) (rfl) (trivial) dX0_know_97
          · have h84 : ¬ ((refF σ row (nI k)) = (-2)) := h84
            refine lv_iload hx hb dX0_know_87 (lv_at hl 1 rfl) ?_
            refine lv_if_ne (tgt := 98) hx hb dX0_know_89 rfl (fun h89 => ?_) (fun h89 => ?_)
            · have h89 : ¬ ((hsG row c_ k) = 0) := h89
              refine lv_iload hx hb dX0_know_98 (lv_at hl 2 rfl) ?_
              refine lv_if_ne (tgt := 114) hx hb dX0_know_100 rfl (fun h100 => ?_) (fun h100 => ?_)
              · have h100 : ¬ ((refF σ row (nI k)) = 0) := h100
                refine lv_bipush (v := (-3)) hx hb dX0_know_114 rfl ?_
                refine cSl (As := [.int (-3)]) (rest := []) ⟨hx, hb, hml, hown, hts⟩ (mt_X0_refused l (-3)) (cw_X0_X0_refused hts ⟨Nat.le_of_ble_eq_true rfl, Nat.le_of_ble_eq_true rfl⟩) w_blT (fun _ _ _ => trivial) rfl hl.1 rfl (Nat.le_of_ble_eq_true rfl) dX0_know_116 ⟨Nat.le_of_ble_eq_true rfl, Nat.le_of_ble_eq_true rfl⟩ ?_
                exact cme_l hQ hx hb hr hlocks hK hN hP hS (by rw [knowF, if_pos h71, if_neg h84, hix, if_neg (fun z => h89 ((hs_kn row c_ k hj).mpr z)), if_neg h100]; rfl) (rfl) (trivial) dX0_know_119
              · have h100 : (refF σ row (nI k)) = 0 := h100
                refine lv_iload hx hb dX0_know_103 (lv_at hl 7 rfl) ?_
                refine lv_i2l (v := (w : Int32).toInt64) hx hb dX0_know_105 rfl ?_
                refine lv_lconst (v := 0) hx hb dX0_know_106 rfl ?_
                refine lv_lconst (v := 1) hx hb dX0_know_107 rfl ?_
                refine cSi (As := [.long ((w : Int32).toInt64), .long 0, .long 1]) (rest := []) ⟨hx, hb, hml, hown, hts⟩ (mt_X0_in l ((w : Int32).toInt64) 0 1) (cw_X0_X0_in hts ⟨Nat.le_of_ble_eq_true rfl, Nat.le_of_ble_eq_true rfl⟩) w_blT (fun _ _ _ => trivial) rfl hl.1 rfl (Nat.le_of_ble_eq_true rfl) dX0_know_108 ⟨Nat.le_of_ble_eq_true rfl, Nat.le_of_ble_eq_true rfl⟩ ?_
                refine lv_if_ne (tgt := 120) hx hb dX0_know_111 rfl (fun h111 => ?_) (fun h111 => ?_)
                · have h111 : inP ((w : Int32).toInt64) 0 1 := b01_n h111
                  have hkne : ¬ knE row c_ k = -1 := fun z => h89 ((hs_kn row c_ k hj).mpr z)
                  obtain ⟨q, hq, hkq, hc6, heq⟩ := knE_ok k hkne
                  obtain rfl : c_ = nI (en row q) := by rw [← heq, en_eq]
                  have hoT := ref_okT hj1 hj h100
                  have htw := (ref_okJ hj1 hj h100).2
                  have h6 : ¬ en row q = 6 := fun z => hc6 (by rw [z]; rfl)
                  obtain ⟨hcq, hTq, hsq⟩ := (hoT q hq).resolve_left h6
                  have hu := tw_un htw hq h6
                  have hsm := hI.sm (en row q) hcq
                  have hiq : ix (nI q) = q := ix_nI (N := 6) (by omega) (by decide)
                  have hic : ix (nI (en row q)) = en row q := ix_nI hcq (by decide)
                  refine lv_lconst (v := 0) hx hb dX0_know_120 rfl ?_
                  refine lv_lstore (lv' := [(7, .long 0), (6, .int (hsG row (nI (en row q)) k)), (5, .int (refF σ row (nI k))), (0, .ref x), (1, .int row), (2, .int (nI k)), (3, .int (nI (en row q))), (4, .int w)]) hx hb dX0_know_121 hl (by decide) rfl (fun ls hl => ?_)
                  refine lv_iconst (v := 0) hx hb dX0_know_123 rfl ?_
                  refine lv_istore (lv' := [(9, .int 0), (7, .long 0), (6, .int (hsG row (nI (en row q)) k)), (5, .int (refF σ row (nI k))), (0, .ref x), (1, .int row), (2, .int (nI k)), (3, .int (nI (en row q))), (4, .int w)]) hx hb dX0_know_124 hl (by decide) rfl (fun ls hl => ?_)
                  have hL126_5 : ∀ (n_6 : Nat) (k2 : Nat) (o : Om) (x9 : Int32) (x7 : Int64) (ls : Array Slot) (H : Heap) (locs : List Loc), (4 - k2) < n_6 → (k2 ≤ σ.sm (en row q)) → x9 = (nI k2) → x7 = (sumL (fun s => lkW σ row q s * kbF σ row k q s) k2) → lv_has ls 10 [(9, .int x9), (7, .long x7), (6, .int (hsG row (nI (en row q)) k)), (5, .int (refF σ row (nI k))), (0, .ref x), (1, .int row), (2, .int (nI k)), (3, .int (nI (en row q))), (4, .int w)] → va_P D vwCl (cW dA x ad μ σ o) H → va_S (cA x ad μ) s.heap H locs → W p l e rmX0_know s m args below meth c H locs 0 0 Q (F0 m 126 ls []) := by
                    intro n_6
                    induction n_6 with
                    | zero => intro k2 o x9 x7 ls H locs hm_8; exact absurd hm_8 (Nat.not_lt_zero _)
                    | succ n_6 ih_7 =>
                      intro k2 o x9 x7 ls H locs hm_8 hk2 ex9 ex7 hl hP hS
                      subst ex9 ex7
                      refine lv_iload hx hb dX0_know_126 (lv_at hl 0 rfl) ?_
                      refine lv_aload_n hx hb dX0_know_128 rfl (lv_at hl 4 rfl) ?_
                      refine va_get (D := D) (ci := 1) (v := .ref (ad 2)) (C := RX0) (T := TX0) (N := 11) hx hb hts in_X0 hown hK hP 0 rfl rfl 5 (by decide) (hts _ q218) (fun _ h9 => h9) rfl dX0_know_129 ?_
                      refine lv_iload_n hx hb dX0_know_132 rfl (lv_at hl 7 rfl) ?_
                      refine wa_aald (v := .ref (μ.cA (en row q))) hx hb hK hP 3 5 rfl rfl rfl (en row q) (rfl) (by omega) (by decide) (cO_t hTq) dX0_know_133 ?_
                      refine va_get (D := D) (ci := 5) (v := .ref (μ.lA (en row q))) (C := RX7) (T := TX7) (N := 3) hx hb hts in_X7 hown hK (pl1 hP (hR.2.1 (en row q) hcq hTq).1.1 (hR.2.1 (en row q) hcq hTq).1.2) 0 rfl rfl 1 (by decide) (hts _ q701) (fun _ h9 => h9) rfl dX0_know_134 ?_
                      refine dV (v := .int (nI (σ.sm (en row q)))) (As := []) (rest := [.int (nI k2)]) ⟨hx, hb, hml, hown, hts⟩ (mt_J2_size l D dA (μ.lA (en row q)) (μ.eA (en row q)) (μ.mA (en row q)) (σ.sm (en row q))) (cw_X0_J2_size hts ⟨Nat.le_of_ble_eq_true rfl, Nat.le_of_ble_eq_true rfl⟩) pB_bw (pB_now hK (pl1 hP (hR.2.1 (en row q) hcq hTq).2.2.1.1 (hR.2.1 (en row q) hcq hTq).2.2.1.2)) (va_recv hK (pl1 hP (hR.2.1 (en row q) hcq hTq).2.2.1.1 (hR.2.1 (en row q) hcq hTq).2.2.1.2) (ci := 8) (q0 := 0) rfl rfl) rfl hl.1 rfl (Nat.le_of_ble_eq_true rfl) dX0_know_137 ⟨Nat.le_of_ble_eq_true rfl, Nat.le_of_ble_eq_true rfl⟩ ?_
                      refine lv_icmp_ge (tgt := 190) hx hb dX0_know_140 rfl (fun h140 => ?_) (fun h140 => ?_)
                      · have h140 : (σ.sm (en row q)) ≤ k2 := (nz_le (a := (σ.sm (en row q))) (b := k2) rfl rfl (by omega) (by omega)).mp h140
                        have hk_ : k2 = σ.sm (en row q) := by omega
                        subst hk_
                        refine lv_aload_n hx hb dX0_know_190 rfl (lv_at hl 4 rfl) ?_
                        refine lv_iload_n hx hb dX0_know_191 rfl (lv_at hl 5 rfl) ?_
                        refine lv_iload_n hx hb dX0_know_192 rfl (lv_at hl 6 rfl) ?_
                        refine lv_iconst (v := (-1)) hx hb dX0_know_193 rfl ?_
                        refine lv_iconst (v := 0) hx hb dX0_know_194 rfl ?_
                        refine dME (v := some (.int ((bsG σ (brB σ row (-1) 0 k) o.mb 256).1))) (σ' := σ) (As := [.int row, .int (nI k), .int (-1), .int 0]) (rest := []) ⟨hx, hb, hml, hown, hts⟩ (mt_X0_bestOf l D dA x ad μ σ o hcD row k (-1) 0 hI hR hoT hj1 hj) (cw_X0_X0_bestOf hts ⟨Nat.le_of_ble_eq_true rfl, Nat.le_of_ble_eq_true rfl⟩) (cB_now hK hN hP) (va_recv hK hP (ci := 1) (q0 := 0) rfl rfl) rfl hl.1 rfl (Nat.le_of_ble_eq_true rfl) dX0_know_195 ⟨Nat.le_of_ble_eq_true rfl, Nat.le_of_ble_eq_true rfl⟩ hS (fun o_9 ho_10 H locs hP hS => ?_)
                        change W p l e rmX0_know s m args below meth c H locs 0 0 Q (F0 m 198 ls [.int ((bsG σ (brB σ row (-1) 0 k) o.mb 256).1)])
                        have hP : va_P D vwCl (cW dA x ad μ σ ((o_9.full, o_9.row, o_9.many, o_9.parts, o_9.known, o_9.sort, o_9.brings, o_9.done, allP σ row k, o_9.end_, mnF σ row k (bbF σ row k)) : Om)) H := by rw [← (ho_10.1.trans (best_2 hI hJ hoT hj _)), ← ((ho_10.2 (by rw [best_1 hI hoT hj]; exact bb_ne hI hJ hoT hj)).trans (bel_all σ row k))]; exact hP
                        refine lv_pop hx hb dX0_know_198 rfl ?_
                        refine lv_lload hx hb dX0_know_199 (lv_at hl 1 rfl) ?_
                        refine lv_aload_n hx hb dX0_know_201 rfl (lv_at hl 4 rfl) ?_
                        refine va_get (D := D) (ci := 1) (v := .long (mnF σ row k (bbF σ row k))) (C := RX0) (T := TX0) (N := 11) hx hb hts in_X0 hown hK hP 0 rfl rfl 10 (by decide) (hts _ q225) (fun _ h9 => h9) rfl dX0_know_202 ?_
                        refine lv_lsub hx hb dX0_know_205 ?_
                        refine lv_aload_n hx hb dX0_know_206 rfl (lv_at hl 4 rfl) ?_
                        refine va_get (D := D) (ci := 1) (v := .ref (ad 4)) (C := RX0) (T := TX0) (N := 11) hx hb hts in_X0 hown hK hP 0 rfl rfl 8 (by decide) (hts _ q223) (fun _ h9 => h9) rfl dX0_know_207 ?_
                        refine va_get (D := D) (ci := 2) (v := .long (allP σ row k)) (C := RX1) (T := TX1) (N := 11) hx hb hts in_X1 hown hK hP 5 rfl rfl 8 (by decide) (hts _ q140) (fun _ h9 => h9) rfl dX0_know_210 ?_
                        refine lv_iload hx hb dX0_know_213 (lv_at hl 8 rfl) ?_
                        refine cSl (As := [.long ((sumL (fun s => lkW σ row q s * kbF σ row k q s) (σ.sm (en row q))) - (mnF σ row k (bbF σ row k))), .long (allP σ row k), .int w]) (rest := []) ⟨hx, hb, hml, hown, hts⟩ (mt_X0_part l ((sumL (fun s => lkW σ row q s * kbF σ row k q s) (σ.sm (en row q))) - (mnF σ row k (bbF σ row k))) (allP σ row k) w (all_ne hI (okT_R hj hoT))) (cw_X0_X0_part hts ⟨Nat.le_of_ble_eq_true rfl, Nat.le_of_ble_eq_true rfl⟩) w_blT (fun _ _ _ => trivial) rfl hl.1 rfl (Nat.le_of_ble_eq_true rfl) dX0_know_215 ⟨Nat.le_of_ble_eq_true rfl, Nat.le_of_ble_eq_true rfl⟩ ?_
                        exact cme_l hQ hx hb hr hlocks hK hN hP hS (by rw [knowF, if_pos h71, if_neg h84, hix, if_neg hkne, if_pos h100, if_pos h111, hkq, hiq, hic, ks_eq hI hJ hoT hj hq h6 hu _ (Nat.le_refl _)]) (rfl) (trivial) dX0_know_218
                      · have h140 : ¬ ((σ.sm (en row q)) ≤ k2) := fun z9 => h140 ((nz_le (a := (σ.sm (en row q))) (b := k2) rfl rfl (by omega) (by omega)).mpr z9)
                        refine lv_aload_n hx hb dX0_know_143 rfl (lv_at hl 4 rfl) ?_
                        refine lv_iload_n hx hb dX0_know_144 rfl (lv_at hl 5 rfl) ?_
                        refine lv_iload_n hx hb dX0_know_145 rfl (lv_at hl 6 rfl) ?_
                        refine lv_iload_n hx hb dX0_know_146 rfl (lv_at hl 7 rfl) ?_
                        refine lv_iload hx hb dX0_know_147 (lv_at hl 0 rfl) ?_
                        refine dME (v := some (.int ((bsG σ (brB σ row (nI (en row q)) (nI k2) k) o.mb 256).1))) (σ' := σ) (As := [.int row, .int (nI k), .int (nI (en row q)), .int (nI k2)]) (rest := []) ⟨hx, hb, hml, hown, hts⟩ (mt_X0_bestOf l D dA x ad μ σ o hcD row k (nI (en row q)) (nI k2) hI hR hoT hj1 hj) (cw_X0_X0_bestOf hts ⟨Nat.le_of_ble_eq_true rfl, Nat.le_of_ble_eq_true rfl⟩) (cB_now hK hN hP) (va_recv hK hP (ci := 1) (q0 := 0) rfl rfl) rfl hl.1 rfl (Nat.le_of_ble_eq_true rfl) dX0_know_149 ⟨Nat.le_of_ble_eq_true rfl, Nat.le_of_ble_eq_true rfl⟩ hS (fun o_11 ho_12 H locs hP hS => ?_)
                        change W p l e rmX0_know s m args below meth c H locs 0 0 Q (F0 m 152 ls [.int ((bsG σ (brB σ row (nI (en row q)) (nI k2) k) o.mb 256).1)])
                        have hP : va_P D vwCl (cW dA x ad μ σ ((o_11.full, o_11.row, o_11.many, o_11.parts, o_11.known, o_11.sort, o_11.brings, o_11.done, o_11.below, o_11.end_, kbF σ row k q k2) : Om)) H := by rw [← (ho_12.1.trans (kb_eq hJ row k q k2 _))]; exact hP
                        refine lv_pop hx hb dX0_know_152 rfl ?_
                        refine lv_lload hx hb dX0_know_153 (lv_at hl 1 rfl) ?_
                        refine lv_aload_n hx hb dX0_know_155 rfl (lv_at hl 4 rfl) ?_
                        refine va_get (D := D) (ci := 1) (v := .ref (ad 2)) (C := RX0) (T := TX0) (N := 11) hx hb hts in_X0 hown hK hP 0 rfl rfl 5 (by decide) (hts _ q218) (fun _ h9 => h9) rfl dX0_know_156 ?_
                        refine lv_iload_n hx hb dX0_know_159 rfl (lv_at hl 7 rfl) ?_
                        refine wa_aald (v := .ref (μ.cA (en row q))) hx hb hK hP 3 5 rfl rfl rfl (en row q) (rfl) (by omega) (by decide) (cO_t hTq) dX0_know_160 ?_
                        refine va_get (D := D) (ci := 5) (v := .ref (μ.lA (en row q))) (C := RX7) (T := TX7) (N := 3) hx hb hts in_X7 hown hK (pl1 hP (hR.2.1 (en row q) hcq hTq).1.1 (hR.2.1 (en row q) hcq hTq).1.2) 0 rfl rfl 1 (by decide) (hts _ q701) (fun _ h9 => h9) rfl dX0_know_161 ?_
                        refine lv_iload hx hb dX0_know_164 (lv_at hl 0 rfl) ?_
                        refine g_sort (rest := [.long (sumL (fun s => lkW σ row q s * kbF σ row k q s) k2)]) ⟨hx, hb, hml, hown, hts⟩ (cw_X0_J2_get hts ⟨Nat.le_of_ble_eq_true rfl, Nat.le_of_ble_eq_true rfl⟩) hK hP (hR.2.1 (en row q) hcq hTq) (hI.sm (en row q) hcq) (show k2 < σ.sm (en row q) by omega) hl.1 rfl (Nat.le_of_ble_eq_true rfl) dX0_know_166 ⟨Nat.le_of_ble_eq_true rfl, Nat.le_of_ble_eq_true rfl⟩ ?_
                        refine va_castS hx hb hown (hts _ q717) (hK.1 6 _ rfl).2 (va_recv hK (pl1 hP ((hR.2.1 (en row q) hcq hTq).2.2.2.2 k2 (show k2 < σ.sm (en row q) by omega)).1 ((hR.2.1 (en row q) hcq hTq).2.2.2.2 k2 (show k2 < σ.sm (en row q) by omega)).2) (ci := 6) (q0 := 0) rfl rfl) dX0_know_169 ?_
                        refine va_get (D := D) (ci := 6) (v := .int (σ.sorts (16 * (en row q) + 4 * k2))) (C := RX9) (T := TX9) (N := 4) hx hb hts in_X9 hown hK (pl1 hP ((hR.2.1 (en row q) hcq hTq).2.2.2.2 k2 (show k2 < σ.sm (en row q) by omega)).1 ((hR.2.1 (en row q) hcq hTq).2.2.2.2 k2 (show k2 < σ.sm (en row q) by omega)).2) 0 rfl rfl 2 (by decide) (hts _ q729) (fun _ h9 => h9) rfl dX0_know_172 ?_
                        refine lv_i2l (v := (σ.sorts (16 * (en row q) + 4 * k2) : Int32).toInt64) hx hb dX0_know_175 rfl ?_
                        refine lv_aload_n hx hb dX0_know_176 rfl (lv_at hl 4 rfl) ?_
                        refine va_get (D := D) (ci := 1) (v := .long (kbF σ row k q k2)) (C := RX0) (T := TX0) (N := 11) hx hb hts in_X0 hown hK hP 0 rfl rfl 10 (by decide) (hts _ q225) (fun _ h9 => h9) rfl dX0_know_177 ?_
                        refine lv_lmul hx hb dX0_know_180 ?_
                        refine lv_ladd hx hb dX0_know_181 ?_
                        refine lv_lstore (lv' := [(7, .long ((sumL (fun s => lkW σ row q s * kbF σ row k q s) k2) + (((σ.sorts (16 * (en row q) + 4 * k2) : Int32).toInt64) * (kbF σ row k q k2)))), (9, .int (nI k2)), (6, .int (hsG row (nI (en row q)) k)), (5, .int (refF σ row (nI k))), (0, .ref x), (1, .int row), (2, .int (nI k)), (3, .int (nI (en row q))), (4, .int w)]) hx hb dX0_know_182 hl (by decide) rfl (fun ls hl => ?_)
                        refine lv_iinc (v := nI (k2 + 1)) (lv' := [(9, .int (nI (k2 + 1))), (7, .long ((sumL (fun s => lkW σ row q s * kbF σ row k q s) k2) + (((σ.sorts (16 * (en row q) + 4 * k2) : Int32).toInt64) * (kbF σ row k q k2)))), (6, .int (hsG row (nI (en row q)) k)), (5, .int (refF σ row (nI k))), (0, .ref x), (1, .int row), (2, .int (nI k)), (3, .int (nI (en row q))), (4, .int w)]) hx hb dX0_know_184 hl (k := 1) rfl (nI_1 k2) (by decide) rfl (fun ls hl => ?_)
                        refine lv_goto (tgt := 126) hx hb dX0_know_187 rfl ?_
                        exact ih_7 (k2 + 1) ((o_11.full, o_11.row, o_11.many, o_11.parts, o_11.known, o_11.sort, o_11.brings, o_11.done, o_11.below, o_11.end_, kbF σ row k q k2) : Om) (nI (k2 + 1)) ((sumL (fun s => lkW σ row q s * kbF σ row k q s) k2) + (((σ.sorts (16 * (en row q) + 4 * k2) : Int32).toInt64) * (kbF σ row k q k2))) ls _ _ (by omega) (by omega) rfl rfl (lv_sub hl [0, 1, 2, 3, 4, 5, 6, 7, 8] rfl) hP hS
                  exact hL126_5 _ 0 ω 0 0 ls _ _ (Nat.lt_succ_self _) (by omega) rfl rfl (lv_sub hl [0, 1, 2, 3, 4, 5, 6, 7, 8] rfl) hP hS
                · have h111 : ¬ (inP ((w : Int32).toInt64) 0 1) := b01_0.mp h111
                  refine lv_bipush (v := (-3)) hx hb dX0_know_114 rfl ?_
                  refine cSl (As := [.int (-3)]) (rest := []) ⟨hx, hb, hml, hown, hts⟩ (mt_X0_refused l (-3)) (cw_X0_X0_refused hts ⟨Nat.le_of_ble_eq_true rfl, Nat.le_of_ble_eq_true rfl⟩) w_blT (fun _ _ _ => trivial) rfl hl.1 rfl (Nat.le_of_ble_eq_true rfl) dX0_know_116 ⟨Nat.le_of_ble_eq_true rfl, Nat.le_of_ble_eq_true rfl⟩ ?_
                  exact cme_l hQ hx hb hr hlocks hK hN hP hS (by rw [knowF, if_pos h71, if_neg h84, hix, if_neg (fun z => h89 ((hs_kn row c_ k hj).mpr z)), if_pos h100, if_neg h111]; rfl) (rfl) (trivial) dX0_know_119
            · have h89 : (hsG row c_ k) = 0 := h89
              refine lv_bipush (v := (-2)) hx hb dX0_know_92 rfl ?_
              refine cSl (As := [.int (-2)]) (rest := []) ⟨hx, hb, hml, hown, hts⟩ (mt_X0_refused l (-2)) (cw_X0_X0_refused hts ⟨Nat.le_of_ble_eq_true rfl, Nat.le_of_ble_eq_true rfl⟩) w_blT (fun _ _ _ => trivial) rfl hl.1 rfl (Nat.le_of_ble_eq_true rfl) dX0_know_94 ⟨Nat.le_of_ble_eq_true rfl, Nat.le_of_ble_eq_true rfl⟩ ?_
              exact cme_l hQ hx hb hr hlocks hK hN hP hS (by rw [knowF, if_pos h71, if_neg h84, hix, if_pos ((hs_kn row c_ k hj).mp h89)]; rfl) (rfl) (trivial) dX0_know_97
        · have h71 : ¬ (inP ((n_ : Int32).toInt64) 1 6) := b01_0.mp h71
          refine lv_bipush (v := (-3)) hx hb dX0_know_74 rfl ?_
          refine cSl (As := [.int (-3)]) (rest := []) ⟨hx, hb, hml, hown, hts⟩ (mt_X0_refused l (-3)) (cw_X0_X0_refused hts ⟨Nat.le_of_ble_eq_true rfl, Nat.le_of_ble_eq_true rfl⟩) w_blT (fun _ _ _ => trivial) rfl hl.1 rfl (Nat.le_of_ble_eq_true rfl) dX0_know_76 ⟨Nat.le_of_ble_eq_true rfl, Nat.le_of_ble_eq_true rfl⟩ ?_
          exact cme_l hQ hx hb hr hlocks hK hN hP hS (by rw [knowF, if_neg h71]; rfl) (rfl) (trivial) dX0_know_79
      · have h17 : ¬ (n_ ≤ (nI k)) := h17
        refine lv_iload hx hb dX0_know_20 (lv_at hl 0 rfl) ?_
        refine lv_bipush (v := 6) hx hb dX0_know_22 rfl ?_
        refine lv_icmp_ge (tgt := 62) hx hb dX0_know_24 rfl (fun h24 => ?_) (fun h24 => ?_)
        · have h24 : 6 ≤ k := (nz_le (a := 6) (b := k) rfl rfl (by omega) (by omega)).mp h24
          have hout : ∀ j, 1 ≤ j → j ≤ 6 → n_ = nI j → k = j := fun j h1 h6 e => kout2 (by omega) hin h1 h6 e
          refine lv_iload_n hx hb dX0_know_62 rfl (lv_at hl 5 rfl) ?_
          refine lv_i2l (v := (n_ : Int32).toInt64) hx hb dX0_know_63 rfl ?_
          refine lv_lconst (v := 1) hx hb dX0_know_64 rfl ?_
          refine lv_ldc2 (v := 6) hx hb hown (hts _ q828) dX0_know_65 ?_
          refine cSi (As := [.long ((n_ : Int32).toInt64), .long 1, .long 6]) (rest := []) ⟨hx, hb, hml, hown, hts⟩ (mt_X0_in l ((n_ : Int32).toInt64) 1 6) (cw_X0_X0_in hts ⟨Nat.le_of_ble_eq_true rfl, Nat.le_of_ble_eq_true rfl⟩) w_blT (fun _ _ _ => trivial) rfl hl.1 rfl (Nat.le_of_ble_eq_true rfl) dX0_know_68 ⟨Nat.le_of_ble_eq_true rfl, Nat.le_of_ble_eq_true rfl⟩ ?_
          refine lv_if_ne (tgt := 80) hx hb dX0_know_71 rfl (fun h71 => ?_) (fun h71 => ?_)
          · have h71 : inP ((n_ : Int32).toInt64) 1 6 := b01_n h71
            obtain ⟨j, hj1, hj, rfl⟩ := in16 h71
            have hix : ix (nI j) = j := ix_nI (Nat.lt_succ_of_le hj) (by decide)
            have hkj : k = j := hout j hj1 hj rfl
            subst hkj
            refine lv_iload hx hb dX0_know_80 (lv_at hl 2 rfl) ?_
            refine lv_bipush (v := (-2)) hx hb dX0_know_82 rfl ?_
            refine lv_icmp_eq (tgt := 92) hx hb dX0_know_84 rfl (fun h84 => ?_) (fun h84 => ?_)
            · have h84 : (refF σ row (nI k)) = (-2) := h84
              refine lv_bipush (v := (-2)) hx hb dX0_know_92 rfl ?_
              refine cSl (As := [.int (-2)]) (rest := []) ⟨hx, hb, hml, hown, hts⟩ (mt_X0_refused l (-2)) (cw_X0_X0_refused hts ⟨Nat.le_of_ble_eq_true rfl, Nat.le_of_ble_eq_true rfl⟩) w_blT (fun _ _ _ => trivial) rfl hl.1 rfl (Nat.le_of_ble_eq_true rfl) dX0_know_94 ⟨Nat.le_of_ble_eq_true rfl, Nat.le_of_ble_eq_true rfl⟩ ?_
              exact cme_l hQ hx hb hr hlocks hK hN hP hS (by rw [knowF, if_pos h71, if_pos h84]; rfl) (rfl) (trivial) dX0_know_97
            · have h84 : ¬ ((refF σ row (nI k)) = (-2)) := h84
              refine lv_iload hx hb dX0_know_87 (lv_at hl 1 rfl) ?_
              refine lv_if_ne (tgt := 98) hx hb dX0_know_89 rfl (fun h89 => ?_) (fun h89 => ?_)
              · have h89 : ¬ ((hsG row c_ k) = 0) := h89
                refine lv_iload hx hb dX0_know_98 (lv_at hl 2 rfl) ?_
                refine lv_if_ne (tgt := 114) hx hb dX0_know_100 rfl (fun h100 => ?_) (fun h100 => ?_)
                · have h100 : ¬ ((refF σ row (nI k)) = 0) := h100
                  refine lv_bipush (v := (-3)) hx hb dX0_know_114 rfl ?_
                  refine cSl (As := [.int (-3)]) (rest := []) ⟨hx, hb, hml, hown, hts⟩ (mt_X0_refused l (-3)) (cw_X0_X0_refused hts ⟨Nat.le_of_ble_eq_true rfl, Nat.le_of_ble_eq_true rfl⟩) w_blT (fun _ _ _ => trivial) rfl hl.1 rfl (Nat.le_of_ble_eq_true rfl) dX0_know_116 ⟨Nat.le_of_ble_eq_true rfl, Nat.le_of_ble_eq_true rfl⟩ ?_
                  exact cme_l hQ hx hb hr hlocks hK hN hP hS (by rw [knowF, if_pos h71, if_neg h84, hix, if_neg (fun z => h89 ((hs_kn row c_ k hj).mpr z)), if_neg h100]; rfl) (rfl) (trivial) dX0_know_119
                · have h100 : (refF σ row (nI k)) = 0 := h100
                  refine lv_iload hx hb dX0_know_103 (lv_at hl 7 rfl) ?_
                  refine lv_i2l (v := (w : Int32).toInt64) hx hb dX0_know_105 rfl ?_
                  refine lv_lconst (v := 0) hx hb dX0_know_106 rfl ?_
                  refine lv_lconst (v := 1) hx hb dX0_know_107 rfl ?_
                  refine cSi (As := [.long ((w : Int32).toInt64), .long 0, .long 1]) (rest := []) ⟨hx, hb, hml, hown, hts⟩ (mt_X0_in l ((w : Int32).toInt64) 0 1) (cw_X0_X0_in hts ⟨Nat.le_of_ble_eq_true rfl, Nat.le_of_ble_eq_true rfl⟩) w_blT (fun _ _ _ => trivial) rfl hl.1 rfl (Nat.le_of_ble_eq_true rfl) dX0_know_108 ⟨Nat.le_of_ble_eq_true rfl, Nat.le_of_ble_eq_true rfl⟩ ?_
                  refine lv_if_ne (tgt := 120) hx hb dX0_know_111 rfl (fun h111 => ?_) (fun h111 => ?_)
                  · have h111 : inP ((w : Int32).toInt64) 0 1 := b01_n h111
                    have hkne : ¬ knE row c_ k = -1 := fun z => h89 ((hs_kn row c_ k hj).mpr z)
                    obtain ⟨q, hq, hkq, hc6, heq⟩ := knE_ok k hkne
                    obtain rfl : c_ = nI (en row q) := by rw [← heq, en_eq]
                    have hoT := ref_okT hj1 hj h100
                    have htw := (ref_okJ hj1 hj h100).2
                    have h6 : ¬ en row q = 6 := fun z => hc6 (by rw [z]; rfl)
                    obtain ⟨hcq, hTq, hsq⟩ := (hoT q hq).resolve_left h6
                    have hu := tw_un htw hq h6
                    have hsm := hI.sm (en row q) hcq
                    have hiq : ix (nI q) = q := ix_nI (N := 6) (by omega) (by decide)
                    have hic : ix (nI (en row q)) = en row q := ix_nI hcq (by decide)
                    refine lv_lconst (v := 0) hx hb dX0_know_120 rfl ?_
                    refine lv_lstore (lv' := [(7, .long 0), (6, .int (hsG row (nI (en row q)) k)), (5, .int (refF σ row (nI k))), (0, .ref x), (1, .int row), (2, .int (nI k)), (3, .int (nI (en row q))), (4, .int w)]) hx hb dX0_know_121 hl (by decide) rfl (fun ls hl => ?_)
                    refine lv_iconst (v := 0) hx hb dX0_know_123 rfl ?_
                    refine lv_istore (lv' := [(9, .int 0), (7, .long 0), (6, .int (hsG row (nI (en row q)) k)), (5, .int (refF σ row (nI k))), (0, .ref x), (1, .int row), (2, .int (nI k)), (3, .int (nI (en row q))), (4, .int w)]) hx hb dX0_know_124 hl (by decide) rfl (fun ls hl => ?_)
                    have hL126_13 : ∀ (n_14 : Nat) (k2 : Nat) (o : Om) (x9 : Int32) (x7 : Int64) (ls : Array Slot) (H : Heap) (locs : List Loc), (4 - k2) < n_14 → (k2 ≤ σ.sm (en row q)) → x9 = (nI k2) → x7 = (sumL (fun s => lkW σ row q s * kbF σ row k q s) k2) → lv_has ls 10 [(9, .int x9), (7, .long x7), (6, .int (hsG row (nI (en row q)) k)), (5, .int (refF σ row (nI k))), (0, .ref x), (1, .int row), (2, .int (nI k)), (3, .int (nI (en row q))), (4, .int w)] → va_P D vwCl (cW dA x ad μ σ o) H → va_S (cA x ad μ) s.heap H locs → W p l e rmX0_know s m args below meth c H locs 0 0 Q (F0 m 126 ls []) := by
                      intro n_14
                      induction n_14 with
                      | zero => intro k2 o x9 x7 ls H locs hm_16; exact absurd hm_16 (Nat.not_lt_zero _)
                      | succ n_14 ih_15 =>
                        intro k2 o x9 x7 ls H locs hm_16 hk2 ex9 ex7 hl hP hS
                        subst ex9 ex7
                        refine lv_iload hx hb dX0_know_126 (lv_at hl 0 rfl) ?_
                        refine lv_aload_n hx hb dX0_know_128 rfl (lv_at hl 4 rfl) ?_
                        refine va_get (D := D) (ci := 1) (v := .ref (ad 2)) (C := RX0) (T := TX0) (N := 11) hx hb hts in_X0 hown hK hP 0 rfl rfl 5 (by decide) (hts _ q218) (fun _ h9 => h9) rfl dX0_know_129 ?_
                        refine lv_iload_n hx hb dX0_know_132 rfl (lv_at hl 7 rfl) ?_
                        refine wa_aald (v := .ref (μ.cA (en row q))) hx hb hK hP 3 5 rfl rfl rfl (en row q) (rfl) (by omega) (by decide) (cO_t hTq) dX0_know_133 ?_
                        refine va_get (D := D) (ci := 5) (v := .ref (μ.lA (en row q))) (C := RX7) (T := TX7) (N := 3) hx hb hts in_X7 hown hK (pl1 hP (hR.2.1 (en row q) hcq hTq).1.1 (hR.2.1 (en row q) hcq hTq).1.2) 0 rfl rfl 1 (by decide) (hts _ q701) (fun _ h9 => h9) rfl dX0_know_134 ?_
                        refine dV (v := .int (nI (σ.sm (en row q)))) (As := []) (rest := [.int (nI k2)]) ⟨hx, hb, hml, hown, hts⟩ (mt_J2_size l D dA (μ.lA (en row q)) (μ.eA (en row q)) (μ.mA (en row q)) (σ.sm (en row q))) (cw_X0_J2_size hts ⟨Nat.le_of_ble_eq_true rfl, Nat.le_of_ble_eq_true rfl⟩) pB_bw (pB_now hK (pl1 hP (hR.2.1 (en row q) hcq hTq).2.2.1.1 (hR.2.1 (en row q) hcq hTq).2.2.1.2)) (va_recv hK (pl1 hP (hR.2.1 (en row q) hcq hTq).2.2.1.1 (hR.2.1 (en row q) hcq hTq).2.2.1.2) (ci := 8) (q0 := 0) rfl rfl) rfl hl.1 rfl (Nat.le_of_ble_eq_true rfl) dX0_know_137 ⟨Nat.le_of_ble_eq_true rfl, Nat.le_of_ble_eq_true rfl⟩ ?_
                        refine lv_icmp_ge (tgt := 190) hx hb dX0_know_140 rfl (fun h140 => ?_) (fun h140 => ?_)
                        · have h140 : (σ.sm (en row q)) ≤ k2 := (nz_le (a := (σ.sm (en row q))) (b := k2) rfl rfl (by omega) (by omega)).mp h140
                          have hk_ : k2 = σ.sm (en row q) := by omega
                          subst hk_
                          refine lv_aload_n hx hb dX0_know_190 rfl (lv_at hl 4 rfl) ?_
                          refine lv_iload_n hx hb dX0_know_191 rfl (lv_at hl 5 rfl) ?_
                          refine lv_iload_n hx hb dX0_know_192 rfl (lv_at hl 6 rfl) ?_
                          refine lv_iconst (v := (-1)) hx hb dX0_know_193 rfl ?_
                          refine lv_iconst (v := 0) hx hb dX0_know_194 rfl ?_
                          refine dME (v := some (.int ((bsG σ (brB σ row (-1) 0 k) o.mb 256).1))) (σ' := σ) (As := [.int row, .int (nI k), .int (-1), .int 0]) (rest := []) ⟨hx, hb, hml, hown, hts⟩ (mt_X0_bestOf l D dA x ad μ σ o hcD row k (-1) 0 hI hR hoT hj1 hj) (cw_X0_X0_bestOf hts ⟨Nat.le_of_ble_eq_true rfl, Nat.le_of_ble_eq_true rfl⟩) (cB_now hK hN hP) (va_recv hK hP (ci := 1) (q0 := 0) rfl rfl) rfl hl.1 rfl (Nat.le_of_ble_eq_true rfl) dX0_know_195 ⟨Nat.le_of_ble_eq_true rfl, Nat.le_of_ble_eq_true rfl⟩ hS (fun o_17 ho_18 H locs hP hS => ?_)
                          change W p l e rmX0_know s m args below meth c H locs 0 0 Q (F0 m 198 ls [.int ((bsG σ (brB σ row (-1) 0 k) o.mb 256).1)])
                          have hP : va_P D vwCl (cW dA x ad μ σ ((o_17.full, o_17.row, o_17.many, o_17.parts, o_17.known, o_17.sort, o_17.brings, o_17.done, allP σ row k, o_17.end_, mnF σ row k (bbF σ row k)) : Om)) H := by rw [← (ho_18.1.trans (best_2 hI hJ hoT hj _)), ← ((ho_18.2 (by rw [best_1 hI hoT hj]; exact bb_ne hI hJ hoT hj)).trans (bel_all σ row k))]; exact hP
                          refine lv_pop hx hb dX0_know_198 rfl ?_
                          refine lv_lload hx hb dX0_know_199 (lv_at hl 1 rfl) ?_
                          refine lv_aload_n hx hb dX0_know_201 rfl (lv_at hl 4 rfl) ?_
                          refine va_get (D := D) (ci := 1) (v := .long (mnF σ row k (bbF σ row k))) (C := RX0) (T := TX0) (N := 11) hx hb hts in_X0 hown hK hP 0 rfl rfl 10 (by decide) (hts _ q225) (fun _ h9 => h9) rfl dX0_know_202 ?_
                          refine lv_lsub hx hb dX0_know_205 ?_
                          refine lv_aload_n hx hb dX0_know_206 rfl (lv_at hl 4 rfl) ?_
                          refine va_get (D := D) (ci := 1) (v := .ref (ad 4)) (C := RX0) (T := TX0) (N := 11) hx hb hts in_X0 hown hK hP 0 rfl rfl 8 (by decide) (hts _ q223) (fun _ h9 => h9) rfl dX0_know_207 ?_
                          refine va_get (D := D) (ci := 2) (v := .long (allP σ row k)) (C := RX1) (T := TX1) (N := 11) hx hb hts in_X1 hown hK hP 5 rfl rfl 8 (by decide) (hts _ q140) (fun _ h9 => h9) rfl dX0_know_210 ?_
                          refine lv_iload hx hb dX0_know_213 (lv_at hl 8 rfl) ?_
                          refine cSl (As := [.long ((sumL (fun s => lkW σ row q s * kbF σ row k q s) (σ.sm (en row q))) - (mnF σ row k (bbF σ row k))), .long (allP σ row k), .int w]) (rest := []) ⟨hx, hb, hml, hown, hts⟩ (mt_X0_part l ((sumL (fun s => lkW σ row q s * kbF σ row k q s) (σ.sm (en row q))) - (mnF σ row k (bbF σ row k))) (allP σ row k) w (all_ne hI (okT_R hj hoT))) (cw_X0_X0_part hts ⟨Nat.le_of_ble_eq_true rfl, Nat.le_of_ble_eq_true rfl⟩) w_blT (fun _ _ _ => trivial) rfl hl.1 rfl (Nat.le_of_ble_eq_true rfl) dX0_know_215 ⟨Nat.le_of_ble_eq_true rfl, Nat.le_of_ble_eq_true rfl⟩ ?_
                          exact cme_l hQ hx hb hr hlocks hK hN hP hS (by rw [knowF, if_pos h71, if_neg h84, hix, if_neg hkne, if_pos h100, if_pos h111, hkq, hiq, hic, ks_eq hI hJ hoT hj hq h6 hu _ (Nat.le_refl _)]) (rfl) (trivial) dX0_know_218
                        · have h140 : ¬ ((σ.sm (en row q)) ≤ k2) := fun z9 => h140 ((nz_le (a := (σ.sm (en row q))) (b := k2) rfl rfl (by omega) (by omega)).mpr z9)
                          refine lv_aload_n hx hb dX0_know_143 rfl (lv_at hl 4 rfl) ?_
                          refine lv_iload_n hx hb dX0_know_144 rfl (lv_at hl 5 rfl) ?_
                          refine lv_iload_n hx hb dX0_know_145 rfl (lv_at hl 6 rfl) ?_
                          refine lv_iload_n hx hb dX0_know_146 rfl (lv_at hl 7 rfl) ?_
                          refine lv_iload hx hb dX0_know_147 (lv_at hl 0 rfl) ?_
                          refine dME (v := some (.int ((bsG σ (brB σ row (nI (en row q)) (nI k2) k) o.mb 256).1))) (σ' := σ) (As := [.int row, .int (nI k), .int (nI (en row q)), .int (nI k2)]) (rest := []) ⟨hx, hb, hml, hown, hts⟩ (mt_X0_bestOf l D dA x ad μ σ o hcD row k (nI (en row q)) (nI k2) hI hR hoT hj1 hj) (cw_X0_X0_bestOf hts ⟨Nat.le_of_ble_eq_true rfl, Nat.le_of_ble_eq_true rfl⟩) (cB_now hK hN hP) (va_recv hK hP (ci := 1) (q0 := 0) rfl rfl) rfl hl.1 rfl (Nat.le_of_ble_eq_true rfl) dX0_know_149 ⟨Nat.le_of_ble_eq_true rfl, Nat.le_of_ble_eq_true rfl⟩ hS (fun o_19 ho_20 H locs hP hS => ?_)
                          change W p l e rmX0_know s m args below meth c H locs 0 0 Q (F0 m 152 ls [.int ((bsG σ (brB σ row (nI (en row q)) (nI k2) k) o.mb 256).1)])
                          have hP : va_P D vwCl (cW dA x ad μ σ ((o_19.full, o_19.row, o_19.many, o_19.parts, o_19.known, o_19.sort, o_19.brings, o_19.done, o_19.below, o_19.end_, kbF σ row k q k2) : Om)) H := by rw [← (ho_20.1.trans (kb_eq hJ row k q k2 _))]; exact hP
                          refine lv_pop hx hb dX0_know_152 rfl ?_
                          refine lv_lload hx hb dX0_know_153 (lv_at hl 1 rfl) ?_
                          refine lv_aload_n hx hb dX0_know_155 rfl (lv_at hl 4 rfl) ?_
                          refine va_get (D := D) (ci := 1) (v := .ref (ad 2)) (C := RX0) (T := TX0) (N := 11) hx hb hts in_X0 hown hK hP 0 rfl rfl 5 (by decide) (hts _ q218) (fun _ h9 => h9) rfl dX0_know_156 ?_
                          refine lv_iload_n hx hb dX0_know_159 rfl (lv_at hl 7 rfl) ?_
                          refine wa_aald (v := .ref (μ.cA (en row q))) hx hb hK hP 3 5 rfl rfl rfl (en row q) (rfl) (by omega) (by decide) (cO_t hTq) dX0_know_160 ?_
                          refine va_get (D := D) (ci := 5) (v := .ref (μ.lA (en row q))) (C := RX7) (T := TX7) (N := 3) hx hb hts in_X7 hown hK (pl1 hP (hR.2.1 (en row q) hcq hTq).1.1 (hR.2.1 (en row q) hcq hTq).1.2) 0 rfl rfl 1 (by decide) (hts _ q701) (fun _ h9 => h9) rfl dX0_know_161 ?_
                          refine lv_iload hx hb dX0_know_164 (lv_at hl 0 rfl) ?_
                          refine g_sort (rest := [.long (sumL (fun s => lkW σ row q s * kbF σ row k q s) k2)]) ⟨hx, hb, hml, hown, hts⟩ (cw_X0_J2_get hts ⟨Nat.le_of_ble_eq_true rfl, Nat.le_of_ble_eq_true rfl⟩) hK hP (hR.2.1 (en row q) hcq hTq) (hI.sm (en row q) hcq) (show k2 < σ.sm (en row q) by omega) hl.1 rfl (Nat.le_of_ble_eq_true rfl) dX0_know_166 ⟨Nat.le_of_ble_eq_true rfl, Nat.le_of_ble_eq_true rfl⟩ ?_
                          refine va_castS hx hb hown (hts _ q717) (hK.1 6 _ rfl).2 (va_recv hK (pl1 hP ((hR.2.1 (en row q) hcq hTq).2.2.2.2 k2 (show k2 < σ.sm (en row q) by omega)).1 ((hR.2.1 (en row q) hcq hTq).2.2.2.2 k2 (show k2 < σ.sm (en row q) by omega)).2) (ci := 6) (q0 := 0) rfl rfl) dX0_know_169 ?_
                          refine va_get (D := D) (ci := 6) (v := .int (σ.sorts (16 * (en row q) + 4 * k2))) (C := RX9) (T := TX9) (N := 4) hx hb hts in_X9 hown hK (pl1 hP ((hR.2.1 (en row q) hcq hTq).2.2.2.2 k2 (show k2 < σ.sm (en row q) by omega)).1 ((hR.2.1 (en row q) hcq hTq).2.2.2.2 k2 (show k2 < σ.sm (en row q) by omega)).2) 0 rfl rfl 2 (by decide) (hts _ q729) (fun _ h9 => h9) rfl dX0_know_172 ?_
                          refine lv_i2l (v := (σ.sorts (16 * (en row q) + 4 * k2) : Int32).toInt64) hx hb dX0_know_175 rfl ?_
                          refine lv_aload_n hx hb dX0_know_176 rfl (lv_at hl 4 rfl) ?_
                          refine va_get (D := D) (ci := 1) (v := .long (kbF σ row k q k2)) (C := RX0) (T := TX0) (N := 11) hx hb hts in_X0 hown hK hP 0 rfl rfl 10 (by decide) (hts _ q225) (fun _ h9 => h9) rfl dX0_know_177 ?_
                          refine lv_lmul hx hb dX0_know_180 ?_
                          refine lv_ladd hx hb dX0_know_181 ?_
                          refine lv_lstore (lv' := [(7, .long ((sumL (fun s => lkW σ row q s * kbF σ row k q s) k2) + (((σ.sorts (16 * (en row q) + 4 * k2) : Int32).toInt64) * (kbF σ row k q k2)))), (9, .int (nI k2)), (6, .int (hsG row (nI (en row q)) k)), (5, .int (refF σ row (nI k))), (0, .ref x), (1, .int row), (2, .int (nI k)), (3, .int (nI (en row q))), (4, .int w)]) hx hb dX0_know_182 hl (by decide) rfl (fun ls hl => ?_)
                          refine lv_iinc (v := nI (k2 + 1)) (lv' := [(9, .int (nI (k2 + 1))), (7, .long ((sumL (fun s => lkW σ row q s * kbF σ row k q s) k2) + (((σ.sorts (16 * (en row q) + 4 * k2) : Int32).toInt64) * (kbF σ row k q k2)))), (6, .int (hsG row (nI (en row q)) k)), (5, .int (refF σ row (nI k))), (0, .ref x), (1, .int row), (2, .int (nI k)), (3, .int (nI (en row q))), (4, .int w)]) hx hb dX0_know_184 hl (k := 1) rfl (nI_1 k2) (by decide) rfl (fun ls hl => ?_)
                          refine lv_goto (tgt := 126) hx hb dX0_know_187 rfl ?_
                          exact ih_15 (k2 + 1) ((o_19.full, o_19.row, o_19.many, o_19.parts, o_19.known, o_19.sort, o_19.brings, o_19.done, o_19.below, o_19.end_, kbF σ row k q k2) : Om) (nI (k2 + 1)) ((sumL (fun s => lkW σ row q s * kbF σ row k q s) k2) + (((σ.sorts (16 * (en row q) + 4 * k2) : Int32).toInt64) * (kbF σ row k q k2))) ls _ _ (by omega) (by omega) rfl rfl (lv_sub hl [0, 1, 2, 3, 4, 5, 6, 7, 8] rfl) hP hS
                    exact hL126_13 _ 0 ω 0 0 ls _ _ (Nat.lt_succ_self _) (by omega) rfl rfl (lv_sub hl [0, 1, 2, 3, 4, 5, 6, 7, 8] rfl) hP hS
                  · have h111 : ¬ (inP ((w : Int32).toInt64) 0 1) := b01_0.mp h111
                    refine lv_bipush (v := (-3)) hx hb dX0_know_114 rfl ?_
                    refine cSl (As := [.int (-3)]) (rest := []) ⟨hx, hb, hml, hown, hts⟩ (mt_X0_refused l (-3)) (cw_X0_X0_refused hts ⟨Nat.le_of_ble_eq_true rfl, Nat.le_of_ble_eq_true rfl⟩) w_blT (fun _ _ _ => trivial) rfl hl.1 rfl (Nat.le_of_ble_eq_true rfl) dX0_know_116 ⟨Nat.le_of_ble_eq_true rfl, Nat.le_of_ble_eq_true rfl⟩ ?_
                    exact cme_l hQ hx hb hr hlocks hK hN hP hS (by rw [knowF, if_pos h71, if_neg h84, hix, if_neg (fun z => h89 ((hs_kn row c_ k hj).mpr z)), if_pos h100, if_neg h111]; rfl) (rfl) (trivial) dX0_know_119
              · have h89 : (hsG row c_ k) = 0 := h89
                refine lv_bipush (v := (-2)) hx hb dX0_know_92 rfl ?_
                refine cSl (As := [.int (-2)]) (rest := []) ⟨hx, hb, hml, hown, hts⟩ (mt_X0_refused l (-2)) (cw_X0_X0_refused hts ⟨Nat.le_of_ble_eq_true rfl, Nat.le_of_ble_eq_true rfl⟩) w_blT (fun _ _ _ => trivial) rfl hl.1 rfl (Nat.le_of_ble_eq_true rfl) dX0_know_94 ⟨Nat.le_of_ble_eq_true rfl, Nat.le_of_ble_eq_true rfl⟩ ?_
                exact cme_l hQ hx hb hr hlocks hK hN hP hS (by rw [knowF, if_pos h71, if_neg h84, hix, if_pos ((hs_kn row c_ k hj).mp h89)]; rfl) (rfl) (trivial) dX0_know_97
          · have h71 : ¬ (inP ((n_ : Int32).toInt64) 1 6) := b01_0.mp h71
            refine lv_bipush (v := (-3)) hx hb dX0_know_74 rfl ?_
            refine cSl (As := [.int (-3)]) (rest := []) ⟨hx, hb, hml, hown, hts⟩ (mt_X0_refused l (-3)) (cw_X0_X0_refused hts ⟨Nat.le_of_ble_eq_true rfl, Nat.le_of_ble_eq_true rfl⟩) w_blT (fun _ _ _ => trivial) rfl hl.1 rfl (Nat.le_of_ble_eq_true rfl) dX0_know_76 ⟨Nat.le_of_ble_eq_true rfl, Nat.le_of_ble_eq_true rfl⟩ ?_
            exact cme_l hQ hx hb hr hlocks hK hN hP hS (by rw [knowF, if_neg h71]; rfl) (rfl) (trivial) dX0_know_79
        · have h24 : ¬ (6 ≤ k) := fun z9 => h24 ((nz_le (a := 6) (b := k) rfl rfl (by omega) (by omega)).mpr z9)
          refine lv_iload hx hb dX0_know_27 (lv_at hl 1 rfl) ?_
          refine lv_iload_n hx hb dX0_know_29 rfl (lv_at hl 4 rfl) ?_
          refine lv_iconst (v := 4) hx hb dX0_know_30 rfl ?_
          refine lv_iload hx hb dX0_know_31 (lv_at hl 0 rfl) ?_
          refine lv_imul hx hb dX0_know_33 ?_
          refine lv_ishr hx hb dX0_know_34 ?_
          refine lv_bipush (v := 15) hx hb dX0_know_35 rfl ?_
          refine lv_iand hx hb dX0_know_37 ?_
          refine w_topi (y := entF row k) (rfl) ?_
          refine lv_iload_n hx hb dX0_know_38 rfl (lv_at hl 6 rfl) ?_
          have hJ53_21 : ∀ (v_22 : Int32) (ls : Array Slot), v_22 = (if (entF row k) = c_ then if c_ = 6 then 0 else 1 else 0) → lv_has ls 10 [(7, .int (nI k)), (6, .int (hsG row c_ k)), (5, .int (refF σ row n_)), (0, .ref x), (1, .int row), (2, .int n_), (3, .int c_), (4, .int w)] → W p l e rmX0_know s m args below meth c s.heap [] 0 0 Q (F0 m 53 ls [.int v_22, .int (hsG row c_ k)]) := by
            intro v_22 ls ev_22 hl
            refine lv_ior hx hb dX0_know_53 ?_
            refine lv_istore (lv' := [(6, .int ((hsG row c_ k) ||| v_22)), (7, .int (nI k)), (5, .int (refF σ row n_)), (0, .ref x), (1, .int row), (2, .int n_), (3, .int c_), (4, .int w)]) hx hb dX0_know_54 hl (by decide) rfl (fun ls hl => ?_)
            refine lv_iinc (v := nI (k + 1)) (lv' := [(7, .int (nI (k + 1))), (6, .int ((hsG row c_ k) ||| v_22)), (5, .int (refF σ row n_)), (0, .ref x), (1, .int row), (2, .int n_), (3, .int c_), (4, .int w)]) hx hb dX0_know_56 hl (k := 1) rfl (nI_1 k) (by decide) rfl (fun ls hl => ?_)
            refine lv_goto (tgt := 14) hx hb dX0_know_59 rfl ?_
            exact ih_3 (k + 1) (nI (k + 1)) ((hsG row c_ k) ||| v_22) ls (by omega) (by omega) (Or.inr (Int32.not_le.mp h17)) rfl (by subst_vars; rw [hsG]) (lv_sub hl [0, 1, 2, 3, 4, 5, 6, 7] rfl)
          refine lv_icmp_ne (tgt := 52) hx hb dX0_know_39 rfl (fun h39 => ?_) (fun h39 => ?_)
          · have h39 : ¬ ((entF row k) = c_) := h39
            refine lv_iconst (v := 0) hx hb dX0_know_52 rfl ?_
            exact hJ53_21 (0) ls (by rw [if_neg h39]) (lv_sub hl [0, 1, 2, 3, 4, 5, 6, 7] rfl)
          · have h39 : (entF row k) = c_ := h39
            refine lv_iload_n hx hb dX0_know_42 rfl (lv_at hl 6 rfl) ?_
            refine lv_bipush (v := 6) hx hb dX0_know_43 rfl ?_
            refine lv_icmp_eq (tgt := 52) hx hb dX0_know_45 rfl (fun h45 => ?_) (fun h45 => ?_)
            · have h45 : c_ = 6 := h45
              refine lv_iconst (v := 0) hx hb dX0_know_52 rfl ?_
              exact hJ53_21 (0) ls (by rw [if_pos h39, if_pos h45]) (lv_sub hl [0, 1, 2, 3, 4, 5, 6, 7] rfl)
            · have h45 : ¬ (c_ = 6) := h45
              refine lv_iconst (v := 1) hx hb dX0_know_48 rfl ?_
              refine lv_goto (tgt := 53) hx hb dX0_know_49 rfl ?_
              exact hJ53_21 (1) ls (by rw [if_pos h39, if_neg h45]) (lv_sub hl [0, 1, 2, 3, 4, 5, 6, 7] rfl)
  exact hL14_1 _ 0 0 0 ls (Nat.lt_succ_self _) (by omega) (Or.inl rfl) rfl (by subst_vars; rw [hsG]) (lv_sub hl [0, 1, 2, 3, 4, 5, 6, 7] rfl)

def rmX0_bestBoth : Room := { frames := 11, cells := 0, slots := 0, locals := 322 }
set_option maxHeartbeats 1000000 in
theorem mt_X0_bestBoth (l : Launch) (D : va_G) (dA : Nat → ClassId) (x : Nat) (ad : Nat → Nat) (μ : Lay) (σ : St) (ω : Om) (hcD : cD x ad μ) (j : Nat) (hI : Inv σ) (hR : Rel dA μ σ) (hJ : Inv2 σ) (hj1 : 1 ≤ j) (hj3 : j ≤ 3) : Met l yX0_bestBoth (ws_ yX0_bestBoth cX0_bestBoth 12 (some .int)) rmX0_bestBoth (va_Pc [.ref x, .int (nI j)] (cB D dA x ad μ σ ω)) (cQE (some (.int (bcF (btG σ j (rowsN j))))) D dA x ad μ σ (fun o => True)) 0 0 (cA x ad μ) := by
  refine w_start (by decide) (Nat.le_of_ble_eq_true rfl) ?_
  intro p e s m args below meth c Q ls hQ hx hb hr hlocks hml hown hnm hts hB hl
  have hown : s.vm.findClass RX0 = some m.cls := hown
  have hl : lv_has ls 12 [(0, .ref x), (1, .int (nI j))] := hl
  obtain ⟨hP, hK, hN⟩ := hB
  have hP : va_P D vwCl (cW dA x ad μ σ ω) s.heap := hP
  have hS : va_S (cA x ad μ) s.heap s.heap [] := va_S.rf
  have hrows : rowsN j ≤ 216 := by unfold rowsN; split <;> (try split) <;> omega
  refine lv_iconst (v := (-1)) hx hb dX0_bestBoth_0 rfl ?_
  refine lv_istore_n (lv' := [(2, .int (-1)), (0, .ref x), (1, .int (nI j))]) hx hb dX0_bestBoth_1 rfl hl (by decide) rfl (fun ls hl => ?_)
  refine lv_lconst (v := 0) hx hb dX0_bestBoth_2 rfl ?_
  refine lv_lstore_n (lv' := [(3, .long 0), (2, .int (-1)), (0, .ref x), (1, .int (nI j))]) hx hb dX0_bestBoth_3 rfl hl (by decide) rfl (fun ls hl => ?_)
  refine lv_lconst (v := 1) hx hb dX0_bestBoth_4 rfl ?_
  refine lv_lstore (lv' := [(5, .long 1), (3, .long 0), (2, .int (-1)), (0, .ref x), (1, .int (nI j))]) hx hb dX0_bestBoth_5 hl (by decide) rfl (fun ls hl => ?_)
  refine lv_iload_n hx hb dX0_bestBoth_7 rfl (lv_at hl 4 rfl) ?_
  refine lv_iconst (v := 1) hx hb dX0_bestBoth_8 rfl ?_
  have hJ30_1 : ∀ (v_2 : Int32) (ls : Array Slot), v_2 = (if j = 1 then 6 else if j = 2 then 36 else 216) → lv_has ls 12 [(5, .long 1), (3, .long 0), (2, .int (-1)), (0, .ref x), (1, .int (nI j))] → W p l e rmX0_bestBoth s m args below meth c s.heap [] 0 0 Q (F0 m 30 ls [.int v_2]) := by
    intro v_2 ls ev_2 hl
    have hjs : v_2 = nI (rowsN j) := (by rw [ev_2]; unfold rowsN; split; rfl; split <;> rfl)
    subst hjs
    refine lv_istore (lv' := [(7, .int (nI (rowsN j))), (5, .long 1), (3, .long 0), (2, .int (-1)), (0, .ref x), (1, .int (nI j))]) hx hb dX0_bestBoth_30 hl (by decide) rfl (fun ls hl => ?_)
    refine lv_iconst (v := 0) hx hb dX0_bestBoth_32 rfl ?_
    refine lv_istore (lv' := [(8, .int 0), (7, .int (nI (rowsN j))), (5, .long 1), (3, .long 0), (2, .int (-1)), (0, .ref x), (1, .int (nI j))]) hx hb dX0_bestBoth_33 hl (by decide) rfl (fun ls hl => ?_)
    have hL35_3 : ∀ (n_4 : Nat) (k : Nat) (o : Om) (x8 : Int32) (x5 : Int64) (x3 : Int64) (x2 : Int32) (ls : Array Slot) (H : Heap) (locs : List Loc), (216 - k) < n_4 → (k ≤ rowsN j) → x8 = (nI k) → x5 = ((btG σ j k).2.2.2) → x3 = ((btG σ j k).2.2.1) → x2 = (bcF (btG σ j k)) → lv_has ls 12 [(8, .int x8), (7, .int (nI (rowsN j))), (5, .long x5), (3, .long x3), (2, .int x2), (0, .ref x), (1, .int (nI j))] → va_P D vwCl (cW dA x ad μ σ o) H → va_S (cA x ad μ) s.heap H locs → W p l e rmX0_bestBoth s m args below meth c H locs 0 0 Q (F0 m 35 ls []) := by
      intro n_4
      induction n_4 with
      | zero => intro k o x8 x5 x3 x2 ls H locs hm_6; exact absurd hm_6 (Nat.not_lt_zero _)
      | succ n_4 ih_5 =>
        intro k o x8 x5 x3 x2 ls H locs hm_6 hk ex8 ex5 ex3 ex2 hl hP hS
        subst ex8 ex5 ex3 ex2
        refine lv_iload hx hb dX0_bestBoth_35 (lv_at hl 0 rfl) ?_
        refine lv_iload hx hb dX0_bestBoth_37 (lv_at hl 1 rfl) ?_
        refine lv_icmp_ge (tgt := 163) hx hb dX0_bestBoth_39 rfl (fun h39 => ?_) (fun h39 => ?_)
        · have h39 : (rowsN j) ≤ k := (nz_le (a := rowsN j) (b := k) rfl rfl (by omega) (by omega)).mp h39
          have hk_ : k = rowsN j := by omega
          subst hk_
          refine lv_iload_n hx hb dX0_bestBoth_163 rfl (lv_at hl 4 rfl) ?_
          exact cme_i hQ hx hb hr hlocks hK hN hP hS (rfl) (rfl) (trivial) dX0_bestBoth_164
        · have h39 : ¬ ((rowsN j) ≤ k) := fun z9 => h39 ((nz_le (a := rowsN j) (b := k) rfl rfl (by omega) (by omega)).mpr z9)
          refine lv_iconst (v := 0) hx hb dX0_bestBoth_42 rfl ?_
          refine lv_istore (lv' := [(9, .int 0), (8, .int (nI k)), (7, .int (nI (rowsN j))), (5, .long ((btG σ j k).2.2.2)), (3, .long ((btG σ j k).2.2.1)), (2, .int (bcF (btG σ j k))), (0, .ref x), (1, .int (nI j))]) hx hb dX0_bestBoth_43 hl (by decide) rfl (fun ls hl => ?_)
          refine lv_iload hx hb dX0_bestBoth_45 (lv_at hl 1 rfl) ?_
          refine lv_istore (lv' := [(10, .int (nI k)), (9, .int 0), (8, .int (nI k)), (7, .int (nI (rowsN j))), (5, .long ((btG σ j k).2.2.2)), (3, .long ((btG σ j k).2.2.1)), (2, .int (bcF (btG σ j k))), (0, .ref x), (1, .int (nI j))]) hx hb dX0_bestBoth_47 hl (by decide) rfl (fun ls hl => ?_)
          refine lv_iload_n hx hb dX0_bestBoth_49 rfl (lv_at hl 8 rfl) ?_
          refine lv_iconst (v := 1) hx hb dX0_bestBoth_50 rfl ?_
          refine lv_isub hx hb dX0_bestBoth_51 ?_
          refine lv_istore (lv' := [(11, .int ((nI j) - 1)), (10, .int (nI k)), (9, .int 0), (8, .int (nI k)), (7, .int (nI (rowsN j))), (5, .long ((btG σ j k).2.2.2)), (3, .long ((btG σ j k).2.2.1)), (2, .int (bcF (btG σ j k))), (0, .ref x), (1, .int (nI j))]) hx hb dX0_bestBoth_52 hl (by decide) rfl (fun ls hl => ?_)
          have hL54_7 : ∀ (n_8 : Nat) (t : Nat) (x11 : Int32) (x10 : Int32) (x9 : Int32) (ls : Array Slot), (3 - t) < n_8 → (t ≤ j) → x11 = (nI (j - t) - 1) → x10 = (nI (k / 6 ^ t)) → x9 = (rwF j k t) → lv_has ls 12 [(11, .int x11), (10, .int x10), (9, .int x9), (8, .int (nI k)), (7, .int (nI (rowsN j))), (5, .long ((btG σ j k).2.2.2)), (3, .long ((btG σ j k).2.2.1)), (2, .int (bcF (btG σ j k))), (0, .ref x), (1, .int (nI j))] → W p l e rmX0_bestBoth s m args below meth c H locs 0 0 Q (F0 m 54 ls []) := by
            intro n_8
            induction n_8 with
            | zero => intro t x11 x10 x9 ls hm_10; exact absurd hm_10 (Nat.not_lt_zero _)
            | succ n_8 ih_9 =>
              intro t x11 x10 x9 ls hm_10 ht ex11 ex10 ex9 hl
              subst ex11 ex10 ex9
              refine lv_iload hx hb dX0_bestBoth_54 (lv_at hl 0 rfl) ?_
              refine lv_if_lt (tgt := 87) hx hb dX0_bestBoth_56 rfl (fun h56 => ?_) (fun h56 => ?_)
              · have h56 : (nI (j - t) - 1) < 0 := h56
                have ht_ : t = j := by have := (dec_0 (j - t) (by omega)).mp h56; omega
                rw [ht_, rw_all hj1 hj3 (by omega)] at hl
                refine lv_aload_n hx hb dX0_bestBoth_87 rfl (lv_at hl 8 rfl) ?_
                refine lv_iload hx hb dX0_bestBoth_88 (lv_at hl 2 rfl) ?_
                refine lv_iload_n hx hb dX0_bestBoth_90 rfl (lv_at hl 9 rfl) ?_
                refine dV (v := .int (refF σ (rowK j k) (nI j))) (As := [.int (rowK j k), .int (nI j)]) (rest := []) ⟨hx, hb, hml, hown, hts⟩ (mt_X0_faultOf_2 l D dA x ad μ σ o (rowK j k) (nI j) hI hR) (cw_X0_X0_faultOf_2 hts ⟨Nat.le_of_ble_eq_true rfl, Nat.le_of_ble_eq_true rfl⟩) cB_bw (cB_now hK hN hP) (va_recv hK hP (ci := 1) (q0 := 0) rfl rfl) rfl hl.1 rfl (Nat.le_of_ble_eq_true rfl) dX0_bestBoth_91 ⟨Nat.le_of_ble_eq_true rfl, Nat.le_of_ble_eq_true rfl⟩ ?_
                refine lv_if_ne (tgt := 157) hx hb dX0_bestBoth_94 rfl (fun h94 => ?_) (fun h94 => ?_)
                · have h94 : ¬ ((refF σ (rowK j k) (nI j)) = 0) := h94
                  refine lv_iinc (v := nI (k + 1)) (lv' := [(8, .int (nI (k + 1))), (11, .int (nI (j - j) - 1)), (10, .int (nI (k / 6 ^ j))), (9, .int (rowK j k)), (7, .int (nI (rowsN j))), (5, .long ((btG σ j k).2.2.2)), (3, .long ((btG σ j k).2.2.1)), (2, .int (bcF (btG σ j k))), (0, .ref x), (1, .int (nI j))]) hx hb dX0_bestBoth_157 hl (k := 3) rfl (nI_1 k) (by decide) rfl (fun ls hl => ?_)
                  refine lv_goto (tgt := 35) hx hb dX0_bestBoth_160 rfl ?_
                  exact ih_5 (k + 1) o (nI (k + 1)) ((btG σ j k).2.2.2) ((btG σ j k).2.2.1) (bcF (btG σ j k)) ls _ _ (by omega) (by omega) rfl (by rw [btG_n σ j k h94]) (by rw [btG_n σ j k h94]) (by rw [btG_n σ j k h94]) (lv_sub hl [0, 4, 5, 6, 7, 8, 9] rfl) hP hS
                · have h94 : (refF σ (rowK j k) (nI j)) = 0 := h94
                  have hoT := ref_okT hj1 (show j ≤ 6 by omega) h94
                  have hbt := bt_O hI hJ hj1 hj3 k (by omega)
                  have hrn : ¬ rowK j k = -1 := row_ne hj1 hj3 (by omega)
                  refine lv_aload_n hx hb dX0_bestBoth_97 rfl (lv_at hl 8 rfl) ?_
                  refine lv_iload hx hb dX0_bestBoth_98 (lv_at hl 2 rfl) ?_
                  refine lv_iload_n hx hb dX0_bestBoth_100 rfl (lv_at hl 9 rfl) ?_
                  refine lv_iconst (v := (-1)) hx hb dX0_bestBoth_101 rfl ?_
                  refine lv_iconst (v := 0) hx hb dX0_bestBoth_102 rfl ?_
                  refine dME (v := some (.int ((bsG σ (brB σ (rowK j k) (-1) 0 j) o.mb 256).1))) (σ' := σ) (As := [.int (rowK j k), .int (nI j), .int (-1), .int 0]) (rest := []) ⟨hx, hb, hml, hown, hts⟩ (mt_X0_bestOf l D dA x ad μ σ o hcD (rowK j k) j (-1) 0 hI hR hoT hj1 (by omega)) (cw_X0_X0_bestOf hts ⟨Nat.le_of_ble_eq_true rfl, Nat.le_of_ble_eq_true rfl⟩) (cB_now hK hN hP) (va_recv hK hP (ci := 1) (q0 := 0) rfl rfl) rfl hl.1 rfl (Nat.le_of_ble_eq_true rfl) dX0_bestBoth_103 ⟨Nat.le_of_ble_eq_true rfl, Nat.le_of_ble_eq_true rfl⟩ hS (fun o_11 ho_12 H locs hP hS => ?_)
                  change W p l e rmX0_bestBoth s m args below meth c H locs 0 0 Q (F0 m 106 ls [.int ((bsG σ (brB σ (rowK j k) (-1) 0 j) o.mb 256).1)])
                  have hP : va_P D vwCl (cW dA x ad μ σ ((o_11.full, o_11.row, o_11.many, o_11.parts, o_11.known, o_11.sort, o_11.brings, o_11.done, allP σ (rowK j k) j, o_11.end_, mnF σ (rowK j k) j (bbF σ (rowK j k) j)) : Om)) H := by rw [← (ho_12.1.trans (best_2 hI hJ hoT (by omega) _)), ← ((ho_12.2 (by rw [best_1 hI hoT (by omega)]; exact bb_ne hI hJ hoT (by omega))).trans (bel_all σ (rowK j k) j))]; exact hP
                  refine w_topi (y := bbF σ (rowK j k) j) (best_1 hI hoT (by omega) _) ?_
                  refine lv_istore (lv' := [(11, .int (bbF σ (rowK j k) j)), (10, .int (nI (k / 6 ^ j))), (9, .int (rowK j k)), (8, .int (nI k)), (7, .int (nI (rowsN j))), (5, .long ((btG σ j k).2.2.2)), (3, .long ((btG σ j k).2.2.1)), (2, .int (bcF (btG σ j k))), (0, .ref x), (1, .int (nI j))]) hx hb dX0_bestBoth_106 hl (by decide) rfl (fun ls hl => ?_)
                  refine lv_iload_n hx hb dX0_bestBoth_108 rfl (lv_at hl 7 rfl) ?_
                  refine lv_iconst (v := (-1)) hx hb dX0_bestBoth_109 rfl ?_
                  refine lv_icmp_eq (tgt := 133) hx hb dX0_bestBoth_110 rfl (fun h110 => ?_) (fun h110 => ?_)
                  · have h110 : (bcF (btG σ j k)) = (-1) := h110
                    refine lv_sipush (v := 256) hx hb dX0_bestBoth_133 rfl ?_
                    refine lv_iload hx hb dX0_bestBoth_136 (lv_at hl 2 rfl) ?_
                    refine lv_imul hx hb dX0_bestBoth_138 ?_
                    refine lv_iload hx hb dX0_bestBoth_139 (lv_at hl 0 rfl) ?_
                    refine lv_iadd hx hb dX0_bestBoth_141 ?_
                    refine lv_istore_n (lv' := [(2, .int ((256 * (rowK j k)) + (bbF σ (rowK j k) j))), (11, .int (bbF σ (rowK j k) j)), (10, .int (nI (k / 6 ^ j))), (9, .int (rowK j k)), (8, .int (nI k)), (7, .int (nI (rowsN j))), (5, .long ((btG σ j k).2.2.2)), (3, .long ((btG σ j k).2.2.1)), (0, .ref x), (1, .int (nI j))]) hx hb dX0_bestBoth_142 rfl hl (by decide) rfl (fun ls hl => ?_)
                    refine lv_aload_n hx hb dX0_bestBoth_143 rfl (lv_at hl 8 rfl) ?_
                    refine va_get (D := D) (ci := 1) (v := .long (mnF σ (rowK j k) j (bbF σ (rowK j k) j))) (C := RX0) (T := TX0) (N := 11) hx hb hts in_X0 hown hK hP 0 rfl rfl 10 (by decide) (hts _ q225) (fun _ h9 => h9) rfl dX0_bestBoth_144 ?_
                    refine lv_lstore_n (lv' := [(3, .long (mnF σ (rowK j k) j (bbF σ (rowK j k) j))), (2, .int ((256 * (rowK j k)) + (bbF σ (rowK j k) j))), (11, .int (bbF σ (rowK j k) j)), (10, .int (nI (k / 6 ^ j))), (9, .int (rowK j k)), (8, .int (nI k)), (7, .int (nI (rowsN j))), (5, .long ((btG σ j k).2.2.2)), (0, .ref x), (1, .int (nI j))]) hx hb dX0_bestBoth_147 rfl hl (by decide) rfl (fun ls hl => ?_)
                    refine lv_aload_n hx hb dX0_bestBoth_148 rfl (lv_at hl 8 rfl) ?_
                    refine va_get (D := D) (ci := 1) (v := .ref (ad 4)) (C := RX0) (T := TX0) (N := 11) hx hb hts in_X0 hown hK hP 0 rfl rfl 8 (by decide) (hts _ q223) (fun _ h9 => h9) rfl dX0_bestBoth_149 ?_
                    refine va_get (D := D) (ci := 2) (v := .long (allP σ (rowK j k) j)) (C := RX1) (T := TX1) (N := 11) hx hb hts in_X1 hown hK hP 5 rfl rfl 8 (by decide) (hts _ q140) (fun _ h9 => h9) rfl dX0_bestBoth_152 ?_
                    refine lv_lstore (lv' := [(5, .long (allP σ (rowK j k) j)), (3, .long (mnF σ (rowK j k) j (bbF σ (rowK j k) j))), (2, .int ((256 * (rowK j k)) + (bbF σ (rowK j k) j))), (11, .int (bbF σ (rowK j k) j)), (10, .int (nI (k / 6 ^ j))), (9, .int (rowK j k)), (8, .int (nI k)), (7, .int (nI (rowsN j))), (0, .ref x), (1, .int (nI j))]) hx hb dX0_bestBoth_155 hl (by decide) rfl (fun ls hl => ?_)
                    refine lv_iinc (v := nI (k + 1)) (lv' := [(8, .int (nI (k + 1))), (5, .long (allP σ (rowK j k) j)), (3, .long (mnF σ (rowK j k) j (bbF σ (rowK j k) j))), (2, .int ((256 * (rowK j k)) + (bbF σ (rowK j k) j))), (11, .int (bbF σ (rowK j k) j)), (10, .int (nI (k / 6 ^ j))), (9, .int (rowK j k)), (7, .int (nI (rowsN j))), (0, .ref x), (1, .int (nI j))]) hx hb dX0_bestBoth_157 hl (k := 6) rfl (nI_1 k) (by decide) rfl (fun ls hl => ?_)
                    refine lv_goto (tgt := 35) hx hb dX0_bestBoth_160 rfl ?_
                    exact ih_5 (k + 1) ((o_11.full, o_11.row, o_11.many, o_11.parts, o_11.known, o_11.sort, o_11.brings, o_11.done, allP σ (rowK j k) j, o_11.end_, mnF σ (rowK j k) j (bbF σ (rowK j k) j)) : Om) (nI (k + 1)) (allP σ (rowK j k) j) (mnF σ (rowK j k) j (bbF σ (rowK j k) j)) ((256 * (rowK j k)) + (bbF σ (rowK j k) j)) ls _ _ (by omega) (by omega) rfl (by rw [bt_y h94 (show ¬ btI σ j (btG σ j k).1 (btG σ j k).2.2.1 (btG σ j k).2.2.2 k = 0 from by unfold btI; rw [if_pos ((bc_m1 hbt).mp h110)]; decide)]) (by rw [bt_y h94 (show ¬ btI σ j (btG σ j k).1 (btG σ j k).2.2.1 (btG σ j k).2.2.2 k = 0 from by unfold btI; rw [if_pos ((bc_m1 hbt).mp h110)]; decide)]) (by rw [bt_y h94 (show ¬ btI σ j (btG σ j k).1 (btG σ j k).2.2.1 (btG σ j k).2.2.2 k = 0 from by unfold btI; rw [if_pos ((bc_m1 hbt).mp h110)]; decide), bc_y hrn]) (lv_sub hl [0, 7, 1, 2, 3, 8, 9] rfl) hP hS
                  · have h110 : ¬ ((bcF (btG σ j k)) = (-1)) := h110
                    refine lv_aload_n hx hb dX0_bestBoth_113 rfl (lv_at hl 8 rfl) ?_
                    refine va_get (D := D) (ci := 1) (v := .long (mnF σ (rowK j k) j (bbF σ (rowK j k) j))) (C := RX0) (T := TX0) (N := 11) hx hb hts in_X0 hown hK hP 0 rfl rfl 10 (by decide) (hts _ q225) (fun _ h9 => h9) rfl dX0_bestBoth_114 ?_
                    refine lv_lload hx hb dX0_bestBoth_117 (lv_at hl 5 rfl) ?_
                    refine lv_lmul hx hb dX0_bestBoth_119 ?_
                    refine lv_lload_n hx hb dX0_bestBoth_120 rfl (lv_at hl 6 rfl) ?_
                    refine lv_aload_n hx hb dX0_bestBoth_121 rfl (lv_at hl 8 rfl) ?_
                    refine va_get (D := D) (ci := 1) (v := .ref (ad 4)) (C := RX0) (T := TX0) (N := 11) hx hb hts in_X0 hown hK hP 0 rfl rfl 8 (by decide) (hts _ q223) (fun _ h9 => h9) rfl dX0_bestBoth_122 ?_
                    refine va_get (D := D) (ci := 2) (v := .long (allP σ (rowK j k) j)) (C := RX1) (T := TX1) (N := 11) hx hb hts in_X1 hown hK hP 5 rfl rfl 8 (by decide) (hts _ q140) (fun _ h9 => h9) rfl dX0_bestBoth_125 ?_
                    refine lv_lmul hx hb dX0_bestBoth_128 ?_
                    refine W.lcmp hx hb dX0_bestBoth_129 ?_
                    refine lv_if_le (tgt := 157) hx hb dX0_bestBoth_130 rfl (fun h130 => ?_) (fun h130 => ?_)
                    · have h130 : ((mnF σ (rowK j k) j (bbF σ (rowK j k) j)) * ((btG σ j k).2.2.2)) ≤ (((btG σ j k).2.2.1) * (allP σ (rowK j k) j)) := (lg_cmp_le ((mnF σ (rowK j k) j (bbF σ (rowK j k) j)) * ((btG σ j k).2.2.2)) (((btG σ j k).2.2.1) * (allP σ (rowK j k) j))).mp h130
                      refine lv_iinc (v := nI (k + 1)) (lv' := [(8, .int (nI (k + 1))), (11, .int (bbF σ (rowK j k) j)), (10, .int (nI (k / 6 ^ j))), (9, .int (rowK j k)), (7, .int (nI (rowsN j))), (5, .long ((btG σ j k).2.2.2)), (3, .long ((btG σ j k).2.2.1)), (2, .int (bcF (btG σ j k))), (0, .ref x), (1, .int (nI j))]) hx hb dX0_bestBoth_157 hl (k := 3) rfl (nI_1 k) (by decide) rfl (fun ls hl => ?_)
                      refine lv_goto (tgt := 35) hx hb dX0_bestBoth_160 rfl ?_
                      exact ih_5 (k + 1) ((o_11.full, o_11.row, o_11.many, o_11.parts, o_11.known, o_11.sort, o_11.brings, o_11.done, allP σ (rowK j k) j, o_11.end_, mnF σ (rowK j k) j (bbF σ (rowK j k) j)) : Om) (nI (k + 1)) ((btG σ j k).2.2.2) ((btG σ j k).2.2.1) (bcF (btG σ j k)) ls _ _ (by omega) (by omega) rfl (by rw [bt_z h94 (show btI σ j (btG σ j k).1 (btG σ j k).2.2.1 (btG σ j k).2.2.2 k = 0 from by unfold btI; rw [if_neg (fun z => h110 ((bc_m1 hbt).mpr z)), if_pos h130])]) (by rw [bt_z h94 (show btI σ j (btG σ j k).1 (btG σ j k).2.2.1 (btG σ j k).2.2.2 k = 0 from by unfold btI; rw [if_neg (fun z => h110 ((bc_m1 hbt).mpr z)), if_pos h130])]) (by rw [bt_z h94 (show btI σ j (btG σ j k).1 (btG σ j k).2.2.1 (btG σ j k).2.2.2 k = 0 from by unfold btI; rw [if_neg (fun z => h110 ((bc_m1 hbt).mpr z)), if_pos h130])]) (lv_sub hl [0, 4, 5, 6, 7, 8, 9] rfl) hP hS
                    · have h130 : ¬ (((mnF σ (rowK j k) j (bbF σ (rowK j k) j)) * ((btG σ j k).2.2.2)) ≤ (((btG σ j k).2.2.1) * (allP σ (rowK j k) j))) := fun z9 => h130 ((lg_cmp_le ((mnF σ (rowK j k) j (bbF σ (rowK j k) j)) * ((btG σ j k).2.2.2)) (((btG σ j k).2.2.1) * (allP σ (rowK j k) j))).mpr z9)
                      refine lv_sipush (v := 256) hx hb dX0_bestBoth_133 rfl ?_
                      refine lv_iload hx hb dX0_bestBoth_136 (lv_at hl 2 rfl) ?_
                      refine lv_imul hx hb dX0_bestBoth_138 ?_
                      refine lv_iload hx hb dX0_bestBoth_139 (lv_at hl 0 rfl) ?_
                      refine lv_iadd hx hb dX0_bestBoth_141 ?_
                      refine lv_istore_n (lv' := [(2, .int ((256 * (rowK j k)) + (bbF σ (rowK j k) j))), (11, .int (bbF σ (rowK j k) j)), (10, .int (nI (k / 6 ^ j))), (9, .int (rowK j k)), (8, .int (nI k)), (7, .int (nI (rowsN j))), (5, .long ((btG σ j k).2.2.2)), (3, .long ((btG σ j k).2.2.1)), (0, .ref x), (1, .int (nI j))]) hx hb dX0_bestBoth_142 rfl hl (by decide) rfl (fun ls hl => ?_)
                      refine lv_aload_n hx hb dX0_bestBoth_143 rfl (lv_at hl 8 rfl) ?_
                      refine va_get (D := D) (ci := 1) (v := .long (mnF σ (rowK j k) j (bbF σ (rowK j k) j))) (C := RX0) (T := TX0) (N := 11) hx hb hts in_X0 hown hK hP 0 rfl rfl 10 (by decide) (hts _ q225) (fun _ h9 => h9) rfl dX0_bestBoth_144 ?_
                      refine lv_lstore_n (lv' := [(3, .long (mnF σ (rowK j k) j (bbF σ (rowK j k) j))), (2, .int ((256 * (rowK j k)) + (bbF σ (rowK j k) j))), (11, .int (bbF σ (rowK j k) j)), (10, .int (nI (k / 6 ^ j))), (9, .int (rowK j k)), (8, .int (nI k)), (7, .int (nI (rowsN j))), (5, .long ((btG σ j k).2.2.2)), (0, .ref x), (1, .int (nI j))]) hx hb dX0_bestBoth_147 rfl hl (by decide) rfl (fun ls hl => ?_)
                      refine lv_aload_n hx hb dX0_bestBoth_148 rfl (lv_at hl 8 rfl) ?_
                      refine va_get (D := D) (ci := 1) (v := .ref (ad 4)) (C := RX0) (T := TX0) (N := 11) hx hb hts in_X0 hown hK hP 0 rfl rfl 8 (by decide) (hts _ q223) (fun _ h9 => h9) rfl dX0_bestBoth_149 ?_
                      refine va_get (D := D) (ci := 2) (v := .long (allP σ (rowK j k) j)) (C := RX1) (T := TX1) (N := 11) hx hb hts in_X1 hown hK hP 5 rfl rfl 8 (by decide) (hts _ q140) (fun _ h9 => h9) rfl dX0_bestBoth_152 ?_
                      refine lv_lstore (lv' := [(5, .long (allP σ (rowK j k) j)), (3, .long (mnF σ (rowK j k) j (bbF σ (rowK j k) j))), (2, .int ((256 * (rowK j k)) + (bbF σ (rowK j k) j))), (11, .int (bbF σ (rowK j k) j)), (10, .int (nI (k / 6 ^ j))), (9, .int (rowK j k)), (8, .int (nI k)), (7, .int (nI (rowsN j))), (0, .ref x), (1, .int (nI j))]) hx hb dX0_bestBoth_155 hl (by decide) rfl (fun ls hl => ?_)
                      refine lv_iinc (v := nI (k + 1)) (lv' := [(8, .int (nI (k + 1))), (5, .long (allP σ (rowK j k) j)), (3, .long (mnF σ (rowK j k) j (bbF σ (rowK j k) j))), (2, .int ((256 * (rowK j k)) + (bbF σ (rowK j k) j))), (11, .int (bbF σ (rowK j k) j)), (10, .int (nI (k / 6 ^ j))), (9, .int (rowK j k)), (7, .int (nI (rowsN j))), (0, .ref x), (1, .int (nI j))]) hx hb dX0_bestBoth_157 hl (k := 6) rfl (nI_1 k) (by decide) rfl (fun ls hl => ?_)
                      refine lv_goto (tgt := 35) hx hb dX0_bestBoth_160 rfl ?_
                      exact ih_5 (k + 1) ((o_11.full, o_11.row, o_11.many, o_11.parts, o_11.known, o_11.sort, o_11.brings, o_11.done, allP σ (rowK j k) j, o_11.end_, mnF σ (rowK j k) j (bbF σ (rowK j k) j)) : Om) (nI (k + 1)) (allP σ (rowK j k) j) (mnF σ (rowK j k) j (bbF σ (rowK j k) j)) ((256 * (rowK j k)) + (bbF σ (rowK j k) j)) ls _ _ (by omega) (by omega) rfl (by rw [bt_y h94 (show ¬ btI σ j (btG σ j k).1 (btG σ j k).2.2.1 (btG σ j k).2.2.2 k = 0 from by unfold btI; rw [if_neg (fun z => h110 ((bc_m1 hbt).mpr z)), if_neg h130]; decide)]) (by rw [bt_y h94 (show ¬ btI σ j (btG σ j k).1 (btG σ j k).2.2.1 (btG σ j k).2.2.2 k = 0 from by unfold btI; rw [if_neg (fun z => h110 ((bc_m1 hbt).mpr z)), if_neg h130]; decide)]) (by rw [bt_y h94 (show ¬ btI σ j (btG σ j k).1 (btG σ j k).2.2.1 (btG σ j k).2.2.2 k = 0 from by unfold btI; rw [if_neg (fun z => h110 ((bc_m1 hbt).mpr z)), if_neg h130]; decide), bc_y hrn]) (lv_sub hl [0, 7, 1, 2, 3, 8, 9] rfl) hP hS
              · have h56 : ¬ ((nI (j - t) - 1) < 0) := h56
                have hlt : ¬ j - t = 0 := fun z => h56 ((dec_0 (j - t) (by omega)).mpr z)
                refine lv_iload hx hb dX0_bestBoth_59 (lv_at hl 2 rfl) ?_
                refine lv_iload hx hb dX0_bestBoth_61 (lv_at hl 1 rfl) ?_
                refine lv_bipush (v := 6) hx hb dX0_bestBoth_63 rfl ?_
                refine lv_irem hx hb dX0_bestBoth_65 (by decide) ?_
                refine lv_iconst (v := 4) hx hb dX0_bestBoth_66 rfl ?_
                refine lv_iload hx hb dX0_bestBoth_67 (lv_at hl 0 rfl) ?_
                refine lv_imul hx hb dX0_bestBoth_69 ?_
                refine lv_ishl hx hb dX0_bestBoth_70 ?_
                refine lv_ior hx hb dX0_bestBoth_71 ?_
                refine lv_istore (lv' := [(9, .int ((rwF j k t) ||| (((nI (k / 6 ^ t)) - (nI (k / 6 ^ t)) / 6 * 6) <<< ((4 * (nI (j - t) - 1)) &&& 31)))), (11, .int (nI (j - t) - 1)), (10, .int (nI (k / 6 ^ t))), (8, .int (nI k)), (7, .int (nI (rowsN j))), (5, .long ((btG σ j k).2.2.2)), (3, .long ((btG σ j k).2.2.1)), (2, .int (bcF (btG σ j k))), (0, .ref x), (1, .int (nI j))]) hx hb dX0_bestBoth_72 hl (by decide) rfl (fun ls hl => ?_)
                refine lv_iload hx hb dX0_bestBoth_74 (lv_at hl 2 rfl) ?_
                refine lv_bipush (v := 6) hx hb dX0_bestBoth_76 rfl ?_
                refine lv_idiv hx hb dX0_bestBoth_78 (by decide) ?_
                refine lv_istore (lv' := [(10, .int ((nI (k / 6 ^ t)) / 6)), (9, .int ((rwF j k t) ||| (((nI (k / 6 ^ t)) - (nI (k / 6 ^ t)) / 6 * 6) <<< ((4 * (nI (j - t) - 1)) &&& 31)))), (11, .int (nI (j - t) - 1)), (8, .int (nI k)), (7, .int (nI (rowsN j))), (5, .long ((btG σ j k).2.2.2)), (3, .long ((btG σ j k).2.2.1)), (2, .int (bcF (btG σ j k))), (0, .ref x), (1, .int (nI j))]) hx hb dX0_bestBoth_79 hl (by decide) rfl (fun ls hl => ?_)
                refine lv_iinc (v := (nI (j - t) - 1) + (-1)) (lv' := [(11, .int ((nI (j - t) - 1) + (-1))), (10, .int ((nI (k / 6 ^ t)) / 6)), (9, .int ((rwF j k t) ||| (((nI (k / 6 ^ t)) - (nI (k / 6 ^ t)) / 6 * 6) <<< ((4 * (nI (j - t) - 1)) &&& 31)))), (8, .int (nI k)), (7, .int (nI (rowsN j))), (5, .long ((btG σ j k).2.2.2)), (3, .long ((btG σ j k).2.2.1)), (2, .int (bcF (btG σ j k))), (0, .ref x), (1, .int (nI j))]) hx hb dX0_bestBoth_81 hl (k := 2) rfl (rfl) (by decide) rfl (fun ls hl => ?_)
                refine lv_goto (tgt := 54) hx hb dX0_bestBoth_84 rfl ?_
                exact ih_9 (t + 1) ((nI (j - t) - 1) + (-1)) ((nI (k / 6 ^ t)) / 6) ((rwF j k t) ||| (((nI (k / 6 ^ t)) - (nI (k / 6 ^ t)) / 6 * 6) <<< ((4 * (nI (j - t) - 1)) &&& 31))) ls (by omega) (by omega) (by rw [dec_1 (j - t) (by omega) (by omega)]; rfl) (by rw [Nat.pow_succ, ← Nat.div_div_eq_div_mul]; exact nz_div (a := k / 6 ^ t) (d := 6) rfl rfl (Nat.lt_of_le_of_lt (Nat.div_le_self _ _) (by omega)) (by decide) (by decide)) rfl (lv_sub hl [0, 1, 2, 3, 4, 5, 6, 7, 8, 9] rfl)
          exact hL54_7 _ 0 ((nI j) - 1) (nI k) 0 ls (Nat.lt_succ_self _) (by omega) rfl (by rw [Nat.pow_zero, Nat.div_one]) rfl (lv_sub hl [0, 1, 2, 3, 4, 5, 6, 7, 8, 9] rfl)
    exact hL35_3 _ 0 ω 0 1 0 (-1) ls _ _ (Nat.lt_succ_self _) (by omega) rfl rfl rfl rfl (lv_sub hl [0, 1, 2, 3, 4, 5, 6] rfl) hP hS
  refine lv_icmp_ne (tgt := 17) hx hb dX0_bestBoth_9 rfl (fun h9 => ?_) (fun h9 => ?_)
  · have h9 : ¬ (j = 1) := fun z9 => h9 ((nz_eq (a := j) (b := 1) rfl rfl (by omega) (by omega)).mpr z9)
    refine lv_iload_n hx hb dX0_bestBoth_17 rfl (lv_at hl 4 rfl) ?_
    refine lv_iconst (v := 2) hx hb dX0_bestBoth_18 rfl ?_
    refine lv_icmp_ne (tgt := 27) hx hb dX0_bestBoth_19 rfl (fun h19 => ?_) (fun h19 => ?_)
    · have h19 : ¬ (j = 2) := fun z9 => h19 ((nz_eq (a := j) (b := 2) rfl rfl (by omega) (by omega)).mpr z9)
      refine lv_sipush (v := 216) hx hb dX0_bestBoth_27 rfl ?_
      exact hJ30_1 (216) ls (by rw [if_neg h9, if_neg h19]) (lv_sub hl [0, 1, 2, 3, 4] rfl)
    · have h19 : j = 2 := (nz_eq (a := j) (b := 2) rfl rfl (by omega) (by omega)).mp h19
      refine lv_bipush (v := 36) hx hb dX0_bestBoth_22 rfl ?_
      refine lv_goto (tgt := 30) hx hb dX0_bestBoth_24 rfl ?_
      exact hJ30_1 (36) ls (by rw [if_neg h9, if_pos h19]) (lv_sub hl [0, 1, 2, 3, 4] rfl)
  · have h9 : j = 1 := (nz_eq (a := j) (b := 1) rfl rfl (by omega) (by omega)).mp h9
    refine lv_bipush (v := 6) hx hb dX0_bestBoth_12 rfl ?_
    refine lv_goto (tgt := 30) hx hb dX0_bestBoth_14 rfl ?_
    exact hJ30_1 (6) ls (by rw [if_pos h9]) (lv_sub hl [0, 1, 2, 3, 4] rfl)

theorem cw_X0_X0_bestBoth {R : Room} {s : State} {args : Array Value} (hts : ∀ w ∈ lw_all, w.before args s = true) (hR : rmX0_bestBoth.frames + 1 ≤ R.frames ∧ 8 + (12 + 11) + rmX0_bestBoth.locals ≤ R.locals) : CallW R s args RX0 RX0 248 yX0_bestBoth cX0_bestBoth 12 (some .int) (ws_ yX0_bestBoth cX0_bestBoth 12 (some .int)) rmX0_bestBoth 0 0 1 := cwV 1 hts (lw_V q1001 q1003 qs28 q77 q1004) rfl rfl rfl (by decide +kernel) hR
def rmX0_both : Room := { frames := 12, cells := 0, slots := 0, locals := 353 }
set_option maxHeartbeats 1000000 in
theorem mt_X0_both (l : Launch) (D : va_G) (dA : Nat → ClassId) (x : Nat) (ad : Nat → Nat) (μ : Lay) (σ : St) (ω : Om) (hcD : cD x ad μ) (n_ : Int32) (w : Int32) (hI : Inv σ) (hR : Rel dA μ σ) (hJ : Inv2 σ) : Met l yX0_both (ws_ yX0_both cX0_both 4 (some .int)) rmX0_both (va_Pc [.ref x, .int n_, .int w] (cB D dA x ad μ σ ω)) (cQE (some (.int (bothF σ n_ w))) D dA x ad μ σ (fun o => True)) 0 0 (cA x ad μ) := by
  refine w_start (by decide) (Nat.le_of_ble_eq_true rfl) ?_
  intro p e s m args below meth c Q ls hQ hx hb hr hlocks hml hown hnm hts hB hl
  have hown : s.vm.findClass RX0 = some m.cls := hown
  have hl : lv_has ls 4 [(0, .ref x), (1, .int n_), (2, .int w)] := hl
  obtain ⟨hP, hK, hN⟩ := hB
  have hP : va_P D vwCl (cW dA x ad μ σ ω) s.heap := hP
  have hS : va_S (cA x ad μ) s.heap s.heap [] := va_S.rf
  refine lv_iload_n hx hb dX0_both_0 rfl (lv_at hl 1 rfl) ?_
  refine lv_i2l (v := (n_ : Int32).toInt64) hx hb dX0_both_1 rfl ?_
  refine lv_lconst (v := 1) hx hb dX0_both_2 rfl ?_
  refine lv_ldc2 (v := 3) hx hb hown (hts _ q1000) dX0_both_3 ?_
  refine cSi (As := [.long ((n_ : Int32).toInt64), .long 1, .long 3]) (rest := []) ⟨hx, hb, hml, hown, hts⟩ (mt_X0_in l ((n_ : Int32).toInt64) 1 3) (cw_X0_X0_in hts ⟨Nat.le_of_ble_eq_true rfl, Nat.le_of_ble_eq_true rfl⟩) w_blT (fun _ _ _ => trivial) rfl hl.1 rfl (Nat.le_of_ble_eq_true rfl) dX0_both_6 ⟨Nat.le_of_ble_eq_true rfl, Nat.le_of_ble_eq_true rfl⟩ ?_
  refine lv_if_eq (tgt := 22) hx hb dX0_both_9 rfl (fun h9 => ?_) (fun h9 => ?_)
  · have h9 : ¬ (inP ((n_ : Int32).toInt64) 1 3) := b01_0.mp h9
    refine lv_bipush (v := (-3)) hx hb dX0_both_22 rfl ?_
    exact cme_i hQ hx hb hr hlocks hK hN hP hS (by rw [bothF, if_neg h9]) (rfl) (trivial) dX0_both_24
  · have h9 : inP ((n_ : Int32).toInt64) 1 3 := b01_n h9
    obtain ⟨j, hj1, hj3, rfl⟩ := in13 h9
    have hix : ix (nI j) = j := ix_nI (Nat.lt_succ_of_le hj3) (by decide)
    have hbt := bt_O hI hJ hj1 hj3 (rowsN j) (Nat.le_refl _)
    refine lv_iload_n hx hb dX0_both_12 rfl (lv_at hl 2 rfl) ?_
    refine lv_i2l (v := (w : Int32).toInt64) hx hb dX0_both_13 rfl ?_
    refine lv_lconst (v := 0) hx hb dX0_both_14 rfl ?_
    refine lv_lconst (v := 1) hx hb dX0_both_15 rfl ?_
    refine cSi (As := [.long ((w : Int32).toInt64), .long 0, .long 1]) (rest := []) ⟨hx, hb, hml, hown, hts⟩ (mt_X0_in l ((w : Int32).toInt64) 0 1) (cw_X0_X0_in hts ⟨Nat.le_of_ble_eq_true rfl, Nat.le_of_ble_eq_true rfl⟩) w_blT (fun _ _ _ => trivial) rfl hl.1 rfl (Nat.le_of_ble_eq_true rfl) dX0_both_16 ⟨Nat.le_of_ble_eq_true rfl, Nat.le_of_ble_eq_true rfl⟩ ?_
    refine lv_if_ne (tgt := 25) hx hb dX0_both_19 rfl (fun h19 => ?_) (fun h19 => ?_)
    · have h19 : inP ((w : Int32).toInt64) 0 1 := b01_n h19
      refine lv_aload_n hx hb dX0_both_25 rfl (lv_at hl 0 rfl) ?_
      refine lv_iload_n hx hb dX0_both_26 rfl (lv_at hl 1 rfl) ?_
      refine dME (v := some (.int (bcF (btG σ j (rowsN j))))) (σ' := σ) (As := [.int (nI j)]) (rest := []) ⟨hx, hb, hml, hown, hts⟩ (mt_X0_bestBoth l D dA x ad μ σ ω hcD j hI hR (by omega) (by omega) (by omega)) (cw_X0_X0_bestBoth hts ⟨Nat.le_of_ble_eq_true rfl, Nat.le_of_ble_eq_true rfl⟩) (cB_now hK hN hP) (va_recv hK hP (ci := 1) (q0 := 0) rfl rfl) rfl hl.1 rfl (Nat.le_of_ble_eq_true rfl) dX0_both_27 ⟨Nat.le_of_ble_eq_true rfl, Nat.le_of_ble_eq_true rfl⟩ hS (fun o_1 ho_2 H locs hP hS => ?_)
      change W p l e rmX0_both s m args below meth c H locs 0 0 Q (F0 m 30 ls [.int (bcF (btG σ j (rowsN j)))])
      refine lv_istore_n (lv' := [(3, .int (bcF (btG σ j (rowsN j)))), (0, .ref x), (1, .int (nI j)), (2, .int w)]) hx hb dX0_both_30 rfl hl (by decide) rfl (fun ls hl => ?_)
      refine lv_iload_n hx hb dX0_both_31 rfl (lv_at hl 0 rfl) ?_
      refine lv_iconst (v := (-1)) hx hb dX0_both_32 rfl ?_
      refine lv_icmp_ne (tgt := 40) hx hb dX0_both_33 rfl (fun h33 => ?_) (fun h33 => ?_)
      · have h33 : ¬ ((bcF (btG σ j (rowsN j))) = (-1)) := h33
        refine lv_iload_n hx hb dX0_both_40 rfl (lv_at hl 3 rfl) ?_
        refine lv_if_ne (tgt := 52) hx hb dX0_both_41 rfl (fun h41 => ?_) (fun h41 => ?_)
        · have h41 : ¬ (w = 0) := h41
          refine lv_iload_n hx hb dX0_both_52 rfl (lv_at hl 0 rfl) ?_
          refine lv_sipush (v := 256) hx hb dX0_both_53 rfl ?_
          refine lv_irem hx hb dX0_both_56 (by decide) ?_
          exact cme_i hQ hx hb hr hlocks hK hN hP hS (by rw [bothF, if_pos h9, if_pos h19, hix, if_neg h41]; exact (bc_0 hbt h33).2) (rfl) (trivial) dX0_both_57
        · have h41 : w = 0 := h41
          refine lv_iload_n hx hb dX0_both_44 rfl (lv_at hl 0 rfl) ?_
          refine lv_sipush (v := 256) hx hb dX0_both_45 rfl ?_
          refine lv_idiv hx hb dX0_both_48 (by decide) ?_
          refine lv_goto (tgt := 57) hx hb dX0_both_49 rfl ?_
          exact cme_i hQ hx hb hr hlocks hK hN hP hS (by rw [bothF, if_pos h9, if_pos h19, hix, if_pos h41]; exact (bc_0 hbt h33).1) (rfl) (trivial) dX0_both_57
      · have h33 : (bcF (btG σ j (rowsN j))) = (-1) := h33
        refine lv_iconst (v := (-1)) hx hb dX0_both_36 rfl ?_
        refine lv_goto (tgt := 57) hx hb dX0_both_37 rfl ?_
        exact cme_i hQ hx hb hr hlocks hK hN hP hS (by rw [bothF, if_pos h9, if_pos h19, hix]; have q := bc_3 hbt h33; rw [q.1, q.2, ite_self]) (rfl) (trivial) dX0_both_57
    · have h19 : ¬ (inP ((w : Int32).toInt64) 0 1) := b01_0.mp h19
      refine lv_bipush (v := (-3)) hx hb dX0_both_22 rfl ?_
      exact cme_i hQ hx hb hr hlocks hK hN hP hS (by rw [bothF, if_pos h9, if_neg h19]) (rfl) (trivial) dX0_both_24
