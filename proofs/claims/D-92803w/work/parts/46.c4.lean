/-! THE COMPONENT's METHODS 4: things and the book -/
set_option maxRecDepth 100000
theorem sort_iff {σ : St} (hI : Inv σ) {c k : Nat} (hc : c < 6) (hk : k < 4) : sortP σ (nI c) (nI k) ↔ hasP σ.told (nI c) ∧ k < σ.sm c := by
  have h5 : inP (nI c).toInt64 0 5 := inP_nI (n := 5) (by decide) (by omega) (by omega)
  unfold sortP callP
  rw [ix_nI hc (by decide)]
  constructor
  · intro h
    obtain ⟨i, hi, e⟩ := in_sm (hI.sm c hc) h.2
    have := (nI_eq (a := k) (b := i) (by omega) (by have := hI.sm c hc; omega)).mp e
    exact ⟨h.1.2, by omega⟩
  · intro h
    exact ⟨⟨h5, h.1⟩, sm_in (hI.sm c hc) h.2⟩
theorem sb_01 (σ : St) (t o : Int32) : ∀ k, standsB σ t o k = 0 ∨ standsB σ t o k = 1 := by
  intro k
  induction k with
  | zero => exact Or.inr rfl
  | succ k ih =>
    rw [standsB]
    split
    · split
      · exact Or.inl rfl
      · split
        · exact Or.inl rfl
        · split
          · split
            · exact Or.inr rfl
            · exact Or.inl rfl
          · exact Or.inr rfl
    · exact ih
theorem skip4 {α : Type} {f : Nat → α} {c : Nat} : ∀ d k, k + d = 4 → (∀ i, k ≤ i → i < 4 → f (4 * c + i + 1) = f (4 * c + i)) → f (4 * (c + 1)) = f (4 * c + k)
  | 0, k, h, _ => by rw [show 4 * (c + 1) = 4 * c + k by omega]
  | d + 1, k, h, hs => by
    rw [skip4 d (k + 1) (by omega) (fun i h1 h2 => hs i (by omega) h2), ← hs k (Nat.le_refl _) (by omega)]
    rfl
theorem d4 (c k : Nat) (hk : k < 4) : (4 * c + k) / 4 = c ∧ (4 * c + k) % 4 = k := by omega
theorem sb_skip {σ : St} {t o : Int32} {c k : Nat} (hk : k ≤ 4) (h : ∀ i, k ≤ i → i < 4 → ¬ sortP σ (nI c) (nI i)) : standsB σ t o (4 * (c + 1)) = standsB σ t o (4 * c + k) := by
  refine skip4 (4 - k) k (by omega) (fun i h1 h2 => ?_)
  rw [standsB, (d4 c i h2).1, (d4 c i h2).2, if_neg (h i h1 h2)]
theorem wa_skip {σ : St} {c k : Nat} (hk : k ≤ 4) (h : ∀ i, k ≤ i → i < 4 → ¬ sortP σ (nI c) (nI i)) : wantF σ (4 * (c + 1)) = wantF σ (4 * c + k) := by
  refine skip4 (4 - k) k (by omega) (fun i h1 h2 => ?_)
  rw [wantF, (d4 c i h2).1, (d4 c i h2).2, if_neg (h i h1 h2), Int32.or_zero]
theorem no_sort {σ : St} (hI : Inv σ) {c : Nat} (hc : c < 6) (h : ¬ hasP σ.told (nI c)) (k : Nat) : ∀ i, k ≤ i → i < 4 → ¬ sortP σ (nI c) (nI i) := fun i _ h2 q => h ((sort_iff hI hc h2).mp q).1
theorem end_sort {σ : St} (hI : Inv σ) {c : Nat} (hc : c < 6) : ∀ i, σ.sm c ≤ i → i < 4 → ¬ sortP σ (nI c) (nI i) := fun i h1 h2 q => absurd ((sort_iff hI hc h2).mp q).2 (by omega)
theorem has_0 {x v : Int32} : hasP x v ↔ ¬ (x >>> (v &&& 31)) &&& 1 = 0 := by
  unfold hasP
  rcases bit_cases (x >>> (v &&& 31)) with h | h <;> rw [h] <;> decide
theorem sb_s {σ : St} (hI : Inv σ) {t o : Int32} {c k : Nat} (hc : c < 6) (hT : hasP σ.told (nI c)) (hk : k < σ.sm c) : standsB σ t o (4 * c + k + 1) = standsB σ t o (4 * c + k) &&& (if (σ.sorts (16 * c + 4 * k + 2) >>> (o &&& 31)) &&& 1 = 0 then (if (σ.sorts (16 * c + 4 * k + 3) >>> (o &&& 31)) &&& 1 = 0 then 1 else if (σ.sorts (16 * c + 4 * k + 3) >>> (t &&& 31)) &&& 1 = 1 then 1 else 0) else 0) := by
  have h4 : k < 4 := by have := hI.sm c hc; omega
  rw [standsB, (d4 c k h4).1, (d4 c k h4).2, if_pos ((sort_iff hI hc h4).mpr ⟨hT, hk⟩), show 4 * (4 * c + k) + 2 = 16 * c + 4 * k + 2 by omega, show 4 * (4 * c + k) + 3 = 16 * c + 4 * k + 3 by omega]
  simp only [has_0 (v := o)]
  generalize (σ.sorts (16 * c + 4 * k + 2) >>> (o &&& 31)) &&& 1 = a
  generalize (σ.sorts (16 * c + 4 * k + 3) >>> (o &&& 31)) &&& 1 = b
  by_cases ha : a = 0 <;> by_cases hb : b = 0 <;> by_cases hc2 : hasP (σ.sorts (16 * c + 4 * k + 3)) t <;> rcases sb_01 σ t o (4 * c + k) with h | h <;> simp [ha, hb, h] <;> simp_all
theorem wa_s {σ : St} (hI : Inv σ) {c k : Nat} (hc : c < 6) (hT : hasP σ.told (nI c)) (hk : k < σ.sm c) : wantF σ (4 * c + k + 1) = wantF σ (4 * c + k) ||| (σ.sorts (16 * c + 4 * k + 2) ||| σ.sorts (16 * c + 4 * k + 3)) := by
  have h4 : k < 4 := by have := hI.sm c hc; omega
  rw [wantF, (d4 c k h4).1, (d4 c k h4).2, if_pos ((sort_iff hI hc h4).mpr ⟨hT, hk⟩), show 4 * (4 * c + k) + 2 = 16 * c + 4 * k + 2 by omega, show 4 * (4 * c + k) + 3 = 16 * c + 4 * k + 3 by omega]
theorem sv_s (σ : St) (set : Int32) (k : Nat) : svF σ set (k + 1) = svF σ set k + (if savP (σ.visits (3 * k + 2)) (σ.visits (3 * k)) (σ.visits (3 * k + 1)) set then 1 else 0) := by
  rw [svF]
  unfold savP
  simp only [fits_met]
  by_cases h1 : metP (σ.visits (3 * k + 2)) (σ.visits (3 * k)) (σ.visits (3 * k + 1))
  · rw [if_pos h1, if_neg (fun q => q.1 h1)]
  · by_cases h2 : metP (σ.visits (3 * k + 2) ||| set) (σ.visits (3 * k)) (σ.visits (3 * k + 1))
    · rw [if_neg h1, if_pos h2, if_pos ⟨h1, h2⟩]
    · rw [if_neg h1, if_neg h2, if_neg (fun q => h2 q.2)]
theorem df_s (σ : St) (bag : Int32) (k : Nat) : dfG σ bag (k + 1) = dfG σ bag k + (if metP bag (σ.visits (3 * k)) (σ.visits (3 * k + 1)) then 1 else 0) := by
  rw [dfG]
  simp only [fits_met]
theorem mo_s (σ : St) (w : Int32) (k : Nat) : mostG σ w (k + 1) = if manyF (nI k) 8 = w then (if mostG σ w k = -1 then nI k else if savF σ (nI k) ≤ savF σ (mostG σ w k) then mostG σ w k else nI k) else mostG σ w k := by
  rw [mostG]
  split
  · split
    · rw [if_neg (by decide)]
    · split
      · rw [if_pos rfl]
      · rw [if_neg (by decide)]
  · rw [if_pos rfl]
theorem to_s (σ : St) (k : Nat) : toldN σ (k + 1) = toldN σ k + (if hasP σ.told (nI k) then 1 else 0) := by
  rw [toldN]
  by_cases h : hasP σ.told (nI k)
  · rw [if_pos h]
    exact congrArg _ h
  · rw [if_neg h, bit_n h]

def rmX0_stands : Room := { frames := 3, cells := 0, slots := 0, locals := 64 }
set_option maxHeartbeats 1000000 in
theorem mt_X0_stands (l : Launch) (D : va_G) (dA : Nat → ClassId) (x : Nat) (ad : Nat → Nat) (μ : Lay) (σ : St) (ω : Om) (t_ : Int32) (o_ : Int32) (hI : Inv σ) (hR : Rel dA μ σ) : Met l yX0_stands (ws_ yX0_stands cX0_stands 10 (some .int)) rmX0_stands (va_Pc [.ref x, .int t_, .int o_] (cB D dA x ad μ σ ω)) (roQ (.int (standsF σ t_ o_))) 0 0 (fun _ => False) := by
  refine w_start (by decide) (Nat.le_of_ble_eq_true rfl) ?_
  intro p e s m args below meth c Q ls hQ hx hb hr hlocks hml hown hnm hts hB hl
  have hown : s.vm.findClass RX0 = some m.cls := hown
  have hl : lv_has ls 10 [(0, .ref x), (1, .int t_), (2, .int o_)] := hl
  obtain ⟨hP, hK, hN⟩ := hB
  refine lv_iload_n hx hb dX0_stands_0 rfl (lv_at hl 1 rfl) ?_
  refine cSi (As := [.int t_]) (rest := []) ⟨hx, hb, hml, hown, hts⟩ (mt_X0_isThing l t_) (cw_X0_X0_isThing hts ⟨Nat.le_of_ble_eq_true rfl, Nat.le_of_ble_eq_true rfl⟩) w_blT (fun _ _ _ => trivial) rfl hl.1 rfl (Nat.le_of_ble_eq_true rfl) dX0_stands_1 ⟨Nat.le_of_ble_eq_true rfl, Nat.le_of_ble_eq_true rfl⟩ ?_
  refine lv_if_eq (tgt := 19) hx hb dX0_stands_4 rfl (fun h4 => ?_) (fun h4 => ?_)
  · have h4 : ¬ (thingP t_) := b01_0.mp h4
    refine lv_bipush (v := (-2)) hx hb dX0_stands_19 rfl ?_
    exact q_i hQ hx hb hr hlocks rfl (by simp only [standsF, eq_false h4, if_true, if_false, ite_true, ite_false, not_true_eq_false, not_false_eq_true, and_true, true_and, and_false, false_and, or_true, true_or, or_false, false_or, and_self, or_self, eq_self]) dX0_stands_21
  · have h4 : thingP t_ := b01_n h4
    refine lv_iload_n hx hb dX0_stands_7 rfl (lv_at hl 2 rfl) ?_
    refine cSi (As := [.int o_]) (rest := []) ⟨hx, hb, hml, hown, hts⟩ (mt_X0_isThing l o_) (cw_X0_X0_isThing hts ⟨Nat.le_of_ble_eq_true rfl, Nat.le_of_ble_eq_true rfl⟩) w_blT (fun _ _ _ => trivial) rfl hl.1 rfl (Nat.le_of_ble_eq_true rfl) dX0_stands_8 ⟨Nat.le_of_ble_eq_true rfl, Nat.le_of_ble_eq_true rfl⟩ ?_
    refine lv_if_eq (tgt := 19) hx hb dX0_stands_11 rfl (fun h11 => ?_) (fun h11 => ?_)
    · have h11 : ¬ (thingP o_) := b01_0.mp h11
      refine lv_bipush (v := (-2)) hx hb dX0_stands_19 rfl ?_
      exact q_i hQ hx hb hr hlocks rfl (by simp only [standsF, eq_true h4, eq_false h11, if_true, if_false, ite_true, ite_false, not_true_eq_false, not_false_eq_true, and_true, true_and, and_false, false_and, or_true, true_or, or_false, false_or, and_self, or_self, eq_self]) dX0_stands_21
    · have h11 : thingP o_ := b01_n h11
      refine lv_iload_n hx hb dX0_stands_14 rfl (lv_at hl 1 rfl) ?_
      refine lv_iload_n hx hb dX0_stands_15 rfl (lv_at hl 2 rfl) ?_
      refine lv_icmp_ne (tgt := 22) hx hb dX0_stands_16 rfl (fun h16 => ?_) (fun h16 => ?_)
      · have h16 : ¬ (t_ = o_) := h16
        refine lv_iconst (v := 1) hx hb dX0_stands_22 rfl ?_
        refine lv_istore_n (lv' := [(3, .int 1), (0, .ref x), (1, .int t_), (2, .int o_)]) hx hb dX0_stands_23 rfl hl (by decide) rfl (fun ls hl => ?_)
        refine lv_aload_n hx hb dX0_stands_24 rfl (lv_at hl 1 rfl) ?_
        refine va_get (D := D) (ci := 1) (v := .ref (ad 2)) (C := RX0) (T := TX0) (N := 11) hx hb hts in_X0 hown hK hP 0 rfl rfl 5 (by decide) (hts _ q218) (fun _ h9 => h9) rfl dX0_stands_25 ?_
        refine lv_astore (lv' := [(4, .ref (ad 2)), (3, .int 1), (0, .ref x), (1, .int t_), (2, .int o_)]) hx hb dX0_stands_28 hl (by decide) rfl (fun ls hl => ?_)
        refine lv_aload hx hb dX0_stands_30 (lv_at hl 0 rfl) ?_
        refine va_alen (v := nI 6) hx hb hK hP 3 5 rfl rfl rfl dX0_stands_32 ?_
        refine lv_istore (lv' := [(5, .int (nI 6)), (4, .ref (ad 2)), (3, .int 1), (0, .ref x), (1, .int t_), (2, .int o_)]) hx hb dX0_stands_33 hl (by decide) rfl (fun ls hl => ?_)
        refine lv_iconst (v := 0) hx hb dX0_stands_35 rfl ?_
        refine lv_istore (lv' := [(6, .int 0), (5, .int (nI 6)), (4, .ref (ad 2)), (3, .int 1), (0, .ref x), (1, .int t_), (2, .int o_)]) hx hb dX0_stands_36 hl (by decide) rfl (fun ls hl => ?_)
        have hL38_1 : ∀ (n_2 : Nat) (g : Nat) (x6 : Int32) (x3 : Int32) (ls : Array Slot), (6 - g) < n_2 → (g ≤ 6) → x6 = (nI g) → x3 = (standsB σ t_ o_ (4 * g)) → lv_has ls 10 [(6, .int x6), (5, .int (nI 6)), (4, .ref (ad 2)), (3, .int x3), (0, .ref x), (1, .int t_), (2, .int o_)] → W p l e rmX0_stands s m args below meth c s.heap [] 0 0 Q (F0 m 38 ls []) := by
          intro n_2
          induction n_2 with
          | zero => intro g x6 x3 ls hm_4; exact absurd hm_4 (Nat.not_lt_zero _)
          | succ n_2 ih_3 =>
            intro g x6 x3 ls hm_4 hc ex6 ex3 hl
            subst ex6 ex3
            refine lv_iload hx hb dX0_stands_38 (lv_at hl 0 rfl) ?_
            refine lv_iload hx hb dX0_stands_40 (lv_at hl 1 rfl) ?_
            refine lv_icmp_ge (tgt := 145) hx hb dX0_stands_42 rfl (fun h42 => ?_) (fun h42 => ?_)
            · have h42 : 6 ≤ g := (nz_le (a := 6) (b := g) rfl rfl (by omega) (by omega)).mp h42
              obtain rfl : g = 6 := by omega
              refine lv_iload_n hx hb dX0_stands_145 rfl (lv_at hl 3 rfl) ?_
              refine lv_if_eq (tgt := 153) hx hb dX0_stands_146 rfl (fun h146 => ?_) (fun h146 => ?_)
              · have h146 : (standsB σ t_ o_ (4 * 6)) = 0 := h146
                refine lv_iconst (v := 0) hx hb dX0_stands_153 rfl ?_
                exact q_i hQ hx hb hr hlocks rfl (by simp only [standsF, eq_true h4, eq_true h11, eq_false h16, show ∀ q, standsB σ t_ o_ (4 * 6) = q ↔ standsB σ t_ o_ 24 = q from fun _ => Iff.rfl, if_true, if_false, ite_true, ite_false, not_true_eq_false, not_false_eq_true, and_true, true_and, and_false, false_and, or_true, true_or, or_false, false_or, and_self, or_self, eq_self]; rw [if_pos h146]) dX0_stands_154
              · have h146 : ¬ ((standsB σ t_ o_ (4 * 6)) = 0) := h146
                refine lv_iconst (v := 1) hx hb dX0_stands_149 rfl ?_
                refine lv_goto (tgt := 154) hx hb dX0_stands_150 rfl ?_
                exact q_i hQ hx hb hr hlocks rfl (by simp only [standsF, eq_true h4, eq_true h11, eq_false h16, show ∀ q, standsB σ t_ o_ (4 * 6) = q ↔ standsB σ t_ o_ 24 = q from fun _ => Iff.rfl, if_true, if_false, ite_true, ite_false, not_true_eq_false, not_false_eq_true, and_true, true_and, and_false, false_and, or_true, true_or, or_false, false_or, and_self, or_self, eq_self]; rw [if_neg h146]) dX0_stands_154
            · have h42 : ¬ (6 ≤ g) := fun z9 => h42 ((nz_le (a := 6) (b := g) rfl rfl (by omega) (by omega)).mpr z9)
              refine lv_aload hx hb dX0_stands_45 (lv_at hl 2 rfl) ?_
              refine lv_iload hx hb dX0_stands_47 (lv_at hl 0 rfl) ?_
              by_cases hT : hasP σ.told (nI g)
              · skip
                refine wa_aald (v := .ref (μ.cA g)) hx hb hK hP 3 5 rfl rfl rfl (g) (rfl) (by omega) (by decide) (cO_t hT) dX0_stands_49 ?_
                refine lv_astore (lv' := [(7, .ref (μ.cA g)), (6, .int (nI g)), (5, .int (nI 6)), (4, .ref (ad 2)), (3, .int (standsB σ t_ o_ (4 * g))), (0, .ref x), (1, .int t_), (2, .int o_)]) hx hb dX0_stands_50 hl (by decide) rfl (fun ls hl => ?_)
                refine lv_iconst (v := 0) hx hb dX0_stands_52 rfl ?_
                refine lv_istore (lv' := [(8, .int 0), (7, .ref (μ.cA g)), (6, .int (nI g)), (5, .int (nI 6)), (4, .ref (ad 2)), (3, .int (standsB σ t_ o_ (4 * g))), (0, .ref x), (1, .int t_), (2, .int o_)]) hx hb dX0_stands_53 hl (by decide) rfl (fun ls hl => ?_)
                have hL55_5 : ∀ (n_6 : Nat) (k : Nat) (x8 : Int32) (x3 : Int32) (ls : Array Slot), (4 - k) < n_6 → (k ≤ 4) → x8 = (nI k) → x3 = (standsB σ t_ o_ (4 * g + k)) → lv_has ls 10 [(8, .int x8), (7, .ref (μ.cA g)), (6, .int (nI g)), (5, .int (nI 6)), (4, .ref (ad 2)), (3, .int x3), (0, .ref x), (1, .int t_), (2, .int o_)] → W p l e rmX0_stands s m args below meth c s.heap [] 0 0 Q (F0 m 55 ls []) := by
                  intro n_6
                  induction n_6 with
                  | zero => intro k x8 x3 ls hm_8; exact absurd hm_8 (Nat.not_lt_zero _)
                  | succ n_6 ih_7 =>
                    intro k x8 x3 ls hm_8 hk ex8 ex3 hl
                    subst ex8 ex3
                    refine lv_aload hx hb dX0_stands_55 (lv_at hl 1 rfl) ?_
                    refine lv_ifnull hx hb dX0_stands_57 ?_
                    refine lv_iload hx hb dX0_stands_60 (lv_at hl 0 rfl) ?_
                    refine lv_aload hx hb dX0_stands_62 (lv_at hl 1 rfl) ?_
                    refine va_get (D := D) (ci := 5) (v := .ref (μ.lA g)) (C := RX7) (T := TX7) (N := 3) hx hb hts in_X7 hown hK (pl1 hP (hR.2.1 g (show g < 6 by omega) hT).1.1 (hR.2.1 g (show g < 6 by omega) hT).1.2) 0 rfl rfl 1 (by decide) (hts _ q701) (fun _ h9 => h9) rfl dX0_stands_64 ?_
                    have hsm := hI.sm g (by omega)
                    refine dV (v := .int (nI (σ.sm g))) (As := []) (rest := [.int (nI k)]) ⟨hx, hb, hml, hown, hts⟩ (mt_J2_size l D dA (μ.lA g) (μ.eA g) (μ.mA g) (σ.sm g)) (cw_X0_J2_size hts ⟨Nat.le_of_ble_eq_true rfl, Nat.le_of_ble_eq_true rfl⟩) pB_bw (pB_now hK (pl1 hP (hR.2.1 g (show g < 6 by omega) hT).2.2.1.1 (hR.2.1 g (show g < 6 by omega) hT).2.2.1.2)) (va_recv hK (pl1 hP (hR.2.1 g (show g < 6 by omega) hT).2.2.1.1 (hR.2.1 g (show g < 6 by omega) hT).2.2.1.2) (ci := 8) (q0 := 0) rfl rfl) rfl hl.1 rfl (Nat.le_of_ble_eq_true rfl) dX0_stands_67 ⟨Nat.le_of_ble_eq_true rfl, Nat.le_of_ble_eq_true rfl⟩ ?_
                    refine lv_icmp_ge (tgt := 139) hx hb dX0_stands_70 rfl (fun h70 => ?_) (fun h70 => ?_)
                    · have h70 : (σ.sm g) ≤ k := (nz_le (a := (σ.sm g)) (b := k) rfl rfl (by omega) (by omega)).mp h70
                      have hsm := hI.sm g (by omega)
                      have hes : standsB σ t_ o_ (4 * (g + 1)) = standsB σ t_ o_ (4 * g + k) := sb_skip (by omega) (fun i h1 h2 => end_sort hI (by omega) i (by omega) h2)
                      refine lv_iinc (v := nI (g + 1)) (lv' := [(6, .int (nI (g + 1))), (8, .int (nI k)), (7, .ref (μ.cA g)), (5, .int (nI 6)), (4, .ref (ad 2)), (3, .int (standsB σ t_ o_ (4 * g + k))), (0, .ref x), (1, .int t_), (2, .int o_)]) hx hb dX0_stands_139 hl (k := 2) rfl (nI_1 g) (by decide) rfl (fun ls hl => ?_)
                      refine lv_goto (tgt := 38) hx hb dX0_stands_142 rfl ?_
                      exact ih_3 (g + 1) (nI (g + 1)) (standsB σ t_ o_ (4 * g + k)) ls (by omega) (by omega) rfl (by subst_vars; rw [hes]) (lv_sub hl [0, 3, 4, 5, 6, 7, 8] rfl)
                    · have h70 : ¬ ((σ.sm g) ≤ k) := fun z9 => h70 ((nz_le (a := (σ.sm g)) (b := k) rfl rfl (by omega) (by omega)).mpr z9)
                      have hsm := hI.sm g (by omega)
                      refine lv_aload hx hb dX0_stands_73 (lv_at hl 1 rfl) ?_
                      refine va_get (D := D) (ci := 5) (v := .ref (μ.lA g)) (C := RX7) (T := TX7) (N := 3) hx hb hts in_X7 hown hK (pl1 hP (hR.2.1 g (show g < 6 by omega) hT).1.1 (hR.2.1 g (show g < 6 by omega) hT).1.2) 0 rfl rfl 1 (by decide) (hts _ q701) (fun _ h9 => h9) rfl dX0_stands_75 ?_
                      refine lv_iload hx hb dX0_stands_78 (lv_at hl 0 rfl) ?_
                      refine g_sort (rest := []) ⟨hx, hb, hml, hown, hts⟩ (cw_X0_J2_get hts ⟨Nat.le_of_ble_eq_true rfl, Nat.le_of_ble_eq_true rfl⟩) hK hP (hR.2.1 g (show g < 6 by omega) hT) (hI.sm g (show g < 6 by omega)) (show k < σ.sm g by omega) hl.1 rfl (Nat.le_of_ble_eq_true rfl) dX0_stands_80 ⟨Nat.le_of_ble_eq_true rfl, Nat.le_of_ble_eq_true rfl⟩ ?_
                      refine va_castS hx hb hown (hts _ q717) (hK.1 6 _ rfl).2 (va_recv hK (pl1 hP ((hR.2.1 g (show g < 6 by omega) hT).2.2.2.2 k (show k < σ.sm g by omega)).1 ((hR.2.1 g (show g < 6 by omega) hT).2.2.2.2 k (show k < σ.sm g by omega)).2) (ci := 6) (q0 := 0) rfl rfl) dX0_stands_83 ?_
                      refine lv_astore (lv' := [(9, .ref (μ.sA g k)), (8, .int (nI k)), (7, .ref (μ.cA g)), (6, .int (nI g)), (5, .int (nI 6)), (4, .ref (ad 2)), (3, .int (standsB σ t_ o_ (4 * g + k))), (0, .ref x), (1, .int t_), (2, .int o_)]) hx hb dX0_stands_86 hl (by decide) rfl (fun ls hl => ?_)
                      refine lv_iload_n hx hb dX0_stands_88 rfl (lv_at hl 6 rfl) ?_
                      refine lv_aload hx hb dX0_stands_89 (lv_at hl 0 rfl) ?_
                      refine va_get (D := D) (ci := 6) (v := .int (σ.sorts (16 * g + 4 * k + 2))) (C := RX9) (T := TX9) (N := 4) hx hb hts in_X9 hown hK (pl1 hP ((hR.2.1 g (show g < 6 by omega) hT).2.2.2.2 k (show k < σ.sm g by omega)).1 ((hR.2.1 g (show g < 6 by omega) hT).2.2.2.2 k (show k < σ.sm g by omega)).2) 0 rfl rfl 0 (by decide) (hts _ q735) (fun x9 h9 => u_same (hts _ q736) x9 h9) rfl dX0_stands_91 ?_
                      refine lv_iload_n hx hb dX0_stands_94 rfl (lv_at hl 9 rfl) ?_
                      refine lv_ishr hx hb dX0_stands_95 ?_
                      refine lv_iconst (v := 1) hx hb dX0_stands_96 rfl ?_
                      refine lv_iand hx hb dX0_stands_97 ?_
                      have hJ131_9 : ∀ (v_10 : Int32) (ls : Array Slot), v_10 = (if (((σ.sorts (16 * g + 4 * k + 2)) >>> (o_ &&& 31)) &&& 1) = 0 then if (((σ.sorts (16 * g + 4 * k + 3)) >>> (o_ &&& 31)) &&& 1) = 0 then 1 else if (((σ.sorts (16 * g + 4 * k + 3)) >>> (t_ &&& 31)) &&& 1) = 1 then 1 else 0 else 0) → lv_has ls 10 [(9, .ref (μ.sA g k)), (8, .int (nI k)), (7, .ref (μ.cA g)), (6, .int (nI g)), (5, .int (nI 6)), (4, .ref (ad 2)), (3, .int (standsB σ t_ o_ (4 * g + k))), (0, .ref x), (1, .int t_), (2, .int o_)] → W p l e rmX0_stands s m args below meth c s.heap [] 0 0 Q (F0 m 131 ls [.int v_10, .int (standsB σ t_ o_ (4 * g + k))]) := by
                        intro v_10 ls ev_10 hl
                        refine lv_iand hx hb dX0_stands_131 ?_
                        refine lv_istore_n (lv' := [(3, .int ((standsB σ t_ o_ (4 * g + k)) &&& v_10)), (9, .ref (μ.sA g k)), (8, .int (nI k)), (7, .ref (μ.cA g)), (6, .int (nI g)), (5, .int (nI 6)), (4, .ref (ad 2)), (0, .ref x), (1, .int t_), (2, .int o_)]) hx hb dX0_stands_132 rfl hl (by decide) rfl (fun ls hl => ?_)
                        refine lv_iinc (v := nI (k + 1)) (lv' := [(8, .int (nI (k + 1))), (3, .int ((standsB σ t_ o_ (4 * g + k)) &&& v_10)), (9, .ref (μ.sA g k)), (7, .ref (μ.cA g)), (6, .int (nI g)), (5, .int (nI 6)), (4, .ref (ad 2)), (0, .ref x), (1, .int t_), (2, .int o_)]) hx hb dX0_stands_133 hl (k := 2) rfl (nI_1 k) (by decide) rfl (fun ls hl => ?_)
                        refine lv_goto (tgt := 55) hx hb dX0_stands_136 rfl ?_
                        exact ih_7 (k + 1) (nI (k + 1)) ((standsB σ t_ o_ (4 * g + k)) &&& v_10) ls (by omega) (by omega) rfl (by subst_vars; rw [← Nat.add_assoc, sb_s hI (by omega) hT (by omega)]) (lv_sub hl [0, 3, 4, 5, 6, 1, 7, 8, 9] rfl)
                      refine lv_if_ne (tgt := 130) hx hb dX0_stands_98 rfl (fun h98 => ?_) (fun h98 => ?_)
                      · have h98 : ¬ ((((σ.sorts (16 * g + 4 * k + 2)) >>> (o_ &&& 31)) &&& 1) = 0) := h98
                        refine lv_iconst (v := 0) hx hb dX0_stands_130 rfl ?_
                        exact hJ131_9 (0) ls (by rw [if_neg h98]) (lv_sub hl [0, 1, 2, 3, 4, 5, 6, 7, 8, 9] rfl)
                      · have h98 : (((σ.sorts (16 * g + 4 * k + 2)) >>> (o_ &&& 31)) &&& 1) = 0 := h98
                        refine lv_aload hx hb dX0_stands_101 (lv_at hl 0 rfl) ?_
                        refine va_get (D := D) (ci := 6) (v := .int (σ.sorts (16 * g + 4 * k + 3))) (C := RX9) (T := TX9) (N := 4) hx hb hts in_X9 hown hK (pl1 hP ((hR.2.1 g (show g < 6 by omega) hT).2.2.2.2 k (show k < σ.sm g by omega)).1 ((hR.2.1 g (show g < 6 by omega) hT).2.2.2.2 k (show k < σ.sm g by omega)).2) 0 rfl rfl 1 (by decide) (hts _ q739) (fun x9 h9 => u_same (hts _ q740) x9 h9) rfl dX0_stands_103 ?_
                        refine lv_iload_n hx hb dX0_stands_106 rfl (lv_at hl 9 rfl) ?_
                        refine lv_ishr hx hb dX0_stands_107 ?_
                        refine lv_iconst (v := 1) hx hb dX0_stands_108 rfl ?_
                        refine lv_iand hx hb dX0_stands_109 ?_
                        refine lv_if_eq (tgt := 126) hx hb dX0_stands_110 rfl (fun h110 => ?_) (fun h110 => ?_)
                        · have h110 : (((σ.sorts (16 * g + 4 * k + 3)) >>> (o_ &&& 31)) &&& 1) = 0 := h110
                          refine lv_iconst (v := 1) hx hb dX0_stands_126 rfl ?_
                          refine lv_goto (tgt := 131) hx hb dX0_stands_127 rfl ?_
                          exact hJ131_9 (1) ls (by rw [if_pos h98, if_pos h110]) (lv_sub hl [0, 1, 2, 3, 4, 5, 6, 7, 8, 9] rfl)
                        · have h110 : ¬ ((((σ.sorts (16 * g + 4 * k + 3)) >>> (o_ &&& 31)) &&& 1) = 0) := h110
                          refine lv_aload hx hb dX0_stands_113 (lv_at hl 0 rfl) ?_
                          refine va_get (D := D) (ci := 6) (v := .int (σ.sorts (16 * g + 4 * k + 3))) (C := RX9) (T := TX9) (N := 4) hx hb hts in_X9 hown hK (pl1 hP ((hR.2.1 g (show g < 6 by omega) hT).2.2.2.2 k (show k < σ.sm g by omega)).1 ((hR.2.1 g (show g < 6 by omega) hT).2.2.2.2 k (show k < σ.sm g by omega)).2) 0 rfl rfl 1 (by decide) (hts _ q739) (fun x9 h9 => u_same (hts _ q740) x9 h9) rfl dX0_stands_115 ?_
                          refine lv_iload_n hx hb dX0_stands_118 rfl (lv_at hl 8 rfl) ?_
                          refine lv_ishr hx hb dX0_stands_119 ?_
                          refine lv_iconst (v := 1) hx hb dX0_stands_120 rfl ?_
                          refine lv_iand hx hb dX0_stands_121 ?_
                          refine lv_iconst (v := 1) hx hb dX0_stands_122 rfl ?_
                          refine lv_icmp_ne (tgt := 130) hx hb dX0_stands_123 rfl (fun h123 => ?_) (fun h123 => ?_)
                          · have h123 : ¬ ((((σ.sorts (16 * g + 4 * k + 3)) >>> (t_ &&& 31)) &&& 1) = 1) := h123
                            refine lv_iconst (v := 0) hx hb dX0_stands_130 rfl ?_
                            exact hJ131_9 (0) ls (by rw [if_pos h98, if_neg h110, if_neg h123]) (lv_sub hl [0, 1, 2, 3, 4, 5, 6, 7, 8, 9] rfl)
                          · have h123 : (((σ.sorts (16 * g + 4 * k + 3)) >>> (t_ &&& 31)) &&& 1) = 1 := h123
                            refine lv_iconst (v := 1) hx hb dX0_stands_126 rfl ?_
                            refine lv_goto (tgt := 131) hx hb dX0_stands_127 rfl ?_
                            exact hJ131_9 (1) ls (by rw [if_pos h98, if_neg h110, if_pos h123]) (lv_sub hl [0, 1, 2, 3, 4, 5, 6, 7, 8, 9] rfl)
                exact hL55_5 _ 0 0 (standsB σ t_ o_ (4 * g)) ls (Nat.lt_succ_self _) (by omega) rfl rfl (lv_sub hl [0, 1, 2, 3, 4, 5, 6, 7, 8] rfl)
              · skip
                refine wa_aald (v := .null) hx hb hK hP 3 5 rfl rfl rfl (g) (rfl) (by omega) (by decide) (cO_n hT) dX0_stands_49 ?_
                refine lv_astoreN (lv' := [(7, .null), (6, .int (nI g)), (5, .int (nI 6)), (4, .ref (ad 2)), (3, .int (standsB σ t_ o_ (4 * g))), (0, .ref x), (1, .int t_), (2, .int o_)]) hx hb dX0_stands_50 hl (by decide) rfl (fun ls hl => ?_)
                refine lv_iconst (v := 0) hx hb dX0_stands_52 rfl ?_
                refine lv_istore (lv' := [(8, .int 0), (7, .null), (6, .int (nI g)), (5, .int (nI 6)), (4, .ref (ad 2)), (3, .int (standsB σ t_ o_ (4 * g))), (0, .ref x), (1, .int t_), (2, .int o_)]) hx hb dX0_stands_53 hl (by decide) rfl (fun ls hl => ?_)
                have hL55_11 : ∀ (n_12 : Nat) (k : Nat) (x8 : Int32) (x3 : Int32) (ls : Array Slot), (4 - k) < n_12 → (k ≤ 4) → x8 = (nI k) → x3 = (standsB σ t_ o_ (4 * g + k)) → lv_has ls 10 [(8, .int x8), (7, .null), (6, .int (nI g)), (5, .int (nI 6)), (4, .ref (ad 2)), (3, .int x3), (0, .ref x), (1, .int t_), (2, .int o_)] → W p l e rmX0_stands s m args below meth c s.heap [] 0 0 Q (F0 m 55 ls []) := by
                  intro n_12
                  induction n_12 with
                  | zero => intro k x8 x3 ls hm_14; exact absurd hm_14 (Nat.not_lt_zero _)
                  | succ n_12 ih_13 =>
                    intro k x8 x3 ls hm_14 hk ex8 ex3 hl
                    subst ex8 ex3
                    refine lv_aloadN hx hb dX0_stands_55 (lv_at hl 1 rfl) ?_
                    refine lv_ifnullN (tgt := 139) hx hb dX0_stands_57 rfl ?_
                    refine lv_iinc (v := nI (g + 1)) (lv' := [(6, .int (nI (g + 1))), (8, .int (nI k)), (7, .null), (5, .int (nI 6)), (4, .ref (ad 2)), (3, .int (standsB σ t_ o_ (4 * g + k))), (0, .ref x), (1, .int t_), (2, .int o_)]) hx hb dX0_stands_139 hl (k := 2) rfl (nI_1 g) (by decide) rfl (fun ls hl => ?_)
                    refine lv_goto (tgt := 38) hx hb dX0_stands_142 rfl ?_
                    exact ih_3 (g + 1) (nI (g + 1)) (standsB σ t_ o_ (4 * g + k)) ls (by omega) (by omega) rfl (by subst_vars; rw [sb_skip (σ := σ) (c := g) (k := k) (by omega) (no_sort hI (by omega) hT k)]) (lv_sub hl [0, 3, 4, 5, 6, 7, 8] rfl)
                exact hL55_11 _ 0 0 (standsB σ t_ o_ (4 * g)) ls (Nat.lt_succ_self _) (by omega) rfl rfl (lv_sub hl [0, 1, 2, 3, 4, 5, 6, 7, 8] rfl)
        exact hL38_1 _ 0 0 1 ls (Nat.lt_succ_self _) (by omega) rfl (by subst_vars; rw [standsB]) (lv_sub hl [0, 1, 2, 3, 4, 5, 6] rfl)
      · have h16 : t_ = o_ := h16
        refine lv_bipush (v := (-2)) hx hb dX0_stands_19 rfl ?_
        exact q_i hQ hx hb hr hlocks rfl (by simp only [standsF, eq_true h4, eq_true h11, eq_true h16, if_true, if_false, ite_true, ite_false, not_true_eq_false, not_false_eq_true, and_true, true_and, and_false, false_and, or_true, true_or, or_false, false_or, and_self, or_self, eq_self]) dX0_stands_21

def rmX0_idle : Room := { frames := 3, cells := 0, slots := 0, locals := 64 }
set_option maxHeartbeats 1000000 in
theorem mt_X0_idle (l : Launch) (D : va_G) (dA : Nat → ClassId) (x : Nat) (ad : Nat → Nat) (μ : Lay) (σ : St) (ω : Om) (hI : Inv σ) (hR : Rel dA μ σ) : Met l yX0_idle (ws_ yX0_idle cX0_idle 7 (some .int)) rmX0_idle (va_Pc [.ref x] (cB D dA x ad μ σ ω)) (roQ (.int (idleF σ))) 0 0 (fun _ => False) := by
  refine w_start (by decide) (Nat.le_of_ble_eq_true rfl) ?_
  intro p e s m args below meth c Q ls hQ hx hb hr hlocks hml hown hnm hts hB hl
  have hown : s.vm.findClass RX0 = some m.cls := hown
  have hl : lv_has ls 7 [(0, .ref x)] := hl
  obtain ⟨hP, hK, hN⟩ := hB
  refine lv_iconst (v := 0) hx hb dX0_idle_0 rfl ?_
  refine lv_istore_n (lv' := [(1, .int 0), (0, .ref x)]) hx hb dX0_idle_1 rfl hl (by decide) rfl (fun ls hl => ?_)
  refine lv_aload_n hx hb dX0_idle_2 rfl (lv_at hl 1 rfl) ?_
  refine va_get (D := D) (ci := 1) (v := .ref (ad 2)) (C := RX0) (T := TX0) (N := 11) hx hb hts in_X0 hown hK hP 0 rfl rfl 5 (by decide) (hts _ q218) (fun _ h9 => h9) rfl dX0_idle_3 ?_
  refine lv_astore_n (lv' := [(2, .ref (ad 2)), (1, .int 0), (0, .ref x)]) hx hb dX0_idle_6 rfl hl (by decide) rfl (fun ls hl => ?_)
  refine lv_aload_n hx hb dX0_idle_7 rfl (lv_at hl 0 rfl) ?_
  refine va_alen (v := nI 6) hx hb hK hP 3 5 rfl rfl rfl dX0_idle_8 ?_
  refine lv_istore_n (lv' := [(3, .int (nI 6)), (2, .ref (ad 2)), (1, .int 0), (0, .ref x)]) hx hb dX0_idle_9 rfl hl (by decide) rfl (fun ls hl => ?_)
  refine lv_iconst (v := 0) hx hb dX0_idle_10 rfl ?_
  refine lv_istore (lv' := [(4, .int 0), (3, .int (nI 6)), (2, .ref (ad 2)), (1, .int 0), (0, .ref x)]) hx hb dX0_idle_11 hl (by decide) rfl (fun ls hl => ?_)
  have hL13_1 : ∀ (n_2 : Nat) (g : Nat) (x4 : Int32) (x1 : Int32) (ls : Array Slot), (6 - g) < n_2 → (g ≤ 6) → x4 = (nI g) → x1 = (wantF σ (4 * g)) → lv_has ls 7 [(4, .int x4), (3, .int (nI 6)), (2, .ref (ad 2)), (1, .int x1), (0, .ref x)] → W p l e rmX0_idle s m args below meth c s.heap [] 0 0 Q (F0 m 13 ls []) := by
    intro n_2
    induction n_2 with
    | zero => intro g x4 x1 ls hm_4; exact absurd hm_4 (Nat.not_lt_zero _)
    | succ n_2 ih_3 =>
      intro g x4 x1 ls hm_4 hc ex4 ex1 hl
      subst ex4 ex1
      refine lv_iload hx hb dX0_idle_13 (lv_at hl 0 rfl) ?_
      refine lv_iload_n hx hb dX0_idle_15 rfl (lv_at hl 1 rfl) ?_
      refine lv_icmp_ge (tgt := 94) hx hb dX0_idle_16 rfl (fun h16 => ?_) (fun h16 => ?_)
      · have h16 : 6 ≤ g := (nz_le (a := 6) (b := g) rfl rfl (by omega) (by omega)).mp h16
        obtain rfl : g = 6 := by omega
        refine lv_sipush (v := 255) hx hb dX0_idle_94 rfl ?_
        refine lv_iload_n hx hb dX0_idle_97 rfl (lv_at hl 3 rfl) ?_
        refine lv_iconst (v := (-1)) hx hb dX0_idle_98 rfl ?_
        refine lv_ixor hx hb dX0_idle_99 ?_
        refine lv_iand hx hb dX0_idle_100 ?_
        exact q_i hQ hx hb hr hlocks rfl (rfl) dX0_idle_101
      · have h16 : ¬ (6 ≤ g) := fun z9 => h16 ((nz_le (a := 6) (b := g) rfl rfl (by omega) (by omega)).mpr z9)
        refine lv_aload_n hx hb dX0_idle_19 rfl (lv_at hl 2 rfl) ?_
        refine lv_iload hx hb dX0_idle_20 (lv_at hl 0 rfl) ?_
        by_cases hT : hasP σ.told (nI g)
        · skip
          refine wa_aald (v := .ref (μ.cA g)) hx hb hK hP 3 5 rfl rfl rfl (g) (rfl) (by omega) (by decide) (cO_t hT) dX0_idle_22 ?_
          refine lv_astore (lv' := [(5, .ref (μ.cA g)), (4, .int (nI g)), (3, .int (nI 6)), (2, .ref (ad 2)), (1, .int (wantF σ (4 * g))), (0, .ref x)]) hx hb dX0_idle_23 hl (by decide) rfl (fun ls hl => ?_)
          refine lv_iconst (v := 0) hx hb dX0_idle_25 rfl ?_
          refine lv_istore (lv' := [(6, .int 0), (5, .ref (μ.cA g)), (4, .int (nI g)), (3, .int (nI 6)), (2, .ref (ad 2)), (1, .int (wantF σ (4 * g))), (0, .ref x)]) hx hb dX0_idle_26 hl (by decide) rfl (fun ls hl => ?_)
          have hL28_5 : ∀ (n_6 : Nat) (k : Nat) (x6 : Int32) (x1 : Int32) (ls : Array Slot), (4 - k) < n_6 → (k ≤ 4) → x6 = (nI k) → x1 = (wantF σ (4 * g + k)) → lv_has ls 7 [(6, .int x6), (5, .ref (μ.cA g)), (4, .int (nI g)), (3, .int (nI 6)), (2, .ref (ad 2)), (1, .int x1), (0, .ref x)] → W p l e rmX0_idle s m args below meth c s.heap [] 0 0 Q (F0 m 28 ls []) := by
            intro n_6
            induction n_6 with
            | zero => intro k x6 x1 ls hm_8; exact absurd hm_8 (Nat.not_lt_zero _)
            | succ n_6 ih_7 =>
              intro k x6 x1 ls hm_8 hk ex6 ex1 hl
              subst ex6 ex1
              refine lv_aload hx hb dX0_idle_28 (lv_at hl 1 rfl) ?_
              refine lv_ifnull hx hb dX0_idle_30 ?_
              refine lv_iload hx hb dX0_idle_33 (lv_at hl 0 rfl) ?_
              refine lv_aload hx hb dX0_idle_35 (lv_at hl 1 rfl) ?_
              refine va_get (D := D) (ci := 5) (v := .ref (μ.lA g)) (C := RX7) (T := TX7) (N := 3) hx hb hts in_X7 hown hK (pl1 hP (hR.2.1 g (show g < 6 by omega) hT).1.1 (hR.2.1 g (show g < 6 by omega) hT).1.2) 0 rfl rfl 1 (by decide) (hts _ q701) (fun _ h9 => h9) rfl dX0_idle_37 ?_
              have hsm := hI.sm g (by omega)
              refine dV (v := .int (nI (σ.sm g))) (As := []) (rest := [.int (nI k)]) ⟨hx, hb, hml, hown, hts⟩ (mt_J2_size l D dA (μ.lA g) (μ.eA g) (μ.mA g) (σ.sm g)) (cw_X0_J2_size hts ⟨Nat.le_of_ble_eq_true rfl, Nat.le_of_ble_eq_true rfl⟩) pB_bw (pB_now hK (pl1 hP (hR.2.1 g (show g < 6 by omega) hT).2.2.1.1 (hR.2.1 g (show g < 6 by omega) hT).2.2.1.2)) (va_recv hK (pl1 hP (hR.2.1 g (show g < 6 by omega) hT).2.2.1.1 (hR.2.1 g (show g < 6 by omega) hT).2.2.1.2) (ci := 8) (q0 := 0) rfl rfl) rfl hl.1 rfl (Nat.le_of_ble_eq_true rfl) dX0_idle_40 ⟨Nat.le_of_ble_eq_true rfl, Nat.le_of_ble_eq_true rfl⟩ ?_
              refine lv_icmp_ge (tgt := 88) hx hb dX0_idle_43 rfl (fun h43 => ?_) (fun h43 => ?_)
              · have h43 : (σ.sm g) ≤ k := (nz_le (a := (σ.sm g)) (b := k) rfl rfl (by omega) (by omega)).mp h43
                have hsm := hI.sm g (by omega)
                have hes : wantF σ (4 * (g + 1)) = wantF σ (4 * g + k) := wa_skip (by omega) (fun i h1 h2 => end_sort hI (by omega) i (by omega) h2)
                refine lv_iinc (v := nI (g + 1)) (lv' := [(4, .int (nI (g + 1))), (6, .int (nI k)), (5, .ref (μ.cA g)), (3, .int (nI 6)), (2, .ref (ad 2)), (1, .int (wantF σ (4 * g + k))), (0, .ref x)]) hx hb dX0_idle_88 hl (k := 2) rfl (nI_1 g) (by decide) rfl (fun ls hl => ?_)
                refine lv_goto (tgt := 13) hx hb dX0_idle_91 rfl ?_
                exact ih_3 (g + 1) (nI (g + 1)) (wantF σ (4 * g + k)) ls (by omega) (by omega) rfl (by subst_vars; rw [hes]) (lv_sub hl [0, 3, 4, 5, 6] rfl)
              · have h43 : ¬ ((σ.sm g) ≤ k) := fun z9 => h43 ((nz_le (a := (σ.sm g)) (b := k) rfl rfl (by omega) (by omega)).mpr z9)
                have hsm := hI.sm g (by omega)
                refine lv_iload_n hx hb dX0_idle_46 rfl (lv_at hl 5 rfl) ?_
                refine lv_aload hx hb dX0_idle_47 (lv_at hl 1 rfl) ?_
                refine va_get (D := D) (ci := 5) (v := .ref (μ.lA g)) (C := RX7) (T := TX7) (N := 3) hx hb hts in_X7 hown hK (pl1 hP (hR.2.1 g (show g < 6 by omega) hT).1.1 (hR.2.1 g (show g < 6 by omega) hT).1.2) 0 rfl rfl 1 (by decide) (hts _ q701) (fun _ h9 => h9) rfl dX0_idle_49 ?_
                refine lv_iload hx hb dX0_idle_52 (lv_at hl 0 rfl) ?_
                refine g_sort (rest := [.int (wantF σ (4 * g + k))]) ⟨hx, hb, hml, hown, hts⟩ (cw_X0_J2_get hts ⟨Nat.le_of_ble_eq_true rfl, Nat.le_of_ble_eq_true rfl⟩) hK hP (hR.2.1 g (show g < 6 by omega) hT) (hI.sm g (show g < 6 by omega)) (show k < σ.sm g by omega) hl.1 rfl (Nat.le_of_ble_eq_true rfl) dX0_idle_54 ⟨Nat.le_of_ble_eq_true rfl, Nat.le_of_ble_eq_true rfl⟩ ?_
                refine va_castS hx hb hown (hts _ q717) (hK.1 6 _ rfl).2 (va_recv hK (pl1 hP ((hR.2.1 g (show g < 6 by omega) hT).2.2.2.2 k (show k < σ.sm g by omega)).1 ((hR.2.1 g (show g < 6 by omega) hT).2.2.2.2 k (show k < σ.sm g by omega)).2) (ci := 6) (q0 := 0) rfl rfl) dX0_idle_57 ?_
                refine va_get (D := D) (ci := 6) (v := .int (σ.sorts (16 * g + 4 * k + 2))) (C := RX9) (T := TX9) (N := 4) hx hb hts in_X9 hown hK (pl1 hP ((hR.2.1 g (show g < 6 by omega) hT).2.2.2.2 k (show k < σ.sm g by omega)).1 ((hR.2.1 g (show g < 6 by omega) hT).2.2.2.2 k (show k < σ.sm g by omega)).2) 0 rfl rfl 0 (by decide) (hts _ q735) (fun x9 h9 => u_same (hts _ q736) x9 h9) rfl dX0_idle_60 ?_
                refine lv_aload hx hb dX0_idle_63 (lv_at hl 1 rfl) ?_
                refine va_get (D := D) (ci := 5) (v := .ref (μ.lA g)) (C := RX7) (T := TX7) (N := 3) hx hb hts in_X7 hown hK (pl1 hP (hR.2.1 g (show g < 6 by omega) hT).1.1 (hR.2.1 g (show g < 6 by omega) hT).1.2) 0 rfl rfl 1 (by decide) (hts _ q701) (fun _ h9 => h9) rfl dX0_idle_65 ?_
                refine lv_iload hx hb dX0_idle_68 (lv_at hl 0 rfl) ?_
                refine g_sort (rest := [.int (σ.sorts (16 * g + 4 * k + 2)), .int (wantF σ (4 * g + k))]) ⟨hx, hb, hml, hown, hts⟩ (cw_X0_J2_get hts ⟨Nat.le_of_ble_eq_true rfl, Nat.le_of_ble_eq_true rfl⟩) hK hP (hR.2.1 g (show g < 6 by omega) hT) (hI.sm g (show g < 6 by omega)) (show k < σ.sm g by omega) hl.1 rfl (Nat.le_of_ble_eq_true rfl) dX0_idle_70 ⟨Nat.le_of_ble_eq_true rfl, Nat.le_of_ble_eq_true rfl⟩ ?_
                refine va_castS hx hb hown (hts _ q717) (hK.1 6 _ rfl).2 (va_recv hK (pl1 hP ((hR.2.1 g (show g < 6 by omega) hT).2.2.2.2 k (show k < σ.sm g by omega)).1 ((hR.2.1 g (show g < 6 by omega) hT).2.2.2.2 k (show k < σ.sm g by omega)).2) (ci := 6) (q0 := 0) rfl rfl) dX0_idle_73 ?_
                refine va_get (D := D) (ci := 6) (v := .int (σ.sorts (16 * g + 4 * k + 3))) (C := RX9) (T := TX9) (N := 4) hx hb hts in_X9 hown hK (pl1 hP ((hR.2.1 g (show g < 6 by omega) hT).2.2.2.2 k (show k < σ.sm g by omega)).1 ((hR.2.1 g (show g < 6 by omega) hT).2.2.2.2 k (show k < σ.sm g by omega)).2) 0 rfl rfl 1 (by decide) (hts _ q739) (fun x9 h9 => u_same (hts _ q740) x9 h9) rfl dX0_idle_76 ?_
                refine lv_ior hx hb dX0_idle_79 ?_
                refine lv_ior hx hb dX0_idle_80 ?_
                refine lv_istore_n (lv' := [(1, .int ((wantF σ (4 * g + k)) ||| ((σ.sorts (16 * g + 4 * k + 2)) ||| (σ.sorts (16 * g + 4 * k + 3))))), (6, .int (nI k)), (5, .ref (μ.cA g)), (4, .int (nI g)), (3, .int (nI 6)), (2, .ref (ad 2)), (0, .ref x)]) hx hb dX0_idle_81 rfl hl (by decide) rfl (fun ls hl => ?_)
                refine lv_iinc (v := nI (k + 1)) (lv' := [(6, .int (nI (k + 1))), (1, .int ((wantF σ (4 * g + k)) ||| ((σ.sorts (16 * g + 4 * k + 2)) ||| (σ.sorts (16 * g + 4 * k + 3))))), (5, .ref (μ.cA g)), (4, .int (nI g)), (3, .int (nI 6)), (2, .ref (ad 2)), (0, .ref x)]) hx hb dX0_idle_82 hl (k := 1) rfl (nI_1 k) (by decide) rfl (fun ls hl => ?_)
                refine lv_goto (tgt := 28) hx hb dX0_idle_85 rfl ?_
                exact ih_7 (k + 1) (nI (k + 1)) ((wantF σ (4 * g + k)) ||| ((σ.sorts (16 * g + 4 * k + 2)) ||| (σ.sorts (16 * g + 4 * k + 3)))) ls (by omega) (by omega) rfl (by subst_vars; rw [← Nat.add_assoc, wa_s hI (by omega) hT (by omega)]) (lv_sub hl [0, 2, 3, 4, 5, 1, 6] rfl)
          exact hL28_5 _ 0 0 (wantF σ (4 * g)) ls (Nat.lt_succ_self _) (by omega) rfl rfl (lv_sub hl [0, 1, 2, 3, 4, 5, 6] rfl)
        · skip
          refine wa_aald (v := .null) hx hb hK hP 3 5 rfl rfl rfl (g) (rfl) (by omega) (by decide) (cO_n hT) dX0_idle_22 ?_
          refine lv_astoreN (lv' := [(5, .null), (4, .int (nI g)), (3, .int (nI 6)), (2, .ref (ad 2)), (1, .int (wantF σ (4 * g))), (0, .ref x)]) hx hb dX0_idle_23 hl (by decide) rfl (fun ls hl => ?_)
          refine lv_iconst (v := 0) hx hb dX0_idle_25 rfl ?_
          refine lv_istore (lv' := [(6, .int 0), (5, .null), (4, .int (nI g)), (3, .int (nI 6)), (2, .ref (ad 2)), (1, .int (wantF σ (4 * g))), (0, .ref x)]) hx hb dX0_idle_26 hl (by decide) rfl (fun ls hl => ?_)
          have hL28_9 : ∀ (n_10 : Nat) (k : Nat) (x6 : Int32) (x1 : Int32) (ls : Array Slot), (4 - k) < n_10 → (k ≤ 4) → x6 = (nI k) → x1 = (wantF σ (4 * g + k)) → lv_has ls 7 [(6, .int x6), (5, .null), (4, .int (nI g)), (3, .int (nI 6)), (2, .ref (ad 2)), (1, .int x1), (0, .ref x)] → W p l e rmX0_idle s m args below meth c s.heap [] 0 0 Q (F0 m 28 ls []) := by
            intro n_10
            induction n_10 with
            | zero => intro k x6 x1 ls hm_12; exact absurd hm_12 (Nat.not_lt_zero _)
            | succ n_10 ih_11 =>
              intro k x6 x1 ls hm_12 hk ex6 ex1 hl
              subst ex6 ex1
              refine lv_aloadN hx hb dX0_idle_28 (lv_at hl 1 rfl) ?_
              refine lv_ifnullN (tgt := 88) hx hb dX0_idle_30 rfl ?_
              refine lv_iinc (v := nI (g + 1)) (lv' := [(4, .int (nI (g + 1))), (6, .int (nI k)), (5, .null), (3, .int (nI 6)), (2, .ref (ad 2)), (1, .int (wantF σ (4 * g + k))), (0, .ref x)]) hx hb dX0_idle_88 hl (k := 2) rfl (nI_1 g) (by decide) rfl (fun ls hl => ?_)
              refine lv_goto (tgt := 13) hx hb dX0_idle_91 rfl ?_
              exact ih_3 (g + 1) (nI (g + 1)) (wantF σ (4 * g + k)) ls (by omega) (by omega) rfl (by subst_vars; rw [wa_skip (σ := σ) (c := g) (k := k) (by omega) (no_sort hI (by omega) hT k)]) (lv_sub hl [0, 3, 4, 5, 6] rfl)
          exact hL28_9 _ 0 0 (wantF σ (4 * g)) ls (Nat.lt_succ_self _) (by omega) rfl rfl (lv_sub hl [0, 1, 2, 3, 4, 5, 6] rfl)
  exact hL13_1 _ 0 0 0 ls (Nat.lt_succ_self _) (by omega) rfl (by subst_vars; rw [wantF]) (lv_sub hl [0, 1, 2, 3, 4] rfl)

theorem cw_X0_X10_isSavedBy {R : Room} {s : State} {args : Array Value} (hts : ∀ w ∈ lw_all, w.before args s = true) (hR : rmX10_isSavedBy.frames + 1 ≤ R.frames ∧ 8 + (2 + 11) + rmX10_isSavedBy.locals ≤ R.locals) : CallW R s args RX0 RX10 300 yX10_isSavedBy cX10_isSavedBy 2 (some .boolean) (ws_ yX10_isSavedBy cX10_isSavedBy 2 (some .boolean)) rmX10_isSavedBy 0 0 1 := cwV 1 hts (lw_V q1078 q1079 q1080 q108 q1081) rfl rfl rfl (by decide +kernel) hR
def rmX0_savedBy : Room := { frames := 3, cells := 0, slots := 0, locals := 64 }
set_option maxHeartbeats 1000000 in
theorem mt_X0_savedBy (l : Launch) (D : va_G) (dA : Nat → ClassId) (x : Nat) (ad : Nat → Nat) (μ : Lay) (σ : St) (ω : Om) (set_ : Int32) (hI : Inv σ) (hR : Rel dA μ σ) : Met l yX0_savedBy (ws_ yX0_savedBy cX0_savedBy 4 (some .int)) rmX0_savedBy (va_Pc [.ref x, .int set_] (cB D dA x ad μ σ ω)) (roQ (.int (savF σ set_))) 0 0 (fun _ => False) := by
  refine w_start (by decide) (Nat.le_of_ble_eq_true rfl) ?_
  intro p e s m args below meth c Q ls hQ hx hb hr hlocks hml hown hnm hts hB hl
  have hown : s.vm.findClass RX0 = some m.cls := hown
  have hl : lv_has ls 4 [(0, .ref x), (1, .int set_)] := hl
  obtain ⟨hP, hK, hN⟩ := hB
  have hvm := hI.vm
  refine lv_iconst (v := 0) hx hb dX0_savedBy_0 rfl ?_
  refine lv_istore_n (lv' := [(2, .int 0), (0, .ref x), (1, .int set_)]) hx hb dX0_savedBy_1 rfl hl (by decide) rfl (fun ls hl => ?_)
  refine lv_iconst (v := 0) hx hb dX0_savedBy_2 rfl ?_
  refine lv_istore_n (lv' := [(3, .int 0), (2, .int 0), (0, .ref x), (1, .int set_)]) hx hb dX0_savedBy_3 rfl hl (by decide) rfl (fun ls hl => ?_)
  have hL4_1 : ∀ (n_2 : Nat) (k : Nat) (x3 : Int32) (x2 : Int32) (ls : Array Slot), (16 - k) < n_2 → (k ≤ σ.vm) → x3 = (nI k) → x2 = (svF σ set_ k) → lv_has ls 4 [(3, .int x3), (2, .int x2), (0, .ref x), (1, .int set_)] → W p l e rmX0_savedBy s m args below meth c s.heap [] 0 0 Q (F0 m 4 ls []) := by
    intro n_2
    induction n_2 with
    | zero => intro k x3 x2 ls hm_4; exact absurd hm_4 (Nat.not_lt_zero _)
    | succ n_2 ih_3 =>
      intro k x3 x2 ls hm_4 hk ex3 ex2 hl
      subst ex3 ex2
      refine lv_iload_n hx hb dX0_savedBy_4 rfl (lv_at hl 0 rfl) ?_
      refine lv_aload_n hx hb dX0_savedBy_5 rfl (lv_at hl 2 rfl) ?_
      refine va_get (D := D) (ci := 1) (v := .ref (ad 5)) (C := RX0) (T := TX0) (N := 11) hx hb hts in_X0 hown hK hP 0 rfl rfl 9 (by decide) (hts _ q224) (fun _ h9 => h9) rfl dX0_savedBy_6 ?_
      refine dV (v := .int (nI σ.vm)) (As := []) (rest := [.int (nI k)]) ⟨hx, hb, hml, hown, hts⟩ (mt_J2_size l D dA (ad 5) μ.bE μ.bM σ.vm) (cw_X0_J2_size hts ⟨Nat.le_of_ble_eq_true rfl, Nat.le_of_ble_eq_true rfl⟩) pB_bw (pB_now hK (p1 hP 6 rfl)) (va_recv hK hP (ci := 8) (q0 := 6) rfl rfl) rfl hl.1 rfl (Nat.le_of_ble_eq_true rfl) dX0_savedBy_9 ⟨Nat.le_of_ble_eq_true rfl, Nat.le_of_ble_eq_true rfl⟩ ?_
      refine lv_icmp_ge (tgt := 47) hx hb dX0_savedBy_12 rfl (fun h12 => ?_) (fun h12 => ?_)
      · have h12 : σ.vm ≤ k := (nz_le (a := σ.vm) (b := k) rfl rfl (by omega) (by omega)).mp h12
        have hk_ : k = σ.vm := by omega
        subst hk_
        refine lv_iload_n hx hb dX0_savedBy_47 rfl (lv_at hl 1 rfl) ?_
        exact q_i hQ hx hb hr hlocks rfl (rfl) dX0_savedBy_48
      · have h12 : ¬ (σ.vm ≤ k) := fun z9 => h12 ((nz_le (a := σ.vm) (b := k) rfl rfl (by omega) (by omega)).mpr z9)
        refine lv_iload_n hx hb dX0_savedBy_15 rfl (lv_at hl 1 rfl) ?_
        refine lv_aload_n hx hb dX0_savedBy_16 rfl (lv_at hl 2 rfl) ?_
        refine va_get (D := D) (ci := 1) (v := .ref (ad 5)) (C := RX0) (T := TX0) (N := 11) hx hb hts in_X0 hown hK hP 0 rfl rfl 9 (by decide) (hts _ q224) (fun _ h9 => h9) rfl dX0_savedBy_17 ?_
        refine lv_iload_n hx hb dX0_savedBy_20 rfl (lv_at hl 0 rfl) ?_
        refine g_visit (rest := [.int (svF σ set_ k)]) ⟨hx, hb, hml, hown, hts⟩ (cw_X0_J2_get hts ⟨Nat.le_of_ble_eq_true rfl, Nat.le_of_ble_eq_true rfl⟩) hK hP hR.2.2 (show k < σ.vm by omega) hl.1 rfl (Nat.le_of_ble_eq_true rfl) dX0_savedBy_21 ⟨Nat.le_of_ble_eq_true rfl, Nat.le_of_ble_eq_true rfl⟩ ?_
        refine va_castS hx hb hown (hts _ q1056) (hK.1 7 _ rfl).2 (va_recv hK (pl1 hP (hR.2.2.2 k (show k < σ.vm by omega)).1 (hR.2.2.2 k (show k < σ.vm by omega)).2) (ci := 7) (q0 := 0) rfl rfl) dX0_savedBy_24 ?_
        refine lv_iload_n hx hb dX0_savedBy_27 rfl (lv_at hl 3 rfl) ?_
        refine dV (v := .int (b01 (savP (σ.visits (3 * k + 2)) (σ.visits (3 * k)) (σ.visits (3 * k + 1)) set_))) (As := [.int set_]) (rest := [.int (svF σ set_ k)]) ⟨hx, hb, hml, hown, hts⟩ (mt_X10_isSavedBy l D dA (μ.vA k) (σ.visits (3 * k)) (σ.visits (3 * k + 1)) (σ.visits (3 * k + 2)) set_) (cw_X0_X10_isSavedBy hts ⟨Nat.le_of_ble_eq_true rfl, Nat.le_of_ble_eq_true rfl⟩) pB_bw (pB_now hK (pl1 hP (hR.2.2.2 k (show k < σ.vm by omega)).1 (hR.2.2.2 k (show k < σ.vm by omega)).2)) (va_recv hK (pl1 hP (hR.2.2.2 k (show k < σ.vm by omega)).1 (hR.2.2.2 k (show k < σ.vm by omega)).2) (ci := 7) (q0 := 0) rfl rfl) rfl hl.1 rfl (Nat.le_of_ble_eq_true rfl) dX0_savedBy_28 ⟨Nat.le_of_ble_eq_true rfl, Nat.le_of_ble_eq_true rfl⟩ ?_
        have hJ39_5 : ∀ (v_6 : Int32) (ls : Array Slot), v_6 = (if savP (σ.visits (3 * k + 2)) (σ.visits (3 * k)) (σ.visits (3 * k + 1)) set_ then 1 else 0) → lv_has ls 4 [(3, .int (nI k)), (2, .int (svF σ set_ k)), (0, .ref x), (1, .int set_)] → W p l e rmX0_savedBy s m args below meth c s.heap [] 0 0 Q (F0 m 39 ls [.int v_6, .int (svF σ set_ k)]) := by
          intro v_6 ls ev_6 hl
          refine lv_iadd hx hb dX0_savedBy_39 ?_
          refine lv_istore_n (lv' := [(2, .int ((svF σ set_ k) + v_6)), (3, .int (nI k)), (0, .ref x), (1, .int set_)]) hx hb dX0_savedBy_40 rfl hl (by decide) rfl (fun ls hl => ?_)
          refine lv_iinc (v := nI (k + 1)) (lv' := [(3, .int (nI (k + 1))), (2, .int ((svF σ set_ k) + v_6)), (0, .ref x), (1, .int set_)]) hx hb dX0_savedBy_41 hl (k := 1) rfl (nI_1 k) (by decide) rfl (fun ls hl => ?_)
          refine lv_goto (tgt := 4) hx hb dX0_savedBy_44 rfl ?_
          exact ih_3 (k + 1) (nI (k + 1)) ((svF σ set_ k) + v_6) ls (by omega) (by omega) rfl (by subst_vars; exact (sv_s σ set_ k).symm) (lv_sub hl [0, 1, 2, 3] rfl)
        refine lv_if_eq (tgt := 38) hx hb dX0_savedBy_31 rfl (fun h31 => ?_) (fun h31 => ?_)
        · have h31 : ¬ (savP (σ.visits (3 * k + 2)) (σ.visits (3 * k)) (σ.visits (3 * k + 1)) set_) := b01_0.mp h31
          refine lv_iconst (v := 0) hx hb dX0_savedBy_38 rfl ?_
          exact hJ39_5 (0) ls (by rw [if_neg h31]) (lv_sub hl [0, 1, 2, 3] rfl)
        · have h31 : savP (σ.visits (3 * k + 2)) (σ.visits (3 * k)) (σ.visits (3 * k + 1)) set_ := b01_n h31
          refine lv_iconst (v := 1) hx hb dX0_savedBy_34 rfl ?_
          refine lv_goto (tgt := 39) hx hb dX0_savedBy_35 rfl ?_
          exact hJ39_5 (1) ls (by rw [if_pos h31]) (lv_sub hl [0, 1, 2, 3] rfl)
  exact hL4_1 _ 0 0 0 ls (Nat.lt_succ_self _) (by omega) rfl (by subst_vars; rw [svF]) (lv_sub hl [0, 1, 2, 3] rfl)

theorem cw_X0_X0_savedBy {R : Room} {s : State} {args : Array Value} (hts : ∀ w ∈ lw_all, w.before args s = true) (hR : rmX0_savedBy.frames + 1 ≤ R.frames ∧ 8 + (4 + 11) + rmX0_savedBy.locals ≤ R.locals) : CallW R s args RX0 RX0 303 yX0_savedBy cX0_savedBy 4 (some .int) (ws_ yX0_savedBy cX0_savedBy 4 (some .int)) rmX0_savedBy 0 0 1 := cwV 1 hts (lw_V q1074 q1076 qs33 q77 q1077) rfl rfl rfl (by decide +kernel) hR
def rmX0_saved : Room := { frames := 4, cells := 0, slots := 0, locals := 87 }
set_option maxHeartbeats 1000000 in
theorem mt_X0_saved (l : Launch) (D : va_G) (dA : Nat → ClassId) (x : Nat) (ad : Nat → Nat) (μ : Lay) (σ : St) (ω : Om) (set_ : Int32) (hI : Inv σ) (hR : Rel dA μ σ) : Met l yX0_saved (ws_ yX0_saved cX0_saved 2 (some .int)) rmX0_saved (va_Pc [.ref x, .int set_] (cB D dA x ad μ σ ω)) (roQ (.int (savedF σ set_))) 0 0 (fun _ => False) := by
  refine w_start (by decide) (Nat.le_of_ble_eq_true rfl) ?_
  intro p e s m args below meth c Q ls hQ hx hb hr hlocks hml hown hnm hts hB hl
  have hown : s.vm.findClass RX0 = some m.cls := hown
  have hl : lv_has ls 2 [(0, .ref x), (1, .int set_)] := hl
  obtain ⟨hP, hK, hN⟩ := hB
  refine lv_iload_n hx hb dX0_saved_0 rfl (lv_at hl 1 rfl) ?_
  refine cSi (As := [.int set_]) (rest := []) ⟨hx, hb, hml, hown, hts⟩ (mt_X0_isBag l set_) (cw_X0_X0_isBag hts ⟨Nat.le_of_ble_eq_true rfl, Nat.le_of_ble_eq_true rfl⟩) w_blT (fun _ _ _ => trivial) rfl hl.1 rfl (Nat.le_of_ble_eq_true rfl) dX0_saved_1 ⟨Nat.le_of_ble_eq_true rfl, Nat.le_of_ble_eq_true rfl⟩ ?_
  refine lv_if_eq (tgt := 15) hx hb dX0_saved_4 rfl (fun h4 => ?_) (fun h4 => ?_)
  · have h4 : ¬ (bagP set_) := b01_0.mp h4
    refine lv_bipush (v := (-3)) hx hb dX0_saved_15 rfl ?_
    exact q_i hQ hx hb hr hlocks rfl (by simp only [savedF, eq_false h4, if_true, if_false, ite_true, ite_false, not_true_eq_false, not_false_eq_true, and_true, true_and, and_false, false_and, or_true, true_or, or_false, false_or, and_self, or_self, eq_self]) dX0_saved_17
  · have h4 : bagP set_ := b01_n h4
    refine lv_aload_n hx hb dX0_saved_7 rfl (lv_at hl 0 rfl) ?_
    refine lv_iload_n hx hb dX0_saved_8 rfl (lv_at hl 1 rfl) ?_
    refine dV (v := .int (savF σ set_)) (As := [.int set_]) (rest := []) ⟨hx, hb, hml, hown, hts⟩ (mt_X0_savedBy l D dA x ad μ σ ω set_ hI hR) (cw_X0_X0_savedBy hts ⟨Nat.le_of_ble_eq_true rfl, Nat.le_of_ble_eq_true rfl⟩) cB_bw (cB_now hK hN hP) (va_recv hK hP (ci := 1) (q0 := 0) rfl rfl) rfl hl.1 rfl (Nat.le_of_ble_eq_true rfl) dX0_saved_9 ⟨Nat.le_of_ble_eq_true rfl, Nat.le_of_ble_eq_true rfl⟩ ?_
    refine lv_goto (tgt := 17) hx hb dX0_saved_12 rfl ?_
    exact q_i hQ hx hb hr hlocks rfl (by simp only [savedF, eq_true h4, if_true, if_false, ite_true, ite_false, not_true_eq_false, not_false_eq_true, and_true, true_and, and_false, false_and, or_true, true_or, or_false, false_or, and_self, or_self, eq_self]) dX0_saved_17

def rmX0_most : Room := { frames := 4, cells := 0, slots := 0, locals := 87 }
set_option maxHeartbeats 1000000 in
theorem mt_X0_most (l : Launch) (D : va_G) (dA : Nat → ClassId) (x : Nat) (ad : Nat → Nat) (μ : Lay) (σ : St) (ω : Om) (w : Int32) (hI : Inv σ) (hR : Rel dA μ σ) : Met l yX0_most (ws_ yX0_most cX0_most 4 (some .int)) rmX0_most (va_Pc [.ref x, .int w] (cB D dA x ad μ σ ω)) (roQ (.int (mostF σ w))) 0 0 (fun _ => False) := by
  refine w_start (by decide) (Nat.le_of_ble_eq_true rfl) ?_
  intro p e s m args below meth c Q ls hQ hx hb hr hlocks hml hown hnm hts hB hl
  have hown : s.vm.findClass RX0 = some m.cls := hown
  have hl : lv_has ls 4 [(0, .ref x), (1, .int w)] := hl
  obtain ⟨hP, hK, hN⟩ := hB
  refine lv_iload_n hx hb dX0_most_0 rfl (lv_at hl 1 rfl) ?_
  refine lv_i2l (v := (w : Int32).toInt64) hx hb dX0_most_1 rfl ?_
  refine lv_lconst (v := 1) hx hb dX0_most_2 rfl ?_
  refine lv_ldc2 (v := 3) hx hb hown (hts _ q1000) dX0_most_3 ?_
  refine cSi (As := [.long ((w : Int32).toInt64), .long 1, .long 3]) (rest := []) ⟨hx, hb, hml, hown, hts⟩ (mt_X0_in l ((w : Int32).toInt64) 1 3) (cw_X0_X0_in hts ⟨Nat.le_of_ble_eq_true rfl, Nat.le_of_ble_eq_true rfl⟩) w_blT (fun _ _ _ => trivial) rfl hl.1 rfl (Nat.le_of_ble_eq_true rfl) dX0_most_6 ⟨Nat.le_of_ble_eq_true rfl, Nat.le_of_ble_eq_true rfl⟩ ?_
  refine lv_if_ne (tgt := 15) hx hb dX0_most_9 rfl (fun h9 => ?_) (fun h9 => ?_)
  · have h9 : inP ((w : Int32).toInt64) 1 3 := b01_n h9
    refine lv_iconst (v := (-1)) hx hb dX0_most_15 rfl ?_
    refine lv_istore_n (lv' := [(2, .int (-1)), (0, .ref x), (1, .int w)]) hx hb dX0_most_16 rfl hl (by decide) rfl (fun ls hl => ?_)
    refine lv_iconst (v := 0) hx hb dX0_most_17 rfl ?_
    refine lv_istore_n (lv' := [(3, .int 0), (2, .int (-1)), (0, .ref x), (1, .int w)]) hx hb dX0_most_18 rfl hl (by decide) rfl (fun ls hl => ?_)
    have hL19_1 : ∀ (n_2 : Nat) (k : Nat) (x3 : Int32) (x2 : Int32) (ls : Array Slot), (256 - k) < n_2 → (k ≤ 256) → x3 = (nI k) → x2 = (mostG σ w k) → lv_has ls 4 [(3, .int x3), (2, .int x2), (0, .ref x), (1, .int w)] → W p l e rmX0_most s m args below meth c s.heap [] 0 0 Q (F0 m 19 ls []) := by
      intro n_2
      induction n_2 with
      | zero => intro k x3 x2 ls hm_4; exact absurd hm_4 (Nat.not_lt_zero _)
      | succ n_2 ih_3 =>
        intro k x3 x2 ls hm_4 hk ex3 ex2 hl
        subst ex3 ex2
        refine lv_iload_n hx hb dX0_most_19 rfl (lv_at hl 0 rfl) ?_
        refine lv_sipush (v := 256) hx hb dX0_most_20 rfl ?_
        refine lv_icmp_ge (tgt := 64) hx hb dX0_most_23 rfl (fun h23 => ?_) (fun h23 => ?_)
        · have h23 : 256 ≤ k := (nz_le (a := 256) (b := k) rfl rfl (by omega) (by omega)).mp h23
          have hk_ : k = 256 := by omega
          subst hk_
          refine lv_iload_n hx hb dX0_most_64 rfl (lv_at hl 1 rfl) ?_
          exact q_i hQ hx hb hr hlocks rfl (by simp only [mostF, eq_true h9, eq_true h23, if_true, if_false, ite_true, ite_false, not_true_eq_false, not_false_eq_true, and_true, true_and, and_false, false_and, or_true, true_or, or_false, false_or, and_self, or_self, eq_self]) dX0_most_65
        · have h23 : ¬ (256 ≤ k) := fun z9 => h23 ((nz_le (a := 256) (b := k) rfl rfl (by omega) (by omega)).mpr z9)
          refine lv_iload_n hx hb dX0_most_26 rfl (lv_at hl 0 rfl) ?_
          refine cSi (As := [.int (nI k)]) (rest := []) ⟨hx, hb, hml, hown, hts⟩ (mt_J14_bitCount l (nI k)) (cw_X0_J14_bitCount hts ⟨Nat.le_of_ble_eq_true rfl, Nat.le_of_ble_eq_true rfl⟩) w_blT (fun _ _ _ => trivial) rfl hl.1 rfl (Nat.le_of_ble_eq_true rfl) dX0_most_27 ⟨Nat.le_of_ble_eq_true rfl, Nat.le_of_ble_eq_true rfl⟩ ?_
          refine w_topi (y := manyF (nI k) 8) (bc_many k (by omega)) ?_
          refine lv_iload_n hx hb dX0_most_30 rfl (lv_at hl 3 rfl) ?_
          have hJ57_5 : ∀ (v_6 : Int32) (ls : Array Slot), v_6 = (if (manyF (nI k) 8) = w then if (mostG σ w k) = (-1) then nI k else if (savF σ (nI k)) ≤ (savF σ (mostG σ w k)) then mostG σ w k else nI k else mostG σ w k) → lv_has ls 4 [(3, .int (nI k)), (2, .int (mostG σ w k)), (0, .ref x), (1, .int w)] → W p l e rmX0_most s m args below meth c s.heap [] 0 0 Q (F0 m 57 ls [.int v_6]) := by
            intro v_6 ls ev_6 hl
            refine lv_istore_n (lv' := [(2, .int v_6), (3, .int (nI k)), (0, .ref x), (1, .int w)]) hx hb dX0_most_57 rfl hl (by decide) rfl (fun ls hl => ?_)
            refine lv_iinc (v := nI (k + 1)) (lv' := [(3, .int (nI (k + 1))), (2, .int v_6), (0, .ref x), (1, .int w)]) hx hb dX0_most_58 hl (k := 1) rfl (nI_1 k) (by decide) rfl (fun ls hl => ?_)
            refine lv_goto (tgt := 19) hx hb dX0_most_61 rfl ?_
            exact ih_3 (k + 1) (nI (k + 1)) v_6 ls (by omega) (by omega) rfl (by subst_vars; exact (mo_s σ w k).symm) (lv_sub hl [0, 1, 2, 3] rfl)
          refine lv_icmp_ne (tgt := 56) hx hb dX0_most_31 rfl (fun h31 => ?_) (fun h31 => ?_)
          · have h31 : ¬ ((manyF (nI k) 8) = w) := h31
            refine lv_iload_n hx hb dX0_most_56 rfl (lv_at hl 1 rfl) ?_
            exact hJ57_5 (mostG σ w k) ls (by rw [if_neg h31]) (lv_sub hl [0, 1, 2, 3] rfl)
          · have h31 : (manyF (nI k) 8) = w := h31
            refine lv_iload_n hx hb dX0_most_34 rfl (lv_at hl 1 rfl) ?_
            refine lv_iconst (v := (-1)) hx hb dX0_most_35 rfl ?_
            refine lv_icmp_eq (tgt := 52) hx hb dX0_most_36 rfl (fun h36 => ?_) (fun h36 => ?_)
            · have h36 : (mostG σ w k) = (-1) := h36
              refine lv_iload_n hx hb dX0_most_52 rfl (lv_at hl 0 rfl) ?_
              refine lv_goto (tgt := 57) hx hb dX0_most_53 rfl ?_
              exact hJ57_5 (nI k) ls (by rw [if_pos h31, if_pos h36]) (lv_sub hl [0, 1, 2, 3] rfl)
            · have h36 : ¬ ((mostG σ w k) = (-1)) := h36
              refine lv_aload_n hx hb dX0_most_39 rfl (lv_at hl 2 rfl) ?_
              refine lv_iload_n hx hb dX0_most_40 rfl (lv_at hl 0 rfl) ?_
              refine dV (v := .int (savF σ (nI k))) (As := [.int (nI k)]) (rest := []) ⟨hx, hb, hml, hown, hts⟩ (mt_X0_savedBy l D dA x ad μ σ ω (nI k) hI hR) (cw_X0_X0_savedBy hts ⟨Nat.le_of_ble_eq_true rfl, Nat.le_of_ble_eq_true rfl⟩) cB_bw (cB_now hK hN hP) (va_recv hK hP (ci := 1) (q0 := 0) rfl rfl) rfl hl.1 rfl (Nat.le_of_ble_eq_true rfl) dX0_most_41 ⟨Nat.le_of_ble_eq_true rfl, Nat.le_of_ble_eq_true rfl⟩ ?_
              refine lv_aload_n hx hb dX0_most_44 rfl (lv_at hl 2 rfl) ?_
              refine lv_iload_n hx hb dX0_most_45 rfl (lv_at hl 1 rfl) ?_
              refine dV (v := .int (savF σ (mostG σ w k))) (As := [.int (mostG σ w k)]) (rest := [.int (savF σ (nI k))]) ⟨hx, hb, hml, hown, hts⟩ (mt_X0_savedBy l D dA x ad μ σ ω (mostG σ w k) hI hR) (cw_X0_X0_savedBy hts ⟨Nat.le_of_ble_eq_true rfl, Nat.le_of_ble_eq_true rfl⟩) cB_bw (cB_now hK hN hP) (va_recv hK hP (ci := 1) (q0 := 0) rfl rfl) rfl hl.1 rfl (Nat.le_of_ble_eq_true rfl) dX0_most_46 ⟨Nat.le_of_ble_eq_true rfl, Nat.le_of_ble_eq_true rfl⟩ ?_
              refine lv_icmp_le (tgt := 56) hx hb dX0_most_49 rfl (fun h49 => ?_) (fun h49 => ?_)
              · have h49 : (savF σ (nI k)) ≤ (savF σ (mostG σ w k)) := h49
                refine lv_iload_n hx hb dX0_most_56 rfl (lv_at hl 1 rfl) ?_
                exact hJ57_5 (mostG σ w k) ls (by rw [if_pos h31, if_neg h36, if_pos h49]) (lv_sub hl [0, 1, 2, 3] rfl)
              · have h49 : ¬ ((savF σ (nI k)) ≤ (savF σ (mostG σ w k))) := h49
                refine lv_iload_n hx hb dX0_most_52 rfl (lv_at hl 0 rfl) ?_
                refine lv_goto (tgt := 57) hx hb dX0_most_53 rfl ?_
                exact hJ57_5 (nI k) ls (by rw [if_pos h31, if_neg h36, if_neg h49]) (lv_sub hl [0, 1, 2, 3] rfl)
    exact hL19_1 _ 0 0 (-1) ls (Nat.lt_succ_self _) (by omega) rfl (by subst_vars; rw [mostG]) (lv_sub hl [0, 1, 2, 3] rfl)
  · have h9 : ¬ (inP ((w : Int32).toInt64) 1 3) := b01_0.mp h9
    refine lv_bipush (v := (-3)) hx hb dX0_most_12 rfl ?_
    exact q_i hQ hx hb hr hlocks rfl (by simp only [mostF, eq_false h9, if_true, if_false, ite_true, ite_false, not_true_eq_false, not_false_eq_true, and_true, true_and, and_false, false_and, or_true, true_or, or_false, false_or, and_self, or_self, eq_self]) dX0_most_14

theorem cw_X0_X8_isMet_V_X10 {R : Room} {s : State} {args : Array Value} (hts : ∀ w ∈ lw_all, w.before args s = true) (hR : rmX8_isMet_V.frames + 1 ≤ R.frames ∧ 8 + (2 + 11) + rmX8_isMet_V.locals ≤ R.locals) : va_CU R s args RX0 RX10 "CarryUp$Want" 306 ⟨"CarryUp$Visit", "isMet", "(I)Z"⟩ yX8_isMet cX8_isMet 2 (some .boolean) (ws_ yX8_isMet cX8_isMet 2 (some .boolean)) rmX8_isMet_V 0 0 1 := va_cwU 1 hts (lw_app (lwm5 q1097 q1083 q1084 q886 q105) (lw_meth q887)) rfl rfl rfl rfl (by decide +kernel) hR
def rmX0_metBy : Room := { frames := 3, cells := 0, slots := 0, locals := 64 }
set_option maxHeartbeats 1000000 in
theorem mt_X0_metBy (l : Launch) (D : va_G) (dA : Nat → ClassId) (x : Nat) (ad : Nat → Nat) (μ : Lay) (σ : St) (ω : Om) (bag : Int32) (hI : Inv σ) (hR : Rel dA μ σ) : Met l yX0_metBy (ws_ yX0_metBy cX0_metBy 4 (some .int)) rmX0_metBy (va_Pc [.ref x, .int bag] (cB D dA x ad μ σ ω)) (roQ (.int (dfF σ bag))) 0 0 (fun _ => False) := by
  refine w_start (by decide) (Nat.le_of_ble_eq_true rfl) ?_
  intro p e s m args below meth c Q ls hQ hx hb hr hlocks hml hown hnm hts hB hl
  have hown : s.vm.findClass RX0 = some m.cls := hown
  have hl : lv_has ls 4 [(0, .ref x), (1, .int bag)] := hl
  obtain ⟨hP, hK, hN⟩ := hB
  have hvm := hI.vm
  refine lv_iconst (v := 0) hx hb dX0_metBy_0 rfl ?_
  refine lv_istore_n (lv' := [(2, .int 0), (0, .ref x), (1, .int bag)]) hx hb dX0_metBy_1 rfl hl (by decide) rfl (fun ls hl => ?_)
  refine lv_iconst (v := 0) hx hb dX0_metBy_2 rfl ?_
  refine lv_istore_n (lv' := [(3, .int 0), (2, .int 0), (0, .ref x), (1, .int bag)]) hx hb dX0_metBy_3 rfl hl (by decide) rfl (fun ls hl => ?_)
  have hL4_1 : ∀ (n_2 : Nat) (k : Nat) (x3 : Int32) (x2 : Int32) (ls : Array Slot), (16 - k) < n_2 → (k ≤ σ.vm) → x3 = (nI k) → x2 = (dfG σ bag k) → lv_has ls 4 [(3, .int x3), (2, .int x2), (0, .ref x), (1, .int bag)] → W p l e rmX0_metBy s m args below meth c s.heap [] 0 0 Q (F0 m 4 ls []) := by
    intro n_2
    induction n_2 with
    | zero => intro k x3 x2 ls hm_4; exact absurd hm_4 (Nat.not_lt_zero _)
    | succ n_2 ih_3 =>
      intro k x3 x2 ls hm_4 hk ex3 ex2 hl
      subst ex3 ex2
      refine lv_iload_n hx hb dX0_metBy_4 rfl (lv_at hl 0 rfl) ?_
      refine lv_aload_n hx hb dX0_metBy_5 rfl (lv_at hl 2 rfl) ?_
      refine va_get (D := D) (ci := 1) (v := .ref (ad 5)) (C := RX0) (T := TX0) (N := 11) hx hb hts in_X0 hown hK hP 0 rfl rfl 9 (by decide) (hts _ q224) (fun _ h9 => h9) rfl dX0_metBy_6 ?_
      refine dV (v := .int (nI σ.vm)) (As := []) (rest := [.int (nI k)]) ⟨hx, hb, hml, hown, hts⟩ (mt_J2_size l D dA (ad 5) μ.bE μ.bM σ.vm) (cw_X0_J2_size hts ⟨Nat.le_of_ble_eq_true rfl, Nat.le_of_ble_eq_true rfl⟩) pB_bw (pB_now hK (p1 hP 6 rfl)) (va_recv hK hP (ci := 8) (q0 := 6) rfl rfl) rfl hl.1 rfl (Nat.le_of_ble_eq_true rfl) dX0_metBy_9 ⟨Nat.le_of_ble_eq_true rfl, Nat.le_of_ble_eq_true rfl⟩ ?_
      refine lv_icmp_ge (tgt := 47) hx hb dX0_metBy_12 rfl (fun h12 => ?_) (fun h12 => ?_)
      · have h12 : σ.vm ≤ k := (nz_le (a := σ.vm) (b := k) rfl rfl (by omega) (by omega)).mp h12
        have hk_ : k = σ.vm := by omega
        subst hk_
        refine lv_iload_n hx hb dX0_metBy_47 rfl (lv_at hl 1 rfl) ?_
        exact q_i hQ hx hb hr hlocks rfl (rfl) dX0_metBy_48
      · have h12 : ¬ (σ.vm ≤ k) := fun z9 => h12 ((nz_le (a := σ.vm) (b := k) rfl rfl (by omega) (by omega)).mpr z9)
        refine lv_iload_n hx hb dX0_metBy_15 rfl (lv_at hl 1 rfl) ?_
        refine lv_aload_n hx hb dX0_metBy_16 rfl (lv_at hl 2 rfl) ?_
        refine va_get (D := D) (ci := 1) (v := .ref (ad 5)) (C := RX0) (T := TX0) (N := 11) hx hb hts in_X0 hown hK hP 0 rfl rfl 9 (by decide) (hts _ q224) (fun _ h9 => h9) rfl dX0_metBy_17 ?_
        refine lv_iload_n hx hb dX0_metBy_20 rfl (lv_at hl 0 rfl) ?_
        refine g_visit (rest := [.int (dfG σ bag k)]) ⟨hx, hb, hml, hown, hts⟩ (cw_X0_J2_get hts ⟨Nat.le_of_ble_eq_true rfl, Nat.le_of_ble_eq_true rfl⟩) hK hP hR.2.2 (show k < σ.vm by omega) hl.1 rfl (Nat.le_of_ble_eq_true rfl) dX0_metBy_21 ⟨Nat.le_of_ble_eq_true rfl, Nat.le_of_ble_eq_true rfl⟩ ?_
        refine va_castS hx hb hown (hts _ q1056) (hK.1 7 _ rfl).2 (va_recv hK (pl1 hP (hR.2.2.2 k (show k < σ.vm by omega)).1 (hR.2.2.2 k (show k < σ.vm by omega)).2) (ci := 7) (q0 := 0) rfl rfl) dX0_metBy_24 ?_
        refine lv_iload_n hx hb dX0_metBy_27 rfl (lv_at hl 3 rfl) ?_
        refine dU (v := .int (b01 (metP bag (σ.visits (3 * k)) (σ.visits (3 * k + 1))))) (As := [.int bag]) (rest := [.int (dfG σ bag k)]) ⟨hx, hb, hml, hown, hts⟩ (mt_X8_isMet_V l D dA (μ.vA k) (σ.visits (3 * k)) (σ.visits (3 * k + 1)) (σ.visits (3 * k + 2)) bag) (cw_X0_X8_isMet_V_X10 hts ⟨Nat.le_of_ble_eq_true rfl, Nat.le_of_ble_eq_true rfl⟩) pB_bw (pB_now hK (pl1 hP (hR.2.2.2 k (show k < σ.vm by omega)).1 (hR.2.2.2 k (show k < σ.vm by omega)).2)) (va_recv hK (pl1 hP (hR.2.2.2 k (show k < σ.vm by omega)).1 (hR.2.2.2 k (show k < σ.vm by omega)).2) (ci := 7) (q0 := 0) rfl rfl) rfl hl.1 rfl (Nat.le_of_ble_eq_true rfl) dX0_metBy_28 ⟨Nat.le_of_ble_eq_true rfl, Nat.le_of_ble_eq_true rfl⟩ ?_
        have hJ39_5 : ∀ (v_6 : Int32) (ls : Array Slot), v_6 = (if metP bag (σ.visits (3 * k)) (σ.visits (3 * k + 1)) then 1 else 0) → lv_has ls 4 [(3, .int (nI k)), (2, .int (dfG σ bag k)), (0, .ref x), (1, .int bag)] → W p l e rmX0_metBy s m args below meth c s.heap [] 0 0 Q (F0 m 39 ls [.int v_6, .int (dfG σ bag k)]) := by
          intro v_6 ls ev_6 hl
          refine lv_iadd hx hb dX0_metBy_39 ?_
          refine lv_istore_n (lv' := [(2, .int ((dfG σ bag k) + v_6)), (3, .int (nI k)), (0, .ref x), (1, .int bag)]) hx hb dX0_metBy_40 rfl hl (by decide) rfl (fun ls hl => ?_)
          refine lv_iinc (v := nI (k + 1)) (lv' := [(3, .int (nI (k + 1))), (2, .int ((dfG σ bag k) + v_6)), (0, .ref x), (1, .int bag)]) hx hb dX0_metBy_41 hl (k := 1) rfl (nI_1 k) (by decide) rfl (fun ls hl => ?_)
          refine lv_goto (tgt := 4) hx hb dX0_metBy_44 rfl ?_
          exact ih_3 (k + 1) (nI (k + 1)) ((dfG σ bag k) + v_6) ls (by omega) (by omega) rfl (by subst_vars; exact (df_s σ bag k).symm) (lv_sub hl [0, 1, 2, 3] rfl)
        refine lv_if_eq (tgt := 38) hx hb dX0_metBy_31 rfl (fun h31 => ?_) (fun h31 => ?_)
        · have h31 : ¬ (metP bag (σ.visits (3 * k)) (σ.visits (3 * k + 1))) := b01_0.mp h31
          refine lv_iconst (v := 0) hx hb dX0_metBy_38 rfl ?_
          exact hJ39_5 (0) ls (by rw [if_neg h31]) (lv_sub hl [0, 1, 2, 3] rfl)
        · have h31 : metP bag (σ.visits (3 * k)) (σ.visits (3 * k + 1)) := b01_n h31
          refine lv_iconst (v := 1) hx hb dX0_metBy_34 rfl ?_
          refine lv_goto (tgt := 39) hx hb dX0_metBy_35 rfl ?_
          exact hJ39_5 (1) ls (by rw [if_pos h31]) (lv_sub hl [0, 1, 2, 3] rfl)
  exact hL4_1 _ 0 0 0 ls (Nat.lt_succ_self _) (by omega) rfl (by subst_vars; rw [dfG]) (lv_sub hl [0, 1, 2, 3] rfl)

theorem cw_X0_X0_metBy {R : Room} {s : State} {args : Array Value} (hts : ∀ w ∈ lw_all, w.before args s = true) (hR : rmX0_metBy.frames + 1 ≤ R.frames ∧ 8 + (4 + 11) + rmX0_metBy.locals ≤ R.locals) : CallW R s args RX0 RX0 307 yX0_metBy cX0_metBy 4 (some .int) (ws_ yX0_metBy cX0_metBy 4 (some .int)) rmX0_metBy 0 0 1 := cwV 1 hts (lw_V q1093 q1095 qs34 q77 q1096) rfl rfl rfl (by decide +kernel) hR
def rmX0_box : Room := { frames := 4, cells := 0, slots := 0, locals := 87 }
set_option maxHeartbeats 1000000 in
theorem mt_X0_box (l : Launch) (D : va_G) (dA : Nat → ClassId) (x : Nat) (ad : Nat → Nat) (μ : Lay) (σ : St) (ω : Om) (w : Int32) (hI : Inv σ) (hR : Rel dA μ σ) : Met l yX0_box (ws_ yX0_box cX0_box 5 (some .int)) rmX0_box (va_Pc [.ref x, .int w] (cB D dA x ad μ σ ω)) (roQ (.int (boxF σ w))) 0 0 (fun _ => False) := by
  refine w_start (by decide) (Nat.le_of_ble_eq_true rfl) ?_
  intro p e s m args below meth c Q ls hQ hx hb hr hlocks hml hown hnm hts hB hl
  have hown : s.vm.findClass RX0 = some m.cls := hown
  have hl : lv_has ls 5 [(0, .ref x), (1, .int w)] := hl
  obtain ⟨hP, hK, hN⟩ := hB
  refine lv_iload_n hx hb dX0_box_0 rfl (lv_at hl 1 rfl) ?_
  refine lv_i2l (v := (w : Int32).toInt64) hx hb dX0_box_1 rfl ?_
  refine lv_lconst (v := 0) hx hb dX0_box_2 rfl ?_
  refine lv_lconst (v := 1) hx hb dX0_box_3 rfl ?_
  refine cSi (As := [.long ((w : Int32).toInt64), .long 0, .long 1]) (rest := []) ⟨hx, hb, hml, hown, hts⟩ (mt_X0_in l ((w : Int32).toInt64) 0 1) (cw_X0_X0_in hts ⟨Nat.le_of_ble_eq_true rfl, Nat.le_of_ble_eq_true rfl⟩) w_blT (fun _ _ _ => trivial) rfl hl.1 rfl (Nat.le_of_ble_eq_true rfl) dX0_box_4 ⟨Nat.le_of_ble_eq_true rfl, Nat.le_of_ble_eq_true rfl⟩ ?_
  refine lv_if_ne (tgt := 13) hx hb dX0_box_7 rfl (fun h7 => ?_) (fun h7 => ?_)
  · have h7 : inP ((w : Int32).toInt64) 0 1 := b01_n h7
    refine lv_iconst (v := 0) hx hb dX0_box_13 rfl ?_
    refine lv_istore_n (lv' := [(2, .int 0), (0, .ref x), (1, .int w)]) hx hb dX0_box_14 rfl hl (by decide) rfl (fun ls hl => ?_)
    refine lv_iconst (v := 1) hx hb dX0_box_15 rfl ?_
    refine lv_istore_n (lv' := [(3, .int 1), (2, .int 0), (0, .ref x), (1, .int w)]) hx hb dX0_box_16 rfl hl (by decide) rfl (fun ls hl => ?_)
    have hL17_1 : ∀ (n_2 : Nat) (k : Nat) (x3 : Int32) (x2 : Int32) (ls : Array Slot), (255 - k) < n_2 → (k ≤ 255) → x3 = (nI (k + 1)) → x2 = (boxG σ k) → lv_has ls 5 [(3, .int x3), (2, .int x2), (0, .ref x), (1, .int w)] → W p l e rmX0_box s m args below meth c s.heap [] 0 0 Q (F0 m 17 ls []) := by
      intro n_2
      induction n_2 with
      | zero => intro k x3 x2 ls hm_4; exact absurd hm_4 (Nat.not_lt_zero _)
      | succ n_2 ih_3 =>
        intro k x3 x2 ls hm_4 hk ex3 ex2 hl
        subst ex3 ex2
        refine lv_iload_n hx hb dX0_box_17 rfl (lv_at hl 0 rfl) ?_
        refine lv_sipush (v := 256) hx hb dX0_box_18 rfl ?_
        refine lv_icmp_ge (tgt := 80) hx hb dX0_box_21 rfl (fun h21 => ?_) (fun h21 => ?_)
        · have h21 : 256 ≤ (k + 1) := (nz_le (a := 256) (b := k + 1) rfl rfl (by omega) (by omega)).mp h21
          have hk_ : k = 255 := by omega
          subst hk_
          refine lv_iload_n hx hb dX0_box_80 rfl (lv_at hl 3 rfl) ?_
          refine lv_if_ne (tgt := 88) hx hb dX0_box_81 rfl (fun h81 => ?_) (fun h81 => ?_)
          · have h81 : ¬ (w = 0) := h81
            refine lv_aload_n hx hb dX0_box_88 rfl (lv_at hl 2 rfl) ?_
            refine lv_iload_n hx hb dX0_box_89 rfl (lv_at hl 1 rfl) ?_
            refine dV (v := .int (dfF σ (boxG σ 255))) (As := [.int (boxG σ 255)]) (rest := []) ⟨hx, hb, hml, hown, hts⟩ (mt_X0_metBy l D dA x ad μ σ ω (boxG σ 255) hI hR) (cw_X0_X0_metBy hts ⟨Nat.le_of_ble_eq_true rfl, Nat.le_of_ble_eq_true rfl⟩) cB_bw (cB_now hK hN hP) (va_recv hK hP (ci := 1) (q0 := 0) rfl rfl) rfl hl.1 rfl (Nat.le_of_ble_eq_true rfl) dX0_box_90 ⟨Nat.le_of_ble_eq_true rfl, Nat.le_of_ble_eq_true rfl⟩ ?_
            exact q_i hQ hx hb hr hlocks rfl (by simp only [boxF, eq_true h7, eq_true h21, eq_false h81, if_true, if_false, ite_true, ite_false, not_true_eq_false, not_false_eq_true, and_true, true_and, and_false, false_and, or_true, true_or, or_false, false_or, and_self, or_self, eq_self]) dX0_box_93
          · have h81 : w = 0 := h81
            refine lv_iload_n hx hb dX0_box_84 rfl (lv_at hl 1 rfl) ?_
            refine lv_goto (tgt := 93) hx hb dX0_box_85 rfl ?_
            exact q_i hQ hx hb hr hlocks rfl (by simp only [boxF, eq_true h7, eq_true h21, eq_true h81, if_true, if_false, ite_true, ite_false, not_true_eq_false, not_false_eq_true, and_true, true_and, and_false, false_and, or_true, true_or, or_false, false_or, and_self, or_self, eq_self]) dX0_box_93
        · have h21 : ¬ (256 ≤ (k + 1)) := fun z9 => h21 ((nz_le (a := 256) (b := k + 1) rfl rfl (by omega) (by omega)).mpr z9)
          refine lv_aload_n hx hb dX0_box_24 rfl (lv_at hl 2 rfl) ?_
          refine lv_iload_n hx hb dX0_box_25 rfl (lv_at hl 0 rfl) ?_
          refine dV (v := .int (dfF σ (nI (k + 1)))) (As := [.int (nI (k + 1))]) (rest := []) ⟨hx, hb, hml, hown, hts⟩ (mt_X0_metBy l D dA x ad μ σ ω (nI (k + 1)) hI hR) (cw_X0_X0_metBy hts ⟨Nat.le_of_ble_eq_true rfl, Nat.le_of_ble_eq_true rfl⟩) cB_bw (cB_now hK hN hP) (va_recv hK hP (ci := 1) (q0 := 0) rfl rfl) rfl hl.1 rfl (Nat.le_of_ble_eq_true rfl) dX0_box_26 ⟨Nat.le_of_ble_eq_true rfl, Nat.le_of_ble_eq_true rfl⟩ ?_
          refine lv_aload_n hx hb dX0_box_29 rfl (lv_at hl 2 rfl) ?_
          refine lv_iload_n hx hb dX0_box_30 rfl (lv_at hl 1 rfl) ?_
          refine dV (v := .int (dfF σ (boxG σ k))) (As := [.int (boxG σ k)]) (rest := [.int (dfF σ (nI (k + 1)))]) ⟨hx, hb, hml, hown, hts⟩ (mt_X0_metBy l D dA x ad μ σ ω (boxG σ k) hI hR) (cw_X0_X0_metBy hts ⟨Nat.le_of_ble_eq_true rfl, Nat.le_of_ble_eq_true rfl⟩) cB_bw (cB_now hK hN hP) (va_recv hK hP (ci := 1) (q0 := 0) rfl rfl) rfl hl.1 rfl (Nat.le_of_ble_eq_true rfl) dX0_box_31 ⟨Nat.le_of_ble_eq_true rfl, Nat.le_of_ble_eq_true rfl⟩ ?_
          refine lv_isub hx hb dX0_box_34 ?_
          refine lv_istore (lv' := [(4, .int ((dfF σ (nI (k + 1))) - (dfF σ (boxG σ k)))), (3, .int (nI (k + 1))), (2, .int (boxG σ k)), (0, .ref x), (1, .int w)]) hx hb dX0_box_35 hl (by decide) rfl (fun ls hl => ?_)
          refine lv_aload_n hx hb dX0_box_37 rfl (lv_at hl 3 rfl) ?_
          refine lv_iload_n hx hb dX0_box_38 rfl (lv_at hl 1 rfl) ?_
          refine dV (v := .int (b01 (mayP σ (nI (k + 1))))) (As := [.int (nI (k + 1))]) (rest := []) ⟨hx, hb, hml, hown, hts⟩ (mt_X0_mayBe l D dA x ad μ σ ω (nI (k + 1)) hI hR) (cw_X0_X0_mayBe hts ⟨Nat.le_of_ble_eq_true rfl, Nat.le_of_ble_eq_true rfl⟩) cB_bw (cB_now hK hN hP) (va_recv hK hP (ci := 1) (q0 := 0) rfl rfl) rfl hl.1 rfl (Nat.le_of_ble_eq_true rfl) dX0_box_39 ⟨Nat.le_of_ble_eq_true rfl, Nat.le_of_ble_eq_true rfl⟩ ?_
          have hJ73_5 : ∀ (v_6 : Int32) (ls : Array Slot), v_6 = (if mayP σ (nI (k + 1)) then if (0 : Int32) < ((dfF σ (nI (k + 1))) - (dfF σ (boxG σ k))) then nI (k + 1) else if ((dfF σ (nI (k + 1))) - (dfF σ (boxG σ k))) = 0 then if (wsum σ.wt (boxG σ k) 8) ≤ (wsum σ.wt (nI (k + 1)) 8) then boxG σ k else nI (k + 1) else boxG σ k else boxG σ k) → lv_has ls 5 [(4, .int ((dfF σ (nI (k + 1))) - (dfF σ (boxG σ k)))), (3, .int (nI (k + 1))), (2, .int (boxG σ k)), (0, .ref x), (1, .int w)] → W p l e rmX0_box s m args below meth c s.heap [] 0 0 Q (F0 m 73 ls [.int v_6]) := by
            intro v_6 ls ev_6 hl
            refine lv_istore_n (lv' := [(2, .int v_6), (4, .int ((dfF σ (nI (k + 1))) - (dfF σ (boxG σ k)))), (3, .int (nI (k + 1))), (0, .ref x), (1, .int w)]) hx hb dX0_box_73 rfl hl (by decide) rfl (fun ls hl => ?_)
            refine lv_iinc (v := nI (k + 1 + 1)) (lv' := [(3, .int (nI (k + 1 + 1))), (2, .int v_6), (4, .int ((dfF σ (nI (k + 1))) - (dfF σ (boxG σ k)))), (0, .ref x), (1, .int w)]) hx hb dX0_box_74 hl (k := 2) rfl (nI_1 (k + 1)) (by decide) rfl (fun ls hl => ?_)
            refine lv_goto (tgt := 17) hx hb dX0_box_77 rfl ?_
            exact ih_3 (k + 1) (nI (k + 1 + 1)) v_6 ls (by omega) (by omega) rfl (by subst_vars; rw [boxG]) (lv_sub hl [0, 1, 3, 4] rfl)
          refine lv_if_eq (tgt := 72) hx hb dX0_box_42 rfl (fun h42 => ?_) (fun h42 => ?_)
          · have h42 : ¬ (mayP σ (nI (k + 1))) := b01_0.mp h42
            refine lv_iload_n hx hb dX0_box_72 rfl (lv_at hl 2 rfl) ?_
            exact hJ73_5 (boxG σ k) ls (by rw [if_neg h42]) (lv_sub hl [0, 1, 2, 3, 4] rfl)
          · have h42 : mayP σ (nI (k + 1)) := b01_n h42
            refine lv_iload hx hb dX0_box_45 (lv_at hl 0 rfl) ?_
            refine lv_if_gt (tgt := 68) hx hb dX0_box_47 rfl (fun h47 => ?_) (fun h47 => ?_)
            · have h47 : (0 : Int32) < ((dfF σ (nI (k + 1))) - (dfF σ (boxG σ k))) := h47
              refine lv_iload_n hx hb dX0_box_68 rfl (lv_at hl 1 rfl) ?_
              refine lv_goto (tgt := 73) hx hb dX0_box_69 rfl ?_
              exact hJ73_5 (nI (k + 1)) ls (by rw [if_pos h42, if_pos h47]) (lv_sub hl [0, 1, 2, 3, 4] rfl)
            · have h47 : ¬ ((0 : Int32) < ((dfF σ (nI (k + 1))) - (dfF σ (boxG σ k)))) := h47
              refine lv_iload hx hb dX0_box_50 (lv_at hl 0 rfl) ?_
              refine lv_if_ne (tgt := 72) hx hb dX0_box_52 rfl (fun h52 => ?_) (fun h52 => ?_)
              · have h52 : ¬ (((dfF σ (nI (k + 1))) - (dfF σ (boxG σ k))) = 0) := h52
                refine lv_iload_n hx hb dX0_box_72 rfl (lv_at hl 2 rfl) ?_
                exact hJ73_5 (boxG σ k) ls (by rw [if_pos h42, if_neg h47, if_neg h52]) (lv_sub hl [0, 1, 2, 3, 4] rfl)
              · have h52 : ((dfF σ (nI (k + 1))) - (dfF σ (boxG σ k))) = 0 := h52
                refine lv_aload_n hx hb dX0_box_55 rfl (lv_at hl 3 rfl) ?_
                refine lv_iload_n hx hb dX0_box_56 rfl (lv_at hl 1 rfl) ?_
                refine dV (v := .int (wsum σ.wt (nI (k + 1)) 8)) (As := [.int (nI (k + 1))]) (rest := []) ⟨hx, hb, hml, hown, hts⟩ (mt_X0_weightOf l D dA x ad μ σ ω (nI (k + 1)) hI hR) (cw_X0_X0_weightOf hts ⟨Nat.le_of_ble_eq_true rfl, Nat.le_of_ble_eq_true rfl⟩) cB_bw (cB_now hK hN hP) (va_recv hK hP (ci := 1) (q0 := 0) rfl rfl) rfl hl.1 rfl (Nat.le_of_ble_eq_true rfl) dX0_box_57 ⟨Nat.le_of_ble_eq_true rfl, Nat.le_of_ble_eq_true rfl⟩ ?_
                refine lv_aload_n hx hb dX0_box_60 rfl (lv_at hl 3 rfl) ?_
                refine lv_iload_n hx hb dX0_box_61 rfl (lv_at hl 2 rfl) ?_
                refine dV (v := .int (wsum σ.wt (boxG σ k) 8)) (As := [.int (boxG σ k)]) (rest := [.int (wsum σ.wt (nI (k + 1)) 8)]) ⟨hx, hb, hml, hown, hts⟩ (mt_X0_weightOf l D dA x ad μ σ ω (boxG σ k) hI hR) (cw_X0_X0_weightOf hts ⟨Nat.le_of_ble_eq_true rfl, Nat.le_of_ble_eq_true rfl⟩) cB_bw (cB_now hK hN hP) (va_recv hK hP (ci := 1) (q0 := 0) rfl rfl) rfl hl.1 rfl (Nat.le_of_ble_eq_true rfl) dX0_box_62 ⟨Nat.le_of_ble_eq_true rfl, Nat.le_of_ble_eq_true rfl⟩ ?_
                refine lv_icmp_ge (tgt := 72) hx hb dX0_box_65 rfl (fun h65 => ?_) (fun h65 => ?_)
                · have h65 : (wsum σ.wt (boxG σ k) 8) ≤ (wsum σ.wt (nI (k + 1)) 8) := h65
                  refine lv_iload_n hx hb dX0_box_72 rfl (lv_at hl 2 rfl) ?_
                  exact hJ73_5 (boxG σ k) ls (by rw [if_pos h42, if_neg h47, if_pos h52, if_pos h65]) (lv_sub hl [0, 1, 2, 3, 4] rfl)
                · have h65 : ¬ ((wsum σ.wt (boxG σ k) 8) ≤ (wsum σ.wt (nI (k + 1)) 8)) := h65
                  refine lv_iload_n hx hb dX0_box_68 rfl (lv_at hl 1 rfl) ?_
                  refine lv_goto (tgt := 73) hx hb dX0_box_69 rfl ?_
                  exact hJ73_5 (nI (k + 1)) ls (by rw [if_pos h42, if_neg h47, if_pos h52, if_neg h65]) (lv_sub hl [0, 1, 2, 3, 4] rfl)
    exact hL17_1 _ 0 1 0 ls (Nat.lt_succ_self _) (by omega) rfl (by subst_vars; rw [boxG]) (lv_sub hl [0, 1, 2, 3] rfl)
  · have h7 : ¬ (inP ((w : Int32).toInt64) 0 1) := b01_0.mp h7
    refine lv_bipush (v := (-3)) hx hb dX0_box_10 rfl ?_
    exact q_i hQ hx hb hr hlocks rfl (by simp only [boxF, eq_false h7, if_true, if_false, ite_true, ite_false, not_true_eq_false, not_false_eq_true, and_true, true_and, and_false, false_and, or_true, true_or, or_false, false_or, and_self, or_self, eq_self]) dX0_box_12

def rmX0_count : Room := { frames := 1, cells := 0, slots := 0, locals := 20 }
set_option maxHeartbeats 1000000 in
theorem mt_X0_count (l : Launch) (D : va_G) (dA : Nat → ClassId) (x : Nat) (ad : Nat → Nat) (μ : Lay) (σ : St) (ω : Om) (w : Int32) (hI : Inv σ) (hR : Rel dA μ σ) : Met l yX0_count (ws_ yX0_count cX0_count 7 (some .int)) rmX0_count (va_Pc [.ref x, .int w] (cB D dA x ad μ σ ω)) (roQ (.int (countF σ w))) 0 0 (fun _ => False) := by
  refine w_start (by decide) (Nat.le_of_ble_eq_true rfl) ?_
  intro p e s m args below meth c Q ls hQ hx hb hr hlocks hml hown hnm hts hB hl
  have hown : s.vm.findClass RX0 = some m.cls := hown
  have hl : lv_has ls 7 [(0, .ref x), (1, .int w)] := hl
  obtain ⟨hP, hK, hN⟩ := hB
  have hvm := hI.vm
  refine lv_iconst (v := 0) hx hb dX0_count_0 rfl ?_
  refine lv_istore_n (lv' := [(2, .int 0), (0, .ref x), (1, .int w)]) hx hb dX0_count_1 rfl hl (by decide) rfl (fun ls hl => ?_)
  refine lv_iload_n hx hb dX0_count_2 rfl (lv_at hl 2 rfl) ?_
  by_cases h3_0 : w = 0
  · refine lv_tableIn (tgt := 40) hx hb dX0_count_3 (by rw [h3_0]; decide) (by rw [h3_0]; decide) (by rw [h3_0]; rfl) rfl ?_
    refine lv_aload_n hx hb dX0_count_40 rfl (lv_at hl 1 rfl) ?_
    refine va_get (D := D) (ci := 1) (v := .ref (ad 2)) (C := RX0) (T := TX0) (N := 11) hx hb hts in_X0 hown hK hP 0 rfl rfl 5 (by decide) (hts _ q218) (fun _ h9 => h9) rfl dX0_count_41 ?_
    refine lv_astore_n (lv' := [(3, .ref (ad 2)), (2, .int 0), (0, .ref x), (1, .int w)]) hx hb dX0_count_44 rfl hl (by decide) rfl (fun ls hl => ?_)
    refine lv_aload_n hx hb dX0_count_45 rfl (lv_at hl 0 rfl) ?_
    refine va_alen (v := nI 6) hx hb hK hP 3 5 rfl rfl rfl dX0_count_46 ?_
    refine lv_istore (lv' := [(4, .int (nI 6)), (3, .ref (ad 2)), (2, .int 0), (0, .ref x), (1, .int w)]) hx hb dX0_count_47 hl (by decide) rfl (fun ls hl => ?_)
    refine lv_iconst (v := 0) hx hb dX0_count_49 rfl ?_
    refine lv_istore (lv' := [(5, .int 0), (4, .int (nI 6)), (3, .ref (ad 2)), (2, .int 0), (0, .ref x), (1, .int w)]) hx hb dX0_count_50 hl (by decide) rfl (fun ls hl => ?_)
    have hL52_1 : ∀ (n_2 : Nat) (k : Nat) (x5 : Int32) (x2 : Int32) (ls : Array Slot), (6 - k) < n_2 → (k ≤ 6) → x5 = (nI k) → x2 = (toldN σ k) → lv_has ls 7 [(5, .int x5), (4, .int (nI 6)), (3, .ref (ad 2)), (2, .int x2), (0, .ref x), (1, .int w)] → W p l e rmX0_count s m args below meth c s.heap [] 0 0 Q (F0 m 52 ls []) := by
      intro n_2
      induction n_2 with
      | zero => intro k x5 x2 ls hm_4; exact absurd hm_4 (Nat.not_lt_zero _)
      | succ n_2 ih_3 =>
        intro k x5 x2 ls hm_4 hk ex5 ex2 hl
        subst ex5 ex2
        refine lv_iload hx hb dX0_count_52 (lv_at hl 0 rfl) ?_
        refine lv_iload hx hb dX0_count_54 (lv_at hl 1 rfl) ?_
        refine lv_icmp_ge (tgt := 84) hx hb dX0_count_56 rfl (fun h56 => ?_) (fun h56 => ?_)
        · have h56 : 6 ≤ k := (nz_le (a := 6) (b := k) rfl rfl (by omega) (by omega)).mp h56
          have hk_ : k = 6 := by omega
          subst hk_
          refine lv_iload_n hx hb dX0_count_84 rfl (lv_at hl 3 rfl) ?_
          exact q_i hQ hx hb hr hlocks rfl (by simp only [countF, eq_true h3_0, eq_true h56, if_true, if_false, ite_true, ite_false, not_true_eq_false, not_false_eq_true, and_true, true_and, and_false, false_and, or_true, true_or, or_false, false_or, and_self, or_self, eq_self]) dX0_count_85
        · have h56 : ¬ (6 ≤ k) := fun z9 => h56 ((nz_le (a := 6) (b := k) rfl rfl (by omega) (by omega)).mpr z9)
          refine lv_aload_n hx hb dX0_count_59 rfl (lv_at hl 2 rfl) ?_
          refine lv_iload hx hb dX0_count_60 (lv_at hl 0 rfl) ?_
          by_cases hT : hasP σ.told (nI k)
          · skip
            refine wa_aald (v := .ref (μ.cA k)) hx hb hK hP 3 5 rfl rfl rfl (k) (rfl) (by omega) (by decide) (cO_t hT) dX0_count_62 ?_
            refine lv_astore (lv' := [(6, .ref (μ.cA k)), (5, .int (nI k)), (4, .int (nI 6)), (3, .ref (ad 2)), (2, .int (toldN σ k)), (0, .ref x), (1, .int w)]) hx hb dX0_count_63 hl (by decide) rfl (fun ls hl => ?_)
            refine lv_iload_n hx hb dX0_count_65 rfl (lv_at hl 4 rfl) ?_
            refine lv_aload hx hb dX0_count_66 (lv_at hl 0 rfl) ?_
            refine lv_ifnonnull (tgt := 75) hx hb dX0_count_68 rfl ?_
            refine lv_iconst (v := 1) hx hb dX0_count_75 rfl ?_
            refine lv_iadd hx hb dX0_count_76 ?_
            refine lv_istore_n (lv' := [(2, .int ((toldN σ k) + 1)), (6, .ref (μ.cA k)), (5, .int (nI k)), (4, .int (nI 6)), (3, .ref (ad 2)), (0, .ref x), (1, .int w)]) hx hb dX0_count_77 rfl hl (by decide) rfl (fun ls hl => ?_)
            refine lv_iinc (v := nI (k + 1)) (lv' := [(5, .int (nI (k + 1))), (2, .int ((toldN σ k) + 1)), (6, .ref (μ.cA k)), (4, .int (nI 6)), (3, .ref (ad 2)), (0, .ref x), (1, .int w)]) hx hb dX0_count_78 hl (k := 2) rfl (nI_1 k) (by decide) rfl (fun ls hl => ?_)
            refine lv_goto (tgt := 52) hx hb dX0_count_81 rfl ?_
            exact ih_3 (k + 1) (nI (k + 1)) ((toldN σ k) + 1) ls (by omega) (by omega) rfl (by subst_vars; rw [to_s, if_pos hT]) (lv_sub hl [0, 3, 4, 1, 5, 6] rfl)
          · skip
            refine wa_aald (v := .null) hx hb hK hP 3 5 rfl rfl rfl (k) (rfl) (by omega) (by decide) (cO_n hT) dX0_count_62 ?_
            refine lv_astoreN (lv' := [(6, .null), (5, .int (nI k)), (4, .int (nI 6)), (3, .ref (ad 2)), (2, .int (toldN σ k)), (0, .ref x), (1, .int w)]) hx hb dX0_count_63 hl (by decide) rfl (fun ls hl => ?_)
            refine lv_iload_n hx hb dX0_count_65 rfl (lv_at hl 4 rfl) ?_
            refine lv_aloadN hx hb dX0_count_66 (lv_at hl 0 rfl) ?_
            refine lv_ifnonnullN hx hb dX0_count_68 ?_
            refine lv_iconst (v := 0) hx hb dX0_count_71 rfl ?_
            refine lv_goto (tgt := 76) hx hb dX0_count_72 rfl ?_
            refine lv_iadd hx hb dX0_count_76 ?_
            refine lv_istore_n (lv' := [(2, .int ((toldN σ k) + 0)), (6, .null), (5, .int (nI k)), (4, .int (nI 6)), (3, .ref (ad 2)), (0, .ref x), (1, .int w)]) hx hb dX0_count_77 rfl hl (by decide) rfl (fun ls hl => ?_)
            refine lv_iinc (v := nI (k + 1)) (lv' := [(5, .int (nI (k + 1))), (2, .int ((toldN σ k) + 0)), (6, .null), (4, .int (nI 6)), (3, .ref (ad 2)), (0, .ref x), (1, .int w)]) hx hb dX0_count_78 hl (k := 2) rfl (nI_1 k) (by decide) rfl (fun ls hl => ?_)
            refine lv_goto (tgt := 52) hx hb dX0_count_81 rfl ?_
            exact ih_3 (k + 1) (nI (k + 1)) ((toldN σ k) + 0) ls (by omega) (by omega) rfl (by subst_vars; rw [to_s, if_neg hT]) (lv_sub hl [0, 3, 4, 1, 5, 6] rfl)
    exact hL52_1 _ 0 0 0 ls (Nat.lt_succ_self _) (by omega) rfl (by subst_vars; rw [toldN]) (lv_sub hl [0, 1, 2, 3, 4, 5] rfl)
  by_cases h3_1 : w = 1
  · refine lv_tableIn (tgt := 86) hx hb dX0_count_3 (by rw [h3_1]; decide) (by rw [h3_1]; decide) (by rw [h3_1]; rfl) rfl ?_
    refine lv_aload_n hx hb dX0_count_86 rfl (lv_at hl 1 rfl) ?_
    refine va_get (D := D) (ci := 1) (v := .int (nI σ.len)) (C := RX0) (T := TX0) (N := 11) hx hb hts in_X0 hown hK hP 0 rfl rfl 7 (by decide) (hts _ q222) (fun _ h9 => h9) rfl dX0_count_87 ?_
    exact q_i hQ hx hb hr hlocks rfl (by simp only [countF, eq_false h3_0, eq_true h3_1, if_true, if_false, ite_true, ite_false, not_true_eq_false, not_false_eq_true, and_true, true_and, and_false, false_and, or_true, true_or, or_false, false_or, and_self, or_self, eq_self]) dX0_count_90
  by_cases h3_2 : w = 2
  · refine lv_tableIn (tgt := 91) hx hb dX0_count_3 (by rw [h3_2]; decide) (by rw [h3_2]; decide) (by rw [h3_2]; rfl) rfl ?_
    refine lv_aload_n hx hb dX0_count_91 rfl (lv_at hl 1 rfl) ?_
    refine va_get (D := D) (ci := 1) (v := .ref (ad 5)) (C := RX0) (T := TX0) (N := 11) hx hb hts in_X0 hown hK hP 0 rfl rfl 9 (by decide) (hts _ q224) (fun _ h9 => h9) rfl dX0_count_92 ?_
    refine dV (v := .int (nI σ.vm)) (As := []) (rest := []) ⟨hx, hb, hml, hown, hts⟩ (mt_J2_size l D dA (ad 5) μ.bE μ.bM σ.vm) (cw_X0_J2_size hts ⟨Nat.le_of_ble_eq_true rfl, Nat.le_of_ble_eq_true rfl⟩) pB_bw (pB_now hK (p1 hP 6 rfl)) (va_recv hK hP (ci := 8) (q0 := 6) rfl rfl) rfl hl.1 rfl (Nat.le_of_ble_eq_true rfl) dX0_count_95 ⟨Nat.le_of_ble_eq_true rfl, Nat.le_of_ble_eq_true rfl⟩ ?_
    exact q_i hQ hx hb hr hlocks rfl (by simp only [countF, eq_false h3_0, eq_false h3_1, eq_true h3_2, if_true, if_false, ite_true, ite_false, not_true_eq_false, not_false_eq_true, and_true, true_and, and_false, false_and, or_true, true_or, or_false, false_or, and_self, or_self, eq_self]) dX0_count_98
  by_cases h3_3 : w = 3
  · refine lv_tableIn (tgt := 99) hx hb dX0_count_3 (by rw [h3_3]; decide) (by rw [h3_3]; decide) (by rw [h3_3]; rfl) rfl ?_
    refine lv_aload_n hx hb dX0_count_99 rfl (lv_at hl 1 rfl) ?_
    refine va_get (D := D) (ci := 1) (v := .int σ.load) (C := RX0) (T := TX0) (N := 11) hx hb hts in_X0 hown hK hP 0 rfl rfl 1 (by decide) (hts _ q211) (fun _ h9 => h9) rfl dX0_count_100 ?_
    exact q_i hQ hx hb hr hlocks rfl (by simp only [countF, eq_false h3_0, eq_false h3_1, eq_false h3_2, eq_true h3_3, if_true, if_false, ite_true, ite_false, not_true_eq_false, not_false_eq_true, and_true, true_and, and_false, false_and, or_true, true_or, or_false, false_or, and_self, or_self, eq_self]) dX0_count_103
  by_cases h3_4 : w = 4
  · refine lv_tableIn (tgt := 104) hx hb dX0_count_3 (by rw [h3_4]; decide) (by rw [h3_4]; decide) (by rw [h3_4]; rfl) rfl ?_
    refine lv_aload_n hx hb dX0_count_104 rfl (lv_at hl 1 rfl) ?_
    refine va_get (D := D) (ci := 1) (v := .int σ.purse) (C := RX0) (T := TX0) (N := 11) hx hb hts in_X0 hown hK hP 0 rfl rfl 2 (by decide) (hts _ q212) (fun _ h9 => h9) rfl dX0_count_105 ?_
    exact q_i hQ hx hb hr hlocks rfl (by simp only [countF, eq_false h3_0, eq_false h3_1, eq_false h3_2, eq_false h3_3, eq_true h3_4, if_true, if_false, ite_true, ite_false, not_true_eq_false, not_false_eq_true, and_true, true_and, and_false, false_and, or_true, true_or, or_false, false_or, and_self, or_self, eq_self]) dX0_count_108
  by_cases h3_5 : w = 5
  · refine lv_tableIn (tgt := 109) hx hb dX0_count_3 (by rw [h3_5]; decide) (by rw [h3_5]; decide) (by rw [h3_5]; rfl) rfl ?_
    refine lv_aload_n hx hb dX0_count_109 rfl (lv_at hl 1 rfl) ?_
    refine va_get (D := D) (ci := 1) (v := .int σ.beg) (C := RX0) (T := TX0) (N := 11) hx hb hts in_X0 hown hK hP 0 rfl rfl 3 (by decide) (hts _ q214) (fun _ h9 => h9) rfl dX0_count_110 ?_
    exact q_i hQ hx hb hr hlocks rfl (by simp only [countF, eq_false h3_0, eq_false h3_1, eq_false h3_2, eq_false h3_3, eq_false h3_4, eq_true h3_5, if_true, if_false, ite_true, ite_false, not_true_eq_false, not_false_eq_true, and_true, true_and, and_false, false_and, or_true, true_or, or_false, false_or, and_self, or_self, eq_self]) dX0_count_113
  refine lv_tableOut (tgt := 114) hx hb dX0_count_3 (w_tout6 h3_0 h3_1 h3_2 h3_3 h3_4 h3_5) rfl ?_
  refine lv_bipush (v := (-3)) hx hb dX0_count_114 rfl ?_
  exact q_i hQ hx hb hr hlocks rfl (by simp only [countF, eq_false h3_0, eq_false h3_1, eq_false h3_2, eq_false h3_3, eq_false h3_4, eq_false h3_5, if_true, if_false, ite_true, ite_false, not_true_eq_false, not_false_eq_true, and_true, true_and, and_false, false_and, or_true, true_or, or_false, false_or, and_self, or_self, eq_self]) dX0_count_116
