/-! THE MODEL's METHODS 14: the text whole, the day told -/
set_option maxRecDepth 100000
abbrev semP (σ : St) (a : Nat) : Prop := tkE σ a - tkP σ a = 1 ∧ σ.txt (tkP σ a) = 59
/-- behind a line, n more may come: the fault, or all lines -/
def moreL (σ : St) : Nat → Nat → List (List Int32) → Nat ⊕ List (List Int32)
  | 0, a, acc => if tkP σ a < σ.len then .inl (tkP σ a) else .inr acc
  | n + 1, a, acc => if tkP σ a < σ.len then (if semP σ a then (match lineL σ (tkE σ a) with
      | .inl q => .inl q
      | .inr q => moreL σ n q.2 (acc ++ [q.1])) else .inl (tkP σ a)) else .inr acc
def allL (σ : St) : Nat ⊕ List (List Int32) := match lineL σ 0 with
  | .inl q => .inl q
  | .inr q => moreL σ 9 q.2 [q.1]
theorem allL_s {σ : St} {vs : List Int32} {an : Nat} (h : lineL σ 0 = .inr (vs, an)) : allL σ = moreL σ 9 an [vs] := by
  unfold allL
  rw [h]
theorem allL_n {σ : St} {q : Nat} (h : lineL σ 0 = .inl q) : allL σ = .inl q := by
  unfold allL
  rw [h]
theorem more_end {σ : St} {n a : Nat} {acc : List (List Int32)} (h : ¬ tkP σ a < σ.len) : moreL σ n a acc = .inr acc := by
  cases n with
  | zero => rw [moreL, if_neg h]
  | succ n => rw [moreL, if_neg h]
theorem more_no {σ : St} {n a : Nat} {acc : List (List Int32)} (h : tkP σ a < σ.len) (h2 : ¬ (semP σ a ∧ ¬ n = 0)) : moreL σ n a acc = .inl (tkP σ a) := by
  cases n with
  | zero => rw [moreL, if_pos h]
  | succ n => rw [moreL, if_pos h, if_neg (fun q => h2 ⟨q, by omega⟩)]
theorem more_f {σ : St} {n a q : Nat} {acc : List (List Int32)} (h : tkP σ a < σ.len) (h2 : semP σ a) (hn : ¬ n = 0) (h3 : lineL σ (tkE σ a) = .inl q) : moreL σ n a acc = .inl q := by
  cases n with
  | zero => exact absurd rfl hn
  | succ n => rw [moreL, if_pos h, if_pos h2, h3]
theorem more_s {σ : St} {n a an : Nat} {vs : List Int32} {acc : List (List Int32)} (h : tkP σ a < σ.len) (h2 : semP σ a) (hn : ¬ n = 0) (h3 : lineL σ (tkE σ a) = .inr (vs, an)) : moreL σ n a acc = moreL σ (n - 1) an (acc ++ [vs]) := by
  cases n with
  | zero => exact absurd rfl hn
  | succ n => rw [moreL, if_pos h, if_pos h2, h3]; rfl
theorem ok_len {vs : List Int32} (h : okV vs) : vs.length ≤ 8 ∧ 1 ≤ vs.length := by
  rcases h with ⟨_, _, _, _, e, -⟩ | ⟨_, e, -⟩ | ⟨_, e, -⟩ | ⟨_, e, -⟩ | ⟨_, _, _, e, -⟩ | ⟨_, _, _, _, _, _, _, e, -⟩ | ⟨_, _, _, _, _, e, -⟩ <;> subst e <;> exact ⟨Nat.le_of_ble_eq_true rfl, Nat.le_of_ble_eq_true rfl⟩
/-- the row holds the lines -/
def rowsOK (f : Nat → Int32) (ls : List (List Int32)) : Prop := ∀ i vs, ls[i]? = some vs → okV vs ∧ ∀ j, j < vs.length → f (8 * i + j) = vs.getD j 0
theorem rows_0 {f fn : Nat → Int32} {vs : List Int32} (h : rdLN f fn 0 vs) (hv : okV vs) : rowsOK fn [vs] := by
  intro i w e
  cases i with
  | zero => cases e; exact ⟨hv, h.1⟩
  | succ i => cases e
theorem rows_s {f fn : Nat → Int32} {ls : List (List Int32)} {r : Nat} {vs : List Int32} (hr : r = ls.length) (h0 : rowsOK f ls) (h : rdLN f fn r vs) (hv : okV vs) : rowsOK fn (ls ++ [vs]) := by
  subst hr
  intro i w e
  rcases Nat.lt_or_ge i ls.length with z | z
  · rw [List.getElem?_append_left z] at e
    obtain ⟨a, b⟩ := h0 i w e
    have := ok_len a
    exact ⟨a, fun j hj => by rw [h.2 _ (by omega)]; exact b j hj⟩
  · rw [List.getElem?_append_right z] at e
    cases d : i - ls.length with
    | zero =>
      rw [d] at e
      cases e
      have : i = ls.length := by omega
      subst this
      exact ⟨hv, h.1⟩
    | succ d2 => rw [d] at e; cases e
/-- a fault lies in the text or at its end -/
def bdP (σ : St) (x : PR) : Prop := ∀ q, x = .inl q → q ≤ σ.len
theorem bd_nm {σ : St} {a : Nat} {lo hi : Int32} {k : Int32 → Nat → PR} (ha : a ≤ σ.len) (h : ∀ v, bdP σ (k v (tkE σ a))) : bdP σ (nmR σ a lo hi k) := by
  intro q e
  cases z : rdV σ a lo hi with
  | none => rw [nmR_n z] at e; cases e; exact (tkP_b ha).2
  | some v => rw [nmR_s z] at e; exact h v q e
theorem bd_th {σ : St} {a : Nat} {k : Int32 → Nat → PR} (ha : a ≤ σ.len) (h : ∀ v, bdP σ (k v (tkE σ a))) : bdP σ (thR σ a k) := by
  intro q e
  cases z : thV σ a with
  | none => rw [thR_n z] at e; cases e; exact (tkP_b ha).2
  | some v => rw [thR_s z] at e; exact h v q e
theorem bd_r {σ : St} {x : List Int32 × Nat} : bdP σ (.inr x) := fun q e => by cases e
theorem bd_l {σ : St} {a : Nat} (ha : a ≤ σ.len) : bdP σ (.inl (tkP σ a)) := fun q e => by cases e; exact (tkP_b ha).2
theorem bd_or {σ : St} {c n m al : Int32} {a : Nat} (ha : a ≤ σ.len) : bdP σ (orL σ c n m al a) := by
  unfold orL
  split
  · exact bd_r
  · exact bd_th (tk2 ha) (fun _ => bd_r)
theorem bd_line {σ : St} {a : Nat} (h0 : a ≤ σ.len) : bdP σ (lineL σ a) := by
  have ha := tk2 h0
  unfold lineL
  split
  · split
    · split
      · split
        · split
          · split
            · split
              · exact bd_l h0
              · exact bd_nm ha (fun c => bd_nm (tk2 ha) (fun n => bd_nm (tk2 (tk2 ha)) (fun m => by
                  split
                  · exact bd_th (tk2 (tk2 (tk2 ha))) (fun v => bd_or (tk2 (tk2 (tk2 (tk2 ha)))))
                  · exact bd_or (tk2 (tk2 (tk2 (tk2 ha)))))))
            · exact bd_nm ha (fun _ => bd_nm (tk2 ha) (fun _ => bd_nm (tk2 (tk2 ha)) (fun _ => bd_nm (tk2 (tk2 (tk2 ha))) (fun _ => bd_nm (tk2 (tk2 (tk2 (tk2 ha)))) (fun _ => bd_nm (tk2 (tk2 (tk2 (tk2 (tk2 ha))))) (fun _ => bd_nm (tk2 (tk2 (tk2 (tk2 (tk2 (tk2 ha)))))) (fun _ => bd_r)))))))
          · exact bd_nm ha (fun x => bd_nm (tk2 ha) (fun y => by
              split
              · exact bd_l (tk2 ha)
              · exact bd_nm (tk2 (tk2 ha)) (fun _ => bd_r)))
        · exact bd_nm ha (fun _ => bd_r)
      · exact bd_nm ha (fun _ => bd_r)
    · exact bd_nm ha (fun _ => bd_r)
  · unfold thingL
    split
    · exact bd_nm (tk2 ha) (fun w => bd_nm (tk2 (tk2 ha)) (fun p => by
        split
        · split
          · exact bd_l (tk2 (tk2 (tk2 ha)))
          · exact bd_r
        · exact bd_r))
    · exact bd_l ha
theorem nI_nm {n : Nat} (h : n ≤ 200) : ¬ nI n = -1 := fun q => by
  have := nI_toInt (n := n) (by omega)
  rw [q] at this
  have e : (-1 : Int32).toInt = -1 := by decide
  omega

theorem cw_X3_X3_readsLine {R : Room} {s : State} {args : Array Value} (hts : ∀ w ∈ lw_all, w.before args s = true) (hR : rmX3_readsLine.frames + 1 ≤ R.frames ∧ 8 + (4 + 11) + rmX3_readsLine.locals ≤ R.locals) : CallW R s args RX3 RX3 127 yX3_readsLine cX3_readsLine 4 (some .boolean) (ws_ yX3_readsLine cX3_readsLine 4 (some .boolean)) rmX3_readsLine 0 0 0 := cwV 0 hts (lw_V q1232 q1234 qs36 q83 q1235) rfl rfl rfl (by decide +kernel) hR
def rmX3_fault : Room := { frames := 5, cells := 0, slots := 0, locals := 110 }
set_option maxHeartbeats 1000000 in
theorem mt_X3_fault (l : Launch) (D : va_G) (dA : Nat → ClassId) (h : Nat) (ad : Nat → Nat) (σ : St) (τ : Sc) (hmD : mD h ad) (hI : Inv σ) : Met l yX3_fault (ws_ yX3_fault cX3_fault 2 (some .int)) rmX3_fault (va_Pc [.ref h] (mB D dA h ad σ τ)) (va_Qi (fun r (u : MS) => (r = (-1) ∧ ∃ fn : Nat → Int32, ∃ ls : List (List Int32), ∃ x1 : Int32, ∃ x2 : Int32, ∃ x3 : Int32, u = (σ, ((fn, nI ls.length, x1, x2, x3, τ.ents, τ.em, τ.combos, τ.all_, τ.weight, τ.gain, τ.ad_, τ.minute, τ.ds, τ.bl, τ.chosen) : Sc)) ∧ allL σ = .inr ls ∧ rowsOK fn ls ∧ ls.length ≤ 10) ∨ (∃ fp : Nat, r = nI fp ∧ u.1 = σ ∧ allL σ = .inl fp ∧ fp ≤ σ.len)) (fun u t => mB D dA h ad u.1 u.2 t) (mA h ad)) 0 0 (mA h ad) := by
  refine w_start (by decide) (Nat.le_of_ble_eq_true rfl) ?_
  intro p e s m args below meth c Q ls hQ hx hb hr hlocks hml hown hnm hts hB hl
  have hown : s.vm.findClass RX3 = some m.cls := hown
  have hl : lv_has ls 2 [(0, .ref h)] := hl
  obtain ⟨hP, hK⟩ := hB
  have hP : va_P D vwCl (mX dA h ad σ.txt σ.len σ.wt σ.pr σ.tools σ.load σ.purse σ.beg σ.ways σ.told σ.calls σ.sm σ.sorts σ.visits σ.vm τ.read τ.rm τ.at_ τ.place τ.end_ τ.ents τ.em τ.combos τ.all_ τ.weight τ.gain τ.ad_ τ.minute τ.ds τ.bl τ.chosen) s.heap := hP
  have hS : va_S (mA h ad) s.heap s.heap [] := va_S.rf
  have hlen := hI.len
  refine lv_aload_n hx hb dX3_fault_0 rfl (lv_at hl 0 rfl) ?_
  refine lv_iconst (v := 0) hx hb dX3_fault_1 rfl ?_
  refine w_topi (y := nI 0) (nI_0.symm) ?_
  refine va_put (D := D) (ci := 0) (v := .int (nI 0)) (ty := .int) (C := RX3) (T := TX3) (N := 31) hx hb hts in_X3 tyX3 tyX3_ok nmX3 hown hK hP (mD_va hmD dA σ τ) hS 0 rfl rfl 17 (by decide) (hts _ q1131) (fun _ h9 => h9) rfl (by decide +kernel) (rfl) (rfl) (Nat.le_of_ble_eq_true rfl) dX3_fault_2 (fun H locs hP _ hS => ?_)
  have hP : va_P D vwCl (mX dA h ad σ.txt σ.len σ.wt σ.pr σ.tools σ.load σ.purse σ.beg σ.ways σ.told σ.calls σ.sm σ.sorts σ.visits σ.vm τ.read τ.rm (nI 0) τ.place τ.end_ τ.ents τ.em τ.combos τ.all_ τ.weight τ.gain τ.ad_ τ.minute τ.ds τ.bl τ.chosen) H := hP
  refine lv_aload_n hx hb dX3_fault_5 rfl (lv_at hl 0 rfl) ?_
  refine lv_iconst (v := 0) hx hb dX3_fault_6 rfl ?_
  refine w_topi (y := nI 0) (nI_0.symm) ?_
  refine va_put (D := D) (ci := 0) (v := .int (nI 0)) (ty := .int) (C := RX3) (T := TX3) (N := 31) hx hb hts in_X3 tyX3 tyX3_ok nmX3 hown hK hP (mD_va hmD dA σ ((τ.read, τ.rm, nI 0, τ.place, τ.end_, τ.ents, τ.em, τ.combos, τ.all_, τ.weight, τ.gain, τ.ad_, τ.minute, τ.ds, τ.bl, τ.chosen) : Sc)) hS 0 rfl rfl 3 (by decide) (hts _ q1117) (fun _ h9 => h9) rfl (by decide +kernel) (rfl) (rfl) (Nat.le_of_ble_eq_true rfl) dX3_fault_7 (fun H locs hP _ hS => ?_)
  have hP : va_P D vwCl (mX dA h ad σ.txt σ.len σ.wt σ.pr σ.tools σ.load σ.purse σ.beg σ.ways σ.told σ.calls σ.sm σ.sorts σ.visits σ.vm τ.read (nI 0) (nI 0) τ.place τ.end_ τ.ents τ.em τ.combos τ.all_ τ.weight τ.gain τ.ad_ τ.minute τ.ds τ.bl τ.chosen) H := hP
  refine lv_aload_n hx hb dX3_fault_10 rfl (lv_at hl 0 rfl) ?_
  refine mcVv (As := []) (rest := []) ⟨hx, hb, hml, hown, hts⟩ (mt_X3_token l D dA h ad σ ((τ.read, nI 0, nI 0, τ.place, τ.end_, τ.ents, τ.em, τ.combos, τ.all_, τ.weight, τ.gain, τ.ad_, τ.minute, τ.ds, τ.bl, τ.chosen) : Sc) hmD 0 hI (Nat.zero_le _)) (cw_X3_X3_token hts ⟨Nat.le_of_ble_eq_true rfl, Nat.le_of_ble_eq_true rfl⟩) (mB_now hK hP) (va_recv hK hP (ci := 0) (q0 := 0) rfl rfl) rfl hl.1 rfl (Nat.le_of_ble_eq_true rfl) dX3_fault_11 ⟨Nat.le_of_ble_eq_true rfl, Nat.le_of_ble_eq_true rfl⟩ hS (fun u_2 H locs hp_3 hP hS => ?_)
  subst hp_3
  have hP : va_P D vwCl (mX dA h ad σ.txt σ.len σ.wt σ.pr σ.tools σ.load σ.purse σ.beg σ.ways σ.told σ.calls σ.sm σ.sorts σ.visits σ.vm τ.read (nI 0) (nI (tkE σ 0)) (nI (tkP σ 0)) (nI (tkE σ 0)) τ.ents τ.em τ.combos τ.all_ τ.weight τ.gain τ.ad_ τ.minute τ.ds τ.bl τ.chosen) H := hP
  refine lv_aload_n hx hb dX3_fault_14 rfl (lv_at hl 0 rfl) ?_
  refine mcVi (As := []) (rest := []) ⟨hx, hb, hml, hown, hts⟩ (mt_X3_readsLine l D dA h ad σ ((τ.read, nI 0, nI (tkE σ 0), nI (tkP σ 0), nI (tkE σ 0), τ.ents, τ.em, τ.combos, τ.all_, τ.weight, τ.gain, τ.ad_, τ.minute, τ.ds, τ.bl, τ.chosen) : Sc) hmD 0 τ.read 0 hI (Nat.zero_le _) (by omega)) (cw_X3_X3_readsLine hts ⟨Nat.le_of_ble_eq_true rfl, Nat.le_of_ble_eq_true rfl⟩) (mB_now hK hP) (va_recv hK hP (ci := 0) (q0 := 0) rfl rfl) rfl hl.1 rfl (Nat.le_of_ble_eq_true rfl) dX3_fault_15 ⟨Nat.le_of_ble_eq_true rfl, Nat.le_of_ble_eq_true rfl⟩ hS (fun r_4 u_5 H locs hp_6 hP hS => ?_)
  rcases hp_6 with ⟨rfl, fn_7, vs_8, an_9, rfl, hq_10, hro_11, han_12⟩ | ⟨rfl, fp_13, hu_15, k_16, hq_14⟩
  · have hP : va_P D vwCl (mX dA h ad σ.txt σ.len σ.wt σ.pr σ.tools σ.load σ.purse σ.beg σ.ways σ.told σ.calls σ.sm σ.sorts σ.visits σ.vm fn_7 (nI (0 + 1)) (nI (tkE σ an_9)) (nI (tkP σ an_9)) (nI (tkE σ an_9)) τ.ents τ.em τ.combos τ.all_ τ.weight τ.gain τ.ad_ τ.minute τ.ds τ.bl τ.chosen) H := hP
    refine lv_if_ne (tgt := 26) hx hb dX3_fault_18 rfl (fun _ => ?_) (fun h9 => ?_)
    rotate_left
    · exact absurd h9 (by decide)
    have hL26_17 : ∀ (n_18 : Nat) (a2 : Nat) (r2 : Nat) (f2 : Nat → Int32) (acc : List (List Int32)) (ls : Array Slot) (H : Heap) (locs : List Loc), (10 - r2) < n_18 → (a2 ≤ σ.len) → (1 ≤ r2) → (r2 ≤ 10) → (r2 = acc.length) → (rowsOK f2 acc) → (allL σ = moreL σ (10 - r2) a2 acc) → lv_has ls 2 [(0, .ref h)] → va_P D vwCl (mX dA h ad σ.txt σ.len σ.wt σ.pr σ.tools σ.load σ.purse σ.beg σ.ways σ.told σ.calls σ.sm σ.sorts σ.visits σ.vm f2 (nI r2) (nI (tkE σ a2)) (nI (tkP σ a2)) (nI (tkE σ a2)) τ.ents τ.em τ.combos τ.all_ τ.weight τ.gain τ.ad_ τ.minute τ.ds τ.bl τ.chosen) H → va_S (mA h ad) s.heap H locs → W p l e rmX3_fault s m args below meth c H locs 0 0 Q (F0 m 26 ls []) := by
      intro n_18
      induction n_18 with
      | zero => intro a2 r2 f2 acc ls H locs hm_20; exact absurd hm_20 (Nat.not_lt_zero _)
      | succ n_18 ih_19 =>
        intro a2 r2 f2 acc ls H locs hm_20 ha2 hr1 hr2 hracc hrows hall  hl hP hS
        have hp2 := tkP_b ha2
        have he2 := tkE_b ha2
        refine lv_aload_n hx hb dX3_fault_26 rfl (lv_at hl 0 rfl) ?_
        refine va_get (D := D) (ci := 0) (v := .int (nI (tkP σ a2))) (C := RX3) (T := TX3) (N := 31) hx hb hts in_X3 hown hK hP 0 rfl rfl 18 (by decide) (hts _ q1132) (fun _ h9 => h9) rfl dX3_fault_27 ?_
        refine lv_aload_n hx hb dX3_fault_30 rfl (lv_at hl 0 rfl) ?_
        refine va_get (D := D) (ci := 0) (v := .int (nI σ.len)) (C := RX3) (T := TX3) (N := 31) hx hb hts in_X3 hown hK hP 0 rfl rfl 1 (by decide) (hts _ q1115) (fun _ h9 => h9) rfl dX3_fault_31 ?_
        refine lv_icmp_ge (tgt := 104) hx hb dX3_fault_34 rfl (fun h34 => ?_) (fun h34 => ?_)
        · have h34 : σ.len ≤ (tkP σ a2) := (nz_le (a := σ.len) (b := tkP σ a2) rfl rfl (by omega) (by omega)).mp h34
          refine lv_iconst (v := (-1)) hx hb dX3_fault_104 rfl ?_
          exact rm_i (u := (σ, ((f2, nI r2, nI (tkE σ a2), nI (tkP σ a2), nI (tkE σ a2), τ.ents, τ.em, τ.combos, τ.all_, τ.weight, τ.gain, τ.ad_, τ.minute, τ.ds, τ.bl, τ.chosen) : Sc))) hQ hx hb hr hlocks hK hP hS ((Or.inl ⟨rfl, f2, acc, nI (tkE σ a2), nI (tkP σ a2), nI (tkE σ a2), (by rw [← hracc]), (by rw [hall]; exact more_end (by omega)), (hrows), (by omega)⟩)) dX3_fault_105
        · have h34 : ¬ (σ.len ≤ (tkP σ a2)) := fun z9 => h34 ((nz_le (a := σ.len) (b := tkP σ a2) rfl rfl (by omega) (by omega)).mpr z9)
          refine lv_aload_n hx hb dX3_fault_37 rfl (lv_at hl 0 rfl) ?_
          refine va_get (D := D) (ci := 0) (v := .int (nI (tkE σ a2))) (C := RX3) (T := TX3) (N := 31) hx hb hts in_X3 hown hK hP 0 rfl rfl 19 (by decide) (hts _ q1133) (fun _ h9 => h9) rfl dX3_fault_38 ?_
          refine lv_aload_n hx hb dX3_fault_41 rfl (lv_at hl 0 rfl) ?_
          refine va_get (D := D) (ci := 0) (v := .int (nI (tkP σ a2))) (C := RX3) (T := TX3) (N := 31) hx hb hts in_X3 hown hK hP 0 rfl rfl 18 (by decide) (hts _ q1132) (fun _ h9 => h9) rfl dX3_fault_42 ?_
          refine lv_isub hx hb dX3_fault_45 ?_
          refine lv_iconst (v := 1) hx hb dX3_fault_46 rfl ?_
          refine lv_icmp_ne (tgt := 77) hx hb dX3_fault_47 rfl (fun h47 => ?_) (fun h47 => ?_)
          · have h47 : ¬ (((tkE σ a2) - (tkP σ a2)) = 1) := fun z9 => h47 ((nz_eq (a := (tkE σ a2) - (tkP σ a2)) (b := 1) (nz_sub (a := tkE σ a2) (b := tkP σ a2) rfl rfl (by omega)) rfl (by omega) (by omega)).mpr z9)
            refine lv_iconst (v := 0) hx hb dX3_fault_77 rfl ?_
            refine lv_istore_n (lv' := [(1, .int 0), (0, .ref h)]) hx hb dX3_fault_78 rfl hl (by decide) rfl (fun ls hl => ?_)
            refine lv_iload_n hx hb dX3_fault_79 rfl (lv_at hl 0 rfl) ?_
            refine lv_if_eq (tgt := 92) hx hb dX3_fault_80 rfl (fun _ => ?_) (fun h9 => ?_)
            rotate_left
            · exact absurd (by decide) h9
            refine lv_iload_n hx hb dX3_fault_92 rfl (lv_at hl 0 rfl) ?_
            refine lv_if_ne (tgt := 101) hx hb dX3_fault_93 rfl (fun h9 => ?_) (fun _ => ?_)
            · exact absurd h9 (by decide)
            refine lv_aload_n hx hb dX3_fault_96 rfl (lv_at hl 1 rfl) ?_
            refine va_get (D := D) (ci := 0) (v := .int (nI (tkP σ a2))) (C := RX3) (T := TX3) (N := 31) hx hb hts in_X3 hown hK hP 0 rfl rfl 18 (by decide) (hts _ q1132) (fun _ h9 => h9) rfl dX3_fault_97 ?_
            exact rm_i (u := (σ, ((f2, nI r2, nI (tkE σ a2), nI (tkP σ a2), nI (tkE σ a2), τ.ents, τ.em, τ.combos, τ.all_, τ.weight, τ.gain, τ.ad_, τ.minute, τ.ds, τ.bl, τ.chosen) : Sc))) hQ hx hb hr hlocks hK hP hS ((Or.inr ⟨tkP σ a2, rfl, rfl, (by rw [hall]; exact more_no (by omega) (fun q => h47 q.1.1)), ((tkP_b ha2).2)⟩)) dX3_fault_100
          · have h47 : ((tkE σ a2) - (tkP σ a2)) = 1 := (nz_eq (a := (tkE σ a2) - (tkP σ a2)) (b := 1) (nz_sub (a := tkE σ a2) (b := tkP σ a2) rfl rfl (by omega)) rfl (by omega) (by omega)).mp h47
            refine lv_aload_n hx hb dX3_fault_50 rfl (lv_at hl 0 rfl) ?_
            refine va_get (D := D) (ci := 0) (v := .ref (ad 0)) (C := RX3) (T := TX3) (N := 31) hx hb hts in_X3 hown hK hP 0 rfl rfl 0 (by decide) (hts _ q1114) (fun _ h9 => h9) rfl dX3_fault_51 ?_
            refine lv_aload_n hx hb dX3_fault_54 rfl (lv_at hl 0 rfl) ?_
            refine va_get (D := D) (ci := 0) (v := .int (nI (tkP σ a2))) (C := RX3) (T := TX3) (N := 31) hx hb hts in_X3 hown hK hP 0 rfl rfl 18 (by decide) (hts _ q1132) (fun _ h9 => h9) rfl dX3_fault_55 ?_
            refine wa_iald (f := σ.txt) hx hb hK hP 1 0 rfl rfl (tkP σ a2) (rfl) (by omega) (by decide) dX3_fault_58 ?_
            refine lv_bipush (v := 59) hx hb dX3_fault_59 rfl ?_
            refine lv_icmp_ne (tgt := 77) hx hb dX3_fault_61 rfl (fun h61 => ?_) (fun h61 => ?_)
            · have h61 : ¬ ((σ.txt (tkP σ a2)) = 59) := h61
              refine lv_iconst (v := 0) hx hb dX3_fault_77 rfl ?_
              refine lv_istore_n (lv' := [(1, .int 0), (0, .ref h)]) hx hb dX3_fault_78 rfl hl (by decide) rfl (fun ls hl => ?_)
              refine lv_iload_n hx hb dX3_fault_79 rfl (lv_at hl 0 rfl) ?_
              refine lv_if_eq (tgt := 92) hx hb dX3_fault_80 rfl (fun _ => ?_) (fun h9 => ?_)
              rotate_left
              · exact absurd (by decide) h9
              refine lv_iload_n hx hb dX3_fault_92 rfl (lv_at hl 0 rfl) ?_
              refine lv_if_ne (tgt := 101) hx hb dX3_fault_93 rfl (fun h9 => ?_) (fun _ => ?_)
              · exact absurd h9 (by decide)
              refine lv_aload_n hx hb dX3_fault_96 rfl (lv_at hl 1 rfl) ?_
              refine va_get (D := D) (ci := 0) (v := .int (nI (tkP σ a2))) (C := RX3) (T := TX3) (N := 31) hx hb hts in_X3 hown hK hP 0 rfl rfl 18 (by decide) (hts _ q1132) (fun _ h9 => h9) rfl dX3_fault_97 ?_
              exact rm_i (u := (σ, ((f2, nI r2, nI (tkE σ a2), nI (tkP σ a2), nI (tkE σ a2), τ.ents, τ.em, τ.combos, τ.all_, τ.weight, τ.gain, τ.ad_, τ.minute, τ.ds, τ.bl, τ.chosen) : Sc))) hQ hx hb hr hlocks hK hP hS ((Or.inr ⟨tkP σ a2, rfl, rfl, (by rw [hall]; exact more_no (by omega) (fun q => h61 q.1.2)), ((tkP_b ha2).2)⟩)) dX3_fault_100
            · have h61 : (σ.txt (tkP σ a2)) = 59 := h61
              refine lv_aload_n hx hb dX3_fault_64 rfl (lv_at hl 0 rfl) ?_
              refine va_get (D := D) (ci := 0) (v := .int (nI r2)) (C := RX3) (T := TX3) (N := 31) hx hb hts in_X3 hown hK hP 0 rfl rfl 3 (by decide) (hts _ q1117) (fun _ h9 => h9) rfl dX3_fault_65 ?_
              refine lv_bipush (v := 10) hx hb dX3_fault_68 rfl ?_
              refine lv_icmp_ge (tgt := 77) hx hb dX3_fault_70 rfl (fun h70 => ?_) (fun h70 => ?_)
              · have h70 : 10 ≤ r2 := (nz_le (a := 10) (b := r2) rfl rfl (by omega) (by omega)).mp h70
                refine lv_iconst (v := 0) hx hb dX3_fault_77 rfl ?_
                refine lv_istore_n (lv' := [(1, .int 0), (0, .ref h)]) hx hb dX3_fault_78 rfl hl (by decide) rfl (fun ls hl => ?_)
                refine lv_iload_n hx hb dX3_fault_79 rfl (lv_at hl 0 rfl) ?_
                refine lv_if_eq (tgt := 92) hx hb dX3_fault_80 rfl (fun _ => ?_) (fun h9 => ?_)
                rotate_left
                · exact absurd (by decide) h9
                refine lv_iload_n hx hb dX3_fault_92 rfl (lv_at hl 0 rfl) ?_
                refine lv_if_ne (tgt := 101) hx hb dX3_fault_93 rfl (fun h9 => ?_) (fun _ => ?_)
                · exact absurd h9 (by decide)
                refine lv_aload_n hx hb dX3_fault_96 rfl (lv_at hl 1 rfl) ?_
                refine va_get (D := D) (ci := 0) (v := .int (nI (tkP σ a2))) (C := RX3) (T := TX3) (N := 31) hx hb hts in_X3 hown hK hP 0 rfl rfl 18 (by decide) (hts _ q1132) (fun _ h9 => h9) rfl dX3_fault_97 ?_
                exact rm_i (u := (σ, ((f2, nI r2, nI (tkE σ a2), nI (tkP σ a2), nI (tkE σ a2), τ.ents, τ.em, τ.combos, τ.all_, τ.weight, τ.gain, τ.ad_, τ.minute, τ.ds, τ.bl, τ.chosen) : Sc))) hQ hx hb hr hlocks hK hP hS ((Or.inr ⟨tkP σ a2, rfl, rfl, (by rw [hall]; exact more_no (by omega) (fun q => by omega)), ((tkP_b ha2).2)⟩)) dX3_fault_100
              · have h70 : ¬ (10 ≤ r2) := fun z9 => h70 ((nz_le (a := 10) (b := r2) rfl rfl (by omega) (by omega)).mpr z9)
                refine lv_iconst (v := 1) hx hb dX3_fault_73 rfl ?_
                refine lv_goto (tgt := 78) hx hb dX3_fault_74 rfl ?_
                refine lv_istore_n (lv' := [(1, .int 1), (0, .ref h)]) hx hb dX3_fault_78 rfl hl (by decide) rfl (fun ls hl => ?_)
                refine lv_iload_n hx hb dX3_fault_79 rfl (lv_at hl 0 rfl) ?_
                refine lv_if_eq (tgt := 92) hx hb dX3_fault_80 rfl (fun h9 => ?_) (fun _ => ?_)
                · exact absurd h9 (by decide)
                refine lv_aload_n hx hb dX3_fault_83 rfl (lv_at hl 1 rfl) ?_
                refine mcVv (As := []) (rest := []) ⟨hx, hb, hml, hown, hts⟩ (mt_X3_token l D dA h ad σ ((f2, nI r2, nI (tkE σ a2), nI (tkP σ a2), nI (tkE σ a2), τ.ents, τ.em, τ.combos, τ.all_, τ.weight, τ.gain, τ.ad_, τ.minute, τ.ds, τ.bl, τ.chosen) : Sc) hmD (tkE σ a2) hI (tk2 ha2)) (cw_X3_X3_token hts ⟨Nat.le_of_ble_eq_true rfl, Nat.le_of_ble_eq_true rfl⟩) (mB_now hK hP) (va_recv hK hP (ci := 0) (q0 := 0) rfl rfl) rfl hl.1 rfl (Nat.le_of_ble_eq_true rfl) dX3_fault_84 ⟨Nat.le_of_ble_eq_true rfl, Nat.le_of_ble_eq_true rfl⟩ hS (fun u_22 H locs hp_23 hP hS => ?_)
                subst hp_23
                have hP : va_P D vwCl (mX dA h ad σ.txt σ.len σ.wt σ.pr σ.tools σ.load σ.purse σ.beg σ.ways σ.told σ.calls σ.sm σ.sorts σ.visits σ.vm f2 (nI r2) (nI (tkE σ (tkE σ a2))) (nI (tkP σ (tkE σ a2))) (nI (tkE σ (tkE σ a2))) τ.ents τ.em τ.combos τ.all_ τ.weight τ.gain τ.ad_ τ.minute τ.ds τ.bl τ.chosen) H := hP
                refine lv_aload_n hx hb dX3_fault_87 rfl (lv_at hl 1 rfl) ?_
                refine mcVi (As := []) (rest := []) ⟨hx, hb, hml, hown, hts⟩ (mt_X3_readsLine l D dA h ad σ ((f2, nI r2, nI (tkE σ (tkE σ a2)), nI (tkP σ (tkE σ a2)), nI (tkE σ (tkE σ a2)), τ.ents, τ.em, τ.combos, τ.all_, τ.weight, τ.gain, τ.ad_, τ.minute, τ.ds, τ.bl, τ.chosen) : Sc) hmD (tkE σ a2) f2 r2 hI (tk2 ha2) (by omega)) (cw_X3_X3_readsLine hts ⟨Nat.le_of_ble_eq_true rfl, Nat.le_of_ble_eq_true rfl⟩) (mB_now hK hP) (va_recv hK hP (ci := 0) (q0 := 0) rfl rfl) rfl hl.1 rfl (Nat.le_of_ble_eq_true rfl) dX3_fault_88 ⟨Nat.le_of_ble_eq_true rfl, Nat.le_of_ble_eq_true rfl⟩ hS (fun r_24 u_25 H locs hp_26 hP hS => ?_)
                rcases hp_26 with ⟨rfl, fn_27, vs_28, an_29, rfl, hq_30, hro_31, han_32⟩ | ⟨rfl, fp_33, hu_35, k_36, hq_34⟩
                · have hP : va_P D vwCl (mX dA h ad σ.txt σ.len σ.wt σ.pr σ.tools σ.load σ.purse σ.beg σ.ways σ.told σ.calls σ.sm σ.sorts σ.visits σ.vm fn_27 (nI (r2 + 1)) (nI (tkE σ an_29)) (nI (tkP σ an_29)) (nI (tkE σ an_29)) τ.ents τ.em τ.combos τ.all_ τ.weight τ.gain τ.ad_ τ.minute τ.ds τ.bl τ.chosen) H := hP
                  refine lv_istore_n (lv' := [(1, .int 1), (0, .ref h)]) hx hb dX3_fault_91 rfl hl (by decide) rfl (fun ls hl => ?_)
                  refine lv_iload_n hx hb dX3_fault_92 rfl (lv_at hl 0 rfl) ?_
                  refine lv_if_ne (tgt := 101) hx hb dX3_fault_93 rfl (fun _ => ?_) (fun h9 => ?_)
                  rotate_left
                  · exact absurd h9 (by decide)
                  refine lv_goto (tgt := 26) hx hb dX3_fault_101 rfl ?_
                  exact ih_19 an_29 (r2 + 1) fn_27 (acc ++ [vs_28]) ls _ _ (by omega) han_32 (by omega) (by omega) (by rw [List.length_append, hracc]; rfl) (rows_s hracc hrows hro_31 (line_ok hq_30)) (by rw [hall, more_s (by omega) ⟨h47, h61⟩ (by omega) hq_30, show 10 - r2 - 1 = 10 - (r2 + 1) by omega])  (lv_sub hl [1] rfl) hP hS
                · have hP : va_P D vwCl (mX dA h ad u_25.1.txt u_25.1.len u_25.1.wt u_25.1.pr u_25.1.tools u_25.1.load u_25.1.purse u_25.1.beg u_25.1.ways u_25.1.told u_25.1.calls u_25.1.sm u_25.1.sorts u_25.1.visits u_25.1.vm u_25.2.read u_25.2.rm u_25.2.at_ u_25.2.place u_25.2.end_ u_25.2.ents u_25.2.em u_25.2.combos u_25.2.all_ u_25.2.weight u_25.2.gain u_25.2.ad_ u_25.2.minute u_25.2.ds u_25.2.bl u_25.2.chosen) H := hP
                  rw [hu_35, k_36] at hP
                  clear hu_35 k_36
                  have hP : va_P D vwCl (mX dA h ad σ.txt σ.len σ.wt σ.pr σ.tools σ.load σ.purse σ.beg σ.ways σ.told σ.calls σ.sm σ.sorts σ.visits σ.vm u_25.2.read u_25.2.rm u_25.2.at_ (nI fp_33) u_25.2.end_ u_25.2.ents u_25.2.em u_25.2.combos u_25.2.all_ u_25.2.weight u_25.2.gain u_25.2.ad_ u_25.2.minute u_25.2.ds u_25.2.bl u_25.2.chosen) H := hP
                  refine lv_istore_n (lv' := [(1, .int 0), (0, .ref h)]) hx hb dX3_fault_91 rfl hl (by decide) rfl (fun ls hl => ?_)
                  refine lv_iload_n hx hb dX3_fault_92 rfl (lv_at hl 0 rfl) ?_
                  refine lv_if_ne (tgt := 101) hx hb dX3_fault_93 rfl (fun h9 => ?_) (fun _ => ?_)
                  · exact absurd h9 (by decide)
                  refine lv_aload_n hx hb dX3_fault_96 rfl (lv_at hl 1 rfl) ?_
                  refine va_get (D := D) (ci := 0) (v := .int (nI fp_33)) (C := RX3) (T := TX3) (N := 31) hx hb hts in_X3 hown hK hP 0 rfl rfl 18 (by decide) (hts _ q1132) (fun _ h9 => h9) rfl dX3_fault_97 ?_
                  exact rm_i (u := (σ, ((u_25.2.read, u_25.2.rm, u_25.2.at_, nI fp_33, u_25.2.end_, u_25.2.ents, u_25.2.em, u_25.2.combos, u_25.2.all_, u_25.2.weight, u_25.2.gain, u_25.2.ad_, u_25.2.minute, u_25.2.ds, u_25.2.bl, u_25.2.chosen) : Sc))) hQ hx hb hr hlocks hK hP hS ((Or.inr ⟨fp_33, rfl, rfl, (by rw [hall]; exact more_f (by omega) ⟨h47, h61⟩ (by omega) hq_34), (bd_line (tk2 ha2) _ hq_34)⟩)) dX3_fault_100
    exact hL26_17 _ an_9 (0 + 1) fn_7 ([vs_8]) ls _ _ (Nat.lt_succ_self _) han_12 (by omega) (by omega) rfl (rows_0 hro_11 (line_ok hq_10)) (allL_s hq_10)  (lv_sub hl [0] rfl) hP hS
  · have hP : va_P D vwCl (mX dA h ad u_5.1.txt u_5.1.len u_5.1.wt u_5.1.pr u_5.1.tools u_5.1.load u_5.1.purse u_5.1.beg u_5.1.ways u_5.1.told u_5.1.calls u_5.1.sm u_5.1.sorts u_5.1.visits u_5.1.vm u_5.2.read u_5.2.rm u_5.2.at_ u_5.2.place u_5.2.end_ u_5.2.ents u_5.2.em u_5.2.combos u_5.2.all_ u_5.2.weight u_5.2.gain u_5.2.ad_ u_5.2.minute u_5.2.ds u_5.2.bl u_5.2.chosen) H := hP
    rw [hu_15, k_16] at hP
    clear hu_15 k_16
    have hP : va_P D vwCl (mX dA h ad σ.txt σ.len σ.wt σ.pr σ.tools σ.load σ.purse σ.beg σ.ways σ.told σ.calls σ.sm σ.sorts σ.visits σ.vm u_5.2.read u_5.2.rm u_5.2.at_ (nI fp_13) u_5.2.end_ u_5.2.ents u_5.2.em u_5.2.combos u_5.2.all_ u_5.2.weight u_5.2.gain u_5.2.ad_ u_5.2.minute u_5.2.ds u_5.2.bl u_5.2.chosen) H := hP
    refine lv_if_ne (tgt := 26) hx hb dX3_fault_18 rfl (fun h9 => ?_) (fun _ => ?_)
    · exact absurd h9 (by decide)
    refine lv_aload_n hx hb dX3_fault_21 rfl (lv_at hl 0 rfl) ?_
    refine va_get (D := D) (ci := 0) (v := .int (nI fp_13)) (C := RX3) (T := TX3) (N := 31) hx hb hts in_X3 hown hK hP 0 rfl rfl 18 (by decide) (hts _ q1132) (fun _ h9 => h9) rfl dX3_fault_22 ?_
    exact rm_i (u := (σ, ((u_5.2.read, u_5.2.rm, u_5.2.at_, nI fp_13, u_5.2.end_, u_5.2.ents, u_5.2.em, u_5.2.combos, u_5.2.all_, u_5.2.weight, u_5.2.gain, u_5.2.ad_, u_5.2.minute, u_5.2.ds, u_5.2.bl, u_5.2.chosen) : Sc))) hQ hx hb hr hlocks hK hP hS ((Or.inr ⟨fp_13, rfl, rfl, (allL_n hq_14), (bd_line (Nat.zero_le _) _ hq_14)⟩)) dX3_fault_25

def clU (f : Nat → Int32) (b t : Nat) (g : Nat → Int32) : Nat → Nat → Int32
  | 0 => g
  | k + 1 => upd (clU f b t g k) (6 * t + k) (f (b + 2 + k))
def soU (f : Nat → Int32) (b t m : Nat) (g : Nat → Int32) : Nat → Nat → Int32
  | 0 => g
  | k + 1 => upd (soU f b t m g k) (16 * t + 4 * m + k) (f (b + 2 + k))
/-- a line of the row is done -/
def layS (σ : St) (f : Nat → Int32) (b : Nat) : St :=
  if f b = 0 then ((σ.s_wt (upd σ.wt (ix (f (b + 1))) (f (b + 2)))).s_pr (upd σ.pr (ix (f (b + 1))) (f (b + 3)))).s_tools (if f (b + 4) = 1 then σ.tools ||| ((1 : Int32) <<< (f (b + 1) &&& 31)) else σ.tools &&& (((1 : Int32) <<< (f (b + 1) &&& 31)) ^^^ (-1)))
  else if f b = 1 then σ.s_load (f (b + 1)) else if f b = 2 then σ.s_purse (f (b + 1)) else if f b = 3 then σ.s_beg (f (b + 1))
  else if f b = 4 then σ.s_ways (upd (upd σ.ways (6 * ix (f (b + 1)) + ix (f (b + 2))) (f (b + 3))) (6 * ix (f (b + 2)) + ix (f (b + 1))) (f (b + 3)))
  else if f b = 5 then ((σ.s_told (σ.told ||| ((1 : Int32) <<< (f (b + 1) &&& 31)))).s_sm (updN σ.sm (ix (f (b + 1))) 0)).s_calls (clU f b (ix (f (b + 1))) σ.calls 6)
  else if hasP σ.told (f (b + 1)) then (if 4 ≤ σ.sm (ix (f (b + 1))) then σ else (σ.s_sorts (soU f b (ix (f (b + 1))) (σ.sm (ix (f (b + 1)))) σ.sorts 4)).s_sm (updN σ.sm (ix (f (b + 1))) (σ.sm (ix (f (b + 1))) + 1))) else σ
def okB (f : Nat → Int32) (b : Nat) : Prop := (f b = 0 → ∃ t, t < 8 ∧ f (b + 1) = nI t) ∧ (f b = 4 → ∃ x y, x < 6 ∧ y < 6 ∧ f (b + 1) = nI x ∧ f (b + 2) = nI y) ∧ (f b = 5 → ∃ c, c < 6 ∧ f (b + 1) = nI c) ∧ (¬ f b = 0 → ¬ f b = 1 → ¬ f b = 2 → ¬ f b = 3 → ¬ f b = 4 → ¬ f b = 5 → ∃ c, c < 6 ∧ f (b + 1) = nI c)
def tellS (σ : St) (vs : List Int32) : St := layS σ (fun j => vs.getD j 0) 0

def rmX3_lay : Room := { frames := 1, cells := 0, slots := 0, locals := 21 }
set_option maxHeartbeats 1000000 in
theorem mt_X3_lay (l : Launch) (D : va_G) (dA : Nat → ClassId) (h : Nat) (ad : Nat → Nat) (σ : St) (τ : Sc) (hmD : mD h ad) (b_ : Nat) (f_ : Nat → Int32) (hI : Inv σ) (hb8 : b_ + 8 ≤ 80) (hL : okB f_ b_) : Met l yX3_lay (ws_ yX3_lay cX3_lay 5 none) rmX3_lay (va_Pc [.ref h, .int (nI b_)] (mB D dA h ad σ ((f_, τ.rm, τ.at_, τ.place, τ.end_, τ.ents, τ.em, τ.combos, τ.all_, τ.weight, τ.gain, τ.ad_, τ.minute, τ.ds, τ.bl, τ.chosen) : Sc))) (va_Qv (fun (u : MS) => u = (layS σ f_ b_, ((f_, τ.rm, τ.at_, τ.place, τ.end_, τ.ents, τ.em, τ.combos, τ.all_, τ.weight, τ.gain, τ.ad_, τ.minute, τ.ds, τ.bl, τ.chosen) : Sc))) (fun u t => mB D dA h ad u.1 u.2 t) (mA h ad)) 0 0 (mA h ad) := by
  refine w_start (by decide) (Nat.le_of_ble_eq_true rfl) ?_
  intro p e s m args below meth c Q ls hQ hx hb hr hlocks hml hown hnm hts hB hl
  have hown : s.vm.findClass RX3 = some m.cls := hown
  have hl : lv_has ls 5 [(0, .ref h), (1, .int (nI b_))] := hl
  obtain ⟨hP, hK⟩ := hB
  have hP : va_P D vwCl (mX dA h ad σ.txt σ.len σ.wt σ.pr σ.tools σ.load σ.purse σ.beg σ.ways σ.told σ.calls σ.sm σ.sorts σ.visits σ.vm f_ τ.rm τ.at_ τ.place τ.end_ τ.ents τ.em τ.combos τ.all_ τ.weight τ.gain τ.ad_ τ.minute τ.ds τ.bl τ.chosen) s.heap := hP
  have hS : va_S (mA h ad) s.heap s.heap [] := va_S.rf
  refine lv_aload_n hx hb dX3_lay_0 rfl (lv_at hl 0 rfl) ?_
  refine va_get (D := D) (ci := 0) (v := .ref (ad 1)) (C := RX3) (T := TX3) (N := 31) hx hb hts in_X3 hown hK hP 0 rfl rfl 2 (by decide) (hts _ q1116) (fun _ h9 => h9) rfl dX3_lay_1 ?_
  refine lv_iload_n hx hb dX3_lay_4 rfl (lv_at hl 1 rfl) ?_
  refine lv_iconst (v := 1) hx hb dX3_lay_5 rfl ?_
  refine lv_iadd hx hb dX3_lay_6 ?_
  refine wa_iald (f := f_) hx hb hK hP 2 0 rfl rfl (b_ + 1) ((nz_add rfl rfl)) (by omega) (by decide) dX3_lay_7 ?_
  refine lv_istore_n (lv' := [(2, .int (f_ (b_ + 1))), (0, .ref h), (1, .int (nI b_))]) hx hb dX3_lay_8 rfl hl (by decide) rfl (fun ls hl => ?_)
  refine lv_aload_n hx hb dX3_lay_9 rfl (lv_at hl 1 rfl) ?_
  refine va_get (D := D) (ci := 0) (v := .ref (ad 1)) (C := RX3) (T := TX3) (N := 31) hx hb hts in_X3 hown hK hP 0 rfl rfl 2 (by decide) (hts _ q1116) (fun _ h9 => h9) rfl dX3_lay_10 ?_
  refine lv_iload_n hx hb dX3_lay_13 rfl (lv_at hl 2 rfl) ?_
  refine lv_iconst (v := 2) hx hb dX3_lay_14 rfl ?_
  refine lv_iadd hx hb dX3_lay_15 ?_
  refine wa_iald (f := f_) hx hb hK hP 2 0 rfl rfl (b_ + 2) ((nz_add rfl rfl)) (by omega) (by decide) dX3_lay_16 ?_
  refine lv_istore_n (lv' := [(3, .int (f_ (b_ + 2))), (2, .int (f_ (b_ + 1))), (0, .ref h), (1, .int (nI b_))]) hx hb dX3_lay_17 rfl hl (by decide) rfl (fun ls hl => ?_)
  refine lv_aload_n hx hb dX3_lay_18 rfl (lv_at hl 2 rfl) ?_
  refine va_get (D := D) (ci := 0) (v := .ref (ad 1)) (C := RX3) (T := TX3) (N := 31) hx hb hts in_X3 hown hK hP 0 rfl rfl 2 (by decide) (hts _ q1116) (fun _ h9 => h9) rfl dX3_lay_19 ?_
  refine lv_iload_n hx hb dX3_lay_22 rfl (lv_at hl 3 rfl) ?_
  refine wa_iald (f := f_) hx hb hK hP 2 0 rfl rfl (b_) (rfl) (by omega) (by decide) dX3_lay_23 ?_
  by_cases h24_0 : (f_ b_) = 0
  · refine lv_tableIn (tgt := 64) hx hb dX3_lay_24 (by rw [h24_0]; decide) (by rw [h24_0]; decide) (by rw [h24_0]; rfl) rfl ?_
    obtain ⟨t_, ht_, et_⟩ := hL.1 h24_0
    have hix_t_ : ix (f_ (b_ + 1)) = t_ := by rw [et_]; exact ix_nI ht_ (by decide)
    refine lv_aload_n hx hb dX3_lay_64 rfl (lv_at hl 2 rfl) ?_
    refine va_get (D := D) (ci := 0) (v := .ref (ad 2)) (C := RX3) (T := TX3) (N := 31) hx hb hts in_X3 hown hK hP 0 rfl rfl 4 (by decide) (hts _ q1118) (fun _ h9 => h9) rfl dX3_lay_65 ?_
    refine lv_iload_n hx hb dX3_lay_68 rfl (lv_at hl 1 rfl) ?_
    refine lv_iload_n hx hb dX3_lay_69 rfl (lv_at hl 0 rfl) ?_
    refine wa_iast (f := σ.wt) hx hb hK hP (mD_va hmD dA σ ((f_, τ.rm, τ.at_, τ.place, τ.end_, τ.ents, τ.em, τ.combos, τ.all_, τ.weight, τ.gain, τ.ad_, τ.minute, τ.ds, τ.bl, τ.chosen) : Sc)) hS 3 0 rfl rfl (t_) (et_) (by omega) (by decide) dX3_lay_70 (fun H locs f_1 ef_1 hP hS => ?_)
    have hP : va_P D vwCl (mX dA h ad σ.txt σ.len f_1 σ.pr σ.tools σ.load σ.purse σ.beg σ.ways σ.told σ.calls σ.sm σ.sorts σ.visits σ.vm f_ τ.rm τ.at_ τ.place τ.end_ τ.ents τ.em τ.combos τ.all_ τ.weight τ.gain τ.ad_ τ.minute τ.ds τ.bl τ.chosen) H := hP
    refine lv_aload_n hx hb dX3_lay_71 rfl (lv_at hl 2 rfl) ?_
    refine va_get (D := D) (ci := 0) (v := .ref (ad 3)) (C := RX3) (T := TX3) (N := 31) hx hb hts in_X3 hown hK hP 0 rfl rfl 5 (by decide) (hts _ q1119) (fun _ h9 => h9) rfl dX3_lay_72 ?_
    refine lv_iload_n hx hb dX3_lay_75 rfl (lv_at hl 1 rfl) ?_
    refine lv_aload_n hx hb dX3_lay_76 rfl (lv_at hl 2 rfl) ?_
    refine va_get (D := D) (ci := 0) (v := .ref (ad 1)) (C := RX3) (T := TX3) (N := 31) hx hb hts in_X3 hown hK hP 0 rfl rfl 2 (by decide) (hts _ q1116) (fun _ h9 => h9) rfl dX3_lay_77 ?_
    refine lv_iload_n hx hb dX3_lay_80 rfl (lv_at hl 3 rfl) ?_
    refine lv_iconst (v := 3) hx hb dX3_lay_81 rfl ?_
    refine lv_iadd hx hb dX3_lay_82 ?_
    refine wa_iald (f := f_) hx hb hK hP 2 0 rfl rfl (b_ + 3) ((nz_add rfl rfl)) (by omega) (by decide) dX3_lay_83 ?_
    refine wa_iast (f := σ.pr) hx hb hK hP (mD_va hmD dA ((σ.txt, σ.len, f_1, σ.pr, σ.tools, σ.load, σ.purse, σ.beg, σ.ways, σ.told, σ.calls, σ.sm, σ.sorts, σ.visits, σ.vm) : St) ((f_, τ.rm, τ.at_, τ.place, τ.end_, τ.ents, τ.em, τ.combos, τ.all_, τ.weight, τ.gain, τ.ad_, τ.minute, τ.ds, τ.bl, τ.chosen) : Sc)) hS 4 0 rfl rfl (t_) (et_) (by omega) (by decide) dX3_lay_84 (fun H locs f_2 ef_2 hP hS => ?_)
    have hP : va_P D vwCl (mX dA h ad σ.txt σ.len f_1 f_2 σ.tools σ.load σ.purse σ.beg σ.ways σ.told σ.calls σ.sm σ.sorts σ.visits σ.vm f_ τ.rm τ.at_ τ.place τ.end_ τ.ents τ.em τ.combos τ.all_ τ.weight τ.gain τ.ad_ τ.minute τ.ds τ.bl τ.chosen) H := hP
    refine lv_aload_n hx hb dX3_lay_85 rfl (lv_at hl 2 rfl) ?_
    refine lv_aload_n hx hb dX3_lay_86 rfl (lv_at hl 2 rfl) ?_
    refine va_get (D := D) (ci := 0) (v := .ref (ad 1)) (C := RX3) (T := TX3) (N := 31) hx hb hts in_X3 hown hK hP 0 rfl rfl 2 (by decide) (hts _ q1116) (fun _ h9 => h9) rfl dX3_lay_87 ?_
    refine lv_iload_n hx hb dX3_lay_90 rfl (lv_at hl 3 rfl) ?_
    refine lv_iconst (v := 4) hx hb dX3_lay_91 rfl ?_
    refine lv_iadd hx hb dX3_lay_92 ?_
    refine wa_iald (f := f_) hx hb hK hP 2 0 rfl rfl (b_ + 4) ((nz_add rfl rfl)) (by omega) (by decide) dX3_lay_93 ?_
    refine lv_iconst (v := 1) hx hb dX3_lay_94 rfl ?_
    have hJ119_3 : ∀ (v_4 : Int32) (ls : Array Slot), v_4 = (if (f_ (b_ + 4)) = 1 then σ.tools ||| ((1 : Int32) <<< ((f_ (b_ + 1)) &&& 31)) else σ.tools &&& (((1 : Int32) <<< ((f_ (b_ + 1)) &&& 31)) ^^^ (-1))) → lv_has ls 5 [(3, .int (f_ (b_ + 2))), (2, .int (f_ (b_ + 1))), (0, .ref h), (1, .int (nI b_))] → W p l e rmX3_lay s m args below meth c H locs 0 0 Q (F0 m 119 ls [.int v_4, .ref h]) := by
      intro v_4 ls ev_4 hl
      refine va_put (D := D) (ci := 0) (v := .int v_4) (ty := .int) (C := RX3) (T := TX3) (N := 31) hx hb hts in_X3 tyX3 tyX3_ok nmX3 hown hK hP (mD_va hmD dA ((σ.txt, σ.len, f_1, f_2, σ.tools, σ.load, σ.purse, σ.beg, σ.ways, σ.told, σ.calls, σ.sm, σ.sorts, σ.visits, σ.vm) : St) ((f_, τ.rm, τ.at_, τ.place, τ.end_, τ.ents, τ.em, τ.combos, τ.all_, τ.weight, τ.gain, τ.ad_, τ.minute, τ.ds, τ.bl, τ.chosen) : Sc)) hS 0 rfl rfl 6 (by decide) (hts _ q1120) (fun _ h9 => h9) rfl (by decide +kernel) (rfl) (rfl) (Nat.le_of_ble_eq_true rfl) dX3_lay_119 (fun H locs hP _ hS => ?_)
      have hP : va_P D vwCl (mX dA h ad σ.txt σ.len f_1 f_2 v_4 σ.load σ.purse σ.beg σ.ways σ.told σ.calls σ.sm σ.sorts σ.visits σ.vm f_ τ.rm τ.at_ τ.place τ.end_ τ.ents τ.em τ.combos τ.all_ τ.weight τ.gain τ.ad_ τ.minute τ.ds τ.bl τ.chosen) H := hP
      exact rm_v (u := (((σ.txt, σ.len, f_1, f_2, v_4, σ.load, σ.purse, σ.beg, σ.ways, σ.told, σ.calls, σ.sm, σ.sorts, σ.visits, σ.vm) : St), ((f_, τ.rm, τ.at_, τ.place, τ.end_, τ.ents, τ.em, τ.combos, τ.all_, τ.weight, τ.gain, τ.ad_, τ.minute, τ.ds, τ.bl, τ.chosen) : Sc))) hQ hx hb hr hlocks hK hP hS (by subst_vars; simp only [layS, eq_true h24_0, if_true, if_false, ite_true, ite_false, not_true_eq_false, not_false_eq_true, and_true, true_and, and_false, false_and, or_true, true_or, or_false, false_or, and_self, or_self, eq_self] <;> rfl) dX3_lay_122
    refine lv_icmp_ne (tgt := 109) hx hb dX3_lay_95 rfl (fun h95 => ?_) (fun h95 => ?_)
    · have h95 : ¬ ((f_ (b_ + 4)) = 1) := h95
      refine lv_aload_n hx hb dX3_lay_109 rfl (lv_at hl 2 rfl) ?_
      refine va_get (D := D) (ci := 0) (v := .int σ.tools) (C := RX3) (T := TX3) (N := 31) hx hb hts in_X3 hown hK hP 0 rfl rfl 6 (by decide) (hts _ q1120) (fun _ h9 => h9) rfl dX3_lay_110 ?_
      refine lv_iconst (v := 1) hx hb dX3_lay_113 rfl ?_
      refine lv_iload_n hx hb dX3_lay_114 rfl (lv_at hl 1 rfl) ?_
      refine lv_ishl hx hb dX3_lay_115 ?_
      refine lv_iconst (v := (-1)) hx hb dX3_lay_116 rfl ?_
      refine lv_ixor hx hb dX3_lay_117 ?_
      refine lv_iand hx hb dX3_lay_118 ?_
      exact hJ119_3 (σ.tools &&& (((1 : Int32) <<< ((f_ (b_ + 1)) &&& 31)) ^^^ (-1))) ls (by rw [if_neg h95]) (lv_sub hl [0, 1, 2, 3] rfl)
    · have h95 : (f_ (b_ + 4)) = 1 := h95
      refine lv_aload_n hx hb dX3_lay_98 rfl (lv_at hl 2 rfl) ?_
      refine va_get (D := D) (ci := 0) (v := .int σ.tools) (C := RX3) (T := TX3) (N := 31) hx hb hts in_X3 hown hK hP 0 rfl rfl 6 (by decide) (hts _ q1120) (fun _ h9 => h9) rfl dX3_lay_99 ?_
      refine lv_iconst (v := 1) hx hb dX3_lay_102 rfl ?_
      refine lv_iload_n hx hb dX3_lay_103 rfl (lv_at hl 1 rfl) ?_
      refine lv_ishl hx hb dX3_lay_104 ?_
      refine lv_ior hx hb dX3_lay_105 ?_
      refine lv_goto (tgt := 119) hx hb dX3_lay_106 rfl ?_
      exact hJ119_3 (σ.tools ||| ((1 : Int32) <<< ((f_ (b_ + 1)) &&& 31))) ls (by rw [if_pos h95]) (lv_sub hl [0, 1, 2, 3] rfl)
  by_cases h24_1 : (f_ b_) = 1
  · refine lv_tableIn (tgt := 123) hx hb dX3_lay_24 (by rw [h24_1]; decide) (by rw [h24_1]; decide) (by rw [h24_1]; rfl) rfl ?_
    refine lv_aload_n hx hb dX3_lay_123 rfl (lv_at hl 2 rfl) ?_
    refine lv_iload_n hx hb dX3_lay_124 rfl (lv_at hl 1 rfl) ?_
    refine lv_topi (fun g_5 eg_5 => ?_)
    refine va_put (D := D) (ci := 0) (v := .int g_5) (ty := .int) (C := RX3) (T := TX3) (N := 31) hx hb hts in_X3 tyX3 tyX3_ok nmX3 hown hK hP (mD_va hmD dA σ ((f_, τ.rm, τ.at_, τ.place, τ.end_, τ.ents, τ.em, τ.combos, τ.all_, τ.weight, τ.gain, τ.ad_, τ.minute, τ.ds, τ.bl, τ.chosen) : Sc)) hS 0 rfl rfl 7 (by decide) (hts _ q1121) (fun _ h9 => h9) rfl (by decide +kernel) (rfl) (rfl) (Nat.le_of_ble_eq_true rfl) dX3_lay_125 (fun H locs hP _ hS => ?_)
    have hP : va_P D vwCl (mX dA h ad σ.txt σ.len σ.wt σ.pr σ.tools g_5 σ.purse σ.beg σ.ways σ.told σ.calls σ.sm σ.sorts σ.visits σ.vm f_ τ.rm τ.at_ τ.place τ.end_ τ.ents τ.em τ.combos τ.all_ τ.weight τ.gain τ.ad_ τ.minute τ.ds τ.bl τ.chosen) H := hP
    exact rm_v (u := (((σ.txt, σ.len, σ.wt, σ.pr, σ.tools, g_5, σ.purse, σ.beg, σ.ways, σ.told, σ.calls, σ.sm, σ.sorts, σ.visits, σ.vm) : St), ((f_, τ.rm, τ.at_, τ.place, τ.end_, τ.ents, τ.em, τ.combos, τ.all_, τ.weight, τ.gain, τ.ad_, τ.minute, τ.ds, τ.bl, τ.chosen) : Sc))) hQ hx hb hr hlocks hK hP hS (by subst_vars; simp only [layS, eq_false h24_0, eq_true h24_1, if_true, if_false, ite_true, ite_false, not_true_eq_false, not_false_eq_true, and_true, true_and, and_false, false_and, or_true, true_or, or_false, false_or, and_self, or_self, eq_self] <;> rfl) dX3_lay_128
  by_cases h24_2 : (f_ b_) = 2
  · refine lv_tableIn (tgt := 129) hx hb dX3_lay_24 (by rw [h24_2]; decide) (by rw [h24_2]; decide) (by rw [h24_2]; rfl) rfl ?_
    refine lv_aload_n hx hb dX3_lay_129 rfl (lv_at hl 2 rfl) ?_
    refine lv_iload_n hx hb dX3_lay_130 rfl (lv_at hl 1 rfl) ?_
    refine lv_topi (fun g_6 eg_6 => ?_)
    refine va_put (D := D) (ci := 0) (v := .int g_6) (ty := .int) (C := RX3) (T := TX3) (N := 31) hx hb hts in_X3 tyX3 tyX3_ok nmX3 hown hK hP (mD_va hmD dA σ ((f_, τ.rm, τ.at_, τ.place, τ.end_, τ.ents, τ.em, τ.combos, τ.all_, τ.weight, τ.gain, τ.ad_, τ.minute, τ.ds, τ.bl, τ.chosen) : Sc)) hS 0 rfl rfl 8 (by decide) (hts _ q1122) (fun _ h9 => h9) rfl (by decide +kernel) (rfl) (rfl) (Nat.le_of_ble_eq_true rfl) dX3_lay_131 (fun H locs hP _ hS => ?_)
    have hP : va_P D vwCl (mX dA h ad σ.txt σ.len σ.wt σ.pr σ.tools σ.load g_6 σ.beg σ.ways σ.told σ.calls σ.sm σ.sorts σ.visits σ.vm f_ τ.rm τ.at_ τ.place τ.end_ τ.ents τ.em τ.combos τ.all_ τ.weight τ.gain τ.ad_ τ.minute τ.ds τ.bl τ.chosen) H := hP
    exact rm_v (u := (((σ.txt, σ.len, σ.wt, σ.pr, σ.tools, σ.load, g_6, σ.beg, σ.ways, σ.told, σ.calls, σ.sm, σ.sorts, σ.visits, σ.vm) : St), ((f_, τ.rm, τ.at_, τ.place, τ.end_, τ.ents, τ.em, τ.combos, τ.all_, τ.weight, τ.gain, τ.ad_, τ.minute, τ.ds, τ.bl, τ.chosen) : Sc))) hQ hx hb hr hlocks hK hP hS (by subst_vars; simp only [layS, eq_false h24_0, eq_false h24_1, eq_true h24_2, if_true, if_false, ite_true, ite_false, not_true_eq_false, not_false_eq_true, and_true, true_and, and_false, false_and, or_true, true_or, or_false, false_or, and_self, or_self, eq_self] <;> rfl) dX3_lay_134
  by_cases h24_3 : (f_ b_) = 3
  · refine lv_tableIn (tgt := 135) hx hb dX3_lay_24 (by rw [h24_3]; decide) (by rw [h24_3]; decide) (by rw [h24_3]; rfl) rfl ?_
    refine lv_aload_n hx hb dX3_lay_135 rfl (lv_at hl 2 rfl) ?_
    refine lv_iload_n hx hb dX3_lay_136 rfl (lv_at hl 1 rfl) ?_
    refine lv_topi (fun g_7 eg_7 => ?_)
    refine va_put (D := D) (ci := 0) (v := .int g_7) (ty := .int) (C := RX3) (T := TX3) (N := 31) hx hb hts in_X3 tyX3 tyX3_ok nmX3 hown hK hP (mD_va hmD dA σ ((f_, τ.rm, τ.at_, τ.place, τ.end_, τ.ents, τ.em, τ.combos, τ.all_, τ.weight, τ.gain, τ.ad_, τ.minute, τ.ds, τ.bl, τ.chosen) : Sc)) hS 0 rfl rfl 9 (by decide) (hts _ q1123) (fun _ h9 => h9) rfl (by decide +kernel) (rfl) (rfl) (Nat.le_of_ble_eq_true rfl) dX3_lay_137 (fun H locs hP _ hS => ?_)
    have hP : va_P D vwCl (mX dA h ad σ.txt σ.len σ.wt σ.pr σ.tools σ.load σ.purse g_7 σ.ways σ.told σ.calls σ.sm σ.sorts σ.visits σ.vm f_ τ.rm τ.at_ τ.place τ.end_ τ.ents τ.em τ.combos τ.all_ τ.weight τ.gain τ.ad_ τ.minute τ.ds τ.bl τ.chosen) H := hP
    exact rm_v (u := (((σ.txt, σ.len, σ.wt, σ.pr, σ.tools, σ.load, σ.purse, g_7, σ.ways, σ.told, σ.calls, σ.sm, σ.sorts, σ.visits, σ.vm) : St), ((f_, τ.rm, τ.at_, τ.place, τ.end_, τ.ents, τ.em, τ.combos, τ.all_, τ.weight, τ.gain, τ.ad_, τ.minute, τ.ds, τ.bl, τ.chosen) : Sc))) hQ hx hb hr hlocks hK hP hS (by subst_vars; simp only [layS, eq_false h24_0, eq_false h24_1, eq_false h24_2, eq_true h24_3, if_true, if_false, ite_true, ite_false, not_true_eq_false, not_false_eq_true, and_true, true_and, and_false, false_and, or_true, true_or, or_false, false_or, and_self, or_self, eq_self] <;> rfl) dX3_lay_140
  by_cases h24_4 : (f_ b_) = 4
  · refine lv_tableIn (tgt := 141) hx hb dX3_lay_24 (by rw [h24_4]; decide) (by rw [h24_4]; decide) (by rw [h24_4]; rfl) rfl ?_
    obtain ⟨x_, y_, hx_, hy_, ex_, ey_⟩ := hL.2.1 h24_4
    have hix_x_ : ix (f_ (b_ + 1)) = x_ := by rw [ex_]; exact ix_nI hx_ (by decide)
    have hix_y_ : ix (f_ (b_ + 2)) = y_ := by rw [ey_]; exact ix_nI hy_ (by decide)
    refine lv_aload_n hx hb dX3_lay_141 rfl (lv_at hl 2 rfl) ?_
    refine va_get (D := D) (ci := 0) (v := .ref (ad 4)) (C := RX3) (T := TX3) (N := 31) hx hb hts in_X3 hown hK hP 0 rfl rfl 10 (by decide) (hts _ q1124) (fun _ h9 => h9) rfl dX3_lay_142 ?_
    refine lv_bipush (v := 6) hx hb dX3_lay_145 rfl ?_
    refine lv_iload_n hx hb dX3_lay_147 rfl (lv_at hl 1 rfl) ?_
    refine lv_imul hx hb dX3_lay_148 ?_
    refine lv_iload_n hx hb dX3_lay_149 rfl (lv_at hl 0 rfl) ?_
    refine lv_iadd hx hb dX3_lay_150 ?_
    refine lv_aload_n hx hb dX3_lay_151 rfl (lv_at hl 2 rfl) ?_
    refine va_get (D := D) (ci := 0) (v := .ref (ad 1)) (C := RX3) (T := TX3) (N := 31) hx hb hts in_X3 hown hK hP 0 rfl rfl 2 (by decide) (hts _ q1116) (fun _ h9 => h9) rfl dX3_lay_152 ?_
    refine lv_iload_n hx hb dX3_lay_155 rfl (lv_at hl 3 rfl) ?_
    refine lv_iconst (v := 3) hx hb dX3_lay_156 rfl ?_
    refine lv_iadd hx hb dX3_lay_157 ?_
    refine wa_iald (f := f_) hx hb hK hP 2 0 rfl rfl (b_ + 3) ((nz_add rfl rfl)) (by omega) (by decide) dX3_lay_158 ?_
    refine wa_iast (f := σ.ways) hx hb hK hP (mD_va hmD dA σ ((f_, τ.rm, τ.at_, τ.place, τ.end_, τ.ents, τ.em, τ.combos, τ.all_, τ.weight, τ.gain, τ.ad_, τ.minute, τ.ds, τ.bl, τ.chosen) : Sc)) hS 5 0 rfl rfl ((6 * x_) + y_) ((nz_add (nz_mul rfl ex_) ey_)) (by omega) (by decide) dX3_lay_159 (fun H locs f_8 ef_8 hP hS => ?_)
    have hP : va_P D vwCl (mX dA h ad σ.txt σ.len σ.wt σ.pr σ.tools σ.load σ.purse σ.beg f_8 σ.told σ.calls σ.sm σ.sorts σ.visits σ.vm f_ τ.rm τ.at_ τ.place τ.end_ τ.ents τ.em τ.combos τ.all_ τ.weight τ.gain τ.ad_ τ.minute τ.ds τ.bl τ.chosen) H := hP
    refine lv_aload_n hx hb dX3_lay_160 rfl (lv_at hl 2 rfl) ?_
    refine va_get (D := D) (ci := 0) (v := .ref (ad 4)) (C := RX3) (T := TX3) (N := 31) hx hb hts in_X3 hown hK hP 0 rfl rfl 10 (by decide) (hts _ q1124) (fun _ h9 => h9) rfl dX3_lay_161 ?_
    refine lv_bipush (v := 6) hx hb dX3_lay_164 rfl ?_
    refine lv_iload_n hx hb dX3_lay_166 rfl (lv_at hl 0 rfl) ?_
    refine lv_imul hx hb dX3_lay_167 ?_
    refine lv_iload_n hx hb dX3_lay_168 rfl (lv_at hl 1 rfl) ?_
    refine lv_iadd hx hb dX3_lay_169 ?_
    refine lv_aload_n hx hb dX3_lay_170 rfl (lv_at hl 2 rfl) ?_
    refine va_get (D := D) (ci := 0) (v := .ref (ad 1)) (C := RX3) (T := TX3) (N := 31) hx hb hts in_X3 hown hK hP 0 rfl rfl 2 (by decide) (hts _ q1116) (fun _ h9 => h9) rfl dX3_lay_171 ?_
    refine lv_iload_n hx hb dX3_lay_174 rfl (lv_at hl 3 rfl) ?_
    refine lv_iconst (v := 3) hx hb dX3_lay_175 rfl ?_
    refine lv_iadd hx hb dX3_lay_176 ?_
    refine wa_iald (f := f_) hx hb hK hP 2 0 rfl rfl (b_ + 3) ((nz_add rfl rfl)) (by omega) (by decide) dX3_lay_177 ?_
    refine wa_iast (f := f_8) hx hb hK hP (mD_va hmD dA ((σ.txt, σ.len, σ.wt, σ.pr, σ.tools, σ.load, σ.purse, σ.beg, f_8, σ.told, σ.calls, σ.sm, σ.sorts, σ.visits, σ.vm) : St) ((f_, τ.rm, τ.at_, τ.place, τ.end_, τ.ents, τ.em, τ.combos, τ.all_, τ.weight, τ.gain, τ.ad_, τ.minute, τ.ds, τ.bl, τ.chosen) : Sc)) hS 5 0 rfl rfl ((6 * y_) + x_) ((nz_add (nz_mul rfl ey_) ex_)) (by omega) (by decide) dX3_lay_178 (fun H locs f_9 ef_9 hP hS => ?_)
    have hP : va_P D vwCl (mX dA h ad σ.txt σ.len σ.wt σ.pr σ.tools σ.load σ.purse σ.beg f_9 σ.told σ.calls σ.sm σ.sorts σ.visits σ.vm f_ τ.rm τ.at_ τ.place τ.end_ τ.ents τ.em τ.combos τ.all_ τ.weight τ.gain τ.ad_ τ.minute τ.ds τ.bl τ.chosen) H := hP
    exact rm_v (u := (((σ.txt, σ.len, σ.wt, σ.pr, σ.tools, σ.load, σ.purse, σ.beg, f_9, σ.told, σ.calls, σ.sm, σ.sorts, σ.visits, σ.vm) : St), ((f_, τ.rm, τ.at_, τ.place, τ.end_, τ.ents, τ.em, τ.combos, τ.all_, τ.weight, τ.gain, τ.ad_, τ.minute, τ.ds, τ.bl, τ.chosen) : Sc))) hQ hx hb hr hlocks hK hP hS (by subst_vars; simp only [layS, eq_false h24_0, eq_false h24_1, eq_false h24_2, eq_false h24_3, eq_true h24_4, if_true, if_false, ite_true, ite_false, not_true_eq_false, not_false_eq_true, and_true, true_and, and_false, false_and, or_true, true_or, or_false, false_or, and_self, or_self, eq_self] <;> rfl) dX3_lay_179
  by_cases h24_5 : (f_ b_) = 5
  · refine lv_tableIn (tgt := 180) hx hb dX3_lay_24 (by rw [h24_5]; decide) (by rw [h24_5]; decide) (by rw [h24_5]; rfl) rfl ?_
    obtain ⟨c_, hc_, ec_⟩ := hL.2.2.1 h24_5
    have hix_c_ : ix (f_ (b_ + 1)) = c_ := by rw [ec_]; exact ix_nI hc_ (by decide)
    refine lv_aload_n hx hb dX3_lay_180 rfl (lv_at hl 2 rfl) ?_
    refine lv_dup hx hb dX3_lay_181 rfl ?_
    refine va_get (D := D) (ci := 0) (v := .int σ.told) (C := RX3) (T := TX3) (N := 31) hx hb hts in_X3 hown hK hP 0 rfl rfl 11 (by decide) (hts _ q1125) (fun _ h9 => h9) rfl dX3_lay_182 ?_
    refine lv_iconst (v := 1) hx hb dX3_lay_185 rfl ?_
    refine lv_iload_n hx hb dX3_lay_186 rfl (lv_at hl 1 rfl) ?_
    refine lv_ishl hx hb dX3_lay_187 ?_
    refine lv_ior hx hb dX3_lay_188 ?_
    refine lv_topi (fun g_10 eg_10 => ?_)
    refine va_put (D := D) (ci := 0) (v := .int g_10) (ty := .int) (C := RX3) (T := TX3) (N := 31) hx hb hts in_X3 tyX3 tyX3_ok nmX3 hown hK hP (mD_va hmD dA σ ((f_, τ.rm, τ.at_, τ.place, τ.end_, τ.ents, τ.em, τ.combos, τ.all_, τ.weight, τ.gain, τ.ad_, τ.minute, τ.ds, τ.bl, τ.chosen) : Sc)) hS 0 rfl rfl 11 (by decide) (hts _ q1125) (fun _ h9 => h9) rfl (by decide +kernel) (rfl) (rfl) (Nat.le_of_ble_eq_true rfl) dX3_lay_189 (fun H locs hP _ hS => ?_)
    have hP : va_P D vwCl (mX dA h ad σ.txt σ.len σ.wt σ.pr σ.tools σ.load σ.purse σ.beg σ.ways g_10 σ.calls σ.sm σ.sorts σ.visits σ.vm f_ τ.rm τ.at_ τ.place τ.end_ τ.ents τ.em τ.combos τ.all_ τ.weight τ.gain τ.ad_ τ.minute τ.ds τ.bl τ.chosen) H := hP
    refine lv_aload_n hx hb dX3_lay_192 rfl (lv_at hl 2 rfl) ?_
    refine va_get (D := D) (ci := 0) (v := .ref (ad 6)) (C := RX3) (T := TX3) (N := 31) hx hb hts in_X3 hown hK hP 0 rfl rfl 13 (by decide) (hts _ q1127) (fun _ h9 => h9) rfl dX3_lay_193 ?_
    refine lv_iload_n hx hb dX3_lay_196 rfl (lv_at hl 1 rfl) ?_
    refine lv_iconst (v := 0) hx hb dX3_lay_197 rfl ?_
    refine w_topi (y := nI 0) (nI_0.symm) ?_
    refine wa_iast0 (f := fun c => nI (σ.sm c)) hx hb hK hP (mD_va hmD dA ((σ.txt, σ.len, σ.wt, σ.pr, σ.tools, σ.load, σ.purse, σ.beg, σ.ways, g_10, σ.calls, σ.sm, σ.sorts, σ.visits, σ.vm) : St) ((f_, τ.rm, τ.at_, τ.place, τ.end_, τ.ents, τ.em, τ.combos, τ.all_, τ.weight, τ.gain, τ.ad_, τ.minute, τ.ds, τ.bl, τ.chosen) : Sc)) hS 7 0 rfl rfl (c_) (ec_) (by omega) (by decide) dX3_lay_198 (fun H locs  hP hS => ?_)
    rw [updN_nI] at hP
    obtain ⟨f_11, ef_11⟩ : ∃ f, f = updN σ.sm c_ 0 := ⟨_, rfl⟩
    rw [← ef_11] at hP
    have hP : va_P D vwCl (mX dA h ad σ.txt σ.len σ.wt σ.pr σ.tools σ.load σ.purse σ.beg σ.ways g_10 σ.calls f_11 σ.sorts σ.visits σ.vm f_ τ.rm τ.at_ τ.place τ.end_ τ.ents τ.em τ.combos τ.all_ τ.weight τ.gain τ.ad_ τ.minute τ.ds τ.bl τ.chosen) H := hP
    refine lv_iconst (v := 0) hx hb dX3_lay_199 rfl ?_
    refine lv_istore (lv' := [(4, .int 0), (3, .int (f_ (b_ + 2))), (2, .int (f_ (b_ + 1))), (0, .ref h), (1, .int (nI b_))]) hx hb dX3_lay_200 hl (by decide) rfl (fun ls hl => ?_)
    have hL202_12 : ∀ (n_13 : Nat) (k : Nat) (x4 : Int32) (ls : Array Slot) (H : Heap) (locs : List Loc), (6 - k) < n_13 → (k ≤ 6) → x4 = (nI k) → lv_has ls 5 [(4, .int x4), (3, .int (f_ (b_ + 2))), (2, .int (f_ (b_ + 1))), (0, .ref h), (1, .int (nI b_))] → va_P D vwCl (mX dA h ad σ.txt σ.len σ.wt σ.pr σ.tools σ.load σ.purse σ.beg σ.ways g_10 (clU f_ b_ c_ σ.calls k) f_11 σ.sorts σ.visits σ.vm f_ τ.rm τ.at_ τ.place τ.end_ τ.ents τ.em τ.combos τ.all_ τ.weight τ.gain τ.ad_ τ.minute τ.ds τ.bl τ.chosen) H → va_S (mA h ad) s.heap H locs → W p l e rmX3_lay s m args below meth c H locs 0 0 Q (F0 m 202 ls []) := by
      intro n_13
      induction n_13 with
      | zero => intro k x4 ls H locs hm_15; exact absurd hm_15 (Nat.not_lt_zero _)
      | succ n_13 ih_14 =>
        intro k x4 ls H locs hm_15 hk ex4 hl hP hS
        subst ex4
        refine lv_iload hx hb dX3_lay_202 (lv_at hl 0 rfl) ?_
        refine lv_bipush (v := 6) hx hb dX3_lay_204 rfl ?_
        refine lv_icmp_ge (tgt := 238) hx hb dX3_lay_206 rfl (fun h206 => ?_) (fun h206 => ?_)
        · have h206 : 6 ≤ k := (nz_le (a := 6) (b := k) rfl rfl (by omega) (by omega)).mp h206
          have hk_ : k = 6 := by omega
          subst hk_
          exact rm_v (u := (((σ.txt, σ.len, σ.wt, σ.pr, σ.tools, σ.load, σ.purse, σ.beg, σ.ways, g_10, clU f_ b_ c_ σ.calls 6, f_11, σ.sorts, σ.visits, σ.vm) : St), ((f_, τ.rm, τ.at_, τ.place, τ.end_, τ.ents, τ.em, τ.combos, τ.all_, τ.weight, τ.gain, τ.ad_, τ.minute, τ.ds, τ.bl, τ.chosen) : Sc))) hQ hx hb hr hlocks hK hP hS (by subst_vars; simp only [layS, eq_false h24_0, eq_false h24_1, eq_false h24_2, eq_false h24_3, eq_false h24_4, eq_true h24_5, eq_true h206, if_true, if_false, ite_true, ite_false, not_true_eq_false, not_false_eq_true, and_true, true_and, and_false, false_and, or_true, true_or, or_false, false_or, and_self, or_self, eq_self] <;> rfl) dX3_lay_238
        · have h206 : ¬ (6 ≤ k) := fun z9 => h206 ((nz_le (a := 6) (b := k) rfl rfl (by omega) (by omega)).mpr z9)
          refine lv_aload_n hx hb dX3_lay_209 rfl (lv_at hl 3 rfl) ?_
          refine va_get (D := D) (ci := 0) (v := .ref (ad 5)) (C := RX3) (T := TX3) (N := 31) hx hb hts in_X3 hown hK hP 0 rfl rfl 12 (by decide) (hts _ q1126) (fun _ h9 => h9) rfl dX3_lay_210 ?_
          refine lv_bipush (v := 6) hx hb dX3_lay_213 rfl ?_
          refine lv_iload_n hx hb dX3_lay_215 rfl (lv_at hl 2 rfl) ?_
          refine lv_imul hx hb dX3_lay_216 ?_
          refine lv_iload hx hb dX3_lay_217 (lv_at hl 0 rfl) ?_
          refine lv_iadd hx hb dX3_lay_219 ?_
          refine lv_aload_n hx hb dX3_lay_220 rfl (lv_at hl 3 rfl) ?_
          refine va_get (D := D) (ci := 0) (v := .ref (ad 1)) (C := RX3) (T := TX3) (N := 31) hx hb hts in_X3 hown hK hP 0 rfl rfl 2 (by decide) (hts _ q1116) (fun _ h9 => h9) rfl dX3_lay_221 ?_
          refine lv_iload_n hx hb dX3_lay_224 rfl (lv_at hl 4 rfl) ?_
          refine lv_iconst (v := 2) hx hb dX3_lay_225 rfl ?_
          refine lv_iadd hx hb dX3_lay_226 ?_
          refine lv_iload hx hb dX3_lay_227 (lv_at hl 0 rfl) ?_
          refine lv_iadd hx hb dX3_lay_229 ?_
          refine wa_iald (f := f_) hx hb hK hP 2 0 rfl rfl ((b_ + 2) + k) ((nz_add (nz_add rfl rfl) rfl)) (by omega) (by decide) dX3_lay_230 ?_
          refine wa_iast (f := clU f_ b_ c_ σ.calls k) hx hb hK hP (mD_va hmD dA ((σ.txt, σ.len, σ.wt, σ.pr, σ.tools, σ.load, σ.purse, σ.beg, σ.ways, g_10, clU f_ b_ c_ σ.calls k, f_11, σ.sorts, σ.visits, σ.vm) : St) ((f_, τ.rm, τ.at_, τ.place, τ.end_, τ.ents, τ.em, τ.combos, τ.all_, τ.weight, τ.gain, τ.ad_, τ.minute, τ.ds, τ.bl, τ.chosen) : Sc)) hS 6 0 rfl rfl ((6 * c_) + k) ((nz_add (nz_mul rfl ec_) rfl)) (by omega) (by decide) dX3_lay_231 (fun H locs f_16 ef_16 hP hS => ?_)
          have hP : va_P D vwCl (mX dA h ad σ.txt σ.len σ.wt σ.pr σ.tools σ.load σ.purse σ.beg σ.ways g_10 f_16 f_11 σ.sorts σ.visits σ.vm f_ τ.rm τ.at_ τ.place τ.end_ τ.ents τ.em τ.combos τ.all_ τ.weight τ.gain τ.ad_ τ.minute τ.ds τ.bl τ.chosen) H := hP
          refine lv_iinc (v := nI (k + 1)) (lv' := [(4, .int (nI (k + 1))), (3, .int (f_ (b_ + 2))), (2, .int (f_ (b_ + 1))), (0, .ref h), (1, .int (nI b_))]) hx hb dX3_lay_232 hl (k := 0) rfl (nI_1 k) (by decide) rfl (fun ls hl => ?_)
          refine lv_goto (tgt := 202) hx hb dX3_lay_235 rfl ?_
          have eh_17 : f_16 = clU f_ b_ c_ σ.calls (k + 1) := (by subst_vars; rw [clU])
          have hP : va_P D vwCl (mX dA h ad σ.txt σ.len σ.wt σ.pr σ.tools σ.load σ.purse σ.beg σ.ways g_10 (clU f_ b_ c_ σ.calls (k + 1)) f_11 σ.sorts σ.visits σ.vm f_ τ.rm τ.at_ τ.place τ.end_ τ.ents τ.em τ.combos τ.all_ τ.weight τ.gain τ.ad_ τ.minute τ.ds τ.bl τ.chosen) H := by rw [← eh_17]; exact hP
          exact ih_14 (k + 1) (nI (k + 1)) ls _ _ (by omega) (by omega) rfl (lv_sub hl [0, 1, 2, 3, 4] rfl) hP hS
    exact hL202_12 _ 0 0 ls _ _ (Nat.lt_succ_self _) (by omega) rfl (lv_sub hl [0, 1, 2, 3, 4] rfl) hP hS
  refine lv_tableOut (tgt := 239) hx hb dX3_lay_24 (w_tout6 h24_0 h24_1 h24_2 h24_3 h24_4 h24_5) rfl ?_
  obtain ⟨c_, hc_, ec_⟩ := hL.2.2.2 h24_0 h24_1 h24_2 h24_3 h24_4 h24_5
  have hix_c_ : ix (f_ (b_ + 1)) = c_ := by rw [ec_]; exact ix_nI hc_ (by decide)
  have hsm := hI.sm c_ hc_
  refine lv_aload_n hx hb dX3_lay_239 rfl (lv_at hl 2 rfl) ?_
  refine va_get (D := D) (ci := 0) (v := .int σ.told) (C := RX3) (T := TX3) (N := 31) hx hb hts in_X3 hown hK hP 0 rfl rfl 11 (by decide) (hts _ q1125) (fun _ h9 => h9) rfl dX3_lay_240 ?_
  refine lv_iload_n hx hb dX3_lay_243 rfl (lv_at hl 1 rfl) ?_
  refine cSi (As := [.int σ.told, .int (f_ (b_ + 1))]) (rest := []) ⟨hx, hb, hml, hown, hts⟩ (mt_X3_has l σ.told (f_ (b_ + 1))) (cw_X3_X3_has hts ⟨Nat.le_of_ble_eq_true rfl, Nat.le_of_ble_eq_true rfl⟩) w_blT (fun _ _ _ => trivial) rfl hl.1 rfl (Nat.le_of_ble_eq_true rfl) dX3_lay_244 ⟨Nat.le_of_ble_eq_true rfl, Nat.le_of_ble_eq_true rfl⟩ ?_
  refine lv_if_eq (tgt := 317) hx hb dX3_lay_247 rfl (fun h247 => ?_) (fun h247 => ?_)
  · have h247 : ¬ (hasP σ.told (f_ (b_ + 1))) := b01_0.mp h247
    exact rm_v (u := (σ, ((f_, τ.rm, τ.at_, τ.place, τ.end_, τ.ents, τ.em, τ.combos, τ.all_, τ.weight, τ.gain, τ.ad_, τ.minute, τ.ds, τ.bl, τ.chosen) : Sc))) hQ hx hb hr hlocks hK hP hS (by subst_vars; simp only [layS, eq_false h24_0, eq_false h24_1, eq_false h24_2, eq_false h24_3, eq_false h24_4, eq_false h24_5, eq_false h247, if_true, if_false, ite_true, ite_false, not_true_eq_false, not_false_eq_true, and_true, true_and, and_false, false_and, or_true, true_or, or_false, false_or, and_self, or_self, eq_self] <;> rfl) dX3_lay_317
  · have h247 : hasP σ.told (f_ (b_ + 1)) := b01_n h247
    refine lv_aload_n hx hb dX3_lay_250 rfl (lv_at hl 2 rfl) ?_
    refine va_get (D := D) (ci := 0) (v := .ref (ad 6)) (C := RX3) (T := TX3) (N := 31) hx hb hts in_X3 hown hK hP 0 rfl rfl 13 (by decide) (hts _ q1127) (fun _ h9 => h9) rfl dX3_lay_251 ?_
    refine lv_iload_n hx hb dX3_lay_254 rfl (lv_at hl 1 rfl) ?_
    refine wa_iald (f := fun c => nI (σ.sm c)) hx hb hK hP 7 0 rfl rfl (c_) (ec_) (by omega) (by decide) dX3_lay_255 ?_
    refine w_topi (y := nI (σ.sm c_)) rfl ?_
    refine lv_iconst (v := 4) hx hb dX3_lay_256 rfl ?_
    refine lv_icmp_ge (tgt := 317) hx hb dX3_lay_257 rfl (fun h257 => ?_) (fun h257 => ?_)
    · have h257 : 4 ≤ (σ.sm c_) := (nz_le (a := 4) (b := σ.sm c_) rfl rfl (by omega) (by omega)).mp h257
      exact rm_v (u := (σ, ((f_, τ.rm, τ.at_, τ.place, τ.end_, τ.ents, τ.em, τ.combos, τ.all_, τ.weight, τ.gain, τ.ad_, τ.minute, τ.ds, τ.bl, τ.chosen) : Sc))) hQ hx hb hr hlocks hK hP hS (by subst_vars; simp only [layS, eq_false h24_0, eq_false h24_1, eq_false h24_2, eq_false h24_3, eq_false h24_4, eq_false h24_5, eq_true h247, eq_true h257, if_true, if_false, ite_true, ite_false, not_true_eq_false, not_false_eq_true, and_true, true_and, and_false, false_and, or_true, true_or, or_false, false_or, and_self, or_self, eq_self] <;> rfl) dX3_lay_317
    · have h257 : ¬ (4 ≤ (σ.sm c_)) := fun z9 => h257 ((nz_le (a := 4) (b := σ.sm c_) rfl rfl (by omega) (by omega)).mpr z9)
      refine lv_iconst (v := 0) hx hb dX3_lay_260 rfl ?_
      refine lv_istore (lv' := [(4, .int 0), (3, .int (f_ (b_ + 2))), (2, .int (f_ (b_ + 1))), (0, .ref h), (1, .int (nI b_))]) hx hb dX3_lay_261 hl (by decide) rfl (fun ls hl => ?_)
      have hL263_18 : ∀ (n_19 : Nat) (k : Nat) (x4 : Int32) (ls : Array Slot) (H : Heap) (locs : List Loc), (4 - k) < n_19 → (k ≤ 4) → x4 = (nI k) → lv_has ls 5 [(4, .int x4), (3, .int (f_ (b_ + 2))), (2, .int (f_ (b_ + 1))), (0, .ref h), (1, .int (nI b_))] → va_P D vwCl (mX dA h ad σ.txt σ.len σ.wt σ.pr σ.tools σ.load σ.purse σ.beg σ.ways σ.told σ.calls σ.sm (soU f_ b_ c_ (σ.sm c_) σ.sorts k) σ.visits σ.vm f_ τ.rm τ.at_ τ.place τ.end_ τ.ents τ.em τ.combos τ.all_ τ.weight τ.gain τ.ad_ τ.minute τ.ds τ.bl τ.chosen) H → va_S (mA h ad) s.heap H locs → W p l e rmX3_lay s m args below meth c H locs 0 0 Q (F0 m 263 ls []) := by
        intro n_19
        induction n_19 with
        | zero => intro k x4 ls H locs hm_21; exact absurd hm_21 (Nat.not_lt_zero _)
        | succ n_19 ih_20 =>
          intro k x4 ls H locs hm_21 hk ex4 hl hP hS
          subst ex4
          refine lv_iload hx hb dX3_lay_263 (lv_at hl 0 rfl) ?_
          refine lv_iconst (v := 4) hx hb dX3_lay_265 rfl ?_
          refine lv_icmp_ge (tgt := 307) hx hb dX3_lay_266 rfl (fun h266 => ?_) (fun h266 => ?_)
          · have h266 : 4 ≤ k := (nz_le (a := 4) (b := k) rfl rfl (by omega) (by omega)).mp h266
            have hk_ : k = 4 := by omega
            subst hk_
            refine lv_aload_n hx hb dX3_lay_307 rfl (lv_at hl 3 rfl) ?_
            refine va_get (D := D) (ci := 0) (v := .ref (ad 6)) (C := RX3) (T := TX3) (N := 31) hx hb hts in_X3 hown hK hP 0 rfl rfl 13 (by decide) (hts _ q1127) (fun _ h9 => h9) rfl dX3_lay_308 ?_
            refine lv_iload_n hx hb dX3_lay_311 rfl (lv_at hl 2 rfl) ?_
            refine lv_dup2_11 hx hb dX3_lay_312 rfl rfl ?_
            refine wa_iald (f := fun c => nI (σ.sm c)) hx hb hK hP 7 0 rfl rfl (c_) (ec_) (by omega) (by decide) dX3_lay_313 ?_
            refine w_topi (y := nI (σ.sm c_)) rfl ?_
            refine lv_iconst (v := 1) hx hb dX3_lay_314 rfl ?_
            refine lv_iadd hx hb dX3_lay_315 ?_
            refine w_topi (nz_add rfl rfl) ?_
            refine wa_iast0 (f := fun c => nI (σ.sm c)) hx hb hK hP (mD_va hmD dA ((σ.txt, σ.len, σ.wt, σ.pr, σ.tools, σ.load, σ.purse, σ.beg, σ.ways, σ.told, σ.calls, σ.sm, soU f_ b_ c_ (σ.sm c_) σ.sorts 4, σ.visits, σ.vm) : St) ((f_, τ.rm, τ.at_, τ.place, τ.end_, τ.ents, τ.em, τ.combos, τ.all_, τ.weight, τ.gain, τ.ad_, τ.minute, τ.ds, τ.bl, τ.chosen) : Sc)) hS 7 0 rfl rfl (c_) (ec_) (by omega) (by decide) dX3_lay_316 (fun H locs  hP hS => ?_)
            rw [updN_nI] at hP
            obtain ⟨f_22, ef_22⟩ : ∃ f, f = updN σ.sm c_ ((σ.sm c_) + 1) := ⟨_, rfl⟩
            rw [← ef_22] at hP
            have hP : va_P D vwCl (mX dA h ad σ.txt σ.len σ.wt σ.pr σ.tools σ.load σ.purse σ.beg σ.ways σ.told σ.calls f_22 (soU f_ b_ c_ (σ.sm c_) σ.sorts 4) σ.visits σ.vm f_ τ.rm τ.at_ τ.place τ.end_ τ.ents τ.em τ.combos τ.all_ τ.weight τ.gain τ.ad_ τ.minute τ.ds τ.bl τ.chosen) H := hP
            exact rm_v (u := (((σ.txt, σ.len, σ.wt, σ.pr, σ.tools, σ.load, σ.purse, σ.beg, σ.ways, σ.told, σ.calls, f_22, soU f_ b_ c_ (σ.sm c_) σ.sorts 4, σ.visits, σ.vm) : St), ((f_, τ.rm, τ.at_, τ.place, τ.end_, τ.ents, τ.em, τ.combos, τ.all_, τ.weight, τ.gain, τ.ad_, τ.minute, τ.ds, τ.bl, τ.chosen) : Sc))) hQ hx hb hr hlocks hK hP hS (by subst_vars; simp only [layS, eq_false h24_0, eq_false h24_1, eq_false h24_2, eq_false h24_3, eq_false h24_4, eq_false h24_5, eq_true h247, eq_false h257, eq_true h266, if_true, if_false, ite_true, ite_false, not_true_eq_false, not_false_eq_true, and_true, true_and, and_false, false_and, or_true, true_or, or_false, false_or, and_self, or_self, eq_self] <;> rfl) dX3_lay_317
          · have h266 : ¬ (4 ≤ k) := fun z9 => h266 ((nz_le (a := 4) (b := k) rfl rfl (by omega) (by omega)).mpr z9)
            refine lv_aload_n hx hb dX3_lay_269 rfl (lv_at hl 3 rfl) ?_
            refine va_get (D := D) (ci := 0) (v := .ref (ad 7)) (C := RX3) (T := TX3) (N := 31) hx hb hts in_X3 hown hK hP 0 rfl rfl 14 (by decide) (hts _ q1128) (fun _ h9 => h9) rfl dX3_lay_270 ?_
            refine lv_bipush (v := 16) hx hb dX3_lay_273 rfl ?_
            refine lv_iload_n hx hb dX3_lay_275 rfl (lv_at hl 2 rfl) ?_
            refine lv_imul hx hb dX3_lay_276 ?_
            refine lv_iconst (v := 4) hx hb dX3_lay_277 rfl ?_
            refine lv_aload_n hx hb dX3_lay_278 rfl (lv_at hl 3 rfl) ?_
            refine va_get (D := D) (ci := 0) (v := .ref (ad 6)) (C := RX3) (T := TX3) (N := 31) hx hb hts in_X3 hown hK hP 0 rfl rfl 13 (by decide) (hts _ q1127) (fun _ h9 => h9) rfl dX3_lay_279 ?_
            refine lv_iload_n hx hb dX3_lay_282 rfl (lv_at hl 2 rfl) ?_
            refine wa_iald (f := fun c => nI (σ.sm c)) hx hb hK hP 7 0 rfl rfl (c_) (ec_) (by omega) (by decide) dX3_lay_283 ?_
            refine w_topi (y := nI (σ.sm c_)) rfl ?_
            refine lv_imul hx hb dX3_lay_284 ?_
            refine lv_iadd hx hb dX3_lay_285 ?_
            refine lv_iload hx hb dX3_lay_286 (lv_at hl 0 rfl) ?_
            refine lv_iadd hx hb dX3_lay_288 ?_
            refine lv_aload_n hx hb dX3_lay_289 rfl (lv_at hl 3 rfl) ?_
            refine va_get (D := D) (ci := 0) (v := .ref (ad 1)) (C := RX3) (T := TX3) (N := 31) hx hb hts in_X3 hown hK hP 0 rfl rfl 2 (by decide) (hts _ q1116) (fun _ h9 => h9) rfl dX3_lay_290 ?_
            refine lv_iload_n hx hb dX3_lay_293 rfl (lv_at hl 4 rfl) ?_
            refine lv_iconst (v := 2) hx hb dX3_lay_294 rfl ?_
            refine lv_iadd hx hb dX3_lay_295 ?_
            refine lv_iload hx hb dX3_lay_296 (lv_at hl 0 rfl) ?_
            refine lv_iadd hx hb dX3_lay_298 ?_
            refine wa_iald (f := f_) hx hb hK hP 2 0 rfl rfl ((b_ + 2) + k) ((nz_add (nz_add rfl rfl) rfl)) (by omega) (by decide) dX3_lay_299 ?_
            refine wa_iast (f := soU f_ b_ c_ (σ.sm c_) σ.sorts k) hx hb hK hP (mD_va hmD dA ((σ.txt, σ.len, σ.wt, σ.pr, σ.tools, σ.load, σ.purse, σ.beg, σ.ways, σ.told, σ.calls, σ.sm, soU f_ b_ c_ (σ.sm c_) σ.sorts k, σ.visits, σ.vm) : St) ((f_, τ.rm, τ.at_, τ.place, τ.end_, τ.ents, τ.em, τ.combos, τ.all_, τ.weight, τ.gain, τ.ad_, τ.minute, τ.ds, τ.bl, τ.chosen) : Sc)) hS 8 0 rfl rfl (((16 * c_) + (4 * (σ.sm c_))) + k) ((nz_add (nz_add (nz_mul rfl ec_) (nz_mul rfl rfl)) rfl)) (by omega) (by decide) dX3_lay_300 (fun H locs f_23 ef_23 hP hS => ?_)
            have hP : va_P D vwCl (mX dA h ad σ.txt σ.len σ.wt σ.pr σ.tools σ.load σ.purse σ.beg σ.ways σ.told σ.calls σ.sm f_23 σ.visits σ.vm f_ τ.rm τ.at_ τ.place τ.end_ τ.ents τ.em τ.combos τ.all_ τ.weight τ.gain τ.ad_ τ.minute τ.ds τ.bl τ.chosen) H := hP
            refine lv_iinc (v := nI (k + 1)) (lv' := [(4, .int (nI (k + 1))), (3, .int (f_ (b_ + 2))), (2, .int (f_ (b_ + 1))), (0, .ref h), (1, .int (nI b_))]) hx hb dX3_lay_301 hl (k := 0) rfl (nI_1 k) (by decide) rfl (fun ls hl => ?_)
            refine lv_goto (tgt := 263) hx hb dX3_lay_304 rfl ?_
            have eh_24 : f_23 = soU f_ b_ c_ (σ.sm c_) σ.sorts (k + 1) := (by subst_vars; rw [soU])
            have hP : va_P D vwCl (mX dA h ad σ.txt σ.len σ.wt σ.pr σ.tools σ.load σ.purse σ.beg σ.ways σ.told σ.calls σ.sm (soU f_ b_ c_ (σ.sm c_) σ.sorts (k + 1)) σ.visits σ.vm f_ τ.rm τ.at_ τ.place τ.end_ τ.ents τ.em τ.combos τ.all_ τ.weight τ.gain τ.ad_ τ.minute τ.ds τ.bl τ.chosen) H := by rw [← eh_24]; exact hP
            exact ih_20 (k + 1) (nI (k + 1)) ls _ _ (by omega) (by omega) rfl (lv_sub hl [0, 1, 2, 3, 4] rfl) hP hS
      exact hL263_18 _ 0 0 ls _ _ (Nat.lt_succ_self _) (by omega) rfl (lv_sub hl [0, 1, 2, 3, 4] rfl) hP hS
