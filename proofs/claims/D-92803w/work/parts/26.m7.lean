/-! THE MODEL's METHODS 7: a way to be, gone through -/
set_option maxRecDepth 100000
theorem b01_not {P : Prop} [Decidable P] {v : Int32} (h : v = if P then 0 else 1) : v = b01 (¬ P) := by
  rw [h]
  unfold b01
  by_cases q : P
  · rw [if_pos q, if_neg (fun z => z q)]
  · rw [if_neg q, if_pos q]
/-- a way to be at hand: the place, the minute, the bag, the gain, what is done, whether all is -/
abbrev GS : Type := Nat × Int32 × Int32 × Int32 × Int32 × Int32
def toN (σ : St) (row : Int32) (k : Nat) : Nat := if en row k = 6 then 0 else plF σ (en row k)
def leftL (σ : St) (t bl : Int32) (c s : Nat) : Int32 := if lateP σ t c then -1 else leftF σ bl c s
def stepH (σ : St) (full : Int32) (g : GS) : GS := (0, g.2.1 + σ.ways (6 * g.1 + 0), full, g.2.2.2.1, g.2.2.2.2.1, g.2.2.2.2.2)
def stepC (σ : St) (c s : Nat) (g : GS) : GS :=
  (plF σ c, arrF σ g.1 g.2.1 c + (if lateP σ (arrF σ g.1 g.2.1 c) c then 0 else if ¬ leftL σ (arrF σ g.1 g.2.1 c) g.2.2.1 c s = -1 then σ.sorts (16 * c + 4 * s + 1) else σ.calls (6 * c + 5)),
   (if ¬ leftL σ (arrF σ g.1 g.2.1 c) g.2.2.1 c s = -1 then leftL σ (arrF σ g.1 g.2.1 c) g.2.2.1 c s else g.2.2.1),
   g.2.2.2.1 + (if ¬ leftL σ (arrF σ g.1 g.2.1 c) g.2.2.1 c s = -1 then σ.calls (6 * c + 3) else -σ.calls (6 * c + 4)),
   g.2.2.2.2.1 ||| (if ¬ leftL σ (arrF σ g.1 g.2.1 c) g.2.2.1 c s = -1 then (1 : Int32) <<< (nI c &&& 31) else 0),
   if g.2.2.2.2.2 = 0 then 0 else if ¬ leftL σ (arrF σ g.1 g.2.1 c) g.2.2.1 c s = -1 then 1 else 0)
def goR (σ : St) (row : Int32) (ch : Nat → Nat) (bag : Int32) : Nat → GS
  | 0 => (0, σ.beg, bag, 0, 0, 1)
  | k + 1 => if en row k = 6 then stepH σ bag (goR σ row ch bag k) else stepC σ (en row k) (ch k) (goR σ row ch bag k)
theorem goR_x1 (σ : St) (row : Int32) (ch : Nat → Nat) (bag : Int32) (k : Nat) : (goR σ row ch bag (k + 1)).1 = toN σ row k := by
  rw [goR, toN]
  by_cases h : en row k = 6
  · rw [if_pos h, if_pos h]; rfl
  · rw [if_neg h, if_neg h]; rfl
theorem toN_lt {σ : St} (hI : Inv σ) {row : Int32} {n : Nat} (hR : okR σ row n) {k : Nat} (hk : k < n) : toN σ row k < 6 := by
  unfold toN
  by_cases h : en row k = 6
  · rw [if_pos h]; decide
  · rw [if_neg h]
    exact (hI.pl2 _ ((hR.2 k hk).resolve_left h).1).1
theorem goR_x {σ : St} (hI : Inv σ) {row : Int32} {n : Nat} (hR : okR σ row n) (ch : Nat → Nat) (bag : Int32) {k : Nat} (hk : k ≤ n) : (goR σ row ch bag k).1 < 6 := by
  cases k with
  | zero => exact (by decide : (0 : Nat) < 6)
  | succ k => rw [goR_x1]; exact toN_lt hI hR (by omega)
theorem goR_ad {σ : St} {row : Int32} {ch : Nat → Nat} {bag : Int32} : ∀ k, (goR σ row ch bag k).2.2.2.2.2 = 0 ∨ (goR σ row ch bag k).2.2.2.2.2 = 1
  | 0 => Or.inr rfl
  | k + 1 => by
    rw [goR]
    by_cases h : en row k = 6
    · rw [if_pos h]; exact goR_ad k
    · rw [if_neg h]
      unfold stepC
      dsimp only
      by_cases h1 : (goR σ row ch bag k).2.2.2.2.2 = 0
      · rw [if_pos h1]; exact Or.inl rfl
      · rw [if_neg h1]
        split
        · exact Or.inr rfl
        · exact Or.inl rfl

def rmX3_go_A : Room := { frames := 2, cells := 0, slots := 0, locals := 50 }
set_option maxHeartbeats 1000000 in
theorem mt_X3_go_A (l : Launch) (D : va_G) (dA : Nat → ClassId) (h : Nat) (ad : Nat → Nat) (σ : St) (τ : Sc) (hmD : mD h ad) (row : Int32) (j : Nat) (ch : Nat → Nat) (bag : Int32) (hI : Inv σ) (hR : okR σ row j) (hem : τ.em = nI j) (he : ∀ i, i < j → τ.ents i = nI (en row i)) (hch : ∀ i, i < j → ¬ en row i = 6 → τ.chosen i = nI (ch i) ∧ ch i < σ.sm (en row i)) : Met l yX3_go (ws_ yX3_go cX3_go 12 none) rmX3_go_A (va_Pc [.ref h, .int bag, .int (-1)] (mB D dA h ad σ τ)) (va_Qv (fun (u : MS) => u = (σ, ((τ.read, τ.rm, τ.at_, τ.place, τ.end_, τ.ents, τ.em, τ.combos, τ.all_, τ.weight, (goR σ row ch bag j).2.2.2.1, (goR σ row ch bag j).2.2.2.2.2, (goR σ row ch bag j).2.1, (goR σ row ch bag j).2.2.2.2.1, (goR σ row ch bag j).2.2.1, τ.chosen) : Sc))) (fun u t => mB D dA h ad u.1 u.2 t) (mA h ad)) 0 0 (mA h ad) := by
  refine w_start (by decide) (Nat.le_of_ble_eq_true rfl) ?_
  intro p e s m args below meth c Q ls hQ hx hb hr hlocks hml hown hnm hts hB hl
  have hown : s.vm.findClass RX3 = some m.cls := hown
  have hl : lv_has ls 12 [(0, .ref h), (1, .int bag), (2, .int (-1))] := hl
  obtain ⟨hP, hK⟩ := hB
  have hP : va_P D vwCl (mX dA h ad σ.txt σ.len σ.wt σ.pr σ.tools σ.load σ.purse σ.beg σ.ways σ.told σ.calls σ.sm σ.sorts σ.visits σ.vm τ.read τ.rm τ.at_ τ.place τ.end_ τ.ents τ.em τ.combos τ.all_ τ.weight τ.gain τ.ad_ τ.minute τ.ds τ.bl τ.chosen) s.heap := hP
  have hS : va_S (mA h ad) s.heap s.heap [] := va_S.rf
  have hj := hR.1
  refine lv_iconst (v := 0) hx hb dX3_go_0 rfl ?_
  refine lv_istore_n (lv' := [(3, .int 0), (0, .ref h), (1, .int bag), (2, .int (-1))]) hx hb dX3_go_1 rfl hl (by decide) rfl (fun ls hl => ?_)
  refine lv_iload_n hx hb dX3_go_2 rfl (lv_at hl 3 rfl) ?_
  refine lv_istore (lv' := [(4, .int (-1)), (3, .int 0), (0, .ref h), (1, .int bag), (2, .int (-1))]) hx hb dX3_go_3 hl (by decide) rfl (fun ls hl => ?_)
  refine lv_aload_n hx hb dX3_go_5 rfl (lv_at hl 2 rfl) ?_
  refine lv_aload_n hx hb dX3_go_6 rfl (lv_at hl 2 rfl) ?_
  refine va_get (D := D) (ci := 0) (v := .int σ.beg) (C := RX3) (T := TX3) (N := 31) hx hb hts in_X3 hown hK hP 0 rfl rfl 9 (by decide) (hts _ q1123) (fun _ h9 => h9) rfl dX3_go_7 ?_
  refine va_put (D := D) (ci := 0) (v := .int σ.beg) (ty := .int) (C := RX3) (T := TX3) (N := 31) hx hb hts in_X3 tyX3 tyX3_ok nmX3 hown hK hP (mD_va hmD dA σ τ) hS 0 rfl rfl 27 (by decide) (hts _ q1141) (fun _ h9 => h9) rfl (by decide +kernel) (rfl) (rfl) (Nat.le_of_ble_eq_true rfl) dX3_go_10 (fun H locs hP _ hS => ?_)
  have hP : va_P D vwCl (mX dA h ad σ.txt σ.len σ.wt σ.pr σ.tools σ.load σ.purse σ.beg σ.ways σ.told σ.calls σ.sm σ.sorts σ.visits σ.vm τ.read τ.rm τ.at_ τ.place τ.end_ τ.ents τ.em τ.combos τ.all_ τ.weight τ.gain τ.ad_ σ.beg τ.ds τ.bl τ.chosen) H := hP
  refine lv_aload_n hx hb dX3_go_13 rfl (lv_at hl 2 rfl) ?_
  refine lv_iload_n hx hb dX3_go_14 rfl (lv_at hl 3 rfl) ?_
  refine va_put (D := D) (ci := 0) (v := .int bag) (ty := .int) (C := RX3) (T := TX3) (N := 31) hx hb hts in_X3 tyX3 tyX3_ok nmX3 hown hK hP (mD_va hmD dA σ ((τ.read, τ.rm, τ.at_, τ.place, τ.end_, τ.ents, τ.em, τ.combos, τ.all_, τ.weight, τ.gain, τ.ad_, σ.beg, τ.ds, τ.bl, τ.chosen) : Sc)) hS 0 rfl rfl 29 (by decide) (hts _ q1143) (fun _ h9 => h9) rfl (by decide +kernel) (rfl) (rfl) (Nat.le_of_ble_eq_true rfl) dX3_go_15 (fun H locs hP _ hS => ?_)
  have hP : va_P D vwCl (mX dA h ad σ.txt σ.len σ.wt σ.pr σ.tools σ.load σ.purse σ.beg σ.ways σ.told σ.calls σ.sm σ.sorts σ.visits σ.vm τ.read τ.rm τ.at_ τ.place τ.end_ τ.ents τ.em τ.combos τ.all_ τ.weight τ.gain τ.ad_ σ.beg τ.ds bag τ.chosen) H := hP
  refine lv_aload_n hx hb dX3_go_18 rfl (lv_at hl 2 rfl) ?_
  refine lv_iconst (v := 0) hx hb dX3_go_19 rfl ?_
  refine va_put (D := D) (ci := 0) (v := .int 0) (ty := .int) (C := RX3) (T := TX3) (N := 31) hx hb hts in_X3 tyX3 tyX3_ok nmX3 hown hK hP (mD_va hmD dA σ ((τ.read, τ.rm, τ.at_, τ.place, τ.end_, τ.ents, τ.em, τ.combos, τ.all_, τ.weight, τ.gain, τ.ad_, σ.beg, τ.ds, bag, τ.chosen) : Sc)) hS 0 rfl rfl 25 (by decide) (hts _ q1139) (fun _ h9 => h9) rfl (by decide +kernel) (rfl) (rfl) (Nat.le_of_ble_eq_true rfl) dX3_go_20 (fun H locs hP _ hS => ?_)
  have hP : va_P D vwCl (mX dA h ad σ.txt σ.len σ.wt σ.pr σ.tools σ.load σ.purse σ.beg σ.ways σ.told σ.calls σ.sm σ.sorts σ.visits σ.vm τ.read τ.rm τ.at_ τ.place τ.end_ τ.ents τ.em τ.combos τ.all_ τ.weight 0 τ.ad_ σ.beg τ.ds bag τ.chosen) H := hP
  refine lv_aload_n hx hb dX3_go_23 rfl (lv_at hl 2 rfl) ?_
  refine lv_iconst (v := 0) hx hb dX3_go_24 rfl ?_
  refine va_put (D := D) (ci := 0) (v := .int 0) (ty := .int) (C := RX3) (T := TX3) (N := 31) hx hb hts in_X3 tyX3 tyX3_ok nmX3 hown hK hP (mD_va hmD dA σ ((τ.read, τ.rm, τ.at_, τ.place, τ.end_, τ.ents, τ.em, τ.combos, τ.all_, τ.weight, 0, τ.ad_, σ.beg, τ.ds, bag, τ.chosen) : Sc)) hS 0 rfl rfl 28 (by decide) (hts _ q1142) (fun _ h9 => h9) rfl (by decide +kernel) (rfl) (rfl) (Nat.le_of_ble_eq_true rfl) dX3_go_25 (fun H locs hP _ hS => ?_)
  have hP : va_P D vwCl (mX dA h ad σ.txt σ.len σ.wt σ.pr σ.tools σ.load σ.purse σ.beg σ.ways σ.told σ.calls σ.sm σ.sorts σ.visits σ.vm τ.read τ.rm τ.at_ τ.place τ.end_ τ.ents τ.em τ.combos τ.all_ τ.weight 0 τ.ad_ σ.beg 0 bag τ.chosen) H := hP
  refine lv_aload_n hx hb dX3_go_28 rfl (lv_at hl 2 rfl) ?_
  refine lv_iconst (v := 1) hx hb dX3_go_29 rfl ?_
  refine va_put (D := D) (ci := 0) (v := .int 1) (ty := .boolean) (C := RX3) (T := TX3) (N := 31) hx hb hts in_X3 tyX3 tyX3_ok nmX3 hown hK hP (mD_va hmD dA σ ((τ.read, τ.rm, τ.at_, τ.place, τ.end_, τ.ents, τ.em, τ.combos, τ.all_, τ.weight, 0, τ.ad_, σ.beg, 0, bag, τ.chosen) : Sc)) hS 0 rfl rfl 26 (by decide) (hts _ q1140) (fun _ h9 => h9) rfl (by decide +kernel) (rfl) (rfl) (Nat.le_of_ble_eq_true rfl) dX3_go_30 (fun H locs hP _ hS => ?_)
  have hP : va_P D vwCl (mX dA h ad σ.txt σ.len σ.wt σ.pr σ.tools σ.load σ.purse σ.beg σ.ways σ.told σ.calls σ.sm σ.sorts σ.visits σ.vm τ.read τ.rm τ.at_ τ.place τ.end_ τ.ents τ.em τ.combos τ.all_ τ.weight 0 1 σ.beg 0 bag τ.chosen) H := hP
  refine lv_iconst (v := 0) hx hb dX3_go_33 rfl ?_
  refine lv_istore (lv' := [(5, .int 0), (4, .int (-1)), (3, .int 0), (0, .ref h), (1, .int bag), (2, .int (-1))]) hx hb dX3_go_34 hl (by decide) rfl (fun ls hl => ?_)
  have hL36_1 : ∀ (n_2 : Nat) (k : Nat) (x5 : Int32) (x3 : Int32) (ls : Array Slot) (H : Heap) (locs : List Loc), (6 - k) < n_2 → (k ≤ j) → x5 = (nI k) → x3 = (nI ((goR σ row ch bag k).1)) → lv_has ls 12 [(5, .int x5), (4, .int (-1)), (3, .int x3), (0, .ref h), (1, .int bag), (2, .int (-1))] → va_P D vwCl (mX dA h ad σ.txt σ.len σ.wt σ.pr σ.tools σ.load σ.purse σ.beg σ.ways σ.told σ.calls σ.sm σ.sorts σ.visits σ.vm τ.read τ.rm τ.at_ τ.place τ.end_ τ.ents τ.em τ.combos τ.all_ τ.weight ((goR σ row ch bag k).2.2.2.1) ((goR σ row ch bag k).2.2.2.2.2) ((goR σ row ch bag k).2.1) ((goR σ row ch bag k).2.2.2.2.1) ((goR σ row ch bag k).2.2.1) τ.chosen) H → va_S (mA h ad) s.heap H locs → W p l e rmX3_go_A s m args below meth c H locs 0 0 Q (F0 m 36 ls []) := by
    intro n_2
    induction n_2 with
    | zero => intro k x5 x3 ls H locs hm_4; exact absurd hm_4 (Nat.not_lt_zero _)
    | succ n_2 ih_3 =>
      intro k x5 x3 ls H locs hm_4 hk ex5 ex3 hl hP hS
      subst ex5 ex3
      refine lv_iload hx hb dX3_go_36 (lv_at hl 0 rfl) ?_
      refine lv_aload_n hx hb dX3_go_38 rfl (lv_at hl 3 rfl) ?_
      refine va_get (D := D) (ci := 0) (v := .int τ.em) (C := RX3) (T := TX3) (N := 31) hx hb hts in_X3 hown hK hP 0 rfl rfl 21 (by decide) (hts _ q1135) (fun _ h9 => h9) rfl dX3_go_39 ?_
      refine lv_icmp_ge (tgt := 437) hx hb dX3_go_42 rfl (fun h42 => ?_) (fun h42 => ?_)
      · have h42 : j ≤ k := (nz_le (a := j) (b := k) hem rfl (by omega) (by omega)).mp h42
        obtain rfl : k = j := by omega
        exact rm_v (u := (σ, ((τ.read, τ.rm, τ.at_, τ.place, τ.end_, τ.ents, τ.em, τ.combos, τ.all_, τ.weight, (goR σ row ch bag k).2.2.2.1, (goR σ row ch bag k).2.2.2.2.2, (goR σ row ch bag k).2.1, (goR σ row ch bag k).2.2.2.2.1, (goR σ row ch bag k).2.2.1, τ.chosen) : Sc))) hQ hx hb hr hlocks hK hP hS (rfl) dX3_go_437
      · have h42 : ¬ (j ≤ k) := fun z9 => h42 ((nz_le (a := j) (b := k) hem rfl (by omega) (by omega)).mpr z9)
        refine lv_aload_n hx hb dX3_go_45 rfl (lv_at hl 3 rfl) ?_
        refine va_get (D := D) (ci := 0) (v := .ref (ad 9)) (C := RX3) (T := TX3) (N := 31) hx hb hts in_X3 hown hK hP 0 rfl rfl 20 (by decide) (hts _ q1134) (fun _ h9 => h9) rfl dX3_go_46 ?_
        refine lv_iload hx hb dX3_go_49 (lv_at hl 0 rfl) ?_
        refine wa_iald (f := τ.ents) hx hb hK hP 10 0 rfl rfl (k) (rfl) (by omega) (by decide) dX3_go_51 ?_
        refine w_topi (he k (by omega)) ?_
        have hen := en_lt row k
        have hx6 := goR_x hI hR ch bag hk
        have hto := toN_lt hI hR (k := k) (by omega)
        refine lv_istore (lv' := [(6, .int (nI (en row k))), (5, .int (nI k)), (4, .int (-1)), (3, .int (nI ((goR σ row ch bag k).1))), (0, .ref h), (1, .int bag), (2, .int (-1))]) hx hb dX3_go_52 hl (by decide) rfl (fun ls hl => ?_)
        refine lv_iload hx hb dX3_go_54 (lv_at hl 0 rfl) ?_
        refine lv_bipush (v := 6) hx hb dX3_go_56 rfl ?_
        have hJ75_5 : ∀ (v_6 : Int32) (ls : Array Slot), v_6 = (if (en row k) = 6 then 0 else nI (plF σ (en row k))) → lv_has ls 12 [(6, .int (nI (en row k))), (5, .int (nI k)), (4, .int (-1)), (3, .int (nI ((goR σ row ch bag k).1))), (0, .ref h), (1, .int bag), (2, .int (-1))] → W p l e rmX3_go_A s m args below meth c H locs 0 0 Q (F0 m 75 ls [.int v_6]) := by
          intro v_6 ls ev_6 hl
          have hjs : v_6 = nI (toN σ row k) := (by rw [ev_6, toN]; by_cases q : en row k = 6 <;> simp only [q, if_true, if_false] <;> rfl)
          subst hjs
          refine lv_istore (lv' := [(7, .int (nI (toN σ row k))), (6, .int (nI (en row k))), (5, .int (nI k)), (4, .int (-1)), (3, .int (nI ((goR σ row ch bag k).1))), (0, .ref h), (1, .int bag), (2, .int (-1))]) hx hb dX3_go_75 hl (by decide) rfl (fun ls hl => ?_)
          refine lv_aload_n hx hb dX3_go_77 rfl (lv_at hl 5 rfl) ?_
          refine lv_dup hx hb dX3_go_78 rfl ?_
          refine va_get (D := D) (ci := 0) (v := .int ((goR σ row ch bag k).2.1)) (C := RX3) (T := TX3) (N := 31) hx hb hts in_X3 hown hK hP 0 rfl rfl 27 (by decide) (hts _ q1141) (fun _ h9 => h9) rfl dX3_go_79 ?_
          refine lv_aload_n hx hb dX3_go_82 rfl (lv_at hl 5 rfl) ?_
          refine va_get (D := D) (ci := 0) (v := .ref (ad 4)) (C := RX3) (T := TX3) (N := 31) hx hb hts in_X3 hown hK hP 0 rfl rfl 10 (by decide) (hts _ q1124) (fun _ h9 => h9) rfl dX3_go_83 ?_
          refine lv_bipush (v := 6) hx hb dX3_go_86 rfl ?_
          refine lv_iload_n hx hb dX3_go_88 rfl (lv_at hl 4 rfl) ?_
          refine lv_imul hx hb dX3_go_89 ?_
          refine lv_iload hx hb dX3_go_90 (lv_at hl 0 rfl) ?_
          refine lv_iadd hx hb dX3_go_92 ?_
          refine wa_iald (f := σ.ways) hx hb hK hP 5 0 rfl rfl (6 * (goR σ row ch bag k).1 + toN σ row k) ((nz_add (nz_mul rfl rfl) rfl)) (by omega) (by decide) dX3_go_93 ?_
          refine w_topi (y := σ.ways (6 * (goR σ row ch bag k).1 + toN σ row k)) (rfl) ?_
          refine lv_iadd hx hb dX3_go_94 ?_
          refine lv_topi (fun g_7 eg_7 => ?_)
          refine va_put (D := D) (ci := 0) (v := .int g_7) (ty := .int) (C := RX3) (T := TX3) (N := 31) hx hb hts in_X3 tyX3 tyX3_ok nmX3 hown hK hP (mD_va hmD dA σ ((τ.read, τ.rm, τ.at_, τ.place, τ.end_, τ.ents, τ.em, τ.combos, τ.all_, τ.weight, (goR σ row ch bag k).2.2.2.1, (goR σ row ch bag k).2.2.2.2.2, (goR σ row ch bag k).2.1, (goR σ row ch bag k).2.2.2.2.1, (goR σ row ch bag k).2.2.1, τ.chosen) : Sc)) hS 0 rfl rfl 27 (by decide) (hts _ q1141) (fun _ h9 => h9) rfl (by decide +kernel) (rfl) (rfl) (Nat.le_of_ble_eq_true rfl) dX3_go_95 (fun H locs hP _ hS => ?_)
          have hP : va_P D vwCl (mX dA h ad σ.txt σ.len σ.wt σ.pr σ.tools σ.load σ.purse σ.beg σ.ways σ.told σ.calls σ.sm σ.sorts σ.visits σ.vm τ.read τ.rm τ.at_ τ.place τ.end_ τ.ents τ.em τ.combos τ.all_ τ.weight ((goR σ row ch bag k).2.2.2.1) ((goR σ row ch bag k).2.2.2.2.2) g_7 ((goR σ row ch bag k).2.2.2.2.1) ((goR σ row ch bag k).2.2.1) τ.chosen) H := hP
          refine lv_iload hx hb dX3_go_98 (lv_at hl 0 rfl) ?_
          refine lv_istore_n (lv' := [(3, .int (nI (toN σ row k))), (7, .int (nI (toN σ row k))), (6, .int (nI (en row k))), (5, .int (nI k)), (4, .int (-1)), (0, .ref h), (1, .int bag), (2, .int (-1))]) hx hb dX3_go_100 rfl hl (by decide) rfl (fun ls hl => ?_)
          refine lv_iload hx hb dX3_go_101 (lv_at hl 2 rfl) ?_
          refine lv_bipush (v := 6) hx hb dX3_go_103 rfl ?_
          refine lv_icmp_ne (tgt := 116) hx hb dX3_go_105 rfl (fun h105 => ?_) (fun h105 => ?_)
          · have h105 : ¬ ((en row k) = 6) := fun z9 => h105 ((nz_eq (a := en row k) (b := 6) rfl rfl (by omega) (by omega)).mpr z9)
            have hlt := ((hR.2 k (by omega)).resolve_left h105)
            have hpl := hI.pl2 _ hlt.1
            have hsm := hI.sm _ hlt.1
            have hcc := hch k (by omega) h105
            have ett : toN σ row k = plF σ (en row k) := if_neg h105
            refine lv_aload_n hx hb dX3_go_116 rfl (lv_at hl 5 rfl) ?_
            refine lv_aload_n hx hb dX3_go_117 rfl (lv_at hl 5 rfl) ?_
            refine va_get (D := D) (ci := 0) (v := .int g_7) (C := RX3) (T := TX3) (N := 31) hx hb hts in_X3 hown hK hP 0 rfl rfl 27 (by decide) (hts _ q1141) (fun _ h9 => h9) rfl dX3_go_118 ?_
            refine lv_aload_n hx hb dX3_go_121 rfl (lv_at hl 5 rfl) ?_
            refine va_get (D := D) (ci := 0) (v := .ref (ad 5)) (C := RX3) (T := TX3) (N := 31) hx hb hts in_X3 hown hK hP 0 rfl rfl 12 (by decide) (hts _ q1126) (fun _ h9 => h9) rfl dX3_go_122 ?_
            refine lv_bipush (v := 6) hx hb dX3_go_125 rfl ?_
            refine lv_iload hx hb dX3_go_127 (lv_at hl 2 rfl) ?_
            refine lv_imul hx hb dX3_go_129 ?_
            refine lv_iconst (v := 1) hx hb dX3_go_130 rfl ?_
            refine lv_iadd hx hb dX3_go_131 ?_
            refine wa_iald (f := σ.calls) hx hb hK hP 6 0 rfl rfl ((6 * (en row k)) + 1) ((nz_add (nz_mul rfl rfl) rfl)) (by omega) (by decide) dX3_go_132 ?_
            have hJ155_8 : ∀ (v_9 : Int32) (ls : Array Slot), v_9 = (if (σ.calls ((6 * (en row k)) + 1)) ≤ g_7 then g_7 else σ.calls ((6 * (en row k)) + 1)) → lv_has ls 12 [(3, .int (nI (toN σ row k))), (7, .int (nI (toN σ row k))), (6, .int (nI (en row k))), (5, .int (nI k)), (4, .int (-1)), (0, .ref h), (1, .int bag), (2, .int (-1))] → W p l e rmX3_go_A s m args below meth c H locs 0 0 Q (F0 m 155 ls [.int v_9, .ref h]) := by
              intro v_9 ls ev_9 hl
              have hjs : v_9 = arrF σ (goR σ row ch bag k).1 (goR σ row ch bag k).2.1 (en row k) := (by rw [ev_9, arrF, ← ett] <;> subst_vars <;> rfl)
              subst hjs
              refine va_put (D := D) (ci := 0) (v := .int (arrF σ (goR σ row ch bag k).1 (goR σ row ch bag k).2.1 (en row k))) (ty := .int) (C := RX3) (T := TX3) (N := 31) hx hb hts in_X3 tyX3 tyX3_ok nmX3 hown hK hP (mD_va hmD dA σ ((τ.read, τ.rm, τ.at_, τ.place, τ.end_, τ.ents, τ.em, τ.combos, τ.all_, τ.weight, (goR σ row ch bag k).2.2.2.1, (goR σ row ch bag k).2.2.2.2.2, g_7, (goR σ row ch bag k).2.2.2.2.1, (goR σ row ch bag k).2.2.1, τ.chosen) : Sc)) hS 0 rfl rfl 27 (by decide) (hts _ q1141) (fun _ h9 => h9) rfl (by decide +kernel) (rfl) (rfl) (Nat.le_of_ble_eq_true rfl) dX3_go_155 (fun H locs hP _ hS => ?_)
              have hP : va_P D vwCl (mX dA h ad σ.txt σ.len σ.wt σ.pr σ.tools σ.load σ.purse σ.beg σ.ways σ.told σ.calls σ.sm σ.sorts σ.visits σ.vm τ.read τ.rm τ.at_ τ.place τ.end_ τ.ents τ.em τ.combos τ.all_ τ.weight ((goR σ row ch bag k).2.2.2.1) ((goR σ row ch bag k).2.2.2.2.2) (arrF σ (goR σ row ch bag k).1 (goR σ row ch bag k).2.1 (en row k)) ((goR σ row ch bag k).2.2.2.2.1) ((goR σ row ch bag k).2.2.1) τ.chosen) H := hP
              refine lv_aload_n hx hb dX3_go_158 rfl (lv_at hl 5 rfl) ?_
              refine va_get (D := D) (ci := 0) (v := .int (arrF σ (goR σ row ch bag k).1 (goR σ row ch bag k).2.1 (en row k))) (C := RX3) (T := TX3) (N := 31) hx hb hts in_X3 hown hK hP 0 rfl rfl 27 (by decide) (hts _ q1141) (fun _ h9 => h9) rfl dX3_go_159 ?_
              refine lv_aload_n hx hb dX3_go_162 rfl (lv_at hl 5 rfl) ?_
              refine va_get (D := D) (ci := 0) (v := .ref (ad 5)) (C := RX3) (T := TX3) (N := 31) hx hb hts in_X3 hown hK hP 0 rfl rfl 12 (by decide) (hts _ q1126) (fun _ h9 => h9) rfl dX3_go_163 ?_
              refine lv_bipush (v := 6) hx hb dX3_go_166 rfl ?_
              refine lv_iload hx hb dX3_go_168 (lv_at hl 2 rfl) ?_
              refine lv_imul hx hb dX3_go_170 ?_
              refine lv_iconst (v := 2) hx hb dX3_go_171 rfl ?_
              refine lv_iadd hx hb dX3_go_172 ?_
              refine wa_iald (f := σ.calls) hx hb hK hP 6 0 rfl rfl ((6 * (en row k)) + 2) ((nz_add (nz_mul rfl rfl) rfl)) (by omega) (by decide) dX3_go_173 ?_
              have hJ182_10 : ∀ (v_11 : Int32) (ls : Array Slot), v_11 = (if (arrF σ (goR σ row ch bag k).1 (goR σ row ch bag k).2.1 (en row k)) ≤ (σ.calls ((6 * (en row k)) + 2)) then 0 else 1) → lv_has ls 12 [(3, .int (nI (toN σ row k))), (7, .int (nI (toN σ row k))), (6, .int (nI (en row k))), (5, .int (nI k)), (4, .int (-1)), (0, .ref h), (1, .int bag), (2, .int (-1))] → W p l e rmX3_go_A s m args below meth c H locs 0 0 Q (F0 m 182 ls [.int v_11]) := by
                intro v_11 ls ev_11 hl
                have hjs : v_11 = b01 (lateP σ (arrF σ (goR σ row ch bag k).1 (goR σ row ch bag k).2.1 (en row k)) (en row k)) := b01_not ev_11
                subst hjs
                refine lv_istore (lv' := [(8, .int (b01 (lateP σ (arrF σ (goR σ row ch bag k).1 (goR σ row ch bag k).2.1 (en row k)) (en row k)))), (3, .int (nI (toN σ row k))), (7, .int (nI (toN σ row k))), (6, .int (nI (en row k))), (5, .int (nI k)), (4, .int (-1)), (0, .ref h), (1, .int bag), (2, .int (-1))]) hx hb dX3_go_182 hl (by decide) rfl (fun ls hl => ?_)
                refine lv_aload_n hx hb dX3_go_184 rfl (lv_at hl 6 rfl) ?_
                refine va_get (D := D) (ci := 0) (v := .ref (ad 10)) (C := RX3) (T := TX3) (N := 31) hx hb hts in_X3 hown hK hP 0 rfl rfl 30 (by decide) (hts _ q1144) (fun _ h9 => h9) rfl dX3_go_185 ?_
                refine lv_iload hx hb dX3_go_188 (lv_at hl 4 rfl) ?_
                refine wa_iald (f := τ.chosen) hx hb hK hP 11 0 rfl rfl (k) (rfl) (by omega) (by decide) dX3_go_190 ?_
                refine w_topi (y := nI (ch k)) (hcc.1) ?_
                refine lv_istore (lv' := [(9, .int (nI (ch k))), (8, .int (b01 (lateP σ (arrF σ (goR σ row ch bag k).1 (goR σ row ch bag k).2.1 (en row k)) (en row k)))), (3, .int (nI (toN σ row k))), (7, .int (nI (toN σ row k))), (6, .int (nI (en row k))), (5, .int (nI k)), (4, .int (-1)), (0, .ref h), (1, .int bag), (2, .int (-1))]) hx hb dX3_go_191 hl (by decide) rfl (fun ls hl => ?_)
                refine lv_iload hx hb dX3_go_193 (lv_at hl 1 rfl) ?_
                have hJ237_12 : ∀ (ls : Array Slot), lv_has ls 12 [(9, .int (nI (ch k))), (8, .int (b01 (lateP σ (arrF σ (goR σ row ch bag k).1 (goR σ row ch bag k).2.1 (en row k)) (en row k)))), (3, .int (nI (toN σ row k))), (7, .int (nI (toN σ row k))), (6, .int (nI (en row k))), (5, .int (nI k)), (4, .int (-1)), (0, .ref h), (1, .int bag), (2, .int (-1))] → W p l e rmX3_go_A s m args below meth c H locs 0 0 Q (F0 m 237 ls []) := by
                  intro  ls  hl
                  refine lv_iload hx hb dX3_go_237 (lv_at hl 1 rfl) ?_
                  have hJ258_13 : ∀ (v_14 : Int32) (ls : Array Slot), v_14 = (if lateP σ (arrF σ (goR σ row ch bag k).1 (goR σ row ch bag k).2.1 (en row k)) (en row k) then (-1) else leftF σ ((goR σ row ch bag k).2.2.1) (en row k) (ch k)) → lv_has ls 12 [(9, .int (nI (ch k))), (8, .int (b01 (lateP σ (arrF σ (goR σ row ch bag k).1 (goR σ row ch bag k).2.1 (en row k)) (en row k)))), (3, .int (nI (toN σ row k))), (7, .int (nI (toN σ row k))), (6, .int (nI (en row k))), (5, .int (nI k)), (4, .int (-1)), (0, .ref h), (1, .int bag), (2, .int (-1))] → W p l e rmX3_go_A s m args below meth c H locs 0 0 Q (F0 m 258 ls [.int v_14]) := by
                    intro v_14 ls ev_14 hl
                    have hjs : v_14 = leftL σ (arrF σ (goR σ row ch bag k).1 (goR σ row ch bag k).2.1 (en row k)) (goR σ row ch bag k).2.2.1 (en row k) (ch k) := ev_14
                    subst hjs
                    refine lv_istore (lv' := [(10, .int (leftL σ (arrF σ (goR σ row ch bag k).1 (goR σ row ch bag k).2.1 (en row k)) (goR σ row ch bag k).2.2.1 (en row k) (ch k))), (9, .int (nI (ch k))), (8, .int (b01 (lateP σ (arrF σ (goR σ row ch bag k).1 (goR σ row ch bag k).2.1 (en row k)) (en row k)))), (3, .int (nI (toN σ row k))), (7, .int (nI (toN σ row k))), (6, .int (nI (en row k))), (5, .int (nI k)), (4, .int (-1)), (0, .ref h), (1, .int bag), (2, .int (-1))]) hx hb dX3_go_258 hl (by decide) rfl (fun ls hl => ?_)
                    refine lv_iload hx hb dX3_go_260 (lv_at hl 0 rfl) ?_
                    refine lv_iconst (v := (-1)) hx hb dX3_go_262 rfl ?_
                    have hJ271_15 : ∀ (v_16 : Int32) (ls : Array Slot), v_16 = (if (leftL σ (arrF σ (goR σ row ch bag k).1 (goR σ row ch bag k).2.1 (en row k)) (goR σ row ch bag k).2.2.1 (en row k) (ch k)) = (-1) then 0 else 1) → lv_has ls 12 [(10, .int (leftL σ (arrF σ (goR σ row ch bag k).1 (goR σ row ch bag k).2.1 (en row k)) (goR σ row ch bag k).2.2.1 (en row k) (ch k))), (9, .int (nI (ch k))), (8, .int (b01 (lateP σ (arrF σ (goR σ row ch bag k).1 (goR σ row ch bag k).2.1 (en row k)) (en row k)))), (3, .int (nI (toN σ row k))), (7, .int (nI (toN σ row k))), (6, .int (nI (en row k))), (5, .int (nI k)), (4, .int (-1)), (0, .ref h), (1, .int bag), (2, .int (-1))] → W p l e rmX3_go_A s m args below meth c H locs 0 0 Q (F0 m 271 ls [.int v_16]) := by
                      intro v_16 ls ev_16 hl
                      have hjs : v_16 = b01 (¬ (leftL σ (arrF σ (goR σ row ch bag k).1 (goR σ row ch bag k).2.1 (en row k)) (goR σ row ch bag k).2.2.1 (en row k) (ch k)) = -1) := b01_not ev_16
                      subst hjs
                      refine lv_istore (lv' := [(11, .int (b01 (¬ (leftL σ (arrF σ (goR σ row ch bag k).1 (goR σ row ch bag k).2.1 (en row k)) (goR σ row ch bag k).2.2.1 (en row k) (ch k)) = -1))), (10, .int (leftL σ (arrF σ (goR σ row ch bag k).1 (goR σ row ch bag k).2.1 (en row k)) (goR σ row ch bag k).2.2.1 (en row k) (ch k))), (9, .int (nI (ch k))), (8, .int (b01 (lateP σ (arrF σ (goR σ row ch bag k).1 (goR σ row ch bag k).2.1 (en row k)) (en row k)))), (3, .int (nI (toN σ row k))), (7, .int (nI (toN σ row k))), (6, .int (nI (en row k))), (5, .int (nI k)), (4, .int (-1)), (0, .ref h), (1, .int bag), (2, .int (-1))]) hx hb dX3_go_271 hl (by decide) rfl (fun ls hl => ?_)
                      refine lv_aload_n hx hb dX3_go_273 rfl (lv_at hl 9 rfl) ?_
                      refine lv_dup hx hb dX3_go_274 rfl ?_
                      refine va_get (D := D) (ci := 0) (v := .int (arrF σ (goR σ row ch bag k).1 (goR σ row ch bag k).2.1 (en row k))) (C := RX3) (T := TX3) (N := 31) hx hb hts in_X3 hown hK hP 0 rfl rfl 27 (by decide) (hts _ q1141) (fun _ h9 => h9) rfl dX3_go_275 ?_
                      refine lv_iload hx hb dX3_go_278 (lv_at hl 3 rfl) ?_
                      have hJ324_17 : ∀ (v_18 : Int32) (ls : Array Slot), v_18 = (if lateP σ (arrF σ (goR σ row ch bag k).1 (goR σ row ch bag k).2.1 (en row k)) (en row k) then 0 else if ¬ (leftL σ (arrF σ (goR σ row ch bag k).1 (goR σ row ch bag k).2.1 (en row k)) (goR σ row ch bag k).2.2.1 (en row k) (ch k)) = -1 then σ.sorts (((16 * (en row k)) + (4 * (ch k))) + 1) else σ.calls ((6 * (en row k)) + 5)) → lv_has ls 12 [(11, .int (b01 (¬ (leftL σ (arrF σ (goR σ row ch bag k).1 (goR σ row ch bag k).2.1 (en row k)) (goR σ row ch bag k).2.2.1 (en row k) (ch k)) = -1))), (10, .int (leftL σ (arrF σ (goR σ row ch bag k).1 (goR σ row ch bag k).2.1 (en row k)) (goR σ row ch bag k).2.2.1 (en row k) (ch k))), (9, .int (nI (ch k))), (8, .int (b01 (lateP σ (arrF σ (goR σ row ch bag k).1 (goR σ row ch bag k).2.1 (en row k)) (en row k)))), (3, .int (nI (toN σ row k))), (7, .int (nI (toN σ row k))), (6, .int (nI (en row k))), (5, .int (nI k)), (4, .int (-1)), (0, .ref h), (1, .int bag), (2, .int (-1))] → W p l e rmX3_go_A s m args below meth c H locs 0 0 Q (F0 m 324 ls [.int v_18, .int (arrF σ (goR σ row ch bag k).1 (goR σ row ch bag k).2.1 (en row k)), .ref h]) := by
                        intro v_18 ls ev_18 hl
                        refine lv_iadd hx hb dX3_go_324 ?_
                        refine lv_topi (fun g_19 eg_19 => ?_)
                        refine va_put (D := D) (ci := 0) (v := .int g_19) (ty := .int) (C := RX3) (T := TX3) (N := 31) hx hb hts in_X3 tyX3 tyX3_ok nmX3 hown hK hP (mD_va hmD dA σ ((τ.read, τ.rm, τ.at_, τ.place, τ.end_, τ.ents, τ.em, τ.combos, τ.all_, τ.weight, (goR σ row ch bag k).2.2.2.1, (goR σ row ch bag k).2.2.2.2.2, arrF σ (goR σ row ch bag k).1 (goR σ row ch bag k).2.1 (en row k), (goR σ row ch bag k).2.2.2.2.1, (goR σ row ch bag k).2.2.1, τ.chosen) : Sc)) hS 0 rfl rfl 27 (by decide) (hts _ q1141) (fun _ h9 => h9) rfl (by decide +kernel) (rfl) (rfl) (Nat.le_of_ble_eq_true rfl) dX3_go_325 (fun H locs hP _ hS => ?_)
                        have hP : va_P D vwCl (mX dA h ad σ.txt σ.len σ.wt σ.pr σ.tools σ.load σ.purse σ.beg σ.ways σ.told σ.calls σ.sm σ.sorts σ.visits σ.vm τ.read τ.rm τ.at_ τ.place τ.end_ τ.ents τ.em τ.combos τ.all_ τ.weight ((goR σ row ch bag k).2.2.2.1) ((goR σ row ch bag k).2.2.2.2.2) g_19 ((goR σ row ch bag k).2.2.2.2.1) ((goR σ row ch bag k).2.2.1) τ.chosen) H := hP
                        refine lv_aload_n hx hb dX3_go_328 rfl (lv_at hl 9 rfl) ?_
                        refine lv_dup hx hb dX3_go_329 rfl ?_
                        refine va_get (D := D) (ci := 0) (v := .int ((goR σ row ch bag k).2.2.2.1)) (C := RX3) (T := TX3) (N := 31) hx hb hts in_X3 hown hK hP 0 rfl rfl 25 (by decide) (hts _ q1139) (fun _ h9 => h9) rfl dX3_go_330 ?_
                        refine lv_iload hx hb dX3_go_333 (lv_at hl 0 rfl) ?_
                        have hJ366_20 : ∀ (v_21 : Int32) (ls : Array Slot), v_21 = (if ¬ (leftL σ (arrF σ (goR σ row ch bag k).1 (goR σ row ch bag k).2.1 (en row k)) (goR σ row ch bag k).2.2.1 (en row k) (ch k)) = -1 then σ.calls ((6 * (en row k)) + 3) else -(σ.calls ((6 * (en row k)) + 4))) → lv_has ls 12 [(11, .int (b01 (¬ (leftL σ (arrF σ (goR σ row ch bag k).1 (goR σ row ch bag k).2.1 (en row k)) (goR σ row ch bag k).2.2.1 (en row k) (ch k)) = -1))), (10, .int (leftL σ (arrF σ (goR σ row ch bag k).1 (goR σ row ch bag k).2.1 (en row k)) (goR σ row ch bag k).2.2.1 (en row k) (ch k))), (9, .int (nI (ch k))), (8, .int (b01 (lateP σ (arrF σ (goR σ row ch bag k).1 (goR σ row ch bag k).2.1 (en row k)) (en row k)))), (3, .int (nI (toN σ row k))), (7, .int (nI (toN σ row k))), (6, .int (nI (en row k))), (5, .int (nI k)), (4, .int (-1)), (0, .ref h), (1, .int bag), (2, .int (-1))] → W p l e rmX3_go_A s m args below meth c H locs 0 0 Q (F0 m 366 ls [.int v_21, .int ((goR σ row ch bag k).2.2.2.1), .ref h]) := by
                          intro v_21 ls ev_21 hl
                          refine lv_iadd hx hb dX3_go_366 ?_
                          refine lv_topi (fun g_22 eg_22 => ?_)
                          refine va_put (D := D) (ci := 0) (v := .int g_22) (ty := .int) (C := RX3) (T := TX3) (N := 31) hx hb hts in_X3 tyX3 tyX3_ok nmX3 hown hK hP (mD_va hmD dA σ ((τ.read, τ.rm, τ.at_, τ.place, τ.end_, τ.ents, τ.em, τ.combos, τ.all_, τ.weight, (goR σ row ch bag k).2.2.2.1, (goR σ row ch bag k).2.2.2.2.2, g_19, (goR σ row ch bag k).2.2.2.2.1, (goR σ row ch bag k).2.2.1, τ.chosen) : Sc)) hS 0 rfl rfl 25 (by decide) (hts _ q1139) (fun _ h9 => h9) rfl (by decide +kernel) (rfl) (rfl) (Nat.le_of_ble_eq_true rfl) dX3_go_367 (fun H locs hP _ hS => ?_)
                          have hP : va_P D vwCl (mX dA h ad σ.txt σ.len σ.wt σ.pr σ.tools σ.load σ.purse σ.beg σ.ways σ.told σ.calls σ.sm σ.sorts σ.visits σ.vm τ.read τ.rm τ.at_ τ.place τ.end_ τ.ents τ.em τ.combos τ.all_ τ.weight g_22 ((goR σ row ch bag k).2.2.2.2.2) g_19 ((goR σ row ch bag k).2.2.2.2.1) ((goR σ row ch bag k).2.2.1) τ.chosen) H := hP
                          refine lv_aload_n hx hb dX3_go_370 rfl (lv_at hl 9 rfl) ?_
                          refine lv_iload hx hb dX3_go_371 (lv_at hl 0 rfl) ?_
                          have hJ385_23 : ∀ (v_24 : Int32) (ls : Array Slot), v_24 = (if ¬ (leftL σ (arrF σ (goR σ row ch bag k).1 (goR σ row ch bag k).2.1 (en row k)) (goR σ row ch bag k).2.2.1 (en row k) (ch k)) = -1 then leftL σ (arrF σ (goR σ row ch bag k).1 (goR σ row ch bag k).2.1 (en row k)) (goR σ row ch bag k).2.2.1 (en row k) (ch k) else (goR σ row ch bag k).2.2.1) → lv_has ls 12 [(11, .int (b01 (¬ (leftL σ (arrF σ (goR σ row ch bag k).1 (goR σ row ch bag k).2.1 (en row k)) (goR σ row ch bag k).2.2.1 (en row k) (ch k)) = -1))), (10, .int (leftL σ (arrF σ (goR σ row ch bag k).1 (goR σ row ch bag k).2.1 (en row k)) (goR σ row ch bag k).2.2.1 (en row k) (ch k))), (9, .int (nI (ch k))), (8, .int (b01 (lateP σ (arrF σ (goR σ row ch bag k).1 (goR σ row ch bag k).2.1 (en row k)) (en row k)))), (3, .int (nI (toN σ row k))), (7, .int (nI (toN σ row k))), (6, .int (nI (en row k))), (5, .int (nI k)), (4, .int (-1)), (0, .ref h), (1, .int bag), (2, .int (-1))] → W p l e rmX3_go_A s m args below meth c H locs 0 0 Q (F0 m 385 ls [.int v_24, .ref h]) := by
                            intro v_24 ls ev_24 hl
                            refine va_put (D := D) (ci := 0) (v := .int v_24) (ty := .int) (C := RX3) (T := TX3) (N := 31) hx hb hts in_X3 tyX3 tyX3_ok nmX3 hown hK hP (mD_va hmD dA σ ((τ.read, τ.rm, τ.at_, τ.place, τ.end_, τ.ents, τ.em, τ.combos, τ.all_, τ.weight, g_22, (goR σ row ch bag k).2.2.2.2.2, g_19, (goR σ row ch bag k).2.2.2.2.1, (goR σ row ch bag k).2.2.1, τ.chosen) : Sc)) hS 0 rfl rfl 29 (by decide) (hts _ q1143) (fun _ h9 => h9) rfl (by decide +kernel) (rfl) (rfl) (Nat.le_of_ble_eq_true rfl) dX3_go_385 (fun H locs hP _ hS => ?_)
                            have hP : va_P D vwCl (mX dA h ad σ.txt σ.len σ.wt σ.pr σ.tools σ.load σ.purse σ.beg σ.ways σ.told σ.calls σ.sm σ.sorts σ.visits σ.vm τ.read τ.rm τ.at_ τ.place τ.end_ τ.ents τ.em τ.combos τ.all_ τ.weight g_22 ((goR σ row ch bag k).2.2.2.2.2) g_19 ((goR σ row ch bag k).2.2.2.2.1) v_24 τ.chosen) H := hP
                            refine lv_aload_n hx hb dX3_go_388 rfl (lv_at hl 9 rfl) ?_
                            refine lv_dup hx hb dX3_go_389 rfl ?_
                            refine va_get (D := D) (ci := 0) (v := .int ((goR σ row ch bag k).2.2.2.2.1)) (C := RX3) (T := TX3) (N := 31) hx hb hts in_X3 hown hK hP 0 rfl rfl 28 (by decide) (hts _ q1142) (fun _ h9 => h9) rfl dX3_go_390 ?_
                            refine lv_iload hx hb dX3_go_393 (lv_at hl 0 rfl) ?_
                            have hJ406_25 : ∀ (v_26 : Int32) (ls : Array Slot), v_26 = (if ¬ (leftL σ (arrF σ (goR σ row ch bag k).1 (goR σ row ch bag k).2.1 (en row k)) (goR σ row ch bag k).2.2.1 (en row k) (ch k)) = -1 then (1 : Int32) <<< ((nI (en row k)) &&& 31) else 0) → lv_has ls 12 [(11, .int (b01 (¬ (leftL σ (arrF σ (goR σ row ch bag k).1 (goR σ row ch bag k).2.1 (en row k)) (goR σ row ch bag k).2.2.1 (en row k) (ch k)) = -1))), (10, .int (leftL σ (arrF σ (goR σ row ch bag k).1 (goR σ row ch bag k).2.1 (en row k)) (goR σ row ch bag k).2.2.1 (en row k) (ch k))), (9, .int (nI (ch k))), (8, .int (b01 (lateP σ (arrF σ (goR σ row ch bag k).1 (goR σ row ch bag k).2.1 (en row k)) (en row k)))), (3, .int (nI (toN σ row k))), (7, .int (nI (toN σ row k))), (6, .int (nI (en row k))), (5, .int (nI k)), (4, .int (-1)), (0, .ref h), (1, .int bag), (2, .int (-1))] → W p l e rmX3_go_A s m args below meth c H locs 0 0 Q (F0 m 406 ls [.int v_26, .int ((goR σ row ch bag k).2.2.2.2.1), .ref h]) := by
                              intro v_26 ls ev_26 hl
                              refine lv_ior hx hb dX3_go_406 ?_
                              refine lv_topi (fun g_27 eg_27 => ?_)
                              refine va_put (D := D) (ci := 0) (v := .int g_27) (ty := .int) (C := RX3) (T := TX3) (N := 31) hx hb hts in_X3 tyX3 tyX3_ok nmX3 hown hK hP (mD_va hmD dA σ ((τ.read, τ.rm, τ.at_, τ.place, τ.end_, τ.ents, τ.em, τ.combos, τ.all_, τ.weight, g_22, (goR σ row ch bag k).2.2.2.2.2, g_19, (goR σ row ch bag k).2.2.2.2.1, v_24, τ.chosen) : Sc)) hS 0 rfl rfl 28 (by decide) (hts _ q1142) (fun _ h9 => h9) rfl (by decide +kernel) (rfl) (rfl) (Nat.le_of_ble_eq_true rfl) dX3_go_407 (fun H locs hP _ hS => ?_)
                              have hP : va_P D vwCl (mX dA h ad σ.txt σ.len σ.wt σ.pr σ.tools σ.load σ.purse σ.beg σ.ways σ.told σ.calls σ.sm σ.sorts σ.visits σ.vm τ.read τ.rm τ.at_ τ.place τ.end_ τ.ents τ.em τ.combos τ.all_ τ.weight g_22 ((goR σ row ch bag k).2.2.2.2.2) g_19 g_27 v_24 τ.chosen) H := hP
                              refine lv_aload_n hx hb dX3_go_410 rfl (lv_at hl 9 rfl) ?_
                              refine lv_aload_n hx hb dX3_go_411 rfl (lv_at hl 9 rfl) ?_
                              refine va_get (D := D) (ci := 0) (v := .int ((goR σ row ch bag k).2.2.2.2.2)) (C := RX3) (T := TX3) (N := 31) hx hb hts in_X3 hown hK hP 0 rfl rfl 26 (by decide) (hts _ q1140) (fun _ h9 => h9) rfl dX3_go_412 ?_
                              have hJ428_28 : ∀ (v_29 : Int32) (ls : Array Slot), v_29 = (if ((goR σ row ch bag k).2.2.2.2.2) = 0 then 0 else if ¬ (leftL σ (arrF σ (goR σ row ch bag k).1 (goR σ row ch bag k).2.1 (en row k)) (goR σ row ch bag k).2.2.1 (en row k) (ch k)) = -1 then 1 else 0) → lv_has ls 12 [(11, .int (b01 (¬ (leftL σ (arrF σ (goR σ row ch bag k).1 (goR σ row ch bag k).2.1 (en row k)) (goR σ row ch bag k).2.2.1 (en row k) (ch k)) = -1))), (10, .int (leftL σ (arrF σ (goR σ row ch bag k).1 (goR σ row ch bag k).2.1 (en row k)) (goR σ row ch bag k).2.2.1 (en row k) (ch k))), (9, .int (nI (ch k))), (8, .int (b01 (lateP σ (arrF σ (goR σ row ch bag k).1 (goR σ row ch bag k).2.1 (en row k)) (en row k)))), (3, .int (nI (toN σ row k))), (7, .int (nI (toN σ row k))), (6, .int (nI (en row k))), (5, .int (nI k)), (4, .int (-1)), (0, .ref h), (1, .int bag), (2, .int (-1))] → W p l e rmX3_go_A s m args below meth c H locs 0 0 Q (F0 m 428 ls [.int v_29, .ref h]) := by
                                intro v_29 ls ev_29 hl
                                refine va_put (D := D) (ci := 0) (v := .int v_29) (ty := .boolean) (C := RX3) (T := TX3) (N := 31) hx hb hts in_X3 tyX3 tyX3_ok nmX3 hown hK hP (mD_va hmD dA σ ((τ.read, τ.rm, τ.at_, τ.place, τ.end_, τ.ents, τ.em, τ.combos, τ.all_, τ.weight, g_22, (goR σ row ch bag k).2.2.2.2.2, g_19, g_27, v_24, τ.chosen) : Sc)) hS 0 rfl rfl 26 (by decide) (hts _ q1140) (fun _ h9 => h9) rfl (by decide +kernel) (w_nar (by subst_vars; split <;> (try split) <;> first | exact Or.inl rfl | exact Or.inr rfl)) (w_fit (by subst_vars; split <;> (try split) <;> first | exact Or.inl rfl | exact Or.inr rfl)) (Nat.le_of_ble_eq_true rfl) dX3_go_428 (fun H locs hP _ hS => ?_)
                                have hP : va_P D vwCl (mX dA h ad σ.txt σ.len σ.wt σ.pr σ.tools σ.load σ.purse σ.beg σ.ways σ.told σ.calls σ.sm σ.sorts σ.visits σ.vm τ.read τ.rm τ.at_ τ.place τ.end_ τ.ents τ.em τ.combos τ.all_ τ.weight g_22 v_29 g_19 g_27 v_24 τ.chosen) H := hP
                                refine lv_iinc (v := nI (k + 1)) (lv' := [(5, .int (nI (k + 1))), (11, .int (b01 (¬ (leftL σ (arrF σ (goR σ row ch bag k).1 (goR σ row ch bag k).2.1 (en row k)) (goR σ row ch bag k).2.2.1 (en row k) (ch k)) = -1))), (10, .int (leftL σ (arrF σ (goR σ row ch bag k).1 (goR σ row ch bag k).2.1 (en row k)) (goR σ row ch bag k).2.2.1 (en row k) (ch k))), (9, .int (nI (ch k))), (8, .int (b01 (lateP σ (arrF σ (goR σ row ch bag k).1 (goR σ row ch bag k).2.1 (en row k)) (en row k)))), (3, .int (nI (toN σ row k))), (7, .int (nI (toN σ row k))), (6, .int (nI (en row k))), (4, .int (-1)), (0, .ref h), (1, .int bag), (2, .int (-1))]) hx hb dX3_go_431 hl (k := 7) rfl (nI_1 k) (by decide) rfl (fun ls hl => ?_)
                                refine lv_goto (tgt := 36) hx hb dX3_go_434 rfl ?_
                                have eh_30 : g_19 = (goR σ row ch bag (k + 1)).2.1 := (by subst_vars; rw [goR, if_neg h105] <;> rfl)
                                have eh_31 : v_24 = (goR σ row ch bag (k + 1)).2.2.1 := (by subst_vars; rw [goR, if_neg h105] <;> rfl)
                                have eh_32 : g_22 = (goR σ row ch bag (k + 1)).2.2.2.1 := (by subst_vars; rw [goR, if_neg h105] <;> rfl)
                                have eh_33 : g_27 = (goR σ row ch bag (k + 1)).2.2.2.2.1 := (by subst_vars; rw [goR, if_neg h105] <;> rfl)
                                have eh_34 : v_29 = (goR σ row ch bag (k + 1)).2.2.2.2.2 := (by subst_vars; rw [goR, if_neg h105] <;> rfl)
                                have hP : va_P D vwCl (mX dA h ad σ.txt σ.len σ.wt σ.pr σ.tools σ.load σ.purse σ.beg σ.ways σ.told σ.calls σ.sm σ.sorts σ.visits σ.vm τ.read τ.rm τ.at_ τ.place τ.end_ τ.ents τ.em τ.combos τ.all_ τ.weight ((goR σ row ch bag (k + 1)).2.2.2.1) ((goR σ row ch bag (k + 1)).2.2.2.2.2) ((goR σ row ch bag (k + 1)).2.1) ((goR σ row ch bag (k + 1)).2.2.2.2.1) ((goR σ row ch bag (k + 1)).2.2.1) τ.chosen) H := by rw [← eh_30, ← eh_31, ← eh_32, ← eh_33, ← eh_34]; exact hP
                                exact ih_3 (k + 1) (nI (k + 1)) (nI (toN σ row k)) ls _ _ (by omega) (by omega) rfl (by rw [goR_x1]) (lv_sub hl [0, 8, 5, 9, 10, 11] rfl) hP hS
                              refine lv_if_eq (tgt := 427) hx hb dX3_go_415 rfl (fun h415 => ?_) (fun h415 => ?_)
                              · have h415 : ((goR σ row ch bag k).2.2.2.2.2) = 0 := h415
                                refine lv_iconst (v := 0) hx hb dX3_go_427 rfl ?_
                                exact hJ428_28 (0) ls (by rw [if_pos h415]) (lv_sub hl [0, 1, 2, 3, 4, 5, 6, 7, 8, 9, 10, 11] rfl)
                              · have h415 : ¬ (((goR σ row ch bag k).2.2.2.2.2) = 0) := h415
                                refine lv_iload hx hb dX3_go_418 (lv_at hl 0 rfl) ?_
                                refine lv_if_eq (tgt := 427) hx hb dX3_go_420 rfl (fun h420 => ?_) (fun h420 => ?_)
                                · have h420 : ¬ (¬ (leftL σ (arrF σ (goR σ row ch bag k).1 (goR σ row ch bag k).2.1 (en row k)) (goR σ row ch bag k).2.2.1 (en row k) (ch k)) = -1) := b01_0.mp h420
                                  refine lv_iconst (v := 0) hx hb dX3_go_427 rfl ?_
                                  exact hJ428_28 (0) ls (by rw [if_neg h415, if_neg h420]) (lv_sub hl [0, 1, 2, 3, 4, 5, 6, 7, 8, 9, 10, 11] rfl)
                                · have h420 : ¬ (leftL σ (arrF σ (goR σ row ch bag k).1 (goR σ row ch bag k).2.1 (en row k)) (goR σ row ch bag k).2.2.1 (en row k) (ch k)) = -1 := b01_n h420
                                  refine lv_iconst (v := 1) hx hb dX3_go_423 rfl ?_
                                  refine lv_goto (tgt := 428) hx hb dX3_go_424 rfl ?_
                                  exact hJ428_28 (1) ls (by rw [if_neg h415, if_pos h420]) (lv_sub hl [0, 1, 2, 3, 4, 5, 6, 7, 8, 9, 10, 11] rfl)
                            refine lv_if_eq (tgt := 405) hx hb dX3_go_395 rfl (fun h395 => ?_) (fun h395 => ?_)
                            · have h395 : ¬ (¬ (leftL σ (arrF σ (goR σ row ch bag k).1 (goR σ row ch bag k).2.1 (en row k)) (goR σ row ch bag k).2.2.1 (en row k) (ch k)) = -1) := b01_0.mp h395
                              refine lv_iconst (v := 0) hx hb dX3_go_405 rfl ?_
                              exact hJ406_25 (0) ls (by rw [if_neg h395]) (lv_sub hl [0, 1, 2, 3, 4, 5, 6, 7, 8, 9, 10, 11] rfl)
                            · have h395 : ¬ (leftL σ (arrF σ (goR σ row ch bag k).1 (goR σ row ch bag k).2.1 (en row k)) (goR σ row ch bag k).2.2.1 (en row k) (ch k)) = -1 := b01_n h395
                              refine lv_iconst (v := 1) hx hb dX3_go_398 rfl ?_
                              refine lv_iload hx hb dX3_go_399 (lv_at hl 6 rfl) ?_
                              refine lv_ishl hx hb dX3_go_401 ?_
                              refine lv_goto (tgt := 406) hx hb dX3_go_402 rfl ?_
                              exact hJ406_25 ((1 : Int32) <<< ((nI (en row k)) &&& 31)) ls (by rw [if_pos h395]) (lv_sub hl [0, 1, 2, 3, 4, 5, 6, 7, 8, 9, 10, 11] rfl)
                          refine lv_if_eq (tgt := 381) hx hb dX3_go_373 rfl (fun h373 => ?_) (fun h373 => ?_)
                          · have h373 : ¬ (¬ (leftL σ (arrF σ (goR σ row ch bag k).1 (goR σ row ch bag k).2.1 (en row k)) (goR σ row ch bag k).2.2.1 (en row k) (ch k)) = -1) := b01_0.mp h373
                            refine lv_aload_n hx hb dX3_go_381 rfl (lv_at hl 9 rfl) ?_
                            refine va_get (D := D) (ci := 0) (v := .int ((goR σ row ch bag k).2.2.1)) (C := RX3) (T := TX3) (N := 31) hx hb hts in_X3 hown hK hP 0 rfl rfl 29 (by decide) (hts _ q1143) (fun _ h9 => h9) rfl dX3_go_382 ?_
                            exact hJ385_23 ((goR σ row ch bag k).2.2.1) ls (by rw [if_neg h373]) (lv_sub hl [0, 1, 2, 3, 4, 5, 6, 7, 8, 9, 10, 11] rfl)
                          · have h373 : ¬ (leftL σ (arrF σ (goR σ row ch bag k).1 (goR σ row ch bag k).2.1 (en row k)) (goR σ row ch bag k).2.2.1 (en row k) (ch k)) = -1 := b01_n h373
                            refine lv_iload hx hb dX3_go_376 (lv_at hl 1 rfl) ?_
                            refine lv_goto (tgt := 385) hx hb dX3_go_378 rfl ?_
                            exact hJ385_23 (leftL σ (arrF σ (goR σ row ch bag k).1 (goR σ row ch bag k).2.1 (en row k)) (goR σ row ch bag k).2.2.1 (en row k) (ch k)) ls (by rw [if_pos h373]) (lv_sub hl [0, 1, 2, 3, 4, 5, 6, 7, 8, 9, 10, 11] rfl)
                        refine lv_if_eq (tgt := 353) hx hb dX3_go_335 rfl (fun h335 => ?_) (fun h335 => ?_)
                        · have h335 : ¬ (¬ (leftL σ (arrF σ (goR σ row ch bag k).1 (goR σ row ch bag k).2.1 (en row k)) (goR σ row ch bag k).2.2.1 (en row k) (ch k)) = -1) := b01_0.mp h335
                          refine lv_aload_n hx hb dX3_go_353 rfl (lv_at hl 9 rfl) ?_
                          refine va_get (D := D) (ci := 0) (v := .ref (ad 5)) (C := RX3) (T := TX3) (N := 31) hx hb hts in_X3 hown hK hP 0 rfl rfl 12 (by decide) (hts _ q1126) (fun _ h9 => h9) rfl dX3_go_354 ?_
                          refine lv_bipush (v := 6) hx hb dX3_go_357 rfl ?_
                          refine lv_iload hx hb dX3_go_359 (lv_at hl 6 rfl) ?_
                          refine lv_imul hx hb dX3_go_361 ?_
                          refine lv_iconst (v := 4) hx hb dX3_go_362 rfl ?_
                          refine lv_iadd hx hb dX3_go_363 ?_
                          refine wa_iald (f := σ.calls) hx hb hK hP 6 0 rfl rfl ((6 * (en row k)) + 4) ((nz_add (nz_mul rfl rfl) rfl)) (by omega) (by decide) dX3_go_364 ?_
                          refine lv_ineg hx hb dX3_go_365 ?_
                          exact hJ366_20 (-(σ.calls ((6 * (en row k)) + 4))) ls (by rw [if_neg h335]) (lv_sub hl [0, 1, 2, 3, 4, 5, 6, 7, 8, 9, 10, 11] rfl)
                        · have h335 : ¬ (leftL σ (arrF σ (goR σ row ch bag k).1 (goR σ row ch bag k).2.1 (en row k)) (goR σ row ch bag k).2.2.1 (en row k) (ch k)) = -1 := b01_n h335
                          refine lv_aload_n hx hb dX3_go_338 rfl (lv_at hl 9 rfl) ?_
                          refine va_get (D := D) (ci := 0) (v := .ref (ad 5)) (C := RX3) (T := TX3) (N := 31) hx hb hts in_X3 hown hK hP 0 rfl rfl 12 (by decide) (hts _ q1126) (fun _ h9 => h9) rfl dX3_go_339 ?_
                          refine lv_bipush (v := 6) hx hb dX3_go_342 rfl ?_
                          refine lv_iload hx hb dX3_go_344 (lv_at hl 6 rfl) ?_
                          refine lv_imul hx hb dX3_go_346 ?_
                          refine lv_iconst (v := 3) hx hb dX3_go_347 rfl ?_
                          refine lv_iadd hx hb dX3_go_348 ?_
                          refine wa_iald (f := σ.calls) hx hb hK hP 6 0 rfl rfl ((6 * (en row k)) + 3) ((nz_add (nz_mul rfl rfl) rfl)) (by omega) (by decide) dX3_go_349 ?_
                          refine lv_goto (tgt := 366) hx hb dX3_go_350 rfl ?_
                          exact hJ366_20 (σ.calls ((6 * (en row k)) + 3)) ls (by rw [if_pos h335]) (lv_sub hl [0, 1, 2, 3, 4, 5, 6, 7, 8, 9, 10, 11] rfl)
                      refine lv_if_eq (tgt := 287) hx hb dX3_go_280 rfl (fun h280 => ?_) (fun h280 => ?_)
                      · have h280 : ¬ (lateP σ (arrF σ (goR σ row ch bag k).1 (goR σ row ch bag k).2.1 (en row k)) (en row k)) := b01_0.mp h280
                        refine lv_iload hx hb dX3_go_287 (lv_at hl 0 rfl) ?_
                        refine lv_if_eq (tgt := 312) hx hb dX3_go_289 rfl (fun h289 => ?_) (fun h289 => ?_)
                        · have h289 : ¬ (¬ (leftL σ (arrF σ (goR σ row ch bag k).1 (goR σ row ch bag k).2.1 (en row k)) (goR σ row ch bag k).2.2.1 (en row k) (ch k)) = -1) := b01_0.mp h289
                          refine lv_aload_n hx hb dX3_go_312 rfl (lv_at hl 9 rfl) ?_
                          refine va_get (D := D) (ci := 0) (v := .ref (ad 5)) (C := RX3) (T := TX3) (N := 31) hx hb hts in_X3 hown hK hP 0 rfl rfl 12 (by decide) (hts _ q1126) (fun _ h9 => h9) rfl dX3_go_313 ?_
                          refine lv_bipush (v := 6) hx hb dX3_go_316 rfl ?_
                          refine lv_iload hx hb dX3_go_318 (lv_at hl 6 rfl) ?_
                          refine lv_imul hx hb dX3_go_320 ?_
                          refine lv_iconst (v := 5) hx hb dX3_go_321 rfl ?_
                          refine lv_iadd hx hb dX3_go_322 ?_
                          refine wa_iald (f := σ.calls) hx hb hK hP 6 0 rfl rfl ((6 * (en row k)) + 5) ((nz_add (nz_mul rfl rfl) rfl)) (by omega) (by decide) dX3_go_323 ?_
                          exact hJ324_17 (σ.calls ((6 * (en row k)) + 5)) ls (by rw [if_neg h280, if_neg h289]) (lv_sub hl [0, 1, 2, 3, 4, 5, 6, 7, 8, 9, 10, 11] rfl)
                        · have h289 : ¬ (leftL σ (arrF σ (goR σ row ch bag k).1 (goR σ row ch bag k).2.1 (en row k)) (goR σ row ch bag k).2.2.1 (en row k) (ch k)) = -1 := b01_n h289
                          refine lv_aload_n hx hb dX3_go_292 rfl (lv_at hl 9 rfl) ?_
                          refine va_get (D := D) (ci := 0) (v := .ref (ad 7)) (C := RX3) (T := TX3) (N := 31) hx hb hts in_X3 hown hK hP 0 rfl rfl 14 (by decide) (hts _ q1128) (fun _ h9 => h9) rfl dX3_go_293 ?_
                          refine lv_bipush (v := 16) hx hb dX3_go_296 rfl ?_
                          refine lv_iload hx hb dX3_go_298 (lv_at hl 6 rfl) ?_
                          refine lv_imul hx hb dX3_go_300 ?_
                          refine lv_iconst (v := 4) hx hb dX3_go_301 rfl ?_
                          refine lv_iload hx hb dX3_go_302 (lv_at hl 2 rfl) ?_
                          refine lv_imul hx hb dX3_go_304 ?_
                          refine lv_iadd hx hb dX3_go_305 ?_
                          refine lv_iconst (v := 1) hx hb dX3_go_306 rfl ?_
                          refine lv_iadd hx hb dX3_go_307 ?_
                          refine wa_iald (f := σ.sorts) hx hb hK hP 8 0 rfl rfl (((16 * (en row k)) + (4 * (ch k))) + 1) ((nz_add (nz_add (nz_mul rfl rfl) (nz_mul rfl rfl)) rfl)) (by omega) (by decide) dX3_go_308 ?_
                          refine lv_goto (tgt := 324) hx hb dX3_go_309 rfl ?_
                          exact hJ324_17 (σ.sorts (((16 * (en row k)) + (4 * (ch k))) + 1)) ls (by rw [if_neg h280, if_pos h289]) (lv_sub hl [0, 1, 2, 3, 4, 5, 6, 7, 8, 9, 10, 11] rfl)
                      · have h280 : lateP σ (arrF σ (goR σ row ch bag k).1 (goR σ row ch bag k).2.1 (en row k)) (en row k) := b01_n h280
                        refine lv_iconst (v := 0) hx hb dX3_go_283 rfl ?_
                        refine lv_goto (tgt := 324) hx hb dX3_go_284 rfl ?_
                        exact hJ324_17 (0) ls (by rw [if_pos h280]) (lv_sub hl [0, 1, 2, 3, 4, 5, 6, 7, 8, 9, 10, 11] rfl)
                    refine lv_icmp_eq (tgt := 270) hx hb dX3_go_263 rfl (fun h263 => ?_) (fun h263 => ?_)
                    · have h263 : (leftL σ (arrF σ (goR σ row ch bag k).1 (goR σ row ch bag k).2.1 (en row k)) (goR σ row ch bag k).2.2.1 (en row k) (ch k)) = (-1) := h263
                      refine lv_iconst (v := 0) hx hb dX3_go_270 rfl ?_
                      exact hJ271_15 (0) ls (by rw [if_pos h263]) (lv_sub hl [0, 1, 2, 3, 4, 5, 6, 7, 8, 9, 10] rfl)
                    · have h263 : ¬ ((leftL σ (arrF σ (goR σ row ch bag k).1 (goR σ row ch bag k).2.1 (en row k)) (goR σ row ch bag k).2.2.1 (en row k) (ch k)) = (-1)) := h263
                      refine lv_iconst (v := 1) hx hb dX3_go_266 rfl ?_
                      refine lv_goto (tgt := 271) hx hb dX3_go_267 rfl ?_
                      exact hJ271_15 (1) ls (by rw [if_neg h263]) (lv_sub hl [0, 1, 2, 3, 4, 5, 6, 7, 8, 9, 10] rfl)
                  refine lv_if_eq (tgt := 246) hx hb dX3_go_239 rfl (fun h239 => ?_) (fun h239 => ?_)
                  · have h239 : ¬ (lateP σ (arrF σ (goR σ row ch bag k).1 (goR σ row ch bag k).2.1 (en row k)) (en row k)) := b01_0.mp h239
                    refine lv_aload_n hx hb dX3_go_246 rfl (lv_at hl 7 rfl) ?_
                    refine lv_aload_n hx hb dX3_go_247 rfl (lv_at hl 7 rfl) ?_
                    refine va_get (D := D) (ci := 0) (v := .int ((goR σ row ch bag k).2.2.1)) (C := RX3) (T := TX3) (N := 31) hx hb hts in_X3 hown hK hP 0 rfl rfl 29 (by decide) (hts _ q1143) (fun _ h9 => h9) rfl dX3_go_248 ?_
                    refine lv_iload hx hb dX3_go_251 (lv_at hl 4 rfl) ?_
                    refine lv_iload hx hb dX3_go_253 (lv_at hl 0 rfl) ?_
                    refine cVi (As := [.int ((goR σ row ch bag k).2.2.1), .int (nI (en row k)), .int (nI (ch k))]) (rest := []) ⟨hx, hb, hml, hown, hts⟩ (mt_X3_leftOf l D dA h ad σ ((τ.read, τ.rm, τ.at_, τ.place, τ.end_, τ.ents, τ.em, τ.combos, τ.all_, τ.weight, (goR σ row ch bag k).2.2.2.1, (goR σ row ch bag k).2.2.2.2.2, arrF σ (goR σ row ch bag k).1 (goR σ row ch bag k).2.1 (en row k), (goR σ row ch bag k).2.2.2.2.1, (goR σ row ch bag k).2.2.1, τ.chosen) : Sc) ((goR σ row ch bag k).2.2.1) (en row k) (ch k) (by omega) (by omega)) (cw_X3_X3_leftOf hts ⟨Nat.le_of_ble_eq_true rfl, Nat.le_of_ble_eq_true rfl⟩) mB_bl (mB_now hK hP) (va_recv hK hP (ci := 0) (q0 := 0) rfl rfl) rfl hl.1 rfl (Nat.le_of_ble_eq_true rfl) dX3_go_255 ⟨Nat.le_of_ble_eq_true rfl, Nat.le_of_ble_eq_true rfl⟩ ?_
                    exact hJ258_13 (leftF σ ((goR σ row ch bag k).2.2.1) (en row k) (ch k)) ls (by rw [if_neg h239]) (lv_sub hl [0, 1, 2, 3, 4, 5, 6, 7, 8, 9] rfl)
                  · have h239 : lateP σ (arrF σ (goR σ row ch bag k).1 (goR σ row ch bag k).2.1 (en row k)) (en row k) := b01_n h239
                    refine lv_iconst (v := (-1)) hx hb dX3_go_242 rfl ?_
                    refine lv_goto (tgt := 258) hx hb dX3_go_243 rfl ?_
                    exact hJ258_13 ((-1)) ls (by rw [if_pos h239]) (lv_sub hl [0, 1, 2, 3, 4, 5, 6, 7, 8, 9] rfl)
                refine lv_if_ne (tgt := 237) hx hb dX3_go_195 rfl (fun h195 => ?_) (fun h195 => ?_)
                · have h195 : lateP σ (arrF σ (goR σ row ch bag k).1 (goR σ row ch bag k).2.1 (en row k)) (en row k) := b01_n h195
                  exact hJ237_12  ls  (lv_sub hl [0, 1, 2, 3, 4, 5, 6, 7, 8, 9] rfl)
                · have h195 : ¬ (lateP σ (arrF σ (goR σ row ch bag k).1 (goR σ row ch bag k).2.1 (en row k)) (en row k)) := b01_0.mp h195
                  refine lv_iload_n hx hb dX3_go_198 rfl (lv_at hl 9 rfl) ?_
                  refine lv_if_lt (tgt := 237) hx hb dX3_go_199 rfl (fun h199 => ?_) (fun h199 => ?_)
                  · have h199 : ((-1) : Int32) < 0 := h199
                    exact hJ237_12  ls  (lv_sub hl [0, 1, 2, 3, 4, 5, 6, 7, 8, 9] rfl)
                  · have h199 : ¬ (((-1) : Int32) < 0) := h199
                    exact absurd (by decide) h199
              refine lv_icmp_le (tgt := 181) hx hb dX3_go_174 rfl (fun h174 => ?_) (fun h174 => ?_)
              · have h174 : (arrF σ (goR σ row ch bag k).1 (goR σ row ch bag k).2.1 (en row k)) ≤ (σ.calls ((6 * (en row k)) + 2)) := h174
                refine lv_iconst (v := 0) hx hb dX3_go_181 rfl ?_
                exact hJ182_10 (0) ls (by rw [if_pos h174]) (lv_sub hl [0, 1, 2, 3, 4, 5, 6, 7] rfl)
              · have h174 : ¬ ((arrF σ (goR σ row ch bag k).1 (goR σ row ch bag k).2.1 (en row k)) ≤ (σ.calls ((6 * (en row k)) + 2))) := h174
                refine lv_iconst (v := 1) hx hb dX3_go_177 rfl ?_
                refine lv_goto (tgt := 182) hx hb dX3_go_178 rfl ?_
                exact hJ182_10 (1) ls (by rw [if_neg h174]) (lv_sub hl [0, 1, 2, 3, 4, 5, 6, 7] rfl)
            refine lv_icmp_ge (tgt := 151) hx hb dX3_go_133 rfl (fun h133 => ?_) (fun h133 => ?_)
            · have h133 : (σ.calls ((6 * (en row k)) + 1)) ≤ g_7 := h133
              refine lv_aload_n hx hb dX3_go_151 rfl (lv_at hl 5 rfl) ?_
              refine va_get (D := D) (ci := 0) (v := .int g_7) (C := RX3) (T := TX3) (N := 31) hx hb hts in_X3 hown hK hP 0 rfl rfl 27 (by decide) (hts _ q1141) (fun _ h9 => h9) rfl dX3_go_152 ?_
              exact hJ155_8 (g_7) ls (by subst_vars; rw [if_pos h133]) (lv_sub hl [0, 1, 2, 3, 4, 5, 6, 7] rfl)
            · have h133 : ¬ ((σ.calls ((6 * (en row k)) + 1)) ≤ g_7) := h133
              refine lv_aload_n hx hb dX3_go_136 rfl (lv_at hl 5 rfl) ?_
              refine va_get (D := D) (ci := 0) (v := .ref (ad 5)) (C := RX3) (T := TX3) (N := 31) hx hb hts in_X3 hown hK hP 0 rfl rfl 12 (by decide) (hts _ q1126) (fun _ h9 => h9) rfl dX3_go_137 ?_
              refine lv_bipush (v := 6) hx hb dX3_go_140 rfl ?_
              refine lv_iload hx hb dX3_go_142 (lv_at hl 2 rfl) ?_
              refine lv_imul hx hb dX3_go_144 ?_
              refine lv_iconst (v := 1) hx hb dX3_go_145 rfl ?_
              refine lv_iadd hx hb dX3_go_146 ?_
              refine wa_iald (f := σ.calls) hx hb hK hP 6 0 rfl rfl ((6 * (en row k)) + 1) ((nz_add (nz_mul rfl rfl) rfl)) (by omega) (by decide) dX3_go_147 ?_
              refine lv_goto (tgt := 155) hx hb dX3_go_148 rfl ?_
              exact hJ155_8 (σ.calls ((6 * (en row k)) + 1)) ls (by rw [if_neg h133]) (lv_sub hl [0, 1, 2, 3, 4, 5, 6, 7] rfl)
          · have h105 : (en row k) = 6 := (nz_eq (a := en row k) (b := 6) rfl rfl (by omega) (by omega)).mp h105
            refine lv_aload_n hx hb dX3_go_108 rfl (lv_at hl 5 rfl) ?_
            refine lv_iload_n hx hb dX3_go_109 rfl (lv_at hl 6 rfl) ?_
            refine va_put (D := D) (ci := 0) (v := .int bag) (ty := .int) (C := RX3) (T := TX3) (N := 31) hx hb hts in_X3 tyX3 tyX3_ok nmX3 hown hK hP (mD_va hmD dA σ ((τ.read, τ.rm, τ.at_, τ.place, τ.end_, τ.ents, τ.em, τ.combos, τ.all_, τ.weight, (goR σ row ch bag k).2.2.2.1, (goR σ row ch bag k).2.2.2.2.2, g_7, (goR σ row ch bag k).2.2.2.2.1, (goR σ row ch bag k).2.2.1, τ.chosen) : Sc)) hS 0 rfl rfl 29 (by decide) (hts _ q1143) (fun _ h9 => h9) rfl (by decide +kernel) (rfl) (rfl) (Nat.le_of_ble_eq_true rfl) dX3_go_110 (fun H locs hP _ hS => ?_)
            have hP : va_P D vwCl (mX dA h ad σ.txt σ.len σ.wt σ.pr σ.tools σ.load σ.purse σ.beg σ.ways σ.told σ.calls σ.sm σ.sorts σ.visits σ.vm τ.read τ.rm τ.at_ τ.place τ.end_ τ.ents τ.em τ.combos τ.all_ τ.weight ((goR σ row ch bag k).2.2.2.1) ((goR σ row ch bag k).2.2.2.2.2) g_7 ((goR σ row ch bag k).2.2.2.2.1) bag τ.chosen) H := hP
            refine lv_goto (tgt := 431) hx hb dX3_go_113 rfl ?_
            refine lv_iinc (v := nI (k + 1)) (lv' := [(5, .int (nI (k + 1))), (3, .int (nI (toN σ row k))), (7, .int (nI (toN σ row k))), (6, .int (nI (en row k))), (4, .int (-1)), (0, .ref h), (1, .int bag), (2, .int (-1))]) hx hb dX3_go_431 hl (k := 3) rfl (nI_1 k) (by decide) rfl (fun ls hl => ?_)
            refine lv_goto (tgt := 36) hx hb dX3_go_434 rfl ?_
            have eh_35 : g_7 = (goR σ row ch bag (k + 1)).2.1 := (by subst_vars; rw [goR, if_pos h105, show toN σ row k = 0 from if_pos h105] <;> rfl)
            have eh_36 : bag = (goR σ row ch bag (k + 1)).2.2.1 := (by subst_vars; rw [goR, if_pos h105] <;> rfl)
            have eh_37 : (goR σ row ch bag k).2.2.2.1 = (goR σ row ch bag (k + 1)).2.2.2.1 := (by subst_vars; rw [goR, if_pos h105] <;> rfl)
            have eh_38 : (goR σ row ch bag k).2.2.2.2.1 = (goR σ row ch bag (k + 1)).2.2.2.2.1 := (by subst_vars; rw [goR, if_pos h105] <;> rfl)
            have eh_39 : (goR σ row ch bag k).2.2.2.2.2 = (goR σ row ch bag (k + 1)).2.2.2.2.2 := (by subst_vars; rw [goR, if_pos h105] <;> rfl)
            have hP : va_P D vwCl (mX dA h ad σ.txt σ.len σ.wt σ.pr σ.tools σ.load σ.purse σ.beg σ.ways σ.told σ.calls σ.sm σ.sorts σ.visits σ.vm τ.read τ.rm τ.at_ τ.place τ.end_ τ.ents τ.em τ.combos τ.all_ τ.weight ((goR σ row ch bag (k + 1)).2.2.2.1) ((goR σ row ch bag (k + 1)).2.2.2.2.2) ((goR σ row ch bag (k + 1)).2.1) ((goR σ row ch bag (k + 1)).2.2.2.2.1) ((goR σ row ch bag (k + 1)).2.2.1) τ.chosen) H := by rw [← eh_35, ← eh_36, ← eh_37, ← eh_38, ← eh_39]; exact hP
            exact ih_3 (k + 1) (nI (k + 1)) (nI (toN σ row k)) ls _ _ (by omega) (by omega) rfl (by rw [goR_x1]) (lv_sub hl [0, 4, 1, 5, 6, 7] rfl) hP hS
        refine lv_icmp_ne (tgt := 65) hx hb dX3_go_58 rfl (fun h58 => ?_) (fun h58 => ?_)
        · have h58 : ¬ ((en row k) = 6) := fun z9 => h58 ((nz_eq (a := en row k) (b := 6) rfl rfl (by omega) (by omega)).mpr z9)
          have hlt := ((hR.2 k (by omega)).resolve_left h58)
          have hpl := hI.pl2 _ hlt.1
          refine lv_aload_n hx hb dX3_go_65 rfl (lv_at hl 4 rfl) ?_
          refine va_get (D := D) (ci := 0) (v := .ref (ad 5)) (C := RX3) (T := TX3) (N := 31) hx hb hts in_X3 hown hK hP 0 rfl rfl 12 (by decide) (hts _ q1126) (fun _ h9 => h9) rfl dX3_go_66 ?_
          refine lv_bipush (v := 6) hx hb dX3_go_69 rfl ?_
          refine lv_iload hx hb dX3_go_71 (lv_at hl 0 rfl) ?_
          refine lv_imul hx hb dX3_go_73 ?_
          refine wa_iald (f := σ.calls) hx hb hK hP 6 0 rfl rfl (6 * (en row k)) ((nz_mul rfl rfl)) (by omega) (by decide) dX3_go_74 ?_
          refine w_topi (y := nI (plF σ (en row k))) (hpl.2) ?_
          exact hJ75_5 (nI (plF σ (en row k))) ls (by rw [if_neg h58]) (lv_sub hl [0, 1, 2, 3, 4, 5, 6] rfl)
        · have h58 : (en row k) = 6 := (nz_eq (a := en row k) (b := 6) rfl rfl (by omega) (by omega)).mp h58
          refine lv_iconst (v := 0) hx hb dX3_go_61 rfl ?_
          refine lv_goto (tgt := 75) hx hb dX3_go_62 rfl ?_
          exact hJ75_5 (0) ls (by rw [if_pos h58]) (lv_sub hl [0, 1, 2, 3, 4, 5, 6] rfl)
  exact hL36_1 _ 0 0 0 ls _ _ (Nat.lt_succ_self _) (by omega) rfl rfl (lv_sub hl [0, 1, 2, 3, 4, 5] rfl) hP hS
