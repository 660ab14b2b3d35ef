/-! THE MODEL's METHODS 13: the text's lines -/
set_option maxRecDepth 100000
/-- a line read: where the fault is, or its numbers and where the token behind it is sought -/
abbrev PR : Type := Nat ⊕ (List Int32 × Nat)
def nmR (σ : St) (a : Nat) (lo hi : Int32) (k : Int32 → Nat → PR) : PR := match rdV σ a lo hi with
  | none => .inl (tkP σ a)
  | some v => k v (tkE σ a)
theorem nmR_s {σ : St} {a : Nat} {lo hi v : Int32} {k : Int32 → Nat → PR} (h : rdV σ a lo hi = some v) : nmR σ a lo hi k = k v (tkE σ a) := by unfold nmR; rw [h]
theorem nmR_n {σ : St} {a : Nat} {lo hi : Int32} {k : Int32 → Nat → PR} (h : rdV σ a lo hi = none) : nmR σ a lo hi k = .inl (tkP σ a) := by unfold nmR; rw [h]
def thR (σ : St) (a : Nat) (k : Int32 → Nat → PR) : PR := match thV σ a with
  | none => .inl (tkP σ a)
  | some v => k v (tkE σ a)
theorem thR_s {σ : St} {a : Nat} {v : Int32} {k : Int32 → Nat → PR} (h : thV σ a = some v) : thR σ a k = k v (tkE σ a) := by unfold thR; rw [h]
theorem thR_n {σ : St} {a : Nat} {k : Int32 → Nat → PR} (h : thV σ a = none) : thR σ a k = .inl (tkP σ a) := by unfold thR; rw [h]
abbrev letP (σ : St) (a : Nat) : Prop := tkE σ a - tkP σ a = 1 ∧ inP (σ.txt (tkP σ a)).toInt64 97 104
def thingL (σ : St) (a : Nat) : PR := if letP σ a then nmR σ (tkE σ a) 1 99 (fun w a2 => nmR σ a2 0 99 (fun pr a3 => if isF σ a3 409076 4 = 0 then (if isF σ a3 673840 4 = 0 then .inl (tkP σ a3) else .inr ([0, σ.txt (tkP σ a) - 97, w, pr, 0], tkE σ a3)) else .inr ([0, σ.txt (tkP σ a) - 97, w, pr, 1], tkE σ a3))) else .inl (tkP σ a)
def oneL (σ : St) (a : Nat) (w hi : Int32) : PR := nmR σ a 0 hi (fun v a1 => .inr ([w, v], a1))
def wayL (σ : St) (a : Nat) : PR := nmR σ a 0 5 (fun x a1 => nmR σ a1 0 5 (fun y a2 => if x = y then .inl (tkP σ a1) else nmR σ a2 0 200 (fun m a3 => .inr ([4, x, y, m], a3))))
def callL (σ : St) (a : Nat) : PR := nmR σ a 0 5 (fun c a1 => nmR σ a1 1 5 (fun p a2 => nmR σ a2 0 1439 (fun o a3 => nmR σ a3 o 1439 (fun s a4 => nmR σ a4 0 99 (fun w a5 => nmR σ a5 0 99 (fun g a6 => nmR σ a6 0 99 (fun l a7 => .inr ([5, c, p, o, s, w, g, l], a7))))))))
def orL (σ : St) (c n m al : Int32) (a : Nat) : PR := if isF σ a 591 2 = 0 then .inr ([6, c, n, m, al, 0], a) else thR σ (tkE σ a) (fun on a1 => .inr ([6, c, n, m, al, on], a1))
def sortL (σ : St) (a : Nat) : PR := nmR σ a 0 5 (fun c a1 => nmR σ a1 1 20 (fun n a2 => nmR σ a2 0 200 (fun m a3 => if isF σ a3 178670 4 = 0 then thR σ a3 (fun al a4 => orL σ c n m al a4) else orL σ c n m 0 (tkE σ a3))))
def lineL (σ : St) (a : Nat) : PR := if isF σ a 7808276 5 = 0 then (if isF σ a 132588 4 = 0 then (if isF σ a 5884592 5 = 0 then (if isF σ a 14982306 5 = 0 then (if isF σ a 25655 3 = 0 then (if isF σ a 405539 4 = 0 then (if isF σ a 674291 4 = 0 then .inl (tkP σ a) else sortL σ (tkE σ a)) else callL σ (tkE σ a)) else wayL σ (tkE σ a)) else oneL σ (tkE σ a) 3 1439) else oneL σ (tkE σ a) 2 999) else oneL σ (tkE σ a) 1 400) else thingL σ (tkE σ a)
/-- the row holds a line's numbers, but for its word; what stands ahead is kept -/
def rdOK (f fn : Nat → Int32) (r : Nat) (vs : List Int32) : Prop := (∀ j, 1 ≤ j → j < vs.length → fn (8 * r + j) = vs.getD j 0) ∧ ∀ i, i ≤ 8 * r → fn i = f i
def rdLN (f fn : Nat → Int32) (r : Nat) (vs : List Int32) : Prop := (∀ j, j < vs.length → fn (8 * r + j) = vs.getD j 0) ∧ ∀ i, i < 8 * r → fn i = f i
theorem tk2 {σ : St} {a : Nat} (h : a ≤ σ.len) : tkE σ a ≤ σ.len := (tkE_b h).2.1
theorem own_rd {σ : St} {a : Nat} {x : Int32} (h1 : tkP σ a < σ.len) (h2 : tkE σ a - tkP σ a ≤ 4) (h3 : kindF (σ.txt (tkP σ a)) = 2) (h4 : numF σ a = x) (h5 : inP x.toInt64 0 5) : rdV σ a 0 5 = some x := by
  unfold rdV
  rw [if_pos ⟨by omega, h3, h2, by rw [h4]; exact h5⟩, h4]
theorem rd_in {σ : St} {a : Nat} {lo hi v : Int32} (h : rdV σ a lo hi = some v) : rdP σ a lo hi ∧ v = numF σ a ∧ inP v.toInt64 lo.toInt64 hi.toInt64 := by
  unfold rdV at h
  by_cases q : rdP σ a lo hi
  · rw [if_pos q] at h
    cases h
    exact ⟨q, rfl, q.2.2.2⟩
  · rw [if_neg q] at h; cases h

theorem cw_X3_X3_reads {R : Room} {s : State} {args : Array Value} (hts : ∀ w ∈ lw_all, w.before args s = true) (hR : rmX3_reads.frames + 1 ≤ R.frames ∧ 8 + (6 + 11) + rmX3_reads.locals ≤ R.locals) : CallW R s args RX3 RX3 93 yX3_reads cX3_reads 6 (some .boolean) (ws_ yX3_reads cX3_reads 6 (some .boolean)) rmX3_reads 0 0 3 := cwV 3 hts (lw_V q1252 q1254 qs39 q83 q1255) rfl rfl rfl (by decide +kernel) hR
theorem cw_X3_X3_isWord {R : Room} {s : State} {args : Array Value} (hts : ∀ w ∈ lw_all, w.before args s = true) (hR : rmX3_isWord.frames + 1 ≤ R.frames ∧ 8 + (5 + 11) + rmX3_isWord.locals ≤ R.locals) : CallW R s args RX3 RX3 98 yX3_isWord cX3_isWord 5 (some .boolean) (ws_ yX3_isWord cX3_isWord 5 (some .boolean)) rmX3_isWord 0 0 2 := cwV 2 hts (lw_V q1237 q1239 qs37 q83 q1240) rfl rfl rfl (by decide +kernel) hR
theorem ud1 (f_ : Nat → Int32) (r_ : Nat) (x0 : Int32) (y0 y1 y2 y3 : Int32) : rdOK f_ (upd (upd (upd (upd f_ ((8 * r_) + 1) y0) (8 * r_ + 1 + 1) y1) (8 * r_ + 1 + 2) y2) ((8 * r_) + 4) y3) r_ [x0, y0, y1, y2, y3] := by
  refine ⟨fun j h1 h2 => ?_, fun i hi => ?_⟩
  · have h2 : j < 5 := h2
    rcases (show j = 1 ∨ j = 2 ∨ j = 3 ∨ j = 4 by omega) with rfl | rfl | rfl | rfl <;> simp only [upd] <;> (repeat (first | rw [if_pos (by omega)] | rw [if_neg (by omega)])) <;> rfl
  · simp only [upd]
    repeat rw [if_neg (by omega)]
theorem ud2 (f_ : Nat → Int32) (r_ : Nat) (x0 : Int32) (y0 y1 y2 y3 : Int32) : rdOK f_ (upd (upd (upd (upd f_ ((8 * r_) + 1) y0) (8 * r_ + 1 + 1) y1) (8 * r_ + 1 + 2) y2) ((8 * r_) + 4) y3) r_ [x0, y0, y1, y2, y3] := by
  refine ⟨fun j h1 h2 => ?_, fun i hi => ?_⟩
  · have h2 : j < 5 := h2
    rcases (show j = 1 ∨ j = 2 ∨ j = 3 ∨ j = 4 by omega) with rfl | rfl | rfl | rfl <;> simp only [upd] <;> (repeat (first | rw [if_pos (by omega)] | rw [if_neg (by omega)])) <;> rfl
  · simp only [upd]
    repeat rw [if_neg (by omega)]
def rmX3_readsThing : Room := { frames := 3, cells := 0, slots := 0, locals := 65 }
set_option maxHeartbeats 1000000 in
theorem mt_X3_readsThing (l : Launch) (D : va_G) (dA : Nat → ClassId) (h : Nat) (ad : Nat → Nat) (σ : St) (τ : Sc) (hmD : mD h ad) (a_ : Nat) (f_ : Nat → Int32) (r_ : Nat) (hI : Inv σ) (ha : a_ ≤ σ.len) (hr10 : r_ < 10) : Met l yX3_readsThing (ws_ yX3_readsThing cX3_readsThing 2 (some .boolean)) rmX3_readsThing (va_Pc [.ref h] (mB D dA h ad σ ((f_, nI r_, nI (tkE σ a_), nI (tkP σ a_), nI (tkE σ a_), τ.ents, τ.em, τ.combos, τ.all_, τ.weight, τ.gain, τ.ad_, τ.minute, τ.ds, τ.bl, τ.chosen) : Sc))) (va_Qi (fun r (u : MS) => (r = 1 ∧ ∃ fn : Nat → Int32, ∃ vs : List Int32, ∃ an : Nat, u = (σ, ((fn, nI r_, nI (tkE σ an), nI (tkP σ an), nI (tkE σ an), τ.ents, τ.em, τ.combos, τ.all_, τ.weight, τ.gain, τ.ad_, τ.minute, τ.ds, τ.bl, τ.chosen) : Sc)) ∧ thingL σ a_ = .inr (vs, an) ∧ rdOK f_ fn r_ vs ∧ an ≤ σ.len) ∨ (r = 0 ∧ ∃ fp : Nat, u.1 = σ ∧ u.2.place = nI fp ∧ thingL σ a_ = .inl fp)) (fun u t => mB D dA h ad u.1 u.2 t) (mA h ad)) 0 0 (mA h ad) := by
  refine w_start (by decide) (Nat.le_of_ble_eq_true rfl) ?_
  intro p e s m args below meth c Q ls hQ hx hb hr hlocks hml hown hnm hts hB hl
  have hown : s.vm.findClass RX3 = some m.cls := hown
  have hl : lv_has ls 2 [(0, .ref h)] := hl
  obtain ⟨hP, hK⟩ := hB
  have hP : va_P D vwCl (mX dA h ad σ.txt σ.len σ.wt σ.pr σ.tools σ.load σ.purse σ.beg σ.ways σ.told σ.calls σ.sm σ.sorts σ.visits σ.vm f_ (nI r_) (nI (tkE σ a_)) (nI (tkP σ a_)) (nI (tkE σ a_)) τ.ents τ.em τ.combos τ.all_ τ.weight τ.gain τ.ad_ τ.minute τ.ds τ.bl τ.chosen) s.heap := hP
  have hS : va_S (mA h ad) s.heap s.heap [] := va_S.rf
  have hlen := hI.len
  have htp := tkP_b ha
  have htb := tkE_b ha
  refine lv_aload_n hx hb dX3_readsThing_0 rfl (lv_at hl 0 rfl) ?_
  refine va_get (D := D) (ci := 0) (v := .int (nI (tkE σ a_))) (C := RX3) (T := TX3) (N := 31) hx hb hts in_X3 hown hK hP 0 rfl rfl 19 (by decide) (hts _ q1133) (fun _ h9 => h9) rfl dX3_readsThing_1 ?_
  refine lv_aload_n hx hb dX3_readsThing_4 rfl (lv_at hl 0 rfl) ?_
  refine va_get (D := D) (ci := 0) (v := .int (nI (tkP σ a_))) (C := RX3) (T := TX3) (N := 31) hx hb hts in_X3 hown hK hP 0 rfl rfl 18 (by decide) (hts _ q1132) (fun _ h9 => h9) rfl dX3_readsThing_5 ?_
  refine lv_isub hx hb dX3_readsThing_8 ?_
  refine lv_iconst (v := 1) hx hb dX3_readsThing_9 rfl ?_
  refine lv_icmp_ne (tgt := 35) hx hb dX3_readsThing_10 rfl (fun h10 => ?_) (fun h10 => ?_)
  · have h10 : ¬ (((tkE σ a_) - (tkP σ a_)) = 1) := fun z9 => h10 ((nz_eq (a := (tkE σ a_) - (tkP σ a_)) (b := 1) (nz_sub (a := tkE σ a_) (b := tkP σ a_) rfl rfl (by omega)) rfl (by omega) (by omega)).mpr z9)
    refine lv_iconst (v := 0) hx hb dX3_readsThing_35 rfl ?_
    exact rm_z (u := (σ, ((f_, nI r_, nI (tkE σ a_), nI (tkP σ a_), nI (tkE σ a_), τ.ents, τ.em, τ.combos, τ.all_, τ.weight, τ.gain, τ.ad_, τ.minute, τ.ds, τ.bl, τ.chosen) : Sc))) hQ hx hb hr hlocks hK hP hS (Or.inl rfl) ((Or.inr ⟨rfl, tkP σ a_, rfl, rfl, (by rw [thingL, if_neg (fun q => h10 q.1)])⟩)) dX3_readsThing_36
  · have h10 : ((tkE σ a_) - (tkP σ a_)) = 1 := (nz_eq (a := (tkE σ a_) - (tkP σ a_)) (b := 1) (nz_sub (a := tkE σ a_) (b := tkP σ a_) rfl rfl (by omega)) rfl (by omega) (by omega)).mp h10
    refine lv_aload_n hx hb dX3_readsThing_13 rfl (lv_at hl 0 rfl) ?_
    refine va_get (D := D) (ci := 0) (v := .ref (ad 0)) (C := RX3) (T := TX3) (N := 31) hx hb hts in_X3 hown hK hP 0 rfl rfl 0 (by decide) (hts _ q1114) (fun _ h9 => h9) rfl dX3_readsThing_14 ?_
    refine lv_aload_n hx hb dX3_readsThing_17 rfl (lv_at hl 0 rfl) ?_
    refine va_get (D := D) (ci := 0) (v := .int (nI (tkP σ a_))) (C := RX3) (T := TX3) (N := 31) hx hb hts in_X3 hown hK hP 0 rfl rfl 18 (by decide) (hts _ q1132) (fun _ h9 => h9) rfl dX3_readsThing_18 ?_
    refine wa_iald (f := σ.txt) hx hb hK hP 1 0 rfl rfl (tkP σ a_) (rfl) (by omega) (by decide) dX3_readsThing_21 ?_
    refine lv_i2l (v := (σ.txt (tkP σ a_) : Int32).toInt64) hx hb dX3_readsThing_22 rfl ?_
    refine lv_ldc2 (v := 97) hx hb hown (hts _ q1250) dX3_readsThing_23 ?_
    refine lv_ldc2 (v := 104) hx hb hown (hts _ q1251) dX3_readsThing_26 ?_
    refine cSi (As := [.long ((σ.txt (tkP σ a_) : Int32).toInt64), .long 97, .long 104]) (rest := []) ⟨hx, hb, hml, hown, hts⟩ (mt_X3_in l ((σ.txt (tkP σ a_) : Int32).toInt64) 97 104) (cw_X3_X3_in hts ⟨Nat.le_of_ble_eq_true rfl, Nat.le_of_ble_eq_true rfl⟩) w_blT (fun _ _ _ => trivial) rfl hl.1 rfl (Nat.le_of_ble_eq_true rfl) dX3_readsThing_29 ⟨Nat.le_of_ble_eq_true rfl, Nat.le_of_ble_eq_true rfl⟩ ?_
    refine lv_if_ne (tgt := 37) hx hb dX3_readsThing_32 rfl (fun h32 => ?_) (fun h32 => ?_)
    · have h32 : inP ((σ.txt (tkP σ a_) : Int32).toInt64) 97 104 := b01_n h32
      refine lv_aload_n hx hb dX3_readsThing_37 rfl (lv_at hl 0 rfl) ?_
      refine va_get (D := D) (ci := 0) (v := .ref (ad 1)) (C := RX3) (T := TX3) (N := 31) hx hb hts in_X3 hown hK hP 0 rfl rfl 2 (by decide) (hts _ q1116) (fun _ h9 => h9) rfl dX3_readsThing_38 ?_
      refine lv_bipush (v := 8) hx hb dX3_readsThing_41 rfl ?_
      refine lv_aload_n hx hb dX3_readsThing_43 rfl (lv_at hl 0 rfl) ?_
      refine va_get (D := D) (ci := 0) (v := .int (nI r_)) (C := RX3) (T := TX3) (N := 31) hx hb hts in_X3 hown hK hP 0 rfl rfl 3 (by decide) (hts _ q1117) (fun _ h9 => h9) rfl dX3_readsThing_44 ?_
      refine lv_imul hx hb dX3_readsThing_47 ?_
      refine lv_iconst (v := 1) hx hb dX3_readsThing_48 rfl ?_
      refine lv_iadd hx hb dX3_readsThing_49 ?_
      refine lv_aload_n hx hb dX3_readsThing_50 rfl (lv_at hl 0 rfl) ?_
      refine va_get (D := D) (ci := 0) (v := .ref (ad 0)) (C := RX3) (T := TX3) (N := 31) hx hb hts in_X3 hown hK hP 0 rfl rfl 0 (by decide) (hts _ q1114) (fun _ h9 => h9) rfl dX3_readsThing_51 ?_
      refine lv_aload_n hx hb dX3_readsThing_54 rfl (lv_at hl 0 rfl) ?_
      refine va_get (D := D) (ci := 0) (v := .int (nI (tkP σ a_))) (C := RX3) (T := TX3) (N := 31) hx hb hts in_X3 hown hK hP 0 rfl rfl 18 (by decide) (hts _ q1132) (fun _ h9 => h9) rfl dX3_readsThing_55 ?_
      refine wa_iald (f := σ.txt) hx hb hK hP 1 0 rfl rfl (tkP σ a_) (rfl) (by omega) (by decide) dX3_readsThing_58 ?_
      refine lv_bipush (v := 97) hx hb dX3_readsThing_59 rfl ?_
      refine lv_isub hx hb dX3_readsThing_61 ?_
      refine wa_iast (f := f_) hx hb hK hP (mD_va hmD dA σ ((f_, nI r_, nI (tkE σ a_), nI (tkP σ a_), nI (tkE σ a_), τ.ents, τ.em, τ.combos, τ.all_, τ.weight, τ.gain, τ.ad_, τ.minute, τ.ds, τ.bl, τ.chosen) : Sc)) hS 2 0 rfl rfl ((8 * r_) + 1) ((nz_add (nz_mul rfl rfl) rfl)) (by omega) (by decide) dX3_readsThing_62 (fun H locs f_1 ef_1 hP hS => ?_)
      have hP : va_P D vwCl (mX dA h ad σ.txt σ.len σ.wt σ.pr σ.tools σ.load σ.purse σ.beg σ.ways σ.told σ.calls σ.sm σ.sorts σ.visits σ.vm f_1 (nI r_) (nI (tkE σ a_)) (nI (tkP σ a_)) (nI (tkE σ a_)) τ.ents τ.em τ.combos τ.all_ τ.weight τ.gain τ.ad_ τ.minute τ.ds τ.bl τ.chosen) H := hP
      refine lv_aload_n hx hb dX3_readsThing_63 rfl (lv_at hl 0 rfl) ?_
      refine mcVv (As := []) (rest := []) ⟨hx, hb, hml, hown, hts⟩ (mt_X3_token l D dA h ad σ ((f_1, nI r_, nI (tkE σ a_), nI (tkP σ a_), nI (tkE σ a_), τ.ents, τ.em, τ.combos, τ.all_, τ.weight, τ.gain, τ.ad_, τ.minute, τ.ds, τ.bl, τ.chosen) : Sc) hmD (tkE σ a_) hI (tk2 ha)) (cw_X3_X3_token hts ⟨Nat.le_of_ble_eq_true rfl, Nat.le_of_ble_eq_true rfl⟩) (mB_now hK hP) (va_recv hK hP (ci := 0) (q0 := 0) rfl rfl) rfl hl.1 rfl (Nat.le_of_ble_eq_true rfl) dX3_readsThing_64 ⟨Nat.le_of_ble_eq_true rfl, Nat.le_of_ble_eq_true rfl⟩ hS (fun u_3 H locs hp_4 hP hS => ?_)
      subst hp_4
      have hP : va_P D vwCl (mX dA h ad σ.txt σ.len σ.wt σ.pr σ.tools σ.load σ.purse σ.beg σ.ways σ.told σ.calls σ.sm σ.sorts σ.visits σ.vm f_1 (nI r_) (nI (tkE σ (tkE σ a_))) (nI (tkP σ (tkE σ a_))) (nI (tkE σ (tkE σ a_))) τ.ents τ.em τ.combos τ.all_ τ.weight τ.gain τ.ad_ τ.minute τ.ds τ.bl τ.chosen) H := hP
      obtain ⟨a_5, ea_5⟩ : ∃ x, x = tkE σ a_ := ⟨_, rfl⟩
      rw [← ea_5] at hP
      have ha_5 : a_5 ≤ σ.len := by rw [ea_5]; exact tk2 ha
      refine lv_aload_n hx hb dX3_readsThing_67 rfl (lv_at hl 0 rfl) ?_
      refine lv_iconst (v := 1) hx hb dX3_readsThing_68 rfl ?_
      refine lv_iconst (v := 1) hx hb dX3_readsThing_69 rfl ?_
      refine lv_bipush (v := 99) hx hb dX3_readsThing_70 rfl ?_
      refine mcVi (As := [.int 1, .int 1, .int 99]) (rest := []) ⟨hx, hb, hml, hown, hts⟩ (mt_X3_reads l D dA h ad σ ((f_1, nI r_, nI (tkE σ a_5), nI (tkP σ a_5), nI (tkE σ a_5), τ.ents, τ.em, τ.combos, τ.all_, τ.weight, τ.gain, τ.ad_, τ.minute, τ.ds, τ.bl, τ.chosen) : Sc) hmD a_5 f_1 r_ 1 1 99 hI ha_5 (by omega) (by omega)) (cw_X3_X3_reads hts ⟨Nat.le_of_ble_eq_true rfl, Nat.le_of_ble_eq_true rfl⟩) (mB_now hK hP) (va_recv hK hP (ci := 0) (q0 := 0) rfl rfl) rfl hl.1 rfl (Nat.le_of_ble_eq_true rfl) dX3_readsThing_72 ⟨Nat.le_of_ble_eq_true rfl, Nat.le_of_ble_eq_true rfl⟩ hS (fun r_6 u_7 H locs hp_8 hP hS => ?_)
      rcases hp_8 with ⟨rfl, v_9, rfl, hv_10⟩ | ⟨rfl, rfl, hv_11⟩
      · have hP : va_P D vwCl (mX dA h ad σ.txt σ.len σ.wt σ.pr σ.tools σ.load σ.purse σ.beg σ.ways σ.told σ.calls σ.sm σ.sorts σ.visits σ.vm (upd f_1 (8 * r_ + 1 + 1) v_9) (nI r_) (nI (tkE σ (tkE σ a_5))) (nI (tkP σ (tkE σ a_5))) (nI (tkE σ (tkE σ a_5))) τ.ents τ.em τ.combos τ.all_ τ.weight τ.gain τ.ad_ τ.minute τ.ds τ.bl τ.chosen) H := hP
        obtain ⟨g_12, eg_12⟩ : ∃ x, x = upd f_1 (8 * r_ + 1 + 1) v_9 := ⟨_, rfl⟩
        rw [← eg_12] at hP
        obtain ⟨a_13, ea_13⟩ : ∃ x, x = tkE σ a_5 := ⟨_, rfl⟩
        rw [← ea_13] at hP
        have ha_13 : a_13 ≤ σ.len := by rw [ea_13]; exact tk2 ha_5
        refine lv_if_eq (tgt := 89) hx hb dX3_readsThing_75 rfl (fun h9 => ?_) (fun _ => ?_)
        · exact absurd h9 (by decide)
        refine lv_aload_n hx hb dX3_readsThing_78 rfl (lv_at hl 0 rfl) ?_
        refine lv_iconst (v := 2) hx hb dX3_readsThing_79 rfl ?_
        refine lv_iconst (v := 0) hx hb dX3_readsThing_80 rfl ?_
        refine lv_bipush (v := 99) hx hb dX3_readsThing_81 rfl ?_
        refine mcVi (As := [.int 2, .int 0, .int 99]) (rest := []) ⟨hx, hb, hml, hown, hts⟩ (mt_X3_reads l D dA h ad σ ((g_12, nI r_, nI (tkE σ a_13), nI (tkP σ a_13), nI (tkE σ a_13), τ.ents, τ.em, τ.combos, τ.all_, τ.weight, τ.gain, τ.ad_, τ.minute, τ.ds, τ.bl, τ.chosen) : Sc) hmD a_13 g_12 r_ 2 0 99 hI ha_13 (by omega) (by omega)) (cw_X3_X3_reads hts ⟨Nat.le_of_ble_eq_true rfl, Nat.le_of_ble_eq_true rfl⟩) (mB_now hK hP) (va_recv hK hP (ci := 0) (q0 := 0) rfl rfl) rfl hl.1 rfl (Nat.le_of_ble_eq_true rfl) dX3_readsThing_83 ⟨Nat.le_of_ble_eq_true rfl, Nat.le_of_ble_eq_true rfl⟩ hS (fun r_14 u_15 H locs hp_16 hP hS => ?_)
        rcases hp_16 with ⟨rfl, v_17, rfl, hv_18⟩ | ⟨rfl, rfl, hv_19⟩
        · have hP : va_P D vwCl (mX dA h ad σ.txt σ.len σ.wt σ.pr σ.tools σ.load σ.purse σ.beg σ.ways σ.told σ.calls σ.sm σ.sorts σ.visits σ.vm (upd g_12 (8 * r_ + 1 + 2) v_17) (nI r_) (nI (tkE σ (tkE σ a_13))) (nI (tkP σ (tkE σ a_13))) (nI (tkE σ (tkE σ a_13))) τ.ents τ.em τ.combos τ.all_ τ.weight τ.gain τ.ad_ τ.minute τ.ds τ.bl τ.chosen) H := hP
          obtain ⟨g_20, eg_20⟩ : ∃ x, x = upd g_12 (8 * r_ + 1 + 2) v_17 := ⟨_, rfl⟩
          rw [← eg_20] at hP
          obtain ⟨a_21, ea_21⟩ : ∃ x, x = tkE σ a_13 := ⟨_, rfl⟩
          rw [← ea_21] at hP
          have ha_21 : a_21 ≤ σ.len := by rw [ea_21]; exact tk2 ha_13
          refine lv_if_ne (tgt := 91) hx hb dX3_readsThing_86 rfl (fun _ => ?_) (fun h9 => ?_)
          rotate_left
          · exact absurd h9 (by decide)
          refine lv_aload_n hx hb dX3_readsThing_91 rfl (lv_at hl 0 rfl) ?_
          refine lv_ldc (v := 409076) hx hb hown (hts _ q1256) dX3_readsThing_92 ?_
          refine lv_iconst (v := 4) hx hb dX3_readsThing_94 rfl ?_
          refine cVi (As := [.int 409076, .int 4]) (rest := []) ⟨hx, hb, hml, hown, hts⟩ (mt_X3_isWord l D dA h ad σ ((g_20, nI r_, nI (tkE σ a_21), nI (tkP σ a_21), nI (tkE σ a_21), τ.ents, τ.em, τ.combos, τ.all_, τ.weight, τ.gain, τ.ad_, τ.minute, τ.ds, τ.bl, τ.chosen) : Sc) a_21 409076 4 hI ha_21 (by omega)) (cw_X3_X3_isWord hts ⟨Nat.le_of_ble_eq_true rfl, Nat.le_of_ble_eq_true rfl⟩) mB_bl (mB_now hK hP) (va_recv hK hP (ci := 0) (q0 := 0) rfl rfl) rfl hl.1 rfl (Nat.le_of_ble_eq_true rfl) dX3_readsThing_95 ⟨Nat.le_of_ble_eq_true rfl, Nat.le_of_ble_eq_true rfl⟩ ?_
          refine lv_istore_n (lv' := [(1, .int (isF σ a_21 409076 4)), (0, .ref h)]) hx hb dX3_readsThing_98 rfl hl (by decide) rfl (fun ls hl => ?_)
          refine lv_iload_n hx hb dX3_readsThing_99 rfl (lv_at hl 0 rfl) ?_
          refine lv_if_ne (tgt := 115) hx hb dX3_readsThing_100 rfl (fun h100 => ?_) (fun h100 => ?_)
          · have h100 : ¬ ((isF σ a_21 409076 4) = 0) := h100
            refine lv_aload_n hx hb dX3_readsThing_115 rfl (lv_at hl 1 rfl) ?_
            refine va_get (D := D) (ci := 0) (v := .ref (ad 1)) (C := RX3) (T := TX3) (N := 31) hx hb hts in_X3 hown hK hP 0 rfl rfl 2 (by decide) (hts _ q1116) (fun _ h9 => h9) rfl dX3_readsThing_116 ?_
            refine lv_bipush (v := 8) hx hb dX3_readsThing_119 rfl ?_
            refine lv_aload_n hx hb dX3_readsThing_121 rfl (lv_at hl 1 rfl) ?_
            refine va_get (D := D) (ci := 0) (v := .int (nI r_)) (C := RX3) (T := TX3) (N := 31) hx hb hts in_X3 hown hK hP 0 rfl rfl 3 (by decide) (hts _ q1117) (fun _ h9 => h9) rfl dX3_readsThing_122 ?_
            refine lv_imul hx hb dX3_readsThing_125 ?_
            refine lv_iconst (v := 4) hx hb dX3_readsThing_126 rfl ?_
            refine lv_iadd hx hb dX3_readsThing_127 ?_
            refine lv_iload_n hx hb dX3_readsThing_128 rfl (lv_at hl 0 rfl) ?_
            refine lv_if_eq (tgt := 136) hx hb dX3_readsThing_129 rfl (fun h129 => ?_) (fun h129 => ?_)
            · have h129 : (isF σ a_21 409076 4) = 0 := h129
              exact absurd h129 h100
            · have h129 : ¬ ((isF σ a_21 409076 4) = 0) := h129
              refine lv_iconst (v := 1) hx hb dX3_readsThing_132 rfl ?_
              refine lv_goto (tgt := 137) hx hb dX3_readsThing_133 rfl ?_
              refine wa_iast (f := g_20) hx hb hK hP (mD_va hmD dA σ ((g_20, nI r_, nI (tkE σ a_21), nI (tkP σ a_21), nI (tkE σ a_21), τ.ents, τ.em, τ.combos, τ.all_, τ.weight, τ.gain, τ.ad_, τ.minute, τ.ds, τ.bl, τ.chosen) : Sc)) hS 2 0 rfl rfl ((8 * r_) + 4) ((nz_add (nz_mul rfl rfl) rfl)) (by omega) (by decide) dX3_readsThing_137 (fun H locs f_22 ef_22 hP hS => ?_)
              have hP : va_P D vwCl (mX dA h ad σ.txt σ.len σ.wt σ.pr σ.tools σ.load σ.purse σ.beg σ.ways σ.told σ.calls σ.sm σ.sorts σ.visits σ.vm f_22 (nI r_) (nI (tkE σ a_21)) (nI (tkP σ a_21)) (nI (tkE σ a_21)) τ.ents τ.em τ.combos τ.all_ τ.weight τ.gain τ.ad_ τ.minute τ.ds τ.bl τ.chosen) H := hP
              refine lv_aload_n hx hb dX3_readsThing_138 rfl (lv_at hl 1 rfl) ?_
              refine mcVv (As := []) (rest := []) ⟨hx, hb, hml, hown, hts⟩ (mt_X3_token l D dA h ad σ ((f_22, nI r_, nI (tkE σ a_21), nI (tkP σ a_21), nI (tkE σ a_21), τ.ents, τ.em, τ.combos, τ.all_, τ.weight, τ.gain, τ.ad_, τ.minute, τ.ds, τ.bl, τ.chosen) : Sc) hmD (tkE σ a_21) hI (tk2 ha_21)) (cw_X3_X3_token hts ⟨Nat.le_of_ble_eq_true rfl, Nat.le_of_ble_eq_true rfl⟩) (mB_now hK hP) (va_recv hK hP (ci := 0) (q0 := 0) rfl rfl) rfl hl.1 rfl (Nat.le_of_ble_eq_true rfl) dX3_readsThing_139 ⟨Nat.le_of_ble_eq_true rfl, Nat.le_of_ble_eq_true rfl⟩ hS (fun u_24 H locs hp_25 hP hS => ?_)
              subst hp_25
              have hP : va_P D vwCl (mX dA h ad σ.txt σ.len σ.wt σ.pr σ.tools σ.load σ.purse σ.beg σ.ways σ.told σ.calls σ.sm σ.sorts σ.visits σ.vm f_22 (nI r_) (nI (tkE σ (tkE σ a_21))) (nI (tkP σ (tkE σ a_21))) (nI (tkE σ (tkE σ a_21))) τ.ents τ.em τ.combos τ.all_ τ.weight τ.gain τ.ad_ τ.minute τ.ds τ.bl τ.chosen) H := hP
              obtain ⟨a_26, ea_26⟩ : ∃ x, x = tkE σ a_21 := ⟨_, rfl⟩
              rw [← ea_26] at hP
              have ha_26 : a_26 ≤ σ.len := by rw [ea_26]; exact tk2 ha_21
              refine lv_iconst (v := 1) hx hb dX3_readsThing_142 rfl ?_
              exact rm_z (u := (σ, ((f_22, nI r_, nI (tkE σ a_26), nI (tkP σ a_26), nI (tkE σ a_26), τ.ents, τ.em, τ.combos, τ.all_, τ.weight, τ.gain, τ.ad_, τ.minute, τ.ds, τ.bl, τ.chosen) : Sc))) hQ hx hb hr hlocks hK hP hS (Or.inr rfl) ((Or.inl ⟨rfl, f_22, [0, σ.txt (tkP σ a_) - 97, v_9, v_17, 1], a_26, rfl, (by subst ea_5 ea_13 ea_21 ea_26; rw [thingL, if_pos ⟨h10, h32⟩, nmR_s hv_10, nmR_s hv_18, if_neg h100]), (by rw [ef_22, eg_20, eg_12, ef_1]; exact ud1 f_ r_ _ ((σ.txt (tkP σ a_)) - 97) v_9 v_17 1), (ha_26)⟩)) dX3_readsThing_143
          · have h100 : (isF σ a_21 409076 4) = 0 := h100
            refine lv_aload_n hx hb dX3_readsThing_103 rfl (lv_at hl 1 rfl) ?_
            refine lv_ldc (v := 673840) hx hb hown (hts _ q1257) dX3_readsThing_104 ?_
            refine lv_iconst (v := 4) hx hb dX3_readsThing_106 rfl ?_
            refine cVi (As := [.int 673840, .int 4]) (rest := []) ⟨hx, hb, hml, hown, hts⟩ (mt_X3_isWord l D dA h ad σ ((g_20, nI r_, nI (tkE σ a_21), nI (tkP σ a_21), nI (tkE σ a_21), τ.ents, τ.em, τ.combos, τ.all_, τ.weight, τ.gain, τ.ad_, τ.minute, τ.ds, τ.bl, τ.chosen) : Sc) a_21 673840 4 hI ha_21 (by omega)) (cw_X3_X3_isWord hts ⟨Nat.le_of_ble_eq_true rfl, Nat.le_of_ble_eq_true rfl⟩) mB_bl (mB_now hK hP) (va_recv hK hP (ci := 0) (q0 := 0) rfl rfl) rfl hl.1 rfl (Nat.le_of_ble_eq_true rfl) dX3_readsThing_107 ⟨Nat.le_of_ble_eq_true rfl, Nat.le_of_ble_eq_true rfl⟩ ?_
            refine lv_if_ne (tgt := 115) hx hb dX3_readsThing_110 rfl (fun h110 => ?_) (fun h110 => ?_)
            · have h110 : ¬ ((isF σ a_21 673840 4) = 0) := h110
              refine lv_aload_n hx hb dX3_readsThing_115 rfl (lv_at hl 1 rfl) ?_
              refine va_get (D := D) (ci := 0) (v := .ref (ad 1)) (C := RX3) (T := TX3) (N := 31) hx hb hts in_X3 hown hK hP 0 rfl rfl 2 (by decide) (hts _ q1116) (fun _ h9 => h9) rfl dX3_readsThing_116 ?_
              refine lv_bipush (v := 8) hx hb dX3_readsThing_119 rfl ?_
              refine lv_aload_n hx hb dX3_readsThing_121 rfl (lv_at hl 1 rfl) ?_
              refine va_get (D := D) (ci := 0) (v := .int (nI r_)) (C := RX3) (T := TX3) (N := 31) hx hb hts in_X3 hown hK hP 0 rfl rfl 3 (by decide) (hts _ q1117) (fun _ h9 => h9) rfl dX3_readsThing_122 ?_
              refine lv_imul hx hb dX3_readsThing_125 ?_
              refine lv_iconst (v := 4) hx hb dX3_readsThing_126 rfl ?_
              refine lv_iadd hx hb dX3_readsThing_127 ?_
              refine lv_iload_n hx hb dX3_readsThing_128 rfl (lv_at hl 0 rfl) ?_
              refine lv_if_eq (tgt := 136) hx hb dX3_readsThing_129 rfl (fun h129 => ?_) (fun h129 => ?_)
              · have h129 : (isF σ a_21 409076 4) = 0 := h129
                refine lv_iconst (v := 0) hx hb dX3_readsThing_136 rfl ?_
                refine wa_iast (f := g_20) hx hb hK hP (mD_va hmD dA σ ((g_20, nI r_, nI (tkE σ a_21), nI (tkP σ a_21), nI (tkE σ a_21), τ.ents, τ.em, τ.combos, τ.all_, τ.weight, τ.gain, τ.ad_, τ.minute, τ.ds, τ.bl, τ.chosen) : Sc)) hS 2 0 rfl rfl ((8 * r_) + 4) ((nz_add (nz_mul rfl rfl) rfl)) (by omega) (by decide) dX3_readsThing_137 (fun H locs f_27 ef_27 hP hS => ?_)
                have hP : va_P D vwCl (mX dA h ad σ.txt σ.len σ.wt σ.pr σ.tools σ.load σ.purse σ.beg σ.ways σ.told σ.calls σ.sm σ.sorts σ.visits σ.vm f_27 (nI r_) (nI (tkE σ a_21)) (nI (tkP σ a_21)) (nI (tkE σ a_21)) τ.ents τ.em τ.combos τ.all_ τ.weight τ.gain τ.ad_ τ.minute τ.ds τ.bl τ.chosen) H := hP
                refine lv_aload_n hx hb dX3_readsThing_138 rfl (lv_at hl 1 rfl) ?_
                refine mcVv (As := []) (rest := []) ⟨hx, hb, hml, hown, hts⟩ (mt_X3_token l D dA h ad σ ((f_27, nI r_, nI (tkE σ a_21), nI (tkP σ a_21), nI (tkE σ a_21), τ.ents, τ.em, τ.combos, τ.all_, τ.weight, τ.gain, τ.ad_, τ.minute, τ.ds, τ.bl, τ.chosen) : Sc) hmD (tkE σ a_21) hI (tk2 ha_21)) (cw_X3_X3_token hts ⟨Nat.le_of_ble_eq_true rfl, Nat.le_of_ble_eq_true rfl⟩) (mB_now hK hP) (va_recv hK hP (ci := 0) (q0 := 0) rfl rfl) rfl hl.1 rfl (Nat.le_of_ble_eq_true rfl) dX3_readsThing_139 ⟨Nat.le_of_ble_eq_true rfl, Nat.le_of_ble_eq_true rfl⟩ hS (fun u_29 H locs hp_30 hP hS => ?_)
                subst hp_30
                have hP : va_P D vwCl (mX dA h ad σ.txt σ.len σ.wt σ.pr σ.tools σ.load σ.purse σ.beg σ.ways σ.told σ.calls σ.sm σ.sorts σ.visits σ.vm f_27 (nI r_) (nI (tkE σ (tkE σ a_21))) (nI (tkP σ (tkE σ a_21))) (nI (tkE σ (tkE σ a_21))) τ.ents τ.em τ.combos τ.all_ τ.weight τ.gain τ.ad_ τ.minute τ.ds τ.bl τ.chosen) H := hP
                obtain ⟨a_31, ea_31⟩ : ∃ x, x = tkE σ a_21 := ⟨_, rfl⟩
                rw [← ea_31] at hP
                have ha_31 : a_31 ≤ σ.len := by rw [ea_31]; exact tk2 ha_21
                refine lv_iconst (v := 1) hx hb dX3_readsThing_142 rfl ?_
                exact rm_z (u := (σ, ((f_27, nI r_, nI (tkE σ a_31), nI (tkP σ a_31), nI (tkE σ a_31), τ.ents, τ.em, τ.combos, τ.all_, τ.weight, τ.gain, τ.ad_, τ.minute, τ.ds, τ.bl, τ.chosen) : Sc))) hQ hx hb hr hlocks hK hP hS (Or.inr rfl) ((Or.inl ⟨rfl, f_27, [0, σ.txt (tkP σ a_) - 97, v_9, v_17, 0], a_31, rfl, (by subst ea_5 ea_13 ea_21 ea_31; rw [thingL, if_pos ⟨h10, h32⟩, nmR_s hv_10, nmR_s hv_18, if_pos h100, if_neg h110]), (by rw [ef_27, eg_20, eg_12, ef_1]; exact ud2 f_ r_ _ ((σ.txt (tkP σ a_)) - 97) v_9 v_17 0), (ha_31)⟩)) dX3_readsThing_143
              · have h129 : ¬ ((isF σ a_21 409076 4) = 0) := h129
                exact absurd h100 h129
            · have h110 : (isF σ a_21 673840 4) = 0 := h110
              refine lv_iconst (v := 0) hx hb dX3_readsThing_113 rfl ?_
              exact rm_z (u := (σ, ((g_20, nI r_, nI (tkE σ a_21), nI (tkP σ a_21), nI (tkE σ a_21), τ.ents, τ.em, τ.combos, τ.all_, τ.weight, τ.gain, τ.ad_, τ.minute, τ.ds, τ.bl, τ.chosen) : Sc))) hQ hx hb hr hlocks hK hP hS (Or.inl rfl) ((Or.inr ⟨rfl, tkP σ a_21, rfl, rfl, (by subst ea_5 ea_13 ea_21; rw [thingL, if_pos ⟨h10, h32⟩, nmR_s hv_10, nmR_s hv_18, if_pos h100, if_pos h110])⟩)) dX3_readsThing_114
        · have hP : va_P D vwCl (mX dA h ad σ.txt σ.len σ.wt σ.pr σ.tools σ.load σ.purse σ.beg σ.ways σ.told σ.calls σ.sm σ.sorts σ.visits σ.vm g_12 (nI r_) (nI (tkE σ a_13)) (nI (tkP σ a_13)) (nI (tkE σ a_13)) τ.ents τ.em τ.combos τ.all_ τ.weight τ.gain τ.ad_ τ.minute τ.ds τ.bl τ.chosen) H := hP
          refine lv_if_ne (tgt := 91) hx hb dX3_readsThing_86 rfl (fun h9 => ?_) (fun _ => ?_)
          · exact absurd h9 (by decide)
          refine lv_iconst (v := 0) hx hb dX3_readsThing_89 rfl ?_
          exact rm_z (u := (σ, ((g_12, nI r_, nI (tkE σ a_13), nI (tkP σ a_13), nI (tkE σ a_13), τ.ents, τ.em, τ.combos, τ.all_, τ.weight, τ.gain, τ.ad_, τ.minute, τ.ds, τ.bl, τ.chosen) : Sc))) hQ hx hb hr hlocks hK hP hS (Or.inl rfl) ((Or.inr ⟨rfl, tkP σ a_13, rfl, rfl, (by subst ea_5 ea_13; rw [thingL, if_pos ⟨h10, h32⟩, nmR_s hv_10, nmR_n hv_19])⟩)) dX3_readsThing_90
      · have hP : va_P D vwCl (mX dA h ad σ.txt σ.len σ.wt σ.pr σ.tools σ.load σ.purse σ.beg σ.ways σ.told σ.calls σ.sm σ.sorts σ.visits σ.vm f_1 (nI r_) (nI (tkE σ a_5)) (nI (tkP σ a_5)) (nI (tkE σ a_5)) τ.ents τ.em τ.combos τ.all_ τ.weight τ.gain τ.ad_ τ.minute τ.ds τ.bl τ.chosen) H := hP
        refine lv_if_eq (tgt := 89) hx hb dX3_readsThing_75 rfl (fun _ => ?_) (fun h9 => ?_)
        rotate_left
        · exact absurd (by decide) h9
        refine lv_iconst (v := 0) hx hb dX3_readsThing_89 rfl ?_
        exact rm_z (u := (σ, ((f_1, nI r_, nI (tkE σ a_5), nI (tkP σ a_5), nI (tkE σ a_5), τ.ents, τ.em, τ.combos, τ.all_, τ.weight, τ.gain, τ.ad_, τ.minute, τ.ds, τ.bl, τ.chosen) : Sc))) hQ hx hb hr hlocks hK hP hS (Or.inl rfl) ((Or.inr ⟨rfl, tkP σ a_5, rfl, rfl, (by subst ea_5; rw [thingL, if_pos ⟨h10, h32⟩, nmR_n hv_11])⟩)) dX3_readsThing_90
    · have h32 : ¬ (inP ((σ.txt (tkP σ a_) : Int32).toInt64) 97 104) := b01_0.mp h32
      refine lv_iconst (v := 0) hx hb dX3_readsThing_35 rfl ?_
      exact rm_z (u := (σ, ((f_, nI r_, nI (tkE σ a_), nI (tkP σ a_), nI (tkE σ a_), τ.ents, τ.em, τ.combos, τ.all_, τ.weight, τ.gain, τ.ad_, τ.minute, τ.ds, τ.bl, τ.chosen) : Sc))) hQ hx hb hr hlocks hK hP hS (Or.inl rfl) ((Or.inr ⟨rfl, tkP σ a_, rfl, rfl, (by rw [thingL, if_neg (fun q => h32 q.2)])⟩)) dX3_readsThing_36

theorem ud3 (f_ : Nat → Int32) (r_ : Nat) (x0 : Int32) (y0 y1 y2 : Int32) : rdOK f_ (upd (upd (upd f_ (8 * r_ + 1 + 0) y0) (8 * r_ + 1 + 1) y1) (8 * r_ + 1 + 2) y2) r_ [x0, y0, y1, y2] := by
  refine ⟨fun j h1 h2 => ?_, fun i hi => ?_⟩
  · have h2 : j < 4 := h2
    rcases (show j = 1 ∨ j = 2 ∨ j = 3 by omega) with rfl | rfl | rfl <;> simp only [upd] <;> (repeat (first | rw [if_pos (by omega)] | rw [if_neg (by omega)])) <;> rfl
  · simp only [upd]
    repeat rw [if_neg (by omega)]
theorem ud4 (f_ : Nat → Int32) (r_ : Nat) (x0 : Int32) (y0 y1 y2 : Int32) : rdOK f_ (upd (upd (upd f_ (8 * r_ + 1 + 0) y0) (8 * r_ + 1 + 1) y1) (8 * r_ + 1 + 2) y2) r_ [x0, y0, y1, y2] := by
  refine ⟨fun j h1 h2 => ?_, fun i hi => ?_⟩
  · have h2 : j < 4 := h2
    rcases (show j = 1 ∨ j = 2 ∨ j = 3 by omega) with rfl | rfl | rfl <;> simp only [upd] <;> (repeat (first | rw [if_pos (by omega)] | rw [if_neg (by omega)])) <;> rfl
  · simp only [upd]
    repeat rw [if_neg (by omega)]
theorem ud5 (f_ : Nat → Int32) (r_ : Nat) (x0 : Int32) (y0 y1 y2 : Int32) : rdOK f_ (upd (upd (upd f_ (8 * r_ + 1 + 0) y0) (8 * r_ + 1 + 1) y1) (8 * r_ + 1 + 2) y2) r_ [x0, y0, y1, y2] := by
  refine ⟨fun j h1 h2 => ?_, fun i hi => ?_⟩
  · have h2 : j < 4 := h2
    rcases (show j = 1 ∨ j = 2 ∨ j = 3 by omega) with rfl | rfl | rfl <;> simp only [upd] <;> (repeat (first | rw [if_pos (by omega)] | rw [if_neg (by omega)])) <;> rfl
  · simp only [upd]
    repeat rw [if_neg (by omega)]
theorem cw_X3_X3_number {R : Room} {s : State} {args : Array Value} (hts : ∀ w ∈ lw_all, w.before args s = true) (hR : rmX3_number.frames + 1 ≤ R.frames ∧ 8 + (3 + 11) + rmX3_number.locals ≤ R.locals) : CallW R s args RX3 RX3 102 yX3_number cX3_number 3 (some .int) (ws_ yX3_number cX3_number 3 (some .int)) rmX3_number 0 0 0 := cwV 0 hts (lw_V q1262 q1264 qs41 q83 q1265) rfl rfl rfl (by decide +kernel) hR
theorem ud6 (f_ : Nat → Int32) (r_ : Nat) (x0 : Int32) (y0 y1 y2 : Int32) : rdOK f_ (upd (upd (upd f_ (8 * r_ + 1 + 0) y0) (8 * r_ + 1 + 1) y1) (8 * r_ + 1 + 2) y2) r_ [x0, y0, y1, y2] := by
  refine ⟨fun j h1 h2 => ?_, fun i hi => ?_⟩
  · have h2 : j < 4 := h2
    rcases (show j = 1 ∨ j = 2 ∨ j = 3 by omega) with rfl | rfl | rfl <;> simp only [upd] <;> (repeat (first | rw [if_pos (by omega)] | rw [if_neg (by omega)])) <;> rfl
  · simp only [upd]
    repeat rw [if_neg (by omega)]
def rmX3_readsWay : Room := { frames := 3, cells := 0, slots := 0, locals := 65 }
set_option maxHeartbeats 1000000 in
theorem mt_X3_readsWay (l : Launch) (D : va_G) (dA : Nat → ClassId) (h : Nat) (ad : Nat → Nat) (σ : St) (τ : Sc) (hmD : mD h ad) (a_ : Nat) (f_ : Nat → Int32) (r_ : Nat) (hI : Inv σ) (ha : a_ ≤ σ.len) (hr10 : r_ < 10) : Met l yX3_readsWay (ws_ yX3_readsWay cX3_readsWay 2 (some .boolean)) rmX3_readsWay (va_Pc [.ref h] (mB D dA h ad σ ((f_, nI r_, nI (tkE σ a_), nI (tkP σ a_), nI (tkE σ a_), τ.ents, τ.em, τ.combos, τ.all_, τ.weight, τ.gain, τ.ad_, τ.minute, τ.ds, τ.bl, τ.chosen) : Sc))) (va_Qi (fun r (u : MS) => (r = 1 ∧ ∃ fn : Nat → Int32, ∃ vs : List Int32, ∃ an : Nat, u = (σ, ((fn, nI r_, nI (tkE σ an), nI (tkP σ an), nI (tkE σ an), τ.ents, τ.em, τ.combos, τ.all_, τ.weight, τ.gain, τ.ad_, τ.minute, τ.ds, τ.bl, τ.chosen) : Sc)) ∧ wayL σ a_ = .inr (vs, an) ∧ rdOK f_ fn r_ vs ∧ an ≤ σ.len) ∨ (r = 0 ∧ ∃ fp : Nat, u.1 = σ ∧ u.2.place = nI fp ∧ wayL σ a_ = .inl fp)) (fun u t => mB D dA h ad u.1 u.2 t) (mA h ad)) 0 0 (mA h ad) := by
  refine w_start (by decide) (Nat.le_of_ble_eq_true rfl) ?_
  intro p e s m args below meth c Q ls hQ hx hb hr hlocks hml hown hnm hts hB hl
  have hown : s.vm.findClass RX3 = some m.cls := hown
  have hl : lv_has ls 2 [(0, .ref h)] := hl
  obtain ⟨hP, hK⟩ := hB
  have hP : va_P D vwCl (mX dA h ad σ.txt σ.len σ.wt σ.pr σ.tools σ.load σ.purse σ.beg σ.ways σ.told σ.calls σ.sm σ.sorts σ.visits σ.vm f_ (nI r_) (nI (tkE σ a_)) (nI (tkP σ a_)) (nI (tkE σ a_)) τ.ents τ.em τ.combos τ.all_ τ.weight τ.gain τ.ad_ τ.minute τ.ds τ.bl τ.chosen) s.heap := hP
  have hS : va_S (mA h ad) s.heap s.heap [] := va_S.rf
  have hlen := hI.len
  have htp := tkP_b ha
  have htb := tkE_b ha
  refine lv_aload_n hx hb dX3_readsWay_0 rfl (lv_at hl 0 rfl) ?_
  refine lv_iconst (v := 0) hx hb dX3_readsWay_1 rfl ?_
  refine lv_iconst (v := 0) hx hb dX3_readsWay_2 rfl ?_
  refine lv_iconst (v := 5) hx hb dX3_readsWay_3 rfl ?_
  refine mcVi (As := [.int 0, .int 0, .int 5]) (rest := []) ⟨hx, hb, hml, hown, hts⟩ (mt_X3_reads l D dA h ad σ ((f_, nI r_, nI (tkE σ a_), nI (tkP σ a_), nI (tkE σ a_), τ.ents, τ.em, τ.combos, τ.all_, τ.weight, τ.gain, τ.ad_, τ.minute, τ.ds, τ.bl, τ.chosen) : Sc) hmD a_ f_ r_ 0 0 5 hI ha (by omega) (by omega)) (cw_X3_X3_reads hts ⟨Nat.le_of_ble_eq_true rfl, Nat.le_of_ble_eq_true rfl⟩) (mB_now hK hP) (va_recv hK hP (ci := 0) (q0 := 0) rfl rfl) rfl hl.1 rfl (Nat.le_of_ble_eq_true rfl) dX3_readsWay_4 ⟨Nat.le_of_ble_eq_true rfl, Nat.le_of_ble_eq_true rfl⟩ hS (fun r_1 u_2 H locs hp_3 hP hS => ?_)
  rcases hp_3 with ⟨rfl, v_4, rfl, hv_5⟩ | ⟨rfl, rfl, hv_6⟩
  · have hP : va_P D vwCl (mX dA h ad σ.txt σ.len σ.wt σ.pr σ.tools σ.load σ.purse σ.beg σ.ways σ.told σ.calls σ.sm σ.sorts σ.visits σ.vm (upd f_ (8 * r_ + 1 + 0) v_4) (nI r_) (nI (tkE σ (tkE σ a_))) (nI (tkP σ (tkE σ a_))) (nI (tkE σ (tkE σ a_))) τ.ents τ.em τ.combos τ.all_ τ.weight τ.gain τ.ad_ τ.minute τ.ds τ.bl τ.chosen) H := hP
    obtain ⟨g_7, eg_7⟩ : ∃ x, x = upd f_ (8 * r_ + 1 + 0) v_4 := ⟨_, rfl⟩
    rw [← eg_7] at hP
    obtain ⟨a_8, ea_8⟩ : ∃ x, x = tkE σ a_ := ⟨_, rfl⟩
    rw [← ea_8] at hP
    have ha_8 : a_8 ≤ σ.len := by rw [ea_8]; exact tk2 ha
    refine lv_if_ne (tgt := 12) hx hb dX3_readsWay_7 rfl (fun _ => ?_) (fun h9 => ?_)
    rotate_left
    · exact absurd h9 (by decide)
    have hp1 := tkP_b ha_8
    have he1 := tkE_b ha_8
    refine lv_aload_n hx hb dX3_readsWay_12 rfl (lv_at hl 0 rfl) ?_
    refine va_get (D := D) (ci := 0) (v := .int (nI (tkP σ a_8))) (C := RX3) (T := TX3) (N := 31) hx hb hts in_X3 hown hK hP 0 rfl rfl 18 (by decide) (hts _ q1132) (fun _ h9 => h9) rfl dX3_readsWay_13 ?_
    refine lv_aload_n hx hb dX3_readsWay_16 rfl (lv_at hl 0 rfl) ?_
    refine va_get (D := D) (ci := 0) (v := .int (nI σ.len)) (C := RX3) (T := TX3) (N := 31) hx hb hts in_X3 hown hK hP 0 rfl rfl 1 (by decide) (hts _ q1115) (fun _ h9 => h9) rfl dX3_readsWay_17 ?_
    refine lv_icmp_ge (tgt := 77) hx hb dX3_readsWay_20 rfl (fun h20 => ?_) (fun h20 => ?_)
    · have h20 : σ.len ≤ (tkP σ a_8) := (nz_le (a := σ.len) (b := tkP σ a_8) rfl rfl (by omega) (by omega)).mp h20
      refine lv_iconst (v := 0) hx hb dX3_readsWay_77 rfl ?_
      refine lv_istore_n (lv' := [(1, .int 0), (0, .ref h)]) hx hb dX3_readsWay_78 rfl hl (by decide) rfl (fun ls hl => ?_)
      refine lv_iload_n hx hb dX3_readsWay_79 rfl (lv_at hl 0 rfl) ?_
      refine lv_if_ne (tgt := 109) hx hb dX3_readsWay_80 rfl (fun h9 => ?_) (fun _ => ?_)
      · exact absurd h9 (by decide)
      refine lv_aload_n hx hb dX3_readsWay_83 rfl (lv_at hl 1 rfl) ?_
      refine lv_iconst (v := 1) hx hb dX3_readsWay_84 rfl ?_
      refine lv_iconst (v := 0) hx hb dX3_readsWay_85 rfl ?_
      refine lv_iconst (v := 5) hx hb dX3_readsWay_86 rfl ?_
      refine mcVi (As := [.int 1, .int 0, .int 5]) (rest := []) ⟨hx, hb, hml, hown, hts⟩ (mt_X3_reads l D dA h ad σ ((g_7, nI r_, nI (tkE σ a_8), nI (tkP σ a_8), nI (tkE σ a_8), τ.ents, τ.em, τ.combos, τ.all_, τ.weight, τ.gain, τ.ad_, τ.minute, τ.ds, τ.bl, τ.chosen) : Sc) hmD a_8 g_7 r_ 1 0 5 hI ha_8 (by omega) (by omega)) (cw_X3_X3_reads hts ⟨Nat.le_of_ble_eq_true rfl, Nat.le_of_ble_eq_true rfl⟩) (mB_now hK hP) (va_recv hK hP (ci := 0) (q0 := 0) rfl rfl) rfl hl.1 rfl (Nat.le_of_ble_eq_true rfl) dX3_readsWay_87 ⟨Nat.le_of_ble_eq_true rfl, Nat.le_of_ble_eq_true rfl⟩ hS (fun r_9 u_10 H locs hp_11 hP hS => ?_)
      rcases hp_11 with ⟨rfl, v_12, rfl, hv_13⟩ | ⟨rfl, rfl, hv_14⟩
      · have hP : va_P D vwCl (mX dA h ad σ.txt σ.len σ.wt σ.pr σ.tools σ.load σ.purse σ.beg σ.ways σ.told σ.calls σ.sm σ.sorts σ.visits σ.vm (upd g_7 (8 * r_ + 1 + 1) v_12) (nI r_) (nI (tkE σ (tkE σ a_8))) (nI (tkP σ (tkE σ a_8))) (nI (tkE σ (tkE σ a_8))) τ.ents τ.em τ.combos τ.all_ τ.weight τ.gain τ.ad_ τ.minute τ.ds τ.bl τ.chosen) H := hP
        obtain ⟨g_15, eg_15⟩ : ∃ x, x = upd g_7 (8 * r_ + 1 + 1) v_12 := ⟨_, rfl⟩
        rw [← eg_15] at hP
        obtain ⟨a_16, ea_16⟩ : ∃ x, x = tkE σ a_8 := ⟨_, rfl⟩
        rw [← ea_16] at hP
        have ha_16 : a_16 ≤ σ.len := by rw [ea_16]; exact tk2 ha_8
        have hne : ¬ v_4 = v_12 := fun _ => by have q := (rd_in hv_13).1.1; have q2 := hp1.2; omega
        refine lv_if_eq (tgt := 109) hx hb dX3_readsWay_90 rfl (fun h9 => ?_) (fun _ => ?_)
        · exact absurd h9 (by decide)
        refine lv_aload_n hx hb dX3_readsWay_93 rfl (lv_at hl 1 rfl) ?_
        refine lv_iconst (v := 2) hx hb dX3_readsWay_94 rfl ?_
        refine lv_iconst (v := 0) hx hb dX3_readsWay_95 rfl ?_
        refine lv_sipush (v := 200) hx hb dX3_readsWay_96 rfl ?_
        refine mcVi (As := [.int 2, .int 0, .int 200]) (rest := []) ⟨hx, hb, hml, hown, hts⟩ (mt_X3_reads l D dA h ad σ ((g_15, nI r_, nI (tkE σ a_16), nI (tkP σ a_16), nI (tkE σ a_16), τ.ents, τ.em, τ.combos, τ.all_, τ.weight, τ.gain, τ.ad_, τ.minute, τ.ds, τ.bl, τ.chosen) : Sc) hmD a_16 g_15 r_ 2 0 200 hI ha_16 (by omega) (by omega)) (cw_X3_X3_reads hts ⟨Nat.le_of_ble_eq_true rfl, Nat.le_of_ble_eq_true rfl⟩) (mB_now hK hP) (va_recv hK hP (ci := 0) (q0 := 0) rfl rfl) rfl hl.1 rfl (Nat.le_of_ble_eq_true rfl) dX3_readsWay_99 ⟨Nat.le_of_ble_eq_true rfl, Nat.le_of_ble_eq_true rfl⟩ hS (fun r_17 u_18 H locs hp_19 hP hS => ?_)
        rcases hp_19 with ⟨rfl, v_20, rfl, hv_21⟩ | ⟨rfl, rfl, hv_22⟩
        · have hP : va_P D vwCl (mX dA h ad σ.txt σ.len σ.wt σ.pr σ.tools σ.load σ.purse σ.beg σ.ways σ.told σ.calls σ.sm σ.sorts σ.visits σ.vm (upd g_15 (8 * r_ + 1 + 2) v_20) (nI r_) (nI (tkE σ (tkE σ a_16))) (nI (tkP σ (tkE σ a_16))) (nI (tkE σ (tkE σ a_16))) τ.ents τ.em τ.combos τ.all_ τ.weight τ.gain τ.ad_ τ.minute τ.ds τ.bl τ.chosen) H := hP
          obtain ⟨g_23, eg_23⟩ : ∃ x, x = upd g_15 (8 * r_ + 1 + 2) v_20 := ⟨_, rfl⟩
          rw [← eg_23] at hP
          obtain ⟨a_24, ea_24⟩ : ∃ x, x = tkE σ a_16 := ⟨_, rfl⟩
          rw [← ea_24] at hP
          have ha_24 : a_24 ≤ σ.len := by rw [ea_24]; exact tk2 ha_16
          refine lv_if_eq (tgt := 109) hx hb dX3_readsWay_102 rfl (fun h9 => ?_) (fun _ => ?_)
          · exact absurd h9 (by decide)
          refine lv_iconst (v := 1) hx hb dX3_readsWay_105 rfl ?_
          refine lv_goto (tgt := 110) hx hb dX3_readsWay_106 rfl ?_
          exact rm_z (u := (σ, ((g_23, nI r_, nI (tkE σ a_24), nI (tkP σ a_24), nI (tkE σ a_24), τ.ents, τ.em, τ.combos, τ.all_, τ.weight, τ.gain, τ.ad_, τ.minute, τ.ds, τ.bl, τ.chosen) : Sc))) hQ hx hb hr hlocks hK hP hS (Or.inr rfl) ((Or.inl ⟨rfl, g_23, [4, v_4, v_12, v_20], a_24, rfl, (by subst ea_8 ea_16 ea_24; rw [wayL, nmR_s hv_5, nmR_s hv_13, if_neg hne, nmR_s hv_21]), (by rw [eg_23, eg_15, eg_7]; exact ud3 f_ r_ _ v_4 v_12 v_20), (ha_24)⟩)) dX3_readsWay_110
        · have hP : va_P D vwCl (mX dA h ad σ.txt σ.len σ.wt σ.pr σ.tools σ.load σ.purse σ.beg σ.ways σ.told σ.calls σ.sm σ.sorts σ.visits σ.vm g_15 (nI r_) (nI (tkE σ a_16)) (nI (tkP σ a_16)) (nI (tkE σ a_16)) τ.ents τ.em τ.combos τ.all_ τ.weight τ.gain τ.ad_ τ.minute τ.ds τ.bl τ.chosen) H := hP
          refine lv_if_eq (tgt := 109) hx hb dX3_readsWay_102 rfl (fun _ => ?_) (fun h9 => ?_)
          rotate_left
          · exact absurd (by decide) h9
          refine lv_iconst (v := 0) hx hb dX3_readsWay_109 rfl ?_
          exact rm_z (u := (σ, ((g_15, nI r_, nI (tkE σ a_16), nI (tkP σ a_16), nI (tkE σ a_16), τ.ents, τ.em, τ.combos, τ.all_, τ.weight, τ.gain, τ.ad_, τ.minute, τ.ds, τ.bl, τ.chosen) : Sc))) hQ hx hb hr hlocks hK hP hS (Or.inl rfl) ((Or.inr ⟨rfl, tkP σ a_16, rfl, rfl, (by subst ea_8 ea_16; rw [wayL, nmR_s hv_5, nmR_s hv_13, if_neg hne, nmR_n hv_22])⟩)) dX3_readsWay_110
      · have hP : va_P D vwCl (mX dA h ad σ.txt σ.len σ.wt σ.pr σ.tools σ.load σ.purse σ.beg σ.ways σ.told σ.calls σ.sm σ.sorts σ.visits σ.vm g_7 (nI r_) (nI (tkE σ a_8)) (nI (tkP σ a_8)) (nI (tkE σ a_8)) τ.ents τ.em τ.combos τ.all_ τ.weight τ.gain τ.ad_ τ.minute τ.ds τ.bl τ.chosen) H := hP
        refine lv_if_eq (tgt := 109) hx hb dX3_readsWay_90 rfl (fun _ => ?_) (fun h9 => ?_)
        rotate_left
        · exact absurd (by decide) h9
        refine lv_iconst (v := 0) hx hb dX3_readsWay_109 rfl ?_
        exact rm_z (u := (σ, ((g_7, nI r_, nI (tkE σ a_8), nI (tkP σ a_8), nI (tkE σ a_8), τ.ents, τ.em, τ.combos, τ.all_, τ.weight, τ.gain, τ.ad_, τ.minute, τ.ds, τ.bl, τ.chosen) : Sc))) hQ hx hb hr hlocks hK hP hS (Or.inl rfl) ((Or.inr ⟨rfl, tkP σ a_8, rfl, rfl, (by subst ea_8; rw [wayL, nmR_s hv_5, nmR_n hv_14])⟩)) dX3_readsWay_110
    · have h20 : ¬ (σ.len ≤ (tkP σ a_8)) := fun z9 => h20 ((nz_le (a := σ.len) (b := tkP σ a_8) rfl rfl (by omega) (by omega)).mpr z9)
      refine lv_aload_n hx hb dX3_readsWay_23 rfl (lv_at hl 0 rfl) ?_
      refine va_get (D := D) (ci := 0) (v := .int (nI (tkE σ a_8))) (C := RX3) (T := TX3) (N := 31) hx hb hts in_X3 hown hK hP 0 rfl rfl 19 (by decide) (hts _ q1133) (fun _ h9 => h9) rfl dX3_readsWay_24 ?_
      refine lv_aload_n hx hb dX3_readsWay_27 rfl (lv_at hl 0 rfl) ?_
      refine va_get (D := D) (ci := 0) (v := .int (nI (tkP σ a_8))) (C := RX3) (T := TX3) (N := 31) hx hb hts in_X3 hown hK hP 0 rfl rfl 18 (by decide) (hts _ q1132) (fun _ h9 => h9) rfl dX3_readsWay_28 ?_
      refine lv_isub hx hb dX3_readsWay_31 ?_
      refine lv_iconst (v := 4) hx hb dX3_readsWay_32 rfl ?_
      refine lv_icmp_gt (tgt := 77) hx hb dX3_readsWay_33 rfl (fun h33 => ?_) (fun h33 => ?_)
      · have h33 : 4 < ((tkE σ a_8) - (tkP σ a_8)) := (nz_lt (a := 4) (b := (tkE σ a_8) - (tkP σ a_8)) rfl (nz_sub (a := tkE σ a_8) (b := tkP σ a_8) rfl rfl (by omega)) (by omega) (by omega)).mp h33
        refine lv_iconst (v := 0) hx hb dX3_readsWay_77 rfl ?_
        refine lv_istore_n (lv' := [(1, .int 0), (0, .ref h)]) hx hb dX3_readsWay_78 rfl hl (by decide) rfl (fun ls hl => ?_)
        refine lv_iload_n hx hb dX3_readsWay_79 rfl (lv_at hl 0 rfl) ?_
        refine lv_if_ne (tgt := 109) hx hb dX3_readsWay_80 rfl (fun h9 => ?_) (fun _ => ?_)
        · exact absurd h9 (by decide)
        refine lv_aload_n hx hb dX3_readsWay_83 rfl (lv_at hl 1 rfl) ?_
        refine lv_iconst (v := 1) hx hb dX3_readsWay_84 rfl ?_
        refine lv_iconst (v := 0) hx hb dX3_readsWay_85 rfl ?_
        refine lv_iconst (v := 5) hx hb dX3_readsWay_86 rfl ?_
        refine mcVi (As := [.int 1, .int 0, .int 5]) (rest := []) ⟨hx, hb, hml, hown, hts⟩ (mt_X3_reads l D dA h ad σ ((g_7, nI r_, nI (tkE σ a_8), nI (tkP σ a_8), nI (tkE σ a_8), τ.ents, τ.em, τ.combos, τ.all_, τ.weight, τ.gain, τ.ad_, τ.minute, τ.ds, τ.bl, τ.chosen) : Sc) hmD a_8 g_7 r_ 1 0 5 hI ha_8 (by omega) (by omega)) (cw_X3_X3_reads hts ⟨Nat.le_of_ble_eq_true rfl, Nat.le_of_ble_eq_true rfl⟩) (mB_now hK hP) (va_recv hK hP (ci := 0) (q0 := 0) rfl rfl) rfl hl.1 rfl (Nat.le_of_ble_eq_true rfl) dX3_readsWay_87 ⟨Nat.le_of_ble_eq_true rfl, Nat.le_of_ble_eq_true rfl⟩ hS (fun r_25 u_26 H locs hp_27 hP hS => ?_)
        rcases hp_27 with ⟨rfl, v_28, rfl, hv_29⟩ | ⟨rfl, rfl, hv_30⟩
        · have hP : va_P D vwCl (mX dA h ad σ.txt σ.len σ.wt σ.pr σ.tools σ.load σ.purse σ.beg σ.ways σ.told σ.calls σ.sm σ.sorts σ.visits σ.vm (upd g_7 (8 * r_ + 1 + 1) v_28) (nI r_) (nI (tkE σ (tkE σ a_8))) (nI (tkP σ (tkE σ a_8))) (nI (tkE σ (tkE σ a_8))) τ.ents τ.em τ.combos τ.all_ τ.weight τ.gain τ.ad_ τ.minute τ.ds τ.bl τ.chosen) H := hP
          obtain ⟨g_31, eg_31⟩ : ∃ x, x = upd g_7 (8 * r_ + 1 + 1) v_28 := ⟨_, rfl⟩
          rw [← eg_31] at hP
          obtain ⟨a_32, ea_32⟩ : ∃ x, x = tkE σ a_8 := ⟨_, rfl⟩
          rw [← ea_32] at hP
          have ha_32 : a_32 ≤ σ.len := by rw [ea_32]; exact tk2 ha_8
          have hne : ¬ v_4 = v_28 := fun _ => by have q := (rd_in hv_29).1.2.2.1; omega
          refine lv_if_eq (tgt := 109) hx hb dX3_readsWay_90 rfl (fun h9 => ?_) (fun _ => ?_)
          · exact absurd h9 (by decide)
          refine lv_aload_n hx hb dX3_readsWay_93 rfl (lv_at hl 1 rfl) ?_
          refine lv_iconst (v := 2) hx hb dX3_readsWay_94 rfl ?_
          refine lv_iconst (v := 0) hx hb dX3_readsWay_95 rfl ?_
          refine lv_sipush (v := 200) hx hb dX3_readsWay_96 rfl ?_
          refine mcVi (As := [.int 2, .int 0, .int 200]) (rest := []) ⟨hx, hb, hml, hown, hts⟩ (mt_X3_reads l D dA h ad σ ((g_31, nI r_, nI (tkE σ a_32), nI (tkP σ a_32), nI (tkE σ a_32), τ.ents, τ.em, τ.combos, τ.all_, τ.weight, τ.gain, τ.ad_, τ.minute, τ.ds, τ.bl, τ.chosen) : Sc) hmD a_32 g_31 r_ 2 0 200 hI ha_32 (by omega) (by omega)) (cw_X3_X3_reads hts ⟨Nat.le_of_ble_eq_true rfl, Nat.le_of_ble_eq_true rfl⟩) (mB_now hK hP) (va_recv hK hP (ci := 0) (q0 := 0) rfl rfl) rfl hl.1 rfl (Nat.le_of_ble_eq_true rfl) dX3_readsWay_99 ⟨Nat.le_of_ble_eq_true rfl, Nat.le_of_ble_eq_true rfl⟩ hS (fun r_33 u_34 H locs hp_35 hP hS => ?_)
          rcases hp_35 with ⟨rfl, v_36, rfl, hv_37⟩ | ⟨rfl, rfl, hv_38⟩
          · have hP : va_P D vwCl (mX dA h ad σ.txt σ.len σ.wt σ.pr σ.tools σ.load σ.purse σ.beg σ.ways σ.told σ.calls σ.sm σ.sorts σ.visits σ.vm (upd g_31 (8 * r_ + 1 + 2) v_36) (nI r_) (nI (tkE σ (tkE σ a_32))) (nI (tkP σ (tkE σ a_32))) (nI (tkE σ (tkE σ a_32))) τ.ents τ.em τ.combos τ.all_ τ.weight τ.gain τ.ad_ τ.minute τ.ds τ.bl τ.chosen) H := hP
            obtain ⟨g_39, eg_39⟩ : ∃ x, x = upd g_31 (8 * r_ + 1 + 2) v_36 := ⟨_, rfl⟩
            rw [← eg_39] at hP
            obtain ⟨a_40, ea_40⟩ : ∃ x, x = tkE σ a_32 := ⟨_, rfl⟩
            rw [← ea_40] at hP
            have ha_40 : a_40 ≤ σ.len := by rw [ea_40]; exact tk2 ha_32
            refine lv_if_eq (tgt := 109) hx hb dX3_readsWay_102 rfl (fun h9 => ?_) (fun _ => ?_)
            · exact absurd h9 (by decide)
            refine lv_iconst (v := 1) hx hb dX3_readsWay_105 rfl ?_
            refine lv_goto (tgt := 110) hx hb dX3_readsWay_106 rfl ?_
            exact rm_z (u := (σ, ((g_39, nI r_, nI (tkE σ a_40), nI (tkP σ a_40), nI (tkE σ a_40), τ.ents, τ.em, τ.combos, τ.all_, τ.weight, τ.gain, τ.ad_, τ.minute, τ.ds, τ.bl, τ.chosen) : Sc))) hQ hx hb hr hlocks hK hP hS (Or.inr rfl) ((Or.inl ⟨rfl, g_39, [4, v_4, v_28, v_36], a_40, rfl, (by subst ea_8 ea_32 ea_40; rw [wayL, nmR_s hv_5, nmR_s hv_29, if_neg hne, nmR_s hv_37]), (by rw [eg_39, eg_31, eg_7]; exact ud4 f_ r_ _ v_4 v_28 v_36), (ha_40)⟩)) dX3_readsWay_110
          · have hP : va_P D vwCl (mX dA h ad σ.txt σ.len σ.wt σ.pr σ.tools σ.load σ.purse σ.beg σ.ways σ.told σ.calls σ.sm σ.sorts σ.visits σ.vm g_31 (nI r_) (nI (tkE σ a_32)) (nI (tkP σ a_32)) (nI (tkE σ a_32)) τ.ents τ.em τ.combos τ.all_ τ.weight τ.gain τ.ad_ τ.minute τ.ds τ.bl τ.chosen) H := hP
            refine lv_if_eq (tgt := 109) hx hb dX3_readsWay_102 rfl (fun _ => ?_) (fun h9 => ?_)
            rotate_left
            · exact absurd (by decide) h9
            refine lv_iconst (v := 0) hx hb dX3_readsWay_109 rfl ?_
            exact rm_z (u := (σ, ((g_31, nI r_, nI (tkE σ a_32), nI (tkP σ a_32), nI (tkE σ a_32), τ.ents, τ.em, τ.combos, τ.all_, τ.weight, τ.gain, τ.ad_, τ.minute, τ.ds, τ.bl, τ.chosen) : Sc))) hQ hx hb hr hlocks hK hP hS (Or.inl rfl) ((Or.inr ⟨rfl, tkP σ a_32, rfl, rfl, (by subst ea_8 ea_32; rw [wayL, nmR_s hv_5, nmR_s hv_29, if_neg hne, nmR_n hv_38])⟩)) dX3_readsWay_110
        · have hP : va_P D vwCl (mX dA h ad σ.txt σ.len σ.wt σ.pr σ.tools σ.load σ.purse σ.beg σ.ways σ.told σ.calls σ.sm σ.sorts σ.visits σ.vm g_7 (nI r_) (nI (tkE σ a_8)) (nI (tkP σ a_8)) (nI (tkE σ a_8)) τ.ents τ.em τ.combos τ.all_ τ.weight τ.gain τ.ad_ τ.minute τ.ds τ.bl τ.chosen) H := hP
          refine lv_if_eq (tgt := 109) hx hb dX3_readsWay_90 rfl (fun _ => ?_) (fun h9 => ?_)
          rotate_left
          · exact absurd (by decide) h9
          refine lv_iconst (v := 0) hx hb dX3_readsWay_109 rfl ?_
          exact rm_z (u := (σ, ((g_7, nI r_, nI (tkE σ a_8), nI (tkP σ a_8), nI (tkE σ a_8), τ.ents, τ.em, τ.combos, τ.all_, τ.weight, τ.gain, τ.ad_, τ.minute, τ.ds, τ.bl, τ.chosen) : Sc))) hQ hx hb hr hlocks hK hP hS (Or.inl rfl) ((Or.inr ⟨rfl, tkP σ a_8, rfl, rfl, (by subst ea_8; rw [wayL, nmR_s hv_5, nmR_n hv_30])⟩)) dX3_readsWay_110
      · have h33 : ¬ (4 < ((tkE σ a_8) - (tkP σ a_8))) := fun z9 => h33 ((nz_lt (a := 4) (b := (tkE σ a_8) - (tkP σ a_8)) rfl (nz_sub (a := tkE σ a_8) (b := tkP σ a_8) rfl rfl (by omega)) (by omega) (by omega)).mpr z9)
        refine lv_aload_n hx hb dX3_readsWay_36 rfl (lv_at hl 0 rfl) ?_
        refine va_get (D := D) (ci := 0) (v := .ref (ad 0)) (C := RX3) (T := TX3) (N := 31) hx hb hts in_X3 hown hK hP 0 rfl rfl 0 (by decide) (hts _ q1114) (fun _ h9 => h9) rfl dX3_readsWay_37 ?_
        refine lv_aload_n hx hb dX3_readsWay_40 rfl (lv_at hl 0 rfl) ?_
        refine va_get (D := D) (ci := 0) (v := .int (nI (tkP σ a_8))) (C := RX3) (T := TX3) (N := 31) hx hb hts in_X3 hown hK hP 0 rfl rfl 18 (by decide) (hts _ q1132) (fun _ h9 => h9) rfl dX3_readsWay_41 ?_
        refine wa_iald (f := σ.txt) hx hb hK hP 1 0 rfl rfl (tkP σ a_8) (rfl) (by omega) (by decide) dX3_readsWay_44 ?_
        refine cSi (As := [.int (σ.txt (tkP σ a_8))]) (rest := []) ⟨hx, hb, hml, hown, hts⟩ (mt_X3_kind l (σ.txt (tkP σ a_8))) (cw_X3_X3_kind hts ⟨Nat.le_of_ble_eq_true rfl, Nat.le_of_ble_eq_true rfl⟩) w_blT (fun _ _ _ => trivial) rfl hl.1 rfl (Nat.le_of_ble_eq_true rfl) dX3_readsWay_45 ⟨Nat.le_of_ble_eq_true rfl, Nat.le_of_ble_eq_true rfl⟩ ?_
        refine lv_iconst (v := 2) hx hb dX3_readsWay_48 rfl ?_
        refine lv_icmp_ne (tgt := 77) hx hb dX3_readsWay_49 rfl (fun h49 => ?_) (fun h49 => ?_)
        · have h49 : ¬ ((kindF (σ.txt (tkP σ a_8))) = 2) := h49
          refine lv_iconst (v := 0) hx hb dX3_readsWay_77 rfl ?_
          refine lv_istore_n (lv' := [(1, .int 0), (0, .ref h)]) hx hb dX3_readsWay_78 rfl hl (by decide) rfl (fun ls hl => ?_)
          refine lv_iload_n hx hb dX3_readsWay_79 rfl (lv_at hl 0 rfl) ?_
          refine lv_if_ne (tgt := 109) hx hb dX3_readsWay_80 rfl (fun h9 => ?_) (fun _ => ?_)
          · exact absurd h9 (by decide)
          refine lv_aload_n hx hb dX3_readsWay_83 rfl (lv_at hl 1 rfl) ?_
          refine lv_iconst (v := 1) hx hb dX3_readsWay_84 rfl ?_
          refine lv_iconst (v := 0) hx hb dX3_readsWay_85 rfl ?_
          refine lv_iconst (v := 5) hx hb dX3_readsWay_86 rfl ?_
          refine mcVi (As := [.int 1, .int 0, .int 5]) (rest := []) ⟨hx, hb, hml, hown, hts⟩ (mt_X3_reads l D dA h ad σ ((g_7, nI r_, nI (tkE σ a_8), nI (tkP σ a_8), nI (tkE σ a_8), τ.ents, τ.em, τ.combos, τ.all_, τ.weight, τ.gain, τ.ad_, τ.minute, τ.ds, τ.bl, τ.chosen) : Sc) hmD a_8 g_7 r_ 1 0 5 hI ha_8 (by omega) (by omega)) (cw_X3_X3_reads hts ⟨Nat.le_of_ble_eq_true rfl, Nat.le_of_ble_eq_true rfl⟩) (mB_now hK hP) (va_recv hK hP (ci := 0) (q0 := 0) rfl rfl) rfl hl.1 rfl (Nat.le_of_ble_eq_true rfl) dX3_readsWay_87 ⟨Nat.le_of_ble_eq_true rfl, Nat.le_of_ble_eq_true rfl⟩ hS (fun r_41 u_42 H locs hp_43 hP hS => ?_)
          rcases hp_43 with ⟨rfl, v_44, rfl, hv_45⟩ | ⟨rfl, rfl, hv_46⟩
          · have hP : va_P D vwCl (mX dA h ad σ.txt σ.len σ.wt σ.pr σ.tools σ.load σ.purse σ.beg σ.ways σ.told σ.calls σ.sm σ.sorts σ.visits σ.vm (upd g_7 (8 * r_ + 1 + 1) v_44) (nI r_) (nI (tkE σ (tkE σ a_8))) (nI (tkP σ (tkE σ a_8))) (nI (tkE σ (tkE σ a_8))) τ.ents τ.em τ.combos τ.all_ τ.weight τ.gain τ.ad_ τ.minute τ.ds τ.bl τ.chosen) H := hP
            obtain ⟨g_47, eg_47⟩ : ∃ x, x = upd g_7 (8 * r_ + 1 + 1) v_44 := ⟨_, rfl⟩
            rw [← eg_47] at hP
            obtain ⟨a_48, ea_48⟩ : ∃ x, x = tkE σ a_8 := ⟨_, rfl⟩
            rw [← ea_48] at hP
            have ha_48 : a_48 ≤ σ.len := by rw [ea_48]; exact tk2 ha_8
            have hne : ¬ v_4 = v_44 := fun _ => h49 (rd_in hv_45).1.2.1
            refine lv_if_eq (tgt := 109) hx hb dX3_readsWay_90 rfl (fun h9 => ?_) (fun _ => ?_)
            · exact absurd h9 (by decide)
            refine lv_aload_n hx hb dX3_readsWay_93 rfl (lv_at hl 1 rfl) ?_
            refine lv_iconst (v := 2) hx hb dX3_readsWay_94 rfl ?_
            refine lv_iconst (v := 0) hx hb dX3_readsWay_95 rfl ?_
            refine lv_sipush (v := 200) hx hb dX3_readsWay_96 rfl ?_
            refine mcVi (As := [.int 2, .int 0, .int 200]) (rest := []) ⟨hx, hb, hml, hown, hts⟩ (mt_X3_reads l D dA h ad σ ((g_47, nI r_, nI (tkE σ a_48), nI (tkP σ a_48), nI (tkE σ a_48), τ.ents, τ.em, τ.combos, τ.all_, τ.weight, τ.gain, τ.ad_, τ.minute, τ.ds, τ.bl, τ.chosen) : Sc) hmD a_48 g_47 r_ 2 0 200 hI ha_48 (by omega) (by omega)) (cw_X3_X3_reads hts ⟨Nat.le_of_ble_eq_true rfl, Nat.le_of_ble_eq_true rfl⟩) (mB_now hK hP) (va_recv hK hP (ci := 0) (q0 := 0) rfl rfl) rfl hl.1 rfl (Nat.le_of_ble_eq_true rfl) dX3_readsWay_99 ⟨Nat.le_of_ble_eq_true rfl, Nat.le_of_ble_eq_true rfl⟩ hS (fun r_49 u_50 H locs hp_51 hP hS => ?_)
            rcases hp_51 with ⟨rfl, v_52, rfl, hv_53⟩ | ⟨rfl, rfl, hv_54⟩
            · have hP : va_P D vwCl (mX dA h ad σ.txt σ.len σ.wt σ.pr σ.tools σ.load σ.purse σ.beg σ.ways σ.told σ.calls σ.sm σ.sorts σ.visits σ.vm (upd g_47 (8 * r_ + 1 + 2) v_52) (nI r_) (nI (tkE σ (tkE σ a_48))) (nI (tkP σ (tkE σ a_48))) (nI (tkE σ (tkE σ a_48))) τ.ents τ.em τ.combos τ.all_ τ.weight τ.gain τ.ad_ τ.minute τ.ds τ.bl τ.chosen) H := hP
              obtain ⟨g_55, eg_55⟩ : ∃ x, x = upd g_47 (8 * r_ + 1 + 2) v_52 := ⟨_, rfl⟩
              rw [← eg_55] at hP
              obtain ⟨a_56, ea_56⟩ : ∃ x, x = tkE σ a_48 := ⟨_, rfl⟩
              rw [← ea_56] at hP
              have ha_56 : a_56 ≤ σ.len := by rw [ea_56]; exact tk2 ha_48
              refine lv_if_eq (tgt := 109) hx hb dX3_readsWay_102 rfl (fun h9 => ?_) (fun _ => ?_)
              · exact absurd h9 (by decide)
              refine lv_iconst (v := 1) hx hb dX3_readsWay_105 rfl ?_
              refine lv_goto (tgt := 110) hx hb dX3_readsWay_106 rfl ?_
              exact rm_z (u := (σ, ((g_55, nI r_, nI (tkE σ a_56), nI (tkP σ a_56), nI (tkE σ a_56), τ.ents, τ.em, τ.combos, τ.all_, τ.weight, τ.gain, τ.ad_, τ.minute, τ.ds, τ.bl, τ.chosen) : Sc))) hQ hx hb hr hlocks hK hP hS (Or.inr rfl) ((Or.inl ⟨rfl, g_55, [4, v_4, v_44, v_52], a_56, rfl, (by subst ea_8 ea_48 ea_56; rw [wayL, nmR_s hv_5, nmR_s hv_45, if_neg hne, nmR_s hv_53]), (by rw [eg_55, eg_47, eg_7]; exact ud5 f_ r_ _ v_4 v_44 v_52), (ha_56)⟩)) dX3_readsWay_110
            · have hP : va_P D vwCl (mX dA h ad σ.txt σ.len σ.wt σ.pr σ.tools σ.load σ.purse σ.beg σ.ways σ.told σ.calls σ.sm σ.sorts σ.visits σ.vm g_47 (nI r_) (nI (tkE σ a_48)) (nI (tkP σ a_48)) (nI (tkE σ a_48)) τ.ents τ.em τ.combos τ.all_ τ.weight τ.gain τ.ad_ τ.minute τ.ds τ.bl τ.chosen) H := hP
              refine lv_if_eq (tgt := 109) hx hb dX3_readsWay_102 rfl (fun _ => ?_) (fun h9 => ?_)
              rotate_left
              · exact absurd (by decide) h9
              refine lv_iconst (v := 0) hx hb dX3_readsWay_109 rfl ?_
              exact rm_z (u := (σ, ((g_47, nI r_, nI (tkE σ a_48), nI (tkP σ a_48), nI (tkE σ a_48), τ.ents, τ.em, τ.combos, τ.all_, τ.weight, τ.gain, τ.ad_, τ.minute, τ.ds, τ.bl, τ.chosen) : Sc))) hQ hx hb hr hlocks hK hP hS (Or.inl rfl) ((Or.inr ⟨rfl, tkP σ a_48, rfl, rfl, (by subst ea_8 ea_48; rw [wayL, nmR_s hv_5, nmR_s hv_45, if_neg hne, nmR_n hv_54])⟩)) dX3_readsWay_110
          · have hP : va_P D vwCl (mX dA h ad σ.txt σ.len σ.wt σ.pr σ.tools σ.load σ.purse σ.beg σ.ways σ.told σ.calls σ.sm σ.sorts σ.visits σ.vm g_7 (nI r_) (nI (tkE σ a_8)) (nI (tkP σ a_8)) (nI (tkE σ a_8)) τ.ents τ.em τ.combos τ.all_ τ.weight τ.gain τ.ad_ τ.minute τ.ds τ.bl τ.chosen) H := hP
            refine lv_if_eq (tgt := 109) hx hb dX3_readsWay_90 rfl (fun _ => ?_) (fun h9 => ?_)
            rotate_left
            · exact absurd (by decide) h9
            refine lv_iconst (v := 0) hx hb dX3_readsWay_109 rfl ?_
            exact rm_z (u := (σ, ((g_7, nI r_, nI (tkE σ a_8), nI (tkP σ a_8), nI (tkE σ a_8), τ.ents, τ.em, τ.combos, τ.all_, τ.weight, τ.gain, τ.ad_, τ.minute, τ.ds, τ.bl, τ.chosen) : Sc))) hQ hx hb hr hlocks hK hP hS (Or.inl rfl) ((Or.inr ⟨rfl, tkP σ a_8, rfl, rfl, (by subst ea_8; rw [wayL, nmR_s hv_5, nmR_n hv_46])⟩)) dX3_readsWay_110
        · have h49 : (kindF (σ.txt (tkP σ a_8))) = 2 := h49
          refine lv_aload_n hx hb dX3_readsWay_52 rfl (lv_at hl 0 rfl) ?_
          refine cVi (As := []) (rest := []) ⟨hx, hb, hml, hown, hts⟩ (mt_X3_number l D dA h ad σ ((g_7, nI r_, nI (tkE σ a_8), nI (tkP σ a_8), nI (tkE σ a_8), τ.ents, τ.em, τ.combos, τ.all_, τ.weight, τ.gain, τ.ad_, τ.minute, τ.ds, τ.bl, τ.chosen) : Sc) a_8 hI ha_8) (cw_X3_X3_number hts ⟨Nat.le_of_ble_eq_true rfl, Nat.le_of_ble_eq_true rfl⟩) mB_bl (mB_now hK hP) (va_recv hK hP (ci := 0) (q0 := 0) rfl rfl) rfl hl.1 rfl (Nat.le_of_ble_eq_true rfl) dX3_readsWay_53 ⟨Nat.le_of_ble_eq_true rfl, Nat.le_of_ble_eq_true rfl⟩ ?_
          refine lv_aload_n hx hb dX3_readsWay_56 rfl (lv_at hl 0 rfl) ?_
          refine va_get (D := D) (ci := 0) (v := .ref (ad 1)) (C := RX3) (T := TX3) (N := 31) hx hb hts in_X3 hown hK hP 0 rfl rfl 2 (by decide) (hts _ q1116) (fun _ h9 => h9) rfl dX3_readsWay_57 ?_
          refine lv_bipush (v := 8) hx hb dX3_readsWay_60 rfl ?_
          refine lv_aload_n hx hb dX3_readsWay_62 rfl (lv_at hl 0 rfl) ?_
          refine va_get (D := D) (ci := 0) (v := .int (nI r_)) (C := RX3) (T := TX3) (N := 31) hx hb hts in_X3 hown hK hP 0 rfl rfl 3 (by decide) (hts _ q1117) (fun _ h9 => h9) rfl dX3_readsWay_63 ?_
          refine lv_imul hx hb dX3_readsWay_66 ?_
          refine lv_iconst (v := 1) hx hb dX3_readsWay_67 rfl ?_
          refine lv_iadd hx hb dX3_readsWay_68 ?_
          refine wa_iald (f := g_7) hx hb hK hP 2 0 rfl rfl ((8 * r_) + 1) ((nz_add (nz_mul rfl rfl) rfl)) (by omega) (by decide) dX3_readsWay_69 ?_
          refine w_topi (y := v_4) (by rw [eg_7]; exact if_pos (by omega)) ?_
          refine lv_icmp_ne (tgt := 77) hx hb dX3_readsWay_70 rfl (fun h70 => ?_) (fun h70 => ?_)
          · have h70 : ¬ ((numF σ a_8) = v_4) := h70
            refine lv_iconst (v := 0) hx hb dX3_readsWay_77 rfl ?_
            refine lv_istore_n (lv' := [(1, .int 0), (0, .ref h)]) hx hb dX3_readsWay_78 rfl hl (by decide) rfl (fun ls hl => ?_)
            refine lv_iload_n hx hb dX3_readsWay_79 rfl (lv_at hl 0 rfl) ?_
            refine lv_if_ne (tgt := 109) hx hb dX3_readsWay_80 rfl (fun h9 => ?_) (fun _ => ?_)
            · exact absurd h9 (by decide)
            refine lv_aload_n hx hb dX3_readsWay_83 rfl (lv_at hl 1 rfl) ?_
            refine lv_iconst (v := 1) hx hb dX3_readsWay_84 rfl ?_
            refine lv_iconst (v := 0) hx hb dX3_readsWay_85 rfl ?_
            refine lv_iconst (v := 5) hx hb dX3_readsWay_86 rfl ?_
            refine mcVi (As := [.int 1, .int 0, .int 5]) (rest := []) ⟨hx, hb, hml, hown, hts⟩ (mt_X3_reads l D dA h ad σ ((g_7, nI r_, nI (tkE σ a_8), nI (tkP σ a_8), nI (tkE σ a_8), τ.ents, τ.em, τ.combos, τ.all_, τ.weight, τ.gain, τ.ad_, τ.minute, τ.ds, τ.bl, τ.chosen) : Sc) hmD a_8 g_7 r_ 1 0 5 hI ha_8 (by omega) (by omega)) (cw_X3_X3_reads hts ⟨Nat.le_of_ble_eq_true rfl, Nat.le_of_ble_eq_true rfl⟩) (mB_now hK hP) (va_recv hK hP (ci := 0) (q0 := 0) rfl rfl) rfl hl.1 rfl (Nat.le_of_ble_eq_true rfl) dX3_readsWay_87 ⟨Nat.le_of_ble_eq_true rfl, Nat.le_of_ble_eq_true rfl⟩ hS (fun r_57 u_58 H locs hp_59 hP hS => ?_)
            rcases hp_59 with ⟨rfl, v_60, rfl, hv_61⟩ | ⟨rfl, rfl, hv_62⟩
            · have hP : va_P D vwCl (mX dA h ad σ.txt σ.len σ.wt σ.pr σ.tools σ.load σ.purse σ.beg σ.ways σ.told σ.calls σ.sm σ.sorts σ.visits σ.vm (upd g_7 (8 * r_ + 1 + 1) v_60) (nI r_) (nI (tkE σ (tkE σ a_8))) (nI (tkP σ (tkE σ a_8))) (nI (tkE σ (tkE σ a_8))) τ.ents τ.em τ.combos τ.all_ τ.weight τ.gain τ.ad_ τ.minute τ.ds τ.bl τ.chosen) H := hP
              obtain ⟨g_63, eg_63⟩ : ∃ x, x = upd g_7 (8 * r_ + 1 + 1) v_60 := ⟨_, rfl⟩
              rw [← eg_63] at hP
              obtain ⟨a_64, ea_64⟩ : ∃ x, x = tkE σ a_8 := ⟨_, rfl⟩
              rw [← ea_64] at hP
              have ha_64 : a_64 ≤ σ.len := by rw [ea_64]; exact tk2 ha_8
              have hne : ¬ v_4 = v_60 := fun z => h70 ((rd_in hv_61).2.1.symm.trans z.symm)
              refine lv_if_eq (tgt := 109) hx hb dX3_readsWay_90 rfl (fun h9 => ?_) (fun _ => ?_)
              · exact absurd h9 (by decide)
              refine lv_aload_n hx hb dX3_readsWay_93 rfl (lv_at hl 1 rfl) ?_
              refine lv_iconst (v := 2) hx hb dX3_readsWay_94 rfl ?_
              refine lv_iconst (v := 0) hx hb dX3_readsWay_95 rfl ?_
              refine lv_sipush (v := 200) hx hb dX3_readsWay_96 rfl ?_
              refine mcVi (As := [.int 2, .int 0, .int 200]) (rest := []) ⟨hx, hb, hml, hown, hts⟩ (mt_X3_reads l D dA h ad σ ((g_63, nI r_, nI (tkE σ a_64), nI (tkP σ a_64), nI (tkE σ a_64), τ.ents, τ.em, τ.combos, τ.all_, τ.weight, τ.gain, τ.ad_, τ.minute, τ.ds, τ.bl, τ.chosen) : Sc) hmD a_64 g_63 r_ 2 0 200 hI ha_64 (by omega) (by omega)) (cw_X3_X3_reads hts ⟨Nat.le_of_ble_eq_true rfl, Nat.le_of_ble_eq_true rfl⟩) (mB_now hK hP) (va_recv hK hP (ci := 0) (q0 := 0) rfl rfl) rfl hl.1 rfl (Nat.le_of_ble_eq_true rfl) dX3_readsWay_99 ⟨Nat.le_of_ble_eq_true rfl, Nat.le_of_ble_eq_true rfl⟩ hS (fun r_65 u_66 H locs hp_67 hP hS => ?_)
              rcases hp_67 with ⟨rfl, v_68, rfl, hv_69⟩ | ⟨rfl, rfl, hv_70⟩
              · have hP : va_P D vwCl (mX dA h ad σ.txt σ.len σ.wt σ.pr σ.tools σ.load σ.purse σ.beg σ.ways σ.told σ.calls σ.sm σ.sorts σ.visits σ.vm (upd g_63 (8 * r_ + 1 + 2) v_68) (nI r_) (nI (tkE σ (tkE σ a_64))) (nI (tkP σ (tkE σ a_64))) (nI (tkE σ (tkE σ a_64))) τ.ents τ.em τ.combos τ.all_ τ.weight τ.gain τ.ad_ τ.minute τ.ds τ.bl τ.chosen) H := hP
                obtain ⟨g_71, eg_71⟩ : ∃ x, x = upd g_63 (8 * r_ + 1 + 2) v_68 := ⟨_, rfl⟩
                rw [← eg_71] at hP
                obtain ⟨a_72, ea_72⟩ : ∃ x, x = tkE σ a_64 := ⟨_, rfl⟩
                rw [← ea_72] at hP
                have ha_72 : a_72 ≤ σ.len := by rw [ea_72]; exact tk2 ha_64
                refine lv_if_eq (tgt := 109) hx hb dX3_readsWay_102 rfl (fun h9 => ?_) (fun _ => ?_)
                · exact absurd h9 (by decide)
                refine lv_iconst (v := 1) hx hb dX3_readsWay_105 rfl ?_
                refine lv_goto (tgt := 110) hx hb dX3_readsWay_106 rfl ?_
                exact rm_z (u := (σ, ((g_71, nI r_, nI (tkE σ a_72), nI (tkP σ a_72), nI (tkE σ a_72), τ.ents, τ.em, τ.combos, τ.all_, τ.weight, τ.gain, τ.ad_, τ.minute, τ.ds, τ.bl, τ.chosen) : Sc))) hQ hx hb hr hlocks hK hP hS (Or.inr rfl) ((Or.inl ⟨rfl, g_71, [4, v_4, v_60, v_68], a_72, rfl, (by subst ea_8 ea_64 ea_72; rw [wayL, nmR_s hv_5, nmR_s hv_61, if_neg hne, nmR_s hv_69]), (by rw [eg_71, eg_63, eg_7]; exact ud6 f_ r_ _ v_4 v_60 v_68), (ha_72)⟩)) dX3_readsWay_110
              · have hP : va_P D vwCl (mX dA h ad σ.txt σ.len σ.wt σ.pr σ.tools σ.load σ.purse σ.beg σ.ways σ.told σ.calls σ.sm σ.sorts σ.visits σ.vm g_63 (nI r_) (nI (tkE σ a_64)) (nI (tkP σ a_64)) (nI (tkE σ a_64)) τ.ents τ.em τ.combos τ.all_ τ.weight τ.gain τ.ad_ τ.minute τ.ds τ.bl τ.chosen) H := hP
                refine lv_if_eq (tgt := 109) hx hb dX3_readsWay_102 rfl (fun _ => ?_) (fun h9 => ?_)
                rotate_left
                · exact absurd (by decide) h9
                refine lv_iconst (v := 0) hx hb dX3_readsWay_109 rfl ?_
                exact rm_z (u := (σ, ((g_63, nI r_, nI (tkE σ a_64), nI (tkP σ a_64), nI (tkE σ a_64), τ.ents, τ.em, τ.combos, τ.all_, τ.weight, τ.gain, τ.ad_, τ.minute, τ.ds, τ.bl, τ.chosen) : Sc))) hQ hx hb hr hlocks hK hP hS (Or.inl rfl) ((Or.inr ⟨rfl, tkP σ a_64, rfl, rfl, (by subst ea_8 ea_64; rw [wayL, nmR_s hv_5, nmR_s hv_61, if_neg hne, nmR_n hv_70])⟩)) dX3_readsWay_110
            · have hP : va_P D vwCl (mX dA h ad σ.txt σ.len σ.wt σ.pr σ.tools σ.load σ.purse σ.beg σ.ways σ.told σ.calls σ.sm σ.sorts σ.visits σ.vm g_7 (nI r_) (nI (tkE σ a_8)) (nI (tkP σ a_8)) (nI (tkE σ a_8)) τ.ents τ.em τ.combos τ.all_ τ.weight τ.gain τ.ad_ τ.minute τ.ds τ.bl τ.chosen) H := hP
              refine lv_if_eq (tgt := 109) hx hb dX3_readsWay_90 rfl (fun _ => ?_) (fun h9 => ?_)
              rotate_left
              · exact absurd (by decide) h9
              refine lv_iconst (v := 0) hx hb dX3_readsWay_109 rfl ?_
              exact rm_z (u := (σ, ((g_7, nI r_, nI (tkE σ a_8), nI (tkP σ a_8), nI (tkE σ a_8), τ.ents, τ.em, τ.combos, τ.all_, τ.weight, τ.gain, τ.ad_, τ.minute, τ.ds, τ.bl, τ.chosen) : Sc))) hQ hx hb hr hlocks hK hP hS (Or.inl rfl) ((Or.inr ⟨rfl, tkP σ a_8, rfl, rfl, (by subst ea_8; rw [wayL, nmR_s hv_5, nmR_n hv_62])⟩)) dX3_readsWay_110
          · have h70 : (numF σ a_8) = v_4 := h70
            refine lv_iconst (v := 1) hx hb dX3_readsWay_73 rfl ?_
            refine lv_goto (tgt := 78) hx hb dX3_readsWay_74 rfl ?_
            refine lv_istore_n (lv' := [(1, .int 1), (0, .ref h)]) hx hb dX3_readsWay_78 rfl hl (by decide) rfl (fun ls hl => ?_)
            refine lv_iload_n hx hb dX3_readsWay_79 rfl (lv_at hl 0 rfl) ?_
            refine lv_if_ne (tgt := 109) hx hb dX3_readsWay_80 rfl (fun _ => ?_) (fun h9 => ?_)
            rotate_left
            · exact absurd h9 (by decide)
            refine lv_iconst (v := 0) hx hb dX3_readsWay_109 rfl ?_
            exact rm_z (u := (σ, ((g_7, nI r_, nI (tkE σ a_8), nI (tkP σ a_8), nI (tkE σ a_8), τ.ents, τ.em, τ.combos, τ.all_, τ.weight, τ.gain, τ.ad_, τ.minute, τ.ds, τ.bl, τ.chosen) : Sc))) hQ hx hb hr hlocks hK hP hS (Or.inl rfl) ((Or.inr ⟨rfl, tkP σ a_8, rfl, rfl, (by subst ea_8; rw [wayL, nmR_s hv_5, nmR_s (own_rd (by omega) (by omega) h49 h70 (rd_in hv_5).2.2), if_pos rfl])⟩)) dX3_readsWay_110
  · have hP : va_P D vwCl (mX dA h ad σ.txt σ.len σ.wt σ.pr σ.tools σ.load σ.purse σ.beg σ.ways σ.told σ.calls σ.sm σ.sorts σ.visits σ.vm f_ (nI r_) (nI (tkE σ a_)) (nI (tkP σ a_)) (nI (tkE σ a_)) τ.ents τ.em τ.combos τ.all_ τ.weight τ.gain τ.ad_ τ.minute τ.ds τ.bl τ.chosen) H := hP
    refine lv_if_ne (tgt := 12) hx hb dX3_readsWay_7 rfl (fun h9 => ?_) (fun _ => ?_)
    · exact absurd h9 (by decide)
    refine lv_iconst (v := 0) hx hb dX3_readsWay_10 rfl ?_
    exact rm_z (u := (σ, ((f_, nI r_, nI (tkE σ a_), nI (tkP σ a_), nI (tkE σ a_), τ.ents, τ.em, τ.combos, τ.all_, τ.weight, τ.gain, τ.ad_, τ.minute, τ.ds, τ.bl, τ.chosen) : Sc))) hQ hx hb hr hlocks hK hP hS (Or.inl rfl) ((Or.inr ⟨rfl, tkP σ a_, rfl, rfl, (by rw [wayL, nmR_n hv_6])⟩)) dX3_readsWay_11

theorem cw_X3_X3_readsThings {R : Room} {s : State} {args : Array Value} (hts : ∀ w ∈ lw_all, w.before args s = true) (hR : rmX3_readsThings.frames + 1 ≤ R.frames ∧ 8 + (5 + 11) + rmX3_readsThings.locals ≤ R.locals) : CallW R s args RX3 RX3 107 yX3_readsThings cX3_readsThings 5 (some .boolean) (ws_ yX3_readsThings cX3_readsThings 5 (some .boolean)) rmX3_readsThings 0 0 1 := cwV 1 hts (lw_V q1271 q1273 qs43 q83 q1274) rfl rfl rfl (by decide +kernel) hR
theorem ud7 (f_ : Nat → Int32) (r_ : Nat) (x0 : Int32) (y0 y1 y2 y3 y4 y5 y6 : Int32) : rdOK f_ (upd (upd (upd (upd (upd (upd (upd f_ (8 * r_ + 1 + 0) y0) (8 * r_ + 1 + 1) y1) (8 * r_ + 1 + 2) y2) ((8 * r_) + 4) y3) ((8 * r_) + 5) y4) (8 * r_ + 1 + 3) y5) (8 * r_ + 1 + 4) y6) r_ [x0, y0, y1, y2, y5, y6] := by
  refine ⟨fun j h1 h2 => ?_, fun i hi => ?_⟩
  · have h2 : j < 6 := h2
    rcases (show j = 1 ∨ j = 2 ∨ j = 3 ∨ j = 4 ∨ j = 5 by omega) with rfl | rfl | rfl | rfl | rfl <;> simp only [upd] <;> (repeat (first | rw [if_pos (by omega)] | rw [if_neg (by omega)])) <;> rfl
  · simp only [upd]
    repeat rw [if_neg (by omega)]
theorem ud8 (f_ : Nat → Int32) (r_ : Nat) (x0 : Int32) (y0 y1 y2 y3 y4 y5 : Int32) : rdOK f_ (upd (upd (upd (upd (upd (upd f_ (8 * r_ + 1 + 0) y0) (8 * r_ + 1 + 1) y1) (8 * r_ + 1 + 2) y2) ((8 * r_) + 4) y3) ((8 * r_) + 5) y4) (8 * r_ + 1 + 3) y5) r_ [x0, y0, y1, y2, y5, y4] := by
  refine ⟨fun j h1 h2 => ?_, fun i hi => ?_⟩
  · have h2 : j < 6 := h2
    rcases (show j = 1 ∨ j = 2 ∨ j = 3 ∨ j = 4 ∨ j = 5 by omega) with rfl | rfl | rfl | rfl | rfl <;> simp only [upd] <;> (repeat (first | rw [if_pos (by omega)] | rw [if_neg (by omega)])) <;> rfl
  · simp only [upd]
    repeat rw [if_neg (by omega)]
theorem ud9 (f_ : Nat → Int32) (r_ : Nat) (x0 : Int32) (y0 y1 y2 y3 y4 y5 : Int32) : rdOK f_ (upd (upd (upd (upd (upd (upd f_ (8 * r_ + 1 + 0) y0) (8 * r_ + 1 + 1) y1) (8 * r_ + 1 + 2) y2) ((8 * r_) + 4) y3) ((8 * r_) + 5) y4) (8 * r_ + 1 + 4) y5) r_ [x0, y0, y1, y2, y3, y5] := by
  refine ⟨fun j h1 h2 => ?_, fun i hi => ?_⟩
  · have h2 : j < 6 := h2
    rcases (show j = 1 ∨ j = 2 ∨ j = 3 ∨ j = 4 ∨ j = 5 by omega) with rfl | rfl | rfl | rfl | rfl <;> simp only [upd] <;> (repeat (first | rw [if_pos (by omega)] | rw [if_neg (by omega)])) <;> rfl
  · simp only [upd]
    repeat rw [if_neg (by omega)]
theorem ud10 (f_ : Nat → Int32) (r_ : Nat) (x0 : Int32) (y0 y1 y2 y3 y4 : Int32) : rdOK f_ (upd (upd (upd (upd (upd f_ (8 * r_ + 1 + 0) y0) (8 * r_ + 1 + 1) y1) (8 * r_ + 1 + 2) y2) ((8 * r_) + 4) y3) ((8 * r_) + 5) y4) r_ [x0, y0, y1, y2, y3, y4] := by
  refine ⟨fun j h1 h2 => ?_, fun i hi => ?_⟩
  · have h2 : j < 6 := h2
    rcases (show j = 1 ∨ j = 2 ∨ j = 3 ∨ j = 4 ∨ j = 5 by omega) with rfl | rfl | rfl | rfl | rfl <;> simp only [upd] <;> (repeat (first | rw [if_pos (by omega)] | rw [if_neg (by omega)])) <;> rfl
  · simp only [upd]
    repeat rw [if_neg (by omega)]
def rmX3_readsSort : Room := { frames := 3, cells := 0, slots := 0, locals := 65 }
set_option maxHeartbeats 4000000 in
theorem mt_X3_readsSort (l : Launch) (D : va_G) (dA : Nat → ClassId) (h : Nat) (ad : Nat → Nat) (σ : St) (τ : Sc) (hmD : mD h ad) (a_ : Nat) (f_ : Nat → Int32) (r_ : Nat) (hI : Inv σ) (ha : a_ ≤ σ.len) (hr10 : r_ < 10) : Met l yX3_readsSort (ws_ yX3_readsSort cX3_readsSort 3 (some .boolean)) rmX3_readsSort (va_Pc [.ref h] (mB D dA h ad σ ((f_, nI r_, nI (tkE σ a_), nI (tkP σ a_), nI (tkE σ a_), τ.ents, τ.em, τ.combos, τ.all_, τ.weight, τ.gain, τ.ad_, τ.minute, τ.ds, τ.bl, τ.chosen) : Sc))) (va_Qi (fun r (u : MS) => (r = 1 ∧ ∃ fn : Nat → Int32, ∃ vs : List Int32, ∃ an : Nat, u = (σ, ((fn, nI r_, nI (tkE σ an), nI (tkP σ an), nI (tkE σ an), τ.ents, τ.em, τ.combos, τ.all_, τ.weight, τ.gain, τ.ad_, τ.minute, τ.ds, τ.bl, τ.chosen) : Sc)) ∧ sortL σ a_ = .inr (vs, an) ∧ rdOK f_ fn r_ vs ∧ an ≤ σ.len) ∨ (r = 0 ∧ ∃ fp : Nat, u.1 = σ ∧ u.2.place = nI fp ∧ sortL σ a_ = .inl fp)) (fun u t => mB D dA h ad u.1 u.2 t) (mA h ad)) 0 0 (mA h ad) := by
  refine w_start (by decide) (Nat.le_of_ble_eq_true rfl) ?_
  intro p e s m args below meth c Q ls hQ hx hb hr hlocks hml hown hnm hts hB hl
  have hown : s.vm.findClass RX3 = some m.cls := hown
  have hl : lv_has ls 3 [(0, .ref h)] := hl
  obtain ⟨hP, hK⟩ := hB
  have hP : va_P D vwCl (mX dA h ad σ.txt σ.len σ.wt σ.pr σ.tools σ.load σ.purse σ.beg σ.ways σ.told σ.calls σ.sm σ.sorts σ.visits σ.vm f_ (nI r_) (nI (tkE σ a_)) (nI (tkP σ a_)) (nI (tkE σ a_)) τ.ents τ.em τ.combos τ.all_ τ.weight τ.gain τ.ad_ τ.minute τ.ds τ.bl τ.chosen) s.heap := hP
  have hS : va_S (mA h ad) s.heap s.heap [] := va_S.rf
  have hlen := hI.len
  have htp := tkP_b ha
  have htb := tkE_b ha
  refine lv_bipush (v := 8) hx hb dX3_readsSort_0 rfl ?_
  refine lv_aload_n hx hb dX3_readsSort_2 rfl (lv_at hl 0 rfl) ?_
  refine va_get (D := D) (ci := 0) (v := .int (nI r_)) (C := RX3) (T := TX3) (N := 31) hx hb hts in_X3 hown hK hP 0 rfl rfl 3 (by decide) (hts _ q1117) (fun _ h9 => h9) rfl dX3_readsSort_3 ?_
  refine lv_imul hx hb dX3_readsSort_6 ?_
  refine lv_istore_n (lv' := [(1, .int (8 * (nI r_))), (0, .ref h)]) hx hb dX3_readsSort_7 rfl hl (by decide) rfl (fun ls hl => ?_)
  refine lv_aload_n hx hb dX3_readsSort_8 rfl (lv_at hl 1 rfl) ?_
  refine lv_iconst (v := 0) hx hb dX3_readsSort_9 rfl ?_
  refine lv_iconst (v := 0) hx hb dX3_readsSort_10 rfl ?_
  refine lv_iconst (v := 5) hx hb dX3_readsSort_11 rfl ?_
  refine mcVi (As := [.int 0, .int 0, .int 5]) (rest := []) ⟨hx, hb, hml, hown, hts⟩ (mt_X3_reads l D dA h ad σ ((f_, nI r_, nI (tkE σ a_), nI (tkP σ a_), nI (tkE σ a_), τ.ents, τ.em, τ.combos, τ.all_, τ.weight, τ.gain, τ.ad_, τ.minute, τ.ds, τ.bl, τ.chosen) : Sc) hmD a_ f_ r_ 0 0 5 hI ha (by omega) (by omega)) (cw_X3_X3_reads hts ⟨Nat.le_of_ble_eq_true rfl, Nat.le_of_ble_eq_true rfl⟩) (mB_now hK hP) (va_recv hK hP (ci := 0) (q0 := 0) rfl rfl) rfl hl.1 rfl (Nat.le_of_ble_eq_true rfl) dX3_readsSort_12 ⟨Nat.le_of_ble_eq_true rfl, Nat.le_of_ble_eq_true rfl⟩ hS (fun r_1 u_2 H locs hp_3 hP hS => ?_)
  rcases hp_3 with ⟨rfl, v_4, rfl, hv_5⟩ | ⟨rfl, rfl, hv_6⟩
  · have hP : va_P D vwCl (mX dA h ad σ.txt σ.len σ.wt σ.pr σ.tools σ.load σ.purse σ.beg σ.ways σ.told σ.calls σ.sm σ.sorts σ.visits σ.vm (upd f_ (8 * r_ + 1 + 0) v_4) (nI r_) (nI (tkE σ (tkE σ a_))) (nI (tkP σ (tkE σ a_))) (nI (tkE σ (tkE σ a_))) τ.ents τ.em τ.combos τ.all_ τ.weight τ.gain τ.ad_ τ.minute τ.ds τ.bl τ.chosen) H := hP
    obtain ⟨g_7, eg_7⟩ : ∃ x, x = upd f_ (8 * r_ + 1 + 0) v_4 := ⟨_, rfl⟩
    rw [← eg_7] at hP
    obtain ⟨a_8, ea_8⟩ : ∃ x, x = tkE σ a_ := ⟨_, rfl⟩
    rw [← ea_8] at hP
    have ha_8 : a_8 ≤ σ.len := by rw [ea_8]; exact tk2 ha
    refine lv_if_eq (tgt := 41) hx hb dX3_readsSort_15 rfl (fun h9 => ?_) (fun _ => ?_)
    · exact absurd h9 (by decide)
    refine lv_aload_n hx hb dX3_readsSort_18 rfl (lv_at hl 1 rfl) ?_
    refine lv_iconst (v := 1) hx hb dX3_readsSort_19 rfl ?_
    refine lv_iconst (v := 1) hx hb dX3_readsSort_20 rfl ?_
    refine lv_bipush (v := 20) hx hb dX3_readsSort_21 rfl ?_
    refine mcVi (As := [.int 1, .int 1, .int 20]) (rest := []) ⟨hx, hb, hml, hown, hts⟩ (mt_X3_reads l D dA h ad σ ((g_7, nI r_, nI (tkE σ a_8), nI (tkP σ a_8), nI (tkE σ a_8), τ.ents, τ.em, τ.combos, τ.all_, τ.weight, τ.gain, τ.ad_, τ.minute, τ.ds, τ.bl, τ.chosen) : Sc) hmD a_8 g_7 r_ 1 1 20 hI ha_8 (by omega) (by omega)) (cw_X3_X3_reads hts ⟨Nat.le_of_ble_eq_true rfl, Nat.le_of_ble_eq_true rfl⟩) (mB_now hK hP) (va_recv hK hP (ci := 0) (q0 := 0) rfl rfl) rfl hl.1 rfl (Nat.le_of_ble_eq_true rfl) dX3_readsSort_23 ⟨Nat.le_of_ble_eq_true rfl, Nat.le_of_ble_eq_true rfl⟩ hS (fun r_9 u_10 H locs hp_11 hP hS => ?_)
    rcases hp_11 with ⟨rfl, v_12, rfl, hv_13⟩ | ⟨rfl, rfl, hv_14⟩
    · have hP : va_P D vwCl (mX dA h ad σ.txt σ.len σ.wt σ.pr σ.tools σ.load σ.purse σ.beg σ.ways σ.told σ.calls σ.sm σ.sorts σ.visits σ.vm (upd g_7 (8 * r_ + 1 + 1) v_12) (nI r_) (nI (tkE σ (tkE σ a_8))) (nI (tkP σ (tkE σ a_8))) (nI (tkE σ (tkE σ a_8))) τ.ents τ.em τ.combos τ.all_ τ.weight τ.gain τ.ad_ τ.minute τ.ds τ.bl τ.chosen) H := hP
      obtain ⟨g_15, eg_15⟩ : ∃ x, x = upd g_7 (8 * r_ + 1 + 1) v_12 := ⟨_, rfl⟩
      rw [← eg_15] at hP
      obtain ⟨a_16, ea_16⟩ : ∃ x, x = tkE σ a_8 := ⟨_, rfl⟩
      rw [← ea_16] at hP
      have ha_16 : a_16 ≤ σ.len := by rw [ea_16]; exact tk2 ha_8
      refine lv_if_eq (tgt := 41) hx hb dX3_readsSort_26 rfl (fun h9 => ?_) (fun _ => ?_)
      · exact absurd h9 (by decide)
      refine lv_aload_n hx hb dX3_readsSort_29 rfl (lv_at hl 1 rfl) ?_
      refine lv_iconst (v := 2) hx hb dX3_readsSort_30 rfl ?_
      refine lv_iconst (v := 0) hx hb dX3_readsSort_31 rfl ?_
      refine lv_sipush (v := 200) hx hb dX3_readsSort_32 rfl ?_
      refine mcVi (As := [.int 2, .int 0, .int 200]) (rest := []) ⟨hx, hb, hml, hown, hts⟩ (mt_X3_reads l D dA h ad σ ((g_15, nI r_, nI (tkE σ a_16), nI (tkP σ a_16), nI (tkE σ a_16), τ.ents, τ.em, τ.combos, τ.all_, τ.weight, τ.gain, τ.ad_, τ.minute, τ.ds, τ.bl, τ.chosen) : Sc) hmD a_16 g_15 r_ 2 0 200 hI ha_16 (by omega) (by omega)) (cw_X3_X3_reads hts ⟨Nat.le_of_ble_eq_true rfl, Nat.le_of_ble_eq_true rfl⟩) (mB_now hK hP) (va_recv hK hP (ci := 0) (q0 := 0) rfl rfl) rfl hl.1 rfl (Nat.le_of_ble_eq_true rfl) dX3_readsSort_35 ⟨Nat.le_of_ble_eq_true rfl, Nat.le_of_ble_eq_true rfl⟩ hS (fun r_17 u_18 H locs hp_19 hP hS => ?_)
      rcases hp_19 with ⟨rfl, v_20, rfl, hv_21⟩ | ⟨rfl, rfl, hv_22⟩
      · have hP : va_P D vwCl (mX dA h ad σ.txt σ.len σ.wt σ.pr σ.tools σ.load σ.purse σ.beg σ.ways σ.told σ.calls σ.sm σ.sorts σ.visits σ.vm (upd g_15 (8 * r_ + 1 + 2) v_20) (nI r_) (nI (tkE σ (tkE σ a_16))) (nI (tkP σ (tkE σ a_16))) (nI (tkE σ (tkE σ a_16))) τ.ents τ.em τ.combos τ.all_ τ.weight τ.gain τ.ad_ τ.minute τ.ds τ.bl τ.chosen) H := hP
        obtain ⟨g_23, eg_23⟩ : ∃ x, x = upd g_15 (8 * r_ + 1 + 2) v_20 := ⟨_, rfl⟩
        rw [← eg_23] at hP
        obtain ⟨a_24, ea_24⟩ : ∃ x, x = tkE σ a_16 := ⟨_, rfl⟩
        rw [← ea_24] at hP
        have ha_24 : a_24 ≤ σ.len := by rw [ea_24]; exact tk2 ha_16
        refine lv_if_ne (tgt := 43) hx hb dX3_readsSort_38 rfl (fun _ => ?_) (fun h9 => ?_)
        rotate_left
        · exact absurd h9 (by decide)
        refine lv_aload_n hx hb dX3_readsSort_43 rfl (lv_at hl 1 rfl) ?_
        refine va_get (D := D) (ci := 0) (v := .ref (ad 1)) (C := RX3) (T := TX3) (N := 31) hx hb hts in_X3 hown hK hP 0 rfl rfl 2 (by decide) (hts _ q1116) (fun _ h9 => h9) rfl dX3_readsSort_44 ?_
        refine lv_iload_n hx hb dX3_readsSort_47 rfl (lv_at hl 0 rfl) ?_
        refine lv_iconst (v := 4) hx hb dX3_readsSort_48 rfl ?_
        refine lv_iadd hx hb dX3_readsSort_49 ?_
        refine lv_iconst (v := 0) hx hb dX3_readsSort_50 rfl ?_
        refine wa_iast (f := g_23) hx hb hK hP (mD_va hmD dA σ ((g_23, nI r_, nI (tkE σ a_24), nI (tkP σ a_24), nI (tkE σ a_24), τ.ents, τ.em, τ.combos, τ.all_, τ.weight, τ.gain, τ.ad_, τ.minute, τ.ds, τ.bl, τ.chosen) : Sc)) hS 2 0 rfl rfl ((8 * r_) + 4) ((nz_add (nz_mul rfl rfl) rfl)) (by omega) (by decide) dX3_readsSort_51 (fun H locs f_25 ef_25 hP hS => ?_)
        have hP : va_P D vwCl (mX dA h ad σ.txt σ.len σ.wt σ.pr σ.tools σ.load σ.purse σ.beg σ.ways σ.told σ.calls σ.sm σ.sorts σ.visits σ.vm f_25 (nI r_) (nI (tkE σ a_24)) (nI (tkP σ a_24)) (nI (tkE σ a_24)) τ.ents τ.em τ.combos τ.all_ τ.weight τ.gain τ.ad_ τ.minute τ.ds τ.bl τ.chosen) H := hP
        refine lv_aload_n hx hb dX3_readsSort_52 rfl (lv_at hl 1 rfl) ?_
        refine va_get (D := D) (ci := 0) (v := .ref (ad 1)) (C := RX3) (T := TX3) (N := 31) hx hb hts in_X3 hown hK hP 0 rfl rfl 2 (by decide) (hts _ q1116) (fun _ h9 => h9) rfl dX3_readsSort_53 ?_
        refine lv_iload_n hx hb dX3_readsSort_56 rfl (lv_at hl 0 rfl) ?_
        refine lv_iconst (v := 5) hx hb dX3_readsSort_57 rfl ?_
        refine lv_iadd hx hb dX3_readsSort_58 ?_
        refine lv_iconst (v := 0) hx hb dX3_readsSort_59 rfl ?_
        refine wa_iast (f := f_25) hx hb hK hP (mD_va hmD dA σ ((f_25, nI r_, nI (tkE σ a_24), nI (tkP σ a_24), nI (tkE σ a_24), τ.ents, τ.em, τ.combos, τ.all_, τ.weight, τ.gain, τ.ad_, τ.minute, τ.ds, τ.bl, τ.chosen) : Sc)) hS 2 0 rfl rfl ((8 * r_) + 5) ((nz_add (nz_mul rfl rfl) rfl)) (by omega) (by decide) dX3_readsSort_60 (fun H locs f_26 ef_26 hP hS => ?_)
        have hP : va_P D vwCl (mX dA h ad σ.txt σ.len σ.wt σ.pr σ.tools σ.load σ.purse σ.beg σ.ways σ.told σ.calls σ.sm σ.sorts σ.visits σ.vm f_26 (nI r_) (nI (tkE σ a_24)) (nI (tkP σ a_24)) (nI (tkE σ a_24)) τ.ents τ.em τ.combos τ.all_ τ.weight τ.gain τ.ad_ τ.minute τ.ds τ.bl τ.chosen) H := hP
        refine lv_aload_n hx hb dX3_readsSort_61 rfl (lv_at hl 1 rfl) ?_
        refine lv_ldc (v := 178670) hx hb hown (hts _ q1270) dX3_readsSort_62 ?_
        refine lv_iconst (v := 4) hx hb dX3_readsSort_64 rfl ?_
        refine cVi (As := [.int 178670, .int 4]) (rest := []) ⟨hx, hb, hml, hown, hts⟩ (mt_X3_isWord l D dA h ad σ ((f_26, nI r_, nI (tkE σ a_24), nI (tkP σ a_24), nI (tkE σ a_24), τ.ents, τ.em, τ.combos, τ.all_, τ.weight, τ.gain, τ.ad_, τ.minute, τ.ds, τ.bl, τ.chosen) : Sc) a_24 178670 4 hI ha_24 (by omega)) (cw_X3_X3_isWord hts ⟨Nat.le_of_ble_eq_true rfl, Nat.le_of_ble_eq_true rfl⟩) mB_bl (mB_now hK hP) (va_recv hK hP (ci := 0) (q0 := 0) rfl rfl) rfl hl.1 rfl (Nat.le_of_ble_eq_true rfl) dX3_readsSort_65 ⟨Nat.le_of_ble_eq_true rfl, Nat.le_of_ble_eq_true rfl⟩ ?_
        refine lv_istore_n (lv' := [(2, .int (isF σ a_24 178670 4)), (1, .int (8 * (nI r_))), (0, .ref h)]) hx hb dX3_readsSort_68 rfl hl (by decide) rfl (fun ls hl => ?_)
        refine lv_iload_n hx hb dX3_readsSort_69 rfl (lv_at hl 0 rfl) ?_
        refine lv_if_eq (tgt := 77) hx hb dX3_readsSort_70 rfl (fun h70 => ?_) (fun h70 => ?_)
        · have h70 : (isF σ a_24 178670 4) = 0 := h70
          refine lv_iload_n hx hb dX3_readsSort_77 rfl (lv_at hl 0 rfl) ?_
          refine lv_if_ne (tgt := 91) hx hb dX3_readsSort_78 rfl (fun h78 => ?_) (fun h78 => ?_)
          · have h78 : ¬ ((isF σ a_24 178670 4) = 0) := h78
            exact absurd h70 h78
          · have h78 : (isF σ a_24 178670 4) = 0 := h78
            refine lv_aload_n hx hb dX3_readsSort_81 rfl (lv_at hl 2 rfl) ?_
            refine lv_iconst (v := 3) hx hb dX3_readsSort_82 rfl ?_
            refine mcVi (As := [.int 3]) (rest := []) ⟨hx, hb, hml, hown, hts⟩ (mt_X3_readsThings l D dA h ad σ ((f_26, nI r_, nI (tkE σ a_24), nI (tkP σ a_24), nI (tkE σ a_24), τ.ents, τ.em, τ.combos, τ.all_, τ.weight, τ.gain, τ.ad_, τ.minute, τ.ds, τ.bl, τ.chosen) : Sc) hmD a_24 f_26 r_ 3 hI ha_24 (by omega) (by omega)) (cw_X3_X3_readsThings hts ⟨Nat.le_of_ble_eq_true rfl, Nat.le_of_ble_eq_true rfl⟩) (mB_now hK hP) (va_recv hK hP (ci := 0) (q0 := 0) rfl rfl) rfl hl.1 rfl (Nat.le_of_ble_eq_true rfl) dX3_readsSort_83 ⟨Nat.le_of_ble_eq_true rfl, Nat.le_of_ble_eq_true rfl⟩ hS (fun r_27 u_28 H locs hp_29 hP hS => ?_)
            rcases hp_29 with ⟨rfl, v_30, rfl, hv_31⟩ | ⟨rfl, hu_33, k_34, hv_32⟩
            · have hP : va_P D vwCl (mX dA h ad σ.txt σ.len σ.wt σ.pr σ.tools σ.load σ.purse σ.beg σ.ways σ.told σ.calls σ.sm σ.sorts σ.visits σ.vm (upd f_26 (8 * r_ + 1 + 3) v_30) (nI r_) (nI (tkE σ (tkE σ a_24))) (nI (tkP σ (tkE σ a_24))) (nI (tkE σ (tkE σ a_24))) τ.ents τ.em τ.combos τ.all_ τ.weight τ.gain τ.ad_ τ.minute τ.ds τ.bl τ.chosen) H := hP
              obtain ⟨g_35, eg_35⟩ : ∃ x, x = upd f_26 (8 * r_ + 1 + 3) v_30 := ⟨_, rfl⟩
              rw [← eg_35] at hP
              obtain ⟨a_36, ea_36⟩ : ∃ x, x = tkE σ a_24 := ⟨_, rfl⟩
              rw [← ea_36] at hP
              have ha_36 : a_36 ≤ σ.len := by rw [ea_36]; exact tk2 ha_24
              refine lv_if_ne (tgt := 91) hx hb dX3_readsSort_86 rfl (fun _ => ?_) (fun h9 => ?_)
              rotate_left
              · exact absurd h9 (by decide)
              refine lv_aload_n hx hb dX3_readsSort_91 rfl (lv_at hl 2 rfl) ?_
              refine lv_sipush (v := 591) hx hb dX3_readsSort_92 rfl ?_
              refine lv_iconst (v := 2) hx hb dX3_readsSort_95 rfl ?_
              refine cVi (As := [.int 591, .int 2]) (rest := []) ⟨hx, hb, hml, hown, hts⟩ (mt_X3_isWord l D dA h ad σ ((g_35, nI r_, nI (tkE σ a_36), nI (tkP σ a_36), nI (tkE σ a_36), τ.ents, τ.em, τ.combos, τ.all_, τ.weight, τ.gain, τ.ad_, τ.minute, τ.ds, τ.bl, τ.chosen) : Sc) a_36 591 2 hI ha_36 (by omega)) (cw_X3_X3_isWord hts ⟨Nat.le_of_ble_eq_true rfl, Nat.le_of_ble_eq_true rfl⟩) mB_bl (mB_now hK hP) (va_recv hK hP (ci := 0) (q0 := 0) rfl rfl) rfl hl.1 rfl (Nat.le_of_ble_eq_true rfl) dX3_readsSort_96 ⟨Nat.le_of_ble_eq_true rfl, Nat.le_of_ble_eq_true rfl⟩ ?_
              refine lv_if_ne (tgt := 104) hx hb dX3_readsSort_99 rfl (fun h99 => ?_) (fun h99 => ?_)
              · have h99 : ¬ ((isF σ a_36 591 2) = 0) := h99
                refine lv_aload_n hx hb dX3_readsSort_104 rfl (lv_at hl 2 rfl) ?_
                refine mcVv (As := []) (rest := []) ⟨hx, hb, hml, hown, hts⟩ (mt_X3_token l D dA h ad σ ((g_35, nI r_, nI (tkE σ a_36), nI (tkP σ a_36), nI (tkE σ a_36), τ.ents, τ.em, τ.combos, τ.all_, τ.weight, τ.gain, τ.ad_, τ.minute, τ.ds, τ.bl, τ.chosen) : Sc) hmD (tkE σ a_36) hI (tk2 ha_36)) (cw_X3_X3_token hts ⟨Nat.le_of_ble_eq_true rfl, Nat.le_of_ble_eq_true rfl⟩) (mB_now hK hP) (va_recv hK hP (ci := 0) (q0 := 0) rfl rfl) rfl hl.1 rfl (Nat.le_of_ble_eq_true rfl) dX3_readsSort_105 ⟨Nat.le_of_ble_eq_true rfl, Nat.le_of_ble_eq_true rfl⟩ hS (fun u_38 H locs hp_39 hP hS => ?_)
                subst hp_39
                have hP : va_P D vwCl (mX dA h ad σ.txt σ.len σ.wt σ.pr σ.tools σ.load σ.purse σ.beg σ.ways σ.told σ.calls σ.sm σ.sorts σ.visits σ.vm g_35 (nI r_) (nI (tkE σ (tkE σ a_36))) (nI (tkP σ (tkE σ a_36))) (nI (tkE σ (tkE σ a_36))) τ.ents τ.em τ.combos τ.all_ τ.weight τ.gain τ.ad_ τ.minute τ.ds τ.bl τ.chosen) H := hP
                obtain ⟨a_40, ea_40⟩ : ∃ x, x = tkE σ a_36 := ⟨_, rfl⟩
                rw [← ea_40] at hP
                have ha_40 : a_40 ≤ σ.len := by rw [ea_40]; exact tk2 ha_36
                refine lv_aload_n hx hb dX3_readsSort_108 rfl (lv_at hl 2 rfl) ?_
                refine lv_iconst (v := 4) hx hb dX3_readsSort_109 rfl ?_
                refine mcVi (As := [.int 4]) (rest := []) ⟨hx, hb, hml, hown, hts⟩ (mt_X3_readsThings l D dA h ad σ ((g_35, nI r_, nI (tkE σ a_40), nI (tkP σ a_40), nI (tkE σ a_40), τ.ents, τ.em, τ.combos, τ.all_, τ.weight, τ.gain, τ.ad_, τ.minute, τ.ds, τ.bl, τ.chosen) : Sc) hmD a_40 g_35 r_ 4 hI ha_40 (by omega) (by omega)) (cw_X3_X3_readsThings hts ⟨Nat.le_of_ble_eq_true rfl, Nat.le_of_ble_eq_true rfl⟩) (mB_now hK hP) (va_recv hK hP (ci := 0) (q0 := 0) rfl rfl) rfl hl.1 rfl (Nat.le_of_ble_eq_true rfl) dX3_readsSort_110 ⟨Nat.le_of_ble_eq_true rfl, Nat.le_of_ble_eq_true rfl⟩ hS (fun r_41 u_42 H locs hp_43 hP hS => ?_)
                rcases hp_43 with ⟨rfl, v_44, rfl, hv_45⟩ | ⟨rfl, hu_47, k_48, hv_46⟩
                · have hP : va_P D vwCl (mX dA h ad σ.txt σ.len σ.wt σ.pr σ.tools σ.load σ.purse σ.beg σ.ways σ.told σ.calls σ.sm σ.sorts σ.visits σ.vm (upd g_35 (8 * r_ + 1 + 4) v_44) (nI r_) (nI (tkE σ (tkE σ a_40))) (nI (tkP σ (tkE σ a_40))) (nI (tkE σ (tkE σ a_40))) τ.ents τ.em τ.combos τ.all_ τ.weight τ.gain τ.ad_ τ.minute τ.ds τ.bl τ.chosen) H := hP
                  obtain ⟨g_49, eg_49⟩ : ∃ x, x = upd g_35 (8 * r_ + 1 + 4) v_44 := ⟨_, rfl⟩
                  rw [← eg_49] at hP
                  obtain ⟨a_50, ea_50⟩ : ∃ x, x = tkE σ a_40 := ⟨_, rfl⟩
                  rw [← ea_50] at hP
                  have ha_50 : a_50 ≤ σ.len := by rw [ea_50]; exact tk2 ha_40
                  exact rm_z (u := (σ, ((g_49, nI r_, nI (tkE σ a_50), nI (tkP σ a_50), nI (tkE σ a_50), τ.ents, τ.em, τ.combos, τ.all_, τ.weight, τ.gain, τ.ad_, τ.minute, τ.ds, τ.bl, τ.chosen) : Sc))) hQ hx hb hr hlocks hK hP hS (Or.inr rfl) ((Or.inl ⟨rfl, g_49, [6, v_4, v_12, v_20, v_30, v_44], a_50, rfl, (by subst ea_8 ea_16 ea_24 ea_36 ea_40 ea_50; rw [sortL, nmR_s hv_5, nmR_s hv_13, nmR_s hv_21, if_pos h70, thR_s hv_31, orL, if_neg h99, thR_s hv_45]), (by rw [eg_49, eg_35, ef_26, ef_25, eg_23, eg_15, eg_7]; exact ud7 f_ r_ _ v_4 v_12 v_20 0 0 v_30 v_44), (ha_50)⟩)) dX3_readsSort_113
                · have hP : va_P D vwCl (mX dA h ad u_42.1.txt u_42.1.len u_42.1.wt u_42.1.pr u_42.1.tools u_42.1.load u_42.1.purse u_42.1.beg u_42.1.ways u_42.1.told u_42.1.calls u_42.1.sm u_42.1.sorts u_42.1.visits u_42.1.vm u_42.2.read u_42.2.rm u_42.2.at_ u_42.2.place u_42.2.end_ u_42.2.ents u_42.2.em u_42.2.combos u_42.2.all_ u_42.2.weight u_42.2.gain u_42.2.ad_ u_42.2.minute u_42.2.ds u_42.2.bl u_42.2.chosen) H := hP
                  rw [hu_47, k_48] at hP
                  clear hu_47 k_48
                  have hP : va_P D vwCl (mX dA h ad σ.txt σ.len σ.wt σ.pr σ.tools σ.load σ.purse σ.beg σ.ways σ.told σ.calls σ.sm σ.sorts σ.visits σ.vm u_42.2.read u_42.2.rm u_42.2.at_ (nI (tkP σ a_40)) u_42.2.end_ u_42.2.ents u_42.2.em u_42.2.combos u_42.2.all_ u_42.2.weight u_42.2.gain u_42.2.ad_ u_42.2.minute u_42.2.ds u_42.2.bl u_42.2.chosen) H := hP
                  exact rm_z (u := (σ, ((u_42.2.read, u_42.2.rm, u_42.2.at_, nI (tkP σ a_40), u_42.2.end_, u_42.2.ents, u_42.2.em, u_42.2.combos, u_42.2.all_, u_42.2.weight, u_42.2.gain, u_42.2.ad_, u_42.2.minute, u_42.2.ds, u_42.2.bl, u_42.2.chosen) : Sc))) hQ hx hb hr hlocks hK hP hS (Or.inl rfl) ((Or.inr ⟨rfl, tkP σ a_40, rfl, rfl, (by subst ea_8 ea_16 ea_24 ea_36 ea_40; rw [sortL, nmR_s hv_5, nmR_s hv_13, nmR_s hv_21, if_pos h70, thR_s hv_31, orL, if_neg h99, thR_n hv_46])⟩)) dX3_readsSort_113
              · have h99 : (isF σ a_36 591 2) = 0 := h99
                refine lv_iconst (v := 1) hx hb dX3_readsSort_102 rfl ?_
                exact rm_z (u := (σ, ((g_35, nI r_, nI (tkE σ a_36), nI (tkP σ a_36), nI (tkE σ a_36), τ.ents, τ.em, τ.combos, τ.all_, τ.weight, τ.gain, τ.ad_, τ.minute, τ.ds, τ.bl, τ.chosen) : Sc))) hQ hx hb hr hlocks hK hP hS (Or.inr rfl) ((Or.inl ⟨rfl, g_35, [6, v_4, v_12, v_20, v_30, 0], a_36, rfl, (by subst ea_8 ea_16 ea_24 ea_36; rw [sortL, nmR_s hv_5, nmR_s hv_13, nmR_s hv_21, if_pos h70, thR_s hv_31, orL, if_pos h99]), (by rw [eg_35, ef_26, ef_25, eg_23, eg_15, eg_7]; exact ud8 f_ r_ _ v_4 v_12 v_20 0 0 v_30), (ha_36)⟩)) dX3_readsSort_103
            · have hP : va_P D vwCl (mX dA h ad u_28.1.txt u_28.1.len u_28.1.wt u_28.1.pr u_28.1.tools u_28.1.load u_28.1.purse u_28.1.beg u_28.1.ways u_28.1.told u_28.1.calls u_28.1.sm u_28.1.sorts u_28.1.visits u_28.1.vm u_28.2.read u_28.2.rm u_28.2.at_ u_28.2.place u_28.2.end_ u_28.2.ents u_28.2.em u_28.2.combos u_28.2.all_ u_28.2.weight u_28.2.gain u_28.2.ad_ u_28.2.minute u_28.2.ds u_28.2.bl u_28.2.chosen) H := hP
              rw [hu_33, k_34] at hP
              clear hu_33 k_34
              have hP : va_P D vwCl (mX dA h ad σ.txt σ.len σ.wt σ.pr σ.tools σ.load σ.purse σ.beg σ.ways σ.told σ.calls σ.sm σ.sorts σ.visits σ.vm u_28.2.read u_28.2.rm u_28.2.at_ (nI (tkP σ a_24)) u_28.2.end_ u_28.2.ents u_28.2.em u_28.2.combos u_28.2.all_ u_28.2.weight u_28.2.gain u_28.2.ad_ u_28.2.minute u_28.2.ds u_28.2.bl u_28.2.chosen) H := hP
              refine lv_if_ne (tgt := 91) hx hb dX3_readsSort_86 rfl (fun h9 => ?_) (fun _ => ?_)
              · exact absurd h9 (by decide)
              refine lv_iconst (v := 0) hx hb dX3_readsSort_89 rfl ?_
              exact rm_z (u := (σ, ((u_28.2.read, u_28.2.rm, u_28.2.at_, nI (tkP σ a_24), u_28.2.end_, u_28.2.ents, u_28.2.em, u_28.2.combos, u_28.2.all_, u_28.2.weight, u_28.2.gain, u_28.2.ad_, u_28.2.minute, u_28.2.ds, u_28.2.bl, u_28.2.chosen) : Sc))) hQ hx hb hr hlocks hK hP hS (Or.inl rfl) ((Or.inr ⟨rfl, tkP σ a_24, rfl, rfl, (by subst ea_8 ea_16 ea_24; rw [sortL, nmR_s hv_5, nmR_s hv_13, nmR_s hv_21, if_pos h70, thR_n hv_32])⟩)) dX3_readsSort_90
        · have h70 : ¬ ((isF σ a_24 178670 4) = 0) := h70
          refine lv_aload_n hx hb dX3_readsSort_73 rfl (lv_at hl 2 rfl) ?_
          refine mcVv (As := []) (rest := []) ⟨hx, hb, hml, hown, hts⟩ (mt_X3_token l D dA h ad σ ((f_26, nI r_, nI (tkE σ a_24), nI (tkP σ a_24), nI (tkE σ a_24), τ.ents, τ.em, τ.combos, τ.all_, τ.weight, τ.gain, τ.ad_, τ.minute, τ.ds, τ.bl, τ.chosen) : Sc) hmD (tkE σ a_24) hI (tk2 ha_24)) (cw_X3_X3_token hts ⟨Nat.le_of_ble_eq_true rfl, Nat.le_of_ble_eq_true rfl⟩) (mB_now hK hP) (va_recv hK hP (ci := 0) (q0 := 0) rfl rfl) rfl hl.1 rfl (Nat.le_of_ble_eq_true rfl) dX3_readsSort_74 ⟨Nat.le_of_ble_eq_true rfl, Nat.le_of_ble_eq_true rfl⟩ hS (fun u_52 H locs hp_53 hP hS => ?_)
          subst hp_53
          have hP : va_P D vwCl (mX dA h ad σ.txt σ.len σ.wt σ.pr σ.tools σ.load σ.purse σ.beg σ.ways σ.told σ.calls σ.sm σ.sorts σ.visits σ.vm f_26 (nI r_) (nI (tkE σ (tkE σ a_24))) (nI (tkP σ (tkE σ a_24))) (nI (tkE σ (tkE σ a_24))) τ.ents τ.em τ.combos τ.all_ τ.weight τ.gain τ.ad_ τ.minute τ.ds τ.bl τ.chosen) H := hP
          obtain ⟨a_54, ea_54⟩ : ∃ x, x = tkE σ a_24 := ⟨_, rfl⟩
          rw [← ea_54] at hP
          have ha_54 : a_54 ≤ σ.len := by rw [ea_54]; exact tk2 ha_24
          refine lv_iload_n hx hb dX3_readsSort_77 rfl (lv_at hl 0 rfl) ?_
          refine lv_if_ne (tgt := 91) hx hb dX3_readsSort_78 rfl (fun h78 => ?_) (fun h78 => ?_)
          · have h78 : ¬ ((isF σ a_24 178670 4) = 0) := h78
            refine lv_aload_n hx hb dX3_readsSort_91 rfl (lv_at hl 2 rfl) ?_
            refine lv_sipush (v := 591) hx hb dX3_readsSort_92 rfl ?_
            refine lv_iconst (v := 2) hx hb dX3_readsSort_95 rfl ?_
            refine cVi (As := [.int 591, .int 2]) (rest := []) ⟨hx, hb, hml, hown, hts⟩ (mt_X3_isWord l D dA h ad σ ((f_26, nI r_, nI (tkE σ a_54), nI (tkP σ a_54), nI (tkE σ a_54), τ.ents, τ.em, τ.combos, τ.all_, τ.weight, τ.gain, τ.ad_, τ.minute, τ.ds, τ.bl, τ.chosen) : Sc) a_54 591 2 hI ha_54 (by omega)) (cw_X3_X3_isWord hts ⟨Nat.le_of_ble_eq_true rfl, Nat.le_of_ble_eq_true rfl⟩) mB_bl (mB_now hK hP) (va_recv hK hP (ci := 0) (q0 := 0) rfl rfl) rfl hl.1 rfl (Nat.le_of_ble_eq_true rfl) dX3_readsSort_96 ⟨Nat.le_of_ble_eq_true rfl, Nat.le_of_ble_eq_true rfl⟩ ?_
            refine lv_if_ne (tgt := 104) hx hb dX3_readsSort_99 rfl (fun h99 => ?_) (fun h99 => ?_)
            · have h99 : ¬ ((isF σ a_54 591 2) = 0) := h99
              refine lv_aload_n hx hb dX3_readsSort_104 rfl (lv_at hl 2 rfl) ?_
              refine mcVv (As := []) (rest := []) ⟨hx, hb, hml, hown, hts⟩ (mt_X3_token l D dA h ad σ ((f_26, nI r_, nI (tkE σ a_54), nI (tkP σ a_54), nI (tkE σ a_54), τ.ents, τ.em, τ.combos, τ.all_, τ.weight, τ.gain, τ.ad_, τ.minute, τ.ds, τ.bl, τ.chosen) : Sc) hmD (tkE σ a_54) hI (tk2 ha_54)) (cw_X3_X3_token hts ⟨Nat.le_of_ble_eq_true rfl, Nat.le_of_ble_eq_true rfl⟩) (mB_now hK hP) (va_recv hK hP (ci := 0) (q0 := 0) rfl rfl) rfl hl.1 rfl (Nat.le_of_ble_eq_true rfl) dX3_readsSort_105 ⟨Nat.le_of_ble_eq_true rfl, Nat.le_of_ble_eq_true rfl⟩ hS (fun u_56 H locs hp_57 hP hS => ?_)
              subst hp_57
              have hP : va_P D vwCl (mX dA h ad σ.txt σ.len σ.wt σ.pr σ.tools σ.load σ.purse σ.beg σ.ways σ.told σ.calls σ.sm σ.sorts σ.visits σ.vm f_26 (nI r_) (nI (tkE σ (tkE σ a_54))) (nI (tkP σ (tkE σ a_54))) (nI (tkE σ (tkE σ a_54))) τ.ents τ.em τ.combos τ.all_ τ.weight τ.gain τ.ad_ τ.minute τ.ds τ.bl τ.chosen) H := hP
              obtain ⟨a_58, ea_58⟩ : ∃ x, x = tkE σ a_54 := ⟨_, rfl⟩
              rw [← ea_58] at hP
              have ha_58 : a_58 ≤ σ.len := by rw [ea_58]; exact tk2 ha_54
              refine lv_aload_n hx hb dX3_readsSort_108 rfl (lv_at hl 2 rfl) ?_
              refine lv_iconst (v := 4) hx hb dX3_readsSort_109 rfl ?_
              refine mcVi (As := [.int 4]) (rest := []) ⟨hx, hb, hml, hown, hts⟩ (mt_X3_readsThings l D dA h ad σ ((f_26, nI r_, nI (tkE σ a_58), nI (tkP σ a_58), nI (tkE σ a_58), τ.ents, τ.em, τ.combos, τ.all_, τ.weight, τ.gain, τ.ad_, τ.minute, τ.ds, τ.bl, τ.chosen) : Sc) hmD a_58 f_26 r_ 4 hI ha_58 (by omega) (by omega)) (cw_X3_X3_readsThings hts ⟨Nat.le_of_ble_eq_true rfl, Nat.le_of_ble_eq_true rfl⟩) (mB_now hK hP) (va_recv hK hP (ci := 0) (q0 := 0) rfl rfl) rfl hl.1 rfl (Nat.le_of_ble_eq_true rfl) dX3_readsSort_110 ⟨Nat.le_of_ble_eq_true rfl, Nat.le_of_ble_eq_true rfl⟩ hS (fun r_59 u_60 H locs hp_61 hP hS => ?_)
              rcases hp_61 with ⟨rfl, v_62, rfl, hv_63⟩ | ⟨rfl, hu_65, k_66, hv_64⟩
              · have hP : va_P D vwCl (mX dA h ad σ.txt σ.len σ.wt σ.pr σ.tools σ.load σ.purse σ.beg σ.ways σ.told σ.calls σ.sm σ.sorts σ.visits σ.vm (upd f_26 (8 * r_ + 1 + 4) v_62) (nI r_) (nI (tkE σ (tkE σ a_58))) (nI (tkP σ (tkE σ a_58))) (nI (tkE σ (tkE σ a_58))) τ.ents τ.em τ.combos τ.all_ τ.weight τ.gain τ.ad_ τ.minute τ.ds τ.bl τ.chosen) H := hP
                obtain ⟨g_67, eg_67⟩ : ∃ x, x = upd f_26 (8 * r_ + 1 + 4) v_62 := ⟨_, rfl⟩
                rw [← eg_67] at hP
                obtain ⟨a_68, ea_68⟩ : ∃ x, x = tkE σ a_58 := ⟨_, rfl⟩
                rw [← ea_68] at hP
                have ha_68 : a_68 ≤ σ.len := by rw [ea_68]; exact tk2 ha_58
                exact rm_z (u := (σ, ((g_67, nI r_, nI (tkE σ a_68), nI (tkP σ a_68), nI (tkE σ a_68), τ.ents, τ.em, τ.combos, τ.all_, τ.weight, τ.gain, τ.ad_, τ.minute, τ.ds, τ.bl, τ.chosen) : Sc))) hQ hx hb hr hlocks hK hP hS (Or.inr rfl) ((Or.inl ⟨rfl, g_67, [6, v_4, v_12, v_20, 0, v_62], a_68, rfl, (by subst ea_8 ea_16 ea_24 ea_54 ea_58 ea_68; rw [sortL, nmR_s hv_5, nmR_s hv_13, nmR_s hv_21, if_neg h70, orL, if_neg h99, thR_s hv_63]), (by rw [eg_67, ef_26, ef_25, eg_23, eg_15, eg_7]; exact ud9 f_ r_ _ v_4 v_12 v_20 0 0 v_62), (ha_68)⟩)) dX3_readsSort_113
              · have hP : va_P D vwCl (mX dA h ad u_60.1.txt u_60.1.len u_60.1.wt u_60.1.pr u_60.1.tools u_60.1.load u_60.1.purse u_60.1.beg u_60.1.ways u_60.1.told u_60.1.calls u_60.1.sm u_60.1.sorts u_60.1.visits u_60.1.vm u_60.2.read u_60.2.rm u_60.2.at_ u_60.2.place u_60.2.end_ u_60.2.ents u_60.2.em u_60.2.combos u_60.2.all_ u_60.2.weight u_60.2.gain u_60.2.ad_ u_60.2.minute u_60.2.ds u_60.2.bl u_60.2.chosen) H := hP
                rw [hu_65, k_66] at hP
                clear hu_65 k_66
                have hP : va_P D vwCl (mX dA h ad σ.txt σ.len σ.wt σ.pr σ.tools σ.load σ.purse σ.beg σ.ways σ.told σ.calls σ.sm σ.sorts σ.visits σ.vm u_60.2.read u_60.2.rm u_60.2.at_ (nI (tkP σ a_58)) u_60.2.end_ u_60.2.ents u_60.2.em u_60.2.combos u_60.2.all_ u_60.2.weight u_60.2.gain u_60.2.ad_ u_60.2.minute u_60.2.ds u_60.2.bl u_60.2.chosen) H := hP
                exact rm_z (u := (σ, ((u_60.2.read, u_60.2.rm, u_60.2.at_, nI (tkP σ a_58), u_60.2.end_, u_60.2.ents, u_60.2.em, u_60.2.combos, u_60.2.all_, u_60.2.weight, u_60.2.gain, u_60.2.ad_, u_60.2.minute, u_60.2.ds, u_60.2.bl, u_60.2.chosen) : Sc))) hQ hx hb hr hlocks hK hP hS (Or.inl rfl) ((Or.inr ⟨rfl, tkP σ a_58, rfl, rfl, (by subst ea_8 ea_16 ea_24 ea_54 ea_58; rw [sortL, nmR_s hv_5, nmR_s hv_13, nmR_s hv_21, if_neg h70, orL, if_neg h99, thR_n hv_64])⟩)) dX3_readsSort_113
            · have h99 : (isF σ a_54 591 2) = 0 := h99
              refine lv_iconst (v := 1) hx hb dX3_readsSort_102 rfl ?_
              exact rm_z (u := (σ, ((f_26, nI r_, nI (tkE σ a_54), nI (tkP σ a_54), nI (tkE σ a_54), τ.ents, τ.em, τ.combos, τ.all_, τ.weight, τ.gain, τ.ad_, τ.minute, τ.ds, τ.bl, τ.chosen) : Sc))) hQ hx hb hr hlocks hK hP hS (Or.inr rfl) ((Or.inl ⟨rfl, f_26, [6, v_4, v_12, v_20, 0, 0], a_54, rfl, (by subst ea_8 ea_16 ea_24 ea_54; rw [sortL, nmR_s hv_5, nmR_s hv_13, nmR_s hv_21, if_neg h70, orL, if_pos h99]), (by rw [ef_26, ef_25, eg_23, eg_15, eg_7]; exact ud10 f_ r_ _ v_4 v_12 v_20 0 0), (ha_54)⟩)) dX3_readsSort_103
          · have h78 : (isF σ a_24 178670 4) = 0 := h78
            exact absurd h78 h70
      · have hP : va_P D vwCl (mX dA h ad σ.txt σ.len σ.wt σ.pr σ.tools σ.load σ.purse σ.beg σ.ways σ.told σ.calls σ.sm σ.sorts σ.visits σ.vm g_15 (nI r_) (nI (tkE σ a_16)) (nI (tkP σ a_16)) (nI (tkE σ a_16)) τ.ents τ.em τ.combos τ.all_ τ.weight τ.gain τ.ad_ τ.minute τ.ds τ.bl τ.chosen) H := hP
        refine lv_if_ne (tgt := 43) hx hb dX3_readsSort_38 rfl (fun h9 => ?_) (fun _ => ?_)
        · exact absurd h9 (by decide)
        refine lv_iconst (v := 0) hx hb dX3_readsSort_41 rfl ?_
        exact rm_z (u := (σ, ((g_15, nI r_, nI (tkE σ a_16), nI (tkP σ a_16), nI (tkE σ a_16), τ.ents, τ.em, τ.combos, τ.all_, τ.weight, τ.gain, τ.ad_, τ.minute, τ.ds, τ.bl, τ.chosen) : Sc))) hQ hx hb hr hlocks hK hP hS (Or.inl rfl) ((Or.inr ⟨rfl, tkP σ a_16, rfl, rfl, (by subst ea_8 ea_16; rw [sortL, nmR_s hv_5, nmR_s hv_13, nmR_n hv_22])⟩)) dX3_readsSort_42
    · have hP : va_P D vwCl (mX dA h ad σ.txt σ.len σ.wt σ.pr σ.tools σ.load σ.purse σ.beg σ.ways σ.told σ.calls σ.sm σ.sorts σ.visits σ.vm g_7 (nI r_) (nI (tkE σ a_8)) (nI (tkP σ a_8)) (nI (tkE σ a_8)) τ.ents τ.em τ.combos τ.all_ τ.weight τ.gain τ.ad_ τ.minute τ.ds τ.bl τ.chosen) H := hP
      refine lv_if_eq (tgt := 41) hx hb dX3_readsSort_26 rfl (fun _ => ?_) (fun h9 => ?_)
      rotate_left
      · exact absurd (by decide) h9
      refine lv_iconst (v := 0) hx hb dX3_readsSort_41 rfl ?_
      exact rm_z (u := (σ, ((g_7, nI r_, nI (tkE σ a_8), nI (tkP σ a_8), nI (tkE σ a_8), τ.ents, τ.em, τ.combos, τ.all_, τ.weight, τ.gain, τ.ad_, τ.minute, τ.ds, τ.bl, τ.chosen) : Sc))) hQ hx hb hr hlocks hK hP hS (Or.inl rfl) ((Or.inr ⟨rfl, tkP σ a_8, rfl, rfl, (by subst ea_8; rw [sortL, nmR_s hv_5, nmR_n hv_14])⟩)) dX3_readsSort_42
  · have hP : va_P D vwCl (mX dA h ad σ.txt σ.len σ.wt σ.pr σ.tools σ.load σ.purse σ.beg σ.ways σ.told σ.calls σ.sm σ.sorts σ.visits σ.vm f_ (nI r_) (nI (tkE σ a_)) (nI (tkP σ a_)) (nI (tkE σ a_)) τ.ents τ.em τ.combos τ.all_ τ.weight τ.gain τ.ad_ τ.minute τ.ds τ.bl τ.chosen) H := hP
    refine lv_if_eq (tgt := 41) hx hb dX3_readsSort_15 rfl (fun _ => ?_) (fun h9 => ?_)
    rotate_left
    · exact absurd (by decide) h9
    refine lv_iconst (v := 0) hx hb dX3_readsSort_41 rfl ?_
    exact rm_z (u := (σ, ((f_, nI r_, nI (tkE σ a_), nI (tkP σ a_), nI (tkE σ a_), τ.ents, τ.em, τ.combos, τ.all_, τ.weight, τ.gain, τ.ad_, τ.minute, τ.ds, τ.bl, τ.chosen) : Sc))) hQ hx hb hr hlocks hK hP hS (Or.inl rfl) ((Or.inr ⟨rfl, tkP σ a_, rfl, rfl, (by rw [sortL, nmR_n hv_6])⟩)) dX3_readsSort_42

