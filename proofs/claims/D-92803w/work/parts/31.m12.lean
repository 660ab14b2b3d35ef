/-! THE MODEL's METHODS 12: the text's tokens -/
set_option maxRecDepth 100000
theorem nz_sub {x y : Int32} {a b : Nat} (h1 : x = nI a) (h2 : y = nI b) (h : b ≤ a) : x - y = nI (a - b) := by rw [h1, h2]; exact pk_sub h
/-- behind blanks -/
def skW (σ : St) (a : Nat) : Nat := if h : a < σ.len ∧ σ.txt a = 32 then skW σ (a + 1) else a
termination_by σ.len - a
decreasing_by omega
theorem skW_s {σ : St} {a : Nat} (h : a < σ.len) (h2 : σ.txt a = 32) : skW σ a = skW σ (a + 1) := by rw [skW, dif_pos ⟨h, h2⟩]
theorem skW_e {σ : St} {a : Nat} (h : ¬ (a < σ.len ∧ σ.txt a = 32)) : skW σ a = a := by rw [skW, dif_neg h]
/-- behind bytes of a kind -/
def runW (σ : St) (k : Int32) (a : Nat) : Nat := if h : a < σ.len ∧ kindF (σ.txt a) = k then runW σ k (a + 1) else a
termination_by σ.len - a
decreasing_by omega
theorem runW_s {σ : St} {k : Int32} {a : Nat} (h : a < σ.len) (h2 : kindF (σ.txt a) = k) : runW σ k a = runW σ k (a + 1) := by rw [runW, dif_pos ⟨h, h2⟩]
theorem runW_e {σ : St} {k : Int32} {a : Nat} (h : ¬ (a < σ.len ∧ kindF (σ.txt a) = k)) : runW σ k a = a := by rw [runW, dif_neg h]
/-- the token that comes at a or behind: its place, its end -/
def tkP (σ : St) (a : Nat) : Nat := skW σ a
def tkR (σ : St) (p y : Nat) : Nat := if p < σ.len ∧ ¬ kindF (σ.txt p) ≤ 0 then runW σ (kindF (σ.txt p)) y else y
def onN (σ : St) (p : Nat) : Nat := if σ.len ≤ p then 0 else 1
def tkE (σ : St) (a : Nat) : Nat := tkR σ (tkP σ a) (tkP σ a + onN σ (tkP σ a))
theorem skW_b (σ : St) : ∀ n a, σ.len - a < n → a ≤ σ.len → a ≤ skW σ a ∧ skW σ a ≤ σ.len := by
  intro n
  induction n with
  | zero => intro a h; omega
  | succ n ih =>
    intro a h ha
    by_cases q : a < σ.len ∧ σ.txt a = 32
    · rw [skW_s q.1 q.2]
      have := ih (a + 1) (by omega) (by omega)
      omega
    · rw [skW_e q]; omega
theorem runW_b (σ : St) (k : Int32) : ∀ n a, σ.len - a < n → a ≤ σ.len → a ≤ runW σ k a ∧ runW σ k a ≤ σ.len := by
  intro n
  induction n with
  | zero => intro a h; omega
  | succ n ih =>
    intro a h ha
    by_cases q : a < σ.len ∧ kindF (σ.txt a) = k
    · rw [runW_s q.1 q.2]
      have := ih (a + 1) (by omega) (by omega)
      omega
    · rw [runW_e q]; omega
theorem tkP_b {σ : St} {a : Nat} (h : a ≤ σ.len) : a ≤ tkP σ a ∧ tkP σ a ≤ σ.len := skW_b σ _ a (Nat.lt_succ_self _) h
theorem onN_b {σ : St} {p : Nat} (h : p ≤ σ.len) : p + onN σ p ≤ σ.len := by unfold onN; split <;> omega
theorem tkR_b {σ : St} {p y : Nat} (h : y ≤ σ.len) : y ≤ tkR σ p y ∧ tkR σ p y ≤ σ.len := by
  unfold tkR
  split
  · exact runW_b σ _ _ y (Nat.lt_succ_self _) h
  · omega
theorem tkE_b {σ : St} {a : Nat} (h : a ≤ σ.len) : tkP σ a ≤ tkE σ a ∧ tkE σ a ≤ σ.len ∧ (tkP σ a < σ.len → tkP σ a < tkE σ a) := by
  have h1 := tkP_b h
  have h2 := onN_b h1.2
  have h3 := tkR_b (p := tkP σ a) h2
  refine ⟨by unfold tkE; omega, h3.2, fun q => ?_⟩
  have h4 : onN σ (tkP σ a) = 1 := if_neg (by omega)
  have : tkR σ (tkP σ a) (tkP σ a + onN σ (tkP σ a)) = tkE σ a := rfl
  omega
theorem tkR_l {σ : St} {p y : Nat} (h : σ.len ≤ y) : tkR σ p y = y := by
  unfold tkR
  split
  · exact runW_e (fun q => by omega)
  · rfl
theorem tkR_k {σ : St} {p y : Nat} (h : kindF (σ.txt p) ≤ 0) : tkR σ p y = y := if_neg (fun q => q.2 h)
theorem tkR_n {σ : St} {p y : Nat} (h : ¬ kindF (σ.txt y) = kindF (σ.txt p)) : tkR σ p y = y := by
  unfold tkR
  split
  · exact runW_e (fun q => h q.2)
  · rfl
theorem tkR_s {σ : St} {p y : Nat} (h : y < σ.len) (hp : p < σ.len) (hk : ¬ kindF (σ.txt p) ≤ 0) (h2 : kindF (σ.txt y) = kindF (σ.txt p)) : tkR σ p y = tkR σ p (y + 1) := by
  unfold tkR
  rw [if_pos ⟨hp, hk⟩, if_pos ⟨hp, hk⟩]
  exact runW_s h h2

theorem cw_X3_X3_kind {R : Room} {s : State} {args : Array Value} (hts : ∀ w ∈ lw_all, w.before args s = true) (hR : rmX3_kind.frames + 1 ≤ R.frames ∧ 8 + (1 + 11) + rmX3_kind.locals ≤ R.locals) : CallB R s args RX3 70 yX3_kind cX3_kind 1 (some .int) (ws_ yX3_kind cX3_kind 1 (some .int)) rmX3_kind 0 0 1 ∧ (Cond.static yX3_kind).before args s = true := va_cwS 1 hts (lw_S q1229 q1230 q83 q1231) rfl rfl rfl (by decide +kernel) hR
def rmX3_token : Room := { frames := 1, cells := 0, slots := 0, locals := 20 }
set_option maxHeartbeats 1000000 in
theorem mt_X3_token (l : Launch) (D : va_G) (dA : Nat → ClassId) (h : Nat) (ad : Nat → Nat) (σ : St) (τ : Sc) (hmD : mD h ad) (a_ : Nat) (hI : Inv σ) (ha : a_ ≤ σ.len) : Met l yX3_token (ws_ yX3_token cX3_token 1 none) rmX3_token (va_Pc [.ref h] (mB D dA h ad σ ((τ.read, τ.rm, nI a_, τ.place, τ.end_, τ.ents, τ.em, τ.combos, τ.all_, τ.weight, τ.gain, τ.ad_, τ.minute, τ.ds, τ.bl, τ.chosen) : Sc))) (va_Qv (fun (u : MS) => u = (σ, ((τ.read, τ.rm, nI (tkE σ a_), nI (tkP σ a_), nI (tkE σ a_), τ.ents, τ.em, τ.combos, τ.all_, τ.weight, τ.gain, τ.ad_, τ.minute, τ.ds, τ.bl, τ.chosen) : Sc))) (fun u t => mB D dA h ad u.1 u.2 t) (mA h ad)) 0 0 (mA h ad) := by
  refine w_start (by decide) (Nat.le_of_ble_eq_true rfl) ?_
  intro p e s m args below meth c Q ls hQ hx hb hr hlocks hml hown hnm hts hB hl
  have hown : s.vm.findClass RX3 = some m.cls := hown
  have hl : lv_has ls 1 [(0, .ref h)] := hl
  obtain ⟨hP, hK⟩ := hB
  have hP : va_P D vwCl (mX dA h ad σ.txt σ.len σ.wt σ.pr σ.tools σ.load σ.purse σ.beg σ.ways σ.told σ.calls σ.sm σ.sorts σ.visits σ.vm τ.read τ.rm (nI a_) τ.place τ.end_ τ.ents τ.em τ.combos τ.all_ τ.weight τ.gain τ.ad_ τ.minute τ.ds τ.bl τ.chosen) s.heap := hP
  have hS : va_S (mA h ad) s.heap s.heap [] := va_S.rf
  have hlen := hI.len
  have hL0_1 : ∀ (n_2 : Nat) (x_ : Nat) (ls : Array Slot) (H : Heap) (locs : List Loc), (σ.len - x_) < n_2 → (x_ ≤ σ.len) → (skW σ x_ = skW σ a_) → lv_has ls 1 [(0, .ref h)] → va_P D vwCl (mX dA h ad σ.txt σ.len σ.wt σ.pr σ.tools σ.load σ.purse σ.beg σ.ways σ.told σ.calls σ.sm σ.sorts σ.visits σ.vm τ.read τ.rm (nI x_) τ.place τ.end_ τ.ents τ.em τ.combos τ.all_ τ.weight τ.gain τ.ad_ τ.minute τ.ds τ.bl τ.chosen) H → va_S (mA h ad) s.heap H locs → W p l e rmX3_token s m args below meth c H locs 0 0 Q (F0 m 0 ls []) := by
    intro n_2
    induction n_2 with
    | zero => intro x_ ls H locs hm_4; exact absurd hm_4 (Nat.not_lt_zero _)
    | succ n_2 ih_3 =>
      intro x_ ls H locs hm_4 hx1 hsk  hl hP hS
      refine lv_aload_n hx hb dX3_token_0 rfl (lv_at hl 0 rfl) ?_
      refine va_get (D := D) (ci := 0) (v := .int (nI x_)) (C := RX3) (T := TX3) (N := 31) hx hb hts in_X3 hown hK hP 0 rfl rfl 17 (by decide) (hts _ q1131) (fun _ h9 => h9) rfl dX3_token_1 ?_
      refine lv_aload_n hx hb dX3_token_4 rfl (lv_at hl 0 rfl) ?_
      refine va_get (D := D) (ci := 0) (v := .int (nI σ.len)) (C := RX3) (T := TX3) (N := 31) hx hb hts in_X3 hown hK hP 0 rfl rfl 1 (by decide) (hts _ q1115) (fun _ h9 => h9) rfl dX3_token_5 ?_
      refine lv_icmp_ge (tgt := 38) hx hb dX3_token_8 rfl (fun h8 => ?_) (fun h8 => ?_)
      · have h8 : σ.len ≤ x_ := (nz_le (a := σ.len) (b := x_) rfl rfl (by omega) (by omega)).mp h8
        obtain rfl : x_ = tkP σ a_ := by unfold tkP; rw [← hsk]; exact (skW_e (fun q => by omega)).symm
        have htp := tkP_b ha
        have hon := onN_b htp.2
        refine lv_aload_n hx hb dX3_token_38 rfl (lv_at hl 0 rfl) ?_
        refine lv_aload_n hx hb dX3_token_39 rfl (lv_at hl 0 rfl) ?_
        refine va_get (D := D) (ci := 0) (v := .int (nI (tkP σ a_))) (C := RX3) (T := TX3) (N := 31) hx hb hts in_X3 hown hK hP 0 rfl rfl 17 (by decide) (hts _ q1131) (fun _ h9 => h9) rfl dX3_token_40 ?_
        refine va_put (D := D) (ci := 0) (v := .int (nI (tkP σ a_))) (ty := .int) (C := RX3) (T := TX3) (N := 31) hx hb hts in_X3 tyX3 tyX3_ok nmX3 hown hK hP (mD_va hmD dA σ ((τ.read, τ.rm, nI (tkP σ a_), τ.place, τ.end_, τ.ents, τ.em, τ.combos, τ.all_, τ.weight, τ.gain, τ.ad_, τ.minute, τ.ds, τ.bl, τ.chosen) : Sc)) hS 0 rfl rfl 18 (by decide) (hts _ q1132) (fun _ h9 => h9) rfl (by decide +kernel) (rfl) (rfl) (Nat.le_of_ble_eq_true rfl) dX3_token_43 (fun H locs hP _ hS => ?_)
        have hP : va_P D vwCl (mX dA h ad σ.txt σ.len σ.wt σ.pr σ.tools σ.load σ.purse σ.beg σ.ways σ.told σ.calls σ.sm σ.sorts σ.visits σ.vm τ.read τ.rm (nI (tkP σ a_)) (nI (tkP σ a_)) τ.end_ τ.ents τ.em τ.combos τ.all_ τ.weight τ.gain τ.ad_ τ.minute τ.ds τ.bl τ.chosen) H := hP
        refine lv_aload_n hx hb dX3_token_46 rfl (lv_at hl 0 rfl) ?_
        refine lv_dup hx hb dX3_token_47 rfl ?_
        refine va_get (D := D) (ci := 0) (v := .int (nI (tkP σ a_))) (C := RX3) (T := TX3) (N := 31) hx hb hts in_X3 hown hK hP 0 rfl rfl 17 (by decide) (hts _ q1131) (fun _ h9 => h9) rfl dX3_token_48 ?_
        refine lv_aload_n hx hb dX3_token_51 rfl (lv_at hl 0 rfl) ?_
        refine va_get (D := D) (ci := 0) (v := .int (nI (tkP σ a_))) (C := RX3) (T := TX3) (N := 31) hx hb hts in_X3 hown hK hP 0 rfl rfl 17 (by decide) (hts _ q1131) (fun _ h9 => h9) rfl dX3_token_52 ?_
        refine lv_aload_n hx hb dX3_token_55 rfl (lv_at hl 0 rfl) ?_
        refine va_get (D := D) (ci := 0) (v := .int (nI σ.len)) (C := RX3) (T := TX3) (N := 31) hx hb hts in_X3 hown hK hP 0 rfl rfl 1 (by decide) (hts _ q1115) (fun _ h9 => h9) rfl dX3_token_56 ?_
        have hJ67_5 : ∀ (v_6 : Int32) (ls : Array Slot), v_6 = (if σ.len ≤ (tkP σ a_) then 0 else 1) → lv_has ls 1 [(0, .ref h)] → W p l e rmX3_token s m args below meth c H locs 0 0 Q (F0 m 67 ls [.int v_6, .int (nI (tkP σ a_)), .ref h]) := by
          intro v_6 ls ev_6 hl
          have hjs : v_6 = nI (onN σ (tkP σ a_)) := (by rw [ev_6, onN]; split <;> rfl)
          subst hjs
          refine lv_iadd hx hb dX3_token_67 ?_
          refine w_topi (nz_add rfl rfl) ?_
          refine va_put (D := D) (ci := 0) (v := .int (nI ((tkP σ a_) + (onN σ (tkP σ a_))))) (ty := .int) (C := RX3) (T := TX3) (N := 31) hx hb hts in_X3 tyX3 tyX3_ok nmX3 hown hK hP (mD_va hmD dA σ ((τ.read, τ.rm, nI (tkP σ a_), nI (tkP σ a_), τ.end_, τ.ents, τ.em, τ.combos, τ.all_, τ.weight, τ.gain, τ.ad_, τ.minute, τ.ds, τ.bl, τ.chosen) : Sc)) hS 0 rfl rfl 17 (by decide) (hts _ q1131) (fun _ h9 => h9) rfl (by decide +kernel) (rfl) (rfl) (Nat.le_of_ble_eq_true rfl) dX3_token_68 (fun H locs hP _ hS => ?_)
          have hP : va_P D vwCl (mX dA h ad σ.txt σ.len σ.wt σ.pr σ.tools σ.load σ.purse σ.beg σ.ways σ.told σ.calls σ.sm σ.sorts σ.visits σ.vm τ.read τ.rm (nI ((tkP σ a_) + (onN σ (tkP σ a_)))) (nI (tkP σ a_)) τ.end_ τ.ents τ.em τ.combos τ.all_ τ.weight τ.gain τ.ad_ τ.minute τ.ds τ.bl τ.chosen) H := hP
          have hL71_7 : ∀ (n_8 : Nat) (y_ : Nat) (ls : Array Slot) (H : Heap) (locs : List Loc), (σ.len - y_) < n_8 → (y_ ≤ σ.len) → (tkP σ a_ ≤ y_) → (tkE σ a_ = tkR σ (tkP σ a_) y_) → lv_has ls 1 [(0, .ref h)] → va_P D vwCl (mX dA h ad σ.txt σ.len σ.wt σ.pr σ.tools σ.load σ.purse σ.beg σ.ways σ.told σ.calls σ.sm σ.sorts σ.visits σ.vm τ.read τ.rm (nI y_) (nI (tkP σ a_)) τ.end_ τ.ents τ.em τ.combos τ.all_ τ.weight τ.gain τ.ad_ τ.minute τ.ds τ.bl τ.chosen) H → va_S (mA h ad) s.heap H locs → W p l e rmX3_token s m args below meth c H locs 0 0 Q (F0 m 71 ls []) := by
            intro n_8
            induction n_8 with
            | zero => intro y_ ls H locs hm_10; exact absurd hm_10 (Nat.not_lt_zero _)
            | succ n_8 ih_9 =>
              intro y_ ls H locs hm_10 hy1 hpy hrn  hl hP hS
              refine lv_aload_n hx hb dX3_token_71 rfl (lv_at hl 0 rfl) ?_
              refine va_get (D := D) (ci := 0) (v := .int (nI y_)) (C := RX3) (T := TX3) (N := 31) hx hb hts in_X3 hown hK hP 0 rfl rfl 17 (by decide) (hts _ q1131) (fun _ h9 => h9) rfl dX3_token_72 ?_
              refine lv_aload_n hx hb dX3_token_75 rfl (lv_at hl 0 rfl) ?_
              refine va_get (D := D) (ci := 0) (v := .int (nI σ.len)) (C := RX3) (T := TX3) (N := 31) hx hb hts in_X3 hown hK hP 0 rfl rfl 1 (by decide) (hts _ q1115) (fun _ h9 => h9) rfl dX3_token_76 ?_
              refine lv_icmp_ge (tgt := 137) hx hb dX3_token_79 rfl (fun h79 => ?_) (fun h79 => ?_)
              · have h79 : σ.len ≤ y_ := (nz_le (a := σ.len) (b := y_) rfl rfl (by omega) (by omega)).mp h79
                obtain rfl : y_ = tkE σ a_ := by rw [hrn]; exact (tkR_l h79).symm
                refine lv_aload_n hx hb dX3_token_137 rfl (lv_at hl 0 rfl) ?_
                refine lv_aload_n hx hb dX3_token_138 rfl (lv_at hl 0 rfl) ?_
                refine va_get (D := D) (ci := 0) (v := .int (nI (tkE σ a_))) (C := RX3) (T := TX3) (N := 31) hx hb hts in_X3 hown hK hP 0 rfl rfl 17 (by decide) (hts _ q1131) (fun _ h9 => h9) rfl dX3_token_139 ?_
                refine va_put (D := D) (ci := 0) (v := .int (nI (tkE σ a_))) (ty := .int) (C := RX3) (T := TX3) (N := 31) hx hb hts in_X3 tyX3 tyX3_ok nmX3 hown hK hP (mD_va hmD dA σ ((τ.read, τ.rm, nI (tkE σ a_), nI (tkP σ a_), τ.end_, τ.ents, τ.em, τ.combos, τ.all_, τ.weight, τ.gain, τ.ad_, τ.minute, τ.ds, τ.bl, τ.chosen) : Sc)) hS 0 rfl rfl 19 (by decide) (hts _ q1133) (fun _ h9 => h9) rfl (by decide +kernel) (rfl) (rfl) (Nat.le_of_ble_eq_true rfl) dX3_token_142 (fun H locs hP _ hS => ?_)
                have hP : va_P D vwCl (mX dA h ad σ.txt σ.len σ.wt σ.pr σ.tools σ.load σ.purse σ.beg σ.ways σ.told σ.calls σ.sm σ.sorts σ.visits σ.vm τ.read τ.rm (nI (tkE σ a_)) (nI (tkP σ a_)) (nI (tkE σ a_)) τ.ents τ.em τ.combos τ.all_ τ.weight τ.gain τ.ad_ τ.minute τ.ds τ.bl τ.chosen) H := hP
                exact rm_v (u := (σ, ((τ.read, τ.rm, nI (tkE σ a_), nI (tkP σ a_), nI (tkE σ a_), τ.ents, τ.em, τ.combos, τ.all_, τ.weight, τ.gain, τ.ad_, τ.minute, τ.ds, τ.bl, τ.chosen) : Sc))) hQ hx hb hr hlocks hK hP hS (rfl) dX3_token_145
              · have h79 : ¬ (σ.len ≤ y_) := fun z9 => h79 ((nz_le (a := σ.len) (b := y_) rfl rfl (by omega) (by omega)).mpr z9)
                refine lv_aload_n hx hb dX3_token_82 rfl (lv_at hl 0 rfl) ?_
                refine va_get (D := D) (ci := 0) (v := .ref (ad 0)) (C := RX3) (T := TX3) (N := 31) hx hb hts in_X3 hown hK hP 0 rfl rfl 0 (by decide) (hts _ q1114) (fun _ h9 => h9) rfl dX3_token_83 ?_
                refine lv_aload_n hx hb dX3_token_86 rfl (lv_at hl 0 rfl) ?_
                refine va_get (D := D) (ci := 0) (v := .int (nI (tkP σ a_))) (C := RX3) (T := TX3) (N := 31) hx hb hts in_X3 hown hK hP 0 rfl rfl 18 (by decide) (hts _ q1132) (fun _ h9 => h9) rfl dX3_token_87 ?_
                refine wa_iald (f := σ.txt) hx hb hK hP 1 0 rfl rfl (tkP σ a_) (rfl) (by omega) (by decide) dX3_token_90 ?_
                refine cSi (As := [.int (σ.txt (tkP σ a_))]) (rest := []) ⟨hx, hb, hml, hown, hts⟩ (mt_X3_kind l (σ.txt (tkP σ a_))) (cw_X3_X3_kind hts ⟨Nat.le_of_ble_eq_true rfl, Nat.le_of_ble_eq_true rfl⟩) w_blT (fun _ _ _ => trivial) rfl hl.1 rfl (Nat.le_of_ble_eq_true rfl) dX3_token_91 ⟨Nat.le_of_ble_eq_true rfl, Nat.le_of_ble_eq_true rfl⟩ ?_
                refine lv_if_le (tgt := 137) hx hb dX3_token_94 rfl (fun h94 => ?_) (fun h94 => ?_)
                · have h94 : (kindF (σ.txt (tkP σ a_))) ≤ 0 := h94
                  obtain rfl : y_ = tkE σ a_ := by rw [hrn]; exact (tkR_k h94).symm
                  refine lv_aload_n hx hb dX3_token_137 rfl (lv_at hl 0 rfl) ?_
                  refine lv_aload_n hx hb dX3_token_138 rfl (lv_at hl 0 rfl) ?_
                  refine va_get (D := D) (ci := 0) (v := .int (nI (tkE σ a_))) (C := RX3) (T := TX3) (N := 31) hx hb hts in_X3 hown hK hP 0 rfl rfl 17 (by decide) (hts _ q1131) (fun _ h9 => h9) rfl dX3_token_139 ?_
                  refine va_put (D := D) (ci := 0) (v := .int (nI (tkE σ a_))) (ty := .int) (C := RX3) (T := TX3) (N := 31) hx hb hts in_X3 tyX3 tyX3_ok nmX3 hown hK hP (mD_va hmD dA σ ((τ.read, τ.rm, nI (tkE σ a_), nI (tkP σ a_), τ.end_, τ.ents, τ.em, τ.combos, τ.all_, τ.weight, τ.gain, τ.ad_, τ.minute, τ.ds, τ.bl, τ.chosen) : Sc)) hS 0 rfl rfl 19 (by decide) (hts _ q1133) (fun _ h9 => h9) rfl (by decide +kernel) (rfl) (rfl) (Nat.le_of_ble_eq_true rfl) dX3_token_142 (fun H locs hP _ hS => ?_)
                  have hP : va_P D vwCl (mX dA h ad σ.txt σ.len σ.wt σ.pr σ.tools σ.load σ.purse σ.beg σ.ways σ.told σ.calls σ.sm σ.sorts σ.visits σ.vm τ.read τ.rm (nI (tkE σ a_)) (nI (tkP σ a_)) (nI (tkE σ a_)) τ.ents τ.em τ.combos τ.all_ τ.weight τ.gain τ.ad_ τ.minute τ.ds τ.bl τ.chosen) H := hP
                  exact rm_v (u := (σ, ((τ.read, τ.rm, nI (tkE σ a_), nI (tkP σ a_), nI (tkE σ a_), τ.ents, τ.em, τ.combos, τ.all_, τ.weight, τ.gain, τ.ad_, τ.minute, τ.ds, τ.bl, τ.chosen) : Sc))) hQ hx hb hr hlocks hK hP hS (rfl) dX3_token_145
                · have h94 : ¬ ((kindF (σ.txt (tkP σ a_))) ≤ 0) := h94
                  refine lv_aload_n hx hb dX3_token_97 rfl (lv_at hl 0 rfl) ?_
                  refine va_get (D := D) (ci := 0) (v := .ref (ad 0)) (C := RX3) (T := TX3) (N := 31) hx hb hts in_X3 hown hK hP 0 rfl rfl 0 (by decide) (hts _ q1114) (fun _ h9 => h9) rfl dX3_token_98 ?_
                  refine lv_aload_n hx hb dX3_token_101 rfl (lv_at hl 0 rfl) ?_
                  refine va_get (D := D) (ci := 0) (v := .int (nI y_)) (C := RX3) (T := TX3) (N := 31) hx hb hts in_X3 hown hK hP 0 rfl rfl 17 (by decide) (hts _ q1131) (fun _ h9 => h9) rfl dX3_token_102 ?_
                  refine wa_iald (f := σ.txt) hx hb hK hP 1 0 rfl rfl (y_) (rfl) (by omega) (by decide) dX3_token_105 ?_
                  refine cSi (As := [.int (σ.txt y_)]) (rest := []) ⟨hx, hb, hml, hown, hts⟩ (mt_X3_kind l (σ.txt y_)) (cw_X3_X3_kind hts ⟨Nat.le_of_ble_eq_true rfl, Nat.le_of_ble_eq_true rfl⟩) w_blT (fun _ _ _ => trivial) rfl hl.1 rfl (Nat.le_of_ble_eq_true rfl) dX3_token_106 ⟨Nat.le_of_ble_eq_true rfl, Nat.le_of_ble_eq_true rfl⟩ ?_
                  refine lv_aload_n hx hb dX3_token_109 rfl (lv_at hl 0 rfl) ?_
                  refine va_get (D := D) (ci := 0) (v := .ref (ad 0)) (C := RX3) (T := TX3) (N := 31) hx hb hts in_X3 hown hK hP 0 rfl rfl 0 (by decide) (hts _ q1114) (fun _ h9 => h9) rfl dX3_token_110 ?_
                  refine lv_aload_n hx hb dX3_token_113 rfl (lv_at hl 0 rfl) ?_
                  refine va_get (D := D) (ci := 0) (v := .int (nI (tkP σ a_))) (C := RX3) (T := TX3) (N := 31) hx hb hts in_X3 hown hK hP 0 rfl rfl 18 (by decide) (hts _ q1132) (fun _ h9 => h9) rfl dX3_token_114 ?_
                  refine wa_iald (f := σ.txt) hx hb hK hP 1 0 rfl rfl (tkP σ a_) (rfl) (by omega) (by decide) dX3_token_117 ?_
                  refine cSi (As := [.int (σ.txt (tkP σ a_))]) (rest := [.int (kindF (σ.txt y_))]) ⟨hx, hb, hml, hown, hts⟩ (mt_X3_kind l (σ.txt (tkP σ a_))) (cw_X3_X3_kind hts ⟨Nat.le_of_ble_eq_true rfl, Nat.le_of_ble_eq_true rfl⟩) w_blT (fun _ _ _ => trivial) rfl hl.1 rfl (Nat.le_of_ble_eq_true rfl) dX3_token_118 ⟨Nat.le_of_ble_eq_true rfl, Nat.le_of_ble_eq_true rfl⟩ ?_
                  refine lv_icmp_ne (tgt := 137) hx hb dX3_token_121 rfl (fun h121 => ?_) (fun h121 => ?_)
                  · have h121 : ¬ ((kindF (σ.txt y_)) = (kindF (σ.txt (tkP σ a_)))) := h121
                    obtain rfl : y_ = tkE σ a_ := by rw [hrn]; exact (tkR_n h121).symm
                    refine lv_aload_n hx hb dX3_token_137 rfl (lv_at hl 0 rfl) ?_
                    refine lv_aload_n hx hb dX3_token_138 rfl (lv_at hl 0 rfl) ?_
                    refine va_get (D := D) (ci := 0) (v := .int (nI (tkE σ a_))) (C := RX3) (T := TX3) (N := 31) hx hb hts in_X3 hown hK hP 0 rfl rfl 17 (by decide) (hts _ q1131) (fun _ h9 => h9) rfl dX3_token_139 ?_
                    refine va_put (D := D) (ci := 0) (v := .int (nI (tkE σ a_))) (ty := .int) (C := RX3) (T := TX3) (N := 31) hx hb hts in_X3 tyX3 tyX3_ok nmX3 hown hK hP (mD_va hmD dA σ ((τ.read, τ.rm, nI (tkE σ a_), nI (tkP σ a_), τ.end_, τ.ents, τ.em, τ.combos, τ.all_, τ.weight, τ.gain, τ.ad_, τ.minute, τ.ds, τ.bl, τ.chosen) : Sc)) hS 0 rfl rfl 19 (by decide) (hts _ q1133) (fun _ h9 => h9) rfl (by decide +kernel) (rfl) (rfl) (Nat.le_of_ble_eq_true rfl) dX3_token_142 (fun H locs hP _ hS => ?_)
                    have hP : va_P D vwCl (mX dA h ad σ.txt σ.len σ.wt σ.pr σ.tools σ.load σ.purse σ.beg σ.ways σ.told σ.calls σ.sm σ.sorts σ.visits σ.vm τ.read τ.rm (nI (tkE σ a_)) (nI (tkP σ a_)) (nI (tkE σ a_)) τ.ents τ.em τ.combos τ.all_ τ.weight τ.gain τ.ad_ τ.minute τ.ds τ.bl τ.chosen) H := hP
                    exact rm_v (u := (σ, ((τ.read, τ.rm, nI (tkE σ a_), nI (tkP σ a_), nI (tkE σ a_), τ.ents, τ.em, τ.combos, τ.all_, τ.weight, τ.gain, τ.ad_, τ.minute, τ.ds, τ.bl, τ.chosen) : Sc))) hQ hx hb hr hlocks hK hP hS (rfl) dX3_token_145
                  · have h121 : (kindF (σ.txt y_)) = (kindF (σ.txt (tkP σ a_))) := h121
                    refine lv_aload_n hx hb dX3_token_124 rfl (lv_at hl 0 rfl) ?_
                    refine lv_dup hx hb dX3_token_125 rfl ?_
                    refine va_get (D := D) (ci := 0) (v := .int (nI y_)) (C := RX3) (T := TX3) (N := 31) hx hb hts in_X3 hown hK hP 0 rfl rfl 17 (by decide) (hts _ q1131) (fun _ h9 => h9) rfl dX3_token_126 ?_
                    refine lv_iconst (v := 1) hx hb dX3_token_129 rfl ?_
                    refine lv_iadd hx hb dX3_token_130 ?_
                    refine w_topi (nz_add rfl rfl) ?_
                    refine va_put (D := D) (ci := 0) (v := .int (nI (y_ + 1))) (ty := .int) (C := RX3) (T := TX3) (N := 31) hx hb hts in_X3 tyX3 tyX3_ok nmX3 hown hK hP (mD_va hmD dA σ ((τ.read, τ.rm, nI y_, nI (tkP σ a_), τ.end_, τ.ents, τ.em, τ.combos, τ.all_, τ.weight, τ.gain, τ.ad_, τ.minute, τ.ds, τ.bl, τ.chosen) : Sc)) hS 0 rfl rfl 17 (by decide) (hts _ q1131) (fun _ h9 => h9) rfl (by decide +kernel) (rfl) (rfl) (Nat.le_of_ble_eq_true rfl) dX3_token_131 (fun H locs hP _ hS => ?_)
                    have hP : va_P D vwCl (mX dA h ad σ.txt σ.len σ.wt σ.pr σ.tools σ.load σ.purse σ.beg σ.ways σ.told σ.calls σ.sm σ.sorts σ.visits σ.vm τ.read τ.rm (nI (y_ + 1)) (nI (tkP σ a_)) τ.end_ τ.ents τ.em τ.combos τ.all_ τ.weight τ.gain τ.ad_ τ.minute τ.ds τ.bl τ.chosen) H := hP
                    refine lv_goto (tgt := 71) hx hb dX3_token_134 rfl ?_
                    exact ih_9 (y_ + 1) ls _ _ (by omega) (by omega) (by omega) (by rw [hrn]; exact tkR_s (by omega) (by omega) h94 h121)  (lv_sub hl [0] rfl) hP hS
          exact hL71_7 _ (tkP σ a_ + onN σ (tkP σ a_)) ls _ _ (Nat.lt_succ_self _) (by omega) (by omega) rfl  (lv_sub hl [0] rfl) hP hS
        refine lv_icmp_ge (tgt := 66) hx hb dX3_token_59 rfl (fun h59 => ?_) (fun h59 => ?_)
        · have h59 : σ.len ≤ (tkP σ a_) := (nz_le (a := σ.len) (b := tkP σ a_) rfl rfl (by omega) (by omega)).mp h59
          refine lv_iconst (v := 0) hx hb dX3_token_66 rfl ?_
          exact hJ67_5 (0) ls (by rw [if_pos h59]) (lv_sub hl [0] rfl)
        · have h59 : ¬ (σ.len ≤ (tkP σ a_)) := fun z9 => h59 ((nz_le (a := σ.len) (b := tkP σ a_) rfl rfl (by omega) (by omega)).mpr z9)
          refine lv_iconst (v := 1) hx hb dX3_token_62 rfl ?_
          refine lv_goto (tgt := 67) hx hb dX3_token_63 rfl ?_
          exact hJ67_5 (1) ls (by rw [if_neg h59]) (lv_sub hl [0] rfl)
      · have h8 : ¬ (σ.len ≤ x_) := fun z9 => h8 ((nz_le (a := σ.len) (b := x_) rfl rfl (by omega) (by omega)).mpr z9)
        refine lv_aload_n hx hb dX3_token_11 rfl (lv_at hl 0 rfl) ?_
        refine va_get (D := D) (ci := 0) (v := .ref (ad 0)) (C := RX3) (T := TX3) (N := 31) hx hb hts in_X3 hown hK hP 0 rfl rfl 0 (by decide) (hts _ q1114) (fun _ h9 => h9) rfl dX3_token_12 ?_
        refine lv_aload_n hx hb dX3_token_15 rfl (lv_at hl 0 rfl) ?_
        refine va_get (D := D) (ci := 0) (v := .int (nI x_)) (C := RX3) (T := TX3) (N := 31) hx hb hts in_X3 hown hK hP 0 rfl rfl 17 (by decide) (hts _ q1131) (fun _ h9 => h9) rfl dX3_token_16 ?_
        refine wa_iald (f := σ.txt) hx hb hK hP 1 0 rfl rfl (x_) (rfl) (by omega) (by decide) dX3_token_19 ?_
        refine lv_bipush (v := 32) hx hb dX3_token_20 rfl ?_
        refine lv_icmp_ne (tgt := 38) hx hb dX3_token_22 rfl (fun h22 => ?_) (fun h22 => ?_)
        · have h22 : ¬ ((σ.txt x_) = 32) := h22
          obtain rfl : x_ = tkP σ a_ := by unfold tkP; rw [← hsk]; exact (skW_e (fun q => h22 q.2)).symm
          have htp := tkP_b ha
          have hon := onN_b htp.2
          refine lv_aload_n hx hb dX3_token_38 rfl (lv_at hl 0 rfl) ?_
          refine lv_aload_n hx hb dX3_token_39 rfl (lv_at hl 0 rfl) ?_
          refine va_get (D := D) (ci := 0) (v := .int (nI (tkP σ a_))) (C := RX3) (T := TX3) (N := 31) hx hb hts in_X3 hown hK hP 0 rfl rfl 17 (by decide) (hts _ q1131) (fun _ h9 => h9) rfl dX3_token_40 ?_
          refine va_put (D := D) (ci := 0) (v := .int (nI (tkP σ a_))) (ty := .int) (C := RX3) (T := TX3) (N := 31) hx hb hts in_X3 tyX3 tyX3_ok nmX3 hown hK hP (mD_va hmD dA σ ((τ.read, τ.rm, nI (tkP σ a_), τ.place, τ.end_, τ.ents, τ.em, τ.combos, τ.all_, τ.weight, τ.gain, τ.ad_, τ.minute, τ.ds, τ.bl, τ.chosen) : Sc)) hS 0 rfl rfl 18 (by decide) (hts _ q1132) (fun _ h9 => h9) rfl (by decide +kernel) (rfl) (rfl) (Nat.le_of_ble_eq_true rfl) dX3_token_43 (fun H locs hP _ hS => ?_)
          have hP : va_P D vwCl (mX dA h ad σ.txt σ.len σ.wt σ.pr σ.tools σ.load σ.purse σ.beg σ.ways σ.told σ.calls σ.sm σ.sorts σ.visits σ.vm τ.read τ.rm (nI (tkP σ a_)) (nI (tkP σ a_)) τ.end_ τ.ents τ.em τ.combos τ.all_ τ.weight τ.gain τ.ad_ τ.minute τ.ds τ.bl τ.chosen) H := hP
          refine lv_aload_n hx hb dX3_token_46 rfl (lv_at hl 0 rfl) ?_
          refine lv_dup hx hb dX3_token_47 rfl ?_
          refine va_get (D := D) (ci := 0) (v := .int (nI (tkP σ a_))) (C := RX3) (T := TX3) (N := 31) hx hb hts in_X3 hown hK hP 0 rfl rfl 17 (by decide) (hts _ q1131) (fun _ h9 => h9) rfl dX3_token_48 ?_
          refine lv_aload_n hx hb dX3_token_51 rfl (lv_at hl 0 rfl) ?_
          refine va_get (D := D) (ci := 0) (v := .int (nI (tkP σ a_))) (C := RX3) (T := TX3) (N := 31) hx hb hts in_X3 hown hK hP 0 rfl rfl 17 (by decide) (hts _ q1131) (fun _ h9 => h9) rfl dX3_token_52 ?_
          refine lv_aload_n hx hb dX3_token_55 rfl (lv_at hl 0 rfl) ?_
          refine va_get (D := D) (ci := 0) (v := .int (nI σ.len)) (C := RX3) (T := TX3) (N := 31) hx hb hts in_X3 hown hK hP 0 rfl rfl 1 (by decide) (hts _ q1115) (fun _ h9 => h9) rfl dX3_token_56 ?_
          have hJ67_11 : ∀ (v_12 : Int32) (ls : Array Slot), v_12 = (if σ.len ≤ (tkP σ a_) then 0 else 1) → lv_has ls 1 [(0, .ref h)] → W p l e rmX3_token s m args below meth c H locs 0 0 Q (F0 m 67 ls [.int v_12, .int (nI (tkP σ a_)), .ref h]) := by
            intro v_12 ls ev_12 hl
            have hjs : v_12 = nI (onN σ (tkP σ a_)) := (by rw [ev_12, onN]; split <;> rfl)
            subst hjs
            refine lv_iadd hx hb dX3_token_67 ?_
            refine w_topi (nz_add rfl rfl) ?_
            refine va_put (D := D) (ci := 0) (v := .int (nI ((tkP σ a_) + (onN σ (tkP σ a_))))) (ty := .int) (C := RX3) (T := TX3) (N := 31) hx hb hts in_X3 tyX3 tyX3_ok nmX3 hown hK hP (mD_va hmD dA σ ((τ.read, τ.rm, nI (tkP σ a_), nI (tkP σ a_), τ.end_, τ.ents, τ.em, τ.combos, τ.all_, τ.weight, τ.gain, τ.ad_, τ.minute, τ.ds, τ.bl, τ.chosen) : Sc)) hS 0 rfl rfl 17 (by decide) (hts _ q1131) (fun _ h9 => h9) rfl (by decide +kernel) (rfl) (rfl) (Nat.le_of_ble_eq_true rfl) dX3_token_68 (fun H locs hP _ hS => ?_)
            have hP : va_P D vwCl (mX dA h ad σ.txt σ.len σ.wt σ.pr σ.tools σ.load σ.purse σ.beg σ.ways σ.told σ.calls σ.sm σ.sorts σ.visits σ.vm τ.read τ.rm (nI ((tkP σ a_) + (onN σ (tkP σ a_)))) (nI (tkP σ a_)) τ.end_ τ.ents τ.em τ.combos τ.all_ τ.weight τ.gain τ.ad_ τ.minute τ.ds τ.bl τ.chosen) H := hP
            have hL71_13 : ∀ (n_14 : Nat) (y_ : Nat) (ls : Array Slot) (H : Heap) (locs : List Loc), (σ.len - y_) < n_14 → (y_ ≤ σ.len) → (tkP σ a_ ≤ y_) → (tkE σ a_ = tkR σ (tkP σ a_) y_) → lv_has ls 1 [(0, .ref h)] → va_P D vwCl (mX dA h ad σ.txt σ.len σ.wt σ.pr σ.tools σ.load σ.purse σ.beg σ.ways σ.told σ.calls σ.sm σ.sorts σ.visits σ.vm τ.read τ.rm (nI y_) (nI (tkP σ a_)) τ.end_ τ.ents τ.em τ.combos τ.all_ τ.weight τ.gain τ.ad_ τ.minute τ.ds τ.bl τ.chosen) H → va_S (mA h ad) s.heap H locs → W p l e rmX3_token s m args below meth c H locs 0 0 Q (F0 m 71 ls []) := by
              intro n_14
              induction n_14 with
              | zero => intro y_ ls H locs hm_16; exact absurd hm_16 (Nat.not_lt_zero _)
              | succ n_14 ih_15 =>
                intro y_ ls H locs hm_16 hy1 hpy hrn  hl hP hS
                refine lv_aload_n hx hb dX3_token_71 rfl (lv_at hl 0 rfl) ?_
                refine va_get (D := D) (ci := 0) (v := .int (nI y_)) (C := RX3) (T := TX3) (N := 31) hx hb hts in_X3 hown hK hP 0 rfl rfl 17 (by decide) (hts _ q1131) (fun _ h9 => h9) rfl dX3_token_72 ?_
                refine lv_aload_n hx hb dX3_token_75 rfl (lv_at hl 0 rfl) ?_
                refine va_get (D := D) (ci := 0) (v := .int (nI σ.len)) (C := RX3) (T := TX3) (N := 31) hx hb hts in_X3 hown hK hP 0 rfl rfl 1 (by decide) (hts _ q1115) (fun _ h9 => h9) rfl dX3_token_76 ?_
                refine lv_icmp_ge (tgt := 137) hx hb dX3_token_79 rfl (fun h79 => ?_) (fun h79 => ?_)
                · have h79 : σ.len ≤ y_ := (nz_le (a := σ.len) (b := y_) rfl rfl (by omega) (by omega)).mp h79
                  obtain rfl : y_ = tkE σ a_ := by rw [hrn]; exact (tkR_l h79).symm
                  refine lv_aload_n hx hb dX3_token_137 rfl (lv_at hl 0 rfl) ?_
                  refine lv_aload_n hx hb dX3_token_138 rfl (lv_at hl 0 rfl) ?_
                  refine va_get (D := D) (ci := 0) (v := .int (nI (tkE σ a_))) (C := RX3) (T := TX3) (N := 31) hx hb hts in_X3 hown hK hP 0 rfl rfl 17 (by decide) (hts _ q1131) (fun _ h9 => h9) rfl dX3_token_139 ?_
                  refine va_put (D := D) (ci := 0) (v := .int (nI (tkE σ a_))) (ty := .int) (C := RX3) (T := TX3) (N := 31) hx hb hts in_X3 tyX3 tyX3_ok nmX3 hown hK hP (mD_va hmD dA σ ((τ.read, τ.rm, nI (tkE σ a_), nI (tkP σ a_), τ.end_, τ.ents, τ.em, τ.combos, τ.all_, τ.weight, τ.gain, τ.ad_, τ.minute, τ.ds, τ.bl, τ.chosen) : Sc)) hS 0 rfl rfl 19 (by decide) (hts _ q1133) (fun _ h9 => h9) rfl (by decide +kernel) (rfl) (rfl) (Nat.le_of_ble_eq_true rfl) dX3_token_142 (fun H locs hP _ hS => ?_)
                  have hP : va_P D vwCl (mX dA h ad σ.txt σ.len σ.wt σ.pr σ.tools σ.load σ.purse σ.beg σ.ways σ.told σ.calls σ.sm σ.sorts σ.visits σ.vm τ.read τ.rm (nI (tkE σ a_)) (nI (tkP σ a_)) (nI (tkE σ a_)) τ.ents τ.em τ.combos τ.all_ τ.weight τ.gain τ.ad_ τ.minute τ.ds τ.bl τ.chosen) H := hP
                  exact rm_v (u := (σ, ((τ.read, τ.rm, nI (tkE σ a_), nI (tkP σ a_), nI (tkE σ a_), τ.ents, τ.em, τ.combos, τ.all_, τ.weight, τ.gain, τ.ad_, τ.minute, τ.ds, τ.bl, τ.chosen) : Sc))) hQ hx hb hr hlocks hK hP hS (rfl) dX3_token_145
                · have h79 : ¬ (σ.len ≤ y_) := fun z9 => h79 ((nz_le (a := σ.len) (b := y_) rfl rfl (by omega) (by omega)).mpr z9)
                  refine lv_aload_n hx hb dX3_token_82 rfl (lv_at hl 0 rfl) ?_
                  refine va_get (D := D) (ci := 0) (v := .ref (ad 0)) (C := RX3) (T := TX3) (N := 31) hx hb hts in_X3 hown hK hP 0 rfl rfl 0 (by decide) (hts _ q1114) (fun _ h9 => h9) rfl dX3_token_83 ?_
                  refine lv_aload_n hx hb dX3_token_86 rfl (lv_at hl 0 rfl) ?_
                  refine va_get (D := D) (ci := 0) (v := .int (nI (tkP σ a_))) (C := RX3) (T := TX3) (N := 31) hx hb hts in_X3 hown hK hP 0 rfl rfl 18 (by decide) (hts _ q1132) (fun _ h9 => h9) rfl dX3_token_87 ?_
                  refine wa_iald (f := σ.txt) hx hb hK hP 1 0 rfl rfl (tkP σ a_) (rfl) (by omega) (by decide) dX3_token_90 ?_
                  refine cSi (As := [.int (σ.txt (tkP σ a_))]) (rest := []) ⟨hx, hb, hml, hown, hts⟩ (mt_X3_kind l (σ.txt (tkP σ a_))) (cw_X3_X3_kind hts ⟨Nat.le_of_ble_eq_true rfl, Nat.le_of_ble_eq_true rfl⟩) w_blT (fun _ _ _ => trivial) rfl hl.1 rfl (Nat.le_of_ble_eq_true rfl) dX3_token_91 ⟨Nat.le_of_ble_eq_true rfl, Nat.le_of_ble_eq_true rfl⟩ ?_
                  refine lv_if_le (tgt := 137) hx hb dX3_token_94 rfl (fun h94 => ?_) (fun h94 => ?_)
                  · have h94 : (kindF (σ.txt (tkP σ a_))) ≤ 0 := h94
                    obtain rfl : y_ = tkE σ a_ := by rw [hrn]; exact (tkR_k h94).symm
                    refine lv_aload_n hx hb dX3_token_137 rfl (lv_at hl 0 rfl) ?_
                    refine lv_aload_n hx hb dX3_token_138 rfl (lv_at hl 0 rfl) ?_
                    refine va_get (D := D) (ci := 0) (v := .int (nI (tkE σ a_))) (C := RX3) (T := TX3) (N := 31) hx hb hts in_X3 hown hK hP 0 rfl rfl 17 (by decide) (hts _ q1131) (fun _ h9 => h9) rfl dX3_token_139 ?_
                    refine va_put (D := D) (ci := 0) (v := .int (nI (tkE σ a_))) (ty := .int) (C := RX3) (T := TX3) (N := 31) hx hb hts in_X3 tyX3 tyX3_ok nmX3 hown hK hP (mD_va hmD dA σ ((τ.read, τ.rm, nI (tkE σ a_), nI (tkP σ a_), τ.end_, τ.ents, τ.em, τ.combos, τ.all_, τ.weight, τ.gain, τ.ad_, τ.minute, τ.ds, τ.bl, τ.chosen) : Sc)) hS 0 rfl rfl 19 (by decide) (hts _ q1133) (fun _ h9 => h9) rfl (by decide +kernel) (rfl) (rfl) (Nat.le_of_ble_eq_true rfl) dX3_token_142 (fun H locs hP _ hS => ?_)
                    have hP : va_P D vwCl (mX dA h ad σ.txt σ.len σ.wt σ.pr σ.tools σ.load σ.purse σ.beg σ.ways σ.told σ.calls σ.sm σ.sorts σ.visits σ.vm τ.read τ.rm (nI (tkE σ a_)) (nI (tkP σ a_)) (nI (tkE σ a_)) τ.ents τ.em τ.combos τ.all_ τ.weight τ.gain τ.ad_ τ.minute τ.ds τ.bl τ.chosen) H := hP
                    exact rm_v (u := (σ, ((τ.read, τ.rm, nI (tkE σ a_), nI (tkP σ a_), nI (tkE σ a_), τ.ents, τ.em, τ.combos, τ.all_, τ.weight, τ.gain, τ.ad_, τ.minute, τ.ds, τ.bl, τ.chosen) : Sc))) hQ hx hb hr hlocks hK hP hS (rfl) dX3_token_145
                  · have h94 : ¬ ((kindF (σ.txt (tkP σ a_))) ≤ 0) := h94
                    refine lv_aload_n hx hb dX3_token_97 rfl (lv_at hl 0 rfl) ?_
                    refine va_get (D := D) (ci := 0) (v := .ref (ad 0)) (C := RX3) (T := TX3) (N := 31) hx hb hts in_X3 hown hK hP 0 rfl rfl 0 (by decide) (hts _ q1114) (fun _ h9 => h9) rfl dX3_token_98 ?_
                    refine lv_aload_n hx hb dX3_token_101 rfl (lv_at hl 0 rfl) ?_
                    refine va_get (D := D) (ci := 0) (v := .int (nI y_)) (C := RX3) (T := TX3) (N := 31) hx hb hts in_X3 hown hK hP 0 rfl rfl 17 (by decide) (hts _ q1131) (fun _ h9 => h9) rfl dX3_token_102 ?_
                    refine wa_iald (f := σ.txt) hx hb hK hP 1 0 rfl rfl (y_) (rfl) (by omega) (by decide) dX3_token_105 ?_
                    refine cSi (As := [.int (σ.txt y_)]) (rest := []) ⟨hx, hb, hml, hown, hts⟩ (mt_X3_kind l (σ.txt y_)) (cw_X3_X3_kind hts ⟨Nat.le_of_ble_eq_true rfl, Nat.le_of_ble_eq_true rfl⟩) w_blT (fun _ _ _ => trivial) rfl hl.1 rfl (Nat.le_of_ble_eq_true rfl) dX3_token_106 ⟨Nat.le_of_ble_eq_true rfl, Nat.le_of_ble_eq_true rfl⟩ ?_
                    refine lv_aload_n hx hb dX3_token_109 rfl (lv_at hl 0 rfl) ?_
                    refine va_get (D := D) (ci := 0) (v := .ref (ad 0)) (C := RX3) (T := TX3) (N := 31) hx hb hts in_X3 hown hK hP 0 rfl rfl 0 (by decide) (hts _ q1114) (fun _ h9 => h9) rfl dX3_token_110 ?_
                    refine lv_aload_n hx hb dX3_token_113 rfl (lv_at hl 0 rfl) ?_
                    refine va_get (D := D) (ci := 0) (v := .int (nI (tkP σ a_))) (C := RX3) (T := TX3) (N := 31) hx hb hts in_X3 hown hK hP 0 rfl rfl 18 (by decide) (hts _ q1132) (fun _ h9 => h9) rfl dX3_token_114 ?_
                    refine wa_iald (f := σ.txt) hx hb hK hP 1 0 rfl rfl (tkP σ a_) (rfl) (by omega) (by decide) dX3_token_117 ?_
                    refine cSi (As := [.int (σ.txt (tkP σ a_))]) (rest := [.int (kindF (σ.txt y_))]) ⟨hx, hb, hml, hown, hts⟩ (mt_X3_kind l (σ.txt (tkP σ a_))) (cw_X3_X3_kind hts ⟨Nat.le_of_ble_eq_true rfl, Nat.le_of_ble_eq_true rfl⟩) w_blT (fun _ _ _ => trivial) rfl hl.1 rfl (Nat.le_of_ble_eq_true rfl) dX3_token_118 ⟨Nat.le_of_ble_eq_true rfl, Nat.le_of_ble_eq_true rfl⟩ ?_
                    refine lv_icmp_ne (tgt := 137) hx hb dX3_token_121 rfl (fun h121 => ?_) (fun h121 => ?_)
                    · have h121 : ¬ ((kindF (σ.txt y_)) = (kindF (σ.txt (tkP σ a_)))) := h121
                      obtain rfl : y_ = tkE σ a_ := by rw [hrn]; exact (tkR_n h121).symm
                      refine lv_aload_n hx hb dX3_token_137 rfl (lv_at hl 0 rfl) ?_
                      refine lv_aload_n hx hb dX3_token_138 rfl (lv_at hl 0 rfl) ?_
                      refine va_get (D := D) (ci := 0) (v := .int (nI (tkE σ a_))) (C := RX3) (T := TX3) (N := 31) hx hb hts in_X3 hown hK hP 0 rfl rfl 17 (by decide) (hts _ q1131) (fun _ h9 => h9) rfl dX3_token_139 ?_
                      refine va_put (D := D) (ci := 0) (v := .int (nI (tkE σ a_))) (ty := .int) (C := RX3) (T := TX3) (N := 31) hx hb hts in_X3 tyX3 tyX3_ok nmX3 hown hK hP (mD_va hmD dA σ ((τ.read, τ.rm, nI (tkE σ a_), nI (tkP σ a_), τ.end_, τ.ents, τ.em, τ.combos, τ.all_, τ.weight, τ.gain, τ.ad_, τ.minute, τ.ds, τ.bl, τ.chosen) : Sc)) hS 0 rfl rfl 19 (by decide) (hts _ q1133) (fun _ h9 => h9) rfl (by decide +kernel) (rfl) (rfl) (Nat.le_of_ble_eq_true rfl) dX3_token_142 (fun H locs hP _ hS => ?_)
                      have hP : va_P D vwCl (mX dA h ad σ.txt σ.len σ.wt σ.pr σ.tools σ.load σ.purse σ.beg σ.ways σ.told σ.calls σ.sm σ.sorts σ.visits σ.vm τ.read τ.rm (nI (tkE σ a_)) (nI (tkP σ a_)) (nI (tkE σ a_)) τ.ents τ.em τ.combos τ.all_ τ.weight τ.gain τ.ad_ τ.minute τ.ds τ.bl τ.chosen) H := hP
                      exact rm_v (u := (σ, ((τ.read, τ.rm, nI (tkE σ a_), nI (tkP σ a_), nI (tkE σ a_), τ.ents, τ.em, τ.combos, τ.all_, τ.weight, τ.gain, τ.ad_, τ.minute, τ.ds, τ.bl, τ.chosen) : Sc))) hQ hx hb hr hlocks hK hP hS (rfl) dX3_token_145
                    · have h121 : (kindF (σ.txt y_)) = (kindF (σ.txt (tkP σ a_))) := h121
                      refine lv_aload_n hx hb dX3_token_124 rfl (lv_at hl 0 rfl) ?_
                      refine lv_dup hx hb dX3_token_125 rfl ?_
                      refine va_get (D := D) (ci := 0) (v := .int (nI y_)) (C := RX3) (T := TX3) (N := 31) hx hb hts in_X3 hown hK hP 0 rfl rfl 17 (by decide) (hts _ q1131) (fun _ h9 => h9) rfl dX3_token_126 ?_
                      refine lv_iconst (v := 1) hx hb dX3_token_129 rfl ?_
                      refine lv_iadd hx hb dX3_token_130 ?_
                      refine w_topi (nz_add rfl rfl) ?_
                      refine va_put (D := D) (ci := 0) (v := .int (nI (y_ + 1))) (ty := .int) (C := RX3) (T := TX3) (N := 31) hx hb hts in_X3 tyX3 tyX3_ok nmX3 hown hK hP (mD_va hmD dA σ ((τ.read, τ.rm, nI y_, nI (tkP σ a_), τ.end_, τ.ents, τ.em, τ.combos, τ.all_, τ.weight, τ.gain, τ.ad_, τ.minute, τ.ds, τ.bl, τ.chosen) : Sc)) hS 0 rfl rfl 17 (by decide) (hts _ q1131) (fun _ h9 => h9) rfl (by decide +kernel) (rfl) (rfl) (Nat.le_of_ble_eq_true rfl) dX3_token_131 (fun H locs hP _ hS => ?_)
                      have hP : va_P D vwCl (mX dA h ad σ.txt σ.len σ.wt σ.pr σ.tools σ.load σ.purse σ.beg σ.ways σ.told σ.calls σ.sm σ.sorts σ.visits σ.vm τ.read τ.rm (nI (y_ + 1)) (nI (tkP σ a_)) τ.end_ τ.ents τ.em τ.combos τ.all_ τ.weight τ.gain τ.ad_ τ.minute τ.ds τ.bl τ.chosen) H := hP
                      refine lv_goto (tgt := 71) hx hb dX3_token_134 rfl ?_
                      exact ih_15 (y_ + 1) ls _ _ (by omega) (by omega) (by omega) (by rw [hrn]; exact tkR_s (by omega) (by omega) h94 h121)  (lv_sub hl [0] rfl) hP hS
            exact hL71_13 _ (tkP σ a_ + onN σ (tkP σ a_)) ls _ _ (Nat.lt_succ_self _) (by omega) (by omega) rfl  (lv_sub hl [0] rfl) hP hS
          refine lv_icmp_ge (tgt := 66) hx hb dX3_token_59 rfl (fun h59 => ?_) (fun h59 => ?_)
          · have h59 : σ.len ≤ (tkP σ a_) := (nz_le (a := σ.len) (b := tkP σ a_) rfl rfl (by omega) (by omega)).mp h59
            refine lv_iconst (v := 0) hx hb dX3_token_66 rfl ?_
            exact hJ67_11 (0) ls (by rw [if_pos h59]) (lv_sub hl [0] rfl)
          · have h59 : ¬ (σ.len ≤ (tkP σ a_)) := fun z9 => h59 ((nz_le (a := σ.len) (b := tkP σ a_) rfl rfl (by omega) (by omega)).mpr z9)
            refine lv_iconst (v := 1) hx hb dX3_token_62 rfl ?_
            refine lv_goto (tgt := 67) hx hb dX3_token_63 rfl ?_
            exact hJ67_11 (1) ls (by rw [if_neg h59]) (lv_sub hl [0] rfl)
        · have h22 : (σ.txt x_) = 32 := h22
          refine lv_aload_n hx hb dX3_token_25 rfl (lv_at hl 0 rfl) ?_
          refine lv_dup hx hb dX3_token_26 rfl ?_
          refine va_get (D := D) (ci := 0) (v := .int (nI x_)) (C := RX3) (T := TX3) (N := 31) hx hb hts in_X3 hown hK hP 0 rfl rfl 17 (by decide) (hts _ q1131) (fun _ h9 => h9) rfl dX3_token_27 ?_
          refine lv_iconst (v := 1) hx hb dX3_token_30 rfl ?_
          refine lv_iadd hx hb dX3_token_31 ?_
          refine w_topi (nz_add rfl rfl) ?_
          refine va_put (D := D) (ci := 0) (v := .int (nI (x_ + 1))) (ty := .int) (C := RX3) (T := TX3) (N := 31) hx hb hts in_X3 tyX3 tyX3_ok nmX3 hown hK hP (mD_va hmD dA σ ((τ.read, τ.rm, nI x_, τ.place, τ.end_, τ.ents, τ.em, τ.combos, τ.all_, τ.weight, τ.gain, τ.ad_, τ.minute, τ.ds, τ.bl, τ.chosen) : Sc)) hS 0 rfl rfl 17 (by decide) (hts _ q1131) (fun _ h9 => h9) rfl (by decide +kernel) (rfl) (rfl) (Nat.le_of_ble_eq_true rfl) dX3_token_32 (fun H locs hP _ hS => ?_)
          have hP : va_P D vwCl (mX dA h ad σ.txt σ.len σ.wt σ.pr σ.tools σ.load σ.purse σ.beg σ.ways σ.told σ.calls σ.sm σ.sorts σ.visits σ.vm τ.read τ.rm (nI (x_ + 1)) τ.place τ.end_ τ.ents τ.em τ.combos τ.all_ τ.weight τ.gain τ.ad_ τ.minute τ.ds τ.bl τ.chosen) H := hP
          refine lv_goto (tgt := 0) hx hb dX3_token_35 rfl ?_
          exact ih_3 (x_ + 1) ls _ _ (by omega) (by omega) (by rw [← hsk, skW_s (a := x_) (by omega) h22])  (lv_sub hl [0] rfl) hP hS
  exact hL0_1 _ a_ ls _ _ (Nat.lt_succ_self _) (by omega) rfl  (lv_sub hl [0] rfl) hP hS

/-- whether the token is a word, told by its letters, five bits each -/
def wdG (σ : St) (p : Nat) (w b0 : Int32) : Nat → Int32
  | 0 => b0
  | k + 1 => if wdG σ p w b0 k = 0 then 0 else if σ.txt (p + k) = 96 + ((w >>> ((5 * nI k) &&& 31)) &&& 31) then 1 else 0
def isF (σ : St) (a : Nat) (w : Int32) (n : Nat) : Int32 := wdG σ (tkP σ a) w (if tkE σ a - tkP σ a = n then 1 else 0) n
theorem wd_or {σ : St} {p : Nat} {w b0 : Int32} (h : b0 = 0 ∨ b0 = 1) : ∀ k, wdG σ p w b0 k = 0 ∨ wdG σ p w b0 k = 1
  | 0 => h
  | k + 1 => by
    rw [wdG]
    split
    · exact Or.inl rfl
    · split
      · exact Or.inr rfl
      · exact Or.inl rfl
theorem wd_0 {σ : St} {p : Nat} {w b0 : Int32} {k : Nat} (h : wdG σ p w b0 k = 0) : ∀ d, wdG σ p w b0 (k + d) = 0
  | 0 => h
  | d + 1 => by rw [← Nat.add_assoc, wdG, if_pos (wd_0 h d)]
theorem wd_ne {σ : St} {p : Nat} {w : Int32} {P : Prop} [Decidable P] {k : Nat} (h : ¬ wdG σ p w (if P then 1 else 0) k = 0) : P := by
  by_cases q : P
  · exact q
  · refine absurd ?_ h
    have := wd_0 (σ := σ) (p := p) (w := w) (b0 := if P then 1 else 0) (k := 0) (if_neg q) k
    rwa [Nat.zero_add] at this
theorem is_or (σ : St) (a : Nat) (w : Int32) (n : Nat) : isF σ a w n = 0 ∨ isF σ a w n = 1 := wd_or (by split <;> first | exact Or.inr rfl | exact Or.inl rfl) n
/-- a token as a number -/
def nuG (σ : St) (p : Nat) : Nat → Int32
  | 0 => 0
  | k + 1 => 10 * nuG σ p k + σ.txt (p + k) - 48
def numF (σ : St) (a : Nat) : Int32 := nuG σ (tkP σ a) (tkE σ a - tkP σ a)
abbrev rdP (σ : St) (a : Nat) (lo hi : Int32) : Prop := ¬ tkP σ a = σ.len ∧ kindF (σ.txt (tkP σ a)) = 2 ∧ tkE σ a - tkP σ a ≤ 4 ∧ inP (numF σ a).toInt64 lo.toInt64 hi.toInt64
/-- the number at a token, in its bounds -/
def rdV (σ : St) (a : Nat) (lo hi : Int32) : Option Int32 := if rdP σ a lo hi then some (numF σ a) else none
/-- a word of unlike things, by bits -/
def thG (σ : St) (p : Nat) : Nat → Option Int32
  | 0 => some 0
  | k + 1 => (thG σ p k).bind (fun s => if inP (σ.txt (p + k) - 97).toInt64 0 7 ∧ ¬ hasP s (σ.txt (p + k) - 97) then some (s ||| ((1 : Int32) <<< ((σ.txt (p + k) - 97) &&& 31))) else none)
theorem th_n {σ : St} {p k : Nat} (h : thG σ p k = none) : ∀ d, thG σ p (k + d) = none
  | 0 => h
  | d + 1 => by rw [← Nat.add_assoc, thG, th_n h d]; rfl
theorem th_n2 {σ : St} {p k n : Nat} (h : thG σ p k = none) (hn : k ≤ n) : thG σ p n = none := by
  have := th_n h (n - k)
  rwa [Nat.add_sub_cancel' hn] at this
def thV (σ : St) (a : Nat) : Option Int32 := (thG σ (tkP σ a) (tkE σ a - tkP σ a)).bind (fun s => if s ≤ 0 then none else some s)

def rmX3_isWord : Room := { frames := 0, cells := 0, slots := 0, locals := 0 }
set_option maxHeartbeats 1000000 in
theorem mt_X3_isWord (l : Launch) (D : va_G) (dA : Nat → ClassId) (h : Nat) (ad : Nat → Nat) (σ : St) (τ : Sc) (a_ : Nat) (w_ : Int32) (n_ : Nat) (hI : Inv σ) (ha : a_ ≤ σ.len) (hn : n_ ≤ 5) : Met l yX3_isWord (ws_ yX3_isWord cX3_isWord 5 (some .boolean)) rmX3_isWord (va_Pc [.ref h, .int w_, .int (nI n_)] (mB D dA h ad σ ((τ.read, τ.rm, τ.at_, nI (tkP σ a_), nI (tkE σ a_), τ.ents, τ.em, τ.combos, τ.all_, τ.weight, τ.gain, τ.ad_, τ.minute, τ.ds, τ.bl, τ.chosen) : Sc))) (vp_Si (fun r => r = isF σ a_ w_ n_)) 0 0 (fun _ => False) := by
  refine w_start (by decide) (Nat.le_of_ble_eq_true rfl) ?_
  intro p e s m args below meth c Q ls hQ hx hb hr hlocks hml hown hnm hts hB hl
  have hown : s.vm.findClass RX3 = some m.cls := hown
  have hl : lv_has ls 5 [(0, .ref h), (1, .int w_), (2, .int (nI n_))] := hl
  obtain ⟨hP, hK⟩ := hB
  have hP : va_P D vwCl (mX dA h ad σ.txt σ.len σ.wt σ.pr σ.tools σ.load σ.purse σ.beg σ.ways σ.told σ.calls σ.sm σ.sorts σ.visits σ.vm τ.read τ.rm τ.at_ (nI (tkP σ a_)) (nI (tkE σ a_)) τ.ents τ.em τ.combos τ.all_ τ.weight τ.gain τ.ad_ τ.minute τ.ds τ.bl τ.chosen) s.heap := hP
  have hlen := hI.len
  have htp := tkP_b ha
  have htb := tkE_b ha
  refine lv_aload_n hx hb dX3_isWord_0 rfl (lv_at hl 0 rfl) ?_
  refine va_get (D := D) (ci := 0) (v := .int (nI (tkE σ a_))) (C := RX3) (T := TX3) (N := 31) hx hb hts in_X3 hown hK hP 0 rfl rfl 19 (by decide) (hts _ q1133) (fun _ h9 => h9) rfl dX3_isWord_1 ?_
  refine lv_aload_n hx hb dX3_isWord_4 rfl (lv_at hl 0 rfl) ?_
  refine va_get (D := D) (ci := 0) (v := .int (nI (tkP σ a_))) (C := RX3) (T := TX3) (N := 31) hx hb hts in_X3 hown hK hP 0 rfl rfl 18 (by decide) (hts _ q1132) (fun _ h9 => h9) rfl dX3_isWord_5 ?_
  refine lv_isub hx hb dX3_isWord_8 ?_
  refine lv_iload_n hx hb dX3_isWord_9 rfl (lv_at hl 2 rfl) ?_
  have hJ18_1 : ∀ (v_2 : Int32) (ls : Array Slot), v_2 = (if ((tkE σ a_) - (tkP σ a_)) = n_ then 1 else 0) → lv_has ls 5 [(0, .ref h), (1, .int w_), (2, .int (nI n_))] → W p l e rmX3_isWord s m args below meth c s.heap [] 0 0 Q (F0 m 18 ls [.int v_2]) := by
    intro v_2 ls ev_2 hl
    refine lv_istore_n (lv' := [(3, .int v_2), (0, .ref h), (1, .int w_), (2, .int (nI n_))]) hx hb dX3_isWord_18 rfl hl (by decide) rfl (fun ls hl => ?_)
    refine lv_iconst (v := 0) hx hb dX3_isWord_19 rfl ?_
    refine lv_istore (lv' := [(4, .int 0), (3, .int v_2), (0, .ref h), (1, .int w_), (2, .int (nI n_))]) hx hb dX3_isWord_20 hl (by decide) rfl (fun ls hl => ?_)
    have hL22_3 : ∀ (n_4 : Nat) (k : Nat) (x4 : Int32) (x3 : Int32) (ls : Array Slot), (n_ - k) < n_4 → (k ≤ n_) → x4 = (nI k) → x3 = (wdG σ (tkP σ a_) w_ (if tkE σ a_ - tkP σ a_ = n_ then 1 else 0) k) → lv_has ls 5 [(4, .int x4), (3, .int x3), (0, .ref h), (1, .int w_), (2, .int (nI n_))] → W p l e rmX3_isWord s m args below meth c s.heap [] 0 0 Q (F0 m 22 ls []) := by
      intro n_4
      induction n_4 with
      | zero => intro k x4 x3 ls hm_6; exact absurd hm_6 (Nat.not_lt_zero _)
      | succ n_4 ih_5 =>
        intro k x4 x3 ls hm_6 hk ex4 ex3 hl
        subst ex4 ex3
        refine lv_iload_n hx hb dX3_isWord_22 rfl (lv_at hl 1 rfl) ?_
        refine lv_if_eq (tgt := 71) hx hb dX3_isWord_23 rfl (fun h23 => ?_) (fun h23 => ?_)
        · have h23 : (wdG σ (tkP σ a_) w_ (if tkE σ a_ - tkP σ a_ = n_ then 1 else 0) k) = 0 := h23
          refine lv_iload_n hx hb dX3_isWord_71 rfl (lv_at hl 1 rfl) ?_
          exact r_z hQ hx hb hr hlocks rfl (wd_or (by split <;> first | exact Or.inr rfl | exact Or.inl rfl) _) (by have z := wd_0 h23 (n_ - k); rw [Nat.add_sub_cancel' hk] at z; rw [h23]; exact z.symm) dX3_isWord_72
        · have h23 : ¬ ((wdG σ (tkP σ a_) w_ (if tkE σ a_ - tkP σ a_ = n_ then 1 else 0) k) = 0) := h23
          have hq := wd_ne h23
          refine lv_iload hx hb dX3_isWord_26 (lv_at hl 0 rfl) ?_
          refine lv_iload_n hx hb dX3_isWord_28 rfl (lv_at hl 4 rfl) ?_
          refine lv_icmp_ge (tgt := 71) hx hb dX3_isWord_29 rfl (fun h29 => ?_) (fun h29 => ?_)
          · have h29 : n_ ≤ k := (nz_le (a := n_) (b := k) rfl rfl (by omega) (by omega)).mp h29
            obtain rfl : k = n_ := by omega
            refine lv_iload_n hx hb dX3_isWord_71 rfl (lv_at hl 1 rfl) ?_
            exact r_z hQ hx hb hr hlocks rfl (wd_or (by split <;> first | exact Or.inr rfl | exact Or.inl rfl) _) (rfl) dX3_isWord_72
          · have h29 : ¬ (n_ ≤ k) := fun z9 => h29 ((nz_le (a := n_) (b := k) rfl rfl (by omega) (by omega)).mpr z9)
            refine lv_aload_n hx hb dX3_isWord_32 rfl (lv_at hl 2 rfl) ?_
            refine va_get (D := D) (ci := 0) (v := .ref (ad 0)) (C := RX3) (T := TX3) (N := 31) hx hb hts in_X3 hown hK hP 0 rfl rfl 0 (by decide) (hts _ q1114) (fun _ h9 => h9) rfl dX3_isWord_33 ?_
            refine lv_aload_n hx hb dX3_isWord_36 rfl (lv_at hl 2 rfl) ?_
            refine va_get (D := D) (ci := 0) (v := .int (nI (tkP σ a_))) (C := RX3) (T := TX3) (N := 31) hx hb hts in_X3 hown hK hP 0 rfl rfl 18 (by decide) (hts _ q1132) (fun _ h9 => h9) rfl dX3_isWord_37 ?_
            refine lv_iload hx hb dX3_isWord_40 (lv_at hl 0 rfl) ?_
            refine lv_iadd hx hb dX3_isWord_42 ?_
            refine wa_iald (f := σ.txt) hx hb hK hP 1 0 rfl rfl ((tkP σ a_) + k) ((nz_add rfl rfl)) (by omega) (by decide) dX3_isWord_43 ?_
            refine lv_bipush (v := 96) hx hb dX3_isWord_44 rfl ?_
            refine lv_iload_n hx hb dX3_isWord_46 rfl (lv_at hl 3 rfl) ?_
            refine lv_iconst (v := 5) hx hb dX3_isWord_47 rfl ?_
            refine lv_iload hx hb dX3_isWord_48 (lv_at hl 0 rfl) ?_
            refine lv_imul hx hb dX3_isWord_50 ?_
            refine lv_ishr hx hb dX3_isWord_51 ?_
            refine lv_bipush (v := 31) hx hb dX3_isWord_52 rfl ?_
            refine lv_iand hx hb dX3_isWord_54 ?_
            refine lv_iadd hx hb dX3_isWord_55 ?_
            have hJ64_7 : ∀ (v_8 : Int32) (ls : Array Slot), v_8 = (if (σ.txt ((tkP σ a_) + k)) = (96 + ((w_ >>> ((5 * (nI k)) &&& 31)) &&& 31)) then 1 else 0) → lv_has ls 5 [(4, .int (nI k)), (3, .int (wdG σ (tkP σ a_) w_ (if tkE σ a_ - tkP σ a_ = n_ then 1 else 0) k)), (0, .ref h), (1, .int w_), (2, .int (nI n_))] → W p l e rmX3_isWord s m args below meth c s.heap [] 0 0 Q (F0 m 64 ls [.int v_8]) := by
              intro v_8 ls ev_8 hl
              refine lv_istore_n (lv' := [(3, .int v_8), (4, .int (nI k)), (0, .ref h), (1, .int w_), (2, .int (nI n_))]) hx hb dX3_isWord_64 rfl hl (by decide) rfl (fun ls hl => ?_)
              refine lv_iinc (v := nI (k + 1)) (lv' := [(4, .int (nI (k + 1))), (3, .int v_8), (0, .ref h), (1, .int w_), (2, .int (nI n_))]) hx hb dX3_isWord_65 hl (k := 1) rfl (nI_1 k) (by decide) rfl (fun ls hl => ?_)
              refine lv_goto (tgt := 22) hx hb dX3_isWord_68 rfl ?_
              exact ih_5 (k + 1) (nI (k + 1)) v_8 ls (by omega) (by omega) rfl (by subst_vars; rw [wdG, if_neg h23]) (lv_sub hl [0, 1, 2, 3, 4] rfl)
            refine lv_icmp_ne (tgt := 63) hx hb dX3_isWord_56 rfl (fun h56 => ?_) (fun h56 => ?_)
            · have h56 : ¬ ((σ.txt ((tkP σ a_) + k)) = (96 + ((w_ >>> ((5 * (nI k)) &&& 31)) &&& 31))) := h56
              refine lv_iconst (v := 0) hx hb dX3_isWord_63 rfl ?_
              exact hJ64_7 (0) ls (by rw [if_neg h56]) (lv_sub hl [0, 1, 2, 3, 4] rfl)
            · have h56 : (σ.txt ((tkP σ a_) + k)) = (96 + ((w_ >>> ((5 * (nI k)) &&& 31)) &&& 31)) := h56
              refine lv_iconst (v := 1) hx hb dX3_isWord_59 rfl ?_
              refine lv_goto (tgt := 64) hx hb dX3_isWord_60 rfl ?_
              exact hJ64_7 (1) ls (by rw [if_pos h56]) (lv_sub hl [0, 1, 2, 3, 4] rfl)
    exact hL22_3 _ 0 0 v_2 ls (Nat.lt_succ_self _) (by omega) rfl (by subst_vars; rw [wdG]) (lv_sub hl [0, 1, 2, 3, 4] rfl)
  refine lv_icmp_ne (tgt := 17) hx hb dX3_isWord_10 rfl (fun h10 => ?_) (fun h10 => ?_)
  · have h10 : ¬ (((tkE σ a_) - (tkP σ a_)) = n_) := fun z9 => h10 ((nz_eq (a := (tkE σ a_) - (tkP σ a_)) (b := n_) (nz_sub (a := tkE σ a_) (b := tkP σ a_) rfl rfl (by omega)) rfl (by omega) (by omega)).mpr z9)
    refine lv_iconst (v := 0) hx hb dX3_isWord_17 rfl ?_
    exact hJ18_1 (0) ls (by rw [if_neg h10]) (lv_sub hl [0, 1, 2] rfl)
  · have h10 : ((tkE σ a_) - (tkP σ a_)) = n_ := (nz_eq (a := (tkE σ a_) - (tkP σ a_)) (b := n_) (nz_sub (a := tkE σ a_) (b := tkP σ a_) rfl rfl (by omega)) rfl (by omega) (by omega)).mp h10
    refine lv_iconst (v := 1) hx hb dX3_isWord_13 rfl ?_
    refine lv_goto (tgt := 18) hx hb dX3_isWord_14 rfl ?_
    exact hJ18_1 (1) ls (by rw [if_pos h10]) (lv_sub hl [0, 1, 2] rfl)

def rmX3_number : Room := { frames := 0, cells := 0, slots := 0, locals := 0 }
set_option maxHeartbeats 1000000 in
theorem mt_X3_number (l : Launch) (D : va_G) (dA : Nat → ClassId) (h : Nat) (ad : Nat → Nat) (σ : St) (τ : Sc) (a_ : Nat) (hI : Inv σ) (ha : a_ ≤ σ.len) : Met l yX3_number (ws_ yX3_number cX3_number 3 (some .int)) rmX3_number (va_Pc [.ref h] (mB D dA h ad σ ((τ.read, τ.rm, τ.at_, nI (tkP σ a_), nI (tkE σ a_), τ.ents, τ.em, τ.combos, τ.all_, τ.weight, τ.gain, τ.ad_, τ.minute, τ.ds, τ.bl, τ.chosen) : Sc))) (vp_Si (fun r => r = numF σ a_)) 0 0 (fun _ => False) := by
  refine w_start (by decide) (Nat.le_of_ble_eq_true rfl) ?_
  intro p e s m args below meth c Q ls hQ hx hb hr hlocks hml hown hnm hts hB hl
  have hown : s.vm.findClass RX3 = some m.cls := hown
  have hl : lv_has ls 3 [(0, .ref h)] := hl
  obtain ⟨hP, hK⟩ := hB
  have hP : va_P D vwCl (mX dA h ad σ.txt σ.len σ.wt σ.pr σ.tools σ.load σ.purse σ.beg σ.ways σ.told σ.calls σ.sm σ.sorts σ.visits σ.vm τ.read τ.rm τ.at_ (nI (tkP σ a_)) (nI (tkE σ a_)) τ.ents τ.em τ.combos τ.all_ τ.weight τ.gain τ.ad_ τ.minute τ.ds τ.bl τ.chosen) s.heap := hP
  have hlen := hI.len
  have htp := tkP_b ha
  have htb := tkE_b ha
  refine lv_iconst (v := 0) hx hb dX3_number_0 rfl ?_
  refine lv_istore_n (lv' := [(1, .int 0), (0, .ref h)]) hx hb dX3_number_1 rfl hl (by decide) rfl (fun ls hl => ?_)
  refine lv_aload_n hx hb dX3_number_2 rfl (lv_at hl 1 rfl) ?_
  refine va_get (D := D) (ci := 0) (v := .int (nI (tkP σ a_))) (C := RX3) (T := TX3) (N := 31) hx hb hts in_X3 hown hK hP 0 rfl rfl 18 (by decide) (hts _ q1132) (fun _ h9 => h9) rfl dX3_number_3 ?_
  refine lv_istore_n (lv' := [(2, .int (nI (tkP σ a_))), (1, .int 0), (0, .ref h)]) hx hb dX3_number_6 rfl hl (by decide) rfl (fun ls hl => ?_)
  have hL7_1 : ∀ (n_2 : Nat) (k : Nat) (x2 : Int32) (x1 : Int32) (ls : Array Slot), (tkE σ a_ - tkP σ a_ - k) < n_2 → (tkP σ a_ + k ≤ tkE σ a_) → x2 = (nI (tkP σ a_ + k)) → x1 = (nuG σ (tkP σ a_) k) → lv_has ls 3 [(2, .int x2), (1, .int x1), (0, .ref h)] → W p l e rmX3_number s m args below meth c s.heap [] 0 0 Q (F0 m 7 ls []) := by
    intro n_2
    induction n_2 with
    | zero => intro k x2 x1 ls hm_4; exact absurd hm_4 (Nat.not_lt_zero _)
    | succ n_2 ih_3 =>
      intro k x2 x1 ls hm_4 hk ex2 ex1 hl
      subst ex2 ex1
      refine lv_iload_n hx hb dX3_number_7 rfl (lv_at hl 0 rfl) ?_
      refine lv_aload_n hx hb dX3_number_8 rfl (lv_at hl 2 rfl) ?_
      refine va_get (D := D) (ci := 0) (v := .int (nI (tkE σ a_))) (C := RX3) (T := TX3) (N := 31) hx hb hts in_X3 hown hK hP 0 rfl rfl 19 (by decide) (hts _ q1133) (fun _ h9 => h9) rfl dX3_number_9 ?_
      refine lv_icmp_ge (tgt := 36) hx hb dX3_number_12 rfl (fun h12 => ?_) (fun h12 => ?_)
      · have h12 : (tkE σ a_) ≤ (tkP σ a_ + k) := (nz_le (a := tkE σ a_) (b := tkP σ a_ + k) rfl rfl (by omega) (by omega)).mp h12
        obtain rfl : k = tkE σ a_ - tkP σ a_ := by omega
        refine lv_iload_n hx hb dX3_number_36 rfl (lv_at hl 1 rfl) ?_
        exact r_i hQ hx hb hr hlocks rfl (rfl) dX3_number_37
      · have h12 : ¬ ((tkE σ a_) ≤ (tkP σ a_ + k)) := fun z9 => h12 ((nz_le (a := tkE σ a_) (b := tkP σ a_ + k) rfl rfl (by omega) (by omega)).mpr z9)
        refine lv_bipush (v := 10) hx hb dX3_number_15 rfl ?_
        refine lv_iload_n hx hb dX3_number_17 rfl (lv_at hl 1 rfl) ?_
        refine lv_imul hx hb dX3_number_18 ?_
        refine lv_aload_n hx hb dX3_number_19 rfl (lv_at hl 2 rfl) ?_
        refine va_get (D := D) (ci := 0) (v := .ref (ad 0)) (C := RX3) (T := TX3) (N := 31) hx hb hts in_X3 hown hK hP 0 rfl rfl 0 (by decide) (hts _ q1114) (fun _ h9 => h9) rfl dX3_number_20 ?_
        refine lv_iload_n hx hb dX3_number_23 rfl (lv_at hl 0 rfl) ?_
        refine wa_iald (f := σ.txt) hx hb hK hP 1 0 rfl rfl (tkP σ a_ + k) (rfl) (by omega) (by decide) dX3_number_24 ?_
        refine lv_iadd hx hb dX3_number_25 ?_
        refine lv_bipush (v := 48) hx hb dX3_number_26 rfl ?_
        refine lv_isub hx hb dX3_number_28 ?_
        refine lv_istore_n (lv' := [(1, .int (((10 * (nuG σ (tkP σ a_) k)) + (σ.txt (tkP σ a_ + k))) - 48)), (2, .int (nI (tkP σ a_ + k))), (0, .ref h)]) hx hb dX3_number_29 rfl hl (by decide) rfl (fun ls hl => ?_)
        refine lv_iinc (v := nI (tkP σ a_ + k + 1)) (lv' := [(2, .int (nI (tkP σ a_ + k + 1))), (1, .int (((10 * (nuG σ (tkP σ a_) k)) + (σ.txt (tkP σ a_ + k))) - 48)), (0, .ref h)]) hx hb dX3_number_30 hl (k := 1) rfl (nI_1 (tkP σ a_ + k)) (by decide) rfl (fun ls hl => ?_)
        refine lv_goto (tgt := 7) hx hb dX3_number_33 rfl ?_
        exact ih_3 (k + 1) (nI (tkP σ a_ + k + 1)) (((10 * (nuG σ (tkP σ a_) k)) + (σ.txt (tkP σ a_ + k))) - 48) ls (by omega) (by omega) rfl (by subst_vars; rw [nuG]) (lv_sub hl [0, 1, 2] rfl)
  exact hL7_1 _ 0 (nI (tkP σ a_)) 0 ls (Nat.lt_succ_self _) (by omega) rfl (by subst_vars; rw [nuG]) (lv_sub hl [0, 1, 2] rfl)

theorem cw_X3_X3_token {R : Room} {s : State} {args : Array Value} (hts : ∀ w ∈ lw_all, w.before args s = true) (hR : rmX3_token.frames + 1 ≤ R.frames ∧ 8 + (1 + 11) + rmX3_token.locals ≤ R.locals) : CallW R s args RX3 RX3 80 yX3_token cX3_token 1 none (ws_ yX3_token cX3_token 1 none) rmX3_token 0 0 0 := cwV 0 hts (lw_V q1225 q1227 qs35 q83 q1228) rfl rfl rfl (by decide +kernel) hR
def rmX3_reads : Room := { frames := 2, cells := 0, slots := 0, locals := 40 }
set_option maxHeartbeats 1000000 in
theorem mt_X3_reads (l : Launch) (D : va_G) (dA : Nat → ClassId) (h : Nat) (ad : Nat → Nat) (σ : St) (τ : Sc) (hmD : mD h ad) (a_ : Nat) (f_ : Nat → Int32) (r_ : Nat) (k_ : Nat) (lo_ : Int32) (hi_ : Int32) (hI : Inv σ) (ha : a_ ≤ σ.len) (hr10 : r_ < 10) (hk7 : k_ < 7) : Met l yX3_reads (ws_ yX3_reads cX3_reads 6 (some .boolean)) rmX3_reads (va_Pc [.ref h, .int (nI k_), .int lo_, .int hi_] (mB D dA h ad σ ((f_, nI r_, nI (tkE σ a_), nI (tkP σ a_), nI (tkE σ a_), τ.ents, τ.em, τ.combos, τ.all_, τ.weight, τ.gain, τ.ad_, τ.minute, τ.ds, τ.bl, τ.chosen) : Sc))) (va_Qi (fun r (u : MS) => (r = 1 ∧ ∃ v : Int32, u = (σ, ((upd f_ (8 * r_ + 1 + k_) v, nI r_, nI (tkE σ (tkE σ a_)), nI (tkP σ (tkE σ a_)), nI (tkE σ (tkE σ a_)), τ.ents, τ.em, τ.combos, τ.all_, τ.weight, τ.gain, τ.ad_, τ.minute, τ.ds, τ.bl, τ.chosen) : Sc)) ∧ rdV σ a_ lo_ hi_ = some v) ∨ (r = 0 ∧ u = (σ, ((f_, nI r_, nI (tkE σ a_), nI (tkP σ a_), nI (tkE σ a_), τ.ents, τ.em, τ.combos, τ.all_, τ.weight, τ.gain, τ.ad_, τ.minute, τ.ds, τ.bl, τ.chosen) : Sc)) ∧ rdV σ a_ lo_ hi_ = none)) (fun u t => mB D dA h ad u.1 u.2 t) (mA h ad)) 0 0 (mA h ad) := by
  refine w_start (by decide) (Nat.le_of_ble_eq_true rfl) ?_
  intro p e s m args below meth c Q ls hQ hx hb hr hlocks hml hown hnm hts hB hl
  have hown : s.vm.findClass RX3 = some m.cls := hown
  have hl : lv_has ls 6 [(0, .ref h), (1, .int (nI k_)), (2, .int lo_), (3, .int hi_)] := hl
  obtain ⟨hP, hK⟩ := hB
  have hP : va_P D vwCl (mX dA h ad σ.txt σ.len σ.wt σ.pr σ.tools σ.load σ.purse σ.beg σ.ways σ.told σ.calls σ.sm σ.sorts σ.visits σ.vm f_ (nI r_) (nI (tkE σ a_)) (nI (tkP σ a_)) (nI (tkE σ a_)) τ.ents τ.em τ.combos τ.all_ τ.weight τ.gain τ.ad_ τ.minute τ.ds τ.bl τ.chosen) s.heap := hP
  have hS : va_S (mA h ad) s.heap s.heap [] := va_S.rf
  have hlen := hI.len
  have htp := tkP_b ha
  have htb := tkE_b ha
  refine lv_aload_n hx hb dX3_reads_0 rfl (lv_at hl 0 rfl) ?_
  refine va_get (D := D) (ci := 0) (v := .int (nI (tkP σ a_))) (C := RX3) (T := TX3) (N := 31) hx hb hts in_X3 hown hK hP 0 rfl rfl 18 (by decide) (hts _ q1132) (fun _ h9 => h9) rfl dX3_reads_1 ?_
  refine lv_aload_n hx hb dX3_reads_4 rfl (lv_at hl 0 rfl) ?_
  refine va_get (D := D) (ci := 0) (v := .int (nI σ.len)) (C := RX3) (T := TX3) (N := 31) hx hb hts in_X3 hown hK hP 0 rfl rfl 1 (by decide) (hts _ q1115) (fun _ h9 => h9) rfl dX3_reads_5 ?_
  refine lv_icmp_eq (tgt := 40) hx hb dX3_reads_8 rfl (fun h8 => ?_) (fun h8 => ?_)
  · have h8 : (tkP σ a_) = σ.len := (nz_eq (a := tkP σ a_) (b := σ.len) rfl rfl (by omega) (by omega)).mp h8
    refine lv_iconst (v := 0) hx hb dX3_reads_40 rfl ?_
    exact rm_z (u := (σ, ((f_, nI r_, nI (tkE σ a_), nI (tkP σ a_), nI (tkE σ a_), τ.ents, τ.em, τ.combos, τ.all_, τ.weight, τ.gain, τ.ad_, τ.minute, τ.ds, τ.bl, τ.chosen) : Sc))) hQ hx hb hr hlocks hK hP hS (Or.inl rfl) ((Or.inr ⟨rfl, (by subst_vars; rfl), (if_neg (fun q => q.1 h8))⟩)) dX3_reads_41
  · have h8 : ¬ ((tkP σ a_) = σ.len) := fun z9 => h8 ((nz_eq (a := tkP σ a_) (b := σ.len) rfl rfl (by omega) (by omega)).mpr z9)
    refine lv_aload_n hx hb dX3_reads_11 rfl (lv_at hl 0 rfl) ?_
    refine va_get (D := D) (ci := 0) (v := .ref (ad 0)) (C := RX3) (T := TX3) (N := 31) hx hb hts in_X3 hown hK hP 0 rfl rfl 0 (by decide) (hts _ q1114) (fun _ h9 => h9) rfl dX3_reads_12 ?_
    refine lv_aload_n hx hb dX3_reads_15 rfl (lv_at hl 0 rfl) ?_
    refine va_get (D := D) (ci := 0) (v := .int (nI (tkP σ a_))) (C := RX3) (T := TX3) (N := 31) hx hb hts in_X3 hown hK hP 0 rfl rfl 18 (by decide) (hts _ q1132) (fun _ h9 => h9) rfl dX3_reads_16 ?_
    refine wa_iald (f := σ.txt) hx hb hK hP 1 0 rfl rfl (tkP σ a_) (rfl) (by omega) (by decide) dX3_reads_19 ?_
    refine cSi (As := [.int (σ.txt (tkP σ a_))]) (rest := []) ⟨hx, hb, hml, hown, hts⟩ (mt_X3_kind l (σ.txt (tkP σ a_))) (cw_X3_X3_kind hts ⟨Nat.le_of_ble_eq_true rfl, Nat.le_of_ble_eq_true rfl⟩) w_blT (fun _ _ _ => trivial) rfl hl.1 rfl (Nat.le_of_ble_eq_true rfl) dX3_reads_20 ⟨Nat.le_of_ble_eq_true rfl, Nat.le_of_ble_eq_true rfl⟩ ?_
    refine lv_iconst (v := 2) hx hb dX3_reads_23 rfl ?_
    refine lv_icmp_ne (tgt := 40) hx hb dX3_reads_24 rfl (fun h24 => ?_) (fun h24 => ?_)
    · have h24 : ¬ ((kindF (σ.txt (tkP σ a_))) = 2) := h24
      refine lv_iconst (v := 0) hx hb dX3_reads_40 rfl ?_
      exact rm_z (u := (σ, ((f_, nI r_, nI (tkE σ a_), nI (tkP σ a_), nI (tkE σ a_), τ.ents, τ.em, τ.combos, τ.all_, τ.weight, τ.gain, τ.ad_, τ.minute, τ.ds, τ.bl, τ.chosen) : Sc))) hQ hx hb hr hlocks hK hP hS (Or.inl rfl) ((Or.inr ⟨rfl, (by subst_vars; rfl), (if_neg (fun q => h24 q.2.1))⟩)) dX3_reads_41
    · have h24 : (kindF (σ.txt (tkP σ a_))) = 2 := h24
      refine lv_aload_n hx hb dX3_reads_27 rfl (lv_at hl 0 rfl) ?_
      refine va_get (D := D) (ci := 0) (v := .int (nI (tkE σ a_))) (C := RX3) (T := TX3) (N := 31) hx hb hts in_X3 hown hK hP 0 rfl rfl 19 (by decide) (hts _ q1133) (fun _ h9 => h9) rfl dX3_reads_28 ?_
      refine lv_aload_n hx hb dX3_reads_31 rfl (lv_at hl 0 rfl) ?_
      refine va_get (D := D) (ci := 0) (v := .int (nI (tkP σ a_))) (C := RX3) (T := TX3) (N := 31) hx hb hts in_X3 hown hK hP 0 rfl rfl 18 (by decide) (hts _ q1132) (fun _ h9 => h9) rfl dX3_reads_32 ?_
      refine lv_isub hx hb dX3_reads_35 ?_
      refine lv_iconst (v := 4) hx hb dX3_reads_36 rfl ?_
      refine lv_icmp_le (tgt := 42) hx hb dX3_reads_37 rfl (fun h37 => ?_) (fun h37 => ?_)
      · have h37 : ((tkE σ a_) - (tkP σ a_)) ≤ 4 := (nz_le (a := (tkE σ a_) - (tkP σ a_)) (b := 4) (nz_sub (a := tkE σ a_) (b := tkP σ a_) rfl rfl (by omega)) rfl (by omega) (by omega)).mp h37
        refine lv_iconst (v := 0) hx hb dX3_reads_42 rfl ?_
        refine lv_istore (lv' := [(4, .int 0), (0, .ref h), (1, .int (nI k_)), (2, .int lo_), (3, .int hi_)]) hx hb dX3_reads_43 hl (by decide) rfl (fun ls hl => ?_)
        refine lv_aload_n hx hb dX3_reads_45 rfl (lv_at hl 1 rfl) ?_
        refine va_get (D := D) (ci := 0) (v := .int (nI (tkP σ a_))) (C := RX3) (T := TX3) (N := 31) hx hb hts in_X3 hown hK hP 0 rfl rfl 18 (by decide) (hts _ q1132) (fun _ h9 => h9) rfl dX3_reads_46 ?_
        refine lv_istore (lv' := [(5, .int (nI (tkP σ a_))), (4, .int 0), (0, .ref h), (1, .int (nI k_)), (2, .int lo_), (3, .int hi_)]) hx hb dX3_reads_49 hl (by decide) rfl (fun ls hl => ?_)
        have hL51_1 : ∀ (n_2 : Nat) (k : Nat) (x5 : Int32) (x4 : Int32) (ls : Array Slot), (tkE σ a_ - tkP σ a_ - k) < n_2 → (tkP σ a_ + k ≤ tkE σ a_) → x5 = (nI (tkP σ a_ + k)) → x4 = (nuG σ (tkP σ a_) k) → lv_has ls 6 [(5, .int x5), (4, .int x4), (0, .ref h), (1, .int (nI k_)), (2, .int lo_), (3, .int hi_)] → W p l e rmX3_reads s m args below meth c s.heap [] 0 0 Q (F0 m 51 ls []) := by
          intro n_2
          induction n_2 with
          | zero => intro k x5 x4 ls hm_4; exact absurd hm_4 (Nat.not_lt_zero _)
          | succ n_2 ih_3 =>
            intro k x5 x4 ls hm_4 hk ex5 ex4 hl
            subst ex5 ex4
            refine lv_iload hx hb dX3_reads_51 (lv_at hl 0 rfl) ?_
            refine lv_aload_n hx hb dX3_reads_53 rfl (lv_at hl 2 rfl) ?_
            refine va_get (D := D) (ci := 0) (v := .int (nI (tkE σ a_))) (C := RX3) (T := TX3) (N := 31) hx hb hts in_X3 hown hK hP 0 rfl rfl 19 (by decide) (hts _ q1133) (fun _ h9 => h9) rfl dX3_reads_54 ?_
            refine lv_icmp_ge (tgt := 84) hx hb dX3_reads_57 rfl (fun h57 => ?_) (fun h57 => ?_)
            · have h57 : (tkE σ a_) ≤ (tkP σ a_ + k) := (nz_le (a := tkE σ a_) (b := tkP σ a_ + k) rfl rfl (by omega) (by omega)).mp h57
              obtain rfl : k = tkE σ a_ - tkP σ a_ := by omega
              refine lv_iload hx hb dX3_reads_84 (lv_at hl 1 rfl) ?_
              refine lv_i2l (v := (nuG σ (tkP σ a_) (tkE σ a_ - tkP σ a_) : Int32).toInt64) hx hb dX3_reads_86 rfl ?_
              refine lv_iload_n hx hb dX3_reads_87 rfl (lv_at hl 4 rfl) ?_
              refine lv_i2l (v := (lo_ : Int32).toInt64) hx hb dX3_reads_88 rfl ?_
              refine lv_iload_n hx hb dX3_reads_89 rfl (lv_at hl 5 rfl) ?_
              refine lv_i2l (v := (hi_ : Int32).toInt64) hx hb dX3_reads_90 rfl ?_
              refine cSi (As := [.long ((nuG σ (tkP σ a_) (tkE σ a_ - tkP σ a_) : Int32).toInt64), .long ((lo_ : Int32).toInt64), .long ((hi_ : Int32).toInt64)]) (rest := []) ⟨hx, hb, hml, hown, hts⟩ (mt_X3_in l ((nuG σ (tkP σ a_) (tkE σ a_ - tkP σ a_) : Int32).toInt64) ((lo_ : Int32).toInt64) ((hi_ : Int32).toInt64)) (cw_X3_X3_in hts ⟨Nat.le_of_ble_eq_true rfl, Nat.le_of_ble_eq_true rfl⟩) w_blT (fun _ _ _ => trivial) rfl hl.1 rfl (Nat.le_of_ble_eq_true rfl) dX3_reads_91 ⟨Nat.le_of_ble_eq_true rfl, Nat.le_of_ble_eq_true rfl⟩ ?_
              refine lv_if_ne (tgt := 99) hx hb dX3_reads_94 rfl (fun h94 => ?_) (fun h94 => ?_)
              · have h94 : inP ((nuG σ (tkP σ a_) (tkE σ a_ - tkP σ a_) : Int32).toInt64) ((lo_ : Int32).toInt64) ((hi_ : Int32).toInt64) := b01_n h94
                refine lv_aload_n hx hb dX3_reads_99 rfl (lv_at hl 2 rfl) ?_
                refine va_get (D := D) (ci := 0) (v := .ref (ad 1)) (C := RX3) (T := TX3) (N := 31) hx hb hts in_X3 hown hK hP 0 rfl rfl 2 (by decide) (hts _ q1116) (fun _ h9 => h9) rfl dX3_reads_100 ?_
                refine lv_bipush (v := 8) hx hb dX3_reads_103 rfl ?_
                refine lv_aload_n hx hb dX3_reads_105 rfl (lv_at hl 2 rfl) ?_
                refine va_get (D := D) (ci := 0) (v := .int (nI r_)) (C := RX3) (T := TX3) (N := 31) hx hb hts in_X3 hown hK hP 0 rfl rfl 3 (by decide) (hts _ q1117) (fun _ h9 => h9) rfl dX3_reads_106 ?_
                refine lv_imul hx hb dX3_reads_109 ?_
                refine lv_iconst (v := 1) hx hb dX3_reads_110 rfl ?_
                refine lv_iadd hx hb dX3_reads_111 ?_
                refine lv_iload_n hx hb dX3_reads_112 rfl (lv_at hl 3 rfl) ?_
                refine lv_iadd hx hb dX3_reads_113 ?_
                refine lv_iload hx hb dX3_reads_114 (lv_at hl 1 rfl) ?_
                refine wa_iast (f := f_) hx hb hK hP (mD_va hmD dA σ ((f_, nI r_, nI (tkE σ a_), nI (tkP σ a_), nI (tkE σ a_), τ.ents, τ.em, τ.combos, τ.all_, τ.weight, τ.gain, τ.ad_, τ.minute, τ.ds, τ.bl, τ.chosen) : Sc)) hS 2 0 rfl rfl (((8 * r_) + 1) + k_) ((nz_add (nz_add (nz_mul rfl rfl) rfl) rfl)) (by omega) (by decide) dX3_reads_116 (fun H locs f_5 ef_5 hP hS => ?_)
                have hP : va_P D vwCl (mX dA h ad σ.txt σ.len σ.wt σ.pr σ.tools σ.load σ.purse σ.beg σ.ways σ.told σ.calls σ.sm σ.sorts σ.visits σ.vm f_5 (nI r_) (nI (tkE σ a_)) (nI (tkP σ a_)) (nI (tkE σ a_)) τ.ents τ.em τ.combos τ.all_ τ.weight τ.gain τ.ad_ τ.minute τ.ds τ.bl τ.chosen) H := hP
                refine lv_aload_n hx hb dX3_reads_117 rfl (lv_at hl 2 rfl) ?_
                refine mcVv (As := []) (rest := []) ⟨hx, hb, hml, hown, hts⟩ (mt_X3_token l D dA h ad σ ((f_5, nI r_, nI (tkE σ a_), nI (tkP σ a_), nI (tkE σ a_), τ.ents, τ.em, τ.combos, τ.all_, τ.weight, τ.gain, τ.ad_, τ.minute, τ.ds, τ.bl, τ.chosen) : Sc) hmD (tkE σ a_) hI (by omega)) (cw_X3_X3_token hts ⟨Nat.le_of_ble_eq_true rfl, Nat.le_of_ble_eq_true rfl⟩) (mB_now hK hP) (va_recv hK hP (ci := 0) (q0 := 0) rfl rfl) rfl hl.1 rfl (Nat.le_of_ble_eq_true rfl) dX3_reads_118 ⟨Nat.le_of_ble_eq_true rfl, Nat.le_of_ble_eq_true rfl⟩ hS (fun u_7 H locs hp_8 hP hS => ?_)
                subst hp_8
                have hP : va_P D vwCl (mX dA h ad σ.txt σ.len σ.wt σ.pr σ.tools σ.load σ.purse σ.beg σ.ways σ.told σ.calls σ.sm σ.sorts σ.visits σ.vm f_5 (nI r_) (nI (tkE σ (tkE σ a_))) (nI (tkP σ (tkE σ a_))) (nI (tkE σ (tkE σ a_))) τ.ents τ.em τ.combos τ.all_ τ.weight τ.gain τ.ad_ τ.minute τ.ds τ.bl τ.chosen) H := hP
                refine lv_iconst (v := 1) hx hb dX3_reads_121 rfl ?_
                exact rm_z (u := (σ, ((f_5, nI r_, nI (tkE σ (tkE σ a_)), nI (tkP σ (tkE σ a_)), nI (tkE σ (tkE σ a_)), τ.ents, τ.em, τ.combos, τ.all_, τ.weight, τ.gain, τ.ad_, τ.minute, τ.ds, τ.bl, τ.chosen) : Sc))) hQ hx hb hr hlocks hK hP hS (Or.inr rfl) ((Or.inl ⟨rfl, numF σ a_, (by subst_vars; rfl), (if_pos ⟨h8, h24, h37, h94⟩)⟩)) dX3_reads_122
              · have h94 : ¬ (inP ((nuG σ (tkP σ a_) (tkE σ a_ - tkP σ a_) : Int32).toInt64) ((lo_ : Int32).toInt64) ((hi_ : Int32).toInt64)) := b01_0.mp h94
                refine lv_iconst (v := 0) hx hb dX3_reads_97 rfl ?_
                exact rm_z (u := (σ, ((f_, nI r_, nI (tkE σ a_), nI (tkP σ a_), nI (tkE σ a_), τ.ents, τ.em, τ.combos, τ.all_, τ.weight, τ.gain, τ.ad_, τ.minute, τ.ds, τ.bl, τ.chosen) : Sc))) hQ hx hb hr hlocks hK hP hS (Or.inl rfl) ((Or.inr ⟨rfl, (by subst_vars; rfl), (if_neg (fun q => h94 q.2.2.2))⟩)) dX3_reads_98
            · have h57 : ¬ ((tkE σ a_) ≤ (tkP σ a_ + k)) := fun z9 => h57 ((nz_le (a := tkE σ a_) (b := tkP σ a_ + k) rfl rfl (by omega) (by omega)).mpr z9)
              refine lv_bipush (v := 10) hx hb dX3_reads_60 rfl ?_
              refine lv_iload hx hb dX3_reads_62 (lv_at hl 1 rfl) ?_
              refine lv_imul hx hb dX3_reads_64 ?_
              refine lv_aload_n hx hb dX3_reads_65 rfl (lv_at hl 2 rfl) ?_
              refine va_get (D := D) (ci := 0) (v := .ref (ad 0)) (C := RX3) (T := TX3) (N := 31) hx hb hts in_X3 hown hK hP 0 rfl rfl 0 (by decide) (hts _ q1114) (fun _ h9 => h9) rfl dX3_reads_66 ?_
              refine lv_iload hx hb dX3_reads_69 (lv_at hl 0 rfl) ?_
              refine wa_iald (f := σ.txt) hx hb hK hP 1 0 rfl rfl (tkP σ a_ + k) (rfl) (by omega) (by decide) dX3_reads_71 ?_
              refine lv_iadd hx hb dX3_reads_72 ?_
              refine lv_bipush (v := 48) hx hb dX3_reads_73 rfl ?_
              refine lv_isub hx hb dX3_reads_75 ?_
              refine lv_istore (lv' := [(4, .int (((10 * (nuG σ (tkP σ a_) k)) + (σ.txt (tkP σ a_ + k))) - 48)), (5, .int (nI (tkP σ a_ + k))), (0, .ref h), (1, .int (nI k_)), (2, .int lo_), (3, .int hi_)]) hx hb dX3_reads_76 hl (by decide) rfl (fun ls hl => ?_)
              refine lv_iinc (v := nI (tkP σ a_ + k + 1)) (lv' := [(5, .int (nI (tkP σ a_ + k + 1))), (4, .int (((10 * (nuG σ (tkP σ a_) k)) + (σ.txt (tkP σ a_ + k))) - 48)), (0, .ref h), (1, .int (nI k_)), (2, .int lo_), (3, .int hi_)]) hx hb dX3_reads_78 hl (k := 1) rfl (nI_1 (tkP σ a_ + k)) (by decide) rfl (fun ls hl => ?_)
              refine lv_goto (tgt := 51) hx hb dX3_reads_81 rfl ?_
              exact ih_3 (k + 1) (nI (tkP σ a_ + k + 1)) (((10 * (nuG σ (tkP σ a_) k)) + (σ.txt (tkP σ a_ + k))) - 48) ls (by omega) (by omega) rfl (by subst_vars; rw [nuG]) (lv_sub hl [0, 1, 2, 3, 4, 5] rfl)
        exact hL51_1 _ 0 (nI (tkP σ a_)) 0 ls (Nat.lt_succ_self _) (by omega) rfl (by subst_vars; rw [nuG]) (lv_sub hl [0, 1, 2, 3, 4, 5] rfl)
      · have h37 : ¬ (((tkE σ a_) - (tkP σ a_)) ≤ 4) := fun z9 => h37 ((nz_le (a := (tkE σ a_) - (tkP σ a_)) (b := 4) (nz_sub (a := tkE σ a_) (b := tkP σ a_) rfl rfl (by omega)) rfl (by omega) (by omega)).mpr z9)
        refine lv_iconst (v := 0) hx hb dX3_reads_40 rfl ?_
        exact rm_z (u := (σ, ((f_, nI r_, nI (tkE σ a_), nI (tkP σ a_), nI (tkE σ a_), τ.ents, τ.em, τ.combos, τ.all_, τ.weight, τ.gain, τ.ad_, τ.minute, τ.ds, τ.bl, τ.chosen) : Sc))) hQ hx hb hr hlocks hK hP hS (Or.inl rfl) ((Or.inr ⟨rfl, (by subst_vars; rfl), (if_neg (fun q => h37 q.2.2.1))⟩)) dX3_reads_41

def rmX3_readsThings : Room := { frames := 2, cells := 0, slots := 0, locals := 40 }
set_option maxHeartbeats 1000000 in
theorem mt_X3_readsThings (l : Launch) (D : va_G) (dA : Nat → ClassId) (h : Nat) (ad : Nat → Nat) (σ : St) (τ : Sc) (hmD : mD h ad) (a_ : Nat) (f_ : Nat → Int32) (r_ : Nat) (k_ : Nat) (hI : Inv σ) (ha : a_ ≤ σ.len) (hr10 : r_ < 10) (hk7 : k_ < 7) : Met l yX3_readsThings (ws_ yX3_readsThings cX3_readsThings 5 (some .boolean)) rmX3_readsThings (va_Pc [.ref h, .int (nI k_)] (mB D dA h ad σ ((f_, nI r_, nI (tkE σ a_), nI (tkP σ a_), nI (tkE σ a_), τ.ents, τ.em, τ.combos, τ.all_, τ.weight, τ.gain, τ.ad_, τ.minute, τ.ds, τ.bl, τ.chosen) : Sc))) (va_Qi (fun r (u : MS) => (r = 1 ∧ ∃ v : Int32, u = (σ, ((upd f_ (8 * r_ + 1 + k_) v, nI r_, nI (tkE σ (tkE σ a_)), nI (tkP σ (tkE σ a_)), nI (tkE σ (tkE σ a_)), τ.ents, τ.em, τ.combos, τ.all_, τ.weight, τ.gain, τ.ad_, τ.minute, τ.ds, τ.bl, τ.chosen) : Sc)) ∧ thV σ a_ = some v) ∨ (r = 0 ∧ u.1 = σ ∧ u.2.place = nI (tkP σ a_) ∧ thV σ a_ = none)) (fun u t => mB D dA h ad u.1 u.2 t) (mA h ad)) 0 0 (mA h ad) := by
  refine w_start (by decide) (Nat.le_of_ble_eq_true rfl) ?_
  intro p e s m args below meth c Q ls hQ hx hb hr hlocks hml hown hnm hts hB hl
  have hown : s.vm.findClass RX3 = some m.cls := hown
  have hl : lv_has ls 5 [(0, .ref h), (1, .int (nI k_))] := hl
  obtain ⟨hP, hK⟩ := hB
  have hP : va_P D vwCl (mX dA h ad σ.txt σ.len σ.wt σ.pr σ.tools σ.load σ.purse σ.beg σ.ways σ.told σ.calls σ.sm σ.sorts σ.visits σ.vm f_ (nI r_) (nI (tkE σ a_)) (nI (tkP σ a_)) (nI (tkE σ a_)) τ.ents τ.em τ.combos τ.all_ τ.weight τ.gain τ.ad_ τ.minute τ.ds τ.bl τ.chosen) s.heap := hP
  have hS : va_S (mA h ad) s.heap s.heap [] := va_S.rf
  have hlen := hI.len
  have htp := tkP_b ha
  have htb := tkE_b ha
  refine lv_iconst (v := 0) hx hb dX3_readsThings_0 rfl ?_
  refine lv_istore_n (lv' := [(2, .int 0), (0, .ref h), (1, .int (nI k_))]) hx hb dX3_readsThings_1 rfl hl (by decide) rfl (fun ls hl => ?_)
  refine lv_aload_n hx hb dX3_readsThings_2 rfl (lv_at hl 1 rfl) ?_
  refine va_get (D := D) (ci := 0) (v := .int (nI (tkP σ a_))) (C := RX3) (T := TX3) (N := 31) hx hb hts in_X3 hown hK hP 0 rfl rfl 18 (by decide) (hts _ q1132) (fun _ h9 => h9) rfl dX3_readsThings_3 ?_
  refine lv_istore_n (lv' := [(3, .int (nI (tkP σ a_))), (2, .int 0), (0, .ref h), (1, .int (nI k_))]) hx hb dX3_readsThings_6 rfl hl (by decide) rfl (fun ls hl => ?_)
  have hL7_1 : ∀ (n_2 : Nat) (k : Nat) (s_ : Int32) (x3 : Int32) (ls : Array Slot), (tkE σ a_ - tkP σ a_ - k) < n_2 → (tkP σ a_ + k ≤ tkE σ a_) → (thG σ (tkP σ a_) k = some s_) → x3 = (nI (tkP σ a_ + k)) → lv_has ls 5 [(3, .int x3), (2, .int s_), (0, .ref h), (1, .int (nI k_))] → W p l e rmX3_readsThings s m args below meth c s.heap [] 0 0 Q (F0 m 7 ls []) := by
    intro n_2
    induction n_2 with
    | zero => intro k s_ x3 ls hm_4; exact absurd hm_4 (Nat.not_lt_zero _)
    | succ n_2 ih_3 =>
      intro k s_ x3 ls hm_4 hk hth ex3 hl
      subst ex3
      refine lv_iload_n hx hb dX3_readsThings_7 rfl (lv_at hl 0 rfl) ?_
      refine lv_aload_n hx hb dX3_readsThings_8 rfl (lv_at hl 2 rfl) ?_
      refine va_get (D := D) (ci := 0) (v := .int (nI (tkE σ a_))) (C := RX3) (T := TX3) (N := 31) hx hb hts in_X3 hown hK hP 0 rfl rfl 19 (by decide) (hts _ q1133) (fun _ h9 => h9) rfl dX3_readsThings_9 ?_
      refine lv_icmp_ge (tgt := 63) hx hb dX3_readsThings_12 rfl (fun h12 => ?_) (fun h12 => ?_)
      · have h12 : (tkE σ a_) ≤ (tkP σ a_ + k) := (nz_le (a := tkE σ a_) (b := tkP σ a_ + k) rfl rfl (by omega) (by omega)).mp h12
        obtain rfl : k = tkE σ a_ - tkP σ a_ := by omega
        refine lv_aload_n hx hb dX3_readsThings_63 rfl (lv_at hl 2 rfl) ?_
        refine va_get (D := D) (ci := 0) (v := .ref (ad 1)) (C := RX3) (T := TX3) (N := 31) hx hb hts in_X3 hown hK hP 0 rfl rfl 2 (by decide) (hts _ q1116) (fun _ h9 => h9) rfl dX3_readsThings_64 ?_
        refine lv_bipush (v := 8) hx hb dX3_readsThings_67 rfl ?_
        refine lv_aload_n hx hb dX3_readsThings_69 rfl (lv_at hl 2 rfl) ?_
        refine va_get (D := D) (ci := 0) (v := .int (nI r_)) (C := RX3) (T := TX3) (N := 31) hx hb hts in_X3 hown hK hP 0 rfl rfl 3 (by decide) (hts _ q1117) (fun _ h9 => h9) rfl dX3_readsThings_70 ?_
        refine lv_imul hx hb dX3_readsThings_73 ?_
        refine lv_iconst (v := 1) hx hb dX3_readsThings_74 rfl ?_
        refine lv_iadd hx hb dX3_readsThings_75 ?_
        refine lv_iload_n hx hb dX3_readsThings_76 rfl (lv_at hl 3 rfl) ?_
        refine lv_iadd hx hb dX3_readsThings_77 ?_
        refine lv_iload_n hx hb dX3_readsThings_78 rfl (lv_at hl 1 rfl) ?_
        refine wa_iast (f := f_) hx hb hK hP (mD_va hmD dA σ ((f_, nI r_, nI (tkE σ a_), nI (tkP σ a_), nI (tkE σ a_), τ.ents, τ.em, τ.combos, τ.all_, τ.weight, τ.gain, τ.ad_, τ.minute, τ.ds, τ.bl, τ.chosen) : Sc)) hS 2 0 rfl rfl (((8 * r_) + 1) + k_) ((nz_add (nz_add (nz_mul rfl rfl) rfl) rfl)) (by omega) (by decide) dX3_readsThings_79 (fun H locs f_5 ef_5 hP hS => ?_)
        have hP : va_P D vwCl (mX dA h ad σ.txt σ.len σ.wt σ.pr σ.tools σ.load σ.purse σ.beg σ.ways σ.told σ.calls σ.sm σ.sorts σ.visits σ.vm f_5 (nI r_) (nI (tkE σ a_)) (nI (tkP σ a_)) (nI (tkE σ a_)) τ.ents τ.em τ.combos τ.all_ τ.weight τ.gain τ.ad_ τ.minute τ.ds τ.bl τ.chosen) H := hP
        refine lv_iload_n hx hb dX3_readsThings_80 rfl (lv_at hl 1 rfl) ?_
        refine lv_if_le (tgt := 88) hx hb dX3_readsThings_81 rfl (fun h81 => ?_) (fun h81 => ?_)
        · have h81 : s_ ≤ 0 := h81
          refine lv_iload_n hx hb dX3_readsThings_88 rfl (lv_at hl 1 rfl) ?_
          refine lv_if_le (tgt := 96) hx hb dX3_readsThings_89 rfl (fun h89 => ?_) (fun h89 => ?_)
          · have h89 : s_ ≤ 0 := h89
            refine lv_iconst (v := 0) hx hb dX3_readsThings_96 rfl ?_
            exact rm_z (u := (σ, ((f_5, nI r_, nI (tkE σ a_), nI (tkP σ a_), nI (tkE σ a_), τ.ents, τ.em, τ.combos, τ.all_, τ.weight, τ.gain, τ.ad_, τ.minute, τ.ds, τ.bl, τ.chosen) : Sc))) hQ hx hb hr hlocks hK hP hS (Or.inl rfl) ((Or.inr ⟨rfl, rfl, rfl, (by rw [thV, hth]; exact if_pos h81)⟩)) dX3_readsThings_97
          · have h89 : ¬ (s_ ≤ 0) := h89
            exact absurd h81 h89
        · have h81 : ¬ (s_ ≤ 0) := h81
          refine lv_aload_n hx hb dX3_readsThings_84 rfl (lv_at hl 2 rfl) ?_
          refine mcVv (As := []) (rest := []) ⟨hx, hb, hml, hown, hts⟩ (mt_X3_token l D dA h ad σ ((f_5, nI r_, nI (tkE σ a_), nI (tkP σ a_), nI (tkE σ a_), τ.ents, τ.em, τ.combos, τ.all_, τ.weight, τ.gain, τ.ad_, τ.minute, τ.ds, τ.bl, τ.chosen) : Sc) hmD (tkE σ a_) hI (by omega)) (cw_X3_X3_token hts ⟨Nat.le_of_ble_eq_true rfl, Nat.le_of_ble_eq_true rfl⟩) (mB_now hK hP) (va_recv hK hP (ci := 0) (q0 := 0) rfl rfl) rfl hl.1 rfl (Nat.le_of_ble_eq_true rfl) dX3_readsThings_85 ⟨Nat.le_of_ble_eq_true rfl, Nat.le_of_ble_eq_true rfl⟩ hS (fun u_7 H locs hp_8 hP hS => ?_)
          subst hp_8
          have hP : va_P D vwCl (mX dA h ad σ.txt σ.len σ.wt σ.pr σ.tools σ.load σ.purse σ.beg σ.ways σ.told σ.calls σ.sm σ.sorts σ.visits σ.vm f_5 (nI r_) (nI (tkE σ (tkE σ a_))) (nI (tkP σ (tkE σ a_))) (nI (tkE σ (tkE σ a_))) τ.ents τ.em τ.combos τ.all_ τ.weight τ.gain τ.ad_ τ.minute τ.ds τ.bl τ.chosen) H := hP
          refine lv_iload_n hx hb dX3_readsThings_88 rfl (lv_at hl 1 rfl) ?_
          refine lv_if_le (tgt := 96) hx hb dX3_readsThings_89 rfl (fun h89 => ?_) (fun h89 => ?_)
          · have h89 : s_ ≤ 0 := h89
            exact absurd h89 h81
          · have h89 : ¬ (s_ ≤ 0) := h89
            refine lv_iconst (v := 1) hx hb dX3_readsThings_92 rfl ?_
            refine lv_goto (tgt := 97) hx hb dX3_readsThings_93 rfl ?_
            exact rm_z (u := (σ, ((f_5, nI r_, nI (tkE σ (tkE σ a_)), nI (tkP σ (tkE σ a_)), nI (tkE σ (tkE σ a_)), τ.ents, τ.em, τ.combos, τ.all_, τ.weight, τ.gain, τ.ad_, τ.minute, τ.ds, τ.bl, τ.chosen) : Sc))) hQ hx hb hr hlocks hK hP hS (Or.inr rfl) ((Or.inl ⟨rfl, s_, (by subst_vars; rfl), (by rw [thV, hth]; exact if_neg h81)⟩)) dX3_readsThings_97
      · have h12 : ¬ ((tkE σ a_) ≤ (tkP σ a_ + k)) := fun z9 => h12 ((nz_le (a := tkE σ a_) (b := tkP σ a_ + k) rfl rfl (by omega) (by omega)).mpr z9)
        refine lv_aload_n hx hb dX3_readsThings_15 rfl (lv_at hl 2 rfl) ?_
        refine va_get (D := D) (ci := 0) (v := .ref (ad 0)) (C := RX3) (T := TX3) (N := 31) hx hb hts in_X3 hown hK hP 0 rfl rfl 0 (by decide) (hts _ q1114) (fun _ h9 => h9) rfl dX3_readsThings_16 ?_
        refine lv_iload_n hx hb dX3_readsThings_19 rfl (lv_at hl 0 rfl) ?_
        refine wa_iald (f := σ.txt) hx hb hK hP 1 0 rfl rfl (tkP σ a_ + k) (rfl) (by omega) (by decide) dX3_readsThings_20 ?_
        refine lv_bipush (v := 97) hx hb dX3_readsThings_21 rfl ?_
        refine lv_isub hx hb dX3_readsThings_23 ?_
        refine lv_istore (lv' := [(4, .int ((σ.txt (tkP σ a_ + k)) - 97)), (3, .int (nI (tkP σ a_ + k))), (2, .int s_), (0, .ref h), (1, .int (nI k_))]) hx hb dX3_readsThings_24 hl (by decide) rfl (fun ls hl => ?_)
        refine lv_iload hx hb dX3_readsThings_26 (lv_at hl 0 rfl) ?_
        refine lv_i2l (v := ((σ.txt (tkP σ a_ + k)) - 97 : Int32).toInt64) hx hb dX3_readsThings_28 rfl ?_
        refine lv_lconst (v := 0) hx hb dX3_readsThings_29 rfl ?_
        refine lv_ldc2 (v := 7) hx hb hown (hts _ q1275) dX3_readsThings_30 ?_
        refine cSi (As := [.long (((σ.txt (tkP σ a_ + k)) - 97 : Int32).toInt64), .long 0, .long 7]) (rest := []) ⟨hx, hb, hml, hown, hts⟩ (mt_X3_in l (((σ.txt (tkP σ a_ + k)) - 97 : Int32).toInt64) 0 7) (cw_X3_X3_in hts ⟨Nat.le_of_ble_eq_true rfl, Nat.le_of_ble_eq_true rfl⟩) w_blT (fun _ _ _ => trivial) rfl hl.1 rfl (Nat.le_of_ble_eq_true rfl) dX3_readsThings_33 ⟨Nat.le_of_ble_eq_true rfl, Nat.le_of_ble_eq_true rfl⟩ ?_
        refine lv_if_eq (tgt := 48) hx hb dX3_readsThings_36 rfl (fun h36 => ?_) (fun h36 => ?_)
        · have h36 : ¬ (inP (((σ.txt (tkP σ a_ + k)) - 97 : Int32).toInt64) 0 7) := b01_0.mp h36
          refine lv_iconst (v := 0) hx hb dX3_readsThings_48 rfl ?_
          exact rm_z (u := (σ, ((f_, nI r_, nI (tkE σ a_), nI (tkP σ a_), nI (tkE σ a_), τ.ents, τ.em, τ.combos, τ.all_, τ.weight, τ.gain, τ.ad_, τ.minute, τ.ds, τ.bl, τ.chosen) : Sc))) hQ hx hb hr hlocks hK hP hS (Or.inl rfl) ((Or.inr ⟨rfl, rfl, rfl, (by rw [thV, th_n2 (k := k + 1) (by rw [thG, hth]; exact if_neg (fun q => h36 q.1)) (by omega)]; rfl)⟩)) dX3_readsThings_49
        · have h36 : inP (((σ.txt (tkP σ a_ + k)) - 97 : Int32).toInt64) 0 7 := b01_n h36
          refine lv_iload_n hx hb dX3_readsThings_39 rfl (lv_at hl 2 rfl) ?_
          refine lv_iload hx hb dX3_readsThings_40 (lv_at hl 0 rfl) ?_
          refine cSi (As := [.int s_, .int ((σ.txt (tkP σ a_ + k)) - 97)]) (rest := []) ⟨hx, hb, hml, hown, hts⟩ (mt_X3_has l s_ ((σ.txt (tkP σ a_ + k)) - 97)) (cw_X3_X3_has hts ⟨Nat.le_of_ble_eq_true rfl, Nat.le_of_ble_eq_true rfl⟩) w_blT (fun _ _ _ => trivial) rfl hl.1 rfl (Nat.le_of_ble_eq_true rfl) dX3_readsThings_42 ⟨Nat.le_of_ble_eq_true rfl, Nat.le_of_ble_eq_true rfl⟩ ?_
          refine lv_if_eq (tgt := 50) hx hb dX3_readsThings_45 rfl (fun h45 => ?_) (fun h45 => ?_)
          · have h45 : ¬ (hasP s_ ((σ.txt (tkP σ a_ + k)) - 97)) := b01_0.mp h45
            refine lv_iload_n hx hb dX3_readsThings_50 rfl (lv_at hl 2 rfl) ?_
            refine lv_iconst (v := 1) hx hb dX3_readsThings_51 rfl ?_
            refine lv_iload hx hb dX3_readsThings_52 (lv_at hl 0 rfl) ?_
            refine lv_ishl hx hb dX3_readsThings_54 ?_
            refine lv_ior hx hb dX3_readsThings_55 ?_
            refine lv_istore_n (lv' := [(2, .int (s_ ||| ((1 : Int32) <<< (((σ.txt (tkP σ a_ + k)) - 97) &&& 31)))), (4, .int ((σ.txt (tkP σ a_ + k)) - 97)), (3, .int (nI (tkP σ a_ + k))), (0, .ref h), (1, .int (nI k_))]) hx hb dX3_readsThings_56 rfl hl (by decide) rfl (fun ls hl => ?_)
            refine lv_iinc (v := nI (tkP σ a_ + k + 1)) (lv' := [(3, .int (nI (tkP σ a_ + k + 1))), (2, .int (s_ ||| ((1 : Int32) <<< (((σ.txt (tkP σ a_ + k)) - 97) &&& 31)))), (4, .int ((σ.txt (tkP σ a_ + k)) - 97)), (0, .ref h), (1, .int (nI k_))]) hx hb dX3_readsThings_57 hl (k := 2) rfl (nI_1 (tkP σ a_ + k)) (by decide) rfl (fun ls hl => ?_)
            refine lv_goto (tgt := 7) hx hb dX3_readsThings_60 rfl ?_
            exact ih_3 (k + 1) (s_ ||| ((1 : Int32) <<< (((σ.txt (tkP σ a_ + k)) - 97) &&& 31))) (nI (tkP σ a_ + k + 1)) ls (by omega) (by omega) (by rw [thG, hth]; exact if_pos ⟨h36, h45⟩) rfl (lv_sub hl [0, 1, 3, 4] rfl)
          · have h45 : hasP s_ ((σ.txt (tkP σ a_ + k)) - 97) := b01_n h45
            refine lv_iconst (v := 0) hx hb dX3_readsThings_48 rfl ?_
            exact rm_z (u := (σ, ((f_, nI r_, nI (tkE σ a_), nI (tkP σ a_), nI (tkE σ a_), τ.ents, τ.em, τ.combos, τ.all_, τ.weight, τ.gain, τ.ad_, τ.minute, τ.ds, τ.bl, τ.chosen) : Sc))) hQ hx hb hr hlocks hK hP hS (Or.inl rfl) ((Or.inr ⟨rfl, rfl, rfl, (by rw [thV, th_n2 (k := k + 1) (by rw [thG, hth]; exact if_neg (fun q => q.2 h45)) (by omega)]; rfl)⟩)) dX3_readsThings_49
  exact hL7_1 _ 0 0 (nI (tkP σ a_)) ls (Nat.lt_succ_self _) (by omega) rfl rfl (lv_sub hl [0, 1, 2, 3] rfl)
