/-! THE COMPONENT's WRITERS: whose cells they are, calls, ends -/
set_option maxRecDepth 100000
def cA (x : Nat) (ad : Nat → Nat) (μ : Lay) : Nat → Prop := fun q => q = x ∨ (∃ i, i < 12 ∧ q = ad i) ∨ q ∈ μ.L
def cD (x : Nat) (ad : Nat → Nat) (μ : Lay) : Prop := (∀ i, i < 12 → ad i ≠ x) ∧ (∀ i j, i < 12 → j < 12 → ad i = ad j → i = j) ∧ x ∉ μ.L ∧ (∀ i, i < 12 → ad i ∉ μ.L) ∧ μ.L.Nodup
theorem cX_at {dA : Nat → ClassId} {x : Nat} {ad : Nat → Nat} {μ : Lay} {σ : St} {ω : Om} (k : Nat) (q : Nat × va_E) (e : (cX dA x ad μ σ ω)[k]? = some q) : (k = 0 ∧ q.1 = x) ∨ ∃ i, i < 12 ∧ k = i + 1 ∧ q.1 = ad i := by
  match k, e with
  | 0, e => cases e; exact Or.inl ⟨rfl, rfl⟩
  | 1, e => cases e; exact Or.inr ⟨0, by decide, rfl, rfl⟩
  | 2, e => cases e; exact Or.inr ⟨1, by decide, rfl, rfl⟩
  | 3, e => cases e; exact Or.inr ⟨2, by decide, rfl, rfl⟩
  | 4, e => cases e; exact Or.inr ⟨3, by decide, rfl, rfl⟩
  | 5, e => cases e; exact Or.inr ⟨4, by decide, rfl, rfl⟩
  | 6, e => cases e; exact Or.inr ⟨5, by decide, rfl, rfl⟩
  | 7, e => cases e; exact Or.inr ⟨6, by decide, rfl, rfl⟩
  | 8, e => cases e; exact Or.inr ⟨7, by decide, rfl, rfl⟩
  | 9, e => cases e; exact Or.inr ⟨8, by decide, rfl, rfl⟩
  | 10, e => cases e; exact Or.inr ⟨9, by decide, rfl, rfl⟩
  | 11, e => cases e; exact Or.inr ⟨10, by decide, rfl, rfl⟩
  | 12, e => cases e; exact Or.inr ⟨11, by decide, rfl, rfl⟩
  | k + 13, e => cases e
theorem cX_len {dA : Nat → ClassId} {x : Nat} {ad : Nat → Nat} {μ : Lay} {σ : St} {ω : Om} : (cX dA x ad μ σ ω).length = 13 := rfl
theorem cW_at {dA : Nat → ClassId} {x : Nat} {ad : Nat → Nat} {μ : Lay} {σ : St} {ω : Om} (k : Nat) (q : Nat × va_E) (e : (cW dA x ad μ σ ω)[k]? = some q) : ((k = 0 ∧ q.1 = x) ∨ ∃ i, i < 12 ∧ k = i + 1 ∧ q.1 = ad i) ∨ (13 ≤ k ∧ μ.L[k - 13]? = some q.1) := by
  unfold cW at e
  by_cases h : k < 13
  · rw [List.getElem?_append_left (by rw [cX_len]; exact h)] at e
    exact Or.inl (cX_at k q e)
  · rw [List.getElem?_append_right (by rw [cX_len]; omega), cX_len] at e
    unfold va_pl at e
    rw [List.getElem?_map] at e
    refine Or.inr ⟨by omega, ?_⟩
    cases h2 : μ.L[k - 13]? with
    | none => rw [h2] at e; cases e
    | some a => rw [h2] at e; cases e; rfl
theorem cD_va {x : Nat} {ad : Nat → Nat} {μ : Lay} (h : cD x ad μ) (dA : Nat → ClassId) (σ : St) (ω : Om) : va_D (cA x ad μ) (cW dA x ad μ σ ω) := by
  obtain ⟨h1, h2, h3, h4, h5⟩ := h
  refine ⟨fun i j u v hi hj huv => ?_, fun k q hk => ?_⟩
  · rcases cW_at i u hi with (⟨a1, a2⟩ | ⟨a, a0, a1, a2⟩) | ⟨a1, a2⟩ <;> rcases cW_at j v hj with (⟨b1, b2⟩ | ⟨b, b0, b1, b2⟩) | ⟨b1, b2⟩
    · omega
    · exact absurd (by rw [← b2, ← huv, a2]) (h1 b b0)
    · exact absurd (List.mem_of_getElem? (by rw [b2, ← huv, a2])) h3
    · exact absurd (by rw [← a2, huv, b2]) (h1 a a0)
    · have := h2 a b a0 b0 (by rw [← a2, ← b2, huv]); omega
    · exact absurd (List.mem_of_getElem? (by rw [b2, ← huv, a2])) (h4 a a0)
    · exact absurd (List.mem_of_getElem? (by rw [a2, huv, b2])) h3
    · exact absurd (List.mem_of_getElem? (by rw [a2, huv, b2])) (h4 b b0)
    · have hl : i - 13 < μ.L.length := by
        rcases Nat.lt_or_ge (i - 13) μ.L.length with q | q
        · exact q
        · rw [List.getElem?_eq_none q] at a2; cases a2
      have := (List.getElem?_inj hl h5 (j := j - 13)).mp (by rw [a2, b2, huv])
      omega
  · rcases cW_at k q hk with (⟨a1, a2⟩ | ⟨a, a0, a1, a2⟩) | ⟨a1, a2⟩
    · exact Or.inl a2
    · exact Or.inr (Or.inl ⟨a, a0, a2⟩)
    · exact Or.inr (Or.inr (List.mem_of_getElem? a2))
/-- a writer's end: the value, the state -/
def cQ (v : Option Value) (D : va_G) (dA : Nat → ClassId) (x : Nat) (ad : Nat → Nat) (μ : Lay) (σ : St) (ω : Om) : Array Value → State → Outcome → State → Prop := fun _ st oc t => oc = .returned v ∧ cB D dA x ad μ σ ω t ∧ va_F (cA x ad μ) st t
section CM
variable {p : Program} {l : Launch} {e : Env} {R : Room} {s : State} {m : MethodId} {args : Array Value} {below : List Frame} {meth : Method} {c : Code} {H H0 : Heap} {locs : List Loc} {cells slots : Nat} {Q : State → Prop}
variable {y : MethodName} {bytes cc : ByteArray} {maxL nL n index : Nat} {ret : Option FieldType} {rm : Room} {Ts ws : List Cond} {own C : String} {b : Addr} {As rest st0 : List Value} {pc : Nat} {ls : Array Slot}
variable {D : va_G} {dA : Nat → ClassId} {x : Nat} {ad : Nat → Nat} {μ : Lay} {σ σ' σ1 : St} {ω ω' ω1 : Om}
theorem cm_go {v : Option Value} {a : Array Value} (hr : va_Run p l e R s m args below meth c H locs cells slots 0 0 (F0 m pc ls st0) rest (cQ v D dA x ad μ σ' ω' a) (cA x ad μ)) (hS : va_S (cA x ad μ) H0 H locs)
    (kk : ∀ (H1 : Heap) (locs1 : List Loc), va_P D vwCl (cW dA x ad μ σ' ω') H1 → va_S (cA x ad μ) H0 H1 locs1 → W p l e R s m args below meth c H1 locs1 cells slots Q (F0 m (pc + 3) ls (v.toList ++ rest))) : W p l e R s m args below meth c H locs cells slots Q (F0 m pc ls st0) := by
  intro T hT X
  obtain ⟨v', st₀, t, T', L, h0, X', hL, e1, e2, ⟨hv, hB, hz, hk⟩, st⟩ := hr T hT X
  cases hv
  rw [h0] at hz hk
  obtain ⟨t2, a1, b1⟩ := kk T'.heap (locs ++ L) (by rw [e1]; exact hB.1)
    ⟨Nat.le_trans hS.1 (by rw [e1]; exact hz), fun q h1 h2 => by rw [e1, hk q (Nat.lt_of_lt_of_le h1 hS.1) h2]; exact hS.2.1 q h1 h2, fun q hq => by
      rcases List.mem_append.mp hq with h | h
      · exact hS.2.2 q h
      · exact hL q h⟩ T' rfl X'
  exact ⟨t2, st t2 a1, b1⟩
theorem dM {v : Option Value} (S : CallFix p m c cc nL s args Ts own) (hM : Met l y ws rm (va_Pc (.ref b :: As) (cB D dA x ad μ σ ω)) (cQ v D dA x ad μ σ' ω') 0 0 (cA x ad μ)) (cw : CallW R s args own C index y bytes maxL ret ws rm 0 0 n) (hB : ∀ U : State, U.heap = H → s.WarmedH U.vm → cB D dA x ad μ σ ω U) (hrc : ∃ cellB : Cell, H[b]? = some cellB ∧ cellB.vm.isStatics = false ∧ s.vm.findClass C = some cellB.cls)
    (hn : As.length = n) (hsize : ls.size = nL) (hst : st0 = As.reverse ++ .ref b :: rest) (hW : (rest.map fun v => v.category).sum ≤ 8) (hdg : decode cc pc = .ok (.invokevirtual index, 3)) (hf : cells + 0 ≤ R.cells ∧ slots + 0 ≤ R.slots) (hS : va_S (cA x ad μ) H0 H locs)
    (kk : ∀ (H1 : Heap) (locs1 : List Loc), va_P D vwCl (cW dA x ad μ σ' ω') H1 → va_S (cA x ad μ) H0 H1 locs1 → W p l e R s m args below meth c H1 locs1 cells slots Q (F0 m (pc + 3) ls (v.toList ++ rest))) : W p l e R s m args below meth c H locs cells slots Q (F0 m pc ls st0) :=
  cm_go (va_runV (As := As) (rest := rest) S hM cw ⟨cB_bw.blind _, hrc, fun U hU hW => ⟨rfl, hB U hU hW⟩⟩ rfl hn hsize hst (lv_room hW) hdg hf) hS kk
theorem cm_v (hQ : Q = MQ below (cQ none D dA x ad μ σ ω) args s cells slots (cA x ad μ)) (hx : p.tables.exec = Jvm.exec) (hb : c.code = cc) (hr : meth.sig.returnType = none) (hlocks : meth.locks = false) (hK : va_K D vwCl (vwTy dA) s) (hN : cN s) (hP : va_P D vwCl (cW dA x ad μ σ1 ω1) H) (hS : va_S (cA x ad μ) s.heap H locs) (h1 : σ1 = σ) (h2 : ω1 = ω) (hdg : decode cc pc = .ok (.return_, 1)) : W p l e R s m args below meth c H locs cells slots Q (F0 m pc ls []) := by
  subst hQ h1 h2
  exact W.vret hx hb hr (fun t ht hW => ⟨rfl, cB_now hK hN hP t ht hW, hS.F ht⟩) hS.2.2 hdg hlocks
theorem cm_i {v w : Int32} (hQ : Q = MQ below (cQ (some (.int w)) D dA x ad μ σ ω) args s cells slots (cA x ad μ)) (hx : p.tables.exec = Jvm.exec) (hb : c.code = cc) (hr : meth.sig.returnType = some .int) (hlocks : meth.locks = false) (hK : va_K D vwCl (vwTy dA) s) (hN : cN s) (hP : va_P D vwCl (cW dA x ad μ σ1 ω1) H) (hS : va_S (cA x ad μ) s.heap H locs) (hv : v = w) (h1 : σ1 = σ) (h2 : ω1 = ω) (hdg : decode cc pc = .ok (.ireturn, 1)) : W p l e R s m args below meth c H locs cells slots Q (F0 m pc ls [.int v]) := by
  subst hQ h1 h2 hv
  exact W.iret hx hb hr (fun t ht hW => ⟨rfl, cB_now hK hN hP t ht hW, hS.F ht⟩) hS.2.2 hdg hlocks
theorem cm_l {v w : Int64} (hQ : Q = MQ below (cQ (some (.long w)) D dA x ad μ σ ω) args s cells slots (cA x ad μ)) (hx : p.tables.exec = Jvm.exec) (hb : c.code = cc) (hr : meth.sig.returnType = some .long) (hlocks : meth.locks = false) (hK : va_K D vwCl (vwTy dA) s) (hN : cN s) (hP : va_P D vwCl (cW dA x ad μ σ1 ω1) H) (hS : va_S (cA x ad μ) s.heap H locs) (hv : v = w) (h1 : σ1 = σ) (h2 : ω1 = ω) (hdg : decode cc pc = .ok (.lreturn, 1)) : W p l e R s m args below meth c H locs cells slots Q (F0 m pc ls [.long v]) := by
  subst hQ h1 h2 hv
  exact W.lret hx hb hr (fun t ht hW => ⟨rfl, cB_now hK hN hP t ht hW, hS.F ht⟩) hS.2.2 hdg hlocks
theorem cm_a {v w : Nat} {rt : FieldType} (hQ : Q = MQ below (cQ (some (.ref w)) D dA x ad μ σ ω) args s cells slots (cA x ad μ)) (hx : p.tables.exec = Jvm.exec) (hb : c.code = cc) (hr : meth.sig.returnType = some rt) (hrt : (∃ n, rt = .object n) ∨ ∃ t, rt = .array t) (hlocks : meth.locks = false) (hK : va_K D vwCl (vwTy dA) s) (hN : cN s) (hP : va_P D vwCl (cW dA x ad μ σ1 ω1) H) (hS : va_S (cA x ad μ) s.heap H locs) (hv : v = w) (h1 : σ1 = σ) (h2 : ω1 = ω) (hdg : decode cc pc = .ok (.areturn, 1)) : W p l e R s m args below meth c H locs cells slots Q (F0 m pc ls [.ref v]) := by
  subst hQ h1 h2 hv
  exact W.aret hx hb hr hrt (Or.inr ⟨_, rfl⟩) (fun t ht hW => ⟨rfl, cB_now hK hN hP t ht hW, hS.F ht⟩) hS.2.2 hdg hlocks
end CM
