/-! THROWS: contracts of methods that may throw, calls of them, handlers -/
set_option maxRecDepth 100000
def FrameEndT (first t : State) (L : List Loc) (k n : Nat) : Prop := first.WarmedH t.vm ∧ first.sameButNew ({ t with vm := first.vm } : State) L k n
/-- a contract whose end may be a throw: Qc says which -/
def MetT (l : Launch) (y : MethodName) (ws : List Cond) (rm : Room) (Pc : Array Value → State → Prop) (Qc : Array Value → State → Outcome → State → Prop) (mc ms : Nat) (free : Addr → Prop) : Prop :=
  MetFree l y (headSpec ws rm) Pc (fun _ _ _ _ _ => True) (fun a st o t => Qc a st o t ∧ ∃ L, FrameEndT st t L mc ms ∧ ∀ q ∈ L, free q.base)
def MQT (below : List Frame) (Qc : Array Value → State → Outcome → State → Prop) (a : Array Value) (s : State) (mc ms : Nat) (free : Addr → Prop) : State → Prop := fun t =>
  ∃ o, t.status = .running ∧ Ended t below o ∧ Qc a s o t ∧ ∃ L, FrameEndT s t L mc ms ∧ ∀ q ∈ L, free q.base
section TH
variable {p : Program} {l : Launch} {e : Env} {R : Room} {s : State} {m : MethodId} {args : Array Value} {below : List Frame} {meth : Method} {c : Code} {H : Heap} {locs : List Loc} {cells slots : Nat} {Q : State → Prop}
theorem MetT.ofW {y : MethodName} {ws ws' : List Cond} {rm : Room} {Pc : Array Value → State → Prop} {Qc : Array Value → State → Outcome → State → Prop} {mc ms : Nat} {free : Addr → Prop} {cc : ByteArray} {maxL : Nat} {ret : Option FieldType}
    (hy : plainName y.cls = true) (hw : ws = Cond.code y cc maxL ret :: ws')
    (body : ∀ p e s m args below meth c s₁, BodyLoose p l y (headSpec ws rm) cc maxL ret e s m args below meth c s₁ → c.maxLocals = maxL → c.exceptionTable.toList = [] → Pc args s →
      W p l e (headSpec ws rm).room s m args below meth c s.heap [] 0 0 (MQT below Qc args s mc ms free) (entryFrame m args maxL)) : MetT l y ws rm Pc Qc mc ms free := by
  refine MetFree.of_bodyS (code := cc) (maxLocals := maxL) (ret := ret) hy ?_ ?_
  · intro args s m h hn
    obtain ⟨meth, c, h1, h2, h3, h4, h5, h6, -, -⟩ := Cond.code_spec hn (atoms_spec (ws := ws) h _ (by rw [hw]; exact List.mem_cons_self))
    exact ⟨meth, c, h1, h2, h3, h4, h5, h6⟩
  · intro p e s m args below meth c s₁ B hml hP _
    have hh0 : s₁.heap = s.heap := by rw [B.state]; rfl
    have hno := BodyLoose.noHandlers B (atoms_spec (ws := ws) B.pre _ (by rw [hw]; exact List.mem_cons_self))
    have h0 : c.exceptionTable.size = 0 := by simpa [Array.isEmpty] using hno
    obtain ⟨t, a1, o, b1, b2, b3⟩ := body p e s m args below meth c s₁ B hml (List.eq_nil_of_length_eq_zero (by simpa using h0)) hP s₁ hh0 (Stand.of_body B)
    exact ⟨t, o, a1, b1, b2, ⟨b3.1, b3.2⟩⟩
/-- the note that a is thrown lies over the method's own frame -/
def WT (p : Program) (l : Launch) (e : Env) (R : Room) (s : State) (m : MethodId) (args : Array Value) (below : List Frame) (meth : Method) (c : Code) (H : Heap) (locs : List Loc) (cells slots : Nat) (Q : State → Prop) (g : JFrame) (a : Addr) : Prop :=
  ∀ T : State, T.heap = H → Stand p l e R s m args below meth c T locs cells slots → ∃ t, Steps p.tables e below ((T.setTop g).pushFrame (.throwing a)) t ∧ Q t
theorem WT.out {Qc : Array Value → State → Outcome → State → Prop} {free : Addr → Prop} {pc : Nat} {ls : Array Slot} {st : List Value} {a : Addr} (hno : c.exceptionTable.toList = []) (hlocks : meth.locks = false)
    (hq : ∀ t : State, t.heap = H → s.WarmedH t.vm → Qc args s (.threw a) t) (hf : ∀ q ∈ locs, free q.base) : WT p l e R s m args below meth c H locs cells slots (MQT below Qc args s cells slots free) (F0 m pc ls st) a := by
  intro T hT X
  obtain ⟨h0, h1, h2, h3, h4⟩ := X.leaveThrown a (g := F0 m pc ls st) rfl rfl rfl (fun x hx => by rw [hno] at hx; cases hx) hlocks
  exact ⟨_, h0, .threw a, h1, h2, hq _ hT h3, locs, ⟨h3, h4⟩, hf⟩
theorem W.athrow {cc : ByteArray} (hexec : p.tables.exec = Jvm.exec) (hb : c.code = cc) {pc : Nat} {ls : Array Slot} {a : Addr} {rest : List Value} (hdg : decode cc pc = .ok (.athrow, 1))
    (k : WT p l e R s m args below meth c H locs cells slots Q (F0 m pc ls rest) a) : W p l e R s m args below meth c H locs cells slots Q (F0 m pc ls (.ref a :: rest)) := by
  intro T hT X
  obtain ⟨t, a1, b1⟩ := k T hT X
  refine ⟨t, ?_, b1⟩
  subst hb
  jvm_step X.here [hexec, hdg, athrow.wp_sem]
  exact a1
/-- the premise on a callee that may throw -/
def BackT (l : Launch) (R : Room) (p : Program) (e : Env) (below : List Frame) (s : State) (sargs : Array Value) (y : MethodName) (len W : Nat) (Pre : Pt → Array Value → Prop) (Post : Pt → Array Value → Outcome → Pt → Prop) : Prop :=
  ∀ (m : MethodId) (meth : Method) (c : Code) (A : Pt) (g : JFrame) (ig : Instr) (mk : MethodId) (a : Array Value),
    Stand p l e R s m sargs below meth c A.U A.locs A.cells A.slots → g.method = m → g.locals.size = c.maxLocals → decode c.code g.pc = .ok (ig, len) →
    2 * g.monitorRoom + (g.stack.map fun v => v.category).sum ≤ W → A.U.methodNamed? y = some mk → Pre A a →
    ∃ (o : Outcome) (B : Pt), Stand p l e R s m sargs below meth c B.U B.locs B.cells B.slots ∧ Post A a o B ∧
      Steps p.tables e below (doInvoke e (A.U.setTop g) [] mk a).1 (match o with
        | .returned v => B.U.setTop { g with pc := g.pc + len, stack := v.toList ++ g.stack }
        | .threw x => (B.U.setTop g).pushFrame (.throwing x))
def PostT (Qc : Array Value → State → Outcome → State → Prop) (mc ms : Nat) (free : Addr → Prop) : Pt → Array Value → Outcome → Pt → Prop := fun A a o B =>
  ∃ (g : JFrame) (mk : MethodId) (t : State) (L : List Loc), B.U.heap = t.heap ∧ B.U.vm = t.vm ∧ Qc a (A.U.calling g mk a) o t ∧ B.locs = A.locs ++ L ∧ (∀ q ∈ L, free q.base) ∧ B.cells = A.cells + mc ∧ B.slots = A.slots + ms
theorem backT_of {sargs : Array Value} {y : MethodName} {len W : Nat} {ws : List Cond} {rm : Room} {Pc : Array Value → State → Prop} {Qc : Array Value → State → Outcome → State → Prop} {mc ms : Nat} {free : Addr → Prop} {bytes : ByteArray} {maxL : Nat} {ret : Option FieldType}
    (hM : MetT l y ws rm Pc Qc mc ms free) (hblind : FrameBlind Pc) (hrc : rm.cells = mc) (hrs : rm.slots = ms) (hframes : rm.frames + 1 ≤ R.frames) (hlocals : W + (maxL + 11) + rm.locals ≤ R.locals)
    (hws : ∀ w ∈ ws, ∀ a' U, s.WarmedH U.vm → w.before a' U = true) (hcode : Cond.code y bytes maxL ret ∈ ws) (hinit : ∀ a' U, s.WarmedH U.vm → (Cond.initialized y.cls).before a' U = true) :
    BackT l R p e below s sargs y len W (PreOf R mc ms Pc) (PostT Qc mc ms free) := by
  intro m meth c A g ig mk a X hg hsize hdg hW hn hp
  obtain ⟨U, Ls, c0, s0⟩ := A
  obtain ⟨hp1, hp2, hp3⟩ := hp
  dsimp only [Pt.U, Pt.locs, Pt.cells, Pt.slots] at hp1 hp2 hp3 X hn ⊢
  obtain ⟨methY, cY, hmY, hcY, -, hlY, -, -, -, -⟩ := Cond.code_spec hn (hws _ hcode a U X.warmed)
  obtain ⟨kY, hkY, -⟩ := className_of_methodNamed hn
  have hinitY : kY.init = .initialized := Cond.initialized_spec (findClass_of_methodNamed hn) hkY (hinit a U X.warmed)
  have h : At U g.method c below := by rw [hg]; exact X.here
  have happ : (headSpec ws rm).appliesLoose y e.platform (U.calling g mk a) = true :=
    Spec.appliesLoose_calling (g := g) h hdg hn hkY hinitY
      (X.room_calling (g := g) (R' := (headSpec ws rm).room) hsize hmY hcY hframes (by rw [hlY]; show _ + rm.locals ≤ _; omega) (by show c0 + rm.cells ≤ _; rw [hrc]; exact hp1) (by show s0 + rm.slots ≤ _; rw [hrs]; exact hp2)) (atoms_intro fun w hw => hws w hw _ _ X.warmed)
  obtain ⟨mid, hmid⟩ := h.above
  have hfr : (U.setTop g).frames = (.java g :: mid) ++ below := by rw [State.frames_setTop' g h.top, hmid]; rfl
  obtain ⟨o, s₂, hsteps, -, hend, hq⟩ := Steps.callFree hM p X.admits X.cas X.clock (acts := []) hfr happ (hblind _ _ g mk hp3) trivial
  have hq' : Qc a (U.calling g mk a) o s₂ ∧ ∃ L, FrameEndT (U.calling g mk a) s₂ L mc ms ∧ ∀ q ∈ L, free q.base := hq
  rw [State.frames_setTop' g h.top] at hend
  obtain ⟨hqc, L, ⟨hW₂, e2, q2, q3, q4, q5, q6⟩, hL⟩ := hq'
  have e3 : s₂ = ({ (U.calling g mk a).setFrames s₂.frames with heap := s₂.heap, slotsUsed := s₂.slotsUsed } : State).setVm s₂.vm := by
    have : s₂ = ({ s₂ with vm := (U.calling g mk a).vm } : State).setVm s₂.vm := rfl
    rw [e2] at this
    exact this
  have hW' : U.WarmedH s₂.vm := hW₂
  obtain ⟨g₀, hg0⟩ := Option.isSome_iff_exists.mp h.top
  obtain ⟨r, hr⟩ := State.topJava?_eq_some.mp hg0
  have hsame : U.sameButNew ({ U with heap := s₂.heap, slotsUsed := s₂.slotsUsed } : State) L mc ms := by
    refine ⟨?_, q2, q3, q4, q5, q6⟩
    obtain ⟨t, ht, -⟩ := State.frames_cons hr
    show ({ U with heap := s₂.heap, slotsUsed := s₂.slotsUsed } : State) = { U.setFrames U.frames with heap := s₂.heap, slotsUsed := s₂.slotsUsed }
    rw [State.setFrames_self ht]
  have hr' : (({ U with heap := s₂.heap, slotsUsed := s₂.slotsUsed } : State).setVm s₂.vm).frames = .java g₀ :: r := hr
  have hst : Stand p l e R s m sargs below meth c (({ U with heap := s₂.heap, slotsUsed := s₂.slotsUsed } : State).setVm s₂.vm) (Ls ++ L) (c0 + mc) (s0 + ms) := by
    subst hg
    exact ⟨X.admits, X.cas, X.clock, X.frames, X.room, X.hears, X.method, X.code, (X.here.setHeapUsed s₂.heap s₂.slotsUsed).setVm hW'.alike, X.tail, State.WarmedH.trans X.warmed hW', X.limits, X.bytes, X.same.trans (hsame.setVm s.vm)⟩
  refine ⟨o, ⟨(({ U with heap := s₂.heap, slotsUsed := s₂.slotsUsed } : State).setVm s₂.vm), Ls ++ L, c0 + mc, s0 + ms⟩, hst, ⟨g, mk, s₂, L, rfl, rfl, hqc, rfl, hL, rfl, rfl⟩, ?_⟩
  cases o with
  | returned v =>
    obtain ⟨c₂, i₂, len₂, hc₂, hd₂, hf₂⟩ := hend
    have hcc : c₂ = c := by
      have h1 : s₂.code? g.method = U.code? g.method := by
        rw [State.code?_eq, State.code?_eq, hW'.alike.method?]
      exact Option.some.inj (hc₂.symm.trans (h1.trans h.code))
    subst hcc
    have hlen : len₂ = len := by rw [hdg] at hd₂; cases hd₂; rfl
    subst hlen
    have hs₂ : s₂ = (({ U with heap := s₂.heap, slotsUsed := s₂.slotsUsed } : State).setVm s₂.vm).setTop { g with pc := g.pc + len₂, stack := v.toList ++ g.stack } := by
      refine e3.trans ?_
      rw [hf₂, State.calling_eq h.top, State.setFrames_setFrames, State.setTop_of_frames _ hr', hr]
      rfl
    show Steps p.tables e below _ ((({ U with heap := s₂.heap, slotsUsed := s₂.slotsUsed } : State).setVm s₂.vm).setTop { g with pc := g.pc + len₂, stack := v.toList ++ g.stack })
    rw [← hs₂]
    exact hsteps
  | threw x =>
    have hf₂ : s₂.frames = .throwing x :: .java g :: U.frames.tail := hend
    have hs₂ : s₂ = ((({ U with heap := s₂.heap, slotsUsed := s₂.slotsUsed } : State).setVm s₂.vm).setTop g).pushFrame (.throwing x) := by
      refine e3.trans ?_
      rw [hf₂, State.calling_eq h.top, State.setFrames_setFrames, State.pushFrame, State.frames_setTop _ hr', State.setTop_of_frames _ hr', State.setFrames_setFrames, hr]
      rfl
    show Steps p.tables e below _ (((({ U with heap := s₂.heap, slotsUsed := s₂.slotsUsed } : State).setVm s₂.vm).setTop g).pushFrame (.throwing x))
    rw [← hs₂]
    exact hsteps
end TH
section TC
variable {p : Program} {l : Launch} {e : Env} {R : Room} {s : State} {m : MethodId} {args : Array Value} {below : List Frame} {meth : Method} {c : Code} {H : Heap} {locs : List Loc} {cells slots : Nat} {Q : State → Prop}
variable {y : MethodName} {bytes cc : ByteArray} {maxL nL n index mc ms : Nat} {ret : Option FieldType} {rm : Room} {Ts ws : List Cond} {own C : String} {b : Addr} {As rest st0 : List Value} {pc : Nat} {ls : Array Slot} {B : State → Prop} {Qc : Array Value → State → Outcome → State → Prop} {free : Addr → Prop}
/-- a method that may throw is called: both ends -/
theorem cTV (S : CallFix p m c cc nL s args Ts own) (hM : MetT l y ws rm (va_Pc (.ref b :: As) B) Qc mc ms free) (cw : CallW R s args own C index y bytes maxL ret ws rm mc ms n) (hbl : w_bl B) (hB : ∀ U : State, U.heap = H → s.vm.Alike U.vm → B U) (hrc : ∃ cellB : Cell, H[b]? = some cellB ∧ cellB.vm.isStatics = false ∧ s.vm.findClass C = some cellB.cls)
    (hn : As.length = n) (hsize : ls.size = nL) (hst : st0 = As.reverse ++ .ref b :: rest) (hW : (rest.map fun v => v.category).sum ≤ 8) (hdg : decode cc pc = .ok (.invokevirtual index, 3)) (hf : cells + mc ≤ R.cells ∧ slots + ms ≤ R.slots)
    (kr : ∀ (v : Option Value) (st₀ t : State) (L : List Loc), st₀.heap = H → s.vm.Alike t.vm → Qc (Value.ref b :: As).toArray st₀ (.returned v) t → (∀ q ∈ L, free q.base) → W p l e R s m args below meth c t.heap (locs ++ L) (cells + mc) (slots + ms) Q (F0 m (pc + 3) ls (v.toList ++ rest)))
    (kt : ∀ (x : Addr) (st₀ t : State) (L : List Loc), st₀.heap = H → s.vm.Alike t.vm → Qc (Value.ref b :: As).toArray st₀ (.threw x) t → (∀ q ∈ L, free q.base) → WT p l e R s m args below meth c t.heap (locs ++ L) (cells + mc) (slots + ms) Q (F0 m pc ls rest) x) :
    W p l e R s m args below meth c H locs cells slots Q (F0 m pc ls st0) := by
  obtain ⟨⟨hrc1, hrs1, hfr, hlo, hws, hcw, hcode, hini, hy, hlen, hl⟩, hin, hse⟩ := cw
  obtain ⟨hx, hb, hml, ho, -⟩ := S
  obtain ⟨cellB, hcB, hoB, hclB⟩ := hrc
  have hK : BackT l R p e below s args y 3 8 (PreOf R mc ms (va_Pc (.ref b :: As) B)) (PostT Qc mc ms free) :=
    backT_of (bytes := bytes) (maxL := maxL) (ret := ret) hM (hbl.blind _) hrc1 hrs1 hfr hlo hws hcw (fun a' U hW => word_at hW (Or.inl (by first | rfl | simp [Cond.onTables, Cond.keeps, Cond.steady])) hini)
  intro T hT X
  subst hb hst
  obtain ⟨mk, methM, hnamed, hmethM, hstM, habM⟩ := Cond.instanceMethod_spec hin
  obtain ⟨methM', cM, hmethM', -, -, -, -, -, -, hsigM⟩ := Cond.code_spec hnamed hcode
  cases hmethM.symm.trans hmethM'
  obtain ⟨c2, r2, m2, q1, q2, q3, q4, kP, hkP, hkPi⟩ := Cond.selects_spec hse
  cases hclB.symm.trans q1
  cases (State.methodFound?_of_named hnamed hy).symm.trans q2
  cases hnamed.symm.trans q3
  have hselP : selectMethod e.platform s.vm cellB.cls mk = .method mk := by rw [Launch.admits_selectMethod X.admits]; exact q4
  obtain ⟨vm₁, X₁, hstep₁⟩ := X.invokevirtual hx ho hl hnamed hmethM hstM hkP hkPi hy (a := b) (cell := cellB) (by rw [hT]; exact hcB)
    (fun z h => by rw [h] at hoB; cases hoB) hselP hmethM habM hkP hkPi (g := F0 m pc ls (As.reverse ++ .ref b :: rest)) rfl (argsL := As) (rest := rest) (hn.trans (hlen _ hsigM)) rfl hdg
  obtain ⟨o, ⟨U', l2, c3, s3⟩, X', ⟨g', mk', t, L, e1, e2, hq, h1, hL, h2, h3⟩, hsteps⟩ := hK m meth c ⟨T.setVm vm₁, locs, cells, slots⟩ { F0 m pc ls (As.reverse ++ .ref b :: rest) with stack := rest } (.invokevirtual index) mk (Value.ref b :: As).toArray X₁ rfl (hsize.trans hml.symm) hdg (lv_room hW) (X₁.named hnamed)
    ⟨hf.1, hf.2, rfl, hB (T.setVm vm₁) hT X₁.warmed.alike⟩
  dsimp only [Pt.U, Pt.locs, Pt.cells, Pt.slots] at X' e1 e2 h1 h2 h3 hsteps
  subst h1; subst h2; subst h3
  have hal : s.vm.Alike t.vm := by rw [← e2]; exact X'.warmed.alike
  cases o with
  | returned v =>
    obtain ⟨tt, a1, b1⟩ := kr v ((T.setVm vm₁).calling g' mk' (Value.ref b :: As).toArray) t L hT hal hq hL U' e1 X'
    exact ⟨tt, hstep₁ _ fun acts => by rw [doInvoke_state]; exact hsteps.trans a1, b1⟩
  | threw x =>
    obtain ⟨tt, a1, b1⟩ := kt x ((T.setVm vm₁).calling g' mk' (Value.ref b :: As).toArray) t L hT hal hq hL U' e1 X'
    exact ⟨tt, hstep₁ _ fun acts => by rw [doInvoke_state]; exact hsteps.trans a1, b1⟩
end TC
section TG
variable {p : Program} {l : Launch} {e : Env} {R : Room} {s : State} {m : MethodId} {args : Array Value} {below : List Frame} {meth : Method} {c : Code} {H : Heap} {locs : List Loc} {cells slots : Nat} {Q : State → Prop}
/-- the search finds the first row, its class linked there and then -/
theorem finds_cold {U : State} {f : JFrame} {a : Addr} {x : ExceptionTableEntry} {tl : List ExceptionTableEntry} {code : Code} {mth : Method} {ct : ClassId} {vm' : Vm} {cell : Cell} (hm : U.vm.method? f.method = some mth) (hc : mth.code = some code) (htab : code.exceptionTable.toList = x :: tl) (hx : covers x f.pc = true) (h0 : x.catchType ≠ 0)
    (hg : (Jvm.resolveClass f.method.cls x.catchType).Gives e.toSetting U.vm (.ok ct) vm') (hsz : vm'.classes.size ≤ U.vm.classes.size) (hcell : U.heap[a]? = some cell) (hobj : ∀ k, cell.vm ≠ .statics k) (hk : ∃ k, vm'.classes[cell.cls]? = some k) (hcl : ∃ k, vm'.classes[ct]? = some k) (hfit : vm'.assignable cell.cls ct = true)
    (Q : Handler → Pre) (E : CtlPost) (d : Bool) (acts : List Action) : wp (findHandler f a) Q E e d acts U ↔ Q (.found x.handlerPc) d acts (U.setVm vm') := by
  obtain ⟨ha, ht⟩ := hg.op (op := VmOp.resolveClass f.method.cls x.catchType) rfl
  simp only [covers] at hx
  rw [W.findHandler_eq hm hc, htab]
  simp [findHandler.go, hx, h0, ha, ht, hsz, hcell, hobj, hk, hcl, hfit, VmOp.dirties, VmOp.acts]
theorem WT.caught {own nm C : String} {index pc : Nat} {ls : Array Slot} {st : List Value} {a : Addr} {x : ExceptionTableEntry} {tl : List ExceptionTableEntry} (hown : s.vm.findClass own = some m.cls) (htab : c.exceptionTable.toList = x :: tl) (hcov : covers x pc = true) (hct : x.catchType = index) (h0 : index ≠ 0) (hlink : (Cond.classLink own index nm).before args s = true)
    (hcast : va_Nw (.castable C nm) s) (hr : ∃ cell : Cell, H[a]? = some cell ∧ cell.vm.isStatics = false ∧ s.vm.findClass C = some cell.cls) (k : W p l e R s m args below meth c H locs cells slots Q (F0 m x.handlerPc ls [.ref a])) : WT p l e R s m args below meth c H locs cells slots Q (F0 m pc ls st) a := by
  obtain ⟨cell, h1, h2, h3⟩ := hr
  obtain ⟨c0, t0, f1, f2, f3⟩ := Cond.castable_spec (va_Nw.use (A := args) rfl hcast)
  cases h3.symm.trans f1
  intro T hT X
  have hpl : e.platform.magicAccessors = ({} : Platform).magicAccessors := by rw [X.admits.platform]
  obtain ⟨c', hc', hcl⟩ := Cond.classLink_spec hown hlink e.platform hpl
  cases f2.symm.trans hc'
  obtain ⟨hg, hW', -⟩ := State.classEntry (e := e) X.warmed hcl
  subst hct
  obtain ⟨t, a1, b1⟩ := k (T.setVm (T.vm.noted m.cls x.catchType (.cls t0))) hT (X.noted hW')
  refine ⟨t, ?_, b1⟩
  obtain ⟨hgo, hw⟩ := At.throwing (g := F0 m pc ls st) X.here a
  refine Steps.head hgo hw ?_
  obtain ⟨g₀, hfr⟩ := X.frames_eq
  rw [stepThread_throwing (frames_entered X.here.top _)]
  have hU : ((T.setTop (F0 m pc ls st)).pushFrame (.throwing a)).heap[a]? = some cell := by rw [← hT] at h1; exact h1
  have hal : ((T.setTop (F0 m pc ls st)).pushFrame (.throwing a)).vm.Alike (T.vm.noted m.cls x.catchType (.cls t0)) := X.warmed.alike.symm.trans hW'.alike
  have hfind := finds_cold (e := e) (U := (T.setTop (F0 m pc ls st)).pushFrame (.throwing a)) (f := F0 m pc ls st) (a := a) (x := x) (tl := tl) (code := c) (mth := meth) X.method' X.code htab hcov h0 hg (by no_record) hU (VmData.ne_statics_of h2)
    (Vm.classAt_of_assignable (t := t0) (by rw [hW'.alike.assignable]; exact f3) (Vm.classAt_of_findClass (by rw [hW'.alike.findClass]; exact f2))) (Vm.classAt_of_findClass (by rw [hW'.alike.findClass]; exact f2)) (by rw [hW'.alike.assignable]; exact f3)
  have hstep : (stepThrowing e ((T.setTop (F0 m pc ls st)).pushFrame (.throwing a)) a (.java (F0 m pc ls st) :: T.frames.tail)).1 = (((T.setTop (F0 m pc ls st)).pushFrame (.throwing a)).setVm (T.vm.noted m.cls x.catchType (.cls t0))).setFrames (.java (F0 m x.handlerPc ls [.ref a]) :: T.frames.tail) := by
    simp only [stepThrowing, searchFrame, vmDo]
    generalize hr : Sem.go _ e false [] _ = res
    obtain ⟨as, rfl, ha⟩ := Sem.eq_ok_of hr (a := Handler.found x.handlerPc) (s' := ((T.setTop (F0 m pc ls st)).pushFrame (.throwing a)).setVm (T.vm.noted m.cls x.catchType (.cls t0))) (acts' := []) (by simp [hfind])
    rfl
  rw [hstep]
  have hfr' : (T.setVm (T.vm.noted m.cls x.catchType (.cls t0))).frames = .java g₀ :: below := hfr
  rw [State.setTop_of_frames _ hfr'] at a1
  rw [State.pushFrame, State.setTop_of_frames _ hfr, State.setFrames_setFrames, X.tail]
  show Steps p.tables e below (((T.setVm (T.vm.noted m.cls x.catchType (.cls t0))).setFrames _).setFrames _) t
  rw [State.setFrames_setFrames]
  exact a1
end TG
