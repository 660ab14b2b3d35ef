/-! BASE: the classes of the whole system, a method's start, calls of readers -/
set_option maxRecDepth 100000
abbrev vwCl : List vw_C := [(RX3, TX3, 31), (RX0, TX0, 11), (RX1, TX1, 11), (RX2, TX2, 2), (RX6, TX6, 2), (RX7, TX7, 3), (RX9, TX9, 4), (RX10, TX10, 3), (RJ2, TJ2, 3), (RX4, TX4, 6), (RJ4, TJ4, 4), (RJ5, TJ5, 4), (RX5, TX5, 7)]
/-- the array classes: 0 int, 1 byte, 2 short, 3 Object, 4 short[], 5 Call, 6 int[] -/
abbrev vwTy (dA : Nat → ClassId) : List (ClassId × FieldType) := [(dA 0, .int), (dA 1, .byte), (dA 2, .short), (dA 3, .object "java/lang/Object"), (dA 4, .array .short), (dA 5, .object "CarryUp$Call"), (dA 6, .array .int)]
theorem w_start {l : Launch} {y : MethodName} {cc : ByteArray} {maxL : Nat} {ret : Option FieldType} {rm : Room} {av : List Value} {B : State → Prop} {Qc : Array Value → State → Outcome → State → Prop} {mc ms : Nat} {free : Addr → Prop} (hy : plainName y.cls = true) (hn : (lg_sl av).length ≤ maxL)
    (body : ∀ (p : Program) (e : Env) (s : State) (m : MethodId) (args : Array Value) (below : List Frame) (meth : Method) (c : Code) (Q : State → Prop) (ls : Array Slot), Q = MQ below Qc args s mc ms free → p.tables.exec = Jvm.exec → c.code = cc → meth.sig.returnType = ret → meth.locks = false → c.maxLocals = maxL → s.vm.findClass y.cls = some m.cls → meth.name = y.name → (∀ w ∈ lw_all, w.before args s = true) → B s → lv_has ls maxL (lv_args 0 av) →
      W p l e rm s m args below meth c s.heap [] 0 0 Q (F0 m 0 ls [])) : Met l y (ws_ y cc maxL ret) rm (va_Pc av B) Qc mc ms free := by
  refine Met.ofW (cc := cc) (maxL := maxL) (ret := ret) hy rfl ?_
  intro p e s m args below meth c s₁ B' hml hv
  obtain ⟨rfl, hB⟩ := hv
  have hts := atoms_spec (ws := ws_ y cc maxL ret) B'.pre
  rw [lg_entry_eq]
  exact body p e s m _ below meth c _ _ rfl B'.exec B'.bytes B'.returns B'.notSynchronized hml (findClass_of_methodNamed B'.named) (name_of_methodNamed B'.named B'.method).1 (fun w h => hts w (List.mem_cons_of_mem _ h)) hB (lv_entry av hn)
/-- what a contract's start may speak of: the heap, and the tables as they stay -/
def w_bl (B : State → Prop) : Prop := ∀ U U' : State, U'.heap = U.heap → U.vm.Alike U'.vm → B U → B U'
theorem w_bl.blind {B : State → Prop} (h : w_bl B) (av : List Value) : FrameBlind (va_Pc av B) := fun _ U _ _ q => ⟨q.1, h U _ rfl (Vm.Alike.refl U.vm) q.2⟩
theorem w_blT : w_bl (fun _ => True) := fun _ _ _ _ _ => trivial
section WC
variable {p : Program} {l : Launch} {e : Env} {R : Room} {s : State} {m : MethodId} {args : Array Value} {below : List Frame} {meth : Method} {c : Code} {H : Heap} {locs : List Loc} {cells slots : Nat} {Q : State → Prop}
variable {y : MethodName} {bytes cc : ByteArray} {maxL nL n index mc ms : Nat} {ret : Option FieldType} {rm : Room} {Ts ws : List Cond} {own C : String} {b : Addr} {As rest st0 : List Value} {pc : Nat} {ls : Array Slot} {B : State → Prop}
/-- a reader is called: the answer, the heap as it was -/
theorem cVi {F : Int32} (S : CallFix p m c cc nL s args Ts own) (hM : Met l y ws rm (va_Pc (.ref b :: As) B) (vp_Si (fun r => r = F)) 0 0 (fun _ => False)) (cw : CallW R s args own C index y bytes maxL ret ws rm 0 0 n) (hbl : w_bl B) (hB : ∀ U : State, U.heap = H → s.vm.Alike U.vm → B U) (hrc : ∃ cellB : Cell, H[b]? = some cellB ∧ cellB.vm.isStatics = false ∧ s.vm.findClass C = some cellB.cls)
    (hn : As.length = n) (hsize : ls.size = nL) (hst : st0 = As.reverse ++ .ref b :: rest) (hW : (rest.map fun v => v.category).sum ≤ 8) (hdg : decode cc pc = .ok (.invokevirtual index, 3)) (hf : cells + 0 ≤ R.cells ∧ slots + 0 ≤ R.slots)
    (kk : W p l e R s m args below meth c H locs cells slots Q (F0 m (pc + 3) ls (.int F :: rest))) : W p l e R s m args below meth c H locs cells slots Q (F0 m pc ls st0) :=
  vp_callSi (va_runV (As := As) (rest := rest) S hM cw ⟨hbl.blind _, hrc, fun U hU hW => ⟨rfl, hB U hU hW.alike⟩⟩ rfl hn hsize hst (lv_room hW) hdg hf).run (fun r h => by rw [h]; exact kk)
theorem cVl {F : Int64} (S : CallFix p m c cc nL s args Ts own) (hM : Met l y ws rm (va_Pc (.ref b :: As) B) (vp_Sl (fun r => r = F)) 0 0 (fun _ => False)) (cw : CallW R s args own C index y bytes maxL ret ws rm 0 0 n) (hbl : w_bl B) (hB : ∀ U : State, U.heap = H → s.vm.Alike U.vm → B U) (hrc : ∃ cellB : Cell, H[b]? = some cellB ∧ cellB.vm.isStatics = false ∧ s.vm.findClass C = some cellB.cls)
    (hn : As.length = n) (hsize : ls.size = nL) (hst : st0 = As.reverse ++ .ref b :: rest) (hW : (rest.map fun v => v.category).sum ≤ 8) (hdg : decode cc pc = .ok (.invokevirtual index, 3)) (hf : cells + 0 ≤ R.cells ∧ slots + 0 ≤ R.slots)
    (kk : W p l e R s m args below meth c H locs cells slots Q (F0 m (pc + 3) ls (.long F :: rest))) : W p l e R s m args below meth c H locs cells slots Q (F0 m pc ls st0) :=
  vp_callSl (va_runV (As := As) (rest := rest) S hM cw ⟨hbl.blind _, hrc, fun U hU hW => ⟨rfl, hB U hU hW.alike⟩⟩ rfl hn hsize hst (lv_room hW) hdg hf).run (fun r h => by rw [h]; exact kk)
theorem cSi {F : Int32} (S : CallFix p m c cc nL s args Ts own) (hM : Met l y ws rm (va_Pc As B) (vp_Si (fun r => r = F)) 0 0 (fun _ => False)) (cw : CallB R s args own index y bytes maxL ret ws rm 0 0 n ∧ (Cond.static y).before args s = true) (hbl : w_bl B) (hB : ∀ U : State, U.heap = H → s.vm.Alike U.vm → B U)
    (hn : As.length = n) (hsize : ls.size = nL) (hst : st0 = As.reverse ++ rest) (hW : (rest.map fun v => v.category).sum ≤ 8) (hdg : decode cc pc = .ok (.invokestatic index, 3)) (hf : cells + 0 ≤ R.cells ∧ slots + 0 ≤ R.slots)
    (kk : W p l e R s m args below meth c H locs cells slots Q (F0 m (pc + 3) ls (.int F :: rest))) : W p l e R s m args below meth c H locs cells slots Q (F0 m pc ls st0) :=
  vp_callSi (va_runS (As := As) (rest := rest) S hM cw ⟨hbl.blind _, fun U hU hW => ⟨rfl, hB U hU hW.alike⟩⟩ rfl hn hsize hst (lv_room hW) hdg hf).run (fun r h => by rw [h]; exact kk)
theorem cSl {F : Int64} (S : CallFix p m c cc nL s args Ts own) (hM : Met l y ws rm (va_Pc As B) (vp_Sl (fun r => r = F)) 0 0 (fun _ => False)) (cw : CallB R s args own index y bytes maxL ret ws rm 0 0 n ∧ (Cond.static y).before args s = true) (hbl : w_bl B) (hB : ∀ U : State, U.heap = H → s.vm.Alike U.vm → B U)
    (hn : As.length = n) (hsize : ls.size = nL) (hst : st0 = As.reverse ++ rest) (hW : (rest.map fun v => v.category).sum ≤ 8) (hdg : decode cc pc = .ok (.invokestatic index, 3)) (hf : cells + 0 ≤ R.cells ∧ slots + 0 ≤ R.slots)
    (kk : W p l e R s m args below meth c H locs cells slots Q (F0 m (pc + 3) ls (.long F :: rest))) : W p l e R s m args below meth c H locs cells slots Q (F0 m pc ls st0) :=
  vp_callSl (va_runS (As := As) (rest := rest) S hM cw ⟨hbl.blind _, fun U hU hW => ⟨rfl, hB U hU hW.alike⟩⟩ rfl hn hsize hst (lv_room hW) hdg hf).run (fun r h => by rw [h]; exact kk)
/-- an int array's element by a natural number's place -/
theorem wa_iald {D : va_G} {cl : List vw_C} {ws : va_W} {tys : List (ClassId × FieldType)} {a : Nat} (hexec : p.tables.exec = Jvm.exec) (hb : c.code = cc) (hK : va_K D cl tys s) (hP : va_P D cl ws H) (q0 t0 : Nat) {cA : ClassId} {n : Nat} {f : Nat → Int32} (ha : ws[q0]? = some (a, .inl (cA, n, .inl f))) (ht : tys[t0]? = some (cA, .int)) (j : Nat) {i : Int32} (hi : i = nI j) (hj : j < n) (hn : n < 2 ^ 31) (hdg : decode cc pc = .ok (.iaload, 1))
    (kk : W p l e R s m args below meth c H locs cells slots Q (F0 m (pc + 1) ls (.int (f j) :: rest))) : W p l e R s m args below meth c H locs cells slots Q (F0 m pc ls (.int i :: .ref a :: rest)) := by
  subst hi
  refine va_iald hexec hb hK hP q0 t0 ha ht (vp_in_nI hj hn) hdg ?_
  rw [nI_clamp (by omega)]
  exact kk
theorem wa_iast0 {D : va_G} {cl : List vw_C} {ws : va_W} {tys : List (ClassId × FieldType)} {a : Nat} {A : Nat → Prop} {H0 : Heap} (hexec : p.tables.exec = Jvm.exec) (hb : c.code = cc) (hK : va_K D cl tys s) (hP : va_P D cl ws H) (hD : va_D A ws) (hS : va_S A H0 H locs) (q0 t0 : Nat) {cA : ClassId} {n : Nat} {f : Nat → Int32} (ha : ws[q0]? = some (a, .inl (cA, n, .inl f))) (ht : tys[t0]? = some (cA, .int)) (j : Nat) {i x : Int32} (hi : i = nI j) (hj : j < n) (hn : n < 2 ^ 31) (hdg : decode cc pc = .ok (.iastore, 1))
    (kk : ∀ (H1 : Heap) (locs1 : List Loc), va_P D cl (ws.set q0 (a, .inl (cA, n, .inl (upd f j x)))) H1 → va_S A H0 H1 locs1 → W p l e R s m args below meth c H1 locs1 cells slots Q (F0 m (pc + 1) ls rest)) : W p l e R s m args below meth c H locs cells slots Q (F0 m pc ls (.int x :: .int i :: .ref a :: rest)) := by
  subst hi
  refine va_iast hexec hb hK hP hD hS q0 t0 ha ht (vp_in_nI hj hn) hdg (fun H1 locs1 h1 _ h3 => ?_)
  rw [nI_clamp (by omega)] at h1
  exact kk H1 locs1 h1 h3
theorem wa_iast {D : va_G} {cl : List vw_C} {ws : va_W} {tys : List (ClassId × FieldType)} {a : Nat} {A : Nat → Prop} {H0 : Heap} (hexec : p.tables.exec = Jvm.exec) (hb : c.code = cc) (hK : va_K D cl tys s) (hP : va_P D cl ws H) (hD : va_D A ws) (hS : va_S A H0 H locs) (q0 t0 : Nat) {cA : ClassId} {n : Nat} {f : Nat → Int32} (ha : ws[q0]? = some (a, .inl (cA, n, .inl f))) (ht : tys[t0]? = some (cA, .int)) (j : Nat) {i x : Int32} (hi : i = nI j) (hj : j < n) (hn : n < 2 ^ 31) (hdg : decode cc pc = .ok (.iastore, 1))
    (kk : ∀ (H1 : Heap) (locs1 : List Loc) (f1 : Nat → Int32), f1 = upd f j x → va_P D cl (ws.set q0 (a, .inl (cA, n, .inl f1))) H1 → va_S A H0 H1 locs1 → W p l e R s m args below meth c H1 locs1 cells slots Q (F0 m (pc + 1) ls rest)) : W p l e R s m args below meth c H locs cells slots Q (F0 m pc ls (.int x :: .int i :: .ref a :: rest)) :=
  wa_iast0 hexec hb hK hP hD hS q0 t0 ha ht j hi hj hn hdg (fun H1 locs1 h1 h3 => kk H1 locs1 _ rfl h1 h3)
/-- the end of a reader -/
theorem r_i {F v : Int32} (hQ : Q = MQ below (vp_Si (fun r => r = F)) args s cells slots (fun _ => False)) (hx : p.tables.exec = Jvm.exec) (hb : c.code = cc) (hr : meth.sig.returnType = some .int) (hlocks : meth.locks = false) (hH : H = s.heap) (hv : v = F) (hdg : decode cc pc = .ok (.ireturn, 1)) : W p l e R s m args below meth c H [] cells slots Q (F0 m pc ls [.int v]) := by
  subst hQ
  exact W.iret hx hb hr (fun t ht hW => ⟨v, rfl, hv, by rw [ht, hH]⟩) (fun q h => by cases h) hdg hlocks
theorem r_z {F v : Int32} (hQ : Q = MQ below (vp_Si (fun r => r = F)) args s cells slots (fun _ => False)) (hx : p.tables.exec = Jvm.exec) (hb : c.code = cc) (hr : meth.sig.returnType = some .boolean) (hlocks : meth.locks = false) (hH : H = s.heap) (hn : v = 0 ∨ v = 1) (hv : v = F) (hdg : decode cc pc = .ok (.ireturn, 1)) : W p l e R s m args below meth c H [] cells slots Q (F0 m pc ls [.int v]) := by
  subst hQ
  exact W.zret hx hb hr (by rcases hn with rfl | rfl <;> rfl) (fun t ht hW => ⟨v, rfl, hv, by rw [ht, hH]⟩) (fun q h => by cases h) hdg hlocks
theorem r_l {F v : Int64} (hQ : Q = MQ below (vp_Sl (fun r => r = F)) args s cells slots (fun _ => False)) (hx : p.tables.exec = Jvm.exec) (hb : c.code = cc) (hr : meth.sig.returnType = some .long) (hlocks : meth.locks = false) (hH : H = s.heap) (hv : v = F) (hdg : decode cc pc = .ok (.lreturn, 1)) : W p l e R s m args below meth c H [] cells slots Q (F0 m pc ls [.long v]) := by
  subst hQ
  exact W.lret hx hb hr (fun t ht hW => ⟨v, rfl, hv, by rw [ht, hH]⟩) (fun q h => by cases h) hdg hlocks
end WC
/-- a truth as the machine has it -/
def b01 (P : Prop) [Decidable P] : Int32 := if P then 1 else 0
theorem b01_0 {P : Prop} [Decidable P] : b01 P = 0 ↔ ¬ P := by
  unfold b01
  by_cases h : P <;> simp [h]
theorem b01_1 {P : Prop} [Decidable P] : b01 P = 1 ↔ P := by
  unfold b01
  by_cases h : P <;> simp [h]
theorem b01_t {P : Prop} [Decidable P] (h : P) : b01 P = 1 := if_pos h
theorem b01_f {P : Prop} [Decidable P] (h : ¬ P) : b01 P = 0 := if_neg h
theorem b01_or {P : Prop} [Decidable P] : b01 P = 0 ∨ b01 P = 1 := by
  by_cases h : P
  · exact Or.inr (b01_t h)
  · exact Or.inl (b01_f h)
theorem b01_c {P P' : Prop} [Decidable P] [Decidable P'] (h : P ↔ P') : b01 P = b01 P' := by
  unfold b01
  by_cases q : P
  · rw [if_pos q, if_pos (h.mp q)]
  · rw [if_neg q, if_neg (fun z => q (h.mpr z))]
