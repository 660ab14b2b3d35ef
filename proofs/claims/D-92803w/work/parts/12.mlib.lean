/-! small rows for the walker; calls and ends of the model's writers -/
set_option maxRecDepth 100000
theorem nz_add {x y : Int32} {a b : Nat} (h1 : x = nI a) (h2 : y = nI b) : x + y = nI (a + b) := by rw [h1, h2, nI_add]
theorem nz_mul {x y : Int32} {a b : Nat} (h1 : x = nI a) (h2 : y = nI b) : x * y = nI (a * b) := by rw [h1, h2, pk_mul]
theorem nz_eq {x y : Int32} {a b : Nat} (h1 : x = nI a) (h2 : y = nI b) (ha : a < 2 ^ 31) (hb : b < 2 ^ 31) : x = y ↔ a = b := by rw [h1, h2]; exact nI_eq ha hb
theorem nz_lt {x y : Int32} {a b : Nat} (h1 : x = nI a) (h2 : y = nI b) (ha : a < 2 ^ 31) (hb : b < 2 ^ 31) : x < y ↔ a < b := by rw [h1, h2]; exact nI_ltI ha hb
theorem nz_le {x y : Int32} {a b : Nat} (h1 : x = nI a) (h2 : y = nI b) (ha : a < 2 ^ 31) (hb : b < 2 ^ 31) : x ≤ y ↔ a ≤ b := by rw [h1, h2]; exact nI_leI ha hb
theorem b01_n {P : Prop} [Decidable P] (h : ¬ b01 P = 0) : P := Decidable.byContradiction fun q => h (b01_f q)
theorem w_nar {v : Int32} (h : v = 0 ∨ v = 1) : narrow .boolean (.int v) = .int v := by rcases h with rfl | rfl <;> rfl
theorem w_fit {v : Int32} (h : v = 0 ∨ v = 1) : fits .boolean (.int v) = true := by rcases h with rfl | rfl <;> rfl
def updN (f : Nat → Nat) (k : Nat) (x : Nat) : Nat → Nat := fun j => if j = k then x else f j
theorem updN_nI (f : Nat → Nat) (k x : Nat) : upd (fun c => nI (f c)) k (nI x) = fun c => nI (updN f k x c) := by
  funext j
  unfold upd updN
  by_cases h : j = k
  · rw [if_pos h, if_pos h]
  · rw [if_neg h, if_neg h]
theorem w_toI {x : Int32} {n : Nat} (h : ¬ x = nI n) (hn : n < 2 ^ 31) : ¬ x.toInt = (n : Int) := fun q => h (Int32.toInt_inj.mp (by rw [nI_toInt hn]; exact q))
theorem w_tout6 {x : Int32} (h0 : ¬ x = 0) (h1 : ¬ x = 1) (h2 : ¬ x = 2) (h3 : ¬ x = 3) (h4 : ¬ x = 4) (h5 : ¬ x = 5) : x.toInt < 0 ∨ 5 < x.toInt := by
  have a0 := w_toI (n := 0) h0 (by decide)
  have a1 := w_toI (n := 1) h1 (by decide)
  have a2 := w_toI (n := 2) h2 (by decide)
  have a3 := w_toI (n := 3) h3 (by decide)
  have a4 := w_toI (n := 4) h4 (by decide)
  have a5 := w_toI (n := 5) h5 (by decide)
  omega
section WM
variable {p : Program} {l : Launch} {e : Env} {R : Room} {s : State} {m : MethodId} {args : Array Value} {below : List Frame} {meth : Method} {c : Code} {H H0 : Heap} {locs : List Loc} {cells slots : Nat} {Q : State → Prop}
variable {y : MethodName} {bytes cc : ByteArray} {maxL nL n index : Nat} {ret : Option FieldType} {rm : Room} {Ts ws : List Cond} {own C : String} {b : Addr} {As rest st0 : List Value} {pc : Nat} {ls : Array Slot}
variable {D : va_G} {dA : Nat → ClassId} {h : Nat} {ad : Nat → Nat} {σ : St} {τ : Sc}
theorem w_topi {x y : Int32} (h : x = y) (k : W p l e R s m args below meth c H locs cells slots Q (F0 m pc ls (.int y :: rest))) : W p l e R s m args below meth c H locs cells slots Q (F0 m pc ls (.int x :: rest)) := by rw [h]; exact k
theorem w_topl {x y : Int64} (h : x = y) (k : W p l e R s m args below meth c H locs cells slots Q (F0 m pc ls (.long y :: rest))) : W p l e R s m args below meth c H locs cells slots Q (F0 m pc ls (.long x :: rest)) := by rw [h]; exact k
theorem mcVi {post : Int32 → MS → Prop} (S : CallFix p m c cc nL s args Ts own) (hM : Met l y ws rm (va_Pc (.ref b :: As) (mB D dA h ad σ τ)) (va_Qi post (fun u t => mB D dA h ad u.1 u.2 t) (mA h ad)) 0 0 (mA h ad)) (cw : CallW R s args own C index y bytes maxL ret ws rm 0 0 n) (hB : ∀ U : State, U.heap = H → s.vm.Alike U.vm → mB D dA h ad σ τ U) (hrc : ∃ cellB : Cell, H[b]? = some cellB ∧ cellB.vm.isStatics = false ∧ s.vm.findClass C = some cellB.cls)
    (hn : As.length = n) (hsize : ls.size = nL) (hst : st0 = As.reverse ++ .ref b :: rest) (hW : (rest.map fun v => v.category).sum ≤ 8) (hdg : decode cc pc = .ok (.invokevirtual index, 3)) (hf : cells + 0 ≤ R.cells ∧ slots + 0 ≤ R.slots) (hS : va_S (mA h ad) H0 H locs)
    (kk : ∀ (r : Int32) (u : MS) (H1 : Heap) (locs1 : List Loc), post r u → va_P D vwCl (mW dA h ad u.1 u.2) H1 → va_S (mA h ad) H0 H1 locs1 → W p l e R s m args below meth c H1 locs1 cells slots Q (F0 m (pc + 3) ls (.int r :: rest))) : W p l e R s m args below meth c H locs cells slots Q (F0 m pc ls st0) :=
  va_calli (va_runV (As := As) (rest := rest) S hM cw ⟨mB_bl.blind _, hrc, fun U hU hW => ⟨rfl, hB U hU hW.alike⟩⟩ rfl hn hsize hst (lv_room hW) hdg hf) hS (fun _ _ h => h) (fun _ h => h) (fun r u t H1 locs1 ht hvm hp hB hz hk hS => kk r u H1 locs1 hp (by rw [← ht]; exact hB.1) hS)
theorem mcVl {post : Int64 → MS → Prop} (S : CallFix p m c cc nL s args Ts own) (hM : Met l y ws rm (va_Pc (.ref b :: As) (mB D dA h ad σ τ)) (va_Ql post (fun u t => mB D dA h ad u.1 u.2 t) (mA h ad)) 0 0 (mA h ad)) (cw : CallW R s args own C index y bytes maxL ret ws rm 0 0 n) (hB : ∀ U : State, U.heap = H → s.vm.Alike U.vm → mB D dA h ad σ τ U) (hrc : ∃ cellB : Cell, H[b]? = some cellB ∧ cellB.vm.isStatics = false ∧ s.vm.findClass C = some cellB.cls)
    (hn : As.length = n) (hsize : ls.size = nL) (hst : st0 = As.reverse ++ .ref b :: rest) (hW : (rest.map fun v => v.category).sum ≤ 8) (hdg : decode cc pc = .ok (.invokevirtual index, 3)) (hf : cells + 0 ≤ R.cells ∧ slots + 0 ≤ R.slots) (hS : va_S (mA h ad) H0 H locs)
    (kk : ∀ (r : Int64) (u : MS) (H1 : Heap) (locs1 : List Loc), post r u → va_P D vwCl (mW dA h ad u.1 u.2) H1 → va_S (mA h ad) H0 H1 locs1 → W p l e R s m args below meth c H1 locs1 cells slots Q (F0 m (pc + 3) ls (.long r :: rest))) : W p l e R s m args below meth c H locs cells slots Q (F0 m pc ls st0) :=
  va_calll (va_runV (As := As) (rest := rest) S hM cw ⟨mB_bl.blind _, hrc, fun U hU hW => ⟨rfl, hB U hU hW.alike⟩⟩ rfl hn hsize hst (lv_room hW) hdg hf) hS (fun _ _ h => h) (fun _ h => h) (fun r u t H1 locs1 ht hvm hp hB hz hk hS => kk r u H1 locs1 hp (by rw [← ht]; exact hB.1) hS)
theorem mcVv {post : MS → Prop} (S : CallFix p m c cc nL s args Ts own) (hM : Met l y ws rm (va_Pc (.ref b :: As) (mB D dA h ad σ τ)) (va_Qv post (fun u t => mB D dA h ad u.1 u.2 t) (mA h ad)) 0 0 (mA h ad)) (cw : CallW R s args own C index y bytes maxL ret ws rm 0 0 n) (hB : ∀ U : State, U.heap = H → s.vm.Alike U.vm → mB D dA h ad σ τ U) (hrc : ∃ cellB : Cell, H[b]? = some cellB ∧ cellB.vm.isStatics = false ∧ s.vm.findClass C = some cellB.cls)
    (hn : As.length = n) (hsize : ls.size = nL) (hst : st0 = As.reverse ++ .ref b :: rest) (hW : (rest.map fun v => v.category).sum ≤ 8) (hdg : decode cc pc = .ok (.invokevirtual index, 3)) (hf : cells + 0 ≤ R.cells ∧ slots + 0 ≤ R.slots) (hS : va_S (mA h ad) H0 H locs)
    (kk : ∀ (u : MS) (H1 : Heap) (locs1 : List Loc), post u → va_P D vwCl (mW dA h ad u.1 u.2) H1 → va_S (mA h ad) H0 H1 locs1 → W p l e R s m args below meth c H1 locs1 cells slots Q (F0 m (pc + 3) ls rest)) : W p l e R s m args below meth c H locs cells slots Q (F0 m pc ls st0) :=
  va_callv (va_runV (As := As) (rest := rest) S hM cw ⟨mB_bl.blind _, hrc, fun U hU hW => ⟨rfl, hB U hU hW.alike⟩⟩ rfl hn hsize hst (lv_room hW) hdg hf) hS (fun _ _ h => h) (fun _ h => h) (fun u t H1 locs1 ht hvm hp hB hz hk hS => kk u H1 locs1 hp (by rw [← ht]; exact hB.1) hS)
theorem rm_v {post : MS → Prop} {u : MS} (hQ : Q = MQ below (va_Qv post (fun u t => mB D dA h ad u.1 u.2 t) (mA h ad)) args s cells slots (mA h ad)) (hx : p.tables.exec = Jvm.exec) (hb : c.code = cc) (hr : meth.sig.returnType = none) (hlocks : meth.locks = false) (hK : va_K D vwCl (vwTy dA) s) (hP : va_P D vwCl (mW dA h ad u.1 u.2) H) (hS : va_S (mA h ad) s.heap H locs) (hp : post u) (hdg : decode cc pc = .ok (.return_, 1)) : W p l e R s m args below meth c H locs cells slots Q (F0 m pc ls []) := by
  subst hQ
  exact W.vret hx hb hr (fun t ht hW => ⟨⟨u, rfl, hp, by rw [ht]; exact hP, va_K.moved hW.alike hK⟩, hS.F ht⟩) hS.2.2 hdg hlocks
theorem rm_i {post : Int32 → MS → Prop} {u : MS} {v : Int32} (hQ : Q = MQ below (va_Qi post (fun u t => mB D dA h ad u.1 u.2 t) (mA h ad)) args s cells slots (mA h ad)) (hx : p.tables.exec = Jvm.exec) (hb : c.code = cc) (hr : meth.sig.returnType = some .int) (hlocks : meth.locks = false) (hK : va_K D vwCl (vwTy dA) s) (hP : va_P D vwCl (mW dA h ad u.1 u.2) H) (hS : va_S (mA h ad) s.heap H locs) (hp : post v u) (hdg : decode cc pc = .ok (.ireturn, 1)) : W p l e R s m args below meth c H locs cells slots Q (F0 m pc ls [.int v]) := by
  subst hQ
  exact W.iret hx hb hr (fun t ht hW => ⟨⟨v, u, rfl, hp, by rw [ht]; exact hP, va_K.moved hW.alike hK⟩, hS.F ht⟩) hS.2.2 hdg hlocks
theorem rm_z {post : Int32 → MS → Prop} {u : MS} {v : Int32} (hQ : Q = MQ below (va_Qi post (fun u t => mB D dA h ad u.1 u.2 t) (mA h ad)) args s cells slots (mA h ad)) (hx : p.tables.exec = Jvm.exec) (hb : c.code = cc) (hr : meth.sig.returnType = some .boolean) (hlocks : meth.locks = false) (hK : va_K D vwCl (vwTy dA) s) (hP : va_P D vwCl (mW dA h ad u.1 u.2) H) (hS : va_S (mA h ad) s.heap H locs) (hz : v = 0 ∨ v = 1) (hp : post v u) (hdg : decode cc pc = .ok (.ireturn, 1)) : W p l e R s m args below meth c H locs cells slots Q (F0 m pc ls [.int v]) := by
  subst hQ
  exact W.zret hx hb hr (by rcases hz with rfl | rfl <;> rfl) (fun t ht hW => ⟨⟨v, u, rfl, hp, by rw [ht]; exact hP, va_K.moved hW.alike hK⟩, hS.F ht⟩) hS.2.2 hdg hlocks
theorem rm_l {post : Int64 → MS → Prop} {u : MS} {v : Int64} (hQ : Q = MQ below (va_Ql post (fun u t => mB D dA h ad u.1 u.2 t) (mA h ad)) args s cells slots (mA h ad)) (hx : p.tables.exec = Jvm.exec) (hb : c.code = cc) (hr : meth.sig.returnType = some .long) (hlocks : meth.locks = false) (hK : va_K D vwCl (vwTy dA) s) (hP : va_P D vwCl (mW dA h ad u.1 u.2) H) (hS : va_S (mA h ad) s.heap H locs) (hp : post v u) (hdg : decode cc pc = .ok (.lreturn, 1)) : W p l e R s m args below meth c H locs cells slots Q (F0 m pc ls [.long v]) := by
  subst hQ
  exact W.lret hx hb hr (fun t ht hW => ⟨⟨v, u, rfl, hp, by rw [ht]; exact hP, va_K.moved hW.alike hK⟩, hS.F ht⟩) hS.2.2 hdg hlocks
end WM
theorem nz_div {x y : Int32} {a d : Nat} (h1 : x = nI a) (h2 : y = nI d) (ha : a < 2 ^ 31) (h0 : 0 < d) (hd : d < 2 ^ 31) : x / y = nI (a / d) := by rw [h1, h2]; exact pk_div ha h0 hd
theorem nz_rem {x y : Int32} {a d : Nat} (h1 : x = nI a) (h2 : y = nI d) (ha : a < 2 ^ 31) (h0 : 0 < d) (hd : d < 2 ^ 31) : x - x / y * y = nI (a % d) := by rw [h1, h2]; exact pk_rem ha h0 hd
