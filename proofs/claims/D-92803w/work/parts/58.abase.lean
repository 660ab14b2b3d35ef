/-! CELLS MADE: constants, worlds that grow, calls in them -/
set_option maxRecDepth 100000
/-- the constants' places: below κ.1 all is old; statics' cells, strings, their bytes -/
abbrev KZ : Type := Nat × (Nat → Nat) × (Nat → Nat) × (Nat → Nat)
def kzA (κ : KZ) : Nat → Prop := fun q => κ.1 ≤ q
def sLen : List Nat := [0, 4, 4, 4, 2, 1, 5, 4, 5, 5, 3, 4, 4]
def sByt : List (List Int32) := [[], [112, 97, 114, 116], [116, 111, 111, 108], [110, 111, 110, 101], [111, 114], [59], [116, 104, 105, 110, 103], [108, 111, 97, 100], [112, 117, 114, 115, 101], [98, 101, 103, 105, 110], [119, 97, 121], [99, 97, 108, 108], [115, 111, 114, 116]]
def sDig : List Int32 := [-1, -1, -1, -1, -1, -1, -1, -1, -1, -1, -1, -1, -1, -1, -1, -1, -1, -1, -1, -1, -1, -1, -1, -1, -1, -1, -1, -1, -1, -1, -1, -1, -1, -1, -1, -1, -1, -1, -1, -1, -1, -1, -1, -1, -1, -1, -1, -1, 0, 1, 2, 3, 4, 5, 6, 7, 8, 9, -1, -1, -1, -1, -1, -1, -1, 10, 11, 12, 13, 14, 15, 16, 17, 18, 19, 20, 21, 22, 23, 24, 25, 26, 27, 28, 29, 30, 31, 32, 33, 34, 35, -1, -1, -1, -1, -1, -1, 10, 11, 12, 13, 14, 15, 16, 17, 18, 19, 20, 21, 22, 23, 24, 25, 26, 27, 28, 29, 30, 31, 32, 33, 34, 35, -1, -1, -1, -1, -1, -1, -1, -1, -1, -1, -1, -1, -1, -1, -1, -1, -1, -1, -1, -1, -1, -1, -1, -1, -1, -1, -1, -1, -1, -1, -1, -1, -1, -1, -1, -1, -1, -1, -1, -1, -1, -1, -1, -1, -1, -1, -1, -1, -1, -1, -1, -1, -1, -1, -1, -1, -1, -1, -1, -1, -1, -1, -1, -1, -1, -1, -1, -1, -1, -1, -1, -1, -1, -1, -1, -1, -1, -1, -1, -1, -1, -1, -1, -1, -1, -1, -1, -1, -1, -1, -1, -1, -1, -1, -1, -1, -1, -1, -1, -1, -1, -1, -1, -1, -1, -1, -1, -1, -1, -1, -1, -1, -1, -1, -1, -1, -1, -1, -1, -1, -1, -1, -1, -1, -1, -1, -1, -1, -1, -1, -1, -1, -1]
def sCast : List (String × String) := [("CarryUp$Thing", "java/lang/Object"), ("CarryUp$Tool", "java/lang/Object"), ("CarryUp$Sort", "java/lang/Object"), ("CarryUp$Visit", "java/lang/Object"), ("CarryUp$Sort", "CarryUp$Want"), ("CarryUp$Visit", "CarryUp$Want"), ("CarryUp$Fault", "CarryUp$Fault"), ("java/lang/String", "java/lang/Object")]
/-- what stands in the heap from the start -/
def cZh (κ : KZ) (U : State) (H : Heap) : Prop :=
  va_Z "java/lang/String" "COMPACT_STRINGS" "Z" (.int 1) (kzA κ) U H
  ∧ va_Z "java/util/ArrayList" "DEFAULTCAPACITY_EMPTY_ELEMENTDATA" "[Ljava/lang/Object;" (.ref (κ.2.1 0)) (kzA κ) U H ∧ va_T (.object "java/lang/Object") (κ.2.1 0) 0 (fun _ => .null) (kzA κ) U H
  ∧ va_Z "jdk/internal/util/Preconditions" "SIOOBE_FORMATTER" "Ljava/util/function/BiFunction;" (.ref (κ.2.1 1)) (kzA κ) U H
  ∧ va_Z "java/lang/Throwable" "UNASSIGNED_STACK" "[Ljava/lang/StackTraceElement;" (.ref (κ.2.1 2)) (kzA κ) U H ∧ va_Z "java/lang/Throwable" "SUPPRESSED_SENTINEL" "Ljava/util/List;" (.ref (κ.2.1 3)) (kzA κ) U H
  ∧ va_Z "java/lang/CharacterDataLatin1" "instance" "Ljava/lang/CharacterDataLatin1;" (.ref (κ.2.1 4)) (kzA κ) U H ∧ va_O "java/lang/CharacterDataLatin1" (κ.2.1 4) (kzA κ) U H
  ∧ va_Z "java/lang/CharacterDataLatin1" "DIGITS" "[B" (.ref (κ.2.1 5)) (kzA κ) U H ∧ va_T .byte (κ.2.1 5) 256 (fun j => .int (sDig.getD j 0)) (kzA κ) U H
  ∧ va_Z "CarryUp" "WORDS" "[Ljava/lang/String;" (.ref (κ.2.1 6)) (kzA κ) U H ∧ va_T (.object "java/lang/String") (κ.2.1 6) 7 (fun j => .ref (κ.2.2.1 (6 + j))) (kzA κ) U H
  ∧ vk_S 13 sLen sByt κ.2.2.1 κ.2.2.2 (kzA κ) U H
theorem cZh.moved {κ : KZ} {u U : State} {H : Heap} (hvm : u.vm.Alike U.vm) (h : cZh κ u H) : cZh κ U H :=
  ⟨h.1.moved hvm, h.2.1.moved hvm, h.2.2.1.moved hvm, h.2.2.2.1.moved hvm, h.2.2.2.2.1.moved hvm, h.2.2.2.2.2.1.moved hvm, h.2.2.2.2.2.2.1.moved hvm, h.2.2.2.2.2.2.2.1.moved hvm, h.2.2.2.2.2.2.2.2.1.moved hvm, h.2.2.2.2.2.2.2.2.2.1.moved hvm, h.2.2.2.2.2.2.2.2.2.2.1.moved hvm, h.2.2.2.2.2.2.2.2.2.2.2.1.moved hvm, h.2.2.2.2.2.2.2.2.2.2.2.2.moved hvm⟩
theorem cZh.kept {κ : KZ} {U : State} {H H1 : Heap} (h : cZh κ U H) (hq : ∀ a : Nat, a < H.size → ¬ kzA κ a → H1[a]? = H[a]?) : cZh κ U H1 :=
  ⟨h.1.kept hq, h.2.1.kept hq, h.2.2.1.kept hq, h.2.2.2.1.kept hq, h.2.2.2.2.1.kept hq, h.2.2.2.2.2.1.kept hq, h.2.2.2.2.2.2.1.kept hq, h.2.2.2.2.2.2.2.1.kept hq, h.2.2.2.2.2.2.2.2.1.kept hq, h.2.2.2.2.2.2.2.2.2.1.kept hq, h.2.2.2.2.2.2.2.2.2.2.1.kept hq, h.2.2.2.2.2.2.2.2.2.2.2.1.kept hq, h.2.2.2.2.2.2.2.2.2.2.2.2.kept hq⟩
/-- words of the tables, and the strings that the code names -/
def cZt (κ : KZ) (U : State) : Prop :=
  (∀ q ∈ sCast, va_Nw (.castable q.1 q.2) U) ∧ va_AO "java/lang/Object" U ∧ va_Mi "[Ljava/lang/Object;" (κ.2.1 7) U ∧ va_Dc U ∧ cN U
  ∧ vk_R "CarryUp$Reader" 15 "" (κ.2.2.1 0) U ∧ vk_R "CarryUp$Reader" 109 "part" (κ.2.2.1 1) U ∧ vk_R "CarryUp$Reader" 115 "tool" (κ.2.2.1 2) U ∧ vk_R "CarryUp$Reader" 120 "none" (κ.2.2.1 3) U ∧ vk_R "CarryUp$Reader" 122 "or" (κ.2.2.1 4) U ∧ vk_R "CarryUp$Reader" 147 ";" (κ.2.2.1 5) U
theorem cZt.warm {κ : KZ} {u U : State} (hW : u.WarmedH U.vm) (h : cZt κ u) : cZt κ U :=
  ⟨fun q hq => (h.1 q hq).warmC hW, h.2.1.moved hW.alike, h.2.2.1.moved hW.alike, h.2.2.2.1.moved hW.alike, h.2.2.2.2.1.moved hW, h.2.2.2.2.2.1.warm hW, h.2.2.2.2.2.2.1.warm hW, h.2.2.2.2.2.2.2.1.warm hW, h.2.2.2.2.2.2.2.2.1.warm hW, h.2.2.2.2.2.2.2.2.2.1.warm hW, h.2.2.2.2.2.2.2.2.2.2.warm hW⟩
def cZ (κ : KZ) (U : State) : Prop := cZh κ U U.heap ∧ cZt κ U
theorem cZ.keep {κ : KZ} {u U : State} (hW : u.WarmedH U.vm) (hq : ∀ a : Nat, a < u.heap.size → ¬ kzA κ a → U.heap[a]? = u.heap[a]?) (h : cZ κ u) : cZ κ U := ⟨(h.1.moved hW.alike).kept hq, h.2.warm hW⟩
/-- a method's start in a world of its own cells L -/
def aB (D : va_G) (dA : Nat → ClassId) (κ : KZ) (L : va_W) (sz : Nat) (U : State) : Prop := va_P D vwCl L U.heap ∧ va_D (va_A L sz) L ∧ va_K D vwCl (vwTy dA) U ∧ cZ κ U ∧ κ.1 ≤ sz ∧ (∀ (k : Nat) (q : Nat × va_E), L[k]? = some q → κ.1 ≤ q.1) ∧ U.heap.size = sz
/-- its end: the value and the cells that are left -/
def aQ {S : Type} (f : S → Option Value × va_W) (D : va_G) (L : va_W) (sz : Nat) : Array Value → State → Outcome → State → Prop := fun _ st oc t => (∃ u : S, oc = .returned (f u).1 ∧ va_P D vwCl (f u).2 t.heap ∧ va_D (va_A L sz) (f u).2) ∧ va_F (va_A L sz) st t
theorem aB_bw {D : va_G} {dA : Nat → ClassId} {κ : KZ} {L : va_W} {sz : Nat} : w_bw (aB D dA κ L sz) := fun U U' e w q => ⟨by rw [e]; exact q.1, q.2.1, va_K.moved w.alike q.2.2.1, q.2.2.2.1.keep w (fun a _ _ => by rw [e]), q.2.2.2.2.1, q.2.2.2.2.2.1, by rw [e]; exact q.2.2.2.2.2.2⟩
section AR
variable {p : Program} {l : Launch} {e : Env} {R : Room} {s : State} {m : MethodId} {args : Array Value} {below : List Frame} {meth : Method} {c : Code} {H : Heap} {locs : List Loc} {cells slots : Nat} {Q : State → Prop}
variable {y : MethodName} {bytes cc : ByteArray} {maxL nL n index mc ms : Nat} {ret : Option FieldType} {rm : Room} {Ts wds : List Cond} {own C : String} {b : Addr} {As rest st0 : List Value} {pc : Nat} {ls : Array Slot}
variable {D : va_G} {dA : Nat → ClassId} {κ : KZ} {ws wc wr : va_W} {A : Nat → Prop} {S : Type} {f : S → Option Value × va_W}
/-- the callee's start, out of the caller's world -/
theorem a_now (hK : va_K D vwCl (vwTy dA) s) (hZ : cZ κ s) (hP : va_P D vwCl ws H) (hD : va_D A ws) (hS : va_S A s.heap H locs) (hk0 : κ.1 ≤ s.heap.size) (hAn : ∀ q, A q → κ.1 ≤ q) (isC : List Nat) (hn : va_nd isC = true) (hC : isC.map (fun i => ws[i]?) = wc.map some) (hC2 : isC.filterMap (fun i => ws[i]?) = wc) : ∀ U : State, U.heap = H → s.WarmedH U.vm → aB D dA κ wc H.size U := by
  intro U hU hW
  have hDc := hD.sub isC hn hC
  refine ⟨by rw [hU]; exact hP.sub isC hC2, hDc.self, va_K.moved hW.alike hK, hZ.keep hW (fun a h1 h2 => ?_), Nat.le_trans hk0 hS.1, fun k q hq => hAn _ (hDc.2 k q hq), by rw [hU]⟩
  rw [hU]
  exact hS.2.1 a h1 (fun z => h2 (hAn a z))
theorem a_go {a : Array Value} (hr : va_Run p l e R s m args below meth c H locs cells slots mc ms (F0 m pc ls st0) rest (aQ f D wc H.size a) (va_A wc H.size)) (hP : va_P D vwCl ws H) (hD : va_D A ws) (hS : va_S A s.heap H locs) (hA : ∀ q, s.heap.size ≤ q → A q) (isC isR : List Nat) (hC : isC.map (fun i => ws[i]?) = wc.map some) (hR : isR.map (fun i => ws[i]?) = wr.map some) (hnR : va_nd isR = true) (hdis : ∀ i ∈ isR, i ∉ isC)
    (kk : ∀ (u : S) (H1 : Heap) (locs1 : List Loc), va_P D vwCl (wr ++ (f u).2) H1 → va_D A (wr ++ (f u).2) → va_S A s.heap H1 locs1 → W p l e R s m args below meth c H1 locs1 (cells + mc) (slots + ms) Q (F0 m (pc + 3) ls ((f u).1.toList ++ rest))) : W p l e R s m args below meth c H locs cells slots Q (F0 m pc ls st0) := by
  intro T hT X
  obtain ⟨v', st₀, t, T', L, h0, X', hL, e1, e2, ⟨⟨u, hv, hp1, hd1⟩, hz, hk⟩, st⟩ := hr T hT X
  cases hv
  rw [h0] at hz hk
  have hF := va_free hD hS hA isC hC
  have hj := va_join (H1 := t.heap) hP hD isC isR hC hR hnR hdis hk hF hp1 hd1
  obtain ⟨t2, a1, b1⟩ := kk u T'.heap (locs ++ L) (by rw [e1]; exact hj.1) hj.2
    ⟨Nat.le_trans hS.1 (by rw [e1]; exact hz), fun q h1 h2 => by rw [e1, hk q (Nat.lt_of_lt_of_le h1 hS.1) (fun z => h2 (hF q z))]; exact hS.2.1 q h1 h2, fun q hq => by
      rcases List.mem_append.mp hq with h | h
      · exact hS.2.2 q h
      · exact hF _ (hL q h)⟩ T' rfl X'
  exact ⟨t2, st t2 a1, b1⟩
end AR
