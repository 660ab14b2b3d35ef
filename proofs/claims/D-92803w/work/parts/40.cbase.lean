/-! THE COMPONENT: layout, scratch, cells, calls of its readers -/
set_option maxRecDepth 100000
abbrev Lay : Type := (Nat → Nat) × (Nat → Nat) × (Nat → Nat) × (Nat → Nat) × (Nat → Nat) × (Nat → Int32) × (Nat → Nat → Nat) × (Nat) × (Nat) × (Int32) × (Nat → Nat) × (List Nat) × (Nat → va_E)
def Lay.tA (x : Lay) : Nat → Nat := x.1
def Lay.cA (x : Lay) : Nat → Nat := x.2.1
def Lay.kA (x : Lay) : Nat → Nat := x.2.2.1
def Lay.lA (x : Lay) : Nat → Nat := x.2.2.2.1
def Lay.eA (x : Lay) : Nat → Nat := x.2.2.2.2.1
def Lay.mA (x : Lay) : Nat → Int32 := x.2.2.2.2.2.1
def Lay.sA (x : Lay) : Nat → Nat → Nat := x.2.2.2.2.2.2.1
def Lay.bE (x : Lay) : Nat := x.2.2.2.2.2.2.2.1
def Lay.bN (x : Lay) : Nat := x.2.2.2.2.2.2.2.2.1
def Lay.bM (x : Lay) : Int32 := x.2.2.2.2.2.2.2.2.2.1
def Lay.vA (x : Lay) : Nat → Nat := x.2.2.2.2.2.2.2.2.2.2.1
def Lay.L (x : Lay) : List Nat := x.2.2.2.2.2.2.2.2.2.2.2.1
def Lay.f (x : Lay) : Nat → va_E := x.2.2.2.2.2.2.2.2.2.2.2.2
def Lay.s_tA (x : Lay) (v : Nat → Nat) : Lay := (v, x.2.1, x.2.2.1, x.2.2.2.1, x.2.2.2.2.1, x.2.2.2.2.2.1, x.2.2.2.2.2.2.1, x.2.2.2.2.2.2.2.1, x.2.2.2.2.2.2.2.2.1, x.2.2.2.2.2.2.2.2.2.1, x.2.2.2.2.2.2.2.2.2.2.1, x.2.2.2.2.2.2.2.2.2.2.2.1, x.2.2.2.2.2.2.2.2.2.2.2.2)
def Lay.s_cA (x : Lay) (v : Nat → Nat) : Lay := (x.1, v, x.2.2.1, x.2.2.2.1, x.2.2.2.2.1, x.2.2.2.2.2.1, x.2.2.2.2.2.2.1, x.2.2.2.2.2.2.2.1, x.2.2.2.2.2.2.2.2.1, x.2.2.2.2.2.2.2.2.2.1, x.2.2.2.2.2.2.2.2.2.2.1, x.2.2.2.2.2.2.2.2.2.2.2.1, x.2.2.2.2.2.2.2.2.2.2.2.2)
def Lay.s_kA (x : Lay) (v : Nat → Nat) : Lay := (x.1, x.2.1, v, x.2.2.2.1, x.2.2.2.2.1, x.2.2.2.2.2.1, x.2.2.2.2.2.2.1, x.2.2.2.2.2.2.2.1, x.2.2.2.2.2.2.2.2.1, x.2.2.2.2.2.2.2.2.2.1, x.2.2.2.2.2.2.2.2.2.2.1, x.2.2.2.2.2.2.2.2.2.2.2.1, x.2.2.2.2.2.2.2.2.2.2.2.2)
def Lay.s_lA (x : Lay) (v : Nat → Nat) : Lay := (x.1, x.2.1, x.2.2.1, v, x.2.2.2.2.1, x.2.2.2.2.2.1, x.2.2.2.2.2.2.1, x.2.2.2.2.2.2.2.1, x.2.2.2.2.2.2.2.2.1, x.2.2.2.2.2.2.2.2.2.1, x.2.2.2.2.2.2.2.2.2.2.1, x.2.2.2.2.2.2.2.2.2.2.2.1, x.2.2.2.2.2.2.2.2.2.2.2.2)
def Lay.s_eA (x : Lay) (v : Nat → Nat) : Lay := (x.1, x.2.1, x.2.2.1, x.2.2.2.1, v, x.2.2.2.2.2.1, x.2.2.2.2.2.2.1, x.2.2.2.2.2.2.2.1, x.2.2.2.2.2.2.2.2.1, x.2.2.2.2.2.2.2.2.2.1, x.2.2.2.2.2.2.2.2.2.2.1, x.2.2.2.2.2.2.2.2.2.2.2.1, x.2.2.2.2.2.2.2.2.2.2.2.2)
def Lay.s_mA (x : Lay) (v : Nat → Int32) : Lay := (x.1, x.2.1, x.2.2.1, x.2.2.2.1, x.2.2.2.2.1, v, x.2.2.2.2.2.2.1, x.2.2.2.2.2.2.2.1, x.2.2.2.2.2.2.2.2.1, x.2.2.2.2.2.2.2.2.2.1, x.2.2.2.2.2.2.2.2.2.2.1, x.2.2.2.2.2.2.2.2.2.2.2.1, x.2.2.2.2.2.2.2.2.2.2.2.2)
def Lay.s_sA (x : Lay) (v : Nat → Nat → Nat) : Lay := (x.1, x.2.1, x.2.2.1, x.2.2.2.1, x.2.2.2.2.1, x.2.2.2.2.2.1, v, x.2.2.2.2.2.2.2.1, x.2.2.2.2.2.2.2.2.1, x.2.2.2.2.2.2.2.2.2.1, x.2.2.2.2.2.2.2.2.2.2.1, x.2.2.2.2.2.2.2.2.2.2.2.1, x.2.2.2.2.2.2.2.2.2.2.2.2)
def Lay.s_bE (x : Lay) (v : Nat) : Lay := (x.1, x.2.1, x.2.2.1, x.2.2.2.1, x.2.2.2.2.1, x.2.2.2.2.2.1, x.2.2.2.2.2.2.1, v, x.2.2.2.2.2.2.2.2.1, x.2.2.2.2.2.2.2.2.2.1, x.2.2.2.2.2.2.2.2.2.2.1, x.2.2.2.2.2.2.2.2.2.2.2.1, x.2.2.2.2.2.2.2.2.2.2.2.2)
def Lay.s_bN (x : Lay) (v : Nat) : Lay := (x.1, x.2.1, x.2.2.1, x.2.2.2.1, x.2.2.2.2.1, x.2.2.2.2.2.1, x.2.2.2.2.2.2.1, x.2.2.2.2.2.2.2.1, v, x.2.2.2.2.2.2.2.2.2.1, x.2.2.2.2.2.2.2.2.2.2.1, x.2.2.2.2.2.2.2.2.2.2.2.1, x.2.2.2.2.2.2.2.2.2.2.2.2)
def Lay.s_bM (x : Lay) (v : Int32) : Lay := (x.1, x.2.1, x.2.2.1, x.2.2.2.1, x.2.2.2.2.1, x.2.2.2.2.2.1, x.2.2.2.2.2.2.1, x.2.2.2.2.2.2.2.1, x.2.2.2.2.2.2.2.2.1, v, x.2.2.2.2.2.2.2.2.2.2.1, x.2.2.2.2.2.2.2.2.2.2.2.1, x.2.2.2.2.2.2.2.2.2.2.2.2)
def Lay.s_vA (x : Lay) (v : Nat → Nat) : Lay := (x.1, x.2.1, x.2.2.1, x.2.2.2.1, x.2.2.2.2.1, x.2.2.2.2.2.1, x.2.2.2.2.2.2.1, x.2.2.2.2.2.2.2.1, x.2.2.2.2.2.2.2.2.1, x.2.2.2.2.2.2.2.2.2.1, v, x.2.2.2.2.2.2.2.2.2.2.2.1, x.2.2.2.2.2.2.2.2.2.2.2.2)
def Lay.s_L (x : Lay) (v : List Nat) : Lay := (x.1, x.2.1, x.2.2.1, x.2.2.2.1, x.2.2.2.2.1, x.2.2.2.2.2.1, x.2.2.2.2.2.2.1, x.2.2.2.2.2.2.2.1, x.2.2.2.2.2.2.2.2.1, x.2.2.2.2.2.2.2.2.2.1, x.2.2.2.2.2.2.2.2.2.2.1, v, x.2.2.2.2.2.2.2.2.2.2.2.2)
def Lay.s_f (x : Lay) (v : Nat → va_E) : Lay := (x.1, x.2.1, x.2.2.1, x.2.2.2.1, x.2.2.2.2.1, x.2.2.2.2.2.1, x.2.2.2.2.2.2.1, x.2.2.2.2.2.2.2.1, x.2.2.2.2.2.2.2.2.1, x.2.2.2.2.2.2.2.2.2.1, x.2.2.2.2.2.2.2.2.2.2.1, x.2.2.2.2.2.2.2.2.2.2.2.1, v)
abbrev Om : Type := (Int32) × (Int32) × (Int32) × (Int32) × (Int32) × (Int32) × (Int64) × (Int64) × (Int64) × (Int32) × (Int64)
def Om.full (x : Om) : Int32 := x.1
def Om.row (x : Om) : Int32 := x.2.1
def Om.many (x : Om) : Int32 := x.2.2.1
def Om.parts (x : Om) : Int32 := x.2.2.2.1
def Om.known (x : Om) : Int32 := x.2.2.2.2.1
def Om.sort (x : Om) : Int32 := x.2.2.2.2.2.1
def Om.brings (x : Om) : Int64 := x.2.2.2.2.2.2.1
def Om.done (x : Om) : Int64 := x.2.2.2.2.2.2.2.1
def Om.below (x : Om) : Int64 := x.2.2.2.2.2.2.2.2.1
def Om.end_ (x : Om) : Int32 := x.2.2.2.2.2.2.2.2.2.1
def Om.mb (x : Om) : Int64 := x.2.2.2.2.2.2.2.2.2.2
def Om.s_full (x : Om) (v : Int32) : Om := (v, x.2.1, x.2.2.1, x.2.2.2.1, x.2.2.2.2.1, x.2.2.2.2.2.1, x.2.2.2.2.2.2.1, x.2.2.2.2.2.2.2.1, x.2.2.2.2.2.2.2.2.1, x.2.2.2.2.2.2.2.2.2.1, x.2.2.2.2.2.2.2.2.2.2)
def Om.s_row (x : Om) (v : Int32) : Om := (x.1, v, x.2.2.1, x.2.2.2.1, x.2.2.2.2.1, x.2.2.2.2.2.1, x.2.2.2.2.2.2.1, x.2.2.2.2.2.2.2.1, x.2.2.2.2.2.2.2.2.1, x.2.2.2.2.2.2.2.2.2.1, x.2.2.2.2.2.2.2.2.2.2)
def Om.s_many (x : Om) (v : Int32) : Om := (x.1, x.2.1, v, x.2.2.2.1, x.2.2.2.2.1, x.2.2.2.2.2.1, x.2.2.2.2.2.2.1, x.2.2.2.2.2.2.2.1, x.2.2.2.2.2.2.2.2.1, x.2.2.2.2.2.2.2.2.2.1, x.2.2.2.2.2.2.2.2.2.2)
def Om.s_parts (x : Om) (v : Int32) : Om := (x.1, x.2.1, x.2.2.1, v, x.2.2.2.2.1, x.2.2.2.2.2.1, x.2.2.2.2.2.2.1, x.2.2.2.2.2.2.2.1, x.2.2.2.2.2.2.2.2.1, x.2.2.2.2.2.2.2.2.2.1, x.2.2.2.2.2.2.2.2.2.2)
def Om.s_known (x : Om) (v : Int32) : Om := (x.1, x.2.1, x.2.2.1, x.2.2.2.1, v, x.2.2.2.2.2.1, x.2.2.2.2.2.2.1, x.2.2.2.2.2.2.2.1, x.2.2.2.2.2.2.2.2.1, x.2.2.2.2.2.2.2.2.2.1, x.2.2.2.2.2.2.2.2.2.2)
def Om.s_sort (x : Om) (v : Int32) : Om := (x.1, x.2.1, x.2.2.1, x.2.2.2.1, x.2.2.2.2.1, v, x.2.2.2.2.2.2.1, x.2.2.2.2.2.2.2.1, x.2.2.2.2.2.2.2.2.1, x.2.2.2.2.2.2.2.2.2.1, x.2.2.2.2.2.2.2.2.2.2)
def Om.s_brings (x : Om) (v : Int64) : Om := (x.1, x.2.1, x.2.2.1, x.2.2.2.1, x.2.2.2.2.1, x.2.2.2.2.2.1, v, x.2.2.2.2.2.2.2.1, x.2.2.2.2.2.2.2.2.1, x.2.2.2.2.2.2.2.2.2.1, x.2.2.2.2.2.2.2.2.2.2)
def Om.s_done (x : Om) (v : Int64) : Om := (x.1, x.2.1, x.2.2.1, x.2.2.2.1, x.2.2.2.2.1, x.2.2.2.2.2.1, x.2.2.2.2.2.2.1, v, x.2.2.2.2.2.2.2.2.1, x.2.2.2.2.2.2.2.2.2.1, x.2.2.2.2.2.2.2.2.2.2)
def Om.s_below (x : Om) (v : Int64) : Om := (x.1, x.2.1, x.2.2.1, x.2.2.2.1, x.2.2.2.2.1, x.2.2.2.2.2.1, x.2.2.2.2.2.2.1, x.2.2.2.2.2.2.2.1, v, x.2.2.2.2.2.2.2.2.2.1, x.2.2.2.2.2.2.2.2.2.2)
def Om.s_end_ (x : Om) (v : Int32) : Om := (x.1, x.2.1, x.2.2.1, x.2.2.2.1, x.2.2.2.2.1, x.2.2.2.2.2.1, x.2.2.2.2.2.2.1, x.2.2.2.2.2.2.2.1, x.2.2.2.2.2.2.2.2.1, v, x.2.2.2.2.2.2.2.2.2.2)
def Om.s_mb (x : Om) (v : Int64) : Om := (x.1, x.2.1, x.2.2.1, x.2.2.2.1, x.2.2.2.2.1, x.2.2.2.2.2.1, x.2.2.2.2.2.2.1, x.2.2.2.2.2.2.2.1, x.2.2.2.2.2.2.2.2.1, x.2.2.2.2.2.2.2.2.2.1, v)

def cO (μ : Lay) (σ : St) : Nat → Option Nat := fun c => if hasP σ.told (nI c) then some (μ.cA c) else none
abbrev rfs (n : Nat) (g : Nat → Option Nat) : vp_A := (n, .inr (.inr (.inr (.inr g))))
/-- the fixed cells: the object, things, ways, calls, text, walk, book, the six rows of the ways -/
def cX (dA : Nat → ClassId) (x : Nat) (ad : Nat → Nat) (μ : Lay) (σ : St) (ω : Om) : va_W := [
  (x, .inr (1, [.ref (ad 0), .int σ.load, .int σ.purse, .int σ.beg, .ref (ad 1), .ref (ad 2), .ref (ad 3), .int (nI σ.len), .ref (ad 4), .ref (ad 5), .long ω.mb])),
  (ad 0, .inl (dA 3, rfs 8 (fun t => some (μ.tA t)))),
  (ad 1, .inl (dA 4, rfs 6 (fun i => some (ad (6 + i))))),
  (ad 2, .inl (dA 5, rfs 6 (cO μ σ))),
  (ad 3, .inl (dA 1, 200, .inl (fun i => (σ.txt i).toInt8.toInt32))),
  (ad 4, .inr (2, [.int ω.full, .int ω.row, .int ω.many, .int ω.parts, .int ω.known, .int ω.sort, .long ω.brings, .long ω.done, .long ω.below, .int ω.end_, .ref x])),
  (ad 5, .inr (8, [.int μ.bM, .ref μ.bE, .int (nI σ.vm)])),
  (ad 6, .inl (dA 2, 6, .inl (fun j => σ.ways (6 * 0 + j)))),
  (ad 7, .inl (dA 2, 6, .inl (fun j => σ.ways (6 * 1 + j)))),
  (ad 8, .inl (dA 2, 6, .inl (fun j => σ.ways (6 * 2 + j)))),
  (ad 9, .inl (dA 2, 6, .inl (fun j => σ.ways (6 * 3 + j)))),
  (ad 10, .inl (dA 2, 6, .inl (fun j => σ.ways (6 * 4 + j)))),
  (ad 11, .inl (dA 2, 6, .inl (fun j => σ.ways (6 * 5 + j))))]
def cW (dA : Nat → ClassId) (x : Nat) (ad : Nat → Nat) (μ : Lay) (σ : St) (ω : Om) : va_W := cX dA x ad μ σ ω ++ va_pl μ.L μ.f
/-- words of the tables that don't ride in the lists -/
def cN (U : State) : Prop := va_Nw (.castable "CarryUp$Tool" "CarryUp$Thing") U ∧ va_Nw (.fieldLinkNest "CarryUp$Walk" 63 "CarryUp" "begin" "I" "CarryUp") U ∧ va_Nw (.fieldLinkNest "CarryUp$Walk" 76 "CarryUp" "ways" "[[S" "CarryUp") U ∧ va_Nw (.fieldLinkNest "CarryUp$Walk" 54 "CarryUp" "calls" "[LCarryUp$Call;" "CarryUp") U
  ∧ va_Nw (.methodLinkNest "CarryUp$Walk" 28 ⟨"CarryUp", "parts", "()I"⟩ "CarryUp") U ∧ va_Nw (.fieldLinkNest "CarryUp$Reader" 46 "CarryUp" "text" "[B" "CarryUp") U ∧ va_Nw (.fieldLinkNest "CarryUp$Reader" 43 "CarryUp" "bytes" "I" "CarryUp") U ∧ va_Nw (.methodLinkNest "CarryUp$Reader" 31 ⟨"CarryUp", "in", "(JJJ)Z"⟩ "CarryUp") U
theorem cN.moved {u U : State} (hW : u.WarmedH U.vm) (h : cN u) : cN U :=
  ⟨h.1.warmC hW, va_Nw.warmF hW h.2.1, va_Nw.warmF hW h.2.2.1, va_Nw.warmF hW h.2.2.2.1, va_Nw.warmM hW h.2.2.2.2.1, va_Nw.warmF hW h.2.2.2.2.2.1, va_Nw.warmF hW h.2.2.2.2.2.2.1, va_Nw.warmM hW h.2.2.2.2.2.2.2⟩
def cB (D : va_G) (dA : Nat → ClassId) (x : Nat) (ad : Nat → Nat) (μ : Lay) (σ : St) (ω : Om) (U : State) : Prop := va_P D vwCl (cW dA x ad μ σ ω) U.heap ∧ va_K D vwCl (vwTy dA) U ∧ cN U
/-- what a contract's start may speak of: the heap, and the tables as they stay, warmer perhaps -/
def w_bw (B : State → Prop) : Prop := ∀ U U' : State, U'.heap = U.heap → U.WarmedH U'.vm → B U → B U'
theorem w_bw.blind {B : State → Prop} (h : w_bw B) (av : List Value) : FrameBlind (va_Pc av B) := fun _ U _ _ q => ⟨q.1, h U _ rfl (State.WarmedH.refl U) q.2⟩
theorem w_bl.bw {B : State → Prop} (h : w_bl B) : w_bw B := fun U U' e w q => h U U' e w.alike q
theorem cB_bw {D : va_G} {dA : Nat → ClassId} {x : Nat} {ad : Nat → Nat} {μ : Lay} {σ : St} {ω : Om} : w_bw (cB D dA x ad μ σ ω) := fun _ _ e w q => ⟨by rw [e]; exact q.1, va_K.moved w.alike q.2.1, q.2.2.moved w⟩
theorem cB_now {D : va_G} {dA : Nat → ClassId} {x : Nat} {ad : Nat → Nat} {μ : Lay} {σ : St} {ω : Om} {s : State} {H : Heap} (hK : va_K D vwCl (vwTy dA) s) (hN : cN s) (hP : va_P D vwCl (cW dA x ad μ σ ω) H) : ∀ U : State, U.heap = H → s.WarmedH U.vm → cB D dA x ad μ σ ω U := fun _ e w => ⟨by rw [e]; exact hP, va_K.moved w.alike hK, hN.moved w⟩
/-- some cells by themselves: what a method of a small object asks -/
def pB (D : va_G) (dA : Nat → ClassId) (ws : va_W) (U : State) : Prop := va_P D vwCl ws U.heap ∧ va_K D vwCl (vwTy dA) U
theorem pB_bw {D : va_G} {dA : Nat → ClassId} {ws : va_W} : w_bw (pB D dA ws) := fun _ _ e w q => ⟨by rw [e]; exact q.1, va_K.moved w.alike q.2⟩
theorem pB_now {D : va_G} {dA : Nat → ClassId} {ws : va_W} {s : State} {H : Heap} (hK : va_K D vwCl (vwTy dA) s) (hP : va_P D vwCl ws H) : ∀ U : State, U.heap = H → s.WarmedH U.vm → pB D dA ws U := fun _ e w => ⟨by rw [e]; exact hP, va_K.moved w.alike hK⟩
theorem pl1 {D : va_G} {X : va_W} {L : List Nat} {f : Nat → va_E} {H : Heap} {a : Nat} {e : va_E} (hP : va_P D vwCl (X ++ va_pl L f) H) (ha : a ∈ L) (he : f a = e) : va_P D vwCl [(a, e)] H := by
  obtain ⟨k, hk⟩ := va_pl_get (X := X) (f := f) ha
  intro j q hq
  cases j with
  | zero => cases hq; rw [← he]; exact hP k _ hk
  | succ j => cases hq
theorem pl2 {D : va_G} {a b : Nat × va_E} {H : Heap} (h1 : va_P D vwCl [a] H) (h2 : va_P D vwCl [b] H) : va_P D vwCl [a, b] H := by
  intro j q hq
  match j, hq with
  | 0, hq => cases hq; exact h1 0 _ rfl
  | 1, hq => cases hq; exact h2 0 _ rfl
/-- the layout holds what the state says -/
def RelT (μ : Lay) (σ : St) : Prop := ∀ t, t < 8 → μ.tA t ∈ μ.L ∧ μ.f (μ.tA t) = .inr (if hasP σ.tools (nI t) then 4 else 3, [.int (σ.wt t), .int (σ.pr t)])
def RelC (dA : Nat → ClassId) (μ : Lay) (σ : St) (c : Nat) : Prop :=
  (μ.cA c ∈ μ.L ∧ μ.f (μ.cA c) = .inr (5, [.ref (μ.kA c), .ref (μ.lA c), .int (total σ c)])) ∧ (μ.kA c ∈ μ.L ∧ μ.f (μ.kA c) = .inl (dA 0, 6, .inl (fun k => σ.calls (6 * c + k))))
  ∧ (μ.lA c ∈ μ.L ∧ μ.f (μ.lA c) = .inr (8, [.int (μ.mA c), .ref (μ.eA c), .int (nI (σ.sm c))]))
  ∧ (0 < σ.sm c → μ.eA c ∈ μ.L ∧ ∃ g : Nat → Option Nat, μ.f (μ.eA c) = .inl (dA 3, rfs 10 g) ∧ ∀ s, s < σ.sm c → g s = some (μ.sA c s))
  ∧ ∀ s, s < σ.sm c → μ.sA c s ∈ μ.L ∧ μ.f (μ.sA c s) = .inr (6, [.int (σ.sorts (16 * c + 4 * s + 2)), .int (σ.sorts (16 * c + 4 * s + 3)), .int (σ.sorts (16 * c + 4 * s)), .int (σ.sorts (16 * c + 4 * s + 1))])
def RelV (dA : Nat → ClassId) (μ : Lay) (σ : St) : Prop :=
  (0 < σ.vm → μ.bE ∈ μ.L ∧ σ.vm ≤ μ.bN ∧ μ.bN ≤ 40 ∧ ∃ g : Nat → Option Nat, μ.f μ.bE = .inl (dA 3, rfs μ.bN g) ∧ ∀ k, k < σ.vm → g k = some (μ.vA k))
  ∧ ∀ k, k < σ.vm → μ.vA k ∈ μ.L ∧ μ.f (μ.vA k) = .inr (7, [.int (σ.visits (3 * k)), .int (σ.visits (3 * k + 1)), .int (σ.visits (3 * k + 2))])
def Rel (dA : Nat → ClassId) (μ : Lay) (σ : St) : Prop := RelT μ σ ∧ (∀ c, c < 6 → hasP σ.told (nI c) → RelC dA μ σ c) ∧ RelV dA μ σ
section CR
variable {p : Program} {l : Launch} {e : Env} {R : Room} {s : State} {m : MethodId} {args : Array Value} {below : List Frame} {meth : Method} {c : Code} {H : Heap} {locs : List Loc} {cells slots : Nat} {Q : State → Prop}
variable {y x : MethodName} {bytes cc : ByteArray} {maxL nL n index mc ms : Nat} {ret : Option FieldType} {rm : Room} {Ts ws : List Cond} {own C owner host : String} {b : Addr} {As rest st0 : List Value} {pc : Nat} {ls : Array Slot} {B : State → Prop}
/-- a reader's end: the value, the heap as it was -/
def roQ (v : Value) : Array Value → State → Outcome → State → Prop := fun _ st oc t => oc = .returned (some v) ∧ t.heap = st.heap
theorem ro_go {v : Value} {a : Array Value} {g : JFrame} (hr : va_Run p l e R s m args below meth c H locs cells slots 0 0 g rest (roQ v a) (fun _ => False)) (kk : W p l e R s m args below meth c H locs cells slots Q { g with pc := g.pc + 3, stack := v :: rest }) : W p l e R s m args below meth c H locs cells slots Q g := by
  intro T hT X
  obtain ⟨v', st₀, t, T', L, h0, X', hL, e1, e2, ⟨hv, hh⟩, st⟩ := hr T hT X
  cases hv
  obtain ⟨t2, a1, b1⟩ := kk T' (by rw [e1, hh, h0]) (Stand.forget X' (fun q h => (hL q h).elim))
  exact ⟨t2, st t2 a1, b1⟩
theorem dV {v : Value} (S : CallFix p m c cc nL s args Ts own) (hM : Met l y ws rm (va_Pc (.ref b :: As) B) (roQ v) 0 0 (fun _ => False)) (cw : CallW R s args own C index y bytes maxL ret ws rm 0 0 n) (hbl : w_bw B) (hB : ∀ U : State, U.heap = H → s.WarmedH U.vm → B U) (hrc : ∃ cellB : Cell, H[b]? = some cellB ∧ cellB.vm.isStatics = false ∧ s.vm.findClass C = some cellB.cls)
    (hn : As.length = n) (hsize : ls.size = nL) (hst : st0 = As.reverse ++ .ref b :: rest) (hW : (rest.map fun v => v.category).sum ≤ 8) (hdg : decode cc pc = .ok (.invokevirtual index, 3)) (hf : cells + 0 ≤ R.cells ∧ slots + 0 ≤ R.slots)
    (kk : W p l e R s m args below meth c H locs cells slots Q (F0 m (pc + 3) ls (v :: rest))) : W p l e R s m args below meth c H locs cells slots Q (F0 m pc ls st0) :=
  ro_go (va_runV (As := As) (rest := rest) S hM cw ⟨hbl.blind _, hrc, fun U hU hW => ⟨rfl, hB U hU hW⟩⟩ rfl hn hsize hst (lv_room hW) hdg hf) kk
theorem dU {v : Value} (S : CallFix p m c cc nL s args Ts own) (hM : Met l y ws rm (va_Pc (.ref b :: As) B) (roQ v) 0 0 (fun _ => False)) (cw : va_CU R s args own C owner index x y bytes maxL ret ws rm 0 0 n) (hbl : w_bw B) (hB : ∀ U : State, U.heap = H → s.WarmedH U.vm → B U) (hrc : ∃ cellB : Cell, H[b]? = some cellB ∧ cellB.vm.isStatics = false ∧ s.vm.findClass C = some cellB.cls)
    (hn : As.length = n) (hsize : ls.size = nL) (hst : st0 = As.reverse ++ .ref b :: rest) (hW : (rest.map fun v => v.category).sum ≤ 8) (hdg : decode cc pc = .ok (.invokevirtual index, 3)) (hf : cells + 0 ≤ R.cells ∧ slots + 0 ≤ R.slots)
    (kk : W p l e R s m args below meth c H locs cells slots Q (F0 m (pc + 3) ls (v :: rest))) : W p l e R s m args below meth c H locs cells slots Q (F0 m pc ls st0) :=
  ro_go (va_runU (As := As) (rest := rest) S hM cw ⟨hbl.blind _, hrc, fun U hU hW => ⟨rfl, hB U hU hW⟩⟩ rfl hn hsize hst (lv_room hW) hdg hf) kk
theorem dVN {v : Value} (S : CallFix p m c cc nL s args Ts own) (hM : Met l y ws rm (va_Pc (.ref b :: As) B) (roQ v) 0 0 (fun _ => False)) (cw : va_CN R s args own index y host bytes maxL ret ws rm 0 0 n ∧ (Cond.instanceMethod y).before args s = true ∧ (Cond.selects C y y).before args s = true) (hbl : w_bw B) (hB : ∀ U : State, U.heap = H → s.WarmedH U.vm → B U) (hrc : ∃ cellB : Cell, H[b]? = some cellB ∧ cellB.vm.isStatics = false ∧ s.vm.findClass C = some cellB.cls)
    (hn : As.length = n) (hsize : ls.size = nL) (hst : st0 = As.reverse ++ .ref b :: rest) (hW : (rest.map fun v => v.category).sum ≤ 8) (hdg : decode cc pc = .ok (.invokevirtual index, 3)) (hf : cells + 0 ≤ R.cells ∧ slots + 0 ≤ R.slots)
    (kk : W p l e R s m args below meth c H locs cells slots Q (F0 m (pc + 3) ls (v :: rest))) : W p l e R s m args below meth c H locs cells slots Q (F0 m pc ls st0) :=
  ro_go (va_runVN (As := As) (rest := rest) S hM cw ⟨hbl.blind _, hrc, fun U hU hW => ⟨rfl, hB U hU hW⟩⟩ rfl hn hsize hst (lv_room hW) hdg hf) kk
theorem dS {v : Value} (S : CallFix p m c cc nL s args Ts own) (hM : Met l y ws rm (va_Pc As B) (roQ v) 0 0 (fun _ => False)) (cw : CallB R s args own index y bytes maxL ret ws rm 0 0 n ∧ (Cond.static y).before args s = true) (hbl : w_bw B) (hB : ∀ U : State, U.heap = H → s.WarmedH U.vm → B U)
    (hn : As.length = n) (hsize : ls.size = nL) (hst : st0 = As.reverse ++ rest) (hW : (rest.map fun v => v.category).sum ≤ 8) (hdg : decode cc pc = .ok (.invokestatic index, 3)) (hf : cells + 0 ≤ R.cells ∧ slots + 0 ≤ R.slots)
    (kk : W p l e R s m args below meth c H locs cells slots Q (F0 m (pc + 3) ls (v :: rest))) : W p l e R s m args below meth c H locs cells slots Q (F0 m pc ls st0) :=
  ro_go (va_runS (As := As) (rest := rest) S hM cw ⟨hbl.blind _, fun U hU hW => ⟨rfl, hB U hU hW⟩⟩ rfl hn hsize hst (lv_room hW) hdg hf) kk
/-- a reference out of an array, its class whatever -/
theorem wa_aald {D : va_G} {cl : List vw_C} {ws : va_W} {tys : List (ClassId × FieldType)} {a : Nat} (hexec : p.tables.exec = Jvm.exec) (hb : c.code = cc) (hK : va_K D cl tys s) (hP : va_P D cl ws H) (q0 t0 : Nat) {cA : ClassId} {n : Nat} {ty : FieldType} {f : Nat → Option Nat} (ha : ws[q0]? = some (a, .inl (cA, rfs n f))) (ht : tys[t0]? = some (cA, ty)) (hty : ty.isReference = true) (j : Nat) {i : Int32} (hi : i = nI j) (hj : j < n) (hn : n < 2 ^ 31) {v : Value} (hv : va_rf (f j) = v) (hdg : decode cc pc = .ok (.aaload, 1))
    (kk : W p l e R s m args below meth c H locs cells slots Q (F0 m (pc + 1) ls (v :: rest))) : W p l e R s m args below meth c H locs cells slots Q (F0 m pc ls (.int i :: .ref a :: rest)) := by
  subst hi hv
  have hc : (nI j).toNatClampNeg = j := nI_clamp (by omega)
  exact W.aald (v := va_rf (f j)) (ty := ty) hexec hb (hP q0 _ ha) ((hK.2 t0 _ ht).1 n (fun j => va_rf (f j))) hty (fun q => by cases q) (by show ¬ (nI j < 0 ∨ (arrV _ _ _).slots.size ≤ _); rw [arrV_size]; exact vp_in_nI hj hn) (by show (arrV _ _ _).slots[_]? = _; rw [hc, arrV_read _ _ hj]) rfl rfl hdg kk
theorem wa_iald1 {D : va_G} {cl : List vw_C} {ws : va_W} {tys : List (ClassId × FieldType)} {a : Nat} (hexec : p.tables.exec = Jvm.exec) (hb : c.code = cc) (hK : va_K D cl tys s) (hP : va_P D cl ws H) (q0 t0 : Nat) {cA : ClassId} {n : Nat} {f : Nat → Int32} (ha : ws[q0]? = some (a, .inl (cA, n, .inl f))) (ht : tys[t0]? = some (cA, .int)) (j : Nat) {i v : Int32} (hi : i = nI j) (hj : j < n) (hn : n < 2 ^ 31) (hv : f j = v) (hdg : decode cc pc = .ok (.iaload, 1))
    (kk : W p l e R s m args below meth c H locs cells slots Q (F0 m (pc + 1) ls (.int v :: rest))) : W p l e R s m args below meth c H locs cells slots Q (F0 m pc ls (.int i :: .ref a :: rest)) := by
  subst hv
  exact wa_iald hexec hb hK hP q0 t0 ha ht j hi hj hn hdg kk
theorem wa_sald {D : va_G} {cl : List vw_C} {ws : va_W} {tys : List (ClassId × FieldType)} {a : Nat} (hexec : p.tables.exec = Jvm.exec) (hb : c.code = cc) (hK : va_K D cl tys s) (hP : va_P D cl ws H) (q0 t0 : Nat) {cA : ClassId} {n : Nat} {f : Nat → Int32} (ha : ws[q0]? = some (a, .inl (cA, n, .inl f))) (ht : tys[t0]? = some (cA, .short)) (j : Nat) {i v : Int32} (hi : i = nI j) (hj : j < n) (hn : n < 2 ^ 31) (hv : f j = v) (hdg : decode cc pc = .ok (.saload, 1))
    (kk : W p l e R s m args below meth c H locs cells slots Q (F0 m (pc + 1) ls (.int v :: rest))) : W p l e R s m args below meth c H locs cells slots Q (F0 m pc ls (.int i :: .ref a :: rest)) := by
  subst hi hv
  refine va_sald hexec hb hK hP q0 t0 ha ht (vp_in_nI hj hn) hdg ?_
  rw [nI_clamp (by omega)]
  exact kk
theorem wa_bald {D : va_G} {cl : List vw_C} {ws : va_W} {tys : List (ClassId × FieldType)} {a : Nat} (hexec : p.tables.exec = Jvm.exec) (hb : c.code = cc) (hK : va_K D cl tys s) (hP : va_P D cl ws H) (q0 t0 : Nat) {cA : ClassId} {n : Nat} {f : Nat → Int32} (ha : ws[q0]? = some (a, .inl (cA, n, .inl f))) (ht : tys[t0]? = some (cA, .byte)) (j : Nat) {i v : Int32} (hi : i = nI j) (hj : j < n) (hn : n < 2 ^ 31) (hv : f j = v) (hdg : decode cc pc = .ok (.baload, 1))
    (kk : W p l e R s m args below meth c H locs cells slots Q (F0 m (pc + 1) ls (.int v :: rest))) : W p l e R s m args below meth c H locs cells slots Q (F0 m pc ls (.int i :: .ref a :: rest)) := by
  subst hi hv
  refine va_bald hexec hb hK hP q0 t0 ha ht (vp_in_nI hj hn) hdg ?_
  rw [nI_clamp (by omega)]
  exact kk
/-- a row of the ways, by its number -/
theorem way_row {D : va_G} {dA : Nat → ClassId} {x : Nat} {ad : Nat → Nat} {μ : Lay} {σ : St} {ω : Om} (hP : va_P D vwCl (cW dA x ad μ σ ω) H) {i : Nat} (hi : i < 6) : va_P D vwCl [(ad (6 + i), .inl (dA 2, 6, .inl (fun j => σ.ways (6 * i + j))))] H := by
  intro j q hq
  cases j with
  | succ j => cases hq
  | zero =>
    cases hq
    rcases (show i = 0 ∨ i = 1 ∨ i = 2 ∨ i = 3 ∨ i = 4 ∨ i = 5 by omega) with rfl | rfl | rfl | rfl | rfl | rfl
    · exact hP 7 _ rfl
    · exact hP 8 _ rfl
    · exact hP 9 _ rfl
    · exact hP 10 _ rfl
    · exact hP 11 _ rfl
    · exact hP 12 _ rfl
theorem q_i {v w : Int32} (hQ : Q = MQ below (roQ (.int w)) args s cells slots (fun _ => False)) (hx : p.tables.exec = Jvm.exec) (hb : c.code = cc) (hr : meth.sig.returnType = some .int) (hlocks : meth.locks = false) (hH : H = s.heap) (hv : v = w) (hdg : decode cc pc = .ok (.ireturn, 1)) : W p l e R s m args below meth c H [] cells slots Q (F0 m pc ls [.int v]) := by
  subst hQ hv
  exact W.iret hx hb hr (fun t ht hW => ⟨rfl, by rw [ht, hH]⟩) (fun q h => by cases h) hdg hlocks
theorem q_z {v w : Int32} (hQ : Q = MQ below (roQ (.int w)) args s cells slots (fun _ => False)) (hx : p.tables.exec = Jvm.exec) (hb : c.code = cc) (hr : meth.sig.returnType = some .boolean) (hlocks : meth.locks = false) (hH : H = s.heap) (hn : v = 0 ∨ v = 1) (hv : v = w) (hdg : decode cc pc = .ok (.ireturn, 1)) : W p l e R s m args below meth c H [] cells slots Q (F0 m pc ls [.int v]) := by
  subst hQ hv
  exact W.zret hx hb hr (by rcases hn with rfl | rfl <;> rfl) (fun t ht hW => ⟨rfl, by rw [ht, hH]⟩) (fun q h => by cases h) hdg hlocks
theorem q_l {v w : Int64} (hQ : Q = MQ below (roQ (.long w)) args s cells slots (fun _ => False)) (hx : p.tables.exec = Jvm.exec) (hb : c.code = cc) (hr : meth.sig.returnType = some .long) (hlocks : meth.locks = false) (hH : H = s.heap) (hv : v = w) (hdg : decode cc pc = .ok (.lreturn, 1)) : W p l e R s m args below meth c H [] cells slots Q (F0 m pc ls [.long v]) := by
  subst hQ hv
  exact W.lret hx hb hr (fun t ht hW => ⟨rfl, by rw [ht, hH]⟩) (fun q h => by cases h) hdg hlocks
theorem q_a {v w : Nat} {rt : FieldType} (hQ : Q = MQ below (roQ (.ref w)) args s cells slots (fun _ => False)) (hx : p.tables.exec = Jvm.exec) (hb : c.code = cc) (hr : meth.sig.returnType = some rt) (hrt : (∃ n, rt = .object n) ∨ ∃ t, rt = .array t) (hlocks : meth.locks = false) (hH : H = s.heap) (hv : v = w) (hdg : decode cc pc = .ok (.areturn, 1)) : W p l e R s m args below meth c H [] cells slots Q (F0 m pc ls [.ref v]) := by
  subst hQ hv
  exact W.aret hx hb hr hrt (Or.inr ⟨_, rfl⟩) (fun t ht hW => ⟨rfl, by rw [ht, hH]⟩) (fun q h => by cases h) hdg hlocks
end CR

