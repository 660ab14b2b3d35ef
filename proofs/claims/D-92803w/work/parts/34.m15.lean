/-! THE MODEL's METHODS 15: the day -/
set_option maxRecDepth 100000
theorem clU_at {f : Nat → Int32} {b t : Nat} {g : Nat → Int32} : ∀ n k, clU f b t g n k = if 6 * t ≤ k ∧ k < 6 * t + n then f (b + 2 + (k - 6 * t)) else g k
  | 0, k => by rw [clU, if_neg (by omega)]
  | n + 1, k => by
    rw [clU]
    unfold upd
    by_cases e : k = 6 * t + n
    · rw [if_pos e, if_pos (by omega)]
      congr 1; omega
    · rw [if_neg e, clU_at n k]
      by_cases q : 6 * t ≤ k ∧ k < 6 * t + n
      · rw [if_pos q, if_pos (by omega)]
      · rw [if_neg q, if_neg (by omega)]
theorem soU_at {f : Nat → Int32} {b t m : Nat} {g : Nat → Int32} : ∀ n k, soU f b t m g n k = if 16 * t + 4 * m ≤ k ∧ k < 16 * t + 4 * m + n then f (b + 2 + (k - (16 * t + 4 * m))) else g k
  | 0, k => by rw [soU, if_neg (by omega)]
  | n + 1, k => by
    rw [soU]
    unfold upd
    by_cases e : k = 16 * t + 4 * m + n
    · rw [if_pos e, if_pos (by omega)]
      congr 1; omega
    · rw [if_neg e, soU_at n k]
      by_cases q : 16 * t + 4 * m ≤ k ∧ k < 16 * t + 4 * m + n
      · rw [if_pos q, if_pos (by omega)]
      · rw [if_neg q, if_neg (by omega)]
theorem ix8 {t : Nat} (h : t < 8) : ix (nI t) = t := ix_nI h (by decide)
/-- a line done, shape by shape -/
theorem lay0 {σ : St} {f : Nat → Int32} {b t : Nat} {w p tl : Int32} (h0 : f b = 0) (h1 : f (b + 1) = nI t) (ht : t < 8) (h2 : f (b + 2) = w) (h3 : f (b + 3) = p) (h4 : f (b + 4) = tl) : layS σ f b = ((σ.s_wt (upd σ.wt t w)).s_pr (upd σ.pr t p)).s_tools (if tl = 1 then σ.tools ||| ((1 : Int32) <<< (nI t &&& 31)) else σ.tools &&& (((1 : Int32) <<< (nI t &&& 31)) ^^^ (-1))) := by
  rw [layS, if_pos h0, h1, h2, h3, h4, ix8 ht]
theorem i10 : ¬ (1 : Int32) = 0 := by decide
theorem lay1 {σ : St} {f : Nat → Int32} {b : Nat} {v : Int32} (h0 : f b = 1) (h1 : f (b + 1) = v) : layS σ f b = σ.s_load v := by
  rw [layS, h0, if_neg (by decide), if_pos rfl, h1]
theorem lay2 {σ : St} {f : Nat → Int32} {b : Nat} {v : Int32} (h0 : f b = 2) (h1 : f (b + 1) = v) : layS σ f b = σ.s_purse v := by
  rw [layS, h0, if_neg (by decide), if_neg (by decide), if_pos rfl, h1]
theorem lay3 {σ : St} {f : Nat → Int32} {b : Nat} {v : Int32} (h0 : f b = 3) (h1 : f (b + 1) = v) : layS σ f b = σ.s_beg v := by
  rw [layS, h0, if_neg (by decide), if_neg (by decide), if_neg (by decide), if_pos rfl, h1]
theorem lay4 {σ : St} {f : Nat → Int32} {b x y : Nat} {m : Int32} (h0 : f b = 4) (h1 : f (b + 1) = nI x) (h2 : f (b + 2) = nI y) (h3 : f (b + 3) = m) (hx : x < 6) (hy : y < 6) : layS σ f b = σ.s_ways (upd (upd σ.ways (6 * x + y) m) (6 * y + x) m) := by
  rw [layS, h0, if_neg (by decide), if_neg (by decide), if_neg (by decide), if_neg (by decide), if_pos rfl, h1, h2, h3, ix8 (t := x) (by omega), ix8 (t := y) (by omega)]
theorem lay5 {σ : St} {f : Nat → Int32} {b c : Nat} (h0 : f b = 5) (h1 : f (b + 1) = nI c) (hc : c < 6) : layS σ f b = ((σ.s_told (σ.told ||| ((1 : Int32) <<< (nI c &&& 31)))).s_sm (updN σ.sm c 0)).s_calls (clU f b c σ.calls 6) := by
  rw [layS, if_neg (by rw [h0]; decide), if_neg (by rw [h0]; decide), if_neg (by rw [h0]; decide), if_neg (by rw [h0]; decide), if_neg (by rw [h0]; decide), if_pos h0, h1, ix8 (t := c) (by omega)]
theorem lay6 {σ : St} {f : Nat → Int32} {b c : Nat} (h0 : f b = 6) (h1 : f (b + 1) = nI c) (hc : c < 6) : layS σ f b = if hasP σ.told (nI c) then (if 4 ≤ σ.sm c then σ else (σ.s_sorts (soU f b c (σ.sm c) σ.sorts 4)).s_sm (updN σ.sm c (σ.sm c + 1))) else σ := by
  rw [layS, if_neg (by rw [h0]; decide), if_neg (by rw [h0]; decide), if_neg (by rw [h0]; decide), if_neg (by rw [h0]; decide), if_neg (by rw [h0]; decide), if_neg (by rw [h0]; decide), h1, ix8 (t := c) (by omega)]
theorem tell0 {σ : St} {t w p tl : Nat} (ht : t < 8) : tellS σ [0, nI t, nI w, nI p, nI tl] = ((σ.s_wt (upd σ.wt t (nI w))).s_pr (upd σ.pr t (nI p))).s_tools (if nI tl = 1 then σ.tools ||| ((1 : Int32) <<< (nI t &&& 31)) else σ.tools &&& (((1 : Int32) <<< (nI t &&& 31)) ^^^ (-1))) := lay0 rfl rfl ht rfl rfl rfl
theorem tell1 {σ : St} {v : Int32} : tellS σ [1, v] = σ.s_load v := lay1 rfl rfl
theorem tell2 {σ : St} {v : Int32} : tellS σ [2, v] = σ.s_purse v := lay2 rfl rfl
theorem tell3 {σ : St} {v : Int32} : tellS σ [3, v] = σ.s_beg v := lay3 rfl rfl
theorem tell4 {σ : St} {x y m : Nat} (hx : x < 6) (hy : y < 6) : tellS σ [4, nI x, nI y, nI m] = σ.s_ways (upd (upd σ.ways (6 * x + y) (nI m)) (6 * y + x) (nI m)) := lay4 rfl rfl rfl rfl hx hy
theorem tell5 {σ : St} {c p o s w g l : Nat} (hc : c < 6) : tellS σ [5, nI c, nI p, nI o, nI s, nI w, nI g, nI l] = ((σ.s_told (σ.told ||| ((1 : Int32) <<< (nI c &&& 31)))).s_sm (updN σ.sm c 0)).s_calls (clU (fun j => [5, nI c, nI p, nI o, nI s, nI w, nI g, nI l].getD j 0) 0 c σ.calls 6) := lay5 rfl rfl hc
theorem tell6 {σ : St} {c n m al on : Nat} (hc : c < 6) : tellS σ [6, nI c, nI n, nI m, nI al, nI on] = if hasP σ.told (nI c) then (if 4 ≤ σ.sm c then σ else (σ.s_sorts (soU (fun j => [6, nI c, nI n, nI m, nI al, nI on].getD j 0) 0 c (σ.sm c) σ.sorts 4)).s_sm (updN σ.sm c (σ.sm c + 1))) else σ := lay6 rfl rfl hc
/-- the row's line is the line told -/
theorem lay_tell {σ : St} {f : Nat → Int32} {b : Nat} {vs : List Int32} (hv : okV vs) (h : ∀ j, j < vs.length → f (b + j) = vs.getD j 0) : layS σ f b = tellS σ vs ∧ okB f b := by
  have g0 : f b = vs.getD 0 0 := h 0 (by have := ok_len hv; omega)
  rcases hv with ⟨t, w, p, tl, rfl, h1, -⟩ | ⟨v, rfl, -⟩ | ⟨v, rfl, -⟩ | ⟨v, rfl, -⟩ | ⟨x, y, m, rfl, h1, h2, -⟩ | ⟨c, p, o, s, w, g, l, rfl, h1, -⟩ | ⟨c, n, m, al, on, rfl, h1, -⟩
  · have g0 : f b = 0 := g0
    have g1 : f (b + 1) = nI t := h 1 (Nat.le_of_ble_eq_true rfl)
    have g2 : f (b + 2) = nI w := h 2 (Nat.le_of_ble_eq_true rfl)
    have g3 : f (b + 3) = nI p := h 3 (Nat.le_of_ble_eq_true rfl)
    have g4 : f (b + 4) = nI tl := h 4 (Nat.le_of_ble_eq_true rfl)
    refine ⟨?_, fun _ => ⟨t, h1, g1⟩, fun q => absurd (g0.symm.trans q) (by decide), fun q => absurd (g0.symm.trans q) (by decide), fun q => absurd g0 q⟩
    rw [tell0 h1, lay0 g0 g1 h1 g2 g3 g4]
  · have g0 : f b = 1 := g0
    have g1 : f (b + 1) = nI v := h 1 (Nat.le_of_ble_eq_true rfl)
    refine ⟨?_, fun q => absurd (g0.symm.trans q) (by decide), fun q => absurd (g0.symm.trans q) (by decide), fun q => absurd (g0.symm.trans q) (by decide), fun _ q => absurd g0 q⟩
    rw [tell1, lay1 g0 g1]
  · have g0 : f b = 2 := g0
    have g1 : f (b + 1) = nI v := h 1 (Nat.le_of_ble_eq_true rfl)
    refine ⟨?_, fun q => absurd (g0.symm.trans q) (by decide), fun q => absurd (g0.symm.trans q) (by decide), fun q => absurd (g0.symm.trans q) (by decide), fun _ _ q => absurd g0 q⟩
    rw [tell2, lay2 g0 g1]
  · have g0 : f b = 3 := g0
    have g1 : f (b + 1) = nI v := h 1 (Nat.le_of_ble_eq_true rfl)
    refine ⟨?_, fun q => absurd (g0.symm.trans q) (by decide), fun q => absurd (g0.symm.trans q) (by decide), fun q => absurd (g0.symm.trans q) (by decide), fun _ _ _ q => absurd g0 q⟩
    rw [tell3, lay3 g0 g1]
  · have g0 : f b = 4 := g0
    have g1 : f (b + 1) = nI x := h 1 (Nat.le_of_ble_eq_true rfl)
    have g2 : f (b + 2) = nI y := h 2 (Nat.le_of_ble_eq_true rfl)
    have g3 : f (b + 3) = nI m := h 3 (Nat.le_of_ble_eq_true rfl)
    refine ⟨?_, fun q => absurd (g0.symm.trans q) (by decide), fun _ => ⟨x, y, h1, h2, g1, g2⟩, fun q => absurd (g0.symm.trans q) (by decide), fun _ _ _ _ q => absurd g0 q⟩
    rw [tell4 h1 h2, lay4 g0 g1 g2 g3 h1 h2]
  · have g0 : f b = 5 := g0
    have g1 : f (b + 1) = nI c := h 1 (Nat.le_of_ble_eq_true rfl)
    refine ⟨?_, fun q => absurd (g0.symm.trans q) (by decide), fun q => absurd (g0.symm.trans q) (by decide), fun _ => ⟨c, h1, g1⟩, fun _ _ _ _ _ q => absurd g0 q⟩
    rw [tell5 h1, lay5 g0 g1 h1]
    congr 1
    funext k
    rw [clU_at, clU_at]
    by_cases q : 6 * c ≤ k ∧ k < 6 * c + 6
    · rw [if_pos q, if_pos q, Nat.add_assoc, h _ (by show _ < 8; omega), Nat.zero_add]
    · rw [if_neg q, if_neg q]
  · have g0 : f b = 6 := g0
    have g1 : f (b + 1) = nI c := h 1 (Nat.le_of_ble_eq_true rfl)
    refine ⟨?_, fun q => absurd (g0.symm.trans q) (by decide), fun q => absurd (g0.symm.trans q) (by decide), fun q => absurd (g0.symm.trans q) (by decide), fun _ _ _ _ _ _ => ⟨c, h1, g1⟩⟩
    have es : soU f b c (σ.sm c) σ.sorts 4 = soU (fun j => [6, nI c, nI n, nI m, nI al, nI on].getD j 0) 0 c (σ.sm c) σ.sorts 4 := by
      funext k
      rw [soU_at, soU_at]
      by_cases q : 16 * c + 4 * σ.sm c ≤ k ∧ k < 16 * c + 4 * σ.sm c + 4
      · rw [if_pos q, if_pos q, Nat.add_assoc, h _ (by show _ < 6; omega), Nat.zero_add]
      · rw [if_neg q, if_neg q]
    rw [tell6 h1, lay6 g0 g1 h1, es]

theorem and_nI {v : Nat} (hv : v < 256) (x : Int32) : ∃ w, w < 256 ∧ nI v &&& x = nI w := by
  refine ⟨(nI v &&& x).toBitVec.toNat, ?_, ?_⟩
  · rw [Int32.toBitVec_and, BitVec.toNat_and, pk_tn (by omega)]
    exact Nat.lt_of_le_of_lt Nat.and_le_left hv
  · apply Int32.toBitVec_inj.mp
    apply BitVec.eq_of_toNat_eq
    rw [pk_tn]
    exact (nI v &&& x).toBitVec.isLt
theorem or_nIk {a b k : Nat} (ha : a < 2 ^ k) (hb : b < 2 ^ k) (hk : k ≤ 31) : ∃ c, c < 2 ^ k ∧ nI a ||| nI b = nI c := by
  have h31 : 2 ^ k ≤ 2 ^ 31 := Nat.pow_le_pow_right (by decide) hk
  have h3 := Nat.or_lt_two_pow ha hb
  refine ⟨a ||| b, h3, ?_⟩
  apply Int32.toBitVec_inj.mp
  apply BitVec.eq_of_toNat_eq
  rw [Int32.toBitVec_or, BitVec.toNat_or, pk_tn (by omega), pk_tn (by omega), pk_tn (by omega)]
theorem inv_tell {σ : St} {vs : List Int32} (hI : Inv σ) (hv : okV vs) : Inv (tellS σ vs) := by
  rcases hv with ⟨t, w, p, tl, rfl, h1, -⟩ | ⟨v, rfl, -⟩ | ⟨v, rfl, -⟩ | ⟨v, rfl, -⟩ | ⟨x, y, m, rfl, h1, h2, -⟩ | ⟨c, p, o, s, w, g, l, rfl, h1, p1, p2, o1, s1, -⟩ | ⟨c, n, m, al, on, rfl, h1, n1, n2, m2, a2, o2⟩
  · rw [tell0 h1]
    refine ⟨hI.len, hI.vm, hI.sm, hI.pl, hI.op, hI.li, hI.al, hI.on, hI.tx, ?_, hI.td, hI.vi⟩
    show ∃ v, v < 256 ∧ (if nI tl = 1 then σ.tools ||| ((1 : Int32) <<< (nI t &&& 31)) else σ.tools &&& (((1 : Int32) <<< (nI t &&& 31)) ^^^ (-1))) = nI v
    obtain ⟨v, hv, e⟩ := hI.tl
    rw [e]
    split
    · rw [sh1 t h1]
      have : 2 ^ t < 2 ^ 8 := Nat.pow_lt_pow_right (by decide) h1
      exact or_nI v (2 ^ t) hv (by omega)
    · exact and_nI hv _
  · rw [tell1]; exact ⟨hI.len, hI.vm, hI.sm, hI.pl, hI.op, hI.li, hI.al, hI.on, hI.tx, hI.tl, hI.td, hI.vi⟩
  · rw [tell2]; exact ⟨hI.len, hI.vm, hI.sm, hI.pl, hI.op, hI.li, hI.al, hI.on, hI.tx, hI.tl, hI.td, hI.vi⟩
  · rw [tell3]; exact ⟨hI.len, hI.vm, hI.sm, hI.pl, hI.op, hI.li, hI.al, hI.on, hI.tx, hI.tl, hI.td, hI.vi⟩
  · rw [tell4 h1 h2]; exact ⟨hI.len, hI.vm, hI.sm, hI.pl, hI.op, hI.li, hI.al, hI.on, hI.tx, hI.tl, hI.td, hI.vi⟩
  · rw [tell5 h1]
    refine ⟨hI.len, hI.vm, ?_, ?_, ?_, ?_, hI.al, hI.on, hI.tx, hI.tl, ?_, hI.vi⟩
    · intro c' hc'
      show updN σ.sm c 0 c' ≤ 4
      unfold updN
      split
      · omega
      · exact hI.sm c' hc'
    · intro c' hc'
      show ∃ q, q < 6 ∧ clU _ 0 c σ.calls 6 (6 * c') = nI q
      rw [clU_at]
      by_cases e : c' = c
      · subst e
        rw [if_pos (by omega), Nat.sub_self]
        exact ⟨p, p2, rfl⟩
      · rw [if_neg (by omega)]; exact hI.pl c' hc'
    · intro c' hc'
      show 0 ≤ clU _ 0 c σ.calls 6 (6 * c' + 1) ∧ clU _ 0 c σ.calls 6 (6 * c' + 1) ≤ clU _ 0 c σ.calls 6 (6 * c' + 2)
      rw [clU_at, clU_at]
      by_cases e : c' = c
      · subst e
        rw [if_pos (by omega), if_pos (by omega), Nat.add_sub_cancel_left, Nat.add_sub_cancel_left]
        exact ⟨nI_pos' (by omega), nI_le o1 (by omega)⟩
      · rw [if_neg (by omega), if_neg (by omega)]; exact hI.op c' hc'
    · intro c' s' hc' hs'
      have hs' : s' < updN σ.sm c 0 c' := hs'
      unfold updN at hs'
      by_cases e : c' = c
      · rw [if_pos e] at hs'; omega
      · rw [if_neg e] at hs'; exact hI.li c' s' hc' hs'
    · show ∃ v, v < 64 ∧ σ.told ||| ((1 : Int32) <<< (nI c &&& 31)) = nI v
      obtain ⟨v, hv, e⟩ := hI.td
      have : 2 ^ c < 2 ^ 6 := Nat.pow_lt_pow_right (by decide) h1
      rw [e, sh1 c (by omega)]
      exact or_nIk (k := 6) (by omega) (by omega) (by decide)
  · rw [tell6 h1]
    split
    · split
      · exact hI
      · rename_i h4
        refine ⟨hI.len, hI.vm, ?_, hI.pl, hI.op, ?_, ?_, ?_, hI.tx, hI.tl, hI.td, hI.vi⟩
        · intro c' hc'
          show updN σ.sm c (σ.sm c + 1) c' ≤ 4
          unfold updN
          split
          · omega
          · exact hI.sm c' hc'
        · intro c' s' hc' hs'
          have hs' : s' < updN σ.sm c (σ.sm c + 1) c' := hs'
          show ∃ v, 1 ≤ v ∧ v ≤ 20 ∧ soU _ 0 c (σ.sm c) σ.sorts 4 (16 * c' + 4 * s') = nI v
          unfold updN at hs'
          rw [soU_at]
          by_cases e : c' = c
          · subst e
            rw [if_pos rfl] at hs'
            by_cases e2 : s' = σ.sm c'
            · subst e2
              rw [if_pos (by omega), Nat.sub_self]
              exact ⟨n, n1, n2, rfl⟩
            · rw [if_neg (by omega)]; exact hI.li c' s' hc' (by omega)
          · rw [if_neg e] at hs'
            have := hI.sm c' hc'
            rw [if_neg (by omega)]; exact hI.li c' s' hc' hs'
        · intro c' s' hc' hs'
          show ∃ v, v < 256 ∧ soU _ 0 c (σ.sm c) σ.sorts 4 (16 * c' + 4 * s' + 2) = nI v
          rw [soU_at]
          by_cases e : c' = c ∧ s' = σ.sm c
          · obtain ⟨rfl, rfl⟩ := e
            rw [if_pos (by omega), Nat.add_sub_cancel_left]
            exact ⟨al, a2, rfl⟩
          · rw [if_neg (by omega)]; exact hI.al c' s' hc' hs'
        · intro c' s' hc' hs'
          show ∃ v, v < 256 ∧ soU _ 0 c (σ.sm c) σ.sorts 4 (16 * c' + 4 * s' + 3) = nI v
          rw [soU_at]
          by_cases e : c' = c ∧ s' = σ.sm c
          · obtain ⟨rfl, rfl⟩ := e
            rw [if_pos (by omega), Nat.add_sub_cancel_left]
            exact ⟨on, o2, rfl⟩
          · rw [if_neg (by omega)]; exact hI.on c' s' hc' hs'
    · exact hI
/-- the first k lines are done -/
def dayT (σ : St) (ls : List (List Int32)) : Nat → St
  | 0 => σ
  | k + 1 => tellS (dayT σ ls k) (ls.getD k [])
def dayS (σ : St) (ls : List (List Int32)) : St := (dayT σ ls ls.length).s_len 0
theorem at_d {ls : List (List Int32)} {k : Nat} (h : k < ls.length) : ls[k]? = some (ls.getD k []) := by
  rw [List.getD_eq_getElem?_getD, List.getElem?_eq_getElem h]; rfl
theorem inv_day {σ : St} {ls : List (List Int32)} (hI : Inv σ) (h : ∀ k, k < ls.length → okV (ls.getD k [])) : ∀ k, k ≤ ls.length → Inv (dayT σ ls k)
  | 0, _ => hI
  | k + 1, hk => inv_tell (inv_day hI h k (by omega)) (h k (by omega))
theorem rows_ok {f : Nat → Int32} {ls : List (List Int32)} (h : rowsOK f ls) : ∀ k, k < ls.length → okV (ls.getD k []) := fun k hk => (h k _ (at_d hk)).1
theorem day_lay {σ : St} {f : Nat → Int32} {ls : List (List Int32)} (h : rowsOK f ls) {k : Nat} (hk : k < ls.length) : layS (dayT σ ls k) f (8 * k) = dayT σ ls (k + 1) ∧ okB f (8 * k) := by
  obtain ⟨a, b⟩ := h k _ (at_d hk)
  exact lay_tell a b

theorem cw_X3_X3_fault {R : Room} {s : State} {args : Array Value} (hts : ∀ w ∈ lw_all, w.before args s = true) (hR : rmX3_fault.frames + 1 ≤ R.frames ∧ 8 + (2 + 11) + rmX3_fault.locals ≤ R.locals) : CallW R s args RX3 RX3 136 yX3_fault cX3_fault 2 (some .int) (ws_ yX3_fault cX3_fault 2 (some .int)) rmX3_fault 0 0 0 := cwV 0 hts (lw_V q1283 q1222 q1223 q83 q1224) rfl rfl rfl (by decide +kernel) hR
theorem cw_X3_X3_lay {R : Room} {s : State} {args : Array Value} (hts : ∀ w ∈ lw_all, w.before args s = true) (hR : rmX3_lay.frames + 1 ≤ R.frames ∧ 8 + (5 + 11) + rmX3_lay.locals ≤ R.locals) : CallW R s args RX3 RX3 139 yX3_lay cX3_lay 5 none (ws_ yX3_lay cX3_lay 5 none) rmX3_lay 0 0 1 := cwV 1 hts (lw_V q1284 q1286 qs44 q83 q1287) rfl rfl rfl (by decide +kernel) hR
def rmX3_day : Room := { frames := 6, cells := 0, slots := 0, locals := 131 }
set_option maxHeartbeats 1000000 in
theorem mt_X3_day (l : Launch) (D : va_G) (dA : Nat → ClassId) (h : Nat) (ad : Nat → Nat) (σ : St) (τ : Sc) (hmD : mD h ad) (hI : Inv σ) : Met l yX3_day (ws_ yX3_day cX3_day 2 (some .int)) rmX3_day (va_Pc [.ref h] (mB D dA h ad σ τ)) (va_Qi (fun r (u : MS) => (∃ ls : List (List Int32), r = nI ls.length ∧ u.1 = dayS σ ls ∧ allL σ = .inr ls ∧ ls.length ≤ 10 ∧ ∀ k, k < ls.length → okV (ls.getD k [])) ∨ (r = (-4) ∧ ∃ fp : Nat, u.1 = σ ∧ allL σ = .inl fp)) (fun u t => mB D dA h ad u.1 u.2 t) (mA h ad)) 0 0 (mA h ad) := by
  refine w_start (by decide) (Nat.le_of_ble_eq_true rfl) ?_
  intro p e s m args below meth c Q ls hQ hx hb hr hlocks hml hown hnm hts hB hl
  have hown : s.vm.findClass RX3 = some m.cls := hown
  have hl : lv_has ls 2 [(0, .ref h)] := hl
  obtain ⟨hP, hK⟩ := hB
  have hP : va_P D vwCl (mX dA h ad σ.txt σ.len σ.wt σ.pr σ.tools σ.load σ.purse σ.beg σ.ways σ.told σ.calls σ.sm σ.sorts σ.visits σ.vm τ.read τ.rm τ.at_ τ.place τ.end_ τ.ents τ.em τ.combos τ.all_ τ.weight τ.gain τ.ad_ τ.minute τ.ds τ.bl τ.chosen) s.heap := hP
  have hS : va_S (mA h ad) s.heap s.heap [] := va_S.rf
  have hlen := hI.len
  refine lv_aload_n hx hb dX3_day_0 rfl (lv_at hl 0 rfl) ?_
  refine mcVi (As := []) (rest := []) ⟨hx, hb, hml, hown, hts⟩ (mt_X3_fault l D dA h ad σ τ hmD hI) (cw_X3_X3_fault hts ⟨Nat.le_of_ble_eq_true rfl, Nat.le_of_ble_eq_true rfl⟩) (mB_now hK hP) (va_recv hK hP (ci := 0) (q0 := 0) rfl rfl) rfl hl.1 rfl (Nat.le_of_ble_eq_true rfl) dX3_day_1 ⟨Nat.le_of_ble_eq_true rfl, Nat.le_of_ble_eq_true rfl⟩ hS (fun r_1 u_2 H locs hp_3 hP hS => ?_)
  rcases hp_3 with ⟨rfl, fn_4, ls_5, x1_6, x2_7, x3_8, rfl, hq_9, hro_10, hll_11⟩ | ⟨fp_12, rfl, hu_15, hq_13, hfp_14⟩
  · have hP : va_P D vwCl (mX dA h ad σ.txt σ.len σ.wt σ.pr σ.tools σ.load σ.purse σ.beg σ.ways σ.told σ.calls σ.sm σ.sorts σ.visits σ.vm fn_4 (nI ls_5.length) x1_6 x2_7 x3_8 τ.ents τ.em τ.combos τ.all_ τ.weight τ.gain τ.ad_ τ.minute τ.ds τ.bl τ.chosen) H := hP
    have hll := hll_11
    refine lv_iconst (v := (-1)) hx hb dX3_day_4 rfl ?_
    refine lv_icmp_eq (tgt := 11) hx hb dX3_day_5 rfl (fun _ => ?_) (fun h9 => ?_)
    rotate_left
    · exact absurd (by decide) h9
    refine lv_iconst (v := 0) hx hb dX3_day_11 rfl ?_
    refine lv_istore_n (lv' := [(1, .int 0), (0, .ref h)]) hx hb dX3_day_12 rfl hl (by decide) rfl (fun ls hl => ?_)
    have hL13_16 : ∀ (n_17 : Nat) (k : Nat) (x1 : Int32) (ls : Array Slot) (H : Heap) (locs : List Loc), (ls_5.length - k) < n_17 → (k ≤ ls_5.length) → x1 = (nI k) → lv_has ls 2 [(1, .int x1), (0, .ref h)] → va_P D vwCl (mX dA h ad ((dayT σ ls_5 k).txt) ((dayT σ ls_5 k).len) ((dayT σ ls_5 k).wt) ((dayT σ ls_5 k).pr) ((dayT σ ls_5 k).tools) ((dayT σ ls_5 k).load) ((dayT σ ls_5 k).purse) ((dayT σ ls_5 k).beg) ((dayT σ ls_5 k).ways) ((dayT σ ls_5 k).told) ((dayT σ ls_5 k).calls) ((dayT σ ls_5 k).sm) ((dayT σ ls_5 k).sorts) ((dayT σ ls_5 k).visits) ((dayT σ ls_5 k).vm) fn_4 (nI ls_5.length) x1_6 x2_7 x3_8 τ.ents τ.em τ.combos τ.all_ τ.weight τ.gain τ.ad_ τ.minute τ.ds τ.bl τ.chosen) H → va_S (mA h ad) s.heap H locs → W p l e rmX3_day s m args below meth c H locs 0 0 Q (F0 m 13 ls []) := by
      intro n_17
      induction n_17 with
      | zero => intro k x1 ls H locs hm_19; exact absurd hm_19 (Nat.not_lt_zero _)
      | succ n_17 ih_18 =>
        intro k x1 ls H locs hm_19 hk ex1 hl hP hS
        subst ex1
        refine lv_iload_n hx hb dX3_day_13 rfl (lv_at hl 0 rfl) ?_
        refine lv_aload_n hx hb dX3_day_14 rfl (lv_at hl 1 rfl) ?_
        refine va_get (D := D) (ci := 0) (v := .int (nI ls_5.length)) (C := RX3) (T := TX3) (N := 31) hx hb hts in_X3 hown hK hP 0 rfl rfl 3 (by decide) (hts _ q1117) (fun _ h9 => h9) rfl dX3_day_15 ?_
        refine lv_icmp_ge (tgt := 35) hx hb dX3_day_18 rfl (fun h18 => ?_) (fun h18 => ?_)
        · have h18 : ls_5.length ≤ k := (nz_le (a := ls_5.length) (b := k) rfl rfl (by omega) (by omega)).mp h18
          have hk_ : k = ls_5.length := by omega
          subst hk_
          refine lv_aload_n hx hb dX3_day_35 rfl (lv_at hl 1 rfl) ?_
          refine lv_iconst (v := 0) hx hb dX3_day_36 rfl ?_
          refine va_put (D := D) (ci := 0) (v := .int (nI 0)) (ty := .int) (C := RX3) (T := TX3) (N := 31) hx hb hts in_X3 tyX3 tyX3_ok nmX3 hown hK hP (mD_va hmD dA (dayT σ ls_5 ls_5.length) ((fn_4, nI ls_5.length, x1_6, x2_7, x3_8, τ.ents, τ.em, τ.combos, τ.all_, τ.weight, τ.gain, τ.ad_, τ.minute, τ.ds, τ.bl, τ.chosen) : Sc)) hS 0 rfl rfl 1 (by decide) (hts _ q1115) (fun _ h9 => h9) rfl (by decide +kernel) (rfl) (rfl) (Nat.le_of_ble_eq_true rfl) dX3_day_37 (fun H locs hP _ hS => ?_)
          have hP : va_P D vwCl (mX dA h ad ((dayT σ ls_5 ls_5.length).txt) 0 ((dayT σ ls_5 ls_5.length).wt) ((dayT σ ls_5 ls_5.length).pr) ((dayT σ ls_5 ls_5.length).tools) ((dayT σ ls_5 ls_5.length).load) ((dayT σ ls_5 ls_5.length).purse) ((dayT σ ls_5 ls_5.length).beg) ((dayT σ ls_5 ls_5.length).ways) ((dayT σ ls_5 ls_5.length).told) ((dayT σ ls_5 ls_5.length).calls) ((dayT σ ls_5 ls_5.length).sm) ((dayT σ ls_5 ls_5.length).sorts) ((dayT σ ls_5 ls_5.length).visits) ((dayT σ ls_5 ls_5.length).vm) fn_4 (nI ls_5.length) x1_6 x2_7 x3_8 τ.ents τ.em τ.combos τ.all_ τ.weight τ.gain τ.ad_ τ.minute τ.ds τ.bl τ.chosen) H := hP
          refine lv_aload_n hx hb dX3_day_40 rfl (lv_at hl 1 rfl) ?_
          refine va_get (D := D) (ci := 0) (v := .int (nI ls_5.length)) (C := RX3) (T := TX3) (N := 31) hx hb hts in_X3 hown hK hP 0 rfl rfl 3 (by decide) (hts _ q1117) (fun _ h9 => h9) rfl dX3_day_41 ?_
          exact rm_i (u := ((((dayT σ ls_5 ls_5.length).txt, 0, (dayT σ ls_5 ls_5.length).wt, (dayT σ ls_5 ls_5.length).pr, (dayT σ ls_5 ls_5.length).tools, (dayT σ ls_5 ls_5.length).load, (dayT σ ls_5 ls_5.length).purse, (dayT σ ls_5 ls_5.length).beg, (dayT σ ls_5 ls_5.length).ways, (dayT σ ls_5 ls_5.length).told, (dayT σ ls_5 ls_5.length).calls, (dayT σ ls_5 ls_5.length).sm, (dayT σ ls_5 ls_5.length).sorts, (dayT σ ls_5 ls_5.length).visits, (dayT σ ls_5 ls_5.length).vm) : St), ((fn_4, nI ls_5.length, x1_6, x2_7, x3_8, τ.ents, τ.em, τ.combos, τ.all_, τ.weight, τ.gain, τ.ad_, τ.minute, τ.ds, τ.bl, τ.chosen) : Sc))) hQ hx hb hr hlocks hK hP hS ((Or.inl ⟨ls_5, rfl, rfl, (hq_9), (hll_11), (rows_ok hro_10)⟩)) dX3_day_44
        · have h18 : ¬ (ls_5.length ≤ k) := fun z9 => h18 ((nz_le (a := ls_5.length) (b := k) rfl rfl (by omega) (by omega)).mpr z9)
          refine lv_aload_n hx hb dX3_day_21 rfl (lv_at hl 1 rfl) ?_
          refine lv_bipush (v := 8) hx hb dX3_day_22 rfl ?_
          refine lv_iload_n hx hb dX3_day_24 rfl (lv_at hl 0 rfl) ?_
          refine lv_imul hx hb dX3_day_25 ?_
          refine w_topi (nz_mul rfl rfl) ?_
          refine mcVv (As := [.int (nI (8 * k))]) (rest := []) ⟨hx, hb, hml, hown, hts⟩ (mt_X3_lay l D dA h ad (dayT σ ls_5 k) ((fn_4, nI ls_5.length, x1_6, x2_7, x3_8, τ.ents, τ.em, τ.combos, τ.all_, τ.weight, τ.gain, τ.ad_, τ.minute, τ.ds, τ.bl, τ.chosen) : Sc) hmD (8 * k) fn_4 (inv_day hI (rows_ok hro_10) k hk) (by omega) ((day_lay (σ := σ) hro_10 (by omega)).2)) (cw_X3_X3_lay hts ⟨Nat.le_of_ble_eq_true rfl, Nat.le_of_ble_eq_true rfl⟩) (mB_now hK hP) (va_recv hK hP (ci := 0) (q0 := 0) rfl rfl) rfl hl.1 rfl (Nat.le_of_ble_eq_true rfl) dX3_day_26 ⟨Nat.le_of_ble_eq_true rfl, Nat.le_of_ble_eq_true rfl⟩ hS (fun u_21 H locs hp_22 hP hS => ?_)
          subst hp_22
          rw [(day_lay (σ := σ) hro_10 (k := k) (by omega)).1] at hP
          have hP : va_P D vwCl (mX dA h ad ((dayT σ ls_5 (k + 1)).txt) ((dayT σ ls_5 (k + 1)).len) ((dayT σ ls_5 (k + 1)).wt) ((dayT σ ls_5 (k + 1)).pr) ((dayT σ ls_5 (k + 1)).tools) ((dayT σ ls_5 (k + 1)).load) ((dayT σ ls_5 (k + 1)).purse) ((dayT σ ls_5 (k + 1)).beg) ((dayT σ ls_5 (k + 1)).ways) ((dayT σ ls_5 (k + 1)).told) ((dayT σ ls_5 (k + 1)).calls) ((dayT σ ls_5 (k + 1)).sm) ((dayT σ ls_5 (k + 1)).sorts) ((dayT σ ls_5 (k + 1)).visits) ((dayT σ ls_5 (k + 1)).vm) fn_4 (nI ls_5.length) x1_6 x2_7 x3_8 τ.ents τ.em τ.combos τ.all_ τ.weight τ.gain τ.ad_ τ.minute τ.ds τ.bl τ.chosen) H := hP
          refine lv_iinc (v := nI (k + 1)) (lv' := [(1, .int (nI (k + 1))), (0, .ref h)]) hx hb dX3_day_29 hl (k := 0) rfl (nI_1 k) (by decide) rfl (fun ls hl => ?_)
          refine lv_goto (tgt := 13) hx hb dX3_day_32 rfl ?_
          exact ih_18 (k + 1) (nI (k + 1)) ls _ _ (by omega) (by omega) rfl (lv_sub hl [0, 1] rfl) hP hS
    exact hL13_16 _ 0 0 ls _ _ (Nat.lt_succ_self _) (by omega) rfl (lv_sub hl [0, 1] rfl) hP hS
  · have hP : va_P D vwCl (mX dA h ad u_2.1.txt u_2.1.len u_2.1.wt u_2.1.pr u_2.1.tools u_2.1.load u_2.1.purse u_2.1.beg u_2.1.ways u_2.1.told u_2.1.calls u_2.1.sm u_2.1.sorts u_2.1.visits u_2.1.vm u_2.2.read u_2.2.rm u_2.2.at_ u_2.2.place u_2.2.end_ u_2.2.ents u_2.2.em u_2.2.combos u_2.2.all_ u_2.2.weight u_2.2.gain u_2.2.ad_ u_2.2.minute u_2.2.ds u_2.2.bl u_2.2.chosen) H := hP
    rw [hu_15] at hP
    clear hu_15
    have hP : va_P D vwCl (mX dA h ad σ.txt σ.len σ.wt σ.pr σ.tools σ.load σ.purse σ.beg σ.ways σ.told σ.calls σ.sm σ.sorts σ.visits σ.vm u_2.2.read u_2.2.rm u_2.2.at_ u_2.2.place u_2.2.end_ u_2.2.ents u_2.2.em u_2.2.combos u_2.2.all_ u_2.2.weight u_2.2.gain u_2.2.ad_ u_2.2.minute u_2.2.ds u_2.2.bl u_2.2.chosen) H := hP
    refine lv_iconst (v := (-1)) hx hb dX3_day_4 rfl ?_
    refine lv_icmp_eq (tgt := 11) hx hb dX3_day_5 rfl (fun h5 => ?_) (fun h5 => ?_)
    · have h5 : (nI fp_12) = (-1) := h5
      exact absurd h5 (nI_nm (by omega))
    · have h5 : ¬ ((nI fp_12) = (-1)) := h5
      refine lv_bipush (v := (-4)) hx hb dX3_day_8 rfl ?_
      exact rm_i (u := (σ, u_2.2)) hQ hx hb hr hlocks hK hP hS ((Or.inr ⟨rfl, fp_12, rfl, (hq_13)⟩)) dX3_day_10
