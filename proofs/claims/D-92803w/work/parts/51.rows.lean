/-! PURE ROWS 4: a row gone through by recursion is the sum over the ways to be -/
set_option maxRecDepth 100000
def sumL (f : Nat → Int64) : Nat → Int64
  | 0 => 0
  | k + 1 => sumL f k + f k
theorem sum_congr {f g : Nat → Int64} : ∀ n, (∀ k, k < n → f k = g k) → sumL f n = sumL g n
  | 0, _ => rfl
  | n + 1, h => by rw [sumL, sumL, sum_congr n (fun k hk => h k (by omega)), h n (by omega)]
theorem sum_add (f g : Nat → Int64) : ∀ n, sumL (fun k => f k + g k) n = sumL f n + sumL g n
  | 0 => rfl
  | n + 1 => by
    rw [sumL, sumL, sumL, sum_add f g n, Int64.add_assoc, Int64.add_assoc, ← Int64.add_assoc (sumL g n), Int64.add_comm (sumL g n), Int64.add_assoc]
theorem sum_mul (c : Int64) (f : Nat → Int64) : ∀ n, sumL (fun k => c * f k) n = c * sumL f n
  | 0 => (Int64.mul_zero).symm
  | n + 1 => by rw [sumL, sumL, sum_mul c f n, Int64.mul_add]
theorem sum_mulr (c : Int64) (f : Nat → Int64) : ∀ n, sumL (fun k => f k * c) n = sumL f n * c
  | 0 => (Int64.zero_mul).symm
  | n + 1 => by rw [sumL, sumL, sum_mulr c f n, Int64.add_mul]
theorem sum_app (f : Nat → Int64) (a : Nat) : ∀ b, sumL f (a + b) = sumL f a + sumL (fun k => f (a + k)) b
  | 0 => (Int64.add_zero _).symm
  | b + 1 => by
    show sumL f (a + b) + f (a + b) = _ + (sumL _ b + _)
    rw [sum_app f a b, Int64.add_assoc]
theorem sum_split (h : Nat → Nat → Int64) (n : Nat) : ∀ M, sumL (fun u => h (u % n) (u / n)) (n * M) = sumL (fun k => sumL (fun u => h k u) M) n
  | 0 => by
    show (0 : Int64) = _
    have : ∀ n, sumL (fun _ => (0 : Int64)) n = 0 := by
      intro n
      induction n with
      | zero => rfl
      | succ n ih => rw [sumL, ih]; rfl
    exact (this n).symm
  | M + 1 => by
    rw [Nat.mul_succ, sum_app, sum_split h n M]
    have e : sumL (fun k => h ((n * M + k) % n) ((n * M + k) / n)) n = sumL (fun k => h k M) n := by
      refine sum_congr n (fun k hk => ?_)
      rw [Nat.mul_add_mod, Nat.mod_eq_of_lt hk, Nat.mul_add_div (by omega), Nat.div_eq_of_lt hk, Nat.add_zero]
    rw [e, ← sum_add]
    rfl
section TR
variable (σ : St) (row full : Int32)
/-- the sum over what may be, entry by entry -/
def trS (wt : Nat → Nat → Int64) (φ : GS → Int64) : Nat → Nat → GS → Int64
  | 0, _, g => φ g
  | d + 1, i, g => if en row i = 6 then trS wt φ d (i + 1) (stepH σ full g) else sumL (fun k => wt i k * trS wt φ d (i + 1) (stepC σ (en row i) k g)) (σ.sm (en row i))
def flE : Nat → Nat → GS → Nat → GS
  | 0, _, g, _ => g
  | d + 1, i, g, u => if en row i = 6 then flE d (i + 1) (stepH σ full g) u else flE d (i + 1) (stepC σ (en row i) (u % σ.sm (en row i)) g) (u / σ.sm (en row i))
def flW (wt : Nat → Nat → Int64) : Nat → Nat → Nat → Int64
  | 0, _, _ => 1
  | d + 1, i, u => if en row i = 6 then flW wt d (i + 1) u else wt i (u % σ.sm (en row i)) * flW wt d (i + 1) (u / σ.sm (en row i))
def flN : Nat → Nat → Nat
  | 0, _ => 1
  | d + 1, i => if en row i = 6 then flN d (i + 1) else σ.sm (en row i) * flN d (i + 1)
theorem fl_sum (wt : Nat → Nat → Int64) (φ : GS → Int64) : ∀ d i g, sumL (fun u => flW σ row wt d i u * φ (flE σ row full d i g u)) (flN σ row d i) = trS σ row full wt φ d i g
  | 0, i, g => by
    show (0 : Int64) + 1 * φ g = φ g
    rw [Int64.one_mul, Int64.zero_add]
  | d + 1, i, g => by
    by_cases h : en row i = 6
    · simp only [flW, flE, flN, trS, if_pos h]
      exact fl_sum wt φ d (i + 1) _
    · simp only [flW, flE, flN, trS, if_neg h]
      rw [sum_split (fun k u => wt i k * flW σ row wt d (i + 1) u * φ (flE σ row full d (i + 1) (stepC σ (en row i) k g) u))]
      refine sum_congr _ (fun k _ => ?_)
      rw [← fl_sum wt φ d (i + 1), ← sum_mul]
      exact sum_congr _ (fun u _ => Int64.mul_assoc _ _ _)
def weW (wt : Nat → Nat → Int64) (v : Nat) : Nat → Int64
  | 0 => 1
  | k + 1 => if en row k = 6 then weW wt v k else weW wt v k * wt k (chN σ row v k)
theorem goR_fl (v : Nat) : ∀ d k, flE σ row full d k (goR σ row (chN σ row v) full k) (rsN σ row v k) = goR σ row (chN σ row v) full (k + d)
  | 0, k => rfl
  | d + 1, k => by
    have ih := goR_fl v d (k + 1)
    rw [show k + 1 + d = k + (d + 1) by omega] at ih
    rw [← ih, flE, goR, rsN]
    by_cases h : en row k = 6
    · rw [if_pos h, if_pos h, if_pos h]
    · rw [if_neg h, if_neg h, if_neg h]; rfl
theorem weW_fl (wt : Nat → Nat → Int64) (v : Nat) : ∀ d k, weW σ row wt v k * flW σ row wt d k (rsN σ row v k) = weW σ row wt v (k + d)
  | 0, k => Int64.mul_one _
  | d + 1, k => by
    have ih := weW_fl wt v d (k + 1)
    rw [show k + 1 + d = k + (d + 1) by omega] at ih
    rw [← ih, flW, weW, rsN]
    by_cases h : en row k = 6
    · rw [if_pos h, if_pos h, if_pos h]
    · rw [if_neg h, if_neg h, if_neg h, Int64.mul_assoc]; rfl
theorem com_fl : ∀ d k, comN σ row k * flN σ row d k = comN σ row (k + d)
  | 0, k => Nat.mul_one _
  | d + 1, k => by
    have ih := com_fl d (k + 1)
    rw [show k + 1 + d = k + (d + 1) by omega] at ih
    rw [← ih, flN, comN]
    by_cases h : en row k = 6
    · rw [if_pos h, if_pos h, Nat.mul_one]
    · rw [if_neg h, if_neg h, Nat.mul_assoc]
def g0 (bag : Int32) : GS := (0, σ.beg, bag, 0, 0, 1)
theorem flat_tr (wt : Nat → Nat → Int64) (φ : GS → Int64) (j : Nat) : sumL (fun v => weW σ row wt v j * φ (goR σ row (chN σ row v) full j)) (comN σ row j) = trS σ row full wt φ j 0 (g0 σ full) := by
  rw [← fl_sum]
  have e : comN σ row j = flN σ row j 0 := by
    have := com_fl σ row j 0
    rw [Nat.zero_add] at this
    rw [← this]; exact Nat.one_mul _
  rw [e]
  refine sum_congr _ (fun v _ => ?_)
  have h1 := goR_fl σ row full v j 0
  have h2 := weW_fl σ row wt v j 0
  rw [Nat.zero_add] at h1 h2
  rw [← h1, ← h2]
  show 1 * _ * _ = _
  rw [Int64.one_mul]
  rfl
end TR
/-- how likely sorts are -/
def lkW (σ : St) (row : Int32) (i k : Nat) : Int64 := (σ.sorts (16 * en row i + 4 * k)).toInt64
theorem wei_W (σ : St) (row : Int32) (v : Nat) : ∀ k, weiF σ row v k = weW σ row (lkW σ row) v k
  | 0 => rfl
  | k + 1 => by rw [weiF, weW, wei_W σ row v k]; rfl
abbrev fB (g : GS) : Int64 := g.2.2.2.1.toInt64
abbrev fD (g : GS) : Int64 := if g.2.2.2.2.2 = 0 then 0 else 1
theorem mn_tr (σ : St) (row : Int32) (j : Nat) (bag : Int32) : mnF σ row j bag = trS σ row bag (lkW σ row) fB j 0 (g0 σ bag) := by
  rw [← flat_tr]
  have : ∀ n, mnG σ row j bag n = sumL (fun v => weW σ row (lkW σ row) v j * fB (goR σ row (chN σ row v) bag j)) n := by
    intro n
    induction n with
    | zero => rfl
    | succ n ih => rw [mnG, sumL, ih, wei_W]
  exact this _
theorem dn_tr (σ : St) (row : Int32) (j : Nat) (bag : Int32) : dnF σ row j bag = trS σ row bag (lkW σ row) fD j 0 (g0 σ bag) := by
  rw [← flat_tr]
  have : ∀ n, dnG σ row j bag n = sumL (fun v => weW σ row (lkW σ row) v j * fD (goR σ row (chN σ row v) bag j)) n := by
    intro n
    induction n with
    | zero => rfl
    | succ n ih =>
      rw [dnG, sumL, ih, wei_W]
      unfold fD
      by_cases h : (goR σ row (chN σ row n) bag j).2.2.2.2.2 = 0
      · rw [if_pos h, if_pos h, Int64.mul_zero]
      · rw [if_neg h, if_neg h, Int64.mul_one]
  exact this _
/-- of one entry a sort alone -/
def lkQ (σ : St) (row : Int32) (q s i k : Nat) : Int64 := if i = q then (if k = s then lkW σ row i k else 0) else lkW σ row i k
theorem weQ (σ : St) (row : Int32) {q s : Nat} (h6 : ¬ en row q = 6) (v : Nat) : ∀ n, weW σ row (lkQ σ row q s) v n = if q < n then (if chN σ row v q = s then weW σ row (lkW σ row) v n else 0) else weW σ row (lkW σ row) v n
  | 0 => by rw [if_neg (by omega)]; rfl
  | n + 1 => by
    rw [weW, weW, weQ σ row h6 v n]
    by_cases hn : n < q
    · rw [if_neg (show ¬ q < n by omega), if_neg (show ¬ q < n + 1 by omega)]
      unfold lkQ
      rw [if_neg (show ¬ n = q by omega)]
    · by_cases he : n = q
      · subst he
        rw [if_neg h6, if_neg h6, if_neg (Nat.lt_irrefl _), if_pos (Nat.lt_succ_self _)]
        unfold lkQ
        rw [if_pos rfl]
        by_cases hs : chN σ row v n = s
        · rw [if_pos hs, if_pos hs]
        · rw [if_neg hs, if_neg hs, Int64.mul_zero]
      · rw [if_pos (show q < n by omega), if_pos (show q < n + 1 by omega)]
        by_cases hs : chN σ row v q = s
        · rw [if_pos hs, if_pos hs]
          unfold lkQ
          rw [if_neg he]
        · rw [if_neg hs, if_neg hs, Int64.zero_mul]
          split <;> rfl
theorem mk_tr (σ : St) (row : Int32) {j q : Nat} (hq : q < j) (h6 : ¬ en row q = 6) (s : Nat) (bag : Int32) : mkF σ row j bag q s = trS σ row bag (lkQ σ row q s) fB j 0 (g0 σ bag) := by
  rw [← flat_tr]
  have : ∀ n, mkG σ row j bag q s n = sumL (fun v => weW σ row (lkQ σ row q s) v j * fB (goR σ row (chN σ row v) bag j)) n := by
    intro n
    induction n with
    | zero => rfl
    | succ n ih =>
      rw [mkG, sumL, ih, weQ σ row h6, if_pos hq, wei_W]
      by_cases hs : chN σ row n q = s
      · rw [if_pos hs, if_pos hs]
      · rw [if_neg hs, if_neg hs, Int64.zero_mul, Int64.add_zero]
  exact this _
