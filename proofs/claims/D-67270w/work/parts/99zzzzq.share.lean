-- needs: 99zzzzp
set_option maxRecDepth 100000
/-! TABLES: shares of columns -/
def sm0 (f : Int → Int) : Nat → Int
  | 0 => 0
  | k + 1 => sm0 f k + f k
theorem sm0_r {f : Int → Int} {lo hi : Int} : ∀ k : Nat, (∀ c : Int, 0 ≤ c → c < k → lo ≤ f c ∧ f c ≤ hi) → lo * k ≤ sm0 f k ∧ sm0 f k ≤ hi * k := by
  intro k
  induction k with
  | zero => intro _; show lo * ((0 : Nat) : Int) ≤ 0 ∧ 0 ≤ hi * ((0 : Nat) : Int); rw [Int.natCast_zero, Int.mul_zero, Int.mul_zero]; exact ⟨Int.le_refl _, Int.le_refl _⟩
  | succ k ih =>
    intro h
    obtain ⟨i1, i2⟩ := ih (fun c c0 c1 => h c c0 (by omega))
    obtain ⟨j1, j2⟩ := h k (by omega) (by omega)
    show lo * ((k + 1 : Nat) : Int) ≤ sm0 f k + f k ∧ sm0 f k + f k ≤ hi * ((k + 1 : Nat) : Int)
    rw [show (((k + 1 : Nat)) : Int) = (k : Int) + 1 by omega, Int.mul_add, Int.mul_add, Int.mul_one, Int.mul_one]
    omega
theorem sm0_ge {f : Int → Int} : ∀ (k c : Nat), c < k → (∀ x : Int, 0 ≤ x → x < k → 0 ≤ f x) → f c ≤ sm0 f k := by
  intro k
  induction k with
  | zero => intro c hc; omega
  | succ k ih =>
    intro c hc h
    have nn : 0 ≤ sm0 f k := by
      have : ∀ j : Nat, j ≤ k → 0 ≤ sm0 f j := by
        intro j
        induction j with
        | zero => intro _; exact Int.le_refl _
        | succ j jh => intro hj; have a := jh (by omega); have b := h j (by omega) (by omega); show 0 ≤ sm0 f j + f j; omega
      exact this k (Nat.le_refl _)
    show f c ≤ sm0 f k + f k
    by_cases hk : c = k
    · rw [hk]; omega
    · have a := ih c (by omega) (fun x x0 x1 => h x x0 (by omega))
      have b := h k (by omega) (by omega)
      omega
/-- what a column gets at first -/
def shB (n w : Int) (ls ws : Int → Int) (c : Int) : Int := if sm0 ws n.toNat ≤ w then ws c + Int.tdiv (w - sm0 ws n.toNat) n else if sm0 ls n.toNat ≤ w then ls c + Int.tdiv ((w - sm0 ls n.toNat) * (ws c - ls c)) (sm0 ws n.toNat - sm0 ls n.toNat) else Int.tdiv (w * ls c) (sm0 ls n.toNat)
/-- and in the end -/
def shF (n w : Int) (ls ws : Int → Int) (c : Int) : Int := shB n w ls ws c + (if c < w - sm0 (shB n w ls ws) n.toNat then 1 else 0)
/-- columns: least widths, wishes -/
def shO (n w : Int) (ls ws : Int → Int) : Prop := 1 ≤ n ∧ n ≤ 8 ∧ 1000 ≤ w ∧ w ≤ 1000000 ∧ ∀ c, 0 ≤ c → c < n → 1000 ≤ ls c ∧ 1000 ≤ ws c ∧ ws c ≤ 20000000000 ∧ ls c ≤ 20000000000
theorem mul_rr {a b m k : Int} (a0 : 0 ≤ a) (a1 : a ≤ m) (b0 : 0 ≤ b) (b1 : b ≤ k) : 0 ≤ a * b ∧ a * b ≤ m * k :=
  ⟨Int.mul_nonneg a0 b0, Int.le_trans (Int.mul_le_mul_of_nonneg_right a1 b0) (Int.mul_le_mul_of_nonneg_left b1 (by omega))⟩
theorem tdiv_b {x y m : Int} (y0 : 0 < y) (h1 : -m ≤ x) (h2 : x ≤ m) (m0 : 0 ≤ m) : -m ≤ Int.tdiv x y ∧ Int.tdiv x y ≤ m := by
  rcases Int.le_total 0 x with h | h
  · have a := tdiv_nn h (Int.le_of_lt y0)
    have b := tdiv_le h y0
    omega
  · have e : Int.tdiv x y = - Int.tdiv (-x) y := by rw [Int.neg_tdiv, Int.neg_neg]
    have a := tdiv_nn (x := -x) (y := y) (by omega) (Int.le_of_lt y0)
    have b := tdiv_le (x := -x) (y := y) (by omega) y0
    omega
/-- rounded to the middle: less than one too much -/
theorem tdiv_up {x y : Int} (y0 : 0 < y) : Int.tdiv x y * y ≤ x + (y - 1) ∧ (0 ≤ x → Int.tdiv x y * y ≤ x) := by
  have key : ∀ z, 0 ≤ z → Int.tdiv z y * y ≤ z ∧ z - (y - 1) ≤ Int.tdiv z y * y := fun z hz => by
    rw [Int.tdiv_eq_ediv_of_nonneg hz]
    have a := Int.emod_add_mul_ediv z y
    have b := Int.emod_nonneg z (by omega : y ≠ 0)
    have c := Int.emod_lt_of_pos z y0
    rw [Int.mul_comm y (z / y)] at a
    omega
  rcases Int.le_total 0 x with h | h
  · have := key x h
    exact ⟨by omega, fun _ => this.1⟩
  · have e : Int.tdiv x y = - Int.tdiv (-x) y := by rw [Int.neg_tdiv, Int.neg_neg]
    have k := key (-x) (by omega)
    have e2 : Int.tdiv x y * y = - (Int.tdiv (-x) y * y) := by rw [e, Int.neg_mul]
    refine ⟨by omega, fun h0 => ?_⟩
    have : x = 0 := by omega
    subst this
    rw [show (-0 : Int) = 0 by rfl] at k
    omega
/-- t of d is taken of what lies between two: between them -/
theorem tdiv_mid {t d δ : Int} (t0 : 0 ≤ t) (t1 : t ≤ d) (d0 : 0 < d) : (0 ≤ δ → 0 ≤ Int.tdiv (t * δ) d ∧ Int.tdiv (t * δ) d ≤ δ) ∧ (δ ≤ 0 → δ ≤ Int.tdiv (t * δ) d ∧ Int.tdiv (t * δ) d ≤ 0) := by
  have key : ∀ ε, 0 ≤ ε → 0 ≤ Int.tdiv (t * ε) d ∧ Int.tdiv (t * ε) d ≤ ε := fun ε h => by
    have m := Int.mul_nonneg t0 h
    refine ⟨tdiv_nn m (Int.le_of_lt d0), ?_⟩
    rw [Int.tdiv_eq_ediv_of_nonneg m]
    refine Int.ediv_le_of_le_mul d0 ?_
    rw [Int.mul_comm ε d]
    exact Int.mul_le_mul_of_nonneg_right t1 h
  refine ⟨key δ, fun h => ?_⟩
  have k := key (-δ) (by omega)
  rw [Int.mul_neg, Int.neg_tdiv] at k
  omega
theorem sm0_tdiv {t d : Int} {δ : Int → Int} (d0 : 0 < d) : ∀ k : Nat, sm0 (fun c => Int.tdiv (t * δ c) d) k * d ≤ t * sm0 δ k + k * (d - 1)
  | 0 => by show (0 : Int) * d ≤ t * 0 + ((0 : Nat) : Int) * (d - 1); simp
  | k + 1 => by
    have ih := sm0_tdiv (t := t) (δ := δ) d0 k
    have u := (tdiv_up (x := t * δ k) d0).1
    show (sm0 (fun c => Int.tdiv (t * δ c) d) k + Int.tdiv (t * δ k) d) * d ≤ t * (sm0 δ k + δ k) + ((k + 1 : Nat) : Int) * (d - 1)
    rw [Int.add_mul, Int.mul_add, show (((k + 1 : Nat)) : Int) = (k : Int) + 1 by omega, Int.add_mul, Int.one_mul]
    omega
theorem sm0_add {f g : Int → Int} : ∀ k : Nat, sm0 (fun c => f c + g c) k = sm0 f k + sm0 g k
  | 0 => rfl
  | k + 1 => by
    show sm0 (fun c => f c + g c) k + (f k + g k) = (sm0 f k + f k) + (sm0 g k + g k)
    rw [sm0_add k]; omega
theorem sm0_sub {f g : Int → Int} : ∀ k : Nat, sm0 (fun c => f c - g c) k = sm0 f k - sm0 g k
  | 0 => rfl
  | k + 1 => by
    show sm0 (fun c => f c - g c) k + (f k - g k) = (sm0 f k + f k) - (sm0 g k + g k)
    rw [sm0_sub k]; omega
theorem sm0_congr {f g : Int → Int} : ∀ k : Nat, (∀ c : Int, 0 ≤ c → c < k → f c = g c) → sm0 f k = sm0 g k
  | 0, _ => rfl
  | k + 1, h => by
    show sm0 f k + f k = sm0 g k + g k
    rw [sm0_congr k (fun c c0 c1 => h c c0 (by omega)), h k (by omega) (by omega)]
theorem shB_r {n w : Int} {ls ws : Int → Int} (O : shO n w ls ws) {c : Int} (c0 : 0 ≤ c) (c1 : c < n) : 0 ≤ shB n w ls ws c ∧ shB n w ls ws c ≤ w + 8 := by
  obtain ⟨n1, n8, w0, w1, h⟩ := O
  have hw := sm0_r (f := ws) (lo := 1000) (hi := 20000000000) n.toNat (fun x x0 x1 => by have := h x x0 (by omega); omega)
  have hl := sm0_r (f := ls) (lo := 1000) (hi := 20000000000) n.toNat (fun x x0 x1 => by have := h x x0 (by omega); omega)
  have cw := sm0_ge (f := ws) n.toNat c.toNat (by omega) (fun x x0 x1 => by have := h x x0 (by omega); omega)
  have cl := sm0_ge (f := ls) n.toNat c.toNat (by omega) (fun x x0 x1 => by have := h x x0 (by omega); omega)
  rw [show ((c.toNat : Nat) : Int) = c by omega] at cw cl
  obtain ⟨a1, a2, a3, a4⟩ := h c c0 c1
  rw [show ((n.toNat : Nat) : Int) = n by omega] at hw hl
  by_cases hW : sm0 ws n.toNat ≤ w
  · unfold shB
    rw [if_pos hW]
    have t := tdiv_nn (x := w - sm0 ws n.toNat) (y := n) (by omega) (by omega)
    have u := tdiv_le (x := w - sm0 ws n.toNat) (y := n) (by omega) (by omega)
    omega
  · by_cases hLs : sm0 ls n.toNat ≤ w
    · have eB : ∀ x, shB n w ls ws x = ls x + Int.tdiv ((w - sm0 ls n.toNat) * (ws x - ls x)) (sm0 ws n.toNat - sm0 ls n.toNat) := fun x => by unfold shB; rw [if_neg hW, if_pos hLs]
      have nn : ∀ x, 0 ≤ x → x < n → 0 ≤ shB n w ls ws x := fun x x0 x1 => by
        have hx := h x x0 x1
        have m := tdiv_mid (t := w - sm0 ls n.toNat) (d := sm0 ws n.toNat - sm0 ls n.toNat) (δ := ws x - ls x) (by omega) (by omega) (by omega)
        rw [eB]
        rcases Int.le_total 0 (ws x - ls x) with z | z
        · have := m.1 z; omega
        · have := m.2 z; omega
      refine ⟨nn c c0 c1, ?_⟩
      have ge := sm0_ge (f := shB n w ls ws) n.toNat c.toNat (by omega) (fun x x0 x1 => nn x x0 (by omega))
      rw [show ((c.toNat : Nat) : Int) = c by omega] at ge
      have es : sm0 (shB n w ls ws) n.toNat = sm0 ls n.toNat + sm0 (fun x => Int.tdiv ((w - sm0 ls n.toNat) * (ws x - ls x)) (sm0 ws n.toNat - sm0 ls n.toNat)) n.toNat := by
        rw [← sm0_add]
        exact sm0_congr _ (fun x _ _ => eB x)
      have ub := sm0_tdiv (t := w - sm0 ls n.toNat) (d := sm0 ws n.toNat - sm0 ls n.toNat) (δ := fun x => ws x - ls x) (by omega) n.toNat
      rw [sm0_sub] at ub
      generalize sm0 (fun x => Int.tdiv ((w - sm0 ls n.toNat) * (ws x - ls x)) (sm0 ws n.toNat - sm0 ls n.toNat)) n.toNat = Q at *
      generalize hd : sm0 ws n.toNat - sm0 ls n.toNat = d at *
      generalize ht : w - sm0 ls n.toNat = t at *
      have d0 : 0 < d := by omega
      have : Q < t + n + 1 := by
        refine Classical.byContradiction (fun z => ?_)
        have z' : t + n + 1 ≤ Q := by omega
        have m := Int.mul_le_mul_of_nonneg_right z' (Int.le_of_lt d0)
        rw [show ((n.toNat : Nat) : Int) = n by omega] at ub
        rw [Int.add_mul, Int.add_mul, Int.one_mul] at m
        rw [Int.mul_sub, Int.mul_one] at ub
        omega
      omega
    · unfold shB
      rw [if_neg hW, if_neg hLs]
      have m := mul_rr (a := w) (b := ls c) (m := w) (k := sm0 ls n.toNat) (by omega) (Int.le_refl _) (by omega) cl
      have t := tdiv_nn (y := sm0 ls n.toNat) m.1 (by omega)
      have u : Int.tdiv (w * ls c) (sm0 ls n.toNat) ≤ w := by
        rw [Int.tdiv_eq_ediv_of_nonneg m.1]
        exact Int.ediv_le_of_le_mul (by omega) m.2
      omega
