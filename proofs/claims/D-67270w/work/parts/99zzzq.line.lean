-- needs: 99zzzp
set_option maxRecDepth 100000
/-! LINES: what a line from a to b is (D: sums of parts 0, glues 1, stretch 2, shrink 3; hyphens 4; kinds 5; 6: how many breaks, width, indent, align) -/
def lnN (D : Hp) (a b : Int) : Int := D 0 b - D 0 a + (D 1 (b - 1) - D 1 a) + D 4 b
def lnW (D : Hp) (a : Int) : Int := if (if a = 0 then D 6 1 - D 6 2 else D 6 1) < 1000 then 1000 else (if a = 0 then D 6 1 - D 6 2 else D 6 1)
def lnZ (D : Hp) (a b : Int) : Int := if D 6 3 = 0 then D 3 (b - 1) - D 3 a else 0
def lnS (D : Hp) (a b : Int) : Int := if D 6 3 = 0 then D 2 (b - 1) - D 2 a else lnW D a
/-- too long -/
def lnT (D : Hp) (a b : Int) : Prop := lnW D a < lnN D a b ∧ lnZ D a b < lnN D a b - lnW D a
def lnR0 (D : Hp) (a b : Int) : Int := if lnN D a b = lnW D a then 0 else if lnN D a b < lnW D a then (if b = D 6 0 then 0 else if lnS D a b = 0 then 100000 else if Int.tdiv ((lnW D a - lnN D a b) * 1000) (lnS D a b) ≤ 100000 then Int.tdiv ((lnW D a - lnN D a b) * 1000) (lnS D a b) else 100000)
  else -(Int.tdiv ((lnN D a b - lnW D a) * 1000 + lnZ D a b - 1) (lnZ D a b))
/-- the component's ratio -/
noncomputable def lnR (D : Hp) (a b : Int) : Int := @ite _ (lnT D a b) (Classical.propDecidable _) (-1000000) (lnR0 D a b)
def absI (x : Int) : Int := if x < 0 then -x else x
def bad0 (q : Int) : Int := if Int.tdiv (100 * q * q * q) 1000000000 ≤ 10000 then Int.tdiv (100 * q * q * q) 1000000000 else 10000
noncomputable def lnB (D : Hp) (a b : Int) : Int := @ite _ (lnT D a b) (Classical.propDecidable _) 10000 (bad0 (absI (lnR0 D a b)))
def clsI (r : Int) : Int := if -500 ≤ r then (if 500 < r then (if 1000 < r then 3 else 2) else 1) else 0
noncomputable def lnC (D : Hp) (a b : Int) : Int := clsI (lnR D a b)
/-- a break that cuts -/
def lnK (D : Hp) (b : Int) : Prop := D 5 b = 1 ∨ D 5 b = 2
noncomputable def lnQ (D : Hp) (a b : Int) : Int := (10 + lnB D a b) * (10 + lnB D a b) + @ite _ (lnT D a b) (Classical.propDecidable _) (1000000000 + lnN D a b - lnZ D a b - lnW D a) 0 + (if D 5 b = 1 then 2500 else 0) + (if D 5 b = 2 then 900 else 0) + (if 0 < a ∧ (D 5 a = 1 ∨ D 5 a = 2) then (if D 5 b = 1 ∨ D 5 b = 2 then 3000 else if b = D 6 0 then 5000 else 0) else 0)
/-- the cost behind a line of a class -/
noncomputable def lnX (D : Hp) (a b c : Int) : Int := lnQ D a b + (if 1 < lnC D a b - c ∨ 1 < c - lnC D a b then 10000 else 0)
def lnA (D : Hp) (τ a b : Int) : Prop := 10000 < τ ∨ (¬ lnT D a b ∧ lnB D a b ≤ τ)
/-- sums of a paragraph -/
def lnO (D : Hp) : Prop := (1 ≤ D 6 0 ∧ D 6 0 ≤ 600) ∧ (0 ≤ D 6 1 ∧ D 6 1 ≤ 100000000 ∧ 0 ≤ D 6 2 ∧ D 6 2 ≤ 500000) ∧ (∀ b, 0 ≤ b → b ≤ D 6 0 → (0 ≤ D 0 b ∧ D 0 b ≤ 20000000000) ∧ (0 ≤ D 1 b ∧ D 1 b ≤ 1000000000) ∧ (0 ≤ D 2 b ∧ D 2 b ≤ 1000000000) ∧ (0 ≤ D 3 b ∧ D 3 b ≤ 1000000000)) ∧
  (∀ b, 1 ≤ b → b ≤ D 6 0 → (D 0 (b - 1) ≤ D 0 b ∧ D 2 (b - 1) ≤ D 2 b ∧ D 3 (b - 1) ≤ D 3 b ∧ D 3 b - D 3 (b - 1) ≤ D 1 b - D 1 (b - 1)) ∧ (0 ≤ D 4 b ∧ D 4 b ≤ 500000) ∧ (0 ≤ D 5 b ∧ D 5 b ≤ 3) ∧ (D 5 b = 3 ↔ b = D 6 0))
theorem lnO.mono {D : Hp} (O : lnO D) : ∀ (k : Nat) (a : Int), 0 ≤ a → a + k ≤ D 6 0 → D 0 a ≤ D 0 (a + k) ∧ D 2 a ≤ D 2 (a + k) ∧ D 3 a ≤ D 3 (a + k) ∧ D 3 (a + k) - D 3 a ≤ D 1 (a + k) - D 1 a := by
  intro k
  induction k with
  | zero => intro a a0 a1; rw [show a + ((0 : Nat) : Int) = a by omega]; omega
  | succ k ih =>
    intro a a0 a1
    have i := ih a a0 (by omega)
    have o := (O.2.2.2 (a + k + 1) (by omega) (by omega)).1
    rw [show a + k + 1 - 1 = a + (k : Int) by omega] at o
    rw [show a + ((k + 1 : Nat) : Int) = a + k + 1 by omega]
    omega
theorem lnO.mono' {D : Hp} (O : lnO D) {a b : Int} (a0 : 0 ≤ a) (ab : a ≤ b) (b1 : b ≤ D 6 0) : D 0 a ≤ D 0 b ∧ D 2 a ≤ D 2 b ∧ D 3 a ≤ D 3 b ∧ D 3 b - D 3 a ≤ D 1 b - D 1 a := by
  have := O.mono (b - a).toNat a a0 (by omega)
  rw [show a + ((b - a).toNat : Int) = b by omega] at this
  exact this
theorem lnW_r {D : Hp} {a : Int} (O : lnO D) : 1000 ≤ lnW D a ∧ lnW D a ≤ 100000000 := by
  have := O.2.1
  unfold lnW
  by_cases h : a = 0
  · rw [if_pos h]; split <;> omega
  · rw [if_neg h]; split <;> omega
theorem ln_r {D : Hp} {a b : Int} (O : lnO D) (a0 : 0 ≤ a) (ab : a < b) (b1 : b ≤ D 6 0) : (0 ≤ lnN D a b ∧ lnN D a b ≤ 30000000000) ∧ (0 ≤ lnZ D a b ∧ lnZ D a b ≤ 1000000000) ∧ (0 ≤ lnS D a b ∧ lnS D a b ≤ 1000000000) := by
  have m1 := O.mono' a0 (show a ≤ b by omega) b1
  have m2 := O.mono' a0 (show a ≤ b - 1 by omega) (by omega)
  have r1 := O.2.2.1 a a0 (by omega)
  have r2 := O.2.2.1 b (by omega) b1
  have r3 := O.2.2.1 (b - 1) (by omega) (by omega)
  have h := (O.2.2.2 b (by omega) b1).2.1
  have w := lnW_r (a := a) O
  unfold lnN lnZ lnS
  refine ⟨by omega, ?_, ?_⟩
  · split <;> omega
  · split <;> omega
/-- lines that begin earlier are too long, too -/
theorem lnT_mono {D : Hp} {a a' b : Int} (O : lnO D) (a0 : 0 ≤ a') (aa : a' ≤ a) (ab : a < b) (b1 : b ≤ D 6 0) (h : lnT D a b) : lnT D a' b := by
  have m1 := O.mono' a0 aa (show a ≤ D 6 0 by omega)
  have w : lnW D a' ≤ lnW D a := by
    have := O.2.1
    unfold lnW
    by_cases h1 : a' = 0
    · by_cases h2 : a = 0
      · rw [h1, h2]; exact Int.le_refl _
      · rw [if_pos h1, if_neg h2]; split <;> split <;> omega
    · rw [if_neg h1, if_neg (show ¬ a = 0 by omega)]; exact Int.le_refl _
  have z := (ln_r O a0 (show a' < b by omega) b1).2.1
  obtain ⟨h1, h2⟩ := h
  unfold lnT lnN lnZ at *
  by_cases al : D 6 3 = 0
  · rw [if_pos al] at h2 z ⊢; omega
  · rw [if_neg al] at h2 z ⊢; omega
theorem tdiv_nn {x y : Int} (hx : 0 ≤ x) (hy : 0 ≤ y) : 0 ≤ Int.tdiv x y := by
  rw [Int.tdiv_eq_ediv_of_nonneg hx]; exact Int.ediv_nonneg hx hy
theorem tdiv_le {x y : Int} (hx : 0 ≤ x) (hy : 0 < y) : Int.tdiv x y ≤ x := by
  rw [Int.tdiv_eq_ediv_of_nonneg hx]
  exact Int.ediv_le_self _ hx
theorem lnR0_r {D : Hp} {a b : Int} (O : lnO D) (a0 : 0 ≤ a) (ab : a < b) (b1 : b ≤ D 6 0) (h : ¬ lnT D a b) : -1000 ≤ lnR0 D a b ∧ lnR0 D a b ≤ 100000 := by
  obtain ⟨r1, r2, r3⟩ := ln_r O a0 ab b1
  unfold lnR0
  unfold lnT at h
  split
  · omega
  · split
    · split
      · omega
      · split
        · omega
        · have t := tdiv_nn (x := (lnW D a - lnN D a b) * 1000) (y := lnS D a b) (by omega) r3.1
          split <;> omega
    · have z1 : 0 < lnZ D a b := by omega
      have x0 : 0 ≤ (lnN D a b - lnW D a) * 1000 + lnZ D a b - 1 := by omega
      have t := tdiv_nn (y := lnZ D a b) x0 (by omega)
      have u : Int.tdiv ((lnN D a b - lnW D a) * 1000 + lnZ D a b - 1) (lnZ D a b) < 1001 := by
        rw [Int.tdiv_eq_ediv_of_nonneg x0]
        exact Int.ediv_lt_of_lt_mul z1 (by omega)
      omega
theorem bad_m {q : Int} (q0 : 0 ≤ q) (q1 : q ≤ 100000) : (0 ≤ 100 * q * q ∧ 100 * q * q ≤ 1000000000000) ∧ (0 ≤ 100 * q * q * q ∧ 100 * q * q * q ≤ 100000000000000000) := by
  have a1 : 0 ≤ 100 * q := by omega
  have a2 : 100 * q ≤ 10000000 := by omega
  have b0 : 0 ≤ 100 * q * q := Int.mul_nonneg a1 q0
  have b1 : 100 * q * q ≤ 10000000 * 100000 := Int.le_trans (Int.mul_le_mul_of_nonneg_right a2 q0) (Int.mul_le_mul_of_nonneg_left q1 (by decide))
  have c0 : 0 ≤ 100 * q * q * q := Int.mul_nonneg b0 q0
  have c1 : 100 * q * q * q ≤ 10000000 * 100000 * 100000 := Int.le_trans (Int.mul_le_mul_of_nonneg_right b1 q0) (Int.mul_le_mul_of_nonneg_left q1 (by decide))
  omega
theorem bad0_r {q : Int} (q0 : 0 ≤ q) (q1 : q ≤ 100000) : 0 ≤ bad0 q ∧ bad0 q ≤ 10000 ∧ (0 ≤ Int.tdiv (100 * q * q * q) 1000000000 ∧ Int.tdiv (100 * q * q * q) 1000000000 ≤ 100000000) := by
  have m := bad_m q0 q1
  have t := tdiv_nn (y := 1000000000) m.2.1 (by decide)
  have u : Int.tdiv (100 * q * q * q) 1000000000 ≤ 100000000 := by rw [Int.tdiv_eq_ediv_of_nonneg m.2.1]; omega
  unfold bad0
  split <;> omega
theorem absI_r {x : Int} (h0 : -100000 ≤ x) (h1 : x ≤ 100000) : 0 ≤ absI x ∧ absI x ≤ 100000 := by unfold absI; split <;> omega
theorem lnB_r {D : Hp} {a b : Int} (O : lnO D) (a0 : 0 ≤ a) (ab : a < b) (b1 : b ≤ D 6 0) : 0 ≤ lnB D a b ∧ lnB D a b ≤ 10000 := by
  unfold lnB
  split
  · decide
  · rename_i h
    have r := lnR0_r O a0 ab b1 h
    have q := absI_r (x := lnR0 D a b) (by omega) r.2
    have := bad0_r q.1 q.2
    omega
theorem clsI_r {r : Int} : 0 ≤ clsI r ∧ clsI r ≤ 3 := by unfold clsI; split <;> (try split) <;> (try split) <;> omega
theorem sq_r {x : Int} (h0 : 0 ≤ x) (h1 : x ≤ 10010) : 0 ≤ x * x ∧ x * x ≤ 100200100 :=
  ⟨Int.mul_nonneg h0 h0, Int.le_trans (Int.mul_le_mul_of_nonneg_right h1 h0) (Int.le_trans (Int.mul_le_mul_of_nonneg_left h1 (by decide)) (by decide))⟩
theorem lnQ_r {D : Hp} {a b : Int} (O : lnO D) (a0 : 0 ≤ a) (ab : a < b) (b1 : b ≤ D 6 0) : 0 ≤ lnQ D a b ∧ lnQ D a b ≤ 40000000000 := by
  obtain ⟨r1, r2, r3⟩ := ln_r O a0 ab b1
  have w := lnW_r (a := a) O
  have bd := lnB_r O a0 ab b1
  have s := sq_r (x := 10 + lnB D a b) (by omega) (by omega)
  unfold lnQ
  generalize (10 + lnB D a b) * (10 + lnB D a b) = S at *
  have t : 0 ≤ (@ite _ (lnT D a b) (Classical.propDecidable _) (1000000000 + lnN D a b - lnZ D a b - lnW D a) 0) ∧ (@ite _ (lnT D a b) (Classical.propDecidable _) (1000000000 + lnN D a b - lnZ D a b - lnW D a) 0) ≤ 31000000000 := by
    split
    · rename_i h; unfold lnT at h; omega
    · omega
  generalize (@ite _ (lnT D a b) (Classical.propDecidable _) (1000000000 + lnN D a b - lnZ D a b - lnW D a) 0) = U at *
  split <;> split <;> split <;> (try split) <;> (try split) <;> omega
theorem lnX_r {D : Hp} {a b c : Int} (O : lnO D) (a0 : 0 ≤ a) (ab : a < b) (b1 : b ≤ D 6 0) : 0 ≤ lnX D a b c ∧ lnX D a b c ≤ 50000000000 := by
  have := lnQ_r O a0 ab b1
  unfold lnX; split <;> omega
