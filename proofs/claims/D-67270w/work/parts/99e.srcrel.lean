set_option maxRecDepth 100000
/-! SOURCES: what is the same on both sides -/
/-- children of x before k: how many, the last one -/
def cntP (P : Int → Int) (x : Int) : Nat → Int
  | 0 => 0
  | k + 1 => cntP P x k + (if P k = x then 1 else 0)
def latP (P : Int → Int) (x : Int) : Nat → Int
  | 0 => -1
  | k + 1 => if P k = x then (k : Int) else latP P x k
/-- the element around item m -/
def cuP (I A P : Int → Int) : Nat → Int
  | 0 => -1
  | m + 1 => if I m = 1 then A m else if I m = 2 then P (cuP I A P m) else cuP I A P m
/-- is something in x before item m -/
def flP (I A P : Int → Int) (x : Int) : Nat → Int
  | 0 => 0
  | m + 1 => if cuP I A P m = x ∧ I m ≠ 2 then 1 else flP I A P x m
theorem cntP_congr {P P' : Int → Int} {x : Int} : ∀ k : Nat, (∀ j : Int, 0 ≤ j → j < k → P' j = P j) → cntP P' x k = cntP P x k := by
  intro k
  induction k with
  | zero => intro _; rfl
  | succ k ih =>
    intro h
    show cntP P' x k + _ = cntP P x k + _
    rw [ih (fun j a b => h j a (by omega)), h k (by omega) (by omega)]
theorem latP_congr {P P' : Int → Int} {x : Int} : ∀ k : Nat, (∀ j : Int, 0 ≤ j → j < k → P' j = P j) → latP P' x k = latP P x k := by
  intro k
  induction k with
  | zero => intro _; rfl
  | succ k ih =>
    intro h
    show (if P' k = x then (k : Int) else latP P' x k) = if P k = x then (k : Int) else latP P x k
    rw [ih (fun j a b => h j a (by omega)), h k (by omega) (by omega)]
theorem cntP_r {P : Int → Int} {x : Int} : ∀ k : Nat, 0 ≤ cntP P x k ∧ cntP P x k ≤ k := by
  intro k
  induction k with
  | zero => exact ⟨Int.le_refl _, Int.le_refl _⟩
  | succ k ih =>
    show 0 ≤ cntP P x k + _ ∧ cntP P x k + _ ≤ ((k + 1 : Nat) : Int)
    split <;> omega
theorem latP_r {P : Int → Int} {x : Int} : ∀ k : Nat, -1 ≤ latP P x k ∧ latP P x k < k := by
  intro k
  induction k with
  | zero => exact ⟨Int.le_refl _, by show (-1 : Int) < 0; decide⟩
  | succ k ih =>
    show -1 ≤ (if P k = x then (k : Int) else latP P x k) ∧ (if P k = x then (k : Int) else latP P x k) < ((k + 1 : Nat) : Int)
    split <;> omega
/-- nothing below k is a child of x that is not below x -/
theorem cntP_0 {P : Int → Int} {x : Int} : ∀ k : Nat, (∀ j : Int, 0 ≤ j → j < k → P j ≠ x) → cntP P x k = 0 ∧ latP P x k = -1 := by
  intro k
  induction k with
  | zero => intro _; exact ⟨rfl, rfl⟩
  | succ k ih =>
    intro h
    have i := ih (fun j a b => h j a (by omega))
    have := h k (by omega) (by omega)
    show cntP P x k + (if P k = x then 1 else 0) = 0 ∧ (if P k = x then (k : Int) else latP P x k) = -1
    rw [if_neg this, if_neg this, i.1, i.2]; exact ⟨rfl, rfl⟩
theorem cuP_congr {I A P I' A' P' : Int → Int} : ∀ k : Nat, (∀ j : Int, 0 ≤ j → j < k → I' j = I j ∧ A' j = A j) → (∀ j : Nat, j < k → P' (cuP I A P j) = P (cuP I A P j)) → cuP I' A' P' k = cuP I A P k := by
  intro k
  induction k with
  | zero => intro _ _; rfl
  | succ k ih =>
    intro h1 h2
    have e := ih (fun j a b => h1 j a (by omega)) (fun j a => h2 j (by omega))
    have hk := h1 k (by omega) (by omega)
    show (if I' k = 1 then A' k else if I' k = 2 then P' (cuP I' A' P' k) else cuP I' A' P' k) = if I k = 1 then A k else if I k = 2 then P (cuP I A P k) else cuP I A P k
    rw [e, hk.1, hk.2, h2 k (by omega)]
theorem flP_congr {I A P I' A' P' : Int → Int} {x : Int} : ∀ k : Nat, (∀ j : Int, 0 ≤ j → j < k → I' j = I j ∧ A' j = A j) → (∀ j : Nat, j < k → P' (cuP I A P j) = P (cuP I A P j)) → flP I' A' P' x k = flP I A P x k := by
  intro k
  induction k with
  | zero => intro _ _; rfl
  | succ k ih =>
    intro h1 h2
    have e := ih (fun j a b => h1 j a (by omega)) (fun j a => h2 j (by omega))
    have hk := h1 k (by omega) (by omega)
    have ec := cuP_congr (I' := I') (A' := A') (P' := P') k (fun j a b => h1 j a (by omega)) (fun j a => h2 j (by omega))
    show (if cuP I' A' P' k = x ∧ I' k ≠ 2 then 1 else flP I' A' P' x k) = if cuP I A P k = x ∧ I k ≠ 2 then 1 else flP I A P x k
    rw [e, hk.1, ec]
/-- how deep x stands -/
def dptF (P : Int → Int) : Nat → Int → Int
  | 0, _ => 0
  | k + 1, x => if x < 0 then 0 else dptF P k (P x) + 1
/-- elements are not too deep, and stand in the order of their begins -/
def elX (P B : Int → Int) (e : Int) : Prop := dptF P (e.toNat + 1) e ≤ 20 ∧ (0 < e → B (e - 1) < B e)
theorem dptF_neg {P : Int → Int} {x : Int} (h : x < 0) : ∀ k, dptF P k x = 0
  | 0 => rfl
  | k + 1 => by unfold dptF; rw [if_pos h]
theorem dptF_fuel {P : Int → Int} {E : Int} (par : ∀ e, 0 ≤ e → e < E → P e < e) : ∀ (k j : Nat) (x : Int), x < E → x < k → x < j → dptF P k x = dptF P j x
  | 0, j, x, _, h1, _ => by rw [dptF_neg (by omega), dptF_neg (by omega)]
  | k + 1, 0, x, _, _, h2 => by rw [dptF_neg (by omega), dptF_neg (by omega)]
  | k + 1, j + 1, x, hE, h1, h2 => by
    unfold dptF
    by_cases h : x < 0
    · rw [if_pos h, if_pos h]
    · have := par x (by omega) hE
      rw [if_neg h, if_neg h, dptF_fuel par k j (P x) (by omega) (by omega) (by omega)]
theorem dptF_congr {P P' : Int → Int} {E : Int} (par : ∀ e, 0 ≤ e → e < E → P e < e) (c : ∀ e, 0 ≤ e → e < E → P' e = P e) : ∀ (k : Nat) (x : Int), x < E → dptF P' k x = dptF P k x
  | 0, _, _ => rfl
  | k + 1, x, hE => by
    unfold dptF
    by_cases h : x < 0
    · rw [if_pos h, if_pos h]
    · have := par x (by omega) hE
      rw [if_neg h, if_neg h, c x (by omega) hE, dptF_congr par c k (P x) (by omega)]
theorem dpt_stack {P st : Int → Int} {E D : Int} (par : ∀ e, 0 ≤ e → e < E → P e < e) (d8 : ∀ d, 0 ≤ d → d < D → 0 ≤ st d ∧ st d < E ∧ P (st d) = if d = 0 then -1 else st (d - 1)) : ∀ k : Nat, (k : Int) < D → dptF P ((st k).toNat + 1) (st k) = k + 1
  | 0, h => by
    obtain ⟨a, b, c⟩ := d8 0 (by decide) h
    show (if st 0 < 0 then 0 else dptF P (st 0).toNat (P (st 0)) + 1) = 1
    rw [if_neg (by omega), c, if_pos rfl, dptF_neg (by decide)]
    rfl
  | k + 1, h => by
    obtain ⟨a, b, c⟩ := d8 ((k + 1 : Nat) : Int) (by omega) h
    have ih := dpt_stack par d8 k (by omega)
    have e : st (((k + 1 : Nat) : Int) - 1) = st k := by congr 1; omega
    rw [if_neg (by omega), e] at c
    have lt := par _ a b
    show (if st ((k + 1 : Nat) : Int) < 0 then 0 else dptF P (st ((k + 1 : Nat) : Int)).toNat (P (st ((k + 1 : Nat) : Int))) + 1) = _
    rw [if_neg (by omega), c, dptF_fuel par _ ((st k).toNat + 1) _ (by omega) (by omega) (by omega), ih]
    omega
/-- plain bytes from x to y -/
def bOK (T : Int → Int) (x y : Int) : Prop := ∀ z, x ≤ z → z < y → 0 ≤ T z
/-- an element -/
def elO (T : Int → Int) (n N : Int) (s : Int → List Int) (E : Int) (p q : Hp) (a l e : Int) : Prop :=
  nmO N s T n (p (a + 7) e) (q (l + 8) e) (q (l + 9) e) ∧ p (a + 8) e = q (l + 7) e ∧ -1 ≤ q (l + 7) e ∧ q (l + 7) e < e ∧ p (a + 9) e = q (l + 5) e ∧ 0 ≤ q (l + 5) e ∧ q (l + 5) e < n ∧
  p (a + 11) e = cntP (q (l + 7)) (q (l + 7) e) e.toNat + 1 ∧ p (a + 12) e = latP (q (l + 7)) (q (l + 7) e) e.toNat ∧ p (a + 13) e = cntP (q (l + 7)) e E.toNat ∧ p (a + 14) e = latP (q (l + 7)) e E.toNat ∧ elX (q (l + 7)) (q (l + 11)) e
/-- a field: the component's k, the reference's j -/
def fdO (T : Int → Int) (n N : Int) (s : Int → List Int) (p q : Hp) (a l k j : Int) : Prop :=
  nmO N s T n (p (a + 17) k) (q (l + 13) j) (q (l + 14) j) ∧ p (a + 18) k = q (l + 15) j ∧ p (a + 19) k = q (l + 16) j - q (l + 15) j ∧ 0 ≤ q (l + 15) j ∧ q (l + 15) j ≤ q (l + 16) j ∧ q (l + 16) j ≤ n ∧ bOK T (q (l + 15) j) (q (l + 16) j)
/-- the fields of an element, from k to k' -/
def fsO (T : Int → Int) (n N : Int) (s : Int → List Int) (p q : Hp) (a l e k k' : Int) : Prop :=
  0 ≤ k ∧ 0 ≤ q (l + 10) e ∧ q (l + 10) e ≤ 6 ∧ k' = k + q (l + 10) e ∧ ∀ x, 0 ≤ x → x < q (l + 10) e → fdO T n N s p q a l (k + x) (6 * e + x)
/-- an event, an item -/
def evO (n E : Int) (p q : Hp) (a l m : Int) : Prop :=
  (p (a + 20) m = 0 ∧ q (l + 2) m = 1 ∧ p (a + 21) m = q (l + 3) m ∧ 0 ≤ q (l + 3) m ∧ q (l + 3) m < E ∧ q (l + 11) (q (l + 3) m) = m) ∨
  (p (a + 20) m = 1 ∧ q (l + 2) m = 2 ∧ p (a + 21) m = q (l + 3) m ∧ 0 ≤ q (l + 3) m ∧ q (l + 3) m < E ∧ q (l + 12) (q (l + 3) m) = m) ∨
  (p (a + 20) m = 2 ∧ q (l + 2) m = 0 ∧ p (a + 21) m = q (l + 3) m ∧ 0 ≤ q (l + 3) m ∧ p (a + 22) m = q (l + 4) m - q (l + 3) m ∧ 1 ≤ p (a + 22) m ∧ q (l + 4) m ≤ n) ∨
  (p (a + 20) m = 2 ∧ q (l + 2) m = 3 ∧ p (a + 21) m = -1 - q (l + 3) m ∧ (q (l + 3) m = 38 ∨ q (l + 3) m = 60) ∧ p (a + 22) m = 1)
/-- elements that are closed -/
def clO (n M : Int) (p q : Hp) (a l e : Int) : Prop := p (a + 10) e = q (l + 6) e ∧ q (l + 5) e < q (l + 6) e ∧ q (l + 6) e ≤ n ∧ q (l + 11) e < q (l + 12) e ∧ q (l + 12) e < M ∧ q (l + 2) (q (l + 12) e) = 2 ∧ q (l + 3) (q (l + 12) e) = e
/-- an entity -/
def enO (T : Int → Int) (n i : Int) (r : Int → List Int) (p q : Hp) (a l k : Int) : Prop :=
  r k = wr T (q (l + 17) k) (q (l + 18) k) ∧ 0 ≤ q (l + 17) k ∧ q (l + 17) k ≤ q (l + 18) k ∧ q (l + 18) k ≤ n ∧ p (a + 28) k = q (l + 19) k ∧ p (a + 29) k = q (l + 20) k - q (l + 19) k ∧ 0 ≤ q (l + 19) k ∧ q (l + 19) k ≤ q (l + 20) k ∧ q (l + 20) k < i ∧ q (l + 20) k ≤ n ∧ bOK T (q (l + 19) k) (q (l + 20) k)
/-- the numbers: names, elements, fields, events, entities, depth; the place -/
def rsN (N : Int) (s : Int → List Int) (i : Int) (p : Hp) (a : Int) : Prop := NM p (a + 2) N s ∧ p (a + 2) 1 ≤ i ∧ N ≤ i
def rsE (T : Int → Int) (n N : Int) (s : Int → List Int) (E F i : Int) (p q : Hp) (a l : Int) : Prop := p a 4 = E ∧ q l 3 = E ∧ 0 ≤ E ∧ E ≤ 500 ∧ p a 18 = F ∧ (E = 0 → F = 0) ∧ (F ≤ i ∧ ∀ e, 0 ≤ e → e < E → q (l + 5) e < i) ∧ (∀ e, 0 ≤ e → e < E → elO T n N s E p q a l e ∧ fsO T n N s p q a l e (p (a + 16) e) (if e + 1 < E then p (a + 16) (e + 1) else F)) ∧ p a 19 = cntP (q (l + 7)) (-1) E.toNat ∧ p a 20 = latP (q (l + 7)) (-1) E.toNat
def rsV (T : Int → Int) (n E M i : Int) (p q : Hp) (a l : Int) : Prop := p a 24 = M ∧ q l 2 = M ∧ 0 ≤ M ∧ M ≤ i ∧ (∀ m, 0 ≤ m → m < M → evO n E p q a l m) ∧ (∀ m, 0 ≤ m → m < M → q (l + 2) m = 0 → q (l + 4) m ≤ i ∧ bOK T (q (l + 3) m) (q (l + 4) m)) ∧ (∀ e, 0 ≤ e → e < E → 0 ≤ q (l + 11) e ∧ q (l + 11) e < M ∧ q (l + 2) (q (l + 11) e) = 1 ∧ q (l + 3) (q (l + 11) e) = e) ∧ (∀ e, 0 ≤ e → e < E → p (a + 15) e = flP (q (l + 2)) (q (l + 3)) (q (l + 7)) e M.toNat) ∧ (∀ m : Nat, (m : Int) ≤ M → -1 ≤ cuP (q (l + 2)) (q (l + 3)) (q (l + 7)) m ∧ cuP (q (l + 2)) (q (l + 3)) (q (l + 7)) m < E) ∧ ∀ m : Nat, (m : Int) < M → (q (l + 2) m = 1 → q (l + 7) (q (l + 3) m) = cuP (q (l + 2)) (q (l + 3)) (q (l + 7)) m) ∧ (q (l + 2) m = 2 → q (l + 3) m = cuP (q (l + 2)) (q (l + 3)) (q (l + 7)) m)
def rsS (n E M D : Int) (p q : Hp) (a l : Int) : Prop := p a 29 = D ∧ q l 27 = D ∧ 0 ≤ D ∧ D ≤ 20 ∧ q l 26 = cuP (q (l + 2)) (q (l + 3)) (q (l + 7)) M.toNat ∧ (D = 0 → q l 26 = -1) ∧ (0 < D → p (a + 30) (D - 1) = q l 26) ∧ (∀ d, 0 ≤ d → d < D → 0 ≤ p (a + 30) d ∧ p (a + 30) d < E ∧ q (l + 7) (p (a + 30) d) = (if d = 0 then -1 else p (a + 30) (d - 1)) ∧ ∀ m, 0 ≤ m → m < M → q (l + 2) m = 2 → q (l + 3) m ≠ p (a + 30) d) ∧ ∀ e, 0 ≤ e → e < E → (∃ d, 0 ≤ d ∧ d < D ∧ p (a + 30) d = e) ∨ clO n M p q a l e
def rsT (T : Int → Int) (n i : Int) (p q : Hp) (a l : Int) : Prop := ∃ K r, NM p (a + 23) K r ∧ p (a + 23) 1 ≤ i ∧ q l 4 = K ∧ K ≤ 40 ∧ ∀ k, 0 ≤ k → k < K → enO T n i r p q a l k
def RS (T : Int → Int) (n N : Int) (s : Int → List Int) (E F M D i : Int) (p q : Hp) (a l : Int) : Prop :=
  rsN N s i p a ∧ rsE T n N s E F i p q a l ∧ rsV T n E M i p q a l ∧ rsS n E M D p q a l ∧ rsT T n i p q a l
/-- rows that they lie in -/
def eqA (a : Int) (p p' : Hp) : Prop := (∀ b, a + 2 ≤ b → b ≤ a + 30 → p' b = p b) ∧ ∀ j, j ≠ 2 → p' a j = p a j
def eqB (l : Int) (q q' : Hp) : Prop := (∀ b, l + 2 ≤ b → b ≤ l + 20 → q' b = q b) ∧ ∀ j, j ≠ 25 → q' l j = q l j
theorem RS.kept {T : Int → Int} {n N : Int} {s : Int → List Int} {E F M D i j : Int} {p q p' q' : Hp} {a l : Int} (R : RS T n N s E F M D i p q a l) (hij : i ≤ j) (e : eqA a p p') (g : eqB l q q') : RS T n N s E F M D j p' q' a l := by
  obtain ⟨y1, y2, y3, y4, y5⟩ := R
  have X : ∀ k : Int, 2 ≤ k → k ≤ 30 → p' (a + k) = p (a + k) := fun k k0 k1 => e.1 _ (by omega) (by omega)
  have Z : ∀ k : Int, 2 ≤ k → k ≤ 20 → q' (l + k) = q (l + k) := fun k k0 k1 => g.1 _ (by omega) (by omega)
  refine ⟨?_, ?_, ?_, ?_, ?_⟩
  · unfold rsN at *
    rw [X 2 (by decide) (by decide)]
    exact ⟨y1.1.kept (fun b b0 b1 => e.1 b (by omega) (by omega)), by omega, by omega⟩
  · unfold rsE elO fsO fdO at *
    rw [e.2 4 (by decide), e.2 18 (by decide), e.2 19 (by decide), e.2 20 (by decide), g.2 3 (by decide), X 7 (by decide) (by decide), X 8 (by decide) (by decide), X 9 (by decide) (by decide), X 11 (by decide) (by decide), X 12 (by decide) (by decide), X 13 (by decide) (by decide), X 14 (by decide) (by decide), X 16 (by decide) (by decide), X 17 (by decide) (by decide), X 18 (by decide) (by decide), X 19 (by decide) (by decide), Z 5 (by decide) (by decide), Z 7 (by decide) (by decide), Z 8 (by decide) (by decide), Z 9 (by decide) (by decide), Z 10 (by decide) (by decide), Z 11 (by decide) (by decide), Z 13 (by decide) (by decide), Z 14 (by decide) (by decide), Z 15 (by decide) (by decide), Z 16 (by decide) (by decide)]
    obtain ⟨c1, c2, c3, c4, c5, c6, c7, c8⟩ := y2
    exact ⟨c1, c2, c3, c4, c5, c6, ⟨by omega, fun e x0 x1 => by have := c7.2 e x0 x1; omega⟩, c8⟩
  · unfold rsV evO at *
    rw [e.2 24 (by decide), g.2 2 (by decide), X 15 (by decide) (by decide), X 20 (by decide) (by decide), X 21 (by decide) (by decide), X 22 (by decide) (by decide), Z 2 (by decide) (by decide), Z 3 (by decide) (by decide), Z 4 (by decide) (by decide), Z 7 (by decide) (by decide), Z 11 (by decide) (by decide), Z 12 (by decide) (by decide)]
    obtain ⟨c1, c2, c3, c4, c5, c6, c7, c8⟩ := y3
    exact ⟨c1, c2, c3, by omega, c5, fun m m0 m1 m2 => ⟨by have := (c6 m m0 m1 m2).1; omega, (c6 m m0 m1 m2).2⟩, c7, c8⟩
  · unfold rsS clO at *
    rw [e.2 29 (by decide), g.2 27 (by decide), g.2 26 (by decide), X 30 (by decide) (by decide), X 10 (by decide) (by decide), Z 2 (by decide) (by decide), Z 3 (by decide) (by decide), Z 5 (by decide) (by decide), Z 6 (by decide) (by decide), Z 7 (by decide) (by decide), Z 11 (by decide) (by decide), Z 12 (by decide) (by decide)]
    exact y4
  · unfold rsT enO at *
    rw [g.2 4 (by decide), X 23 (by decide) (by decide), X 28 (by decide) (by decide), X 29 (by decide) (by decide), Z 17 (by decide) (by decide), Z 18 (by decide) (by decide), Z 19 (by decide) (by decide), Z 20 (by decide) (by decide)]
    obtain ⟨K, r, c1, c2, c3, c4, c5⟩ := y5
    refine ⟨K, r, c1.kept (fun b b0 b1 => e.1 b (by omega) (by omega)), by omega, c3, c4, fun k k0 k1 => ?_⟩
    obtain ⟨d1, d2, d3, d4, d5, d6, d7, d8, d9, d10⟩ := c5 k k0 k1
    exact ⟨d1, d2, d3, d4, d5, d6, d7, d8, by omega, d10⟩
