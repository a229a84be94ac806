set_option maxRecDepth 100000
/-! TREES: a style as both sides have it at rest -/
/-- a style Y (as its rows), the component's a -/
def YA (Y p : Hp) (a n N : Int) (s : Int → List Int) (C ns na nsel nb nt m : Int) : Prop :=
  (NM p (a + 1) N s ∧ p (a + 11) 1 = m ∧ 0 ≤ m ∧ m ≤ 16384 ∧ n ≤ 4000 ∧ C ≤ 12 ∧ ∀ j, 0 ≤ j → j < n → -128 ≤ Y 1 j ∧ Y 1 j ≤ 127) ∧
  (p a 15 = nsel ∧ Y 0 3 = nsel ∧ 0 ≤ nsel ∧ nsel ≤ 120 ∧ 0 ≤ ns ∧ ns ≤ 8 * nsel ∧ 0 ≤ na ∧ na ≤ 4 * ns ∧ 0 ≤ nb ∧ nb ≤ nsel ∧ 0 ≤ nt ∧ nt ≤ 600) ∧
  (∀ k, 0 ≤ k → k < ns → stepO N s (Y 1) n (p (a + 13) k) (p (a + 14) k) (Y 6 k) (Y 7 k) (Y 8 k)) ∧
  (∀ k, 0 ≤ k → k ≤ ns → p (a + 15) k = Y 9 k ∧ 0 ≤ Y 9 k ∧ Y 9 k ≤ na) ∧ (∀ k, 0 ≤ k → k < ns → Y 9 k ≤ Y 9 (k + 1) ∧ Y 9 (k + 1) ≤ Y 9 k + 4) ∧
  (∀ k, 0 ≤ k → k < na → askO N s (p (a + 12)) (Y 1) n m (p (a + 16) k) (p (a + 17) k) (p (a + 18) k) (p (a + 19) k) (Y 10 k) (Y 11 k) (Y 12 k) (Y 13 k) (Y 14 k) (Y 15 k)) ∧
  (∀ k, 0 ≤ k → k ≤ nsel → p (a + 20) k = Y 4 k ∧ 0 ≤ Y 4 k ∧ Y 4 k ≤ ns) ∧
  (∀ k, 0 ≤ k → k < nsel → Y 4 k < Y 4 (k + 1) ∧ Y 4 (k + 1) ≤ Y 4 k + 8 ∧ p (a + 21) k = wsm (Y 9) (Y 6) (Y 4 k) (Y 4 (k + 1) - Y 4 k).toNat ∧ p (a + 22) k = Y 5 k ∧ 0 ≤ Y 5 k ∧ Y 5 k < nb) ∧
  (∀ k, 0 ≤ k → k ≤ nb → p (a + 27) k = Y 16 k ∧ 0 ≤ Y 16 k ∧ Y 16 k ≤ nt) ∧ (∀ k, 0 ≤ k → k < nb → Y 16 k ≤ Y 16 (k + 1)) ∧
  (∀ k, 0 ≤ k → k < nt → declO C (p (a + 12)) (Y 1) n m (p (a + 23) k) (p (a + 24) k) (p (a + 25) k) (p (a + 26) k) (Y 17 k) (Y 18 k) (Y 19 k) (Y 20 k)) ∧
  (p a 23 = Y 3 0 ∧ 10000 ≤ Y 3 0 ∧ Y 3 0 ≤ 1000000) ∧ (p a 24 = Y 3 1 ∧ 10000 ≤ Y 3 1 ∧ Y 3 1 ≤ 1000000) ∧ (p a 25 = Y 3 2 ∧ 1 ≤ Y 3 2 ∧ Y 3 2 ≤ 4) ∧ (p a 26 = Y 3 3 ∧ 0 ≤ Y 3 3 ∧ Y 3 3 ≤ 100000) ∧ (p a 27 = Y 3 4 ∧ 0 ≤ Y 3 4 ∧ Y 3 4 ≤ 100000) ∧ (p a 28 = Y 3 5 ∧ 0 ≤ Y 3 5 ∧ Y 3 5 ≤ 2)
/-- what rises from step to step is at least that at the end -/
theorem up_mono {f : Int → Int} {n : Int} (h : ∀ k, 0 ≤ k → k < n → f k ≤ f (k + 1)) : ∀ k, 0 ≤ k → k ≤ n → f k ≤ f n := by
  have key : ∀ (d : Nat) (k : Int), 0 ≤ k → k ≤ n → (n - k).toNat = d → f k ≤ f n := by
    intro d
    induction d with
    | zero => intro k k0 k1 hd; rw [show k = n by omega]; exact Int.le_refl _
    | succ d ih =>
      intro k k0 k1 hd
      have := ih (k + 1) (by omega) (by omega) (by omega)
      have := h k k0 (by omega)
      omega
  exact fun k k0 k1 => key _ k k0 k1 rfl
theorem SYr.abs {p q : Hp} {a l : Int} (R : SYr p q a l) : ∃ n N s C ns na nsel nb nt m, YA (vw q l) p a n N s C ns na nsel nb nt m := by
  obtain ⟨n, N, s, C, ns, na, nsel, nb, nt, n1, bb, ⟨y1, y2, y3, y4, y5, y6, y7⟩, ⟨sq1, sq2, sq3, sq4⟩, e1, e2, e3, e4, e5⟩ := R
  obtain ⟨a1, a2, a3⟩ := y1
  obtain ⟨b1, b2, -⟩ := y2
  obtain ⟨c1, c2, c3, c4, c5⟩ := y3
  obtain ⟨d1, d2, d3, d4⟩ := y4
  obtain ⟨f1, f2, f3, f4, f5, f6⟩ := y5
  obtain ⟨g1, g2, g3, g4, g5, g6, g7, g8, g9, g10, g11⟩ := y6
  obtain ⟨p1, p2, p3, p4, p5, p6⟩ := y7
  refine ⟨n, N, s, C, ns, na, nsel, nb, nt, p (a + 11) 1, ?_⟩
  unfold YA
  rw [vw_0]
  simp only [vw_k]
  have m9 := up_mono (f := q (l + 9)) (n := ns) (fun k k0 k1 => (c5 k k0 k1).2.2.2.1)
  have m4 := up_mono (f := q (l + 4)) (n := nsel) (fun k k0 k1 => by have := (f6 k k0 k1).2.2.1; omega)
  have m16 := up_mono (f := q (l + 16)) (n := nb) (fun k k0 k1 => (g9 k k0 k1).2.1)
  refine ⟨⟨a1, trivial, a2, a3, n1, b2, bb⟩, ⟨f1, f2, f3, f4, c3, sq4, d3, sq3, g5, e2, g6, g7⟩, fun k k0 k1 => (c5 k k0 k1).1, fun k k0 k1 => ?_, fun k k0 k1 => ⟨(c5 k k0 k1).2.2.2.1, (c5 k k0 k1).2.2.2.2⟩, d4, fun k k0 k1 => ?_, fun k k0 k1 => ?_, fun k k0 k1 => ?_, fun k k0 k1 => (g9 k k0 k1).2.1, g11, ?_⟩
  · have := m9 k k0 k1
    by_cases hk : k = ns
    · rw [hk, e4, sq2]; exact ⟨rfl, d3, Int.le_refl _⟩
    · have c := c5 k k0 (by omega)
      exact ⟨c.2.1, c.2.2.1, by omega⟩
  · have := m4 k k0 k1
    by_cases hk : k = nsel
    · rw [hk, e3, sq1]; exact ⟨rfl, c3, Int.le_refl _⟩
    · have c := f6 k k0 (by omega)
      exact ⟨c.1, c.2.1, by omega⟩
  · obtain ⟨h1, h2, h3, h4, h5, h6, h7, h8, h9⟩ := f6 k k0 k1
    have := h8 k1
    exact ⟨h3, h4, h5, this.1, by omega, by omega⟩
  · have := m16 k k0 k1
    by_cases hk : k = nb
    · rw [hk, e5, e1]; exact ⟨rfl, g6, Int.le_refl _⟩
    · exact ⟨g8 k k0 (by omega), (g9 k k0 (by omega)).1, by omega⟩
  · exact ⟨⟨p1.1, by omega, by omega⟩, ⟨p2.1, by omega, by omega⟩, ⟨p3.1, by omega, by omega⟩, ⟨p4.1, by omega, by omega⟩, ⟨p5.1, by omega, by omega⟩, p6.1, by omega, by omega⟩
/-! what fits -/
/-- the field of a name: its place among those of the element -/
def isFd (S : Hp) (e : Int) (w : List Int) (x : Int) : Prop := (x = -1 ∧ ∀ y, 0 ≤ y → y < S 10 e → wr (S 1) (S 13 (6 * e + y)) (S 14 (6 * e + y)) ≠ w) ∨ (0 ≤ x ∧ x < S 10 e ∧ wr (S 1) (S 13 (6 * e + x)) (S 14 (6 * e + x)) = w ∧ ∀ y, 0 ≤ y → y < x → wr (S 1) (S 13 (6 * e + y)) (S 14 (6 * e + y)) ≠ w)
theorem isFd.uniq {S : Hp} {e : Int} {w : List Int} {x y : Int} (a : isFd S e w x) (b : isFd S e w y) : x = y := by
  rcases a with ⟨a1, a2⟩ | ⟨a1, a2, a3, a4⟩
  · rcases b with ⟨b1, b2⟩ | ⟨b1, b2, b3, b4⟩
    · omega
    · exact absurd b3 (a2 y b1 b2)
  · rcases b with ⟨b1, b2⟩ | ⟨b1, b2, b3, b4⟩
    · exact absurd a3 (b2 x a1 a2)
    · rcases Int.lt_trichotomy x y with z | z | z
      · exact absurd a3 (b4 x a1 z)
      · exact z
      · exact absurd b3 (a4 y b1 z)
/-- a test at an element -/
def tsA (S Y : Hp) (E M k e : Int) : Prop :=
  (Y 10 k = 1 → ∃ x, isFd S e (wr (Y 1) (Y 11 k) (Y 12 k)) x ∧ 0 ≤ x) ∧
  (Y 10 k = 2 → ∃ x, isFd S e (wr (Y 1) (Y 11 k) (Y 12 k)) x ∧ 0 ≤ x ∧ wr (S 1) (S 15 (6 * e + x)) (S 16 (6 * e + x)) = wr (Y 1) (Y 13 k) (Y 14 k)) ∧
  (Y 10 k = 3 → cntP (S 7) (S 7 e) e.toNat + 1 = 1) ∧ (Y 10 k = 4 → cntP (S 7) (S 7 e) e.toNat + 1 = cntP (S 7) (S 7 e) E.toNat) ∧ (Y 10 k = 5 → flP (S 2) (S 3) (S 7) e M.toNat = 0) ∧ (Y 10 k = 6 → cntP (S 7) (S 7 e) e.toNat + 1 = Y 15 k) ∧
  (Y 10 k = 7 → wr (Y 1) (Y 11 k) (Y 12 k) ≠ wr (S 1) (S 8 e) (S 9 e))
/-- a step at an element -/
def tsS (S Y : Hp) (E M t e : Int) : Prop := (0 ≤ Y 6 t → wr (Y 1) (Y 6 t) (Y 7 t) = wr (S 1) (S 8 e) (S 9 e)) ∧ ∀ k, Y 9 t ≤ k → k < Y 9 (t + 1) → tsA S Y E M k e
/-- the m-th element around e -/
def itP (P : Int → Int) : Nat → Int → Int
  | 0, e => e
  | m + 1, e => itP P m (P e)
/-- steps f .. f + k at an element -/
def FT (S Y : Hp) (E M f : Int) : Nat → Int → Prop
  | 0, e => tsS S Y E M f e
  | k + 1, e => (if Y 8 (f + (k + 1 : Nat)) = 62 then 0 ≤ S 7 e ∧ FT S Y E M f k (S 7 e) else if Y 8 (f + (k + 1 : Nat)) = 43 then 0 ≤ latP (S 7) (S 7 e) e.toNat ∧ FT S Y E M f k (latP (S 7) (S 7 e) e.toNat) else ∃ m : Nat, 0 ≤ itP (S 7) m (S 7 e) ∧ (∀ j, j ≤ m → 0 ≤ itP (S 7) j (S 7 e)) ∧ FT S Y E M f k (itP (S 7) m (S 7 e))) ∧ tsS S Y E M (f + (k + 1 : Nat)) e
