set_option maxRecDepth 100000
/-! TITLES: one title only -/
/-- two trees that agree -/
def agV (V U : Hp) (E : Int) : Prop := ∀ e, 0 ≤ e → e < E → (∀ p, 0 ≤ p → p ≤ 21 → V 24 (22 * e + p) = U 24 (22 * e + p)) ∧ V 25 e = U 25 e ∧ V 26 e = U 26 e ∧ V 27 e = U 27 e ∧ V 28 e = U 28 e ∧ (∀ b, 30 ≤ b → b ≤ 36 → V b e = U b e) ∧ (V 36 e ≠ 0 → V 29 e = U 29 e)
theorem agV.mt {V U : Hp} {E e : Int} (h : agV V U E) (e0 : 0 ≤ e) (e1 : e < E) : mtF V e = mtF U e := by
  obtain ⟨h1, -, -, -, -, h6, -⟩ := h e e0 e1
  have p0 := h1 0 (by decide) (by decide)
  rw [Int.add_zero] at p0
  unfold mtF
  rw [p0, h6 30 (by decide) (by decide), h6 34 (by decide) (by decide), h6 35 (by decide) (by decide)]
theorem agV.lb {Y V U : Hp} {E e : Int} (h : agV V U E) (e0 : 0 ≤ e) (e1 : e < E) : lbS Y V e = lbS Y U e := by
  have hm := h.mt e0 e1
  obtain ⟨h1, h2, h3, h4, -⟩ := h e e0 e1
  have eb : lbB V e = lbB U e := by funext c; unfold lbB; rw [h1 18 (by decide) (by decide), h4]
  unfold lbS
  rw [hm, eb, h2, h3]
theorem agV.hd {V U : Hp} {E e : Int} (h : agV V U E) (e0 : 0 ≤ e) (e1 : e < E) : hid V e = hid U e := by
  obtain ⟨h1, -, -, -, -, h6, -⟩ := h e e0 e1
  have p0 := h1 0 (by decide) (by decide)
  rw [Int.add_zero] at p0
  unfold hid
  rw [p0, h6 30 (by decide) (by decide)]
theorem tiS_congr {S Y V U p : Hp} {a n N E F M e : Int} {s : Int → List Int} (R : SA S p a n N s E F M) (h : agV V U E) (e0 : 0 ≤ e) (e1 : e < E) : ∀ (f : Nat) (m : Int), S 11 e < m → tiS S Y V (S 12 e) f m = tiS S Y U (S 12 e) f m := by
  have be := R.2.2.2.2.2.2.1 e e0 e1
  intro f
  induction f with
  | zero => intro m _; rfl
  | succ f ih =>
    intro m m0
    by_cases hm : S 12 e ≤ m
    · rw [tiS_end hm, tiS_end hm]
    · unfold tiS
      rw [if_neg hm, if_neg hm]
      by_cases b1 : S 2 m = 1
      · obtain ⟨x0, x1, x2⟩ := R.beg_ (by omega) (by omega) b1
        have bx := R.2.2.2.2.2.2.1 _ x0 x1
        rw [if_pos b1, if_pos b1, h.hd x0 x1, h.lb x0 x1, ih _ (by omega), ih _ (by omega)]
      · rw [if_neg b1, if_neg b1]
        by_cases b2 : S 2 m = 2
        · rw [if_pos b2, if_pos b2, ih _ (by omega)]
        · obtain ⟨dk, hd⟩ := nest R e0 e1 m.toNat (by omega) (by omega)
          have ye := dsc_le _ _ hd
          have yE := (R.2.2.2.2.2.2.2.1 m.toNat (by omega)).2
          rw [if_neg b2, if_neg b2, h.mt (by omega) yE, ih _ (by omega)]
theorem tiT_congr {S Y V U p : Hp} {a n N E F M e : Int} {s : Int → List Int} (R : SA S p a n N s E F M) (h : agV V U E) (e0 : 0 ≤ e) (e1 : e < E) : tiT S Y V e = tiT S Y U e := by
  unfold tiT tiA
  rw [tiS_congr R h e0 e1 _ _ (by omega), h.lb e0 e1, (h e e0 e1).2.2.2.2.2.1 30 (by decide) (by decide)]
