-- needs: 99zzzr
set_option maxRecDepth 100000
/-! LINES: the component measures a line -/
def lnH (h : Hp) (P R β : Int) (D : Hp) : Prop := (h P (-2) = 288 ∧ h P 0 = R ∧ h P 4 = D 6 1 ∧ h P 6 = D 6 2 ∧ h P 8 = D 6 3 ∧ h P 15 = β ∧ h P 16 = D 6 0) ∧ (R ∈ in_aX15 ∧ 983 ≤ P ∧ 0 ≤ β ∧ β + D 6 0 < 26400) ∧ (∀ b, 0 ≤ b → b ≤ D 6 0 → h (R + 8) (β + b) = D 0 b ∧ h (R + 9) (β + b) = D 1 b ∧ h (R + 10) (β + b) = D 2 b ∧ h (R + 11) (β + b) = D 3 b) ∧ ∀ b, 1 ≤ b → b ≤ D 6 0 → h (R + 7) (β + b) = D 4 b ∧ h (R + 4) (β + b) = D 5 b
theorem lnH.kept {h h' : Hp} {P R β : Int} {D : Hp} (C : lnH h P R β D) (e0 : ∀ j, j ≤ 16 → h' P j = h P j) (e1 : ∀ b, R + 4 ≤ b → b ≤ R + 11 → h' b = h b) : lnH h' P R β D := by
  unfold lnH at *
  rw [e0 _ (by decide), e0 _ (by decide), e0 _ (by decide), e0 _ (by decide), e0 _ (by decide), e0 _ (by decide), e0 _ (by decide), e1 (R + 8) (by omega) (by omega), e1 (R + 9) (by omega) (by omega), e1 (R + 10) (by omega) (by omega), e1 (R + 11) (by omega) (by omega), e1 (R + 7) (by omega) (by omega), e1 (R + 4) (by omega) (by omega)]
  exact C
theorem q_btw {h : Hp} {P X β m a b : Int} {f : Int → Int} (e15 : h P 15 = β) (kX : h X (-2) % 16 = 4) (lX : β + m < h X (-1)) (β0 : 0 ≤ β) (m1 : β + m < 26400) (a0 : 0 ≤ a) (ab : a < b) (b1 : b ≤ m) (hf : ∀ b, 0 ≤ b → b ≤ m → h X (β + b) = f b) (fr : ∀ b, 0 ≤ b → b ≤ m → 0 ≤ f b ∧ f b ≤ 20000000000) : m_X28_between P X a b h = some (f (b - 1) - f a) := by
  unfold m_X28_between
  have r1 := fr a a0 (by omega)
  have r2 := fr (b - 1) (by omega) (by omega)
  rw [e15, e32 (x := β + b) (by omega) (by omega), e32 (x := β + b - 1) (by omega) (by omega), e32 (x := β + a) (by omega) (by omega), gd_t ⟨kX, by omega, by omega⟩, gd_t ⟨kX, by omega, by omega⟩, show β + b - 1 = β + (b - 1) by omega, hf (b - 1) (by omega) (by omega), hf a a0 (by omega), e64 (by omega) (by omega)]
theorem q_ln {h : Hp} {P R β a b : Int} {D : Hp} (hL : LAY h) (C : lnH h P R β D) (O : lnO D) (a0 : 0 ≤ a) (ab : a < b) (b1 : b ≤ D 6 0) :
    m_X28_natural P a b h = some (lnN D a b) ∧ m_X28_widthOf P a h = some (lnW D a) ∧ m_X28_between P (R + 10) a b h = some (D 2 (b - 1) - D 2 a) ∧ m_X28_between P (R + 11) a b h = some (D 3 (b - 1) - D 3 a) ∧ m_X28_kind P b h = some (D 5 b) := by
  obtain ⟨⟨c0, c1, c2, c3, c4, c5, c6⟩, ⟨c7, c8, c9, c10⟩, c11, c12⟩ := C
  have hR : 293 ≤ R ∧ R ≤ 423 := by have := aX15 c7; omega
  have o := O.2.2.1
  have g8 := g_X15_8 hL c7
  have g9 := g_X15_9 hL c7
  have g10 := g_X15_10 hL c7
  have g11 := g_X15_11 hL c7
  have g7 := g_X15_7 hL c7
  have g4 := g_X15_4 hL c7
  have gk := g_X15 hL c7
  have n := (ln_r O a0 ab b1).1
  have oa := o a a0 (by omega)
  have ob := o b (by omega) b1
  have ob1 := o (b - 1) (by omega) (by omega)
  have h4 := (O.2.2.2 b (by omega) b1).2.1
  have w0 := O.2.1
  have pa : ∀ x, 0 ≤ x → x ≤ D 6 0 → m_X28_parts P x h = some (D 0 x) := fun x x0 x1 => by
    unfold m_X28_parts
    simp only [c1, gk, g8, c5]
    rw [gd_t trivial, e32 (x := β + x) (by omega) (by omega), gd_t ⟨by decide, by omega, by omega⟩, (c11 x x0 x1).1]
  refine ⟨?_, ?_, ?_, ?_, ?_⟩
  · unfold m_X28_natural
    rw [pa b (by omega) b1, Option.bind_some, pa a a0 (by omega), Option.bind_some]
    simp only [c1, gk, g9, g7, c5]
    rw [gd_t trivial, q_btw (f := D 1) (m := D 6 0) c5 (by rw [g9.2.1]; decide) (by rw [g9.2.2]; exact c10) c9 c10 a0 ab b1 (fun x x0 x1 => (c11 x x0 x1).2.1) (fun x x0 x1 => by have := (o x x0 x1).2.1; omega), Option.bind_some, e32 (x := β + b) (by omega) (by omega), gd_t ⟨by decide, by omega, by omega⟩, (c12 b (by omega) b1).1]
    unfold lnN at n ⊢
    rw [e64 (x := D 0 b - D 0 a) (by omega) (by omega), e64 (x := D 0 b - D 0 a + (D 1 (b - 1) - D 1 a)) (by omega) (by omega), e64 (by omega) (by omega)]
  · unfold m_X28_widthOf m_X28_widthOf_j20 lnW
    rw [c2, c3]
    by_cases ha : a = 0
    · rw [if_neg (fun z => z ha), if_pos ha, e32 (by omega) (by omega)]
      by_cases hw : D 6 1 - D 6 2 < 1000
      · rw [if_neg (by omega), if_pos hw]
      · rw [if_pos (by omega), if_neg hw]
    · rw [if_pos ha, if_neg ha]
      by_cases hw : D 6 1 < 1000
      · rw [if_neg (by omega), if_pos hw]
      · rw [if_pos (by omega), if_neg hw]
  · exact q_btw (f := D 2) (m := D 6 0) c5 (by rw [g10.2.1]; decide) (by rw [g10.2.2]; exact c10) c9 c10 a0 ab b1 (fun x x0 x1 => (c11 x x0 x1).2.2.1) (fun x x0 x1 => by have := (o x x0 x1).2.2.1; omega)
  · exact q_btw (f := D 3) (m := D 6 0) c5 (by rw [g11.2.1]; decide) (by rw [g11.2.2]; exact c10) c9 c10 a0 ab b1 (fun x x0 x1 => (c11 x x0 x1).2.2.2) (fun x x0 x1 => by have := (o x x0 x1).2.2.2; omega)
  · unfold m_X28_kind
    simp only [c1, gk, g4, c5]
    rw [gd_t trivial, e32 (x := β + b) (by omega) (by omega), gd_t ⟨by decide, by omega, by omega⟩, (c12 b (by omega) b1).2]
theorem q_ratio {h : Hp} {P R β a b : Int} {D : Hp} (hL : LAY h) (C : lnH h P R β D) (O : lnO D) (a0 : 0 ≤ a) (ab : a < b) (b1 : b ≤ D 6 0) : m_X28_ratio P a b h = some (lnR D a b) := by
  obtain ⟨q1, q2, q3, q4, q5⟩ := q_ln hL C O a0 ab b1
  obtain ⟨⟨c0, c1, c2, c3, c4, c5, c6⟩, ⟨c7, c8, c9, c10⟩, -⟩ := C
  have g10 := g_X15_10 hL c7
  have g11 := g_X15_11 hL c7
  obtain ⟨n, z, s⟩ := ln_r O a0 ab b1
  have w := lnW_r (a := a) O
  unfold m_X28_ratio
  rw [q1, Option.bind_some, q2, Option.bind_some]
  -- too much
  have zz : ∀ Z, Z = lnZ D a b → lnW D a < lnN D a b → m_X28_ratio_j133 (lnW D a) (lnN D a b) Z = some (lnR D a b) := by
    intro Z hZ hlt
    unfold m_X28_ratio_j133 lnR
    rw [hZ, e64 (x := lnN D a b - lnW D a) (by omega) (by omega)]
    by_cases ht : lnT D a b
    · rw [if_pos ht, if_neg (fun y => by rw [lc_le] at y; have := ht.2; omega)]
    · have hz : lnN D a b - lnW D a ≤ lnZ D a b := by unfold lnT at ht; omega
      rw [if_neg ht, if_pos (lc_le.mpr hz), gd_t (by omega)]
      have r := lnR0_r O a0 ab b1 ht
      have e0 : lnR0 D a b = -(Int.tdiv ((lnN D a b - lnW D a) * 1000 + lnZ D a b - 1) (lnZ D a b)) := by unfold lnR0; rw [if_neg (by omega), if_neg (by omega)]
      rw [e0] at r ⊢
      rw [e64 (x := (lnN D a b - lnW D a) * 1000) (by omega) (by omega), e64 (x := (lnN D a b - lnW D a) * 1000 + lnZ D a b) (by omega) (by omega), e64 (x := (lnN D a b - lnW D a) * 1000 + lnZ D a b - 1) (by omega) (by omega)]
      generalize Int.tdiv ((lnN D a b - lnW D a) * 1000 + lnZ D a b - 1) (lnZ D a b) = y at r ⊢
      rw [e64 (by omega) (by omega), e32 (x := y) (by omega) (by omega), e32 (by omega) (by omega)]
  have nt : lnN D a b ≤ lnW D a → ¬ lnT D a b := fun y t => by have := t.1; omega
  have ss : ∀ S, S = lnS D a b → lnN D a b < lnW D a → b ≠ D 6 0 → m_X28_ratio_j66 (lnW D a) (lnN D a b) S = some (lnR D a b) := by
    intro S hS hlt hb
    unfold m_X28_ratio_j66 lnR
    rw [if_neg (nt (by omega)), hS]
    have e0 : lnR0 D a b = if lnS D a b = 0 then 100000 else if Int.tdiv ((lnW D a - lnN D a b) * 1000) (lnS D a b) ≤ 100000 then Int.tdiv ((lnW D a - lnN D a b) * 1000) (lnS D a b) else 100000 := by unfold lnR0; rw [if_neg (by omega), if_pos hlt, if_neg hb]
    rw [e0]
    by_cases h0 : lnS D a b = 0
    · rw [if_neg (fun y => y (lc_eq.mpr h0)), if_pos h0]
    · rw [if_pos (fun y => h0 (lc_eq.mp y)), gd_t h0, lt_e, if_neg h0, e64 (x := lnW D a - lnN D a b) (by omega) (by omega), e64 (x := (lnW D a - lnN D a b) * 1000) (by omega) (by omega)]
      have t0 := tdiv_nn (x := (lnW D a - lnN D a b) * 1000) (y := lnS D a b) (by omega) s.1
      have t1 := tdiv_le (x := (lnW D a - lnN D a b) * 1000) (y := lnS D a b) (by omega) (by omega)
      generalize Int.tdiv ((lnW D a - lnN D a b) * 1000) (lnS D a b) = y at t0 t1 ⊢
      rw [e64 (by omega) (by omega)]
      by_cases hy : y ≤ 100000
      · rw [if_pos (lc_le.mpr hy), if_pos hy, e32 (by omega) (by omega)]
      · rw [if_neg (fun z => hy (lc_le.mp z)), if_neg hy]
  by_cases e : lnN D a b = lnW D a
  · rw [if_neg (fun y => y (lc_eq.mpr e))]
    unfold lnR; rw [if_neg (nt (by omega))]
    unfold lnR0; rw [if_pos e]
  rw [if_pos (fun y => e (lc_eq.mp y))]
  by_cases g : lnW D a ≤ lnN D a b
  · rw [if_pos (lc_ge.mpr g), c4]
    by_cases al : D 6 3 = 0
    · rw [if_neg (fun y => y al)]
      simp only [c1, g_X15 hL c7, g11]
      rw [gd_t trivial, q4, Option.bind_some]
      exact zz _ (by unfold lnZ; rw [if_pos al]) (by omega)
    · rw [if_pos al]
      exact zz 0 (by unfold lnZ; rw [if_neg al]) (by omega)
  · rw [if_neg (fun y => g (lc_ge.mp y)), c6]
    by_cases hb : b = D 6 0
    · rw [if_neg (fun y => y hb)]
      unfold lnR; rw [if_neg (nt (by omega))]
      unfold lnR0; rw [if_neg e, if_pos (by omega), if_pos hb]
    · rw [if_pos hb, c4]
      by_cases al : D 6 3 = 0
      · rw [if_neg (fun y => y al)]
        simp only [c1, g_X15 hL c7, g10]
        rw [gd_t trivial, q3, Option.bind_some]
        exact ss _ (by unfold lnS; rw [if_pos al]) (by omega) hb
      · rw [if_pos al]
        exact ss _ (by unfold lnS; rw [if_neg al]) (by omega) hb
theorem q_class28 (r : Int) : m_X28_classOf r = some (clsI r) := by
  unfold m_X28_classOf clsI
  split
  · split
    · split <;> rfl
    · rfl
  · rfl
theorem q_bad0 {q : Int} (q0 : 0 ≤ q) (q1 : q ≤ 100000) : m_X28_badness_j22 q = some (bad0 q) := by
  unfold m_X28_badness_j22
  have m := bad_m q0 q1
  have r := bad0_r q0 q1
  rw [lt_e, e64 (x := 100 * q) (by omega) (by omega), e64 (x := 100 * q * q) (by omega) (by omega), e64 (x := 100 * q * q * q) (by omega) (by omega), e64 (x := Int.tdiv (100 * q * q * q) 1000000000) (by omega) (by omega)]
  unfold bad0
  by_cases h : Int.tdiv (100 * q * q * q) 1000000000 ≤ 10000
  · rw [if_pos (lc_le.mpr h), if_pos h, e32 (by omega) (by omega)]
  · rw [if_neg (fun z => h (lc_le.mp z)), if_neg h]
theorem q_bad28 {D : Hp} {a b : Int} (O : lnO D) (a0 : 0 ≤ a) (ab : a < b) (b1 : b ≤ D 6 0) : m_X28_badness (lnR D a b) = some (lnB D a b) := by
  unfold m_X28_badness lnR lnB
  by_cases ht : lnT D a b
  · rw [if_pos ht, if_pos ht, if_neg (fun z => z rfl)]
  · rw [if_neg ht, if_neg ht]
    have r := lnR0_r O a0 ab b1 ht
    rw [if_pos (by omega)]
    unfold absI
    by_cases h0 : 0 ≤ lnR0 D a b
    · rw [if_pos h0, if_neg (by omega)]; exact q_bad0 h0 r.2
    · rw [if_neg h0, if_pos (by omega), e32 (by omega) (by omega)]; exact q_bad0 (by omega) (by omega)
theorem lnR_T {D : Hp} {a b : Int} (O : lnO D) (a0 : 0 ≤ a) (ab : a < b) (b1 : b ≤ D 6 0) : lnR D a b = -1000000 ↔ lnT D a b := by
  unfold lnR
  by_cases ht : lnT D a b
  · rw [if_pos ht]; exact ⟨fun _ => ht, fun _ => rfl⟩
  · rw [if_neg ht]
    have r := lnR0_r O a0 ab b1 ht
    exact ⟨fun z => by omega, fun z => absurd z ht⟩
