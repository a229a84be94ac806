-- needs: 99zzzs
set_option maxRecDepth 100000
/-! LINES: what a line costs: the component -/
theorem q_cuts28 {h : Hp} {P R β b : Int} {D : Hp} (hL : LAY h) (C : lnH h P R β D) (O : lnO D) (b0 : 1 ≤ b) (b1 : b ≤ D 6 0) : m_X28_cuts P b h = some (if D 5 b = 1 ∨ D 5 b = 2 then 1 else 0) := by
  have k := (q_ln (a := b - 1) hL C O (by omega) (by omega) b1).2.2.2.2
  unfold m_X28_cuts
  rw [k, Option.bind_some, Option.bind_some]
  by_cases h1 : D 5 b = 1
  · rw [if_pos h1, if_pos (Or.inl h1)]
  · rw [if_neg h1]
    by_cases h2 : D 5 b = 2
    · rw [if_neg (fun z => z h2), if_pos (Or.inr h2)]
    · rw [if_pos h2, if_neg (by omega)]
theorem q_cost28 {h : Hp} {P R β a b c : Int} {D : Hp} (hL : LAY h) (C : lnH h P R β D) (O : lnO D) (a0 : 0 ≤ a) (ab : a < b) (b1 : b ≤ D 6 0) (c0 : 0 ≤ c) (c3 : c ≤ 3) : m_X28_costOf P a b (lnR D a b) c h = some (lnX D a b c) := by
  obtain ⟨q1, q2, q3, q4, q5⟩ := q_ln hL C O a0 ab b1
  obtain ⟨n, z, s⟩ := ln_r O a0 ab b1
  have w := lnW_r (a := a) O
  have bd := lnB_r O a0 ab b1
  have sq := sq_r (x := 10 + lnB D a b) (by omega) (by omega)
  have cr := clsI_r (r := lnR D a b)
  have k3 := (O.2.2.2 b (by omega) b1).2.2
  -- the last steps
  have t5 : ∀ x, 0 ≤ x → x ≤ 60000000000 → m_X28_costOf_j169 (lnR D a b) c x = some (x + (if 1 < lnC D a b - c ∨ 1 < c - lnC D a b then 10000 else 0)) := by
    intro x x0 x1
    unfold m_X28_costOf_j169 lnC
    rw [q_class28, Option.bind_some]
    generalize clsI (lnR D a b) = y at cr ⊢
    rw [e32 (x := y - c) (by omega) (by omega), e32 (x := c - y) (by omega) (by omega), lt_e, e64 (x := x + 10000) (by omega) (by omega)]
    by_cases g1 : 1 < y - c
    · rw [if_pos g1, if_pos (Or.inl g1)]
    · rw [if_neg g1]
      by_cases g2 : c - y ≤ 1
      · rw [if_pos g2, if_neg (by omega), Int.add_zero]
      · rw [if_neg g2, if_pos (by omega)]
  have t4 : ∀ x, 0 ≤ x → x ≤ 50000000000 → m_X28_costOf_j108 P a b (lnR D a b) c x h = some (x + (if 0 < a ∧ (D 5 a = 1 ∨ D 5 a = 2) then (if D 5 b = 1 ∨ D 5 b = 2 then 3000 else if b = D 6 0 then 5000 else 0) else 0) + (if 1 < lnC D a b - c ∨ 1 < c - lnC D a b then 10000 else 0)) := by
    intro x x0 x1
    unfold m_X28_costOf_j108 m_X28_costOf_j124
    have no : m_X28_costOf_j125 P b (lnR D a b) c x 0 h = some (x + (if 1 < lnC D a b - c ∨ 1 < c - lnC D a b then 10000 else 0)) := by
      unfold m_X28_costOf_j125 m_X28_costOf_j148
      rw [if_pos rfl, if_pos rfl]
      exact t5 x x0 (by omega)
    by_cases ha : a ≤ 0
    · rw [if_pos ha, if_neg (show ¬ (0 < a ∧ _) by omega), Int.add_zero]
      exact no
    rw [if_neg ha, q_cuts28 hL C O (by omega) (by omega), Option.bind_some]
    by_cases ka : D 5 a = 1 ∨ D 5 a = 2
    · rw [if_pos ka, if_neg (by decide), if_pos ⟨by omega, ka⟩]
      unfold m_X28_costOf_j125
      rw [if_neg (by decide), q_cuts28 hL C O (by omega) b1, Option.bind_some]
      by_cases kb : D 5 b = 1 ∨ D 5 b = 2
      · rw [if_pos kb, if_neg (by decide), lt_e, e64 (x := x + 3000) (by omega) (by omega)]
        unfold m_X28_costOf_j148
        rw [if_neg (by decide), C.1.2.2.2.2.2.2, if_pos (by omega), if_pos kb]
        exact t5 _ (by omega) (by omega)
      · rw [if_neg kb, if_pos rfl]
        unfold m_X28_costOf_j148
        rw [if_neg (by decide), C.1.2.2.2.2.2.2, if_neg kb]
        by_cases hb : b = D 6 0
        · rw [if_neg (fun y => y hb), if_pos hb, lt_e, e64 (x := x + 5000) (by omega) (by omega)]
          exact t5 _ (by omega) (by omega)
        · rw [if_pos hb, if_neg hb, Int.add_zero]
          exact t5 x x0 (by omega)
    · rw [if_neg ka, if_pos rfl, if_neg (fun y => ka y.2), Int.add_zero]
      exact no
  have t3 : ∀ x, 0 ≤ x → x ≤ 40000000000 → m_X28_costOf_j74 c P a b (lnR D a b) x h = some (x + (if D 5 b = 1 then 2500 else 0) + (if D 5 b = 2 then 900 else 0) + (if 0 < a ∧ (D 5 a = 1 ∨ D 5 a = 2) then (if D 5 b = 1 ∨ D 5 b = 2 then 3000 else if b = D 6 0 then 5000 else 0) else 0) + (if 1 < lnC D a b - c ∨ 1 < c - lnC D a b then 10000 else 0)) := by
    intro x x0 x1
    unfold m_X28_costOf_j74 m_X28_costOf_j91
    rw [q5, Option.bind_some, Option.bind_some]
    by_cases h1 : D 5 b = 1
    · rw [if_neg (fun y => y h1), if_pos h1, lt_e, if_neg (show ¬ D 5 b = 2 by omega), Option.bind_some, if_pos (show D 5 b ≠ 2 by omega), Int.add_zero, e64 (x := x + 2500) (by omega) (by omega)]
      exact t4 _ (by omega) (by omega)
    · rw [if_pos h1, if_neg h1, Int.add_zero]
      by_cases h2 : D 5 b = 2
      · rw [if_neg (fun y => y h2), if_pos h2, lt_e, e64 (x := x + 900) (by omega) (by omega)]
        exact t4 _ (by omega) (by omega)
      · rw [if_pos h2, if_neg h2, Int.add_zero]
        exact t4 _ (by omega) (by omega)
  unfold m_X28_costOf
  rw [q_bad28 O a0 ab b1, Option.bind_some, lt_e, lt_e, e32 (x := 10 + lnB D a b) (by omega) (by omega), e64 (x := (10 + lnB D a b) * (10 + lnB D a b)) (by omega) (by omega)]
  unfold lnX lnQ
  generalize (10 + lnB D a b) * (10 + lnB D a b) = S at sq ⊢
  by_cases ht : lnT D a b
  · rw [(lnR_T O a0 ab b1).mpr ht] at *
    rw [if_neg (fun y => y rfl), if_pos ht]
    have ht1 := ht.1
    have ht2 := ht.2
    have j47 : ∀ Z, Z = lnZ D a b → m_X28_costOf_j47 S c P a b (-1000000) Z h = some (S + (1000000000 + lnN D a b - lnZ D a b - lnW D a) + (if D 5 b = 1 then 2500 else 0) + (if D 5 b = 2 then 900 else 0) + (if 0 < a ∧ (D 5 a = 1 ∨ D 5 a = 2) then (if D 5 b = 1 ∨ D 5 b = 2 then 3000 else if b = D 6 0 then 5000 else 0) else 0) + (if 1 < lnC D a b - c ∨ 1 < c - lnC D a b then 10000 else 0)) := by
      intro Z hZ
      unfold m_X28_costOf_j47
      rw [q1, Option.bind_some, q2, Option.bind_some, lt_e, hZ, e64 (x := 1000000000 + lnN D a b) (by omega) (by omega), e64 (x := 1000000000 + lnN D a b - lnZ D a b) (by omega) (by omega), e64 (x := 1000000000 + lnN D a b - lnZ D a b - lnW D a) (by omega) (by omega), e64 (by omega) (by omega)]
      exact t3 _ (by omega) (by omega)
    rw [C.1.2.2.2.2.1]
    by_cases al : D 6 3 = 0
    · rw [if_neg (fun y => y al)]
      simp only [C.1.2.1, g_X15 hL C.2.1.1, (g_X15_11 hL C.2.1.1).1]
      rw [gd_t trivial, q4, Option.bind_some]
      exact j47 _ (by unfold lnZ; rw [if_pos al])
    · rw [if_pos al]
      exact j47 0 (by unfold lnZ; rw [if_neg al])
  · rw [if_pos (fun y => ht ((lnR_T O a0 ab b1).mp y)), if_neg ht, Int.add_zero]
    exact t3 S (by omega) (by omega)
