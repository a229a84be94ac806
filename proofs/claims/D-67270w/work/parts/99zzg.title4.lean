set_option maxRecDepth 100000
/-! TITLES: labels of the component -/
theorem mtF_rl {V : Hp} {P : Int → Int} {e : Int} (h : V 30 e ≠ 0) (f : flA V P e) : mtF V e = true ↔ (rlF V P e = 5 ∨ rlF V P e = 6 ∨ rlF V P e = 8 ∨ rlF V P e = 9 ∨ rlF V P e = 4 ∨ rlF V P e = 10) := by
  obtain ⟨-, -, f3, f4, f5, f6⟩ := f
  have em : mtF V e = true ↔ (8 ≤ V 24 (22 * e) ∧ V 24 (22 * e) ≤ 10 ∨ V 24 (22 * e) = 4) ∨ V 34 e ≠ 0 ∨ V 35 e ≠ 0 := by
    unfold mtF muF
    simp [h]
  rw [em]
  unfold rlF
  generalize V 24 (22 * e) = v at *
  generalize V 30 e = v30 at *
  generalize V 31 e = v31 at *
  generalize V 32 e = v32 at *
  generalize V 34 e = v34 at *
  generalize V 35 e = v35 at *
  generalize V 36 e = v36 at *
  repeat' split
  all_goals omega
theorem q_mute7 {S Y V p : Hp} {a sa ya n N E F M n' N' C ns na nsel nb nt m e : Int} {s s' : Int → List Int} (T : KC S Y V p a sa ya n N s E F M n' N' s' C ns na nsel nb nt m) (e0 : 0 ≤ e) (e1 : e < E) : m_X7_isMute a e p = some (bI (mtF V e)) := by
  obtain ⟨⟨hL, ha, hs, hy⟩, R, R', ⟨⟨t0, t1, t2⟩, t3, t4⟩, V1, V2, V3, V4⟩ := T
  have E5 := R.2.2.1.2.2.1
  obtain ⟨z1, z4, z5, z6, -⟩ := t3 e e0 e1
  have fa := FLV.facts (fun x x0 x1 => (V4 x x0 x1).2.2.1) (fun x x0 x1 => ⟨(R.2.2.2.1 x x0 x1).2.2.1, (R.2.2.2.1 x x0 x1).2.2.2.1⟩) e e0 e1
  have k8 := g_X7_8 hL ha
  have k6 := g_X7_6 hL ha
  unfold m_X7_isMute
  simp only [k8.1, k8.2.1, k8.2.2, k6.1, k6.2.1, k6.2.2, z4, z6]
  rw [gd_t ⟨by decide, e0, by omega⟩, lt_e, gd_t ⟨by decide, e0, by omega⟩]
  by_cases h0 : V 30 e = 0
  · rw [if_pos h0]
    have : mtF V e = true := by unfold mtF; rw [decide_eq_true h0]; rfl
    rw [this]; rfl
  · rw [if_neg h0]
    have := mtF_rl h0 fa
    generalize rlF V (S 7) e = r at *
    cases hm : mtF V e
    · rw [hm] at this
      have nr : ¬ (r = 5 ∨ r = 6 ∨ r = 8 ∨ r = 9 ∨ r = 4 ∨ r = 10) := fun z => absurd (this.mpr z) (by decide)
      rw [if_neg (by omega), if_neg (by omega), if_neg (by omega), if_neg (by omega), if_neg (by omega), if_pos (by omega)]; rfl
    · have yr := this.mp hm
      repeat' split
      all_goals first | rfl | (exfalso; omega)
/-- a property of an element -/
theorem q_propK {S Y V p : Hp} {a sa ya n N E F M n' N' C ns na nsel nb nt m e c : Int} {s s' : Int → List Int} (T : KC S Y V p a sa ya n N s E F M n' N' s' C ns na nsel nb nt m) (e0 : 0 ≤ e) (e1 : e < E) (c0 : 0 ≤ c) (c1 : c ≤ 21) : m_X7_property a e c p = some (p (a + 2) (22 * e + c)) := by
  obtain ⟨⟨hL, ha, hs, hy⟩, R, -⟩ := T
  have E5 := R.2.2.1.2.2.1
  have i4 := g_X7_4 hL ha
  unfold m_X7_property
  rw [if_pos e0]
  simp only [i4.1, i4.2.1, i4.2.2]
  rw [e32 (x := 22 * e) (by omega) (by omega), e32 (x := 22 * e + c) (by omega) (by omega), gd_t ⟨by decide, by omega, by omega⟩]
theorem q_hasLabel7 {S Y V p : Hp} {a sa ya n N E F M n' N' C ns na nsel nb nt m e : Int} {s s' : Int → List Int} (T : KC S Y V p a sa ya n N s E F M n' N' s' C ns na nsel nb nt m) (e0 : 0 ≤ e) (e1 : e < E) : m_X7_hasLabel a e p = some (bI (decide (0 ≤ p (a + 2) (22 * e + 17)) && !mtF V e)) := by
  have qm := q_mute7 T e0 e1
  have q17 := q_propK T e0 e1 (c := 17) (by decide) (by decide)
  obtain ⟨⟨hL, ha, hs, hy⟩, R, R', ⟨⟨t0, t1, t2⟩, t3, t4⟩, V1, V2, V3, V4⟩ := T
  have E5 := R.2.2.1.2.2.1
  obtain ⟨z1, z4, -⟩ := t3 e e0 e1
  have k6 := g_X7_6 hL ha
  unfold m_X7_hasLabel
  rw [q17, Option.bind_some]
  simp only [k6.1, k6.2.1, k6.2.2, z4, qm, Option.bind_some]
  by_cases h17 : p (a + 2) (22 * e + 17) < 0
  · rw [if_pos h17, decide_eq_false (by omega)]; rfl
  · rw [if_neg h17, gd_t ⟨by decide, e0, by omega⟩, decide_eq_true (by omega)]
    by_cases h0 : V 30 e = 0
    · rw [if_pos h0]
      have : mtF V e = true := by unfold mtF; rw [decide_eq_true h0]; rfl
      rw [this]; rfl
    · rw [if_neg h0]
      cases mtF V e
      · rw [if_neg (by decide)]; rfl
      · rw [if_pos (by decide)]; rfl
theorem g_X5_c {h : Hp} {a : Int} (hL : LAY h) (ha : a ∈ in_aX7) : h (a + 16) (-1) = 32 := by
  rcases aX7 ha with rfl | rfl
  · exact (hL.2.1 199 _ rfl).2
  · exact (hL.2.1 216 _ rfl).2
/-- the label is made ready -/
theorem c_labelOf {S Y V p : Hp} {a sa ya n N E F M n' N' C ns na nsel nb nt m e : Int} {s s' : Int → List Int} (T : KC S Y V p a sa ya n N s E F M n' N' s' C ns na nsel nb nt m) (e0 : 0 ≤ e) (e1 : e < E) :
    Pz (m_X7_labelOf a e p) (fun r => r.1.1 = 0 ∧ F2 (fun x j => (x = a + 15 ∧ j = 1) ∨ (x = a + 16 ∧ 0 ≤ j)) p r.2 ∧ ((r.1.2 = 0 ∧ lbS Y V e = [] ∧ (mtF V e = true ∨ V 26 e - V 25 e = 0)) ∨ (mtF V e = false ∧ r.1.2 = V 26 e - V 25 e ∧ 0 ≤ p (a + 2) (22 * e + 17) ∧ bsL r.2 (a + 15) (fmL (V 24 (22 * e + 18)) (V 27 e).toNat)))) := by
  have qh := q_hasLabel7 T e0 e1
  have K := T
  obtain ⟨⟨hL, ha, hs, hy⟩, R, R', ⟨⟨t0, t1, t2⟩, t3, t4⟩, V1, V2, V3, V4⟩ := T
  have E5 := R.2.2.1.2.2.1
  have h7 := aX7 ha
  obtain ⟨⟨z1, zl⟩, z4, z5, z6, z8, z7, z13⟩ := t3 e e0 e1
  have h5 : a + 15 ∈ in_aX5 := by
    simp only [in_aX5, List.mem_cons, List.not_mem_nil, or_false]
    omega
  have k18 := (g_X7_18 hL ha).1
  have v27 := (V4 e e0 e1).2.2.2.2
  have vr : 0 ≤ V 27 e ∧ V 27 e ≤ 1000000 := by
    rw [v27]
    unfold vlF
    split
    · have := ctS_r (sh := V 30) (f := V 24) (j := V 24 (22 * e + 15)) (e.toNat + 1)
      omega
    · omega
  unfold m_X7_labelOf
  rw [qh, Option.bind_some]
  by_cases hh : 0 ≤ p (a + 2) (22 * e + 17) ∧ mtF V e = false
  · have hbi : (decide (0 ≤ p (a + 2) (22 * e + 17)) && !mtF V e) = true := by rw [decide_eq_true hh.1, hh.2]; rfl
    rw [hbi]
    refine z_it (by decide) ?_
    simp only [k18]
    have k5 := ly_X5 hL h5
    refine z_gd k5.1 (z_pt ?_)
    have f1 : F2 (fun x j => (x = a + 15 ∧ j = 1) ∨ (x = a + 16 ∧ 0 ≤ j)) p (up p (a + 15) 1 0) := F2.refl.put (Or.inl ⟨rfl, rfl⟩)
    have fm : ∀ q, F2 (fun x j => (x = a + 15 ∧ j = 1) ∨ (x = a + 16 ∧ 0 ≤ j)) p q → F2 (tlW a 273) p q := fun q f => f.mono (fun x j z => Or.inr z)
    have b5 : (273 : Int) ∈ in_aX5 := by decide
    have T1 := K.kept b5 (by decide) (fm _ f1)
    have L1 := T1.1.1
    have i9 := g_X7_9 L1 ha
    have q18 := q_propK T1 e0 e1 (c := 18) (by decide) (by decide)
    have u18 : up p (a + 15) 1 0 a 18 = a + 15 := by rw [up_a (by omega)]; exact k18
    have k5' := ly_X5 L1 h5
    rw [u18]
    have p18 : up p (a + 15) 1 0 (a + 2) (22 * e + 18) = V 24 (22 * e + 18) := by rw [up_a (by omega)]; exact z1 18 (by decide) (by decide) (by decide)
    have p7 : up p (a + 15) 1 0 (a + 7) e = V 27 e := by rw [up_a (by omega)]; exact z7
    have wv : Pz (m_X7_value a e (a + 15) (up p (a + 15) 1 0)) (puts (a + 15) (up p (a + 15) 1 0) [] (fmL (V 24 (22 * e + 18)) (V 27 e).toNat)) := by
      unfold m_X7_value
      rw [q18, Option.bind_some]
      simp only [i9.1, i9.2.1, i9.2.2, p18, p7]
      have := c_write7 (v := (V 27 e).toNat) (how := V 24 (22 * e + 18)) (L := []) (cap := 32) L1 h5 ⟨by rw [up_s]; rfl, rfl⟩ (by rw [up_row (by omega), show a + 15 + 1 = a + 16 by omega]; exact (g_X5_c hL ha)) (by decide) (by decide) (by omega)
      rw [show (((V 27 e).toNat : Nat) : Int) = V 27 e by omega] at this
      exact z_gd ⟨by decide, e0, by omega⟩ (puts_bT this (fun p' f h => puts_ok f h))
    refine puts_bT wv (fun p' f h => ?_)
    have f2 : F2 (fun x j => (x = a + 15 ∧ j = 1) ∨ (x = a + 16 ∧ 0 ≤ j)) p p' := f1.trans (f.mono (fun x j z => by unfold b5W at z; omega))
    have T2 := K.kept b5 (by decide) (fm _ f2)
    have i5 := g_X7_5 T2.1.1 ha
    simp only [i5.1, i5.2.1, i5.2.2]
    have p3 : p' (a + 3) e = V 26 e - V 25 e := by
      rw [f2 _ _ (by omega)]
      rcases zl with z | z
      · omega
      · exact z.2.2.2.2.2.1.symm
    exact z_gd ⟨by decide, e0, by omega⟩ (z_some ⟨rfl, f2, Or.inr ⟨hh.2, p3, hh.1, h⟩⟩)
  · have : (decide (0 ≤ p (a + 2) (22 * e + 17)) && !mtF V e) = false := by
      cases hm : mtF V e
      · rw [decide_eq_false (fun z => hh ⟨z, hm⟩)]; rfl
      · rw [Bool.not_true, Bool.and_false]
    rw [this]
    have lz : lbS Y V e = [] ∧ (mtF V e = true ∨ V 26 e - V 25 e = 0) := by
      unfold lbS
      by_cases hm : mtF V e = true
      · rw [if_pos hm]; exact ⟨rfl, Or.inl hm⟩
      · rw [if_neg hm]
        rcases zl with z | z
        · rw [z.2.2.1, z.2.2.2.1]; exact ⟨rfl, Or.inr rfl⟩
        · exact absurd ⟨z.2.1, by simpa using hm⟩ hh
    exact z_ie (by decide) (z_some ⟨rfl, F2.refl, Or.inl ⟨rfl, lz⟩⟩)
