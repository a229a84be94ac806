-- needs: 99zzzh
set_option maxRecDepth 100000
/-! BREAKS: the component measures the parts between them: the loop -/
theorem td_r2 {x m : Int} (x0 : 0 ≤ x) (x1 : x ≤ m) : (0 ≤ Int.tdiv x 2 ∧ Int.tdiv x 2 ≤ m) ∧ (0 ≤ Int.tdiv x 3 ∧ Int.tdiv x 3 ≤ m) := by
  rw [Int.tdiv_eq_ediv_of_nonneg x0, Int.tdiv_eq_ediv_of_nonneg x0]; omega
theorem c_width2 {h : Hp} {f c z : Int} {W : Int → Int} {K J : Int → Int → Int} (hL : LAY h) (hf : f ∈ in_aX8) (R : foR W K J) (F : foC h f W K J) (c0 : 0 ≤ c) (c1 : c < 128) (z0 : 0 ≤ z) (z1 : z ≤ 100000) : m_X8_width_2 f c z h = some (shrW z (W c)) := by
  unfold m_X8_width_2
  have k := (ly_X8 hL hf).2.1
  have w := R.1 c c0 c1
  simp only [k, F.1 c c0 c1]
  rw [gd_t ⟨by decide, c0, c1⟩, q_part8 z0 z1 (by omega) w.2, Option.bind_some]
/-- one turn -/
theorem c_msTurn {g : Hp} {P R t β m f y κ e nx s8 s9 s10 s11 w gl hy z fr : Int} (hL : LAY g) (hR : R ∈ in_aX15) (hR' : 293 ≤ R ∧ R ≤ 423) (hf : f ∈ in_aX8) (hP : 983 ≤ P) (eR : g P 0 = R) (et : g P 1 = t) (e15 : g P 15 = β) (e16 : g P 16 = m) (m0 : 0 ≤ m) (β0 : 0 ≤ β) (βm : β + m < 26400) (y0 : β + 1 ≤ y) (y1 : y ≤ β + m)
    (p8 : g (R + 8) (y - 1) = s8) (p9 : g (R + 9) (y - 1) = s9) (p10 : g (R + 10) (y - 1) = s10) (p11 : g (R + 11) (y - 1) = s11) (p4 : g (R + 4) y = κ) (p5 : g (R + 5) y = e) (p6 : g (R + 6) y = nx) (t0 : 0 ≤ t + fr) (t1 : t + e ≤ 24000) (t2 : fr ≤ e) (e0 : 0 ≤ e) (e1 : e ≤ 24000)
    (ew : m_X8_width f (R + 1) (R + 2) (t + fr) (t + e) g = some w) (b8 : 0 ≤ s8 + w ∧ s8 + w ≤ 100000000000) (b9 : 0 ≤ s9 ∧ s9 ≤ 1000000000) (b10 : 0 ≤ s10 ∧ s10 ≤ 1000000000) (b11 : 0 ≤ s11 ∧ s11 ≤ 1000000000) (bg : 0 ≤ gl ∧ gl ≤ 500000)
    (h0 : κ = 0 → ∀ g', F2 (fun c j => R + 7 ≤ c ∧ c ≤ R + 11 ∧ j = y) g g' → LAY g' → m_X28_sizeOf P e g' = some z ∧ m_X8_width_2 f 32 z g' = some gl) (h1 : κ = 1 → 1 ≤ e ∧ ∀ g', F2 (fun c j => R + 7 ≤ c ∧ c ≤ R + 11 ∧ j = y) g g' → LAY g' → m_X28_sizeOf P (e - 1) g' = some z ∧ m_X8_width_2 f 45 z g' = some hy) :
    Pz (m_X28_measure_l61 P f fr y g) (fun r => ∃ g', r = .inl (nx, y + 1, g') ∧ F2 (fun c j => R + 7 ≤ c ∧ c ≤ R + 11 ∧ j = y) g g' ∧ g' (R + 8) y = s8 + w ∧ g' (R + 9) y = s9 + (if κ = 0 then gl else 0) ∧ g' (R + 10) y = s10 + (if κ = 0 then Int.tdiv gl 2 else 0) ∧ g' (R + 11) y = s11 + (if κ = 0 then Int.tdiv gl 3 else 0) ∧ g' (R + 7) y = (if κ = 1 then hy else 0)) := by
  have keep : ∀ {g' : Hp}, F2 (fun c j => R + 7 ≤ c ∧ c ≤ R + 11 ∧ j = y) g g' → LAY g' ∧ g' P 0 = R ∧ g' (R + 4) = g (R + 4) ∧ g' (R + 5) = g (R + 5) ∧ g' (R + 6) = g (R + 6) := fun {g'} Fg => by
    refine ⟨msW_l (β := y) hL hR (by omega) (Fg.mono (fun b j z => ⟨z.1, z.2.1, by omega⟩)), by rw [Fg P 0 (fun z => by omega)]; exact eR, Fg.row (fun j z => by omega), Fg.row (fun j z => by omega), Fg.row (fun j z => by omega)⟩
  have d2 := td_r2 bg.1 bg.2
  unfold m_X28_measure_l61
  rw [e15, e16, e32 (x := β + m) (by omega) (by omega), if_neg (by omega)]
  have c8 := g_X15_8 hL hR
  have c5 := g_X15_5 hL hR
  have c0' := g_X15_0 hL hR
  have c1' := g_X15_1 hL hR
  simp only [eR, g_X15 hL hR, c8, c5, c0', c1', (ly_X8 hL hf).1, et, p5]
  rw [e32 (x := y - 1) (by omega) (by omega), e32 (x := t + fr) (by omega) (by omega), e32 (x := t + e) (by omega) (by omega), p8]
  refine z_gd trivial (z_gd ⟨by decide, by omega, by omega⟩ (z_gd ⟨by decide, by omega, by omega⟩ (z_gd trivial ?_)))
  rw [ew, Option.bind_some, e64 (x := s8 + w) (by omega) (by omega)]
  refine z_gd ⟨by decide, by omega, by omega⟩ (z_pt ?_)
  have H1 : F2 (fun c j => R + 7 ≤ c ∧ c ≤ R + 11 ∧ j = y) g (up g (R + 8) y (s8 + w)) := F2.refl.put ⟨by omega, by omega, rfl⟩
  have o1 : up g (R + 8) y (s8 + w) (R + 9) (y - 1) = s9 := by rw [up_a (by omega)]; exact p9
  have a1 : up g (R + 8) y (s8 + w) (R + 10) (y - 1) = s10 := by rw [up_a (by omega)]; exact p10
  have a2 : up g (R + 8) y (s8 + w) (R + 11) (y - 1) = s11 := by rw [up_a (by omega)]; exact p11
  have v8 : up g (R + 8) y (s8 + w) (R + 8) y = s8 + w := up_s _ _ _ _
  generalize up g (R + 8) y (s8 + w) = g1 at H1 o1 a1 a2 v8 ⊢
  obtain ⟨L1, r1, -⟩ := keep H1
  have e9 := g_X15_9 L1 hR
  simp only [r1, g_X15 L1 hR, e9, o1]
  refine z_gd trivial (z_gd ⟨by decide, by omega, by omega⟩ (z_gd ⟨by decide, by omega, by omega⟩ (z_pt ?_)))
  have H2 : F2 (fun c j => R + 7 ≤ c ∧ c ≤ R + 11 ∧ j = y) g (up g1 (R + 9) y s9) := H1.put ⟨by omega, by omega, rfl⟩
  have a1' : up g1 (R + 9) y s9 (R + 10) (y - 1) = s10 := by rw [up_a (by omega)]; exact a1
  have a2' : up g1 (R + 9) y s9 (R + 11) (y - 1) = s11 := by rw [up_a (by omega)]; exact a2
  have v8' : up g1 (R + 9) y s9 (R + 8) y = s8 + w := by rw [up_a (by omega)]; exact v8
  have v9 : up g1 (R + 9) y s9 (R + 9) y = s9 := up_s _ _ _ _
  clear H1 o1 a1 a2 v8 L1 r1 e9
  generalize up g1 (R + 9) y s9 = g2 at H2 a1' a2' v8' v9 ⊢
  obtain ⟨L2, r2, -⟩ := keep H2
  have e10 := g_X15_10 L2 hR
  simp only [r2, g_X15 L2 hR, e10, a1']
  refine z_gd trivial (z_gd ⟨by decide, by omega, by omega⟩ (z_gd ⟨by decide, by omega, by omega⟩ (z_pt ?_)))
  have H3 : F2 (fun c j => R + 7 ≤ c ∧ c ≤ R + 11 ∧ j = y) g (up g2 (R + 10) y s10) := H2.put ⟨by omega, by omega, rfl⟩
  have a2 : up g2 (R + 10) y s10 (R + 11) (y - 1) = s11 := by rw [up_a (by omega)]; exact a2'
  have v8 : up g2 (R + 10) y s10 (R + 8) y = s8 + w := by rw [up_a (by omega)]; exact v8'
  have v9' : up g2 (R + 10) y s10 (R + 9) y = s9 := by rw [up_a (by omega)]; exact v9
  have v10 : up g2 (R + 10) y s10 (R + 10) y = s10 := up_s _ _ _ _
  clear H2 a1' a2' v8' v9 L2 r2 e10
  generalize up g2 (R + 10) y s10 = g3 at H3 a2 v8 v9' v10 ⊢
  obtain ⟨L3, r3, -⟩ := keep H3
  have e11 := g_X15_11 L3 hR
  simp only [r3, g_X15 L3 hR, e11, a2]
  refine z_gd trivial (z_gd ⟨by decide, by omega, by omega⟩ (z_gd ⟨by decide, by omega, by omega⟩ (z_pt ?_)))
  have H4 : F2 (fun c j => R + 7 ≤ c ∧ c ≤ R + 11 ∧ j = y) g (up g3 (R + 11) y s11) := H3.put ⟨by omega, by omega, rfl⟩
  have v8' : up g3 (R + 11) y s11 (R + 8) y = s8 + w := by rw [up_a (by omega)]; exact v8
  have v9 : up g3 (R + 11) y s11 (R + 9) y = s9 := by rw [up_a (by omega)]; exact v9'
  have v10' : up g3 (R + 11) y s11 (R + 10) y = s10 := by rw [up_a (by omega)]; exact v10
  have v11 : up g3 (R + 11) y s11 (R + 11) y = s11 := up_s _ _ _ _
  clear H3 a2 v8 v9' v10 L3 r3 e11
  generalize up g3 (R + 11) y s11 = g4 at H4 v8' v9 v10' v11 ⊢
  obtain ⟨L4, r4, -⟩ := keep H4
  have e7 := g_X15_7 L4 hR
  simp only [r4, g_X15 L4 hR, e7]
  refine z_gd trivial (z_gd ⟨by decide, by omega, by omega⟩ (z_pt ?_))
  have H5 : F2 (fun c j => R + 7 ≤ c ∧ c ≤ R + 11 ∧ j = y) g (up g4 (R + 7) y 0) := H4.put ⟨by omega, by omega, rfl⟩
  have v8 : up g4 (R + 7) y 0 (R + 8) y = s8 + w := by rw [up_a (by omega)]; exact v8'
  have v9' : up g4 (R + 7) y 0 (R + 9) y = s9 := by rw [up_a (by omega)]; exact v9
  have v10 : up g4 (R + 7) y 0 (R + 10) y = s10 := by rw [up_a (by omega)]; exact v10'
  have v11' : up g4 (R + 7) y 0 (R + 11) y = s11 := by rw [up_a (by omega)]; exact v11
  have v7 : up g4 (R + 7) y 0 (R + 7) y = 0 := up_s _ _ _ _
  clear H4 v8' v9 v10' v11 L4 r4 e7
  generalize up g4 (R + 7) y 0 = g5 at H5 v8 v9' v10 v11' v7 ⊢
  obtain ⟨L5, r5, q4, q5, q6⟩ := keep H5
  have e4 := g_X15_4 L5 hR
  have e5 := g_X15_5 L5 hR
  have e7' := g_X15_7 L5 hR
  have e9' := g_X15_9 L5 hR
  simp only [r5, g_X15 L5 hR, e4, e5, e7', e9', q4, q5, p4, p5]
  refine z_gd trivial (z_gd ⟨by decide, by omega, by omega⟩ ?_)
  have fin : ∀ g', F2 (fun c j => R + 7 ≤ c ∧ c ≤ R + 11 ∧ j = y) g g' → m_X28_measure_j331 P y g' = some (.inl (nx, y + 1, g')) := fun g' Fg' => by
    obtain ⟨L6, r6, -, -, s6⟩ := keep Fg'
    have f6 := g_X15_6 L6 hR
    unfold m_X28_measure_j331
    simp only [r6, g_X15 L6 hR, f6, s6, p6]
    rw [gd_t trivial, gd_t ⟨by decide, by omega, by omega⟩, lt_e, lt_e, e32 (x := y + 1) (by omega) (by omega)]
  by_cases hκ : κ = 0
  · obtain ⟨w1, w2⟩ := h0 hκ g5 H5 L5
    rw [if_neg (fun z => z hκ), if_pos hκ, if_pos hκ, if_pos hκ, if_neg (by omega)]
    refine z_gd ⟨by decide, by omega, by omega⟩ ?_
    rw [w1, Option.bind_some, w2, Option.bind_some, v9', e64 (x := s9 + gl) (by omega) (by omega)]
    refine z_gd ⟨by decide, by omega, by omega⟩ (z_pt ?_)
    have H6 : F2 (fun c j => R + 7 ≤ c ∧ c ≤ R + 11 ∧ j = y) g (up g5 (R + 9) y (s9 + gl)) := H5.put ⟨by omega, by omega, rfl⟩
    obtain ⟨L6, r6, -⟩ := keep H6
    have e10 := g_X15_10 L6 hR
    have u10 : up g5 (R + 9) y (s9 + gl) (R + 10) y = s10 := by rw [up_a (by omega)]; exact v10
    simp only [r6, g_X15 L6 hR, e10, u10]
    rw [e32 (x := Int.tdiv gl 2) (by omega) (by omega), e64 (x := s10 + Int.tdiv gl 2) (by omega) (by omega)]
    refine z_gd trivial (z_gd ⟨by decide, by omega, by omega⟩ (z_pt ?_))
    have H7 : F2 (fun c j => R + 7 ≤ c ∧ c ≤ R + 11 ∧ j = y) g (up (up g5 (R + 9) y (s9 + gl)) (R + 10) y (s10 + Int.tdiv gl 2)) := H6.put ⟨by omega, by omega, rfl⟩
    obtain ⟨L7, r7, -⟩ := keep H7
    have e11 := g_X15_11 L7 hR
    have u11 : up (up g5 (R + 9) y (s9 + gl)) (R + 10) y (s10 + Int.tdiv gl 2) (R + 11) y = s11 := by rw [up_a (by omega), up_a (by omega)]; exact v11'
    simp only [r7, g_X15 L7 hR, e11, u11]
    rw [e32 (x := Int.tdiv gl 3) (by omega) (by omega), e64 (x := s11 + Int.tdiv gl 3) (by omega) (by omega)]
    refine z_gd trivial (z_gd ⟨by decide, by omega, by omega⟩ (z_pt ?_))
    have H8 : F2 (fun c j => R + 7 ≤ c ∧ c ≤ R + 11 ∧ j = y) g (up (up (up g5 (R + 9) y (s9 + gl)) (R + 10) y (s10 + Int.tdiv gl 2)) (R + 11) y (s11 + Int.tdiv gl 3)) := H7.put ⟨by omega, by omega, rfl⟩
    rw [fin _ H8]
    refine z_some ⟨_, rfl, H8, ?_, ?_, ?_, ?_, ?_⟩
    · rw [up_a (by omega), up_a (by omega), up_a (by omega)]; exact v8
    · rw [up_a (by omega), up_a (by omega), up_s]
    · rw [up_a (by omega), up_s]
    · rw [up_s]
    · rw [up_a (by omega), up_a (by omega), up_a (by omega)]; exact v7
  · rw [if_pos hκ, if_neg hκ, if_neg hκ, if_neg hκ, Int.add_zero, Int.add_zero, Int.add_zero]
    by_cases hκ1 : κ = 1
    · obtain ⟨e1', w0⟩ := h1 hκ1
      obtain ⟨w1, w2⟩ := w0 g5 H5 L5
      rw [if_neg (fun z => z hκ1), if_pos hκ1]
      refine z_gd ⟨by decide, by omega, by omega⟩ ?_
      rw [e32 (x := e - 1) (by omega) (by omega), w1, Option.bind_some, w2, Option.bind_some]
      refine z_gd ⟨by decide, by omega, by omega⟩ (z_pt ?_)
      have H6 : F2 (fun c j => R + 7 ≤ c ∧ c ≤ R + 11 ∧ j = y) g (up g5 (R + 7) y hy) := H5.put ⟨by omega, by omega, rfl⟩
      rw [fin _ H6]
      refine z_some ⟨_, rfl, H6, ?_, ?_, ?_, ?_, ?_⟩
      · rw [up_a (by omega)]; exact v8
      · rw [up_a (by omega)]; exact v9'
      · rw [up_a (by omega)]; exact v10
      · rw [up_a (by omega)]; exact v11'
      · rw [up_s]
    · rw [if_pos hκ1, if_neg hκ1, fin _ H5]
      exact z_some ⟨_, rfl, H5, v8, v9', v10, v11', v7⟩
