-- needs: 99zzzze
set_option maxRecDepth 100000
/-! LINES: the reference measures a line: all of it -/
theorem t_ms156 {g : Hp} {s p β u v Z : Int} {D : Hp} (hL : LAY g) (hs : s ∈ in_aX25) (G : lnG g s p β D) (O : lnO D) (u0 : 0 ≤ u) (uv : u < v) (v1 : v ≤ D 6 0) (e1 : g s 112 = lnN D u v) (e2 : g s 113 = lnW D u) (e3 : g s 114 = lnS D u v) (hZ : Z = lnZ D u v) :
    Pz (m_X25_measure_j156 s p u v (D 5 v) Z g) (fun g' => F2 (mfW s) g g' ∧ msT g' s D u v) := by
  have hs' : 671 ≤ s ∧ s ≤ 825 := by have := aX25 hs; omega
  have k3 := (O.2.2.2 v (by omega) v1).2.2
  obtain ⟨n, z, sr⟩ := ln_r O u0 uv v1
  have w := lnW_r (a := u) O
  unfold m_X25_measure_j156
  rw [pt_e, pt_e]
  have F1 : F2 (mfW s) g (up (up g s 115 Z) s 120 0) := (F2.refl.put ⟨rfl, by decide, by decide⟩).put ⟨rfl, by decide, by decide⟩
  have a1 : up (up g s 115 Z) s 120 0 s 112 = lnN D u v := by rw [up_f (by decide), up_f (by decide)]; exact e1
  have a2 : up (up g s 115 Z) s 120 0 s 113 = lnW D u := by rw [up_f (by decide), up_f (by decide)]; exact e2
  have a3 : up (up g s 115 Z) s 120 0 s 114 = lnS D u v := by rw [up_f (by decide), up_f (by decide)]; exact e3
  have a4 : up (up g s 115 Z) s 120 0 s 115 = lnZ D u v := by rw [up_f (by decide), up_s]; exact hZ
  have a5 : up (up g s 115 Z) s 120 0 s 120 = 0 := up_s _ _ _ _
  generalize up (up g s 115 Z) s 120 0 = g1 at F1 a1 a2 a3 a4 a5 ⊢
  rw [a1, a2, a4, a3]
  -- what comes then
  have fin : ∀ r t g2, F2 (mfW s) g1 g2 → g2 s 112 = g1 s 112 → g2 s 113 = g1 s 113 → g2 s 114 = g1 s 114 → g2 s 115 = g1 s 115 → g2 s 117 = r → g2 s 120 = t → r = @ite _ (lnT D u v) (Classical.propDecidable _) (-1000) (lnR0 D u v) → is01 t (lnT D u v) → Pz (m_X25_measure_j316 s p u v (D 5 v) g2) (fun g' => F2 (mfW s) g g' ∧ msT g' s D u v) := by
    intro r t g2 F2' b1 b2 b3 b4 b5 b6 hr ht
    have Fg2 := F1.trans F2'
    have L2 := mfW_l hL hs Fg2
    have G2 := G.kept (h' := g2) (fun b b0 b1 => Fg2.row (fun j z => by unfold mfW at z; omega))
    exact z_mono (t_ms316 L2 hs G2 O u0 uv v1 ⟨by rw [b1]; exact a1, by rw [b2]; exact a2, by rw [b3]; exact a3, by rw [b4]; exact a4⟩ (by rw [b5]; exact hr) (by rw [b6]; exact ht)) (fun g' hg' => ⟨Fg2.trans hg'.1, hg'.2⟩)
  have one : ∀ r, (¬ lnT D u v) → r = lnR0 D u v → Pz (m_X25_measure_j316 s p u v (D 5 v) (up g1 s 117 r)) (fun g' => F2 (mfW s) g g' ∧ msT g' s D u v) := fun r nt hr => fin r 0 _ (F2.refl.put ⟨rfl, by decide, by decide⟩) (up_f (by decide)) (up_f (by decide)) (up_f (by decide)) (up_f (by decide)) (up_s _ _ _ _) (by rw [up_f (by decide)]; exact a5) (by rw [if_neg nt]; exact hr) (Or.inr ⟨rfl, nt⟩)
  by_cases g' : lnW D u ≤ lnN D u v
  · rw [if_pos (lc_ge.mpr g')]
    by_cases e : lnN D u v = lnW D u
    · rw [if_neg (fun y => y (lc_eq.mpr e)), pt_e]
      exact one 0 (fun t => by have := t.1; omega) (by unfold lnR0; rw [if_pos e])
    · rw [if_pos (fun y => e (lc_eq.mp y)), e64 (x := lnN D u v - lnW D u) (by omega) (by omega)]
      by_cases hz : lnZ D u v < lnN D u v - lnW D u
      · rw [if_pos (lc_gt.mpr hz), pt_e, pt_e]
        have ht : lnT D u v := ⟨by omega, hz⟩
        exact fin (-1000) 1 _ ((F2.refl.put ⟨rfl, by decide, by decide⟩).put ⟨rfl, by decide, by decide⟩) (by rw [up_f (by decide), up_f (by decide)]) (by rw [up_f (by decide), up_f (by decide)]) (by rw [up_f (by decide), up_f (by decide)]) (by rw [up_f (by decide), up_f (by decide)]) (by rw [up_f (by decide), up_s]) (up_s _ _ _ _) (by rw [if_pos ht]) (Or.inl ⟨rfl, ht⟩)
      · have nt : ¬ lnT D u v := fun t => hz t.2
        have r := lnR0_r O u0 uv v1 nt
        have e0 : lnR0 D u v = -(Int.tdiv ((lnN D u v - lnW D u) * 1000 + lnZ D u v - 1) (lnZ D u v)) := by unfold lnR0; rw [if_neg (by omega), if_neg (by omega)]
        rw [e0] at r
        rw [if_neg (fun y => hz (lc_gt.mp y)), gd_t (by omega), pt_e, e64 (x := (lnN D u v - lnW D u) * 1000) (by omega) (by omega), e64 (x := (lnN D u v - lnW D u) * 1000 + lnZ D u v) (by omega) (by omega), e64 (x := (lnN D u v - lnW D u) * 1000 + lnZ D u v - 1) (by omega) (by omega)]
        refine one _ nt ?_
        rw [e0]
        generalize Int.tdiv ((lnN D u v - lnW D u) * 1000 + lnZ D u v - 1) (lnZ D u v) = y at r ⊢
        rw [e64 (by omega) (by omega), e32 (x := y) (by omega) (by omega), e32 (by omega) (by omega)]
  · rw [if_neg (fun y => g' (lc_ge.mp y))]
    have nt : ¬ lnT D u v := fun t => by have := t.1; omega
    unfold m_X25_measure_j227
    by_cases hm : v = D 6 0
    · rw [if_neg (fun y => y (k3.2.mpr hm)), pt_e]
      exact one 0 nt (by unfold lnR0; rw [if_neg (by omega), if_pos (by omega), if_pos hm])
    · rw [if_pos (fun y => hm (k3.2.mp y))]
      have e0 : lnR0 D u v = if lnS D u v = 0 then 100000 else if Int.tdiv ((lnW D u - lnN D u v) * 1000) (lnS D u v) ≤ 100000 then Int.tdiv ((lnW D u - lnN D u v) * 1000) (lnS D u v) else 100000 := by unfold lnR0; rw [if_neg (by omega), if_pos (by omega), if_neg hm]
      by_cases h0 : lnS D u v = 0
      · rw [if_neg (fun y => y (lc_eq.mpr h0)), pt_e]
        exact one 100000 nt (by rw [e0, if_pos h0])
      · rw [if_pos (fun y => h0 (lc_eq.mp y)), gd_t h0, pt_e, e64 (x := lnW D u - lnN D u v) (by omega) (by omega), e64 (x := (lnW D u - lnN D u v) * 1000) (by omega) (by omega)]
        have t0 := tdiv_nn (x := (lnW D u - lnN D u v) * 1000) (y := lnS D u v) (by omega) sr.1
        have t1 := tdiv_le (x := (lnW D u - lnN D u v) * 1000) (y := lnS D u v) (by omega) (by omega)
        refine one _ nt ?_
        rw [e0, if_neg h0]
        generalize Int.tdiv ((lnW D u - lnN D u v) * 1000) (lnS D u v) = y at t0 t1 ⊢
        rw [e64 (by omega) (by omega)]
        unfold min_
        split <;> split <;> rw [e32 (by omega) (by omega)] <;> omega
theorem t_measure {h : Hp} {s p β u v : Int} {D : Hp} (hL : LAY h) (hs : s ∈ in_aX25) (G : lnG h s p β D) (O : lnO D) (M : lnM h s D (D 6 0)) (hA : ∀ g, LAY g → (∀ b, s + 1 ≤ b → b ≤ s + 49 → g b = h b) → m_X24_of (s + 1) (h (s + 55) p) 8 g = some (D 6 3)) (u0 : 0 ≤ u) (uv : u < v) (v1 : v ≤ D 6 0) :
    Pz (m_X25_measure s p u v h) (fun g' => F2 (mfW s) h g' ∧ msT g' s D u v) := by
  have hs' : 671 ≤ s ∧ s ≤ 825 := by have := aX25 hs; omega
  have m6 := O.1
  obtain ⟨⟨e1, e2, e3, e4, e5⟩, ⟨e6, e7, e8, e9⟩, -, e10⟩ := id G
  obtain ⟨n, z, sr⟩ := ln_r O u0 uv v1
  have w := lnW_r (a := u) O
  have M_u := M u u0 (by omega)
  have M_v := M v (by omega) v1
  have M_w := M (v - 1) (by omega) (by omega)
  have o1 := O.2.2.1 u u0 (by omega)
  have o2 := O.2.2.1 v (by omega) v1
  have o3 := O.2.2.1 (v - 1) (by omega) (by omega)
  have o4 := (O.2.2.2 v (by omega) v1).2.1
  unfold m_X25_measure
  rw [q_typeOf hL hs G (by omega) (by omega) v1, Option.bind_some]
  have c104 := g_X25_104 hL hs
  have c105 := g_X25_105 hL hs
  have c16 := g_X25_16 hL hs
  have c27 := g_X25_27 hL hs
  simp only [c104, c105, c16, c27, e2]
  rw [e32 (x := v - 1) (by omega) (by omega), e32 (x := β + v) (by omega) (by omega), e32 (x := β + v - 1) (by omega) (by omega), M_u.1, M_v.1, M_w.2.1, M_u.2.1, (e10 v (by omega) v1).2.2.2.2.2]
  refine z_gd ⟨by decide, by omega, by omega⟩ (z_gd ⟨by decide, by omega, by omega⟩ (z_gd ⟨by decide, by omega, by omega⟩ (z_gd ⟨by decide, by omega, by omega⟩ (z_gd ⟨by decide, e6, by omega⟩ (z_gd ⟨by decide, by omega, by omega⟩ (z_pt ?_))))))
  have en : w64 (w64 (w64 (w64 (D 0 v - D 0 u) + D 1 (v - 1)) - D 1 u) + D 4 v) = lnN D u v := by
    unfold lnN at n ⊢
    rw [e64 (x := D 0 v - D 0 u) (by omega) (by omega), e64 (x := D 0 v - D 0 u + D 1 (v - 1)) (by omega) (by omega), e64 (x := D 0 v - D 0 u + D 1 (v - 1) - D 1 u) (by omega) (by omega), e64 (by omega) (by omega)]
    omega
  rw [en]
  have F1 : F2 (mfW s) h (up h s 112 (lnN D u v)) := F2.refl.put ⟨rfl, by decide, by decide⟩
  have a1 : up h s 112 (lnN D u v) s 112 = lnN D u v := up_s _ _ _ _
  generalize up h s 112 (lnN D u v) = g1 at F1 a1 ⊢
  have keep : ∀ {g}, F2 (mfW s) h g → LAY g ∧ lnG g s p β D ∧ (∀ b, s + 1 ≤ b → b ≤ s + 153 → g b = h b) := fun {g} Fg => ⟨mfW_l hL hs Fg, G.kept (fun b b0 b1 => Fg.row (fun j z => by unfold mfW at z; omega)), fun b b0 b1 => Fg.row (fun j z => by unfold mfW at z; omega)⟩
  obtain ⟨L1, G1, R1⟩ := keep F1
  have go : ∀ f, (u = 0 ∧ f = 1) ∨ (u ≠ 0 ∧ f = 0) → Pz (m_X25_measure_j69 (D 5 v) v s p u f g1) (fun g' => F2 (mfW s) h g' ∧ msT g' s D u v) := by
    intro f hf
    unfold m_X25_measure_j69
    rw [q_lineWidth L1 hs G1 O hf, Option.bind_some, pt_e]
    have F2_ : F2 (mfW s) h (up g1 s 113 (lnW D u)) := F1.put ⟨rfl, by decide, by decide⟩
    have b1 : up g1 s 113 (lnW D u) s 112 = lnN D u v := by rw [up_f (by decide)]; exact a1
    have b2 : up g1 s 113 (lnW D u) s 113 = lnW D u := up_s _ _ _ _
    generalize up g1 s 113 (lnW D u) = g2 at F2_ b1 b2 ⊢
    obtain ⟨L2, G2, R2⟩ := keep F2_
    have c12 := g_X25_12 L2 hs
    have c0 := g_X25_0 L2 hs
    simp only [c12, c0, R2 (s + 55) (by omega) (by omega)]
    refine z_gd ⟨by decide, e6, by omega⟩ (z_gd trivial ?_)
    rw [hA g2 L2 (fun b x0 x1 => R2 b x0 (by omega)), Option.bind_some]
    -- stretch and shrink
    have st : ∀ J S, S = lnS D u v → ((J = 0 ∧ D 6 3 ≠ 0) ∨ (J ≠ 0 ∧ D 6 3 = 0)) → Pz (m_X25_measure_j128 J (D 5 v) s p u v S g2) (fun g' => F2 (mfW s) h g' ∧ msT g' s D u v) := by
      intro J S hS hJ
      unfold m_X25_measure_j128
      rw [pt_e]
      have F3 : F2 (mfW s) h (up g2 s 114 S) := F2_.put ⟨rfl, by decide, by decide⟩
      have d1 : up g2 s 114 S s 112 = lnN D u v := by rw [up_f (by decide)]; exact b1
      have d2 : up g2 s 114 S s 113 = lnW D u := by rw [up_f (by decide)]; exact b2
      have d3 : up g2 s 114 S s 114 = lnS D u v := by rw [up_s]; exact hS
      generalize up g2 s 114 S = g3 at F3 d1 d2 d3 ⊢
      obtain ⟨L3, G3, R3⟩ := keep F3
      have fin := fun Z hZ => z_mono (t_ms156 (Z := Z) L3 hs G3 O u0 uv v1 d1 d2 d3 hZ) (fun g' hg' => (⟨F3.trans hg'.1, hg'.2⟩ : F2 (mfW s) h g' ∧ msT g' s D u v))
      rcases hJ with ⟨hJ, al⟩ | ⟨hJ, al⟩
      · rw [if_pos hJ]
        exact fin 0 (by unfold lnZ; rw [if_neg al])
      · rw [if_neg hJ]
        have c107 := g_X25_107 L3 hs
        simp only [c107, R3 (s + 135) (by omega) (by omega)]
        rw [e32 (x := v - 1) (by omega) (by omega), M_w.2.2.2, M_u.2.2.2, e64 (x := D 3 (v - 1) - D 3 u) (by omega) (by omega)]
        refine z_gd ⟨by decide, by omega, by omega⟩ (z_gd ⟨by decide, by omega, by omega⟩ ?_)
        exact fin _ (by unfold lnZ; rw [if_pos al])
    unfold m_X25_measure_j98
    by_cases al : D 6 3 = 0
    · rw [if_neg (fun y => y al), if_neg (by decide)]
      have c106 := g_X25_106 L2 hs
      simp only [c106, R2 (s + 134) (by omega) (by omega)]
      rw [e32 (x := v - 1) (by omega) (by omega), M_w.2.2.1, M_u.2.2.1, e64 (x := D 2 (v - 1) - D 2 u) (by omega) (by omega)]
      refine z_gd ⟨by decide, by omega, by omega⟩ (z_gd ⟨by decide, by omega, by omega⟩ ?_)
      exact st 1 _ (by unfold lnS; rw [if_pos al]) (Or.inr ⟨by decide, al⟩)
    · rw [if_pos al, if_pos rfl, b2]
      exact st 0 _ (by unfold lnS; rw [if_neg al]) (Or.inl ⟨rfl, al⟩)
  by_cases hu : u = 0
  · rw [if_neg (fun y => y hu)]
    exact go 1 (Or.inl ⟨hu, rfl⟩)
  · rw [if_pos hu]
    exact go 0 (Or.inr ⟨hu, rfl⟩)
