-- needs: 99zzzzd
set_option maxRecDepth 100000
/-! LINES: the reference measures a line: all of it -/
theorem up_f {h : Hp} {s i v j : Int} (n : j ≠ i) : up h s i v s j = h s j := up_i n
/-- the last steps: the cost -/
theorem t_ms488 {g : Hp} {s p β u v x y : Int} {D : Hp} (hL : LAY g) (hs : s ∈ in_aX25) (G : lnG g s p β D) (O : lnO D) (u0 : 0 ≤ u) (uv : u < v) (v1 : v ≤ D 6 0) (r : 0 ≤ x + y ∧ x + y ≤ 60000000000) :
    Pz (m_X25_measure_j488 s p u v (D 5 v) x y g) (fun g' => F2 (fun b j => b = s ∧ j = 116) g g' ∧ g' s 116 = x + y + (if 0 < u ∧ (D 5 u = 1 ∨ D 5 u = 2) then (if D 5 v = 1 ∨ D 5 v = 2 then 3000 else if v = D 6 0 then 5000 else 0) else 0)) := by
  have hs' : 671 ≤ s ∧ s ≤ 825 := by have := aX25 hs; omega
  have m6 := O.1
  have k3 := (O.2.2.2 v (by omega) v1).2.2
  unfold m_X25_measure_j488
  rw [pt_e, e64 (x := x + y) (by omega) (by omega)]
  have F1 : F2 (fun b j => b = s ∧ j = 116) g (up g s 116 (x + y)) := F2.refl.put ⟨rfl, rfl⟩
  have L1 := mfW_l hL hs (F1.mono (fun b j z => ⟨z.1, by omega, by omega⟩))
  have G1 := G.kept (h' := up g s 116 (x + y)) (fun b b0 b1 => up_row (by omega))
  rw [q_isParted L1 hs G1 (by omega) u0 (by omega), Option.bind_some]
  by_cases hu : 0 < u ∧ (D 5 u = 1 ∨ D 5 u = 2)
  · rw [if_pos hu, if_pos hu, if_neg (by decide), q_isParted L1 hs G1 (by omega) (by omega) v1, Option.bind_some, up_s]
    by_cases hv : D 5 v = 1 ∨ D 5 v = 2
    · rw [if_pos (show 0 < v ∧ (D 5 v = 1 ∨ D 5 v = 2) from ⟨by omega, hv⟩), if_neg (show ¬ (1 : Int) = 0 by decide), if_pos hv, pt_e, e64 (x := x + y + 3000) (by omega) (by omega)]
      exact z_some ⟨F1.put ⟨rfl, rfl⟩, up_s _ _ _ _⟩
    · rw [if_neg (show ¬ (0 < v ∧ (D 5 v = 1 ∨ D 5 v = 2)) from fun z => hv z.2), if_pos rfl, if_neg hv]
      by_cases hm : v = D 6 0
      · rw [if_neg (fun z => z (k3.2.mpr hm)), if_pos hm, pt_e, e64 (x := x + y + 5000) (by omega) (by omega)]
        exact z_some ⟨F1.put ⟨rfl, rfl⟩, up_s _ _ _ _⟩
      · rw [if_pos (fun z => hm (k3.2.mp z)), if_neg hm, pt_e, Int.add_zero, e64 (x := x + y) (by omega) (by omega)]
        exact z_some ⟨F1.put ⟨rfl, rfl⟩, up_s _ _ _ _⟩
  · rw [if_neg hu, if_neg hu, if_pos rfl, Int.add_zero]
    exact z_some ⟨F1, up_s _ _ _ _⟩
/-- from the ratio on -/
theorem t_ms316 {g : Hp} {s p β u v : Int} {D : Hp} (hL : LAY g) (hs : s ∈ in_aX25) (G : lnG g s p β D) (O : lnO D) (u0 : 0 ≤ u) (uv : u < v) (v1 : v ≤ D 6 0) (e1 : g s 112 = lnN D u v ∧ g s 113 = lnW D u ∧ g s 114 = lnS D u v ∧ g s 115 = lnZ D u v) (e2 : g s 117 = @ite _ (lnT D u v) (Classical.propDecidable _) (-1000) (lnR0 D u v)) (e3 : is01 (g s 120) (lnT D u v)) :
    Pz (m_X25_measure_j316 s p u v (D 5 v) g) (fun g' => F2 (mfW s) g g' ∧ msT g' s D u v) := by
  have hs' : 671 ≤ s ∧ s ≤ 825 := by have := aX25 hs; omega
  have m6 := O.1
  have k3 := (O.2.2.2 v (by omega) v1).2.2
  obtain ⟨n, z, sr⟩ := ln_r O u0 uv v1
  have w := lnW_r (a := u) O
  have bd := lnB_r O u0 uv v1
  have sq := sq_r (x := 10 + lnB D u v) (by omega) (by omega)
  have qr := lnQ_r O u0 uv v1
  -- class and cost
  have tail : ∀ g' B C, F2 (mfW s) g g' → g' s 112 = lnN D u v → g' s 113 = lnW D u → g' s 114 = lnS D u v → g' s 115 = lnZ D u v → g' s 117 = @ite _ (lnT D u v) (Classical.propDecidable _) (-1000) (lnR0 D u v) → g' s 120 = g s 120 → g' s 118 = B → B = lnB D u v → C = lnC D u v → Pz (m_X25_measure_j410 s p u v (D 5 v) C g') (fun g' => F2 (mfW s) g g' ∧ msT g' s D u v) := by
    intro g' B C F' a1 a2 a3 a4 a5 a6 a7 hB hC
    unfold m_X25_measure_j410
    rw [pt_e]
    have F1 : F2 (mfW s) g (up g' s 119 C) := F'.put ⟨rfl, by decide, by decide⟩
    have b8 : up g' s 119 C s 118 = lnB D u v := by rw [up_f (by decide), a7]; exact hB
    have b1 : up g' s 119 C s 112 = lnN D u v := by rw [up_f (by decide)]; exact a1
    have b2 : up g' s 119 C s 113 = lnW D u := by rw [up_f (by decide)]; exact a2
    have b3 : up g' s 119 C s 114 = lnS D u v := by rw [up_f (by decide)]; exact a3
    have b4 : up g' s 119 C s 115 = lnZ D u v := by rw [up_f (by decide)]; exact a4
    have b5 : up g' s 119 C s 117 = @ite _ (lnT D u v) (Classical.propDecidable _) (-1000) (lnR0 D u v) := by rw [up_f (by decide)]; exact a5
    have b6 : up g' s 119 C s 120 = g s 120 := by rw [up_f (by decide)]; exact a6
    have b9 : up g' s 119 C s 119 = lnC D u v := by rw [up_s]; exact hC
    generalize up g' s 119 C = g1 at F1 b1 b2 b3 b4 b5 b6 b8 b9 ⊢
    have L1 := mfW_l hL hs F1
    have G1 := G.kept (h' := g1) (fun b b0 b1 => F1.row (fun j z => by unfold mfW at z; omega))
    rw [b8, e64 (x := 10 + lnB D u v) (by omega) (by omega), e64 (x := (10 + lnB D u v) * (10 + lnB D u v)) (by omega) (by omega)]
    have go : ∀ y, y = (if D 5 v = 1 then 2500 else 0) + (if D 5 v = 2 then 900 else 0) → Pz (m_X25_measure_j458 s p u v (D 5 v) ((10 + lnB D u v) * (10 + lnB D u v)) y g1) (fun g' => F2 (mfW s) g g' ∧ msT g' s D u v) := by
      intro y hy
      have y0 : 0 ≤ y ∧ y ≤ 3400 := by rw [hy]; split <;> split <;> omega
      unfold m_X25_measure_j458
      rw [b6, e64 (x := (10 + lnB D u v) * (10 + lnB D u v) + y) (by omega) (by omega), b1, b4, b2]
      have fin : ∀ t, t = @ite _ (lnT D u v) (Classical.propDecidable _) (1000000000 + lnN D u v - lnZ D u v - lnW D u) 0 → 0 ≤ t → t ≤ 32000000000 → Pz (m_X25_measure_j488 s p u v (D 5 v) ((10 + lnB D u v) * (10 + lnB D u v) + y) t g1) (fun g' => F2 (mfW s) g g' ∧ msT g' s D u v) := by
        intro t ht t0 t1
        refine z_mono (t_ms488 L1 hs G1 O u0 uv v1 (by omega)) (fun g2 hg2 => ⟨F1.trans (hg2.1.mono (fun b j z => ⟨z.1, by omega, by omega⟩)), ⟨?_, ?_, ?_, ?_⟩, ?_, ?_, ?_, ?_, ?_⟩)
        · rw [hg2.1 _ _ (fun z => by omega)]; exact b1
        · rw [hg2.1 _ _ (fun z => by omega)]; exact b2
        · rw [hg2.1 _ _ (fun z => by omega)]; exact b3
        · rw [hg2.1 _ _ (fun z => by omega)]; exact b4
        · rw [hg2.2]
          unfold lnQ
          rw [hy, ht]
          omega
        · rw [hg2.1 _ _ (fun z => by omega)]; exact b5
        · rw [hg2.1 _ _ (fun z => by omega)]; exact b8
        · rw [hg2.1 _ _ (fun z => by omega)]; exact b9
        · rw [hg2.1 _ _ (fun z => by omega), b6]; exact e3
      rcases e3 with ⟨t1, t2⟩ | ⟨t1, t2⟩
      · have tt := t2
        obtain ⟨tt1, tt2⟩ := tt
        rw [if_neg (by omega), e64 (x := 1000000000 + lnN D u v) (by omega) (by omega), e64 (x := 1000000000 + lnN D u v - lnZ D u v) (by omega) (by omega), e64 (x := 1000000000 + lnN D u v - lnZ D u v - lnW D u) (by omega) (by omega)]
        exact fin _ (by rw [if_pos t2]) (by omega) (by omega)
      · rw [if_pos t1]
        exact fin 0 (by rw [if_neg t2]) (Int.le_refl _) (by decide)
    by_cases h1 : D 5 v = 1
    · rw [if_neg (fun z => z h1)]
      exact go 2500 (by rw [if_pos h1, if_neg (by omega)]; rfl)
    · rw [if_pos h1]
      by_cases h2 : D 5 v = 2
      · rw [if_neg (fun z => z h2)]
        exact go 900 (by rw [if_neg h1, if_pos h2]; rfl)
      · rw [if_pos h2]
        exact go 0 (by rw [if_neg h1, if_neg h2]; rfl)
  have mid : ∀ B, B = lnB D u v → Pz (m_X25_measure_j363 s p u v (D 5 v) B g) (fun g' => F2 (mfW s) g g' ∧ msT g' s D u v) := by
    intro B hB
    unfold m_X25_measure_j363
    rw [pt_e]
    have F1 : F2 (mfW s) g (up g s 118 B) := F2.refl.put ⟨rfl, by decide, by decide⟩
    have a5 : up g s 118 B s 117 = @ite _ (lnT D u v) (Classical.propDecidable _) (-1000) (lnR0 D u v) := by rw [up_f (by decide)]; exact e2
    have tl := fun C => tail (up g s 118 B) B C F1 (by rw [up_f (by decide)]; exact e1.1) (by rw [up_f (by decide)]; exact e1.2.1) (by rw [up_f (by decide)]; exact e1.2.2.1) (by rw [up_f (by decide)]; exact e1.2.2.2) a5 (by rw [up_f (by decide)]) (up_s _ _ _ _) hB
    rw [a5]
    by_cases ht : lnT D u v
    · have eC : lnC D u v = 0 := by unfold lnC lnR; rw [if_pos ht]; rfl
      rw [if_pos ht, if_neg (by decide)]
      exact tl 0 eC.symm
    · have eR : lnR D u v = lnR0 D u v := by unfold lnR; rw [if_neg ht]
      rw [if_neg ht]
      have eC : lnC D u v = clsI (lnR0 D u v) := by unfold lnC; rw [eR]
      unfold clsI at eC
      by_cases c1 : -500 ≤ lnR0 D u v
      · rw [if_pos c1] at eC ⊢
        by_cases c2 : 500 < lnR0 D u v
        · rw [if_pos c2] at eC ⊢
          by_cases c3 : 1000 < lnR0 D u v
          · rw [if_pos c3] at eC ⊢; exact tl 3 eC.symm
          · rw [if_neg c3] at eC ⊢; exact tl 2 eC.symm
        · rw [if_neg c2] at eC ⊢; exact tl 1 eC.symm
      · rw [if_neg c1] at eC ⊢; exact tl 0 eC.symm
  unfold m_X25_measure_j316
  rw [lt_e]
  rcases e3 with ⟨t1, t2⟩ | ⟨t1, t2⟩
  · rw [if_neg (by omega)]
    exact mid 10000 (by unfold lnB; rw [if_pos t2])
  · rw [if_pos t1, e2, if_neg t2]
    have r := lnR0_r O u0 uv v1 t2
    rw [q_bad25 (by omega) (by omega)]
    exact mid _ (by unfold lnB; rw [if_neg t2])
