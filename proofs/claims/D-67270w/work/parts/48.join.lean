set_option maxRecDepth 100000
theorem join_tail {n : Int} {B : Int → Int} {f l : Int} {hc ht c3 d3 : Hp} {nk nj i i3 a b k : Int} (hf : f ∈ in_aX8) (hl : l ∈ in_aX19) (c : CS c3 n B i3) (d : TS d3 (l + 7) 496 n B i3) (r : RF c3 d3 f l nk nj) (a0 : 0 ≤ a) (a1 : a < 128) (b0 : 0 ≤ b) (b1 : b < 128)
    (hk : (0 ≤ k ∧ k < nj ∧ d3 (l + 5) k = 256 * a + b) ∨ (k = -1 ∧ ∀ j, 0 ≤ j → j < nj → d3 (l + 5) j ≠ 256 * a + b)) (hk2 : k = -1 → nj < 60) (gA : F2 (fcW f) hc c3) (gB : F2 (ftW l) ht d3) (hi : i < i3) :
    Pr (gd (c3 (c3 f 3) (-2) % 16 = 1 ∧ (0 : Int) ≤ 128 * a + b ∧ 128 * a + b < c3 (c3 f 3) (-1)) (if (c3 (c3 f 3) (128 * a + b)) ≠ 0 then (m_X8_read_j268 f 3 nk (128 * a + b) nj c3)
      else (lt_ (w32 (nj + 1)) fun x3_265 => m_X8_read_j268 f 3 nk (128 * a + b) x3_265 c3))) (m_X19_one_j300 k (256 * a + b) l d3) (FO n B f l hc ht i) := by
  have hf' := aX8 hf
  have hl' := aX19 hl
  obtain ⟨-, -, -, -, ⟨u1, u2, u3⟩⟩ := ly_X8 c.1 hf
  have kn := pr_known r.2.2.2.2.2.2 a0 a1 b0 b1 (Or.inl (by decide)) hk
  rw [u1]
  refine yl_gd ⟨by rw [u2]; decide, by omega, by rw [u3]; omega⟩ ?_
  unfold m_X19_one_j300
  obtain ⟨-, -, -, -, -, -, -, t8, t9, -⟩ := ly_X19 d.1 hl
  rw [t8]
  refine yr_gd t9 ?_
  have hq := cs_ok c
  have hge := tk_ge c
  -- the number, the stores; nj' of them then
  have tail : ∀ nj' : Int, (0 ≤ k → nj' = nj) → (k = -1 → nj' = nj + 1) → Pr (m_X8_read_j268 f 3 nk (128 * a + b) nj' c3) (bT (m_X20_needNumber (l + 7) 0 5000 d3) (fun v308 h308 =>
      if 0 ≤ k then (m_X19_one_j334 v308 l (256 * a + b) k h308)
      else (lt_ (h308 l 3) fun x4_322 =>
      pt h308 l 3 (w32 ((h308 l 3) + 1)) fun h331 =>
      m_X19_one_j334 v308 l (256 * a + b) x4_322 h331)) (fun a_ h_ => some ((1, a_), h_))) (FO n B f l hc ht i) := by
    intro nj' hn1 hn2
    unfold m_X8_read_j268
    rw [u1]
    refine y_num c d (fun p1 c5 d5 s1 s2 s3 s4 => ?_) (fun rc rt z1 z2 => fo_thr hf hl z1 z2 gA gB)
    have r5 := r.nx hf hl s1 s3
    have gA5 := gA.trans (s1.mono (fun b j z => (Or.inr (Or.inr z) : fcW f b j)))
    have gB5 := gB.trans (s3.mono (fun b j z => (Or.inr (Or.inr z) : ftW l b j)))
    have hi5 : i < (tk B i3).2.2.1 := by have := hq.2.2.1; omega
    generalize (tk B i3).2.2.1 = i5 at *
    generalize (tk B i3).2.2.2 = v at *
    have rowO : d5 (l + 5) = d3 (l + 5) := s3.row (fun j z => by have := z.1; omega)
    have hk5 : (0 ≤ k ∧ k < nj ∧ d5 (l + 5) k = 256 * a + b) ∨ (k = -1 ∧ ∀ j, 0 ≤ j → j < nj → d5 (l + 5) j ≠ 256 * a + b) := by rw [rowO]; exact hk
    obtain ⟨-, -, -, -, ⟨v1, v2, v3⟩⟩ := ly_X8 s2.1 hf
    obtain ⟨w0, -⟩ := ly_X19 s4.1 hl
    refine yl_pt ?_
    rw [e32 (x := 1 + v) (by omega) (by omega)]
    have C6 := cs_put (v := 1 + v) s2 (b := f + 4) (j := 128 * a + b) (by omega) (by omega) (by rw [v2]; exact fx_a (by decide) (by decide))
    have gA6 : F2 (fcW f) hc (up c5 (f + 4) (128 * a + b) (1 + v)) := gA5.put (Or.inr (Or.inl ⟨by omega, by omega, by omega⟩))
    have right : ∀ (d6 : Hp) (kk nj' : Int), TS d6 (l + 7) 496 n B i5 → F2 (ftW l) ht d6 → 0 ≤ kk → kk < 60 → RF (up c5 (f + 4) (128 * a + b) (1 + v)) (up (up d6 (l + 5) kk (256 * a + b)) (l + 6) kk v) f l nk nj' →
        Pr (m_X8_read_j293 3 nk nj' (up c5 (f + 4) (128 * a + b) (1 + v))) (m_X19_one_j334 v l (256 * a + b) kk d6) (FO n B f l hc ht i) := by
      intro d6 kk nj' D6 G6 k0 k1 R6
      obtain ⟨-, -, -, -, -, ⟨y1, y2, y3⟩, -, -, -, -⟩ := ly_X19 D6.1 hl
      unfold m_X19_one_j334
      rw [y1]
      refine yr_gd ⟨by rw [y2]; decide, by omega, by rw [y3]; omega⟩ (yr_pt ?_)
      have D7 := ts_put (v := 256 * a + b) D6 (b := l + 5) (j := kk) (by omega) (by omega) (by omega) (by omega) (by rw [y2]; exact fx_a (by decide) (by decide))
      obtain ⟨-, -, -, -, -, -, ⟨z4, z5, z6⟩, -, -, -⟩ := ly_X19 D7.1 hl
      have D8 := ts_put (v := v) D7 (b := l + 6) (j := kk) (by omega) (by omega) (by omega) (by omega) (by rw [z5]; exact fx_a (by decide) (by decide))
      obtain ⟨-, -, -, -, -, -, -, q8, q9, -⟩ := ly_X19 D8.1 hl
      have G8 : F2 (ftW l) ht (up (up d6 (l + 5) kk (256 * a + b)) (l + 6) kk v) := (G6.put (Or.inr (Or.inl ⟨by omega, by omega, by omega⟩))).put (Or.inr (Or.inl ⟨by omega, by omega, by omega⟩))
      rw [z4]
      refine yr_gd ⟨by rw [z5]; decide, by omega, by rw [z6]; omega⟩ (yr_pt ?_)
      rw [q8]
      exact yr_gd q9 (fo_semi hf hl C6 D8 R6 hi5 gA6 G8)
    obtain ⟨g1, g2, g3, g4, ⟨g5, g5a, g5b⟩, g6, g7⟩ := r5
    have rowC : ∀ bb, bb ≠ f + 4 → up c5 (f + 4) (128 * a + b) (1 + v) bb = c5 bb := fun bb hb => up_row hb
    by_cases hk0 : 0 ≤ k
    · rw [hn1 hk0]
      obtain ⟨m0, m1, m2⟩ : 0 ≤ k ∧ k < nj ∧ d5 (l + 5) k = 256 * a + b := by
        rcases hk5 with z | z
        · exact z
        · omega
      refine yr_it hk0 (right d5 k nj s4 gB5 hk0 (by omega) ?_)
      have rowT : ∀ bb, bb ≠ l + 5 → bb ≠ l + 6 → up (up d5 (l + 5) k (256 * a + b)) (l + 6) k v bb = d5 bb := fun bb b1 b2 => by rw [up_row b2, up_row b1]
      have eO : up (up d5 (l + 5) k (256 * a + b)) (l + 6) k v (l + 5) = d5 (l + 5) := by
        rw [up_row (by omega)]
        funext j
        by_cases hj : j = k
        · rw [hj, up_s, m2]
        · rw [up_i hj]
      refine ⟨?_, ?_, ?_, ?_, ?_, ?_, ?_⟩
      · rw [rowC _ (by omega), rowC _ (by omega), rowT _ (by omega) (by omega), rowT _ (by omega) (by omega)]; exact g1
      · rw [rowT _ (by omega) (by omega)]; exact g2
      · rw [rowC _ (by omega), rowC _ (by omega)]; exact g3
      · rw [rowT _ (by omega) (by omega)]; exact g4
      · rw [rowT _ (by omega) (by omega)]; exact ⟨g5, g5a, g5b⟩
      · exact g6.kept (rowC _ (by omega)) (rowT _ (by omega) (by omega)) (rowT _ (by omega) (by omega))
      · exact g7.again m0 m1 a0 a1 b0 b1 m2 (by omega) (by omega) (by rw [up_s]; omega) (fun j hj => up_i hj) eO (up_s _ _ _ _) (fun j hj => by rw [up_i hj, up_a (by omega)])
    · have hkm : k = -1 ∧ ∀ j, 0 ≤ j → j < nj → d5 (l + 5) j ≠ 256 * a + b := by
        rcases hk5 with z | z
        · omega
        · exact z
      have hn := hk2 hkm.1
      rw [hn2 hkm.1]
      refine yr_ie hk0 (yr_lt (yr_pt ?_))
      rw [g5, e32 (x := nj + 1) (by omega) (by omega)]
      have D6 := ts_put (v := nj + 1) s4 (b := l) (j := 3) (by omega) (by omega) (by omega) (by omega) (by rw [w0]; decide)
      have G6 : F2 (ftW l) ht (up d5 l 3 (nj + 1)) := gB5.put (Or.inl ⟨rfl, Or.inr rfl⟩)
      refine right (up d5 l 3 (nj + 1)) nj (nj + 1) D6 G6 g5a hn ?_
      have rowT : ∀ bb, bb ≠ l → bb ≠ l + 5 → bb ≠ l + 6 → up (up (up d5 l 3 (nj + 1)) (l + 5) nj (256 * a + b)) (l + 6) nj v bb = d5 bb := fun bb b0 b1 b2 => by rw [up_row b2, up_row b1, up_row b0]
      refine ⟨?_, ?_, ?_, ?_, ?_, ?_, ?_⟩
      · rw [rowC _ (by omega), rowC _ (by omega), rowT _ (by omega) (by omega) (by omega), rowT _ (by omega) (by omega) (by omega)]; exact g1
      · rw [rowT _ (by omega) (by omega) (by omega)]; exact g2
      · rw [rowC _ (by omega), rowC _ (by omega)]; exact g3
      · rw [up_a (by omega), up_a (by omega), up_i (by omega)]; exact g4
      · refine ⟨?_, by omega, by omega⟩
        rw [up_a (by omega), up_a (by omega), up_s]
      · exact g6.kept (rowC _ (by omega)) (rowT _ (by omega) (by omega) (by omega)) (rowT _ (by omega) (by omega) (by omega))
      · refine g7.more g5a a0 a1 b0 b1 hkm.2 (by omega) (by omega) (by rw [up_s]; omega) (fun j hj => up_i hj) ?_ (fun j hj => ?_) (up_s _ _ _ _) (fun j hj => ?_)
        · rw [up_a (by omega), up_s]
        · rw [up_a (by omega), up_i hj, up_a (by omega)]
        · rw [up_i hj, up_a (by omega), up_a (by omega)]
  by_cases hk0 : 0 ≤ k
  · rw [if_pos (kn.mpr hk0)]
    exact tail nj (fun _ => rfl) (fun z => by omega)
  · rw [if_neg (fun z => hk0 (kn.mp z))]
    have hkm : k = -1 := by rcases hk with z | z <;> omega
    have hn := hk2 hkm
    have g5 := r.2.2.2.2.1
    refine yl_lt ?_
    rw [e32 (x := nj + 1) (by omega) (by omega)]
    exact tail (nj + 1) (fun z => absurd z hk0) (fun _ => rfl)
/-- a pair of strings: both sides find the same -/
theorem fo_kern {n : Int} {B : Int → Int} {f l : Int} {hc ht : Hp} {nk nj i : Int} (hf : f ∈ in_aX8) (hl : l ∈ in_aX19) (c : CS hc n B i) (d : TS ht (l + 7) 496 n B i) (r : RF hc ht f l nk nj) (h5 : (tk B i).1 = 1) :
    Pr ((m_X2_next 3 hc).bind fun h90 =>
      bT (m_X8_one 3 h90) (fun v94 h94 =>
      bT (m_X8_two 3 h94) (fun v106 h106 =>
      lt_ (w32 ((w32 (128 * v94)) + v106)) fun x5_110 =>
      gd (h106 (h106 f 2) (-2) % 16 = 1 ∧ (0 : Int) ≤ x5_110 ∧ x5_110 < h106 (h106 f 2) (-1)) (if (h106 (h106 f 2) x5_110) ≠ 1000 then (m_X8_read_j137 x5_110 nj f 3 nk h106)
      else (if nk ≠ 200 then (m_X8_read_j137 x5_110 nj f 3 nk h106)
      else (bW (m_X2_broken 3 h106) fun v133 h133 =>
      gd (0 < v133) (some (.inr ((1, v133), h133))))))) (fun a_ h_ => some (.inr ((1, a_), h_)))) (fun a_ h_ => some (.inr ((1, a_), h_))))
    ((m_X20_next (l + 7) ht).bind fun h67 =>
      bT (m_X19_single l h67) (fun v71 h71 =>
      gd (h71 (h71 l 8) (-2) = 336) (lt_ (h71 (h71 l 8) 4) fun x2_82 =>
      bT (m_X19_single l h71) (fun v89 h89 =>
      lt_ (w32 ((w32 (256 * v71)) + v89)) fun x3_93 =>
      (m_X19_find (h89 l 4) (h89 l 2) x3_93 h89).bind fun v103 =>
      if 0 ≤ v103 then (m_X19_one_j132 v103 x3_93 l h89)
      else (if (h89 l 2) ≠ 200 then (m_X19_one_j132 v103 x3_93 l h89)
      else (al h89 448 7 fun a123 h123 =>
      (x_broken a123 x2_82 h123).bind fun h128 =>
      some ((1, a123), h128)))) (fun a_ h_ => some ((1, a_), h_)))) (fun a_ h_ => some ((1, a_), h_))) (FO n B f l hc ht (tk B i).2.1) := by
  have hq0 := cs_ok c
  have hge0 := tk_ge c
  have hn0 := hq0.2.2.2.2.2.2.1 h5
  have hf' := aX8 hf
  have hl' := aX19 hl
  refine y_next c d (by omega) (fun c1 d1 k1 k2 k3 k4 => ?_)
  have r1 := r.nx hf hl k1 k3
  have hge1 := tk_ge k2
  have hq1 := (cs_ok k2).2.2.1
  refine y_one hl k2 k4 (fun o1 c2 d2 m1 m2 m3 m4 => ?_) (fun rc rt z1 z2 => fo_thr hf hl z1 z2 (k1.mono (fun b j z => Or.inr (Or.inr z))) (k3.mono (fun b j z => Or.inr (Or.inr z))))
  have r2 := r1.nx hf hl m1 m3
  have hcA := cs_ch k2 o1
  have hge2 := tk_ge m2
  have hq2 := (cs_ok m2).2.2.1
  have gA : F2 (fcW f) hc c2 := (k1.trans m1).mono (fun b j z => Or.inr (Or.inr z))
  have gB : F2 (ftW l) ht d2 := (k3.trans m3).mono (fun b j z => Or.inr (Or.inr z))
  generalize B ((tk B (tk B i).2.2.1).2.1 + 1) = a at *
  generalize hi2 : (tk B (tk B i).2.2.1).2.2.1 = i2 at *
  obtain ⟨-, -, -, -, -, -, -, t8, t9, -⟩ := ly_X19 m4.1 hl
  rw [t8]
  refine yr_gd t9 (yr_lt ?_)
  rw [m4.2.2.2.1.2.1]
  refine y_two hl m2 m4 (fun o2 d3 s1 s2 => ?_) (fun rc rt z1 z2 => fo_thr hf hl z1 z2 gA gB)
  have hcB := cs_ch m2 o2
  have hge3 : i2 ≤ (tk B i2).2.1 := hge2
  have gB3 : F2 (ftW l) ht d3 := gB.trans (s1.mono (fun b j z => Or.inr (Or.inr z)))
  have r3 := r2.nx hf hl F2.refl s1
  generalize B ((tk B i2).2.1 + 1) = b at *
  refine yl_lt (yr_lt ?_)
  rw [e32 (x := 128 * a) (by omega) (by omega), e32 (x := 128 * a + b) (by omega) (by omega), e32 (x := 256 * a) (by omega) (by omega), e32 (x := 256 * a + b) (by omega) (by omega)]
  obtain ⟨u0, -, -, ⟨u1, u2, u3⟩, -⟩ := ly_X8 m2.1 hf
  obtain ⟨w0, -, -, ⟨w1, w2, w3⟩, -⟩ := ly_X19 s2.1 hl
  obtain ⟨g4, g4a, g4b⟩ := r3.2.2.2.1
  rw [u1, w1, g4]
  refine yl_gd ⟨by rw [u2]; decide, by omega, by rw [u3]; omega⟩ ?_
  refine yr_bind (z_mono (q_find (by rw [w2]; decide) (by rw [w3]; omega) g4a (by omega)) (fun k hk => ?_))
  have kn := pr_known r3.2.2.2.2.2.1 (a := a) (b := b) (by omega) (by omega) (by omega) (by omega) (Or.inr (by decide)) hk
  -- both go on
  have goOn : (k = -1 → nk < 200) → Pr (m_X8_read_j137 (128 * a + b) nj f 3 nk c2) (m_X19_one_j132 k (256 * a + b) l d3) (FO n B f l hc ht (tk B i).2.1) := by
    intro hk2
    unfold m_X8_read_j137
    refine yl_bind (z_mono (cs_next m2 (by rw [o2.1]; decide)) (fun c3 h3 => ?_))
    exact kern_tail hf hl h3.2 s2 (r3.nx hf hl h3.1 F2.refl) (by omega) (by omega) (by omega) (by omega) hk hk2 (gA.trans (h3.1.mono (fun b j z => Or.inr (Or.inr z)))) gB3 (by omega)
  by_cases hk0 : 0 ≤ k
  · exact yl_it (kn.mpr hk0) (yr_it hk0 (goOn (fun z => by omega)))
  · refine yl_ie (fun z => hk0 (kn.mp z)) (yr_ie hk0 ?_)
    by_cases h200 : nk = 200
    · refine yl_ie (fun z => z h200) (yr_ie (fun z => z h200) ?_)
      unfold m_X2_broken
      refine yl_bW (z_mono (brk m2.2.2.2.2.2.2.2 (by decide) (by decide) m2.2.2.2.2.1.2.1) (fun rc hr => ?_))
      refine yl_gd hr.1 ?_
      refine y_z (z_some (z_mono (brk1 s2.2.2.2.2.2.2.1) (fun rt ht2 => ?_)))
      have zc : Thr 432 (tk B i2).2.1 c2 ((1, rc.1), rc.2) := ⟨rfl, hr⟩
      refine Or.inr ⟨(tk B i2).2.1, _, rfl, zc.F gA ?_, ht2.F gB3 ?_⟩
      · intro j z; rcases z with z | z | z <;> have := z.1 <;> omega
      · intro j z; rcases z with z | z | z <;> have := z.1 <;> omega
    · exact yl_it h200 (yr_it h200 (goOn (fun _ => by omega)))
