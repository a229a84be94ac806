set_option maxRecDepth 100000
theorem fo_join {n : Int} {B : Int → Int} {f l : Int} {hc ht : Hp} {nk nj i : Int} (hf : f ∈ in_aX8) (hl : l ∈ in_aX19) (c : CS hc n B i) (d : TS ht (l + 7) 496 n B i) (r : RF hc ht f l nk nj) (h5 : (tk B i).1 = 1) :
    Pr ((m_X2_next 3 hc).bind fun h90 =>
      bT (m_X8_one 3 h90) (fun v94 h94 =>
      bT (m_X8_two 3 h94) (fun v106 h106 =>
      lt_ (w32 ((w32 (128 * v94)) + v106)) fun x5_110 =>
      gd (h106 (h106 f 3) (-2) % 16 = 1 ∧ (0 : Int) ≤ x5_110 ∧ x5_110 < h106 (h106 f 3) (-1)) (if (h106 (h106 f 3) x5_110) ≠ 0 then (m_X8_read_j251 x5_110 nj f 3 nk h106)
      else (if nj ≠ 60 then (m_X8_read_j251 x5_110 nj f 3 nk h106)
      else (bW (m_X2_broken 3 h106) fun v133 h133 =>
      gd (0 < v133) (some (.inr ((1, v133), h133))))))) (fun a_ h_ => some (.inr ((1, a_), h_)))) (fun a_ h_ => some (.inr ((1, a_), h_))))
    ((m_X20_next (l + 7) ht).bind fun h67 =>
      bT (m_X19_single l h67) (fun v71 h71 =>
      gd (h71 (h71 l 8) (-2) = 336) (lt_ (h71 (h71 l 8) 4) fun x2_82 =>
      bT (m_X19_single l h71) (fun v89 h89 =>
      lt_ (w32 ((w32 (256 * v71)) + v89)) fun x3_93 =>
      (m_X19_find (h89 l 6) (h89 l 3) x3_93 h89).bind fun v103 =>
      if 0 ≤ v103 then (m_X19_one_j300 v103 x3_93 l h89)
      else (if (h89 l 3) ≠ 60 then (m_X19_one_j300 v103 x3_93 l h89)
      else (al h89 448 7 fun a123 h123 =>
      (x_broken a123 x2_82 h123).bind fun h128 =>
      some ((1, a123), h128)))) (fun a_ h_ => some ((1, a_), h_)))) (fun a_ h_ => some ((1, a_), h_))) (FO n B f l hc ht (tk B i).2.1) := by
  have hq0 := cs_ok c
  have hge0 := tk_ge c
  have hn0 := hq0.2.2.2.2.2.2.1 h5
  have hf' := aX8 hf
  have hl' := aX19 hl
  refine y_next c d (by omega) (fun c1 d1 k1 k2 k3 k4 => ?_)
  have r1 := r.nx hf hl k1 k3
  have hge1 := tk_ge k2
  have hq1 := (cs_ok k2).2.2.1
  refine y_one hl k2 k4 (fun o1 c2 d2 m1 m2 m3 m4 => ?_) (fun rc rt z1 z2 => fo_thr hf hl z1 z2 (k1.mono (fun b j z => Or.inr (Or.inr z))) (k3.mono (fun b j z => Or.inr (Or.inr z))))
  have r2 := r1.nx hf hl m1 m3
  have hcA := cs_ch k2 o1
  have hge2 := tk_ge m2
  have hq2 := (cs_ok m2).2.2.1
  have gA : F2 (fcW f) hc c2 := (k1.trans m1).mono (fun b j z => Or.inr (Or.inr z))
  have gB : F2 (ftW l) ht d2 := (k3.trans m3).mono (fun b j z => Or.inr (Or.inr z))
  generalize B ((tk B (tk B i).2.2.1).2.1 + 1) = a at *
  generalize hi2 : (tk B (tk B i).2.2.1).2.2.1 = i2 at *
  obtain ⟨-, -, -, -, -, -, -, t8, t9, -⟩ := ly_X19 m4.1 hl
  rw [t8]
  refine yr_gd t9 (yr_lt ?_)
  rw [m4.2.2.2.1.2.1]
  refine y_two hl m2 m4 (fun o2 d3 s1 s2 => ?_) (fun rc rt z1 z2 => fo_thr hf hl z1 z2 gA gB)
  have hcB := cs_ch m2 o2
  have hge3 : i2 ≤ (tk B i2).2.1 := hge2
  have gB3 : F2 (ftW l) ht d3 := gB.trans (s1.mono (fun b j z => Or.inr (Or.inr z)))
  have r3 := r2.nx hf hl F2.refl s1
  generalize B ((tk B i2).2.1 + 1) = b at *
  refine yl_lt (yr_lt ?_)
  rw [e32 (x := 128 * a) (by omega) (by omega), e32 (x := 128 * a + b) (by omega) (by omega), e32 (x := 256 * a) (by omega) (by omega), e32 (x := 256 * a + b) (by omega) (by omega)]
  obtain ⟨u0, -, -, -, ⟨u1, u2, u3⟩⟩ := ly_X8 m2.1 hf
  obtain ⟨w0, -, -, -, -, ⟨w1, w2, w3⟩, -⟩ := ly_X19 s2.1 hl
  obtain ⟨g4, g4a, g4b⟩ := r3.2.2.2.2.1
  rw [u1, w1, g4]
  refine yl_gd ⟨by rw [u2]; decide, by omega, by rw [u3]; omega⟩ ?_
  refine yr_bind (z_mono (q_find (by rw [w2]; decide) (by rw [w3]; omega) g4a (by omega)) (fun k hk => ?_))
  have kn := pr_known r3.2.2.2.2.2.2 (a := a) (b := b) (by omega) (by omega) (by omega) (by omega) (Or.inl (by decide)) hk
  -- both go on
  have goOn : (k = -1 → nj < 60) → Pr (m_X8_read_j251 (128 * a + b) nj f 3 nk c2) (m_X19_one_j300 k (256 * a + b) l d3) (FO n B f l hc ht (tk B i).2.1) := by
    intro hk2
    unfold m_X8_read_j251
    refine yl_bind (z_mono (cs_next m2 (by rw [o2.1]; decide)) (fun c3 h3 => ?_))
    exact join_tail hf hl h3.2 s2 (r3.nx hf hl h3.1 F2.refl) (by omega) (by omega) (by omega) (by omega) hk hk2 (gA.trans (h3.1.mono (fun b j z => Or.inr (Or.inr z)))) gB3 (by omega)
  by_cases hk0 : 0 ≤ k
  · exact yl_it (kn.mpr hk0) (yr_it hk0 (goOn (fun z => by omega)))
  · refine yl_ie (fun z => hk0 (kn.mp z)) (yr_ie hk0 ?_)
    by_cases h200 : nj = 60
    · refine yl_ie (fun z => z h200) (yr_ie (fun z => z h200) ?_)
      unfold m_X2_broken
      refine yl_bW (z_mono (brk m2.2.2.2.2.2.2.2 (by decide) (by decide) m2.2.2.2.2.1.2.1) (fun rc hr => ?_))
      refine yl_gd hr.1 ?_
      refine y_z (z_some (z_mono (brk1 s2.2.2.2.2.2.2.1) (fun rt ht2 => ?_)))
      have zc : Thr 432 (tk B i2).2.1 c2 ((1, rc.1), rc.2) := ⟨rfl, hr⟩
      refine Or.inr ⟨(tk B i2).2.1, _, rfl, zc.F gA ?_, ht2.F gB3 ?_⟩
      · intro j z; rcases z with z | z | z <;> have := z.1 <;> omega
      · intro j z; rcases z with z | z | z <;> have := z.1 <;> omega
    · exact yl_it h200 (yr_it h200 (goOn (fun _ => by omega)))

/-- one line of the table: the component's loop body, the reference's method -/
theorem fo_line {n : Int} {B : Int → Int} {f l : Int} {hc ht : Hp} {nk nj i : Int} (hf : f ∈ in_aX8) (hl : l ∈ in_aX19) (c : CS hc n B i) (d : TS ht (l + 7) 496 n B i) (r : RF hc ht f l nk nj) (e : ∀ j, 0 ≤ j → j < n → hc 2 j = ht 496 j) (h0 : (tk B i).1 ≠ 0) :
    Pr (m_X8_read_l8 f 3 nk nj hc) (m_X19_one l ht) (FO n B f l hc ht (tk B i).2.1) := by
  have hf' := aX8 hf
  have hl' := aX19 hl
  have hq := cs_ok c
  unfold m_X8_read_l8 m_X19_one
  obtain ⟨-, -, -, -, -, -, -, t8, t9, -⟩ := ly_X19 d.1 hl
  rw [t8]
  refine yl_gd (ly_X2 c.1).1 (yr_gd t9 ?_)
  rw [q_X2_isEnd c.2.2.2.2.1, Option.bind_some, if_neg h0, cs_isW (b := [119, 105, 100, 116, 104]) c rfl, Option.bind_some, ts_isW (b := [119, 105, 100, 116, 104]) d rfl, Option.bind_some, isW_same e hq]
  refine yl_ie (fun z => z rfl) ?_
  have nm : ∀ b, isW ht 496 (tk B i) b ≠ 0 → (tk B i).1 = 1 := fun b z => by
    unfold isW at z
    by_cases h1 : (tk B i).1 = 1
    · exact h1
    · rw [if_neg h1] at z; exact absurd rfl z
  by_cases w1 : isW ht 496 (tk B i) [119, 105, 100, 116, 104] = 0
  · refine yl_it w1 (yr_it w1 ?_)
    rw [cs_isW (b := [107, 101, 114, 110]) c rfl, Option.bind_some, ts_isW (b := [107, 101, 114, 110]) d rfl, Option.bind_some, isW_same e hq]
    by_cases w2 : isW ht 496 (tk B i) [107, 101, 114, 110] = 0
    · refine yl_it w2 (yr_it w2 ?_)
      rw [cs_isW (b := [106, 111, 105, 110]) c rfl, Option.bind_some, ts_isW (b := [106, 111, 105, 110]) d rfl, Option.bind_some, isW_same e hq]
      by_cases w3 : isW ht 496 (tk B i) [106, 111, 105, 110] = 0
      · refine yl_it w3 (yr_it w3 ?_)
        unfold m_X2_broken m_X20_broken
        refine yl_bW (z_mono (brk c.2.2.2.2.2.2.2 (by decide) (by decide) c.2.2.2.2.1.2.1) (fun rc hr => yl_gd hr.1 ?_))
        refine yr_bW (z_mono (brk d.2.2.2.2.2.2.1 (by omega) (by omega) d.2.2.2.1.2.1) (fun rt hr2 => yr_gd hr2.1 ?_))
        have zc : Thr 432 (tk B i).2.1 hc ((1, rc.1), rc.2) := ⟨rfl, hr⟩
        have zt : Thr 448 (tk B i).2.1 ht ((1, rt.1), rt.2) := ⟨rfl, hr2⟩
        exact fo_thr (rc := ((1, rc.1), rc.2)) (rt := ((1, rt.1), rt.2)) hf hl zc zt F2.refl F2.refl
      · exact yl_ie w3 (yr_ie w3 (fo_join hf hl c d r (nm _ w3)))
    · exact yl_ie w2 (yr_ie w2 (fo_kern hf hl c d r (nm _ w2)))
  · exact yl_ie w1 (yr_ie w1 (fo_width hf hl c d r (nm _ w1)))
