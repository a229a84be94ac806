set_option maxRecDepth 100000
/-! STYLES: labels -/
theorem st_byte {h : Hp} {t n i x : Int} (hb : BY h t n) (h0 : 0 ≤ i) (hi : i ≤ n) (hk : (tk (Bt h t n) i).1 = 3) (h1 : (tk (Bt h t n) i).2.1 < x) (h2 : x < (tk (Bt h t n) i).2.2.1 - 1) (x0 : 0 ≤ x) : 0 ≤ h t x := by
  obtain ⟨t1, t2⟩ := tk_st h0 hi hk h1 h2
  have e := of_decide_eq_true t1
  have := Bt_b hb x0 t2 (by omega)
  omega
theorem y_vlabel {h1 h2 hc ht : Hp} {n : Int} {B T : Int → Int} {a l : Int} {p q : Hp} {C nt i : Int} (ha : a ∈ in_aX3) (hl : l ∈ in_aX22) (V : VB h1 h2 n B T a l p q C nt i hc ht) :
    Pr (m_X3_label a 3 hc) (gd (ht (ht l 1) (-2) = 336) ((m_X20_isName (ht l 1) (-102) ht).bind fun v184 =>
  if v184 = 0 then (if (ht (ht l 1) 3) = 3 then ((m_X20_inner (ht l 1) ht).bind fun v230 =>
  gd (ht (ht l 24) (-2) % 16 = 1 ∧ (0 : Int) ≤ (ht l 7) ∧ (ht l 7) < ht (ht l 24) (-1)) (pt ht (ht l 24) (ht l 7) v230 fun h233 =>
  gd (h233 (h233 l 1) (-2) = 336) ((m_X20_innerEnd (h233 l 1) h233).bind fun v246 =>
  gd (h233 (h233 l 25) (-2) % 16 = 1 ∧ (0 : Int) ≤ (h233 l 7) ∧ (h233 l 7) < h233 (h233 l 25) (-1)) (pt h233 (h233 l 25) (h233 l 7) v246 fun h249 =>
  gd (h249 (h249 l 1) (-2) = 336) ((m_X20_next (h249 l 1) h249).bind fun h254 =>
  some ((0, 1), h254))))))
  else (bW (m_X20_broken (ht l 1) ht) fun v214 h214 =>
  gd (0 < v214) (some ((1, v214), h214))))
  else ((m_X20_next (ht l 1) ht).bind fun h194 =>
  some ((0, 0), h194)))) (fun rc rt => VO h1 h2 n B T a l p q C nt 17 i rc rt ∨ BO h1 h2 n a l rc rt) := by
  have h3 := aX3 ha
  have h22 := aX22 hl
  obtain ⟨S, ub, sc, m0, m1, e20, e7, t0, t1, l19, l20⟩ := V
  have g0 := S.ge
  have n4 := S.2.2.2.2.2.2
  obtain ⟨u1, u2, u3, u4⟩ := id ub
  have hq := cs_ok S.1
  have pa20 : hc a 20 = nt := by rw [S.pL (by omega) (by omega)]; exact e20
  have r7 : ht l 7 = nt := by rw [S.pR (Or.inl rfl)]; exact e7
  unfold m_X3_label
  simp only [g_X3_17 S.1.1 ha, pa20, g_X22_1 S.2.1.1 hl, S.tR.1]
  refine yl_gd (by omega) (yl_pt (yr_gd trivial ?_))
  have S1 := S.putL (b := a + 24) (j := nt) (v := -1) ha (by omega) (by unfold scW; omega)
  have k3 : up hc (a + 24) nt (-1) 3 3 = (tk B i).1 := S1.1.2.2.2.2.1.1
  simp only [g_X2 S1.1.1, k3]
  refine yl_gd trivial ?_
  by_cases t3 : (tk B i).1 = 3
  · refine yl_ie (fun z => z t3) ?_
    rw [ts_isN0 S1.2.1 (by omega) st_102, Option.bind_some]
    refine yr_it rfl (yr_it (kT3 t3) ?_)
    have l3 : (tk B i).2.1 + 2 ≤ nx B i ∧ nx B i ≤ n := ⟨hq.2.2.2.2.2.2.2.1 t3, hq.2.2.2.1 (by omega)⟩
    have byt : ∀ x, (tk B i).2.1 + 1 ≤ x → x < nx B i - 1 → 0 ≤ T x := fun x x1 x2 => by
      have z0 := hq.1
      have z1 := S.1.2.2.2.2.2.1
      have eB := S.1.2.2.2.1
      rw [← S.2.2.2.2.1.2 x (by omega) (by unfold nx at l3 x2; omega)]
      exact st_byte S.1.2.2.1 S.1.2.2.2.2.2.1 S.1.2.2.2.2.2.2.1 (by rw [eB]; exact t3) (by rw [eB]; omega) (by rw [eB]; exact x2) (by omega)
    have c6 : ∀ {hc' : Hp} {p' : Hp} {y : Int} {ht' q' : Hp}, SS h1 h2 n B T a l p' q' i y hc' ht' → hc' 3 6 = nx B i - (tk B i).2.1 - 2 := fun S => (S.1.2.2.2.2.1.2.2.2.2.1 t3).2
    have cm : up hc (a + 24) nt (-1) (a + 11) 1 = p (a + 11) 1 := by rw [up_a (by omega), S.pL (by omega) (by omega)]
    have c20 : up hc (a + 24) nt (-1) a 20 = nt := by rw [up_a (by omega)]; exact pa20
    simp only [g_X3_2 S1.1.1 ha, g_X3_17 S1.1.1 ha, c20, cm]
    refine yl_gd trivial (yl_gd (by omega) (yl_pt ?_))
    have S2 := S1.putL (b := a + 24) (j := nt) (v := p (a + 11) 1) ha (by omega) (by unfold scW; omega)
    have c20' : up (up hc (a + 24) nt (-1)) (a + 24) nt (p (a + 11) 1) a 20 = nt := by rw [up_a (by omega)]; exact c20
    simp only [g_X3_18 S2.1.1 ha, c20', c6 S2]
    refine yl_gd (by omega) (yl_pt ?_)
    have S3 := S2.putL (b := a + 25) (j := nt) (v := nx B i - (tk B i).2.1 - 2) ha (by omega) (by unfold scW; omega)
    simp only [g_X3_2 S3.1.1 ha, g_X2_0 S3.1.1]
    refine yl_gd trivial (yl_bT (z_mono (c_addAll (T := T) (m := p (a + 11) 1) ha S3.1 S3.2.2.2.2.1.2 t3 (by rw [S3.pL (by omega) (by omega)]; (try simp (disch := omega) only [up_a, up_e, up_j, e32, e8])) m0 (by omega)) (fun r hr => Or.inl ?_)))
    obtain ⟨r1, r2, r3, r4⟩ := hr
    refine ⟨by rw [r1], ?_⟩
    have S4 := S3.newL ha r2 (fun b j z => by unfold scW; omega)
    have fr : ∀ b j, a ≤ b → b ≤ a + 27 → ¬ ((b = a + 11 ∧ j = 1) ∨ (b = a + 12 ∧ p (a + 11) 1 ≤ j)) → r.2 b j = (up (up (up p (a + 24) nt (-1)) (a + 24) nt (p (a + 11) 1)) (a + 25) nt (nx B i - (tk B i).2.1 - 2)) b j := fun b j b0 b1 nb => by
      rw [r2 b j (fun z => nb (z.imp id (fun y => ⟨y.1, y.2.1⟩))), S3.pL b0 b1]
    refine L_next ha S4 (by omega) (fun hc5 S5 => ?_)
    have hin := S5.inner (by omega) l3.2
    simp only [hin.1, Option.bind_some, g_X22_24 S5.2.1.1 hl, r7]
    refine yr_gd (by omega) (yr_pt ?_)
    have S6 := S5.putR (b := l + 19) (j := nt) (v := (tk B i).2.1 + 1) hl (Or.inr ⟨by omega, by omega⟩) (by unfold stW2; omega)
    have hin2 := S6.inner (by omega) l3.2
    simp only [g_X22_1 S6.2.1.1 hl, hin2.2, Option.bind_some, g_X22_25 S6.2.1.1 hl, up_a (show l ≠ l + 19 by omega), r7]
    refine yr_gd trivial (yr_gd (by omega) (yr_pt ?_))
    have S7 := S6.putR (b := l + 20) (j := nt) (v := nx B i - 1) hl (Or.inr ⟨by omega, by omega⟩) (by unfold stW2; omega)
    simp only [g_X22_1 S7.2.1.1 hl]
    refine yr_gd trivial (R_next S7 (by omega) (fun ht3 S8 => y_some (Or.inl ⟨_, _, C, nx B i, rfl, rfl, g0.1, S8, ?_, Int.le_refl _, ?_, fun b j b0 b1 nb => ?_, ?_, fun b j b0 nb => by (repeat rw [up_ne (by omega)]), ?_⟩)))
    · refine ⟨?_, ?_, ?_, ?_⟩
      · rw [fr _ _ (by omega) (by omega) (by omega)]; (try simp (disch := omega) only [up_a, up_e, up_j, e32, e8]); omega
      · rw [fr _ _ (by omega) (by omega) (by omega)]; (try simp (disch := omega) only [up_a, up_e, up_j, e32, e8]); omega
      · rw [fr _ _ (by omega) (by omega) (by omega)]; (try simp (disch := omega) only [up_a, up_e, up_j, e32, e8]); omega
      · rw [r3]; omega
    · obtain ⟨d1, d2, s, d3, d4⟩ := sc
      refine ⟨(by (try simp (disch := omega) only [up_a, up_e, up_j, e32, e8, d1]) <;> omega), d2, s, d3.kept (fun b b0 b1 => funext fun j => by rw [fr b j (by omega) (by omega) (by omega)]; (repeat rw [up_ne (by omega)])), fun x x0 x1 => ?_⟩
      (try simp (disch := omega) only [up_a, up_e, up_j, e32, e8])
      exact d4 x x0 x1
    · rw [fr b j b0 b1 (by omega)]
      (repeat rw [up_ne (by omega)])
    · rw [r3]; omega
    · rw [r3, fr (a + 24) nt (by omega) (by omega) (by omega), fr (a + 25) nt (by omega) (by omega) (by omega)]
      (try simp (disch := omega) only [up_a, up_e, up_j, e32, e8])
      exact ⟨rfl, by decide, by decide, fun z => by omega, fun _ => Or.inr ⟨rfl, ⟨m0, by omega, by omega, by omega, by omega, by omega, r4⟩, byt⟩, fun z1 z2 => absurd rfl z2⟩
  · refine yl_it t3 ?_
    have vo : ∀ {hc' ht' : Hp}, SS h1 h2 n B T a l (up p (a + 24) nt (-1)) q (nx B i) (nx B i) hc' ht' → VO h1 h2 n B T a l p q C nt 17 i ((0, 0), hc') ((0, 0), ht') := by
      intro hc' ht' S'
      refine ⟨_, _, C, nx B i, rfl, rfl, g0.1, S', ?_, Int.le_refl _, ?_, fun b j b0 b1 nb => by (repeat rw [up_ne (by omega)]), ?_, fun b j b0 nb => rfl, ?_⟩
      · refine ⟨?_, ?_, ?_, ?_⟩ <;> (try simp (disch := omega) only [up_a, up_e, up_j, e32, e8]) <;> omega
      · obtain ⟨d1, d2, s, d3, d4⟩ := sc
        exact ⟨d1, d2, s, d3.kept (fun b b0 b1 => up_row (by omega)), d4⟩
      · (try simp (disch := omega) only [up_a, up_e, up_j, e32, e8]); omega
      · (try simp (disch := omega) only [up_a, up_e, up_j, e32, e8])
        exact ⟨rfl, by decide, by decide, fun z => by omega, fun _ => Or.inl ⟨rfl, rfl, l19, l20⟩, fun z1 z2 => absurd rfl z2⟩
    by_cases t2 : (tk B i).1 = 1
    · rw [L_isN S1 t2 st_34, ts_isN S1.2.1 t2 st_102, S1.twR]
      simp only [Option.bind_some]
      by_cases hn : wr T (tk B i).2.1 (nx B i) = [110, 111, 110, 101]
      · have e1 : eqW (wr T (tk B i).2.1 (nx B i)) [110, 111, 110, 101] = 1 := by unfold eqW; rw [if_pos hn]
        rw [e1]
        exact yl_it (by decide) (yr_ie (by decide) (L_next ha S1 (by omega) (fun hc2 S2 => R_next S2 (by omega) (fun ht2 S3 => y_some (Or.inl (vo S3))))))
      · have e1 : eqW (wr T (tk B i).2.1 (nx B i)) [110, 111, 110, 101] = 0 := by unfold eqW; rw [if_neg hn]
        rw [e1]
        exact yl_ie (fun z => z rfl) (yr_it rfl (yr_ie (fun z => t3 ((kTe (by decide) (by decide)).mp z)) (L_brk S1 (fun b h' z => R_brk hl S1 (fun b' h'' z' => y_some (Or.inr (ss_thr ha hl S1 ⟨by omega, by omega⟩ z z')))))))
    · rw [cs_isN0 S1.1 t2 st_34, ts_isN0 S1.2.1 t2 st_102]
      simp only [Option.bind_some]
      exact yl_ie (by first | exact (fun z => z rfl) | decide) (yr_it (by first | rfl | trivial) (yr_ie (fun z => t3 ((kTe (by decide) (by decide)).mp z)) (L_brk S1 (fun b h' z => R_brk hl S1 (fun b' h'' z' => y_some (Or.inr (ss_thr ha hl S1 ⟨by omega, by omega⟩ z z')))))))
