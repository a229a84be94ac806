set_option maxRecDepth 100000
/-! SOURCES: the fields of a tag: the loop -/
theorem y_fturn {h1 h2 hc ht : Hp} {n : Int} {B T : Int → Int} {a l x v : Int} {N : Int} {s : Int → List Int} {E F : Int} {g0 t0 : Hp} (ha : a ∈ in_aX6) (hl : l ∈ in_aX23) (S : SZ h1 h2 n B T a l hc ht) (f : FZ T n N s E F g0 t0 a l x hc ht) (ec : hc a 2 = x) (x0 : 0 ≤ x) (x1 : x ≤ n) (hs : isSm (B x) = true) (hv : v ≠ 0) (E0 : 0 ≤ E) (E1 : E < 500) (g4 : g0 a 4 = E + 1) (g16 : g0 (a + 16) E = F) :
    Pr (m_X6_fields_l16 a E v hc) (m_X23_field l E x ht) (FQ h1 h2 n B T a l N s E F g0 t0 x) := by
  have h6 := aX6 ha
  have h23 := aX23 hl
  have hn := S.2.2.2
  obtain ⟨N1, s1, F', ⟨c1, c2, c3, c4, c5⟩, ⟨d1, d2, d3⟩, fP, fQ⟩ := f
  unfold m_X6_fields_l16 m_X23_field
  rw [ec, q_X6_byteAt S.1.2.2.1 x0, Option.bind_some, S.1.2.2.2.1, q_X1_isSmall, Option.bind_some, hs]
  refine yl_ie (by decide) (yl_it hv ?_)
  refine y_name ha hl S ec x0 x1 (fun nm lt en => ?_) (fun b h' b' h'' z => y_some (Or.inr ⟨_, rfl, z⟩))
  generalize he : sc B isNm x = e at *
  have kc := g_X6_0 S.1.1 ha
  have k3 := g_X6_3 S.1.1 ha
  simp only [k3.1, k3.2.1, kc.1, ec]
  refine yl_gd trivial ?_
  rw [e32 (x := e - x) (by omega) (by omega)]
  refine yl_bW ?_
  obtain ⟨⟨u, g⟩, e1, b2, N2, s2, b3, b4, b5, b6, b7, b8, b9, b10⟩ := c_name6 ha S c1 c2 c3 x0 lt en
  refine ⟨(u, g), e1, ?_⟩
  dsimp only at b2 b3 b4 b8 b9 b10 ⊢
  have S1 := S.goL ha (hc' := g) (b2.mono (fun b j z => by unfold nmW at z; unfold srP; omega))
  have gr : ∀ b j, a ≤ b → ¬ (a + 2 ≤ b ∧ b ≤ a + 6) → g b j = hc b j := fun b j b0 nb => b2 _ _ (fun z => by unfold nmW at z; omega)
  have fs := d3.names (p' := g) b6 b7 (fun b b0 b1 => funext fun j => gr b j (by omega) (by omega))
  have fP' : fzP a F g0 g := fun b j b0 b1 nb => by rw [gr b j b0 (fun z => nb (Or.inl z))]; exact fP b j b0 b1 nb
  have r4 : g a 4 = E + 1 := by rw [fP' _ _ (by omega) (by omega) (by omega)]; exact g4
  have r16 : g (a + 16) E = F := by rw [fP' _ _ (by omega) (by omega) (by omega)]; exact g16
  have r18 : g a 18 = F' := by rw [gr _ _ (by omega) (by omega)]; exact d1
  have r2 : g a 2 = x := by rw [gr _ _ (by omega) (by omega)]; exact ec
  clear gr fP b2 d3 e1 c1 c2 c3 d1
  have k14 := g_X6_14 S1.1.1 ha
  have t14 := g_X23_14 S.2.1.1 hl
  obtain ⟨f1, f2, f3, f4, f5⟩ := id fs
  generalize hcn : ht (l + 10) E = c at *
  obtain ⟨r, er, cr⟩ := c_field6 (v := u) S1.1.1 ha r4 r18 r16 E0 E1 f1 (by omega) (by omega)
  rw [er, Option.bind_some]
  have fd : ∀ k, 0 ≤ k → k < c → nmO N2 s2 T n (g (a + 17) (F + k)) (ht (l + 13) (6 * E + k)) (ht (l + 14) (6 * E + k)) := fun k k0 k1 => (f5 k k0 k1).1
  obtain ⟨w, ew, cw⟩ := t_field23 (T := T) (n := n) (x := x) (e := e) S.2.1.1 hl S.2.1.2.1 S.2.1.2.2.2.2.2 hcn f2 f3 E0 E1 x0 (by omega) en (by omega) (fun k k0 k1 => by obtain ⟨-, -, z3, z4, z5, -⟩ := fd k k0 k1; exact ⟨z3, z4, z5⟩)
  refine yr_lt ?_
  have ew' : lp (fun (q : Int) => m_X23_field_l12 l E x e q ht) (w32 (6 * E)) = some w := by rw [e32 (x := 6 * E) (by omega) (by omega)]; exact ew
  rw [ew', Option.bind_some]
  simp only [k14.1, k14.2.1, k14.2.2, r16, r18]
  rw [e32 (x := F' - F) (by omega) (by omega)]
  rcases cr with ⟨rfl, cr⟩ | ⟨cr1, cr2, cr3⟩
  · refine yl_ie (by decide) (yl_gd ⟨by decide, E0, by omega⟩ ?_)
    rcases cw with ⟨rfl, cw⟩ | ⟨rt, rfl, zt, k, k0, k1, kw⟩
    · show Pr _ (gd _ _) _
      simp only [t14.1, t14.2.1, t14.2.2, hcn]
      refine yr_gd ⟨by decide, E0, by omega⟩ ?_
      by_cases h : c = 6
      · refine yl_ie (by omega) (yr_ie (by omega) ?_)
        exact y_brk ha hl S1 r2 x0 x1 (fun b h' b' h'' z => y_some (Or.inr ⟨_, rfl, z⟩))
      · refine yl_it (by omega) (yr_it h ?_)
        have Y := y_fval (N := N) (s := s) ha hl S1 b3 b4 b5 (by omega) (fun z z0 z1 => by rw [b7 z z0 (by omega)]; exact c5 z z0 z1) r18 (by omega) fs fP' fQ b8 b9 b10 x0 lt en E0 E1 hcn (by omega) f2
        exact Y
    · exfalso
      have z := fd k k0 k1
      have e2 : s2 (g (a + 17) (F + k)) = s2 u := by rw [z.2.2.2.2.2, kw, b10]
      have := cr (F + k) (by omega) (by omega)
      rcases Int.lt_trichotomy (g (a + 17) (F + k)) u with y | y | y
      · exact b3.2.2.1 _ _ z.1 y b9 e2
      · exact this y
      · exact b3.2.2.1 _ _ b8 y z.2.1 e2.symm
  · refine yl_it (by omega) ?_
    rcases cw with ⟨rfl, cw⟩ | ⟨rt, rfl, zt, k, k0, k1, kw⟩
    · exfalso
      have z := fd (r - F) (by omega) (by omega)
      rw [show F + (r - F) = r by omega, cr3] at z
      exact cw (r - F) (by omega) (by omega) (by rw [← z.2.2.2.2.2, b10])
    · obtain ⟨b, h', y1, z1⟩ := bW_g S1.1.2.1 (by omega) (by omega) S1.1.2.2.1.2.1 r2 x1
      rw [y1]
      show Pr _ (some rt) _
      exact y_some (Or.inr ⟨_, rfl, sz_thr ha hl S1 x0 x1 z1 zt⟩)
/-- all the fields -/
theorem y_fields {h1 h2 hc ht : Hp} {n : Int} {B T : Int → Int} {a l x v : Int} {N : Int} {s : Int → List Int} {E F : Int} {g0 t0 : Hp} (ha : a ∈ in_aX6) (hl : l ∈ in_aX23) (S : SZ h1 h2 n B T a l hc ht) (f : FZ T n N s E F g0 t0 a l x hc ht) (ec : hc a 2 = sc B isBl x) (ev : v = bI (isBl (B x))) (x0 : 0 ≤ x) (x1 : x ≤ n) (E0 : 0 ≤ E) (E1 : E < 500) (g4 : g0 a 4 = E + 1) (g16 : g0 (a + 16) E = F) :
    Pr (lp (fun (q : Int × Hp) => m_X6_fields_l16 a E q.1 q.2) (v, hc)) (lp (fun (q : Int × Int × Hp) => m_X23_begin_l91 l E q.1 q.2.1 q.2.2) (x, sc B isBl x, ht))
      (fun rc rt => (∃ y hc' ht', rc = ((0, 0), hc') ∧ rt = .inl (y, ht') ∧ x ≤ y ∧ y ≤ n ∧ hc' a 2 = y ∧ SZ h1 h2 n B T a l hc' ht' ∧ FZ T n N s E F g0 t0 a l y hc' ht') ∨ ∃ r, rt = .inr r ∧ ZO h1 h2 n a l rc r) := by
  have h6 := aX6 ha
  have hn := S.2.2.2
  refine y_lpm (fun m (q : Int × Hp) (p : Int × Int × Hp) => SZ h1 h2 n B T a l q.2 p.2.2 ∧ FZ T n N s E F g0 t0 a l p.1 q.2 p.2.2 ∧ q.2 a 2 = sc B isBl p.1 ∧ q.1 = bI (isBl (B p.1)) ∧ p.2.1 = sc B isBl p.1 ∧ x ≤ p.1 ∧ p.1 ≤ n ∧ m = (n - p.1).toNat) ⟨_, S, f, ec, ev, rfl, Int.le_refl _, x1, rfl⟩ ?_
  rintro m ⟨v, g⟩ ⟨y, y', t⟩ ⟨S, f, ec, ev, ey, xy, yn, rfl⟩
  dsimp only at S f ec ev ey xy yn ⊢
  subst ev ey
  have eB := S.1.2.2.2.1
  have bE : ∀ x, n ≤ x → isBl (B x) = false := fun x hx => by rw [← eB]; exact blEnd hx
  obtain ⟨-, s4, s5⟩ := sc_spec (B := B) (p := isBl) (n := n) (i := y) bE yn
  have st := sc_stay (B := B) (n := n) (i := y) bE yn
  generalize hj : sc B isBl y = j at *
  have f' : FZ T n N s E F g0 t0 a l j g t := by
    obtain ⟨N1, s1, F', ⟨c1, c2, c3, c4, c5⟩, ⟨d1, d2, d3⟩, d4⟩ := f
    exact ⟨N1, s1, F', ⟨c1, by omega, by omega, c4, c5⟩, ⟨d1, by omega, d3⟩, d4⟩
  unfold m_X23_begin_l91
  rw [q_X23_byteAt S.2.1.2.2.1 (by omega), Option.bind_some, S.2.1.2.2.2.1, q_X18_isSmall, Option.bind_some]
  by_cases hs : isSm (B j) = true
  · by_cases hb : isBl (B y) = true
    · rw [hs, hb]
      refine yr_ie (by decide) (yr_it (fun z => by rw [st.mp z] at hb; exact absurd hb (by decide)) ?_)
      obtain ⟨rc, rt, e1, e2, q⟩ := y_fturn (v := bI true) ha hl S f' ec (by omega) s5 hs (by decide) E0 E1 g4 g16
      rcases q with ⟨z, hc', ht', rfl, rfl, z1, z2, S', f''⟩ | ⟨r, rfl, z⟩
      · rw [bT_0 e2 rfl]
        dsimp only
        obtain ⟨-, s6, s7⟩ := sc_spec (B := B) (p := isBl) (n := n) (i := z) bE z2
        rw [e1, q_X23_skip S'.2.1.2.2.1 (by omega) z2, S'.2.1.2.2.2.1, Option.bind_some]
        refine y_some (Or.inl ⟨_, _, _, rfl, rfl, ?_, S'.goL ha (F2.refl.put (by unfold srP; omega)), f''.place (Int.le_refl _) _, up_s _ _ _ _, rfl, rfl, by omega, z2, rfl⟩)
        omega
      · rw [e1]
        obtain ⟨p, p0, p1, z3, z4⟩ := id z
        rw [bT_1 e2 (by rw [z4.1]; decide)]
        refine y_some (Or.inr ⟨_, _, rfl, rfl, Or.inr ⟨_, rfl, ?_⟩⟩)
        rw [z4.one]; exact z
    · have hb' : isBl (B y) = false := by simpa using hb
      have e := st.mpr hb'
      subst e
      rw [hs, hb']
      refine yr_ie (by decide) (yr_ie (fun z => z rfl) ?_)
      unfold m_X6_fields_l16
      rw [ec, q_X6_byteAt S.1.2.2.1 (by omega), Option.bind_some, eB, q_X1_isSmall, Option.bind_some, hs]
      refine yl_ie (by decide) (yl_ie (by decide) ?_)
      exact y_brk ha hl S ec (by omega) s5 (fun b h' b' h'' z => y_some (Or.inr ⟨_, _, rfl, rfl, Or.inr ⟨_, rfl, z⟩⟩))
  · have hs' : isSm (B j) = false := by simpa using hs
    unfold m_X6_fields_l16
    rw [ec, q_X6_byteAt S.1.2.2.1 (by omega), Option.bind_some, eB, q_X1_isSmall, Option.bind_some, hs']
    refine yl_it rfl (yr_it rfl (y_some (Or.inr ⟨_, _, rfl, rfl, Or.inl ⟨j, g, t, rfl, rfl, by omega, s5, ec, S, f'⟩⟩)))
