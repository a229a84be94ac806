set_option maxRecDepth 100000
/-! STYLES: counters and labels -/
theorem c_find4' {h : Hp} {n : Int} {B T : Int → Int} {i m N : Int} {s : Int → List Int} (c : CS h n B i) (tx : ∀ j, 0 ≤ j → j < n → h 2 j = T j) (h1 : (tk B i).1 = 1) (hm : m ∈ in_aX4) (M : NM h m N s) : Pz (m_X4_find m 2 (h 3 5) (h 3 6) h) (nmF N s (wr T (tk B i).2.1 (nx B i))) := by
  have hq := cs_ok c
  have x := c.2.1
  obtain ⟨a5, a6⟩ := c.2.2.2.2.1.2.2.2.1 h1
  have l3 := hq.2.2.2.2.2.2.1 h1
  have l2 := hq.2.2.2.1 (by omega)
  have l0 := hq.1
  have h16 := x.2.2.2.2.2
  have h17 := x.2.2.2.1
  have en : (tk B i).2.2.1 - (tk B i).2.1 = (((nx B i - (tk B i).2.1).toNat : Nat) : Int) := by unfold nx; omega
  have ew : wd h 2 (tk B i).2.1 (nx B i - (tk B i).2.1).toNat = wr T (tk B i).2.1 (nx B i) := by
    rw [wr_wd]
    exact wr_congr (fun x x0 x1 => tx x (by omega) (by unfold nx at x1; omega))
  rw [a5, a6, en, ← ew]
  exact c_find4 c.1 hm M x.2.2.1 l0 (by unfold nx; omega) (by unfold nx; omega)
theorem y_vcounter {h1 h2 hc ht : Hp} {n : Int} {B T : Int → Int} {a l : Int} {p q : Hp} {C nt pr i : Int} (ha : a ∈ in_aX3) (hl : l ∈ in_aX22) (V : VB h1 h2 n B T a l p q C nt i hc ht) (hpr : pr = 15 ∨ pr = 16) :
    Pr (m_X3_counter a 3 hc) (m_X22_counter l ht) (fun rc rt => VO h1 h2 n B T a l p q C nt pr i rc rt ∨ BO h1 h2 n a l rc rt) := by
  have h3 := aX3 ha
  have h22 := aX22 hl
  have V' := V
  obtain ⟨S, ub, sc, m0, m1, e20, e7, t0, t1, l19, l20⟩ := V
  have g0 := S.ge
  have pa20 : hc a 20 = nt := by rw [S.pL (by omega) (by omega)]; exact e20
  have vr : ∀ {C' v : Int}, 0 ≤ v → v ≤ C' → C' ≤ 12 → vrO C' pr v := fun h1 h2 h3 => ⟨h1, by omega, fun z => by omega, fun z => by omega, fun z => by omega, fun z => by omega, fun z => by omega, fun z => by omega, fun z => by omega, fun _ => h2, fun z => by omega, fun z => by omega⟩
  unfold m_X3_counter m_X22_counter
  simp only [g_X2 S.1.1, g_X22_1 S.2.1.1 hl, S.tR.1]
  refine yl_gd trivial (yr_gd trivial ?_)
  by_cases t2 : (tk B i).1 = 1
  · have tl := S.tl t2
    refine L_kind1 S t2 (yr_it (kT1 t2) ?_)
    simp only [g_X3_17 S.1.1 ha, pa20]
    refine yl_gd (by omega) (yl_pt ?_)
    have S1 := S.putL (b := a + 24) (j := nt) (v := 0) ha (by omega) (by unfold scW; omega)
    rw [L_isN S1 t2 st_34, ts_isN S1.2.1 t2 st_102, S1.twR]
    simp only [Option.bind_some]
    have cc := sc
    obtain ⟨d1, d2, s, d3, d4⟩ := cc
    have C0 := d3.1.2.1
    by_cases hn : wr T (tk B i).2.1 (nx B i) = [110, 111, 110, 101]
    · have e1 : eqW (wr T (tk B i).2.1 (nx B i)) [110, 111, 110, 101] = 1 := by unfold eqW; rw [if_pos hn]
      rw [e1]
      refine yl_it (by decide) (yr_ie (by decide) (L_next ha S1 (by omega) (fun hc1 S2 => R_next S2 (by omega) (fun ht1 S3 => y_some (Or.inl (VO.plain ha V' S3 g0.1 (by omega) (by omega) (by omega) (by omega) (vr (by omega) C0 d2)))))))
    · have e1 : eqW (wr T (tk B i).2.1 (nx B i)) [110, 111, 110, 101] = 0 := by unfold eqW; rw [if_neg hn]
      rw [e1]
      refine yl_ie (fun z => z rfl) (yr_it rfl (yr_lt ?_))
      have r8 : ht l 8 = C := by rw [S.pR (Or.inl rfl)]; exact d1
      have r21 : ht (l + 21) = q (l + 21) := S.pR (Or.inr ⟨by omega, by omega⟩)
      have r22 : ht (l + 22) = q (l + 22) := S.pR (Or.inr ⟨by omega, by omega⟩)
      refine yr_bind (z_mono (t_counters (s := s) hl S t2 r8 C0 d2 (by rw [r21, r22]; exact d4)) (fun y hy => ?_))
      obtain ⟨y0, y1, y2, y3⟩ := hy
      have M1 : NM (up hc (a + 24) nt 0) (a + 6) C s := d3.kept (fun b b0 b1 => by rw [up_row (by omega)]; exact S.pL (by omega) (by omega))
      simp only [g_X3_1 S1.1.1 ha, g_X2_0 S1.1.1]
      refine yl_gd trivial (yl_bind (z_mono (c_find4' (T := T) S1.1 S1.2.2.2.2.1.2 t2 (aX3n ha).2.1 M1) (fun v hv => ?_)))
      have hN3 : up hc (a + 24) nt 0 (a + 6) 3 = C := M1.1.1
      rw [hN3, r8]
      have sdist := M1.2.2.1
      have same : (v = -1 ∧ y = C) ∨ (0 ≤ v ∧ v = y ∧ y < C) := by
        rcases hv with ⟨v1, v2⟩ | ⟨v1, v2, v3⟩
        · refine Or.inl ⟨v1, ?_⟩
          by_cases z : y < C
          · exact absurd (y2 z) (v2 y y0 z)
          · omega
        · refine Or.inr ⟨v1, ?_, ?_⟩
          · rcases Int.lt_trichotomy v y with z | z | z
            · exact absurd v3 (y3 v v1 z)
            · exact z
            · exact absurd ((y2 (by omega)).trans v3.symm) (sdist y v y0 z v2)
          · by_cases z : y < C
            · exact z
            · exact absurd v3 (y3 v v1 (by omega))
      -- the left one takes its number
      have add : ¬ (y = 12) → Pr (m_X3_counter_j65 3 a (up hc (a + 24) nt 0)) (if y ≠ C then ((m_X20_next (l + 2) ht).bind fun h158 => some ((0, (w32 (1 + y))), h158)) else (gd (ht (ht l 26) (-2) % 16 = 1 ∧ (0 : Int) ≤ y ∧ y < ht (ht l 26) (-1)) (pt ht (ht l 26) y (ht (l + 2) 4) fun h130 =>
  gd (h130 (h130 l 1) (-2) = 336) (gd (h130 (h130 l 27) (-2) % 16 = 1 ∧ (0 : Int) ≤ y ∧ y < h130 (h130 l 27) (-1)) (pt h130 (h130 l 27) y (h130 (h130 l 1) 5) fun h143 =>
  pt h143 l 8 (w32 ((h143 l 8) + 1)) fun h151 =>
  gd (h151 (h151 l 1) (-2) = 336) ((m_X20_next (h151 l 1) h151).bind fun h158_1 =>
  some ((0, (w32 (1 + y))), h158_1))))))) (fun rc rt => VO h1 h2 n B T a l p q C nt pr i rc rt ∨ BO h1 h2 n a l rc rt) := by
        intro y12
        have n4 := S.2.2.2.2.2.2
        obtain ⟨ub1, ub2, ub3, ub4⟩ := ub
        have u6 : up hc (a + 24) nt 0 (a + 6) 1 = p (a + 6) 1 := by rw [up_a (by omega), S.pL (by omega) (by omega)]
        have kk := ly_X3n S1.1.1 ha
        have e9 : a + 6 + 3 = a + 9 := by omega
        have e10 : a + 6 + 4 = a + 10 := by omega
        unfold m_X3_counter_j65
        simp only [g_X3_1 S1.1.1 ha, g_X2_0 S1.1.1]
        have caps : C < 12 ∨ C = 12 := by omega
        have AD : Pz (m_X4_add (a + 6) 2 (up hc (a + 24) nt 0 3 5) (up hc (a + 24) nt 0 3 6) (up hc (a + 24) nt 0)) (fun r => ∃ N' s', NM r.2 (a + 6) N' s' ∧ F2 (nmW (a + 6)) (up hc (a + 24) nt 0) r.2 ∧ r.2 (a + 6) 1 ≤ p (a + 6) 1 + (nx B i - (tk B i).2.1) ∧ r.1 = y ∧ ((N' = C ∧ s' = s ∧ y < C) ∨ (N' = C + 1 ∧ y = C ∧ nmO N' s' T n r.1 (tk B i).2.1 (nx B i) ∧ ∀ x, 0 ≤ x → x < C → s' x = s x))) := by
          rcases same with ⟨v1, v2⟩ | ⟨v0, v1, v2⟩
          · refine z_mono (c_addN (T := T) S1.1 S1.2.2.2.2.1.2 t2 (aX3n ha).2.1 M1 (by rw [e9, e10, kk.2.2.1, kk.2.2.2.1]; omega) (by omega)) (fun r hr => ?_)
            obtain ⟨N', s', k1, k2, k3, k4, k5, k6, k7, k8⟩ := hr
            rcases k8 with ⟨-, rfl, rfl⟩ | ⟨k8, k9, -⟩
            · exfalso
              have := y3 r.1 k6.1 (by have := k6.2.1; omega)
              exact this k6.2.2.2.2.2
            · exact ⟨N', s', k1, k2, by omega, by omega, Or.inr ⟨k8, v2, k6, k5⟩⟩
          · -- a known one: no room is needed
            unfold m_X4_add
            refine z_bind (z_mono (c_find4' (T := T) S1.1 S1.2.2.2.2.1.2 t2 (aX3n ha).2.1 M1) (fun v' hv' => ?_))
            rcases hv' with ⟨z1, z2⟩ | ⟨z1, z2, z3⟩
            · exact absurd (y2 v2) (z2 y y0 v2)
            · have : v' = y := by
                rcases Int.lt_trichotomy v' y with z | z | z
                · exact absurd z3 (y3 v' z1 z)
                · exact z
                · exact absurd ((y2 v2).trans z3.symm) (sdist y v' y0 z z2)
              exact z_ie (by omega) (z_some ⟨C, s, M1, F2.refl, by dsimp only; omega, this, Or.inl ⟨rfl, rfl, v2⟩⟩)
        refine yl_bW (z_mono AD (fun r hr => ?_))
        obtain ⟨N', s', k1, k2, k3, rfl, k4⟩ := hr
        have S2 := S1.newL ha k2 (fun b j z => by unfold nmW at z; unfold scW; omega)
        have k24 := g_X3_17 S2.1.1 ha
        have c20 : up hc (a + 24) nt 0 a 20 = nt := by rw [up_a (by omega)]; exact pa20
        simp only [g_X3_17 S1.1.1 ha, k24.2.1, k24.2.2, c20, e32 (x := 1 + r.1) (by omega) (by omega)]
        refine yl_gd (by omega) (yl_pt ?_)
        have S3 := S2.putL (b := a + 24) (j := nt) (v := 1 + r.1) ha (by omega) (by unfold scW; omega)
        refine L_next ha S3 (by omega) (fun hc3 S4 => ?_)
        have fr : ∀ b j, a ≤ b → b ≤ a + 27 → ¬ ((a + 6 ≤ b ∧ b ≤ a + 10) ∨ (b = a + 24 ∧ j = nt)) → r.2 b j = p b j := fun b j b0 b1 nb => by
          rw [k2 b j (fun z => by unfold nmW at z; omega), up_ne (by omega), S.pL b0 b1]
        have r6 : r.2 (a + 6) 3 = N' := k1.1.1
        have vo : ∀ {ht' q' : Hp}, SS h1 h2 n B T a l (up r.2 (a + 24) nt (1 + r.1)) q' (nx B i) (nx B i) hc3 ht' → (∀ b j, (b = l ∨ l + 3 ≤ b ∧ b ≤ l + 22) → ¬ ((b = l ∧ j = 8) ∨ (l + 21 ≤ b ∧ b ≤ l + 22)) → q' b j = q b j) → syC T n N' (up r.2 (a + 24) nt (1 + r.1)) q' a l → VO h1 h2 n B T a l p q C nt pr i ((0, 0), hc3) ((0, 1 + r.1), ht') := by
          intro ht' q' S' hq' sc'
          have hN : r.1 < N' := by rcases k4 with z | z <;> omega
          have hNC : C ≤ N' := by rcases k4 with z | z <;> omega
          refine ⟨_, _, N', nx B i, rfl, rfl, g0.1, S', ?_, hNC, sc', fun b j b0 b1 nb => ?_, ?_, fun b j b0 nb => hq' b j b0 (by omega), ?_⟩
          · refine ⟨?_, ?_, ?_, ?_⟩ <;> (try simp (disch := omega) only [up_a, up_e, up_j, e32, e8])
            · rw [fr _ _ (by omega) (by omega) (by omega)]; omega
            · rw [fr _ _ (by omega) (by omega) (by omega)]; omega
            · omega
            · rw [fr _ _ (by omega) (by omega) (by omega)]; omega
          · rw [up_ne (by omega)]
            exact fr b j b0 b1 (by omega)
          · (try simp (disch := omega) only [up_a, up_e, up_j, e32, e8])
            rw [fr _ _ (by omega) (by omega) (by omega)]; omega
          · (try simp (disch := omega) only [up_a, up_e, up_j, e32, e8])
            exact ⟨rfl, by omega, by omega, fun z => by omega, fun z => by omega, fun _ _ => ⟨rfl, vr (by omega) (by omega) sc'.2.1⟩⟩
        rcases k4 with ⟨rfl, rfl, kC⟩ | ⟨rfl, kC, knm, ks⟩
        · refine yr_it (by omega) (R_next S4 (by omega) (fun ht1 S5 => y_some (Or.inl (vo S5 (fun b j b0 nb => rfl) ⟨d1, d2, s', k1.kept (fun b b0 b1 => up_row (by omega)), d4⟩))))
        · refine yr_ie (fun z => z kC) ?_
          simp only [g_X22_26 S4.2.1.1 hl, S4.tR.2.1]
          refine yr_gd (by omega) (yr_pt ?_)
          have S5 := S4.putR (b := l + 21) (j := r.1) (v := (tk B i).2.1) hl (Or.inr ⟨by omega, by omega⟩) (by unfold stW2; omega)
          simp only [g_X22_1 S5.2.1.1 hl, g_X22_27 S5.2.1.1 hl, S5.tR.2.2]
          refine yr_gd trivial (yr_gd (by omega) (yr_pt ?_))
          have S6 := S5.putR (b := l + 22) (j := r.1) (v := nx B i) hl (Or.inr ⟨by omega, by omega⟩) (by unfold stW2; omega)
          rw [up_a (by omega), up_a (by omega), r8, e32 (by omega) (by omega)]
          refine yr_pt ?_
          have S7 := S6.putR (b := l) (j := 8) (v := C + 1) hl (Or.inl rfl) (by unfold stW2; omega)
          simp only [g_X22_1 S7.2.1.1 hl]
          refine yr_gd trivial (R_next S7 (by omega) (fun ht1 S8 => y_some (Or.inl (vo S8 (fun b j b0 nb => by (repeat rw [up_ne (by omega)])) ⟨(by (try simp (disch := omega) only [up_a, up_e, up_j, e32, e8]) <;> omega), by omega, s', k1.kept (fun b b0 b1 => up_row (by omega)), fun x x0 x1 => ?_⟩))))
          by_cases hx : x = r.1
          · subst hx
            (try simp (disch := omega) only [up_a, up_e, up_j, e32, e8])
            exact ⟨by omega, by omega, by omega, knm.2.2.2.2.2⟩
          · have d := d4 x x0 (by omega)
            rw [← ks x x0 (by omega)] at d
            (try simp (disch := omega) only [up_a, up_e, up_j, e32, e8])
            exact d
      by_cases h12 : y = 12
      · have v1 : v = -1 := by rcases same with z | z <;> omega
        have C12 : C = 12 := by rcases same with z | z <;> omega
        refine yl_ie (by omega) (yl_ie (fun z => z C12) (yr_ie (fun z => z h12) (L_brk S1 (fun b h' z => R_brk hl S1 (fun b' h'' z' => y_some (Or.inr (ss_thr ha hl S1 ⟨by omega, by omega⟩ z z'))))))) 
      · refine yr_it h12 ?_
        rcases same with ⟨v1, v2⟩ | ⟨v0, v1, v2⟩
        · exact yl_ie (by omega) (yl_it (by omega) (add h12))
        · exact yl_it v0 (add h12)
  · exact L_kind0 S t2 (fun b h' z => yr_ie (fun y => t2 ((kTe (by decide) (by decide)).mp y)) (R_brk hl S (fun b' h'' z' => y_some (Or.inr (ss_thr ha hl S ⟨by omega, by omega⟩ z z')))))
