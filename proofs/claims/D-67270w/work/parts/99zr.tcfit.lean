set_option maxRecDepth 100000
/-! TREES: the component's side: what fits -/
theorem isFd_none {S p : Hp} {a n N E F M e : Int} {s : Int → List Int} {w : List Int} (R : SA S p a n N s E F M) (e0 : 0 ≤ e) (e1 : e < E) (h : ∀ k, 0 ≤ k → k < N → s k ≠ w) : isFd S e w (-1) := by
  refine Or.inl ⟨rfl, fun y y0 y1 => ?_⟩
  obtain ⟨⟨c1, c2, -, -, -, c6⟩, -⟩ := (R.2.2.2.2.1 e e0 e1).2.2.2.2.2 y y0 y1
  rw [← c6]; exact h _ c1 c2
theorem c_holds {S Y p : Hp} {a sa ya n N E F M n' N' C ns na nsel nb nt m x e : Int} {s s' : Int → List Int} (T : CT S Y p a sa ya n N s E F M n' N' s' C ns na nsel nb nt m) (e0 : 0 ≤ e) (e1 : e < E) (x0 : 0 ≤ x) (x1 : x < na) :
    Pz (m_X7_holds a x e p) (fun v => (v = 1 ∧ tsA S Y E M x e) ∨ (v = 0 ∧ ¬ tsA S Y E M x e)) := by
  obtain ⟨⟨hL, ha, hs, hy⟩, ⟨t0, t1, t2⟩, R, R', nm⟩ := T
  have h7 := aX7 ha
  have h6 := aX6 hs
  have h3 := aX3' hy
  have E5 := R.2.2.1.2.2.1
  have na_ := R'.2.1
  have NR := R'.1.1.1
  have n2 := R'.1.2.2.2.2.1
  obtain ⟨a1, a2, a3, a4, a5, a6⟩ := R'.2.2.2.2.2.1 x x0 x1
  obtain ⟨w1, w2, w3, w4, w5, w6, w7, w8, w9, w10, -⟩ := R.2.2.2.1 e e0 e1
  have fl := (R.2.2.2.2.2.2.1 e e0 e1).2.2.2.2.2.2.2
  have dis := R.2.1.1.2.2.1
  have dis' := R'.1.1.2.2.1
  have yl := ly_X3n hL hy
  have k6 := g_X6_6 hL hs
  have k11 := g_X6_11 hL hs
  have k9 := g_X6_9 hL hs
  have j7 := g_X3_7 hL hy
  have j8 := g_X3_8 hL hy
  have i3 := g_X7_3 hL ha
  have main : ∀ sib, sib = cntP (S 7) (S 7 e) E.toNat → Pz (m_X7_holds_j33 e a x sib p) (fun v => (v = 1 ∧ tsA S Y E M x e) ∨ (v = 0 ∧ ¬ tsA S Y E M x e)) := by
    intro sib hsib
    unfold m_X7_holds_j33
    simp only [t0, t1, (ly_X3 hL hy).1, j7.1, j7.2.1, j7.2.2]
    refine z_gd trivial (z_gd ⟨by decide, x0, by omega⟩ ?_)
    generalize hkd : p (ya + 16) x = kd at *
    generalize hnm : p (ya + 17) x = nmv at *
    -- a name of the style
    have nmOk : kd = 0 ∨ kd = 1 ∨ kd = 6 → 0 ≤ nmv ∧ nmv < N' ∧ nmv < 4800 ∧ s' nmv = wr (Y 1) (Y 11 x) (Y 12 x) := fun z => by
      have q := a4 z
      have cap := NR.2.2.1
      rw [show ya + 1 + 3 = ya + 4 by omega, yl.1] at cap
      have q2 := q.2.1
      exact ⟨q.1, q.2.1, by omega, q.2.2.2.2.2⟩
    by_cases c0 : kd = 0
    · obtain ⟨m1, m2, m3, m4⟩ := nmOk (Or.inl c0)
      refine z_it c0 ?_
      simp only [j8.1, j8.2.1, j8.2.2, hnm, i3.1, i3.2.1, i3.2.2]
      refine z_gd ⟨by decide, x0, by omega⟩ (z_gd ⟨by decide, m1, by omega⟩ ?_)
      rcases nm nmv m1 m2 with ⟨f1, f2⟩ | ⟨f1, f2, f3⟩
      · rw [m4] at f2
        have fd := isFd_none R e0 e1 f2
        refine z_it (by omega) (z_some (Or.inr ⟨rfl, fun z => ?_⟩))
        obtain ⟨f', g1, g2⟩ := z.1 (by omega)
        have := fd.uniq g1
        omega
      · rw [m4] at f3
        refine z_ie (by omega) (z_bind (z_mono (c_field hL hs R e0 e1 ⟨f1, f2, f3⟩) (fun v hv => ?_)))
        obtain ⟨f, g1, g2⟩ := hv
        have fs0 := (R.2.2.2.2.1 e e0 e1).1
        by_cases hf : f < 0
        · rw [if_pos hf] at g2
          refine z_it (by omega) (z_some (Or.inr ⟨rfl, fun z => ?_⟩))
          obtain ⟨f', g3, g4⟩ := z.1 (by omega)
          have := g1.uniq g3
          omega
        · rw [if_neg hf] at g2
          refine z_ie (by omega) (z_some (Or.inl ⟨rfl, fun _ => ⟨f, g1, by omega⟩, fun z => by omega, fun z => by omega, fun z => by omega, fun z => by omega, fun z => by omega, fun z => by omega⟩))
    refine z_ie c0 ?_
    by_cases c1 : kd = 1
    · obtain ⟨m1, m2, m3, m4⟩ := nmOk (Or.inr (Or.inl c1))
      obtain ⟨u1, u2, u3, u4, u5, u6, u7⟩ := a5 c1
      refine z_it c1 ?_
      simp only [j8.1, j8.2.1, j8.2.2, hnm, i3.1, i3.2.1, i3.2.2]
      refine z_gd ⟨by decide, x0, by omega⟩ (z_gd ⟨by decide, m1, by omega⟩ ?_)
      rcases nm nmv m1 m2 with ⟨f1, f2⟩ | ⟨f1, f2, f3⟩
      · rw [m4] at f2
        have fd := isFd_none R e0 e1 f2
        refine z_ie (by omega) ?_
        unfold m_X7_holds_j175
        refine z_it (by decide) (z_some (Or.inr ⟨rfl, fun z => ?_⟩))
        obtain ⟨f', g1, g2, -⟩ := z.2.1 (by omega)
        have := fd.uniq g1
        omega
      · rw [m4] at f3
        refine z_it f1 (z_bind (z_mono (c_field hL hs R e0 e1 ⟨f1, f2, f3⟩) (fun v hv => ?_)))
        obtain ⟨f, g1, g2⟩ := hv
        unfold m_X7_holds_j175
        have fs0 := (R.2.2.2.2.1 e e0 e1).1
        by_cases hf : f < 0
        · rw [if_pos hf] at g2
          refine z_it (by omega) (z_some (Or.inr ⟨rfl, fun z => ?_⟩))
          obtain ⟨f', g3, g4, -⟩ := z.2.1 (by omega)
          have := g1.uniq g3
          omega
        · rw [if_neg hf] at g2
          refine z_ie (by omega) ?_
          have fx : f < S 10 e := by
            rcases g1 with z | z
            · omega
            · exact z.2.1
          have j2 := g_X3_2 hL hy
          have j9 := g_X3_9 hL hy
          have j10 := g_X3_10 hL hy
          have mm := R'.1.2.1
          have mm2 := R'.1.2.2.2.1
          simp only [t0, t1, j2.1, j2.2.1, yl.2.2.2.2.2.2.2, j9.1, j9.2.1, j9.2.2, j10.1, j10.2.1, j10.2.2]
          refine z_gd trivial (z_gd ⟨by decide, x0, by omega⟩ (z_gd ⟨by decide, x0, by omega⟩ ?_))
          rw [g2]
          refine z_bind (z_mono (c_isField (f := p (ya + 18) x) (k := p (ya + 19) x) (t := ya + 12) hL hs R e0 e1 (by omega) fx (by rw [yl.2.2.2.2.2.2.1]; decide) u1 u2 (by rw [yl.2.2.2.2.1]; omega) (by omega)) (fun v hv => ?_))
          have ww : wr (p (ya + 12)) (p (ya + 18) x) (p (ya + 18) x + p (ya + 19) x) = wr (Y 1) (Y 13 x) (Y 14 x) := by
            rw [wr_same]
            exact ⟨by omega, fun y y0 y1 => u7 y y0 (by omega)⟩
          rw [ww] at hv
          rcases hv with ⟨rfl, hv⟩ | ⟨rfl, hv⟩
          · exact z_ie (by decide) (z_some (Or.inl ⟨rfl, fun z => by omega, fun _ => ⟨f, g1, by omega, hv⟩, fun z => by omega, fun z => by omega, fun z => by omega, fun z => by omega, fun z => by omega⟩))
          · refine z_it rfl (z_some (Or.inr ⟨rfl, fun z => ?_⟩))
            obtain ⟨f', g3, g4, g5⟩ := z.2.1 (by omega)
            have := g1.uniq g3
            subst this
            exact hv g5
    refine z_ie c1 ?_
    by_cases c2 : kd = 2
    · refine z_it c2 ?_
      simp only [k9.1, k9.2.1, k9.2.2, w8]
      refine z_gd ⟨by decide, e0, by omega⟩ ?_
      by_cases hc : cntP (S 7) (S 7 e) e.toNat + 1 = 1
      · exact z_ie (fun z => z hc) (z_some (Or.inl ⟨rfl, fun z => by omega, fun z => by omega, fun _ => hc, fun z => by omega, fun z => by omega, fun z => by omega, fun z => by omega⟩))
      · exact z_it hc (z_some (Or.inr ⟨rfl, fun z => hc (z.2.2.1 (by omega))⟩))
    refine z_ie c2 ?_
    by_cases c3 : kd = 3
    · refine z_it c3 ?_
      simp only [k9.1, k9.2.1, k9.2.2, w8, hsib]
      refine z_gd ⟨by decide, e0, by omega⟩ ?_
      by_cases hc : cntP (S 7) (S 7 e) e.toNat + 1 = cntP (S 7) (S 7 e) E.toNat
      · exact z_ie (fun z => z hc) (z_some (Or.inl ⟨rfl, fun z => by omega, fun z => by omega, fun z => by omega, fun _ => hc, fun z => by omega, fun z => by omega, fun z => by omega⟩))
      · exact z_it hc (z_some (Or.inr ⟨rfl, fun z => hc (z.2.2.2.1 (by omega))⟩))
    refine z_ie c3 ?_
    by_cases c4 : kd = 4
    · refine z_it c4 ?_
      have k13 := g_X6_13 hL hs
      simp only [k13.1, k13.2.1, k13.2.2, fl]
      refine z_gd ⟨by decide, e0, by omega⟩ ?_
      by_cases hc : flP (S 2) (S 3) (S 7) e M.toNat = 0
      · exact z_ie (fun z => z hc) (z_some (Or.inl ⟨rfl, fun z => by omega, fun z => by omega, fun z => by omega, fun z => by omega, fun _ => hc, fun z => by omega, fun z => by omega⟩))
      · exact z_it hc (z_some (Or.inr ⟨rfl, fun z => hc (z.2.2.2.2.1 (by omega))⟩))
    refine z_ie c4 ?_
    by_cases c5 : kd = 5
    · refine z_it c5 ?_
      have nu := a6 c5
      simp only [k9.1, k9.2.1, k9.2.2, w8, j8.1, j8.2.1, j8.2.2, hnm, nu]
      refine z_gd ⟨by decide, e0, by omega⟩ (z_gd ⟨by decide, x0, by omega⟩ ?_)
      by_cases hc : cntP (S 7) (S 7 e) e.toNat + 1 = Y 15 x
      · exact z_ie (fun z => z hc) (z_some (Or.inl ⟨rfl, fun z => by omega, fun z => by omega, fun z => by omega, fun z => by omega, fun z => by omega, fun _ => hc, fun z => by omega⟩))
      · exact z_it hc (z_some (Or.inr ⟨rfl, fun z => hc (z.2.2.2.2.2.1 (by omega))⟩))
    refine z_ie c5 ?_
    have c6 : kd = 6 := by omega
    obtain ⟨m1, m2, m3, m4⟩ := nmOk (Or.inr (Or.inr c6))
    have k5 := g_X6_5 hL hs
    simp only [j8.1, j8.2.1, j8.2.2, hnm, i3.1, i3.2.1, i3.2.2, k5.1, k5.2.1, k5.2.2]
    refine z_gd ⟨by decide, x0, by omega⟩ (z_gd ⟨by decide, m1, by omega⟩ (z_gd ⟨by decide, e0, by omega⟩ ?_))
    obtain ⟨q1, q2, -, -, -, q6⟩ := w1
    have nf := nm nmv m1 m2
    rw [m4] at nf
    by_cases hq : wr (Y 1) (Y 11 x) (Y 12 x) = wr (S 1) (S 8 e) (S 9 e)
    · have : p (a + 1) nmv = p (sa + 7) e := nf.uniq (Or.inr ⟨q1, q2, by rw [q6]; exact hq.symm⟩) dis
      exact z_it this (z_some (Or.inr ⟨rfl, fun z => z.2.2.2.2.2.2 (by omega) hq⟩))
    · refine z_ie (fun z => ?_) (z_some (Or.inl ⟨rfl, fun z => by omega, fun z => by omega, fun z => by omega, fun z => by omega, fun z => by omega, fun z => by omega, fun _ => hq⟩))
      rcases nf with ⟨g1, -⟩ | ⟨g1, g2, g3⟩
      · omega
      · rw [z, q6] at g3; exact hq g3.symm
  unfold m_X7_holds
  simp only [t0, (ly_X6 hL hs).1, k6.1, k6.2.1, k6.2.2, w2]
  refine z_gd trivial (z_gd ⟨by decide, e0, by omega⟩ (z_lt ?_))
  by_cases hp : 0 ≤ S 7 e
  · refine z_it hp ?_
    simp only [k11.1, k11.2.1, k11.2.2]
    exact z_gd ⟨by decide, hp, by omega⟩ (main _ (R.2.2.2.1 (S 7 e) hp (by omega)).2.2.2.2.2.2.2.2.2.1)
  · refine z_ie hp (main _ ?_)
    rw [R.2.2.1.2.2.2.2.2.1, show S 7 e = -1 by omega]
/-- a step at an element -/
theorem c_fitsStep {S Y p : Hp} {a sa ya n N E F M n' N' C ns na nsel nb nt m t e : Int} {s s' : Int → List Int} (T : CT S Y p a sa ya n N s E F M n' N' s' C ns na nsel nb nt m) (e0 : 0 ≤ e) (e1 : e < E) (t0 : 0 ≤ t) (t1 : t < ns) :
    Pz (m_X7_fitsStep a t e p) (fun v => (v = 1 ∧ tsS S Y E M t e) ∨ (v = 0 ∧ ¬ tsS S Y E M t e)) := by
  obtain ⟨⟨hL, ha, hs, hy⟩, ⟨p0, p1, p2⟩, R, R', nm⟩ := id T
  have h7 := aX7 ha
  have h6 := aX6 hs
  have h3 := aX3' hy
  have E5 := R.2.2.1.2.2.1
  have na_ := R'.2.1
  have yl := ly_X3n hL hy
  have dis := R.2.1.1.2.2.1
  have st := R'.2.2.1 t t0 t1
  have b0 := R'.2.2.2.1 t t0 (by omega)
  have b1 := R'.2.2.2.1 (t + 1) (by omega) (by omega)
  have b2 := R'.2.2.2.2.1 t t0 t1
  have j3 := g_X3_3 hL hy
  have j5 := g_X3_5 hL hy
  have loop : (0 ≤ Y 6 t → wr (Y 1) (Y 6 t) (Y 7 t) = wr (S 1) (S 8 e) (S 9 e)) → Pz (m_X7_fitsStep_j34 e a t p) (fun v => (v = 1 ∧ tsS S Y E M t e) ∨ (v = 0 ∧ ¬ tsS S Y E M t e)) := by
    intro hn
    unfold m_X7_fitsStep_j34
    simp only [p1, j5.1, j5.2.1, j5.2.2, b0.1]
    refine z_gd ⟨by decide, t0, by omega⟩ (z_lt (z_bind (z_mono (z_lp (Q := fun v => (v = 1 ∧ tsS S Y E M t e) ∨ (v = 0 ∧ ¬ tsS S Y E M t e)) (fun y : Int => Y 9 t ≤ y ∧ y ≤ Y 9 (t + 1) ∧ ∀ k, Y 9 t ≤ k → k < y → tsA S Y E M k e) (fun y => (Y 9 (t + 1) - y).toNat) ⟨Int.le_refl _, b2.1, fun k z0 z1 => by omega⟩ ?_) (fun r hr => z_some hr))))
    rintro y ⟨z0, z1, zn⟩
    show Pz (m_X7_fitsStep_l45 a t e y p) _
    unfold m_X7_fitsStep_l45
    rw [e32 (x := t + 1) (by omega) (by omega)]
    simp only [p1, j5.1, j5.2.1, j5.2.2, b1.1]
    refine z_gd ⟨by decide, by omega, by omega⟩ ?_
    by_cases hy2 : Y 9 (t + 1) ≤ y
    · exact z_it hy2 (z_some (Or.inl ⟨rfl, hn, fun k w0 w1 => zn k w0 (by omega)⟩))
    · refine z_ie hy2 (z_bind (z_mono (c_holds T e0 e1 (by omega) (by omega)) (fun v hv => ?_)))
      rcases hv with ⟨rfl, hv⟩ | ⟨rfl, hv⟩
      · refine z_it (by decide) (z_lt (z_some ?_))
        rw [e32 (by omega) (by omega)]
        refine ⟨⟨by omega, by omega, fun k w0 w1 => ?_⟩, by omega⟩
        by_cases hk : k = y
        · rw [hk]; exact hv
        · exact zn k w0 (by omega)
      · exact z_ie (fun z => z rfl) (z_some (Or.inr ⟨rfl, fun z => hv (z.2 y z0 (by omega))⟩))
  unfold m_X7_fitsStep
  simp only [p0, p1, (ly_X3 hL hy).1, j3.1, j3.2.1, j3.2.2, (ly_X6 hL hs).1]
  refine z_gd trivial (z_gd ⟨by decide, t0, by omega⟩ (z_lt ?_))
  rcases st.1 with ⟨c1, c2⟩ | ⟨c1, c2, c3, c4, c5, c6⟩
  · rw [c1]
    exact z_it (by decide) (loop (fun z => by omega))
  · refine z_ie (by omega) ?_
    have i3 := g_X7_3 hL ha
    have k5 := g_X6_5 hL hs
    have cap := R'.1.1.1.2.2.1
    rw [show ya + 1 + 3 = ya + 4 by omega, yl.1] at cap
    obtain ⟨q1, q2, -, -, -, q6⟩ := (R.2.2.2.1 e e0 e1).1
    have nf := nm _ c1 c2
    rw [c6] at nf
    simp only [i3.1, i3.2.1, i3.2.2, k5.1, k5.2.1, k5.2.2]
    refine z_gd ⟨by decide, c1, by omega⟩ (z_gd trivial (z_gd ⟨by decide, e0, by omega⟩ ?_))
    by_cases hq : wr (Y 1) (Y 6 t) (Y 7 t) = wr (S 1) (S 8 e) (S 9 e)
    · have : p (a + 1) (p (ya + 13) t) = p (sa + 7) e := nf.uniq (Or.inr ⟨q1, q2, by rw [q6]; exact hq.symm⟩) dis
      exact z_it this (loop (fun _ => hq))
    · refine z_ie (fun z => ?_) (z_some (Or.inr ⟨rfl, fun z => hq (z.1 c3)⟩))
      rcases nf with ⟨g1, -⟩ | ⟨g1, g2, g3⟩
      · omega
      · rw [z, q6] at g3; exact hq g3.symm
