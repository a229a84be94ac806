set_option maxRecDepth 100000
/-! TREES: what fits, on the reference's side -/
theorem t_fieldOf {h S p : Hp} {l a n N E F M e t x0 x1 : Int} {s : Int → List Int} (hL : LAY h) (hl : l ∈ in_aX23) (R : SA S p a n N s E F M) (X : SXt S h l n E M) (e0 : 0 ≤ e) (e1 : e < E) (t1 : h t (-2) % 16 = 2) (x00 : 0 ≤ x0) (x01 : x0 ≤ x1) (x1n : x1 ≤ h t (-1)) (t2 : h t (-1) ≤ 65536) :
    Pz (m_X23_fieldOf l e t x0 x1 h) (fun v => ∃ x, isFd S e (wr (h t) x0 x1) x ∧ v = if x < 0 then -1 else 6 * e + x) := by
  have E5 := R.2.2.1.2.2.1
  obtain ⟨r1, r2, r3, r4, r5, r6⟩ := R.2.2.2.2.1 e e0 e1
  have n1 := R.1.2.1
  obtain ⟨-, x2, -, x4, x5⟩ := X
  have kt := g_X23_0 hL hl
  have k14 := g_X23_14 hL hl
  have k17 := g_X23_17 hL hl
  have k18 := g_X23_18 hL hl
  have c : h (l + 10) e = S 10 e := x4 10 (by decide) (by decide) e e0 e1
  unfold m_X23_fieldOf
  rw [lt_e, e32 (x := 6 * e) (by omega) (by omega)]
  refine z_bind (z_mono (z_lp (Q := fun v => ∃ x, isFd S e (wr (h t) x0 x1) x ∧ v = if x < 0 then -1 else 6 * e + x) (fun y : Int => 6 * e ≤ y ∧ y ≤ 6 * e + S 10 e ∧ ∀ z, 0 ≤ z → 6 * e + z < y → wr (S 1) (S 13 (6 * e + z)) (S 14 (6 * e + z)) ≠ wr (h t) x0 x1) (fun y => (6 * e + S 10 e - y).toNat) ⟨Int.le_refl _, by omega, fun z z0 z1 => by omega⟩ ?_) (fun r hr => z_some hr))
  rintro y ⟨y0, y1, yn⟩
  show Pz (m_X23_fieldOf_l6 l e t x0 x1 y h) _
  unfold m_X23_fieldOf_l6
  simp only [kt.1, k14.1, k14.2.1, k14.2.2, c, k17.1, k17.2.1, k17.2.2, k18.1, k18.2.1, k18.2.2]
  rw [e32 (x := 6 * e) (by omega) (by omega), e32 (x := 6 * e + S 10 e) (by omega) (by omega)]
  refine z_gd ⟨by decide, e0, by omega⟩ ?_
  by_cases hy : 6 * e + S 10 e ≤ y
  · exact z_it hy (z_some ⟨-1, Or.inl ⟨rfl, fun z z0 z1 => yn z z0 (by omega)⟩, rfl⟩)
  · obtain ⟨⟨-, -, c2, c3, c4, -⟩, -⟩ := r6 (y - 6 * e) (by omega) (by omega)
    have q13 := x5 13 (by decide) (by decide) e (y - 6 * e) e0 e1 (by omega) (by omega)
    have q14 := x5 14 (by decide) (by decide) e (y - 6 * e) e0 e1 (by omega) (by omega)
    rw [show 6 * e + (y - 6 * e) = y by omega] at c2 c3 c4 q13 q14
    refine z_ie hy (z_gd ⟨by decide, by omega, by omega⟩ (z_gd ⟨by decide, by omega, by omega⟩ ?_))
    rw [q13, q14, q_X18_same (by rw [kt.2.1]; decide) c2 c3 (by rw [kt.2.2]; omega) (by rw [kt.2.2]; decide) t1 x00 x01 x1n t2, Option.bind_some, wr_wd, wr_wd]
    have tx : wr (h (l + 1)) (S 13 y) (S 14 y) = wr (S 1) (S 13 y) (S 14 y) := wr_congr (fun z z0 z1 => x2 z (by omega) (by omega))
    rw [tx]
    by_cases hw : wr (S 1) (S 13 y) (S 14 y) = wr (h t) x0 x1
    · refine z_ie (fun z => absurd (eqW01.mpr hw) (by rw [z]; exact fun c => c rfl)) (z_some ⟨y - 6 * e, Or.inr ⟨by omega, by omega, by rw [show 6 * e + (y - 6 * e) = y by omega]; exact hw, fun z z0 z1 => yn z z0 (by omega)⟩, by rw [if_neg (by omega)]; omega⟩)
    · refine z_it ?_ (z_lt (z_some ?_))
      · exact Classical.byContradiction fun z => hw (eqW01.mp z)
      · rw [e32 (by omega) (by omega)]
        refine ⟨⟨by omega, by omega, fun z z0 z1 => ?_⟩, by omega⟩
        by_cases hz : 6 * e + z = y
        · rw [hz]; exact hw
        · exact yn z z0 (by omega)
/-- the relations of elements, as the reference has them -/
def RL (S h : Hp) (l E M : Int) : Prop := (∀ e, 0 ≤ e → e < E → h (l + 40) e = latP (S 7) (S 7 e) e.toNat ∧ h (l + 41) e = cntP (S 7) (S 7 e) e.toNat + 1 ∧ h (l + 44) e = flP (S 2) (S 3) (S 7) e M.toNat) ∧ ∀ k, 0 ≤ k → k ≤ E → h (l + 42) k = cntP (S 7) (k - 1) E.toNat
/-- the reference's tree in the making: source, style, relations -/
def TT (S Y h : Hp) (l ly n E M : Int) : Prop := LAY h ∧ SXt S h (l + 1) n E M ∧ (∀ k, 0 ≤ k → k ≤ 22 → h (ly + k) = Y k) ∧ RL S h l E M
/-- a test -/
theorem t_test {h S Y p p' : Hp} {l ly a a' n n' N N' E F M C ns na nsel nb nt m e x : Int} {s s' : Int → List Int} (hl : l ∈ in_aX24) (hly : ly ∈ in_aX22) (R : SA S p a n N s E F M) (R' : YA Y p' a' n' N' s' C ns na nsel nb nt m) (T : TT S Y h l ly n E M) (e0 : 0 ≤ e) (e1 : e < E) (x0 : 0 ≤ x) (x1 : x < na) (t : Int) (t0 : 0 ≤ t) (t1 : t < ns) (xt : x < Y 9 (t + 1)) :
    Pz (m_X24_fitsStep_l66 l ly t e x h) (fun r => (r = .inl (x + 1) ∧ tsA S Y E M x e) ∨ (r = .inr 0 ∧ ¬ tsA S Y E M x e)) := by
  have h24 := aX24 hl
  have h22 := aX22 hly
  obtain ⟨hL, X, eY, rl1, rl2⟩ := T
  have E5 := R.2.2.1.2.2.1
  have n1 := R.1.2.1
  have n2 := R'.1.2.2.2.2.1
  obtain ⟨y1, y2, y3, y4, y5, y6, y7, y8, y9, y10, y11, y12⟩ := R'.2.1
  have ak := R'.2.2.2.2.2.1 x x0 x1
  have y14 := (R'.2.2.2.1 (t + 1) (by omega) (by omega)).2.2
  obtain ⟨a1, a2, a3, a4, a5, a6⟩ := ak
  have k0 := g_X22_0 hL hly
  have k14 := g_X22_14 hL hly
  have k15 := g_X22_15 hL hly
  have q9 : h (ly + 9) (t + 1) = Y 9 (t + 1) := by rw [eY 9 (by decide) (by decide)]
  have q10 : h (ly + 10) x = Y 10 x := by rw [eY 10 (by decide) (by decide)]
  have q1 : h (ly + 1) = Y 1 := eY 1 (by decide) (by decide)
  have sr := g_X24_0 hL hl
  have sk := (ly_X23 hL h24.2.2).1
  have s0 := g_X23_0 hL h24.2.2
  have fin : ∀ v : Int, (v = 1 ∧ tsA S Y E M x e) ∨ (v = 0 ∧ ¬ tsA S Y E M x e) → Pz (m_X24_fitsStep_j413 x v) (fun r => (r = .inl (x + 1) ∧ tsA S Y E M x e) ∨ (r = .inr 0 ∧ ¬ tsA S Y E M x e)) := by
    intro v hv
    unfold m_X24_fitsStep_j413
    rcases hv with ⟨rfl, hv⟩ | ⟨rfl, hv⟩
    · refine z_it (by decide) (z_lt (z_some (Or.inl ⟨?_, hv⟩)))
      rw [e32 (by omega) (by omega)]
    · exact z_ie (fun z => z rfl) (z_some (Or.inr ⟨rfl, hv⟩))
  unfold m_X24_fitsStep_l66
  simp only [k14.1, k14.2.1, k14.2.2, k15.1, k15.2.1, k15.2.2, q10]
  rw [e32 (x := t + 1) (by omega) (by omega), q9]
  refine z_gd ⟨by decide, by omega, by omega⟩ (z_ie (by omega) (z_gd ⟨by decide, x0, by omega⟩ ?_))
  have nm : (Y 10 x = 1 ∨ Y 10 x = 2 ∨ Y 10 x = 7) → 0 ≤ Y 11 x ∧ Y 11 x ≤ Y 12 x ∧ Y 12 x ≤ n' := fun z => by
    have := a4 (by omega)
    exact ⟨this.2.2.1, this.2.2.2.1, this.2.2.2.2.1⟩
  have q11 : h (ly + 11) x = Y 11 x := by rw [eY 11 (by decide) (by decide)]
  have q12 : h (ly + 12) x = Y 12 x := by rw [eY 12 (by decide) (by decide)]
  have k16 := g_X22_16 hL hly
  have k17 := g_X22_17 hL hly
  by_cases c1 : Y 10 x = 1
  · obtain ⟨m1, m2, m3⟩ := nm (Or.inl c1)
    refine z_it c1 ?_
    simp only [k16.1, k16.2.1, k16.2.2, k17.1, k17.2.1, k17.2.2, sr.1, sk, k0.1, q11, q12]
    refine z_gd ⟨by decide, x0, by omega⟩ (z_gd ⟨by decide, x0, by omega⟩ (z_gd trivial (z_bind (z_mono (t_fieldOf (t := ly + 1) hL h24.2.2 R X e0 e1 (by rw [k0.2.1]; decide) m1 m2 (by rw [k0.2.2]; omega) (by rw [k0.2.2]; decide)) (fun v hv => ?_)))))
    obtain ⟨f, f1, f2⟩ := hv
    rw [q1] at f1
    unfold m_X24_fitsStep_j158
    by_cases hf : f < 0
    · rw [if_pos hf] at f2
      refine z_it (by omega) (fin 0 (Or.inr ⟨rfl, fun z => ?_⟩))
      obtain ⟨f', g1, g2⟩ := z.1 c1
      have := f1.uniq g1
      omega
    · rw [if_neg hf] at f2
      refine z_ie (by omega) (fin 1 (Or.inl ⟨rfl, ?_⟩))
      exact ⟨fun _ => ⟨f, f1, by omega⟩, fun z => by omega, fun z => by omega, fun z => by omega, fun z => by omega, fun z => by omega, fun z => by omega⟩
  refine z_ie c1 ?_
  by_cases c2 : Y 10 x = 2
  · obtain ⟨m1, m2, m3⟩ := nm (Or.inr (Or.inl c2))
    have st := a5 (by omega)
    refine z_it c2 ?_
    have k18 := g_X22_18 hL hly
    have k19 := g_X22_19 hL hly
    have q13 : h (ly + 13) x = Y 13 x := by rw [eY 13 (by decide) (by decide)]
    have q14 : h (ly + 14) x = Y 14 x := by rw [eY 14 (by decide) (by decide)]
    have j19 := g_X23_19 hL h24.2.2
    have j20 := g_X23_20 hL h24.2.2
    simp only [k16.1, k16.2.1, k16.2.2, k17.1, k17.2.1, k17.2.2, sr.1, sk, k0.1, q11, q12]
    refine z_gd ⟨by decide, x0, by omega⟩ (z_gd ⟨by decide, x0, by omega⟩ (z_gd trivial (z_bind (z_mono (t_fieldOf (t := ly + 1) hL h24.2.2 R X e0 e1 (by rw [k0.2.1]; decide) m1 m2 (by rw [k0.2.2]; omega) (by rw [k0.2.2]; decide)) (fun v hv => ?_)))))
    obtain ⟨f, f1, f2⟩ := hv
    rw [q1] at f1
    unfold m_X24_fitsStep_j251 m_X24_fitsStep_j252
    by_cases hf : f < 0
    · rw [if_pos hf] at f2
      refine z_it (by omega) (fin 0 (Or.inr ⟨rfl, fun z => ?_⟩))
      obtain ⟨f', g1, g2, -⟩ := z.2.1 c2
      have := f1.uniq g1
      omega
    · rw [if_neg hf] at f2
      refine z_ie (by omega) ?_
      have fx : f < S 10 e := by
        rcases f1 with z | z
        · omega
        · exact z.2.1
      have r6 := (R.2.2.2.2.1 e e0 e1).2.2.1
      obtain ⟨-, -, -, g4, g5, g6⟩ := (R.2.2.2.2.1 e e0 e1).2.2.2.2.2 f (by omega) fx
      have w15 : h (l + 1 + 15) v = S 15 v := by rw [f2]; exact X.2.2.2.2 15 (by decide) (by decide) e f e0 e1 (by omega) fx
      have w16 : h (l + 1 + 16) v = S 16 v := by rw [f2]; exact X.2.2.2.2 16 (by decide) (by decide) e f e0 e1 (by omega) fx
      rw [← f2] at g4 g5 g6
      simp only [j19.1, j19.2.1, j19.2.2, j20.1, j20.2.1, j20.2.2, k18.1, k18.2.1, k18.2.2, k19.1, k19.2.1, k19.2.2, q13, q14, w15, w16, s0.1]
      refine z_gd ⟨by decide, by omega, by omega⟩ (z_gd ⟨by decide, by omega, by omega⟩ (z_gd ⟨by decide, x0, by omega⟩ (z_gd ⟨by decide, x0, by omega⟩ ?_)))
      obtain ⟨u1, u2, u3, u4, u5, u6, u7⟩ := st
      rw [q_X18_same (by rw [s0.2.1]; decide) g4 g5 (by rw [s0.2.2]; omega) (by rw [s0.2.2]; decide) (by rw [k0.2.1]; decide) u4 (by omega) (by rw [k0.2.2]; omega) (by rw [k0.2.2]; decide), Option.bind_some, wr_wd, wr_wd, q1]
      have tx : wr (h (l + 1 + 1)) (S 15 v) (S 16 v) = wr (S 1) (S 15 v) (S 16 v) := wr_congr (fun z z0 z1 => X.2.1 z (by omega) (by omega))
      rw [tx]
      by_cases hw : wr (S 1) (S 15 v) (S 16 v) = wr (Y 1) (Y 13 x) (Y 14 x)
      · refine z_ie (fun z => absurd (eqW01.mpr hw) (by rw [z]; exact fun c => c rfl)) (fin 1 (Or.inl ⟨rfl, ?_⟩))
        exact ⟨fun z => by omega, fun _ => ⟨f, f1, by omega, by rw [← f2]; exact hw⟩, fun z => by omega, fun z => by omega, fun z => by omega, fun z => by omega, fun z => by omega⟩
      · refine z_it (Classical.byContradiction fun z => hw (eqW01.mp z)) (fin 0 (Or.inr ⟨rfl, fun z => ?_⟩))
        obtain ⟨f', g1, g2, g3⟩ := z.2.1 c2
        have := f1.uniq g1
        subst this
        rw [← f2] at g3
        exact hw g3
  refine z_ie c2 ?_
  have r := rl1 e e0 e1
  by_cases c3 : Y 10 x = 3
  · refine z_it c3 ?_
    unfold m_X24_fitsStep_j272
    simp only [g_X24_20 hL hl, r.2.1]
    refine z_gd ⟨by decide, e0, by omega⟩ ?_
    by_cases hc : cntP (S 7) (S 7 e) e.toNat + 1 = 1
    · exact z_ie (fun z => z hc) (fin 1 (Or.inl ⟨rfl, fun z => by omega, fun z => by omega, fun _ => hc, fun z => by omega, fun z => by omega, fun z => by omega, fun z => by omega⟩))
    · exact z_it hc (fin 0 (Or.inr ⟨rfl, fun z => hc (z.2.2.1 c3)⟩))
  refine z_ie c3 ?_
  by_cases c4 : Y 10 x = 4
  · refine z_it c4 ?_
    unfold m_X24_fitsStep_j307
    have j11 := g_X23_11 hL h24.2.2
    have w := R.2.2.2.1 e e0 e1
    have qP : h (l + 1 + 7) e = S 7 e := X.2.2.2.1 7 (by decide) (by decide) e e0 e1
    have qm := rl2 (S 7 e + 1) (by omega) (by omega)
    rw [show S 7 e + 1 - 1 = S 7 e by omega] at qm
    simp only [g_X24_20 hL hl, g_X24_21 hL hl, r.2.1, sr.1, sk, j11.1, j11.2.1, j11.2.2, qP]
    rw [e32 (x := S 7 e + 1) (by omega) (by omega), qm]
    refine z_gd ⟨by decide, e0, by omega⟩ (z_gd trivial (z_gd ⟨by decide, e0, by omega⟩ (z_gd ⟨by decide, by omega, by omega⟩ ?_)))
    by_cases hc : cntP (S 7) (S 7 e) e.toNat + 1 = cntP (S 7) (S 7 e) E.toNat
    · exact z_ie (fun z => z hc) (fin 1 (Or.inl ⟨rfl, fun z => by omega, fun z => by omega, fun z => by omega, fun _ => hc, fun z => by omega, fun z => by omega, fun z => by omega⟩))
    · exact z_it hc (fin 0 (Or.inr ⟨rfl, fun z => hc (z.2.2.2.1 c4)⟩))
  refine z_ie c4 ?_
  by_cases c5 : Y 10 x = 5
  · refine z_it c5 ?_
    unfold m_X24_fitsStep_j326
    simp only [g_X24_23 hL hl, r.2.2]
    refine z_gd ⟨by decide, e0, by omega⟩ ?_
    by_cases hc : flP (S 2) (S 3) (S 7) e M.toNat = 0
    · exact z_ie (fun z => z hc) (fin 1 (Or.inl ⟨rfl, fun z => by omega, fun z => by omega, fun z => by omega, fun z => by omega, fun _ => hc, fun z => by omega, fun z => by omega⟩))
    · exact z_it hc (fin 0 (Or.inr ⟨rfl, fun z => hc (z.2.2.2.2.1 c5)⟩))
  refine z_ie c5 ?_
  by_cases c6 : Y 10 x = 6
  · refine z_it c6 ?_
    unfold m_X24_fitsStep_j352
    have k20 := g_X22_20 hL hly
    have q15 : h (ly + 15) x = Y 15 x := by rw [eY 15 (by decide) (by decide)]
    simp only [g_X24_20 hL hl, r.2.1, k20.1, k20.2.1, k20.2.2, q15]
    refine z_gd ⟨by decide, e0, by omega⟩ (z_gd ⟨by decide, x0, by omega⟩ ?_)
    by_cases hc : cntP (S 7) (S 7 e) e.toNat + 1 = Y 15 x
    · exact z_ie (fun z => z hc) (fin 1 (Or.inl ⟨rfl, fun z => by omega, fun z => by omega, fun z => by omega, fun z => by omega, fun z => by omega, fun _ => hc, fun z => by omega⟩))
    · exact z_it hc (fin 0 (Or.inr ⟨rfl, fun z => hc (z.2.2.2.2.2.1 c6)⟩))
  refine z_ie c6 ?_
  have c7 : Y 10 x = 7 := by omega
  obtain ⟨m1, m2, m3⟩ := nm (Or.inr (Or.inr c7))
  have j12 := g_X23_12 hL h24.2.2
  have j13 := g_X23_13 hL h24.2.2
  have w := (R.2.2.2.1 e e0 e1).1
  have q8 : h (l + 1 + 8) e = S 8 e := X.2.2.2.1 8 (by decide) (by decide) e e0 e1
  have q9' : h (l + 1 + 9) e = S 9 e := X.2.2.2.1 9 (by decide) (by decide) e e0 e1
  unfold m_X24_fitsStep_j411
  simp only [k16.1, k16.2.1, k16.2.2, k17.1, k17.2.1, k17.2.2, sr.1, sk, k0.1, q11, q12, j12.1, j12.2.1, j12.2.2, j13.1, j13.2.1, j13.2.2, q8, q9', s0.1]
  refine z_gd ⟨by decide, x0, by omega⟩ (z_gd ⟨by decide, x0, by omega⟩ (z_gd trivial (z_gd ⟨by decide, e0, by omega⟩ (z_gd ⟨by decide, e0, by omega⟩ ?_))))
  obtain ⟨-, -, w3, w4, w5, -⟩ := w
  rw [q_X18_same (by rw [k0.2.1]; decide) m1 m2 (by rw [k0.2.2]; omega) (by rw [k0.2.2]; decide) (by rw [s0.2.1]; decide) w3 w4 (by rw [s0.2.2]; omega) (by rw [s0.2.2]; decide), Option.bind_some, wr_wd, wr_wd, q1]
  have tx : wr (h (l + 1 + 1)) (S 8 e) (S 9 e) = wr (S 1) (S 8 e) (S 9 e) := wr_congr (fun z z0 z1 => X.2.1 z (by omega) (by omega))
  rw [tx]
  by_cases hw : wr (Y 1) (Y 11 x) (Y 12 x) = wr (S 1) (S 8 e) (S 9 e)
  · exact z_it (eqW01.mpr hw) (fin 0 (Or.inr ⟨rfl, fun z => z.2.2.2.2.2.2 c7 hw⟩))
  · exact z_ie (fun z => hw (eqW01.mp z)) (fin 1 (Or.inl ⟨rfl, fun z => by omega, fun z => by omega, fun z => by omega, fun z => by omega, fun z => by omega, fun z => by omega, fun _ => hw⟩))
