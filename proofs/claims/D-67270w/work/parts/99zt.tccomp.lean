set_option maxRecDepth 100000
/-! TREES: the component's side: properties of an element -/
theorem c_fits {S Y p : Hp} {a sa ya n N E F M n' N' C ns na nsel nb nt m k e τ : Int} {s s' : Int → List Int} (T : CT S Y p a sa ya n N s E F M n' N' s' C ns na nsel nb nt m) (k0 : 0 ≤ k) (k1 : k < nsel) (e0 : 0 ≤ e) (e1 : e < E) (ht : p a 12 = τ) (t0 : 0 ≤ τ) (t1 : τ ≤ 1000000000) (tm : ∀ j, 0 ≤ j → p (a + 9) j ≤ τ) :
    Pz (m_X7_fits a k e p) (fun r => F2 (fun b j => (b = a ∧ j = 12) ∨ (b = a + 9 ∧ 0 ≤ j)) p r.2 ∧ r.2 a 12 = τ + 1 ∧ (∀ j, 0 ≤ j → r.2 (a + 9) j ≤ τ + 1) ∧ ((r.1 = 1 ∧ FT S Y E M (Y 4 k) (Y 4 (k + 1) - Y 4 k - 1).toNat e) ∨ (r.1 = 0 ∧ ¬ FT S Y E M (Y 4 k) (Y 4 (k + 1) - Y 4 k - 1).toNat e))) := by
  obtain ⟨⟨hL, ha, hs, hy⟩, ⟨p0, p1, p2⟩, R, R', nm⟩ := id T
  have h7 := aX7 ha
  have h3 := aX3' hy
  have E5 := R.2.2.1.2.2.1
  have na_ := R'.2.1
  have s0 := R'.2.2.2.2.2.2.1 k k0 (by omega)
  have s1 := R'.2.2.2.2.2.2.1 (k + 1) (by omega) (by omega)
  have sk := R'.2.2.2.2.2.2.2.1 k k0 k1
  have j12 := g_X3_12 hL hy
  unfold m_X7_fits
  simp only [p1, (ly_X3 hL hy).1, j12.1, j12.2.1, j12.2.2, s0.1, ht]
  refine z_gd trivial (z_gd ⟨by decide, k0, by omega⟩ (z_lt (z_pt ?_)))
  rw [e32 (x := τ + 1) (by omega) (by omega), e32 (x := k + 1) (by omega) (by omega)]
  have F1 : F2 (fun b j => (b = a ∧ j = 12) ∨ (b = a + 9 ∧ 0 ≤ j)) p (up p a 12 (τ + 1)) := F2.refl.put (Or.inl ⟨rfl, rfl⟩)
  have T1 := T.kept (F1.mono (fun b j z => by omega))
  obtain ⟨⟨hL1, -⟩, ⟨q0, q1, q2⟩, R1, R1', -⟩ := id T1
  have j12' := g_X3_12 hL1 hy
  have s1' := (R1'.2.2.2.2.2.2.1 (k + 1) (by omega) (by omega)).1
  simp only [q1, (ly_X3 hL1 hy).1, j12'.1, j12'.2.1, j12'.2.2, s1']
  refine z_gd trivial (z_gd ⟨by decide, by omega, by omega⟩ ?_)
  rw [e32 (x := Y 4 (k + 1) - 1) (by omega) (by omega), show Y 4 (k + 1) - 1 = Y 4 k + (((Y 4 (k + 1) - Y 4 k - 1).toNat : Nat) : Int) by omega]
  refine z_bW (z_mono (c_fitsFrom (f := Y 4 k) (τ := τ + 1) s0.2.1 (Y 4 (k + 1) - Y 4 k - 1).toNat 64 e (up p a 12 (τ + 1)) (by omega) (by omega) (by omega) e0 e1 T1 (up_s _ _ _ _) (fun k' hk' x x0 x1 xt => ?_)) (fun r hr => z_some ?_))
  · rw [up_a (by omega)] at xt
    have := tm (k' * 500 + x) (by omega)
    omega
  · obtain ⟨⟨r1, r2⟩, r3⟩ := hr
    refine ⟨F1.trans (r1.mono (fun b j z => Or.inr ⟨z.1, z.2.1⟩)), ?_, fun j j0 => ?_, ?_⟩
    · show r.2 a 12 = τ + 1
      rw [r1 _ _ (by omega), up_s]
    · show r.2 (a + 9) j ≤ τ + 1
      rcases r2 j with z | z
      · rw [z, up_a (by omega)]
        have := tm j j0
        omega
      · omega
    · rcases r3 with ⟨r3, r4⟩ | ⟨r3, r4, -⟩
      · exact Or.inl ⟨r3, r4⟩
      · exact Or.inr ⟨r3, r4⟩
/-- the best declarations so far -/
def bsD (p : Hp) (a : Int) (D : Int → Int × Int) : Prop := ∀ c, 0 ≤ c → c ≤ 21 → p (a + 10) c = (D c).1 ∧ (0 ≤ (D c).1 → p (a + 11) c = (D c).2) ∧ (D c = (-1, -1) ∨ 0 ≤ (D c).1)
theorem c_weigh {S Y p : Hp} {a sa ya n N E F M n' N' C ns na nsel nb nt m k : Int} {s s' : Int → List Int} {D : Int → Int × Int} (T : CT S Y p a sa ya n N s E F M n' N' s' C ns na nsel nb nt m) (k0 : 0 ≤ k) (k1 : k < nsel) (d : bsD p a D) :
    Pz (m_X7_weigh a k p) (fun p' => F2 (fun b j => (b = a + 10 ∨ b = a + 11) ∧ 0 ≤ j) p p' ∧ bsD p' a (fun c => dcF Y c (wsm (Y 9) (Y 6) (Y 4 k) (Y 4 (k + 1) - Y 4 k).toNat) (Y 16 (Y 5 k)) (Y 16 (Y 5 k + 1) - Y 16 (Y 5 k)).toNat (D c))) := by
  obtain ⟨⟨hL, ha, hs, hy⟩, ⟨p0, p1, p2⟩, R, R', nm⟩ := id T
  have h7 := aX7 ha
  have h3 := aX3' hy
  have na_ := R'.2.1
  have s0 := R'.2.2.2.2.2.2.1 k k0 (by omega)
  have s1 := R'.2.2.2.2.2.2.1 (k + 1) (by omega) (by omega)
  have sk := R'.2.2.2.2.2.2.2.1 k k0 k1
  have wn : 0 ≤ wsm (Y 9) (Y 6) (Y 4 k) (Y 4 (k + 1) - Y 4 k).toNat := wsm_nn _ (fun x x0 x1 => (R'.2.2.2.2.1 x (by omega) (by omega)).1)
  have ew := sk.2.2.1
  have eb := sk.2.2.2.1
  have bb := sk.2.2.2.2
  generalize wsm (Y 9) (Y 6) (Y 4 k) (Y 4 (k + 1) - Y 4 k).toNat = w at *
  generalize Y 5 k = b at *
  have c0 := R'.2.2.2.2.2.2.2.2.1 b bb.1 (by omega)
  have c1 := R'.2.2.2.2.2.2.2.2.1 (b + 1) (by omega) (by omega)
  have c2 := R'.2.2.2.2.2.2.2.2.2.1 b bb.1 bb.2
  have j14 := g_X3_14 hL hy
  have j21 := g_X3_21 hL hy
  unfold m_X7_weigh
  simp only [p1, (ly_X3 hL hy).1, j14.1, j14.2.1, j14.2.2, eb, j21.1, j21.2.1, j21.2.2]
  refine z_gd trivial (z_gd ⟨by decide, k0, by omega⟩ (z_lt (z_gd ⟨by decide, bb.1, by omega⟩ (z_lt ?_))))
  rw [c0.1]
  refine z_bind (z_mono (z_lp (Q := fun p' => F2 (fun b j => (b = a + 10 ∨ b = a + 11) ∧ 0 ≤ j) p p' ∧ bsD p' a (fun c => dcF Y c w (Y 16 b) (Y 16 (b + 1) - Y 16 b).toNat (D c))) (fun (s : Int × Hp) => Y 16 b ≤ s.1 ∧ s.1 ≤ Y 16 (b + 1) ∧ F2 (fun b j => (b = a + 10 ∨ b = a + 11) ∧ 0 ≤ j) p s.2 ∧ bsD s.2 a (fun c => dcF Y c w (Y 16 b) (s.1 - Y 16 b).toNat (D c))) (fun s => (Y 16 (b + 1) - s.1).toNat) ⟨Int.le_refl _, c2, F2.refl, by dsimp only; rw [Int.sub_self]; exact d⟩ ?_) (fun r hr => z_some hr))
  rintro ⟨x, q⟩ ⟨x0, x1, Fq, Dq⟩
  dsimp only at x0 x1 Dq
  replace Fq : F2 (fun b j => (b = a + 10 ∨ b = a + 11) ∧ 0 ≤ j) p q := Fq
  have Tq := T.kept (Fq.mono (fun b j z => by omega))
  obtain ⟨⟨hL1, -⟩, ⟨q0, q1, q2⟩, R1, R1', -⟩ := id Tq
  have j21' := g_X3_21 hL1 hy
  have c1' := (R1'.2.2.2.2.2.2.2.2.1 (b + 1) (by omega) (by omega)).1
  show Pz (m_X7_weigh_l20 a k b x q) _
  unfold m_X7_weigh_l20
  rw [e32 (x := b + 1) (by omega) (by omega)]
  simp only [q1, (ly_X3 hL1 hy).1, j21'.1, j21'.2.1, j21'.2.2, c1']
  refine z_gd trivial (z_gd ⟨by decide, by omega, by omega⟩ ?_)
  by_cases hx : Y 16 (b + 1) ≤ x
  · have : x = Y 16 (b + 1) := by omega
    subst this
    exact z_it hx (z_some ⟨Fq, Dq⟩)
  · refine z_ie hx ?_
    have j16 := g_X3_16 hL1 hy
    obtain ⟨dd1, dd2, dd3, -⟩ := R1'.2.2.2.2.2.2.2.2.2.2.1 x (by omega) (by omega)
    rw [dd1] at dd2 dd3
    simp only [j16.1, j16.2.1, j16.2.2, dd1]
    refine z_gd ⟨by decide, by omega, by omega⟩ (z_lt ?_)
    have i13 := g_X7_13 hL1 ha
    have i14 := g_X7_14 hL1 ha
    have j13 := g_X3_13 hL1 hy
    have W := Dq (Y 17 x) dd2 dd3
    have ew' := (R1'.2.2.2.2.2.2.2.1 k k0 k1).2.2.1
    have qw : q (ya + 21) k = w := by rw [Fq _ _ (by omega)]; exact ew
    dsimp only at W
    have tx : (x + 1 - Y 16 b).toNat = (x - Y 16 b).toNat + 1 := by omega
    have ex : Y 16 b + (((x - Y 16 b).toNat : Nat) : Int) = x := by omega
    have st : ∀ c, dcF Y c w (Y 16 b) (x + 1 - Y 16 b).toNat (D c) = if Y 17 x = c ∧ (dcF Y c w (Y 16 b) (x - Y 16 b).toNat (D c)).2 ≤ w then (x, w) else dcF Y c w (Y 16 b) (x - Y 16 b).toNat (D c) := fun c => by
      rw [tx]
      show (if Y 17 (Y 16 b + (((x - Y 16 b).toNat : Nat) : Int)) = c ∧ _ then (Y 16 b + (((x - Y 16 b).toNat : Nat) : Int), w) else _) = _
      rw [ex]
    have out : ∀ q', F2 (fun b j => (b = a + 10 ∨ b = a + 11) ∧ 0 ≤ j) q q' → bsD q' a (fun c => dcF Y c w (Y 16 b) (x + 1 - Y 16 b).toNat (D c)) → Pz (m_X7_weigh_j99 x q') (sE (fun s => (Y 16 b ≤ s.1 ∧ s.1 ≤ Y 16 (b + 1) ∧ F2 (fun b j => (b = a + 10 ∨ b = a + 11) ∧ 0 ≤ j) p s.2 ∧ bsD s.2 a (fun c => dcF Y c w (Y 16 b) (s.1 - Y 16 b).toNat (D c))) ∧ (Y 16 (b + 1) - s.1).toNat < (Y 16 (b + 1) - x).toNat) (fun p' => F2 (fun b j => (b = a + 10 ∨ b = a + 11) ∧ 0 ≤ j) p p' ∧ bsD p' a (fun c => dcF Y c w (Y 16 b) (Y 16 (b + 1) - Y 16 b).toNat (D c)))) := by
      intro q' f1 f2
      unfold m_X7_weigh_j99
      rw [lt_e, e32 (x := x + 1) (by omega) (by omega)]
      exact z_some ⟨⟨by dsimp only; omega, by dsimp only; omega, Fq.trans f1, f2⟩, by dsimp only; omega⟩
    -- it is taken
    have take : (dcF Y (Y 17 x) w (Y 16 b) (x - Y 16 b).toNat (D (Y 17 x))).2 ≤ w → Pz (m_X7_weigh_j75 (Y 17 x) x a k q) (sE (fun s => (Y 16 b ≤ s.1 ∧ s.1 ≤ Y 16 (b + 1) ∧ F2 (fun b j => (b = a + 10 ∨ b = a + 11) ∧ 0 ≤ j) p s.2 ∧ bsD s.2 a (fun c => dcF Y c w (Y 16 b) (s.1 - Y 16 b).toNat (D c))) ∧ (Y 16 (b + 1) - s.1).toNat < (Y 16 (b + 1) - x).toNat) (fun p' => F2 (fun b j => (b = a + 10 ∨ b = a + 11) ∧ 0 ≤ j) p p' ∧ bsD p' a (fun c => dcF Y c w (Y 16 b) (Y 16 (b + 1) - Y 16 b).toNat (D c)))) := by
      intro hw
      unfold m_X7_weigh_j75
      simp only [i13.1]
      refine z_pt ?_
      have F3 : F2 (fun b j => (b = a + 10 ∨ b = a + 11) ∧ 0 ≤ j) q (up q (a + 10) (Y 17 x) x) := F2.refl.put ⟨Or.inl rfl, dd2⟩
      have T3 := Tq.kept (F3.mono (fun b j z => by omega))
      obtain ⟨⟨hL3, -⟩, ⟨u0, u1, u2⟩, -⟩ := id T3
      have j13' := g_X3_13 hL3 hy
      have i14' := g_X7_14 hL3 ha
      have qw' : up q (a + 10) (Y 17 x) x (ya + 21) k = w := by rw [up_a (by omega)]; exact qw
      simp only [u1, (ly_X3 hL3 hy).1, j13'.1, j13'.2.1, j13'.2.2, i14'.1, i14'.2.1, i14'.2.2, qw']
      refine z_gd trivial (z_gd ⟨by decide, k0, by omega⟩ (z_gd ⟨by decide, dd2, by omega⟩ (z_pt (out _ (F3.put ⟨Or.inr rfl, dd2⟩) (fun c g0 g1 => ?_)))))
      dsimp only
      rw [st c]
      by_cases hc : c = Y 17 x
      · subst hc
        rw [if_pos ⟨rfl, hw⟩, up_a (by omega), up_s, up_s]
        exact ⟨rfl, fun _ => rfl, Or.inr (by dsimp only; omega)⟩
      · rw [if_neg (fun z => hc z.1.symm), up_i hc, up_i hc, up_i hc, up_i hc]
        exact Dq c g0 g1
    simp only [i13.1, i13.2.1, i13.2.2, W.1]
    refine z_gd ⟨by decide, dd2, by omega⟩ ?_
    by_cases hn : (dcF Y (Y 17 x) w (Y 16 b) (x - Y 16 b).toNat (D (Y 17 x))).1 < 0
    · refine z_it hn (take ?_)
      rcases W.2.2 with z | z
      · rw [z]; show (-1 : Int) ≤ w; omega
      · omega
    · refine z_ie hn ?_
      simp only [q1, j13.1, j13.2.1, j13.2.2, qw, i14.1, i14.2.1, i14.2.2, W.2.1 (by omega)]
      refine z_gd ⟨by decide, k0, by omega⟩ (z_gd ⟨by decide, dd2, by omega⟩ ?_)
      by_cases hw : (dcF Y (Y 17 x) w (Y 16 b) (x - Y 16 b).toNat (D (Y 17 x))).2 ≤ w
      · exact z_ie (by omega) (take hw)
      · refine z_it (by omega) (out q F2.refl (fun c g0 g1 => ?_))
        dsimp only
        rw [st c]
        by_cases hc : c = Y 17 x
        · subst hc
          rw [if_neg (fun z => hw z.2)]; exact Dq _ g0 g1
        · rw [if_neg (fun z => hc z.1.symm)]; exact Dq c g0 g1
