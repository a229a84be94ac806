set_option maxRecDepth 100000
/-! TITLES: the component's title -/
/-- a piece of text -/
theorem c_piece {S Y V p : Hp} {a b cap sa ya n N E F M n' N' C ns na nsel nb nt m k : Int} {s s' : Int → List Int} {L : List Int} {t : List Int × Bool} (T : KC S Y V p a sa ya n N s E F M n' N' s' C ns na nsel nb nt m) (hb : b ∈ in_aX5) (hb2 : 273 ≤ b) (B : ttC p a b L t) (hc : p (b + 1) (-1) = cap) (hl : (L.length : Int) + 40 ≤ cap) (hc2 : cap ≤ 100000) (k0 : 0 ≤ k) (k1 : k < M) (i1 : S 2 k ≠ 1) (i2 : S 2 k ≠ 2) :
    Pz (lp (fun (q : Int × Hp) => m_X7_title_l174 a b k q.1 q.2) (0, p)) (fun r => ∃ q, r = .inl q ∧ F2 (tlW a b) p q ∧ ttC q a b L (ttL t (itB S k))) := by
  have ha := T.1.2.1
  have h7 := aX7 ha
  have hs := T.1.2.2.1
  have R := T.2.1
  have n3 := R.1.2.1
  have Mn := R.2.2.2.2.2.1.2.2.1
  have key : ∃ z : Nat, p (sa + 22) k = z ∧ z ≤ 3000 ∧ (itB S k).length = z ∧ ∀ x : Nat, x < z → ∃ c, (itB S k)[x]? = some c ∧ -128 ≤ c ∧ c ≤ 127 ∧ ∀ q, F2 (tlW a b) p q → m_X6_byteOf sa k x q = some c := by
    have h6 := aX6 hs
    have by_ : ∀ q, F2 (tlW a b) p q → LAY q ∧ q (sa + 21) = p (sa + 21) ∧ q (sa + 1) = p (sa + 1) := fun q f => ⟨tlW_l T.1.1 ha hb f, f.row (fun j z => by unfold tlW ttW b5W at z; omega), f.row (fun j z => by unfold tlW ttW b5W at z; omega)⟩
    rcases R.2.2.2.2.2.1.2.2.2 k k0 k1 with z | z | ⟨-, z2, z3, z4, z5, z6, z7⟩ | ⟨-, z2, z3, z4, z5⟩
    · exact absurd z.2.1 i1
    · exact absurd z.2.1 i2
    · have ei : itB S k = wr (S 1) (S 3 k) (S 4 k) := by unfold itB; rw [if_neg (by omega)]
      refine ⟨(S 4 k - S 3 k).toNat, by omega, by omega, by rw [ei, wr_len], fun x hx => ⟨S 1 (S 3 k + x), ?_, (R.byte (by omega) (by omega)).1, (R.byte (by omega) (by omega)).2, fun q f => ?_⟩⟩
      · rw [ei]; unfold wr; simp [hx]
      · obtain ⟨Lq, e1, e2⟩ := by_ q f
        have j22 := g_X6_22 Lq hs
        have j0 := g_X6_0 Lq hs
        unfold m_X6_byteOf
        simp only [j22.1, j22.2.1, j22.2.2, j0.1, j0.2.1, j0.2.2, e1, e2, z3]
        rw [gd_t ⟨by decide, k0, by omega⟩, if_pos z4, e32 (by omega) (by omega), gd_t ⟨by decide, by omega, by omega⟩, R.1.2.2.2.2.1 _ (by omega) (by omega)]
    · have ei : itB S k = [S 3 k] := by unfold itB; rw [if_pos z2]
      refine ⟨1, z5, by omega, by rw [ei]; rfl, fun x hx => ⟨S 3 k, ?_, by omega, by omega, fun q f => ?_⟩⟩
      · have : x = 0 := by omega
        rw [ei, this]; rfl
      · obtain ⟨Lq, e1, e2⟩ := by_ q f
        have j22 := g_X6_22 Lq hs
        unfold m_X6_byteOf
        simp only [j22.1, j22.2.1, j22.2.2, e1, z3]
        rw [gd_t ⟨by decide, k0, by omega⟩, if_neg (by omega), e32 (by omega) (by omega), show (-1 - (-1 - S 3 k)) = S 3 k by omega]
  obtain ⟨z, z1, z2, z3, z4⟩ := key
  generalize itB S k = D at *
  refine z_lp (fun (w : Int × Hp) => ∃ x : Nat, w.1 = x ∧ x ≤ z ∧ F2 (ttW a b) p w.2 ∧ ttC w.2 a b L (ttL t (D.take x))) (fun w => ((z : Int) - w.1).toNat) ⟨0, rfl, Nat.zero_le _, F2.refl, B⟩ ?_
  rintro ⟨y, q⟩ ⟨x, ey, x1, Fq, Bq⟩
  dsimp only at ey Bq
  subst ey
  replace Fq : F2 (ttW a b) p q := Fq
  have Fq' : F2 (tlW a b) p q := Fq.mono (fun x j z => Or.inl z)
  have Tq := T.kept hb hb2 Fq'
  have Lq := Tq.1.1
  have t0 := Tq.2.2.2.1.1.1
  have j23 := g_X6_23 Lq hs
  have h6 := aX6 hs
  have q22 : q (sa + 22) k = z := by rw [Fq _ _ (by unfold ttW b5W; omega)]; exact z1
  show Pz (m_X7_title_l174 a b k x q) _
  unfold m_X7_title_l174
  simp only [t0, (ly_X6 Lq hs).1, j23.1, j23.2.1, j23.2.2, q22]
  refine z_gd trivial (z_gd ⟨by decide, k0, by omega⟩ ?_)
  by_cases hx : (z : Int) ≤ x
  · have : D.take x = D := List.take_of_length_le (by omega)
    rw [this] at Bq
    exact z_it hx (z_some ⟨q, rfl, Fq', Bq⟩)
  · refine z_ie hx ?_
    rw [q_full7, Option.bind_some]
    by_cases hf : q a 19 = 40
    · rw [decide_eq_true hf]
      refine z_it (by decide) (z_some ⟨q, rfl, Fq', ?_⟩)
      have := Bq.more (Bq.full.mp hf) (D.drop x)
      rw [← ttL_app, List.take_append_drop] at this
      exact this
    · rw [decide_eq_false hf]
      refine z_ie (by decide) ?_
      obtain ⟨c, c1, c2, c3, c4⟩ := z4 x (by omega)
      rw [c4 q Fq', Option.bind_some]
      refine ttQ_bT (c_put7 Lq ha hb Bq (by rw [Fq _ _ (by unfold ttW b5W; omega)]; exact hc) hl hc2 c2 c3) (fun p' f h => z_lt (z_some ?_))
      rw [e32 (by omega) (by omega)]
      refine ⟨⟨x + 1, by dsimp only; omega, by omega, Fq.trans f, ?_⟩, by dsimp only; omega⟩
      dsimp only
      rw [take_at c1, ttL_app]
      exact h
