/-! THE TAPE -/
theorem fx_arr {K j : Int} (h1 : 1 ≤ K % 16) (h2 : K % 16 ≤ 4) : (decide (5 ≤ K % 16) || fxT.any (fun e => decide (e.1 = K) && decide (j ∈ e.2))) = false := by
  rw [decide_eq_false (by omega), Bool.false_or, List.any_eq_false]
  intro e he
  have : e.1 % 16 = 0 := by
    have key : ∀ e ∈ fxT, e.1 % 16 = 0 := by decide +kernel
    exact key e he
  rw [decide_eq_false (by omega), Bool.false_and]
  decide
theorem c_four {h : Hp} {v t : Int} (hL : LAY h) (ht : h 1 1 = t) (t0 : 0 ≤ t) (t1 : t + 4 ≤ 16384) : Pz (m_X1_four 1 v h) (fun h' => F2 (fun b j => (b = 1 ∧ j = 1) ∨ (b = 2 ∧ t ≤ j ∧ j < t + 4)) h h' ∧ LAY h' ∧ h' 1 1 = t + 4 ∧ ∀ k : Nat, k < 4 → h' 2 (t + (k : Int)) = w8 (ishr_ v (24 - 8 * (k : Int)))) := by
  unfold m_X1_four
  refine z_lt (z_bind (z_mono (z_lp (Q := fun h' => F2 (fun b j => (b = 1 ∧ j = 1) ∨ (b = 2 ∧ t ≤ j ∧ j < t + 4)) h h' ∧ LAY h' ∧ h' 1 1 = t + 4 ∧ ∀ k : Nat, k < 4 → h' 2 (t + (k : Int)) = w8 (ishr_ v (24 - 8 * (k : Int)))) (I := fun q : Int × Hp => ∃ n : Nat, n ≤ 4 ∧ q.1 = 24 - 8 * (n : Int) ∧ F2 (fun b j => (b = 1 ∧ j = 1) ∨ (b = 2 ∧ t ≤ j ∧ j < t + 4)) h q.2 ∧ LAY q.2 ∧ q.2 1 1 = t + n ∧ ∀ k : Nat, k < n → q.2 2 (t + (k : Int)) = w8 (ishr_ v (24 - 8 * (k : Int)))) (μ := fun q => (q.1 + 8).toNat) ⟨0, by decide, rfl, F2.refl, hL, by show h 1 1 = t + ((0 : Nat) : Int); rw [ht]; omega, fun k hk => absurd hk (Nat.not_lt_zero _)⟩ ?_) (fun h' hh => z_some hh)))
  rintro ⟨s, q⟩ ⟨n, n4, e1, e2, e3, e4, e5⟩
  dsimp only at e1 e2 e3 e4 e5
  subst e1
  show Pz (m_X1_four_l3 1 v (24 - 8 * (n : Int)) q) _
  unfold m_X1_four_l3
  refine z_if (fun hc => z_some ?_) (fun hc => ?_)
  · have : n = 4 := by omega
    subst this
    exact ⟨e2, e3, e4, e5⟩
  · have hn : n < 4 := by omega
    obtain ⟨-, ⟨l0, l1, l2⟩, -⟩ := ly_X1 e3
    rw [l0, e4]
    refine z_gd ⟨by rw [l1]; decide, by omega, by rw [l2]; omega⟩ (z_pt (z_pt (z_lt (z_some ?_))))
    have f1 : up q 2 (t + n) (w8 (ishr_ v (24 - 8 * (n : Int)))) 1 1 = t + n := by rw [up_a (by decide)]; exact e4
    rw [f1, e32 (x := t + n + 1) (by omega) (by omega)]
    have L1 : LAY (up q 2 (t + n) (w8 (ishr_ v (24 - 8 * (n : Int))))) := e3.put (by omega) (by decide) (by rw [l1]; unfold fx; rw [fx_arr (by decide) (by decide)])
    refine ⟨⟨n + 1, by omega, ?_, (e2.put (Or.inr ⟨rfl, by omega, by omega⟩)).put (Or.inl ⟨rfl, rfl⟩), L1.put (by decide) (by decide) (by rw [(ly_X1 L1).1]; decide), ?_, fun k hk => ?_⟩, ?_⟩
    · show w32 (24 - 8 * (n : Int) + -8) = 24 - 8 * ((n + 1 : Nat) : Int)
      rw [e32 (by omega) (by omega)]; omega
    · show up (up q 2 (t + n) (w8 (ishr_ v (24 - 8 * (n : Int))))) 1 1 (t + n + 1) 1 1 = t + ((n + 1 : Nat) : Int)
      rw [up_s]; omega
    · show up (up q 2 (t + n) (w8 (ishr_ v (24 - 8 * (n : Int))))) 1 1 (t + n + 1) 2 (t + (k : Int)) = _
      rw [up_a (by decide)]
      rcases Nat.lt_or_eq_of_le (show k ≤ n by omega) with hk2 | hk2
      · rw [up_i (by omega)]; exact e5 k hk2
      · rw [hk2, up_s]
    · show (w32 (24 - 8 * (n : Int) + -8) + 8).toNat < (24 - 8 * (n : Int) + 8).toNat
      rw [e32 (by omega) (by omega)]; omega
theorem t_four {h : Hp} {v t : Int} (hL : LAY h) (ht : h 495 3 = t) (t0 : 0 ≤ t) (t1 : t + 4 ≤ 16384) : Pz (m_X18_four 495 v h) (fun h' => F2 (fun b j => (b = 495 ∧ j = 3) ∨ (b = 496 ∧ t ≤ j ∧ j < t + 4)) h h' ∧ LAY h' ∧ h' 495 3 = t + 4 ∧ ∀ k : Nat, k < 4 → h' 496 (t + (k : Int)) = w8 (ishr_ v (24 - 8 * (k : Int)))) := by
  unfold m_X18_four
  refine z_lt (z_bind (z_mono (z_lp (Q := fun h' => F2 (fun b j => (b = 495 ∧ j = 3) ∨ (b = 496 ∧ t ≤ j ∧ j < t + 4)) h h' ∧ LAY h' ∧ h' 495 3 = t + 4 ∧ ∀ k : Nat, k < 4 → h' 496 (t + (k : Int)) = w8 (ishr_ v (24 - 8 * (k : Int)))) (I := fun q : Int × Hp => ∃ n : Nat, n ≤ 4 ∧ q.1 = 24 - 8 * (n : Int) ∧ F2 (fun b j => (b = 495 ∧ j = 3) ∨ (b = 496 ∧ t ≤ j ∧ j < t + 4)) h q.2 ∧ LAY q.2 ∧ q.2 495 3 = t + n ∧ ∀ k : Nat, k < n → q.2 496 (t + (k : Int)) = w8 (ishr_ v (24 - 8 * (k : Int)))) (μ := fun q => (q.1 + 8).toNat) ⟨0, by decide, rfl, F2.refl, hL, by show h 495 3 = t + ((0 : Nat) : Int); rw [ht]; omega, fun k hk => absurd hk (Nat.not_lt_zero _)⟩ ?_) (fun h' hh => z_some hh)))
  rintro ⟨s, q⟩ ⟨n, n4, e1, e2, e3, e4, e5⟩
  dsimp only at e1 e2 e3 e4 e5
  subst e1
  show Pz (m_X18_four_l3 495 v (24 - 8 * (n : Int)) q) _
  unfold m_X18_four_l3
  refine z_if (fun hc => z_some ?_) (fun hc => ?_)
  · have : n = 4 := by omega
    subst this
    exact ⟨e2, e3, e4, e5⟩
  · have hn : n < 4 := by omega
    obtain ⟨-, ⟨l0, l1, l2⟩, -⟩ := ly_X18 e3
    rw [l0, e4]
    refine z_gd ⟨by rw [l1]; decide, by omega, by rw [l2]; omega⟩ (z_pt (z_pt (z_lt (z_some ?_))))
    have f1 : up q 496 (t + n) (w8 (ishr_ v (24 - 8 * (n : Int)))) 495 3 = t + n := by rw [up_a (by decide)]; exact e4
    rw [f1, e32 (x := t + n + 1) (by omega) (by omega)]
    have L1 : LAY (up q 496 (t + n) (w8 (ishr_ v (24 - 8 * (n : Int))))) := e3.put (by omega) (by decide) (by rw [l1]; unfold fx; rw [fx_arr (by decide) (by decide)])
    refine ⟨⟨n + 1, by omega, ?_, (e2.put (Or.inr ⟨rfl, by omega, by omega⟩)).put (Or.inl ⟨rfl, rfl⟩), L1.put (by decide) (by decide) (by rw [(ly_X18 L1).1]; decide), ?_, fun k hk => ?_⟩, ?_⟩
    · show w32 (24 - 8 * (n : Int) + -8) = 24 - 8 * ((n + 1 : Nat) : Int)
      rw [e32 (by omega) (by omega)]; omega
    · show up (up q 496 (t + n) (w8 (ishr_ v (24 - 8 * (n : Int))))) 495 3 (t + n + 1) 495 3 = t + ((n + 1 : Nat) : Int)
      rw [up_s]; omega
    · show up (up q 496 (t + n) (w8 (ishr_ v (24 - 8 * (n : Int))))) 495 3 (t + n + 1) 496 (t + (k : Int)) = _
      rw [up_a (by decide)]
      rcases Nat.lt_or_eq_of_le (show k ≤ n by omega) with hk2 | hk2
      · rw [up_i (by omega)]; exact e5 k hk2
      · rw [hk2, up_s]
    · show (w32 (24 - 8 * (n : Int) + -8) + 8).toNat < (24 - 8 * (n : Int) + 8).toNat
      rw [e32 (by omega) (by omega)]; omega
/-- the tapes of both sides, and what was broken -/
def TP (h : Hp) : Prop := 0 ≤ h 1 1 ∧ h 1 1 ≤ 16384 ∧ h 495 3 = h 1 1 ∧ (∀ j, 0 ≤ j → j < h 1 1 → h 2 j = h 496 j) ∧ h 495 1 = h 1 14
/-- byte k of five ints -/
def fbv (p0 p1 p2 p3 p4 : Int) (k : Nat) : Int := w8 (ishr_ (if k < 4 then p0 else if k < 8 then p1 else if k < 12 then p2 else if k < 16 then p3 else p4) (24 - 8 * ((k % 4 : Nat) : Int)))
/-- what feeding changes: the tape, where it ends -/
def fdW (o f b t : Int) : Int → Int → Prop := fun x j => (x = o ∧ j = f) ∨ (x = b ∧ t ≤ j)
theorem fdW_m {o f b t u : Int} (h : t ≤ u) : ∀ x j, ((x = o ∧ j = f) ∨ (x = b ∧ u ≤ j ∧ j < u + 4)) → fdW o f b t x j := fun x j z => by
  rcases z with z | z
  · exact Or.inl z
  · exact Or.inr ⟨z.1, by omega⟩
theorem c_fives {h : Hp} {p0 p1 p2 p3 p4 t : Int} {α : Type} {K : Hp → Option α} {Q : α → Prop} (hL : LAY h) (ht : h 1 1 = t) (t0 : 0 ≤ t) (t1 : t + 20 ≤ 16384) (k : ∀ h', F2 (fdW 1 1 2 t) h h' → LAY h' → h' 1 1 = t + 20 → (∀ k : Nat, k < 20 → h' 2 (t + (k : Int)) = fbv p0 p1 p2 p3 p4 k) → Pz (K h') Q) :
    Pz ((m_X1_four 1 p0 h).bind fun h1 => (m_X1_four 1 p1 h1).bind fun h2 => (m_X1_four 1 p2 h2).bind fun h3 => (m_X1_four 1 p3 h3).bind fun h4 => (m_X1_four 1 p4 h4).bind fun h5 => K h5) Q := by
  refine z_bind (z_mono (c_four hL ht t0 (by omega)) (fun h1 c1 => ?_))
  obtain ⟨a1, a2, a3, a4⟩ := c1
  refine z_bind (z_mono (c_four a2 a3 (by omega) (by omega)) (fun h2 c2 => ?_))
  obtain ⟨b1, b2, b3, b4⟩ := c2
  refine z_bind (z_mono (c_four b2 b3 (by omega) (by omega)) (fun h3 c3 => ?_))
  obtain ⟨c1, c2, c3, c4⟩ := c3
  refine z_bind (z_mono (c_four c2 c3 (by omega) (by omega)) (fun h4 c4 => ?_))
  obtain ⟨d1, d2, d3, d4⟩ := c4
  refine z_bind (z_mono (c_four d2 d3 (by omega) (by omega)) (fun h5 c5 => ?_))
  obtain ⟨e1, e2, e3, e4⟩ := c5
  refine k h5 (((((a1.mono (fdW_m (by omega))).trans (b1.mono (fdW_m (by omega)))).trans (c1.mono (fdW_m (by omega)))).trans (d1.mono (fdW_m (by omega)))).trans (e1.mono (fdW_m (by omega)))) e2 (by rw [e3]; omega) ?_
  intro k hk
  have nb : ∀ (u : Int) (j : Int), j < u → ¬ (((2 : Int) = 1 ∧ j = 1) ∨ ((2 : Int) = 2 ∧ u ≤ j ∧ j < u + 4)) := fun u j hj z => by
    rcases z with z | z
    · exact absurd z.1 (by decide)
    · omega
  unfold fbv
  by_cases k1 : k < 4
  · rw [if_pos k1, e1 _ _ (nb _ _ (by omega)), d1 _ _ (nb _ _ (by omega)), c1 _ _ (nb _ _ (by omega)), b1 _ _ (nb _ _ (by omega)), a4 k k1, Nat.mod_eq_of_lt k1]
  · rw [if_neg k1]
    by_cases k2 : k < 8
    · rw [if_pos k2, e1 _ _ (nb _ _ (by omega)), d1 _ _ (nb _ _ (by omega)), c1 _ _ (nb _ _ (by omega))]
      have := b4 (k - 4) (by omega)
      rw [show t + 4 + ((k - 4 : Nat) : Int) = t + (k : Int) by omega] at this
      rw [this, show k % 4 = k - 4 by omega]
    · rw [if_neg k2]
      by_cases k3 : k < 12
      · rw [if_pos k3, e1 _ _ (nb _ _ (by omega)), d1 _ _ (nb _ _ (by omega))]
        have := c4 (k - 8) (by omega)
        rw [show t + 4 + 4 + ((k - 8 : Nat) : Int) = t + (k : Int) by omega] at this
        rw [this, show k % 4 = k - 8 by omega]
      · rw [if_neg k3]
        by_cases k4 : k < 16
        · rw [if_pos k4, e1 _ _ (nb _ _ (by omega))]
          have := d4 (k - 12) (by omega)
          rw [show t + 4 + 4 + 4 + ((k - 12 : Nat) : Int) = t + (k : Int) by omega] at this
          rw [this, show k % 4 = k - 12 by omega]
        · rw [if_neg k4]
          have := e4 (k - 16) (by omega)
          rw [show t + 4 + 4 + 4 + 4 + ((k - 16 : Nat) : Int) = t + (k : Int) by omega] at this
          rw [this, show k % 4 = k - 16 by omega]
theorem t_fives {h : Hp} {p0 p1 p2 p3 p4 t : Int} {α : Type} {K : Hp → Option α} {Q : α → Prop} (hL : LAY h) (ht : h 495 3 = t) (t0 : 0 ≤ t) (t1 : t + 20 ≤ 16384) (k : ∀ h', F2 (fdW 495 3 496 t) h h' → LAY h' → h' 495 3 = t + 20 → (∀ k : Nat, k < 20 → h' 496 (t + (k : Int)) = fbv p0 p1 p2 p3 p4 k) → Pz (K h') Q) :
    Pz ((m_X18_four 495 p0 h).bind fun h1 => (m_X18_four 495 p1 h1).bind fun h2 => (m_X18_four 495 p2 h2).bind fun h3 => (m_X18_four 495 p3 h3).bind fun h4 => (m_X18_four 495 p4 h4).bind fun h5 => K h5) Q := by
  refine z_bind (z_mono (t_four hL ht t0 (by omega)) (fun h1 c1 => ?_))
  obtain ⟨a1, a2, a3, a4⟩ := c1
  refine z_bind (z_mono (t_four a2 a3 (by omega) (by omega)) (fun h2 c2 => ?_))
  obtain ⟨b1, b2, b3, b4⟩ := c2
  refine z_bind (z_mono (t_four b2 b3 (by omega) (by omega)) (fun h3 c3 => ?_))
  obtain ⟨c1, c2, c3, c4⟩ := c3
  refine z_bind (z_mono (t_four c2 c3 (by omega) (by omega)) (fun h4 c4 => ?_))
  obtain ⟨d1, d2, d3, d4⟩ := c4
  refine z_bind (z_mono (t_four d2 d3 (by omega) (by omega)) (fun h5 c5 => ?_))
  obtain ⟨e1, e2, e3, e4⟩ := c5
  refine k h5 (((((a1.mono (fdW_m (by omega))).trans (b1.mono (fdW_m (by omega)))).trans (c1.mono (fdW_m (by omega)))).trans (d1.mono (fdW_m (by omega)))).trans (e1.mono (fdW_m (by omega)))) e2 (by rw [e3]; omega) ?_
  intro k hk
  have nb : ∀ (u : Int) (j : Int), j < u → ¬ (((496 : Int) = 495 ∧ j = 3) ∨ ((496 : Int) = 496 ∧ u ≤ j ∧ j < u + 4)) := fun u j hj z => by
    rcases z with z | z
    · exact absurd z.1 (by decide)
    · omega
  unfold fbv
  by_cases k1 : k < 4
  · rw [if_pos k1, e1 _ _ (nb _ _ (by omega)), d1 _ _ (nb _ _ (by omega)), c1 _ _ (nb _ _ (by omega)), b1 _ _ (nb _ _ (by omega)), a4 k k1, Nat.mod_eq_of_lt k1]
  · rw [if_neg k1]
    by_cases k2 : k < 8
    · rw [if_pos k2, e1 _ _ (nb _ _ (by omega)), d1 _ _ (nb _ _ (by omega)), c1 _ _ (nb _ _ (by omega))]
      have := b4 (k - 4) (by omega)
      rw [show t + 4 + ((k - 4 : Nat) : Int) = t + (k : Int) by omega] at this
      rw [this, show k % 4 = k - 4 by omega]
    · rw [if_neg k2]
      by_cases k3 : k < 12
      · rw [if_pos k3, e1 _ _ (nb _ _ (by omega)), d1 _ _ (nb _ _ (by omega))]
        have := c4 (k - 8) (by omega)
        rw [show t + 4 + 4 + ((k - 8 : Nat) : Int) = t + (k : Int) by omega] at this
        rw [this, show k % 4 = k - 8 by omega]
      · rw [if_neg k3]
        by_cases k4 : k < 16
        · rw [if_pos k4, e1 _ _ (nb _ _ (by omega))]
          have := d4 (k - 12) (by omega)
          rw [show t + 4 + 4 + 4 + ((k - 12 : Nat) : Int) = t + (k : Int) by omega] at this
          rw [this, show k % 4 = k - 12 by omega]
        · rw [if_neg k4]
          have := e4 (k - 16) (by omega)
          rw [show t + 4 + 4 + 4 + 4 + ((k - 16 : Nat) : Int) = t + (k : Int) by omega] at this
          rw [this, show k % 4 = k - 16 by omega]
/-- one of the small refusals: an exception of kind K without anything else -/
theorem exc0 {h : Hp} {K : Int} {Q : (Int × Int) × Hp → Prop} (rm : RM h 1 6) (hQ : ∀ r, r.1.1 = 1 → 0 < r.1.2 → h 0 0 < r.1.2 → r.2 r.1.2 (-2) = K → F2 (nwW h) h r.2 → r.2 0 0 = h 0 0 + 1 → r.2 0 1 = h 0 1 + 6 → Q r) : Pz (al h K 6 fun a4 h4 => (x_init0 a4 h4).bind fun h8 => some ((1, a4), h8)) Q := by
  obtain ⟨r1, r2, r3, r4⟩ := rm
  refine z_al ⟨by omega, by omega, by omega, by omega⟩ ?_
  obtain ⟨n1, n2⟩ := nw_new (h := h) (K := K) (n := 6)
  unfold x_init0
  rw [if_pos (n2 0 (by omega)), Option.bind_some]
  refine z_some (hQ _ rfl ?_ ?_ n1 nw_F2 ?_ ?_)
  · show 0 < h 0 0 + 1; omega
  · show h 0 0 < h 0 0 + 1; omega
  · show nw h K 6 0 0 = _
    unfold nw
    rw [if_neg (by omega), if_pos ⟨rfl, rfl⟩]
  · show nw h K 6 0 1 = _
    unfold nw
    rw [if_neg (by omega), if_neg (fun z => absurd z.2 (by decide)), if_pos ⟨rfl, rfl⟩]
theorem c_room {h : Hp} {b : Int} {Q : (Int × Int) × Hp → Prop} (rm : RM h 1 6) (h1 : b ≠ 0 → Q ((0, 0), h)) (h2 : b = 0 → ∀ r, r.1.1 = 1 → 0 < r.1.2 → h 0 0 < r.1.2 → r.2 r.1.2 (-2) = 480 → F2 (nwW h) h r.2 → r.2 0 0 = h 0 0 + 1 → r.2 0 1 = h 0 1 + 6 → Q r) : Pz (m_X1_room b h) Q := by
  unfold m_X1_room
  exact z_if (fun hc => z_some (h1 hc)) (fun hc => exc0 rm (h2 (Classical.not_not.mp hc)))
theorem c_good {h : Hp} {b : Int} {Q : (Int × Int) × Hp → Prop} (rm : RM h 1 6) (h1 : b ≠ 0 → Q ((0, 0), h)) (h2 : b = 0 → ∀ r, r.1.1 = 1 → 0 < r.1.2 → h 0 0 < r.1.2 → r.2 r.1.2 (-2) = 496 → F2 (nwW h) h r.2 → r.2 0 0 = h 0 0 + 1 → r.2 0 1 = h 0 1 + 6 → Q r) : Pz (m_X1_good b h) Q := by
  unfold m_X1_good
  exact z_if (fun hc => z_some (h1 hc)) (fun hc => exc0 rm (h2 (Classical.not_not.mp hc)))
theorem c_state {h : Hp} {b : Int} {Q : (Int × Int) × Hp → Prop} (rm : RM h 1 6) (h1 : b ≠ 0 → Q ((0, 0), h)) (h2 : b = 0 → ∀ r, r.1.1 = 1 → 0 < r.1.2 → h 0 0 < r.1.2 → r.2 r.1.2 (-2) = 528 → F2 (nwW h) h r.2 → r.2 0 0 = h 0 0 + 1 → r.2 0 1 = h 0 1 + 6 → Q r) : Pz (m_X1_state b h) Q := by
  unfold m_X1_state
  exact z_if (fun hc => z_some (h1 hc)) (fun hc => exc0 rm (h2 (Classical.not_not.mp hc)))
