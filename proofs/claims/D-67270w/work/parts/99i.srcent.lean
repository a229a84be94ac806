set_option maxRecDepth 100000
/-! SOURCES: words of the text, entities -/
theorem q_isWord6 {h : Hp} {a x e s : Int} {b : List Int} (hs : strB s = some b) (h0 : h a 0 = a + 1) (hk : h (a + 1) (-2) % 16 = 2) (x0 : 0 ≤ x) (xe : x ≤ e) (e1 : e ≤ h (a + 1) (-1)) (l1 : h (a + 1) (-1) ≤ 65536) : m_X6_isWord a x e s h = some (eqW (wd h (a + 1) x (e - x).toNat) b) := by
  have : m_X6_isWord a x e s h = m_X18_is (h a 0) x e s h := rfl
  rw [this, h0]
  exact q_X18_is hs hk x0 xe e1 l1
theorem nmF.uniq {N : Int} {s : Int → List Int} {w : List Int} {i j : Int} (a : nmF N s w i) (b : nmF N s w j) (d : ∀ i j, 0 ≤ i → i < j → j < N → s i ≠ s j) : i = j := by
  rcases a with ⟨a1, a2⟩ | ⟨a1, a2, a3⟩
  · rcases b with ⟨b1, b2⟩ | ⟨b1, b2, b3⟩
    · omega
    · exact absurd b3 (a2 j b1 b2)
  · rcases b with ⟨b1, b2⟩ | ⟨b1, b2, b3⟩
    · exact absurd a3 (b2 i a1 a2)
    · rcases Int.lt_trichotomy i j with z | z | z
      · exact absurd (a3.trans b3.symm) (d i j a1 z b2)
      · exact z
      · exact absurd (b3.trans a3.symm) (d j i b1 z a2)
theorem wrL {h : Hp} {a n x e : Int} {T : Int → Int} (x0 : 0 ≤ x) (en : e ≤ n) (t : ∀ j, 0 ≤ j → j < n → h (a + 1) j = T j) : wd h (a + 1) x (e - x).toNat = wr T x e := by
  rw [wr_wd]
  exact wr_congr (fun y y0 y1 => t y (by omega) (by omega))
theorem t_find23 {h : Hp} {l n K x e : Int} {T : Int → Int} {r : Int → List Int} (hL : LAY h) (hl : l ∈ in_aX23) (hT : h (l + 1) = T) (eK : h l 4 = K) (k0 : 0 ≤ K) (k1 : K ≤ 40) (x0 : 0 ≤ x) (xe : x ≤ e) (en : e ≤ n) (n1 : n ≤ 4000) (hr : ∀ k, 0 ≤ k → k < K → r k = wr T (h (l + 17) k) (h (l + 18) k) ∧ 0 ≤ h (l + 17) k ∧ h (l + 17) k ≤ h (l + 18) k ∧ h (l + 18) k ≤ n) : Pz (m_X23_find l x e h) (nmF K r (wr T x e)) := by
  have h6 := aX23 hl
  have kt := g_X23_0 hL hl
  have k21 := g_X23_21 hL hl
  have k22 := g_X23_22 hL hl
  unfold m_X23_find
  refine z_lt (z_bind (z_lp (fun y : Int => 0 ≤ y ∧ y ≤ K ∧ ∀ k, 0 ≤ k → k < y → r k ≠ wr T x e) (fun y => (K - y).toNat) ⟨Int.le_refl 0, k0, fun k z1 z2 => by omega⟩ ?_))
  rintro y ⟨y0, y1, yn⟩
  show Pz (m_X23_find_l2 l x e y h) _
  unfold m_X23_find_l2
  rw [eK]
  by_cases hy : K ≤ y
  · exact z_it hy (z_some (z_some (Or.inl ⟨rfl, fun k z1 z2 => yn k z1 (by omega)⟩)))
  · obtain ⟨c1, c2, c3, c4⟩ := hr y y0 (by omega)
    simp only [kt.1, k21.1, k21.2.1, k21.2.2, k22.1, k22.2.1, k22.2.2]
    refine z_ie hy (z_gd ⟨by decide, y0, by omega⟩ (z_gd ⟨by decide, y0, by omega⟩ ?_))
    rw [q_X18_same (by rw [kt.2.1]; decide) c2 c3 (by rw [kt.2.2]; omega) (by rw [kt.2.2]; decide) (by rw [kt.2.1]; decide) x0 xe (by rw [kt.2.2]; omega) (by rw [kt.2.2]; decide), Option.bind_some, wr_wd, wr_wd, hT, ← c1]
    rw [ite_eqW]
    by_cases hw : r y = wr T x e
    · rw [if_pos hw]
      exact z_some (z_some (Or.inr ⟨y0, by omega, hw⟩))
    · rw [if_neg hw, e32 (by omega) (by omega)]
      refine z_lt (z_some ⟨⟨by omega, by omega, fun k z1 z2 => ?_⟩, by omega⟩)
      by_cases hk : k = y
      · rw [hk]; exact hw
      · exact yn k z1 (by omega)
