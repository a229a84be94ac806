set_option maxRecDepth 100000
/-! SOURCES: the fields of a tag -/
theorem sc_stay {B : Int → Int} {n i : Int} (hB : ∀ x, n ≤ x → isBl (B x) = false) (hi : i ≤ n) : (sc B isBl i = i ↔ isBl (B i) = false) := by
  obtain ⟨⟨s1, s2, s3⟩, s4, s5⟩ := sc_spec (B := B) (p := isBl) hB hi
  constructor
  · intro e; rw [e] at s3; exact s3
  · intro e
    rcases Int.lt_or_eq_of_le s4 with z | z
    · have := s2 i (Int.le_refl _) z
      rw [e] at this; exact absurd this (by decide)
    · exact z.symm
/-- the component looks for a field of element E by its name's number -/
theorem c_field6 {h : Hp} {a E F F' v : Int} (hL : LAY h) (ha : a ∈ in_aX6) (e4 : h a 4 = E + 1) (e18 : h a 18 = F') (e16 : h (a + 16) E = F) (E0 : 0 ≤ E) (E1 : E < 500) (F0 : 0 ≤ F) (F1 : F ≤ F') (F3 : F' ≤ 3000) : Pz (m_X6_field a E v h) (fun r => (r = -1 ∧ ∀ k, F ≤ k → k < F' → h (a + 17) k ≠ v) ∨ (F ≤ r ∧ r < F' ∧ h (a + 17) r = v)) := by
  have k14 := g_X6_14 hL ha
  have k15 := g_X6_15 hL ha
  unfold m_X6_field m_X6_field_j25
  simp only [e4, e18, k14.1, k14.2.1, k14.2.2, e16]
  rw [e32 (x := E + 1) (by omega) (by omega)]
  refine z_it (Int.le_refl _) (z_gd ⟨by decide, E0, by omega⟩ (z_lt (z_bind (z_mono (z_lp (Q := fun r => (r = -1 ∧ ∀ k, F ≤ k → k < F' → h (a + 17) k ≠ v) ∨ (F ≤ r ∧ r < F' ∧ h (a + 17) r = v)) (fun y : Int => F ≤ y ∧ y ≤ F' ∧ ∀ k, F ≤ k → k < y → h (a + 17) k ≠ v) (fun y => (F' - y).toNat) ⟨Int.le_refl _, F1, fun k z1 z2 => by omega⟩ ?_) (fun r hr => z_some hr)))))
  rintro y ⟨y0, y1, yn⟩
  unfold m_X6_field_l34
  simp only [k15.1, k15.2.1, k15.2.2]
  by_cases hy : F' ≤ y
  · exact z_it hy (z_some (Or.inl ⟨rfl, fun k z1 z2 => yn k z1 (by omega)⟩))
  · refine z_ie hy (z_gd ⟨by decide, by omega, by omega⟩ ?_)
    by_cases hv : h (a + 17) y ≠ v
    · refine z_it hv (z_lt (z_some ?_))
      rw [e32 (by omega) (by omega)]
      refine ⟨⟨by omega, by omega, fun k z1 z2 => ?_⟩, by omega⟩
      by_cases hk : k = y
      · rw [hk]; exact hv
      · exact yn k z1 (by omega)
    · exact z_ie hv (z_some (Or.inr ⟨y0, by omega, by omega⟩))
/-- the reference looks for a field of the same name -/
theorem t_field23 {h : Hp} {l n E c x e : Int} {T : Int → Int} (hL : LAY h) (hl : l ∈ in_aX23) (rm : RM h 1 7) (hT : h (l + 1) = T) (ec : h (l + 10) E = c) (c0 : 0 ≤ c) (c6 : c ≤ 6) (E0 : 0 ≤ E) (E1 : E < 500) (x0 : 0 ≤ x) (xe : x ≤ e) (en : e ≤ n) (n1 : n ≤ 4000) (hr : ∀ k, 0 ≤ k → k < c → 0 ≤ h (l + 13) (6 * E + k) ∧ h (l + 13) (6 * E + k) ≤ h (l + 14) (6 * E + k) ∧ h (l + 14) (6 * E + k) ≤ n) :
    Pz (lp (fun (q : Int) => m_X23_field_l12 l E x e q h) (6 * E)) (fun r => (r = .inl () ∧ ∀ k, 0 ≤ k → k < c → wr T (h (l + 13) (6 * E + k)) (h (l + 14) (6 * E + k)) ≠ wr T x e) ∨ ∃ rt, r = .inr rt ∧ Thr 448 x h rt ∧ ∃ k, 0 ≤ k ∧ k < c ∧ wr T (h (l + 13) (6 * E + k)) (h (l + 14) (6 * E + k)) = wr T x e) := by
  have h6 := aX23 hl
  have kt := g_X23_0 hL hl
  have k14 := g_X23_14 hL hl
  have k17 := g_X23_17 hL hl
  have k18 := g_X23_18 hL hl
  refine z_lp (fun y : Int => 6 * E ≤ y ∧ y ≤ 6 * E + c ∧ ∀ k, 0 ≤ k → 6 * E + k < y → wr T (h (l + 13) (6 * E + k)) (h (l + 14) (6 * E + k)) ≠ wr T x e) (fun y => (6 * E + c - y).toNat) ⟨Int.le_refl _, by omega, fun k z1 z2 => by omega⟩ ?_
  rintro y ⟨y0, y1, yn⟩
  show Pz (m_X23_field_l12 l E x e y h) _
  unfold m_X23_field_l12
  simp only [kt.1, k14.1, k14.2.1, k14.2.2, ec, k17.1, k17.2.1, k17.2.2, k18.1, k18.2.1, k18.2.2]
  rw [e32 (x := 6 * E) (by omega) (by omega), e32 (x := 6 * E + c) (by omega) (by omega)]
  refine z_gd ⟨by decide, E0, by omega⟩ ?_
  by_cases hy : 6 * E + c ≤ y
  · exact z_it hy (z_some (Or.inl ⟨rfl, fun k z1 z2 => yn k z1 (by omega)⟩))
  · obtain ⟨c2, c3, c4⟩ := hr (y - 6 * E) (by omega) (by omega)
    rw [show 6 * E + (y - 6 * E) = y by omega] at c2 c3 c4
    refine z_ie hy (z_gd ⟨by decide, by omega, by omega⟩ (z_gd ⟨by decide, by omega, by omega⟩ ?_))
    rw [q_X18_same (by rw [kt.2.1]; decide) c2 c3 (by rw [kt.2.2]; omega) (by rw [kt.2.2]; decide) (by rw [kt.2.1]; decide) x0 xe (by rw [kt.2.2]; omega) (by rw [kt.2.2]; decide), Option.bind_some, wr_wd, wr_wd, hT]
    by_cases hw : wr T (h (l + 13) y) (h (l + 14) y) = wr T x e
    · refine z_ie (fun z => absurd (eqW01.mpr hw) (by rw [z]; exact fun c => c rfl)) (z_brk rm (fun b h' z => z_some (Or.inr ⟨_, rfl, z, y - 6 * E, by omega, by omega, by rw [show 6 * E + (y - 6 * E) = y by omega]; exact hw⟩)))
    · refine z_it ?_ (z_lt (z_some ?_))
      · exact Classical.byContradiction fun z => hw (eqW01.mp z)
      · rw [e32 (by omega) (by omega)]
        refine ⟨⟨by omega, by omega, fun k z1 z2 => ?_⟩, by omega⟩
        by_cases hk : 6 * E + k = y
        · rw [hk]; exact hw
        · exact yn k z1 (by omega)
