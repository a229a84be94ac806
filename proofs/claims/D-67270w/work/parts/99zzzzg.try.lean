-- needs: 99zzzzf
set_option maxRecDepth 100000
/-! LINES: the reference's table -/
def tR (h : Hp) (s b c : Int) : Prop := h (s + 137) (4 * b + c) ≠ 0
def tB (h : Hp) (s b c : Int) : Int := h (s + 136) (4 * b + c)
def tF (h : Hp) (s b c : Int) : Int := h (s + 138) (4 * b + c)
def tG (h : Hp) (s b c : Int) : Int := h (s + 139) (4 * b + c)
theorem dpR_t {D h h' : Hp} {s τ b : Int} (b0 : 1 ≤ b) (e : ∀ j, 4 ≤ j → j ≤ 4 * b + 3 → ∀ k, 136 ≤ k → k ≤ 139 → h' (s + k) j = h (s + k) j) (R : dpR D τ (tR h s) (tB h s) (tF h s) (tG h s) b) : dpR D τ (tR h' s) (tB h' s) (tF h' s) (tG h' s) b := by
  refine dpR_congr b0 (fun x y x0 x1 y0 y1 => ?_) R
  have k := e (4 * x + y) (by omega) (by omega)
  unfold tR tB tF tG
  rw [k 136 (by decide) (by decide), k 137 (by decide) (by decide), k 138 (by decide) (by decide), k 139 (by decide) (by decide)]
  exact ⟨Iff.rfl, rfl, rfl, rfl⟩
def enT (D h0 g : Hp) (s b c : Int) (X : Int → Int → Prop) : Prop := enP D (tB h0 s) (tF h0 s) b X (tR g s b c) (tB g s b c) (tF g s b c) (tG g s b c)
theorem enT.kept {D h0 g g' : Hp} {s b c : Int} {X X' : Int → Int → Prop} (E : enT D h0 g s b c X) (e : ∀ k, 136 ≤ k → k ≤ 139 → g' (s + k) (4 * b + c) = g (s + k) (4 * b + c)) (hX : ∀ x y, X' x y ↔ X x y) : enT D h0 g' s b c X' := by
  unfold enT tR tB tF tG at *
  rw [e 136 (by decide) (by decide), e 137 (by decide) (by decide), e 138 (by decide) (by decide), e 139 (by decide) (by decide)]
  exact E.congr hX
/-- what stays of the table -/
def agT (h0 g : Hp) (s b : Int) : Prop := ∀ j, j < 4 * b → ∀ k, 136 ≤ k → k ≤ 139 → g (s + k) j = h0 (s + k) j
def trW2 (s b c : Int) : Int → Int → Prop := fun q j => s + 136 ≤ q ∧ q ≤ s + 139 ∧ j = 4 * b + c
theorem t_try {D h0 g : Hp} {s τ b c a c' : Int} {X X' : Int → Int → Prop} (hL : LAY g) (hs : s ∈ in_aX25) (b0 : 1 ≤ b) (b6 : b ≤ 600) (ec : g s 119 = c) (c0 : 0 ≤ c) (c3 : c ≤ 3) (A : agT h0 g s b) (R : ∀ b', 1 ≤ b' → b' < b → dpR D τ (tR h0 s) (tB h0 s) (tF h0 s) (tG h0 s) b') (E : enT D h0 g s b c X) (hX : ∀ x y, X x y → cnd D τ (tR h0 s) b c x y) (new : cnd D τ (tR h0 s) b c a c') (fresh : ¬ X a c') (hX' : ∀ x y, X' x y ↔ X x y ∨ (x = a ∧ y = c')) (x y : Int) (exy : x + y = vlS D (tB h0 s) b a c') (vr : 0 ≤ x + y ∧ x + y ≤ 100000000000000) :
    Pz (m_X25_tryAll_j170 s b a c' x y g) (fun r => ∃ g', r = .inl (c' + 1, g') ∧ F2 (trW2 s b c) g g' ∧ enT D h0 g' s b c X') := by
  have hs' : 671 ≤ s ∧ s ≤ 825 := by have := aX25 hs; omega
  obtain ⟨n0, n1, n2, n3, n4⟩ := id new
  have cr : 0 ≤ c' ∧ c' ≤ 3 := by omega
  have mo := enP.more R E hX new fresh hX'
  have lay : ∀ {g' : Hp}, F2 (trW2 s b c) g g' → LAY g' := fun F => seW_l hL hs F (fun q j z => by unfold trW2 at z; omega)
  have c109 := g_X25_109 hL hs
  have put : (¬ tR g s b c ∨ klt D (tB h0 s) (tF h0 s) b a c' (tF g s b c) (tG g s b c)) → Pz (m_X25_tryAll_j269 (4 * b + c) (vlS D (tB h0 s) b a c') s a c' g) (fun r => ∃ g', r = .inl (c' + 1, g') ∧ F2 (trW2 s b c) g g' ∧ enT D h0 g' s b c X') := by
    intro hh
    have en := mo.1 hh
    unfold m_X25_tryAll_j269 m_X25_tryAll_j274
    rw [if_neg (by decide), pt_e, c109.1]
    have F1 : F2 (trW2 s b c) g (up g (s + 137) (4 * b + c) 1) := F2.refl.put ⟨by omega, by omega, rfl⟩
    have v1 : up g (s + 137) (4 * b + c) 1 (s + 137) (4 * b + c) = 1 := up_s _ _ _ _
    generalize up g (s + 137) (4 * b + c) 1 = g1 at F1 v1 ⊢
    have d108 := g_X25_108 (lay F1) hs
    simp only [d108]
    refine z_gd ⟨by decide, by omega, by omega⟩ (z_pt ?_)
    have F2_ : F2 (trW2 s b c) g (up g1 (s + 136) (4 * b + c) (vlS D (tB h0 s) b a c')) := F1.put ⟨by omega, by omega, rfl⟩
    have v1' : up g1 (s + 136) (4 * b + c) (vlS D (tB h0 s) b a c') (s + 137) (4 * b + c) = 1 := by rw [up_a (by omega)]; exact v1
    have v2 : up g1 (s + 136) (4 * b + c) (vlS D (tB h0 s) b a c') (s + 136) (4 * b + c) = vlS D (tB h0 s) b a c' := up_s _ _ _ _
    generalize up g1 (s + 136) (4 * b + c) (vlS D (tB h0 s) b a c') = g2 at F2_ v1' v2 ⊢
    have d110 := g_X25_110 (lay F2_) hs
    simp only [d110]
    refine z_gd ⟨by decide, by omega, by omega⟩ (z_pt ?_)
    have F3 : F2 (trW2 s b c) g (up g2 (s + 138) (4 * b + c) a) := F2_.put ⟨by omega, by omega, rfl⟩
    have v1 : up g2 (s + 138) (4 * b + c) a (s + 137) (4 * b + c) = 1 := by rw [up_a (by omega)]; exact v1'
    have v2' : up g2 (s + 138) (4 * b + c) a (s + 136) (4 * b + c) = vlS D (tB h0 s) b a c' := by rw [up_a (by omega)]; exact v2
    have v3 : up g2 (s + 138) (4 * b + c) a (s + 138) (4 * b + c) = a := up_s _ _ _ _
    generalize up g2 (s + 138) (4 * b + c) a = g3 at F3 v1 v2' v3 ⊢
    have d111 := g_X25_111 (lay F3) hs
    simp only [d111]
    refine z_gd ⟨by decide, by omega, by omega⟩ (z_pt ?_)
    unfold m_X25_tryAll_j316
    refine z_lt ?_
    rw [e32 (x := c' + 1) (by omega) (by omega)]
    refine z_some ⟨_, rfl, F3.put ⟨by omega, by omega, rfl⟩, ?_⟩
    unfold enT tR tB tF tG
    rw [up_a (by omega), up_a (by omega), up_a (by omega), up_s, v1, v2', v3]
    exact ⟨fun _ => en.1 trivial, fun z => absurd (by decide) z⟩
  have stay : tR g s b c → ¬ klt D (tB h0 s) (tF h0 s) b a c' (tF g s b c) (tG g s b c) → Pz (m_X25_tryAll_j273 (4 * b + c) (vlS D (tB h0 s) b a c') s a c' g) (fun r => ∃ g', r = .inl (c' + 1, g') ∧ F2 (trW2 s b c) g g' ∧ enT D h0 g' s b c X') := by
    intro hr hk
    unfold m_X25_tryAll_j273 m_X25_tryAll_j274 m_X25_tryAll_j316
    rw [if_pos rfl]
    refine z_lt ?_
    rw [e32 (x := c' + 1) (by omega) (by omega)]
    exact z_some ⟨g, rfl, F2.refl, ⟨fun _ => (mo.2 hr hk).1 trivial, fun z => absurd hr z⟩⟩
  unfold m_X25_tryAll_j170
  rw [lt_e, lt_e, e64 (x := x + y) (by omega) (by omega), exy, ec, e32 (x := 4 * b) (by omega) (by omega), e32 (x := 4 * b + c) (by omega) (by omega)]
  have c108 := g_X25_108 hL hs
  have c110 := g_X25_110 hL hs
  have c111 := g_X25_111 hL hs
  simp only [c109, c108, c110, c111]
  refine z_gd ⟨by decide, by omega, by omega⟩ ?_
  by_cases hr : g (s + 137) (4 * b + c) = 0
  · rw [if_pos hr]
    exact put (Or.inl (fun z => z hr))
  rw [if_neg hr]
  have r : tR g s b c := hr
  obtain ⟨e1, e2, e3⟩ := E.1 r
  have v2 : g (s + 136) (4 * b + c) = vlS D (tB h0 s) b (tF g s b c) (tG g s b c) := e2
  refine z_gd ⟨by decide, by omega, by omega⟩ ?_
  rw [v2]
  by_cases h1 : vlS D (tB h0 s) b a c' < vlS D (tB h0 s) b (tF g s b c) (tG g s b c)
  · rw [if_pos (lc_lt.mpr h1)]
    exact put (Or.inr (Or.inl h1))
  rw [if_neg (fun z => h1 (lc_lt.mp z))]
  by_cases h2 : vlS D (tB h0 s) b a c' = vlS D (tB h0 s) b (tF g s b c) (tG g s b c)
  rotate_left
  · rw [if_pos (fun z => h2 (lc_eq.mp z))]
    exact stay r (fun z => by unfold klt at z; omega)
  rw [if_neg (fun z => z (lc_eq.mpr h2))]
  refine z_gd ⟨by decide, by omega, by omega⟩ ?_
  rw [show g (s + 138) (4 * b + c) = tF g s b c from rfl, show g (s + 139) (4 * b + c) = tG g s b c from rfl]
  by_cases h3 : a < tF g s b c
  · rw [if_pos h3]
    exact put (Or.inr (Or.inr ⟨h2, Or.inl h3⟩))
  rw [if_neg h3]
  by_cases h4 : a = tF g s b c
  rotate_left
  · rw [if_pos h4]
    exact stay r (fun z => by unfold klt at z; omega)
  rw [if_neg (fun z => z h4)]
  have eX := hX _ _ e1
  by_cases h5 : a ≤ 0
  · exfalso
    have q := eX.2.2.2.2
    exact fresh (by
      have a0 : a = 0 := by omega
      have : c' = tG g s b c := by omega
      rw [this, h4]; exact e1)
  rw [if_neg h5]
  refine z_gd ⟨by decide, by omega, by omega⟩ ?_
  -- which comes first
  have q := eX.2.2.2.2
  have rk1 : tR h0 s a c' := by
    rcases n4 with z | z
    · omega
    · exact z.2.2.2
  have rk2 : tR h0 s a (tG g s b c) := by
    rcases q with z | z
    · omega
    · rw [← h4] at z; exact z.2.2.2
  have g1 := ((R a (by omega) n1 c' cr.1 cr.2).1 rk1).1
  have g2 := ((R a (by omega) n1 (tG g s b c) (by omega) (by omega)).1 rk2).1
  have nc : c' ≠ tG g s b c := fun z => fresh (by rw [z, h4]; exact e1)
  have nf : tF h0 s a c' ≠ tF h0 s a (tG g s b c) := fun z => by
    have u1 := g1.2.2.2.1
    have u2 := g2.2.2.2.1
    rw [z, u2] at u1; exact nc u1.symm
  have k1 : g (s + 138) (4 * a + c') = tF h0 s a c' := A _ (by omega) 138 (by decide) (by decide)
  have k2 : g (s + 138) (4 * a + tG g s b c) = tF h0 s a (tG g s b c) := A _ (by omega) 138 (by decide) (by decide)
  have first : m_X25_comesFirst s a c' a (tG g s b c) g = some (if tF h0 s a c' < tF h0 s a (tG g s b c) then 1 else 0) := by
    unfold m_X25_comesFirst
    rw [lt_e, lt_e, e32 (x := 4 * a) (by omega) (by omega), e32 (x := 4 * a + c') (by omega) (by omega), e32 (x := 4 * a + tG g s b c) (by omega) (by omega)]
    have out : lp (fun (q : Int × Int) => m_X25_comesFirst_l15 s q.1 q.2 g) (4 * a + c', 4 * a + tG g s b c) = some (.inl (4 * a + c', 4 * a + tG g s b c)) := by
      refine lp_out ?_
      show m_X25_comesFirst_l15 s (4 * a + c') (4 * a + tG g s b c) g = _
      unfold m_X25_comesFirst_l15
      simp only [c110, k1, k2]
      rw [if_neg (by omega), gd_t ⟨by decide, by omega, by omega⟩, gd_t ⟨by decide, by omega, by omega⟩, if_neg nf]
    rw [out, Option.bind_some]
    simp only [sE, c110, k1, k2]
    rw [gd_t ⟨by decide, by omega, by omega⟩, gd_t ⟨by decide, by omega, by omega⟩]
    by_cases z : tF h0 s a c' < tF h0 s a (tG g s b c)
    · rw [if_neg (by omega), if_pos z]
    · rw [if_pos (by omega), if_neg z]
  rw [first, Option.bind_some]
  have pv1 : pvB (tF h0 s) a c' = tF h0 s a c' := by unfold pvB; rw [if_neg (by omega)]
  have pv2 : pvB (tF h0 s) (tF g s b c) (tG g s b c) = tF h0 s a (tG g s b c) := by unfold pvB; rw [← h4, if_neg (by omega)]
  by_cases z : tF h0 s a c' < tF h0 s a (tG g s b c)
  · rw [if_pos z, if_neg (by decide)]
    refine put (Or.inr (Or.inr ⟨h2, Or.inr ⟨h4, ?_⟩⟩))
    rw [pv1, pv2]; exact z
  · rw [if_neg z, if_pos rfl]
    refine stay r (fun w => ?_)
    unfold klt at w
    rw [pv1, pv2] at w
    omega
