-- needs: 99zzzu
set_option maxRecDepth 100000
/-! LINES: the component takes a way -/
def enC (D h0 g : Hp) (b c : Int) (X : Int → Int → Prop) : Prop := enP D (cB h0) (cF h0) b X (cR g b c) (cB g b c) (cF g b c) (cG g b c) ∧ (cR g b c → g 260 (4 * b + c) = sgm (cF g b c) (cG g b c))
theorem enC.kept {D h0 g g' : Hp} {b c : Int} {X X' : Int → Int → Prop} (E : enC D h0 g b c X) (e1 : g' 259 (4 * b + c) = g 259 (4 * b + c)) (e2 : g' 260 (4 * b + c) = g 260 (4 * b + c)) (hX : ∀ x y, X' x y ↔ X x y) : enC D h0 g' b c X' := by
  obtain ⟨E1, E2⟩ := E
  unfold enC cR cB cF cG at *
  rw [e1, e2]
  exact ⟨E1.congr hX, E2⟩
/-- what stays of the table -/
def agR (h0 g : Hp) (b : Int) : Prop := ∀ j, j < 4 * b → g 259 j = h0 259 j ∧ g 260 j = h0 260 j
def zkW (b c : Int) : Int → Int → Prop := fun q j => (q = 259 ∨ q = 260) ∧ j = 4 * b + c
theorem rg59 : ([(259, 260)] : List (Int × Int)).all rgA = true := by decide +kernel
theorem zkW_l {h h' : Hp} {b c : Int} (hL : LAY h) (b0 : 0 ≤ 4 * b + c) (f : F2 (zkW b c) h h') : LAY h' :=
  lay_W hL f _ [] rg59 rfl (fun q j z => ⟨by unfold zkW at z; omega, Or.inl ⟨_, List.mem_cons_self, by unfold zkW at z; dsimp only; omega, by unfold zkW at z; dsimp only; omega⟩⟩)
theorem c_take28 {D h0 g : Hp} {P τ b c a c' : Int} {X X' : Int → Int → Prop} (hL : LAY g) (b0 : 1 ≤ b) (b6 : b ≤ 600) (c0 : 0 ≤ c) (c3 : c ≤ 3) (A : agR h0 g b) (R : ∀ b', 1 ≤ b' → b' < b → dpR D τ (cR h0) (cB h0) (cF h0) (cG h0) b') (E : enC D h0 g b c X) (hX : ∀ x y, X x y → cnd D τ (cR h0) b c x y) (new : cnd D τ (cR h0) b c a c') (fresh : ¬ X a c') (hX' : ∀ x y, X' x y ↔ X x y ∨ (x = a ∧ y = c')) :
    Pz (m_X28_take P 257 (4 * b + c) (sgm a c') (vlS D (cB h0) b a c') g) (fun g' => F2 (zkW b c) g g' ∧ enC D h0 g' b c X') := by
  obtain ⟨k0, ⟨k1, k2, k3⟩, ⟨k4, k5, k6⟩, ⟨k7, k8, k9⟩⟩ := ly_X11 hL
  obtain ⟨E1, E2⟩ := id E
  obtain ⟨n0, n1, n2, n3, n4⟩ := id new
  have sr := sgm_r (a := a) (c := c') n0 (by omega) (by omega) (by omega)
  have mo := enP.more R E1 hX new fresh hX'
  -- it is taken
  have put : (¬ cR g b c ∨ klt D (cB h0) (cF h0) b a c' (cF g b c) (cG g b c)) → Pz (m_X28_take_j48 257 (4 * b + c) (sgm a c') (vlS D (cB h0) b a c') g) (fun g' => F2 (zkW b c) g g' ∧ enC D h0 g' b c X') := by
    intro hh
    have en := mo.1 hh
    unfold m_X28_take_j48
    rw [k4]
    refine z_gd ⟨by rw [k5]; decide, by omega, by rw [k6]; omega⟩ (z_pt ?_)
    have F1 : F2 (zkW b c) g (up g 259 (4 * b + c) (vlS D (cB h0) b a c')) := F2.refl.put ⟨Or.inl rfl, rfl⟩
    obtain ⟨-, -, -, ⟨m7, m8, m9⟩⟩ := ly_X11 (zkW_l hL (by omega) F1)
    rw [m7]
    refine z_gd ⟨by rw [m8]; decide, by omega, by rw [m9]; omega⟩ (z_pt (z_some ⟨F1.put ⟨Or.inr rfl, rfl⟩, ?_⟩))
    unfold enC cR cB cF cG
    rw [up_s, up_a (by decide), up_s, sr.2.1, sr.2.2.1]
    refine ⟨⟨fun _ => en.1 trivial, fun z => absurd sr.1 z⟩, fun _ => rfl⟩
  -- it stays
  have stay : cR g b c → ¬ klt D (cB h0) (cF h0) b a c' (cF g b c) (cG g b c) → F2 (zkW b c) g g ∧ enC D h0 g b c X' := fun hr hk => ⟨F2.refl, ⟨fun _ => (mo.2 hr hk).1 trivial, fun z => absurd hr z⟩, E2⟩
  unfold m_X28_take
  rw [k0, k7]
  refine z_gd rfl (z_gd ⟨by rw [k8]; decide, by omega, by rw [k9]; omega⟩ ?_)
  by_cases hr : g 260 (4 * b + c) < 0
  · rw [if_pos hr]
    exact put (Or.inl (fun z => by unfold cR at z; omega))
  rw [if_neg hr, k4]
  have r : cR g b c := by unfold cR; omega
  obtain ⟨e1, e2, e3⟩ := E1.1 r
  have v2 : g 259 (4 * b + c) = vlS D (cB h0) b (cF g b c) (cG g b c) := e2
  refine z_gd ⟨by rw [k5]; decide, by omega, by rw [k6]; omega⟩ ?_
  rw [v2]
  by_cases h1 : vlS D (cB h0) b a c' < vlS D (cB h0) b (cF g b c) (cG g b c)
  · rw [if_pos (lc_lt.mpr h1)]
    exact put (Or.inr (Or.inl h1))
  rw [if_neg (fun z => h1 (lc_lt.mp z))]
  by_cases h2 : vlS D (cB h0) b a c' = vlS D (cB h0) b (cF g b c) (cG g b c)
  rotate_left
  · rw [if_pos (fun z => h2 (lc_eq.mp z))]
    exact z_some (stay r (fun z => by unfold klt at z; omega))
  rw [if_neg (fun z => z (lc_eq.mpr h2)), E2 r]
  have Rg : ∀ b', 1 ≤ b' → b' < b → dpR D τ (cR g) (cB g) (cF g) (cG g) b' := fun b' x0 x1 => dpR_h x0 (fun j j0 j1 => A j (by omega)) (R b' x0 x1)
  have wy : ∀ x y, cnd D τ (cR h0) b c x y → wyO g b x y := fun x y z => ⟨z.1, z.2.1, z.2.2.2.2.imp id (fun ⟨z1, z2, z3, z4⟩ => ⟨z1, z2, z3, by
    unfold cR at z4 ⊢
    rw [(A (4 * x + y) (by have := z.2.1; omega)).2]; exact z4⟩)⟩
  have pv : ∀ x y, cnd D τ (cR h0) b c x y → pvB (cF g) x y = pvB (cF h0) x y := fun x y z => by
    unfold pvB
    by_cases hx : x = 0
    · rw [if_pos hx, if_pos hx]
    · rw [if_neg hx, if_neg hx]
      unfold cF
      rw [(A (4 * x + y) (by have := z.2.1; have := z.2.2.2.2; omega)).2]
  have eX := hX _ _ e1
  rw [e_isE hL (by omega) Rg (wy _ _ new) (wy _ _ eX) (fun z => fresh (by rw [z.1, z.2]; exact e1)), Option.bind_some, pv _ _ new, pv _ _ eX]
  by_cases h3 : a < cF g b c ∨ (a = cF g b c ∧ pvB (cF h0) a c' < pvB (cF h0) (cF g b c) (cG g b c))
  · rw [if_pos h3, if_neg (by decide)]
    exact put (Or.inr (Or.inr ⟨h2, h3⟩))
  · rw [if_neg h3, if_pos rfl]
    exact z_some (stay r (fun z => by unfold klt at z; omega))
