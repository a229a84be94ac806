-- needs: 99zzzzo
set_option maxRecDepth 100000
/-! SHAPES: lines as those of an equal one -/
def b8W (P R lam : Int) : Int → Int → Prop := fun q j => (q = P ∧ (j = 17 ∨ j = 18)) ∨ (q = R ∧ j = 15) ∨ (q = R + 12 ∧ j = lam)
theorem c_begin28 {h : Hp} {P R lam n : Int} (hL : LAY h) (hR : R ∈ in_aX15) (hP : 983 ≤ P) (e0 : h P 0 = R) (el : h R 15 = lam) (l0 : 0 ≤ lam) (n0 : 0 ≤ n) (l1 : lam + n + 1 ≤ 26400) (n1 : n ≤ 1000) :
    Pz (m_X28_begin P n h) (fun g => F2 (b8W P R lam) h g ∧ g P 17 = lam ∧ g P 18 = n ∧ g R 15 = lam + n + 1 ∧ g (R + 12) lam = 0) := by
  have hR' : 293 ≤ R ∧ R ≤ 423 := by have := aX15 hR; omega
  have lay : ∀ {g}, F2 (b8W P R lam) h g → LAY g := fun F => liW_l hL hR hP l0 (F.mono (fun q j z => by unfold b8W at z; unfold liW; omega))
  unfold m_X28_begin
  rw [pt_e]
  have F1 : F2 (b8W P R lam) h (up h P 18 n) := F2.refl.put (by unfold b8W; omega)
  have p0 : up h P 18 n P 0 = R := by rw [up_j (by decide)]; exact e0
  have q0 : up h P 18 n R 15 = lam := by rw [up_a (by omega)]; exact el
  have v1 : up h P 18 n P 18 = n := up_s _ _ _ _
  generalize up h P 18 n = g1 at F1 p0 q0 v1 ⊢
  have L1 := lay F1
  simp only [p0, g_X15 L1 hR, q0]
  refine z_gd trivial (z_pt ?_)
  have F2_ : F2 (b8W P R lam) h (up g1 P 17 lam) := F1.put (by unfold b8W; omega)
  have p1 : up g1 P 17 lam P 0 = R := by rw [up_j (by decide)]; exact p0
  have q1 : up g1 P 17 lam R 15 = lam := by rw [up_a (by omega)]; exact q0
  have v1' : up g1 P 17 lam P 18 = n := by rw [up_j (by decide)]; exact v1
  have v2 : up g1 P 17 lam P 17 = lam := up_s _ _ _ _
  generalize up g1 P 17 lam = g2 at F2_ p1 q1 v1' v2 ⊢
  have L2 := lay F2_
  simp only [p1, g_X15 L2 hR, q1]
  rw [e32 (x := n + 1) (by omega) (by omega), e32 (x := lam + (n + 1)) (by omega) (by omega)]
  refine z_gd trivial (z_pt ?_)
  have F3 : F2 (b8W P R lam) h (up g2 R 15 (lam + (n + 1))) := F2_.put (by unfold b8W; omega)
  have p2 : up g2 R 15 (lam + (n + 1)) P 0 = R := by rw [up_a (by omega)]; exact p1
  have v1 : up g2 R 15 (lam + (n + 1)) P 18 = n := by rw [up_a (by omega)]; exact v1'
  have v2' : up g2 R 15 (lam + (n + 1)) P 17 = lam := by rw [up_a (by omega)]; exact v2
  have v3 : up g2 R 15 (lam + (n + 1)) R 15 = lam + (n + 1) := up_s _ _ _ _
  generalize up g2 R 15 (lam + (n + 1)) = g3 at F3 p2 v1 v2' v3 ⊢
  have L3 := lay F3
  have a13 := g_X15_13 L3 hR
  simp only [p2, g_X15 L3 hR, a13, v2']
  refine z_gd trivial (z_gd ⟨by decide, l0, by omega⟩ (z_pt (z_some ⟨F3.put (by unfold b8W; omega), ?_, ?_, ?_, up_s _ _ _ _⟩)))
  · rw [up_a (by omega)]; exact v2'
  · rw [up_a (by omega)]; exact v1
  · rw [up_a (by omega), v3]; omega
theorem c_copy {h : Hp} {P R Q S lam μ τ cost : Int} {D : Hp} {L : List Int} (hL : LAY h) (hR : R ∈ in_aX15) (hP : 983 ≤ P) (hS : S ∈ in_aX15) (hQ : 983 ≤ Q) (ne : P ≠ Q) (nR : R ≠ S) (kQ : h Q (-2) = 288) (e0 : h P 0 = R) (q0 : h Q 0 = S) (el : h R 15 = lam) (l0 : 0 ≤ lam) (l1 : lam + L.length + 1 ≤ 26400) (m0 : 0 ≤ μ) (m1 : μ + L.length < 26400) (l6 : (L.length : Int) ≤ 600) (C : liC h Q S μ D τ cost L) :
    Pz (m_X28_copy P Q h) (fun g => F2 (liW P R lam) h g ∧ liC g P R lam D τ cost L ∧ g R 15 = lam + L.length + 1) := by
  have hR' : 293 ≤ R ∧ R ≤ 423 := by have := aX15 hR; omega
  have hS' : 293 ≤ S ∧ S ≤ 423 := by have := aX15 hS; omega
  have rs : R + 13 < S ∨ S + 13 < R := by
    have a := aX15 hR
    have b := aX15 hS
    omega
  obtain ⟨c1, c2, c3, c4, c5, c6⟩ := C
  unfold m_X28_copy
  rw [c2]
  refine z_gd kQ (z_bind (z_mono (c_begin28 hL hR hP e0 el l0 (Int.natCast_nonneg _) l1 (by omega)) (fun g0 hg0 => z_lt ?_)))
  obtain ⟨F0, b1, b2, b3, b4⟩ := hg0
  have F0' : F2 (liW P R lam) h g0 := F0.mono (fun q j z => by unfold b8W at z; unfold liW; omega)
  refine z_bind (z_mono (z_lp (Q := fun g => F2 (liW P R lam) h g ∧ liC g P R lam D τ cost L ∧ g R 15 = lam + L.length + 1) (fun (q : Int × Hp) => 0 ≤ q.1 ∧ q.1 ≤ (L.length : Int) + 1 ∧ F2 (liW P R lam) h q.2 ∧ (q.2 P 17 = lam ∧ q.2 P 18 = L.length ∧ q.2 R 15 = lam + L.length + 1) ∧ (∀ j : Int, 0 ≤ j → j < q.1 → q.2 (R + 12) (lam + j) = enE L j) ∧ ∀ j : Int, 0 ≤ j → j < q.1 → j < L.length → q.2 (R + 13) (lam + j) = lnR D (enE L j) (enE L (j + 1))) (fun q => (L.length + 1 - q.1).toNat) ⟨Int.le_refl _, by dsimp only; omega, F0', ⟨b1, b2, b3⟩, fun j j0 j1 => by dsimp only at j1; omega, fun j j0 j1 => by dsimp only at j1; omega⟩ ?_) (fun r hr => z_some hr))
  rintro ⟨x, g⟩ ⟨x0, x1, Fg, ⟨g17, g18, g15⟩, G1, G2⟩
  dsimp only at x0 x1 g17 g18 g15 G1 G2
  replace Fg : F2 (liW P R lam) h g := Fg
  have Lg := liW_l hL hR hP l0 Fg
  have gP : g P 0 = R := by rw [Fg P 0 (fun z => by unfold liW at z; omega)]; exact e0
  have keepQ : ∀ {g'}, F2 (liW P R lam) h g' → (∀ j, g' Q j = h Q j) ∧ (∀ k j, 0 ≤ k → k ≤ 13 → k ≠ 15 → g' (S + k) j = h (S + k) j ∨ k = 0) := fun {g'} F' => ⟨fun j => F' Q j (fun z => by unfold liW at z; omega), fun k j k0 k1 _ => by
    by_cases hk : k = 0
    · exact Or.inr hk
    · exact Or.inl (F' _ _ (fun z => by unfold liW at z; omega))⟩
  have rowS : ∀ {g'}, F2 (liW P R lam) h g' → ∀ k j, 1 ≤ k → k ≤ 13 → g' (S + k) j = h (S + k) j := fun {g'} F' k j k0 k1 => F' _ _ (fun z => by unfold liW at z; omega)
  show Pz (m_X28_copy_l10 P Q x g) _
  unfold m_X28_copy_l10
  rw [g18]
  by_cases hx : (L.length : Int) < x
  · rw [if_pos hx, pt_e, pt_e]
    have q19 : g Q 19 = cost := by rw [(keepQ Fg).1]; exact c3
    have q20 : up g P 19 (g Q 19) Q 20 = τ := by rw [up_a (by omega), (keepQ Fg).1]; exact c4
    rw [q20, q19]
    refine z_some ⟨(Fg.put (Or.inl ⟨rfl, by decide, by decide⟩)).put (Or.inl ⟨rfl, by decide, by decide⟩), ⟨?_, ?_, ?_, up_s _ _ _ _, fun j j0 j1 => ?_, fun j j0 j1 => ?_⟩, ?_⟩
    · rw [up_j (by decide), up_j (by decide)]; exact g17
    · rw [up_j (by decide), up_j (by decide)]; exact g18
    · rw [up_j (by decide), up_s]
    · rw [up_a (by omega), up_a (by omega)]; exact G1 j j0 (by omega)
    · rw [up_a (by omega), up_a (by omega)]; exact G2 j j0 (by omega) j1
    · rw [up_a (by omega), up_a (by omega)]; exact g15
  rw [if_neg hx]
  have a13 := g_X15_13 Lg hR
  have s13 := g_X15_13 Lg hS
  have gQ0 : g Q 0 = S := by rw [(keepQ Fg).1]; exact q0
  have gQ17 : g Q 17 = μ := by rw [(keepQ Fg).1]; exact c1
  have bo : m_X28_breakOf Q x g = some (enE L x) := by
    unfold m_X28_breakOf
    simp only [gQ0, g_X15 Lg hS, s13, gQ17]
    rw [gd_t trivial, e32 (x := μ + x) (by omega) (by omega), gd_t ⟨by decide, by omega, by omega⟩, rowS Fg 12 _ (by decide) (by decide), c5 x x0 (by omega)]
  simp only [gP, g_X15 Lg hR, a13, g17]
  rw [bo, Option.bind_some, e32 (x := lam + x) (by omega) (by omega)]
  refine z_gd trivial (z_gd ⟨by decide, by omega, by omega⟩ (z_pt ?_))
  have F1 : F2 (liW P R lam) h (up g (R + 12) (lam + x) (enE L x)) := Fg.put (Or.inr (Or.inr (Or.inl ⟨Or.inl rfl, by omega⟩)))
  have w1 : up g (R + 12) (lam + x) (enE L x) P 0 = R := by rw [up_a (by omega)]; exact gP
  have w2 : up g (R + 12) (lam + x) (enE L x) P 17 = lam := by rw [up_a (by omega)]; exact g17
  have w3 : up g (R + 12) (lam + x) (enE L x) P 18 = L.length := by rw [up_a (by omega)]; exact g18
  have w4 : up g (R + 12) (lam + x) (enE L x) R 15 = lam + L.length + 1 := by rw [up_a (by omega)]; exact g15
  have w5 : ∀ j : Int, 0 ≤ j → j < x + 1 → up g (R + 12) (lam + x) (enE L x) (R + 12) (lam + j) = enE L j := fun j j0 j1 => by
    by_cases hj : j = x
    · rw [hj, up_s]
    · rw [up_j (by omega)]; exact G1 j j0 (by omega)
  have w6 : ∀ j : Int, 0 ≤ j → j < x → j < L.length → up g (R + 12) (lam + x) (enE L x) (R + 13) (lam + j) = lnR D (enE L j) (enE L (j + 1)) := fun j j0 j1 j2 => by rw [up_a (by omega)]; exact G2 j j0 j1 j2
  generalize up g (R + 12) (lam + x) (enE L x) = g1 at F1 w1 w2 w3 w4 w5 w6 ⊢
  have L1 := liW_l hL hR hP l0 F1
  have a14 := g_X15_14 L1 hR
  have s14 := g_X15_14 L1 hS
  have hQ0 : g1 Q 0 = S := by rw [(keepQ F1).1]; exact q0
  have hQ17 : g1 Q 17 = μ := by rw [(keepQ F1).1]; exact c1
  simp only [w1, hQ0, g_X15 L1 hR, g_X15 L1 hS, a14, s14, hQ17, w2]
  rw [e32 (x := μ + x) (by omega) (by omega), e32 (x := lam + x) (by omega) (by omega)]
  refine z_gd trivial (z_gd trivial (z_gd ⟨by decide, by omega, by omega⟩ (z_gd ⟨by decide, by omega, by omega⟩ (z_pt (z_lt ?_)))))
  rw [e32 (x := x + 1) (by omega) (by omega)]
  refine z_some ⟨⟨show 0 ≤ x + 1 by omega, show x + 1 ≤ (L.length : Int) + 1 by omega, F1.put (Or.inr (Or.inr (Or.inl ⟨Or.inr rfl, by omega⟩))), ⟨?_, ?_, ?_⟩, fun j j0 j1 => ?_, fun j j0 j1 j2 => ?_⟩, by dsimp only; omega⟩ <;> dsimp only
  · rw [up_a (by omega)]; exact w2
  · rw [up_a (by omega)]; exact w3
  · rw [up_a (by omega)]; exact w4
  · rw [up_a (by omega)]; exact w5 j j0 j1
  · by_cases hj : j = x
    · rw [hj, up_s, rowS F1 13 _ (by decide) (by decide)]
      rw [hj] at j2
      exact c6 x x0 j2
    · rw [up_j (by omega)]; exact w6 j j0 (by dsimp only at j1; omega) j2
/-- a paragraph is set, or has the lines of an equal one -/
theorem c_set17 {h : Hp} {b u P R β lam tol : Int} {AA : Int → Hp} {A D : Hp} (hL : LAY h) (eb : h 487 0 = b) (hb : (b = 0 ∧ ∀ v, 0 ≤ v → v ≤ 255 → h 489 v = -1) ∨ (poA h b u AA ∧ htO h AA u)) (C : pgA h P R A) (H : lnH h P R β D) (O : lnO D) (et : h P 9 = tol) (el : h R 15 = lam) (l0 : 0 ≤ lam) (l1 : lam + D 6 0 + 1 < 26400)
    (old : b ≠ 0 → R ≠ b + 1 ∧ ∀ k, 0 ≤ k → k < u → smP (AA k) A → h (b + 15) k ≠ P ∧ ∃ μ τ cost L, lnF D tol τ cost L ∧ liO L (D 6 0) ∧ liC h (h (b + 15) k) (b + 1) μ D τ cost L ∧ 0 ≤ μ ∧ μ + L.length < 26400) :
    Pz (m_X17_set 487 P 257 h) (fun g => F2 (liW P R lam) h g ∧ ∃ τ cost L, lnF D tol τ cost L ∧ liO L (D 6 0) ∧ liC g P R lam D τ cost L ∧ g R 15 = lam + L.length + 1) := by
  have m6 := O.1
  unfold m_X17_set
  refine z_bind (z_mono (c_find17 hL eb hb C) (fun Q hQ => ?_))
  rcases hQ with ⟨rfl, -⟩ | ⟨b0, k, k0, k1, rfl, sm⟩
  · rw [if_neg (fun z => z rfl)]
    exact z_gd C.1.1 (z_bind (z_mono (c_set28 hL H O et el l0 l1) (fun g hg => z_some hg)))
  · obtain ⟨po, -⟩ := hb.resolve_left (fun z => b0 z.1)
    obtain ⟨c1, c2, c3, c4, c5⟩ := id po
    obtain ⟨nR, oldk⟩ := old b0
    obtain ⟨nP, μ, τ, cost, L, F, I, Li, m0, m1⟩ := oldk k k0 k1 sm
    have pk := c5 k k0 k1
    have len := I.2.1
    rw [if_pos (by have := pk.1.2.2.2; omega)]
    refine z_gd C.1.1 (z_bind (z_mono (c_copy hL C.1.2.2.1 C.1.2.2.2 pk.1.2.2.1 pk.1.2.2.2 (fun z => nP z.symm) nR pk.1.1 C.1.2.1 pk.1.2.1 el l0 (by omega) m0 m1 (by omega) Li) (fun g hg => z_some ⟨hg.1, τ, cost, L, F, I, hg.2.1, hg.2.2⟩)))
