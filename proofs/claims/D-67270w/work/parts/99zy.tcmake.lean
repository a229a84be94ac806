set_option maxRecDepth 100000
/-! TREES: the component makes a tree -/
theorem c_of4 {h : Hp} {A B N N' i : Int} {s s' : Int → List Int} (hL : LAY h) (hA : A ∈ in_aX4) (hB : B ∈ in_aX4) (M : NM h A N s) (M' : NM h B N' s') (i0 : 0 ≤ i) (i1 : i < N') : Pz (m_X4_of A B i h) (nmF N s (s' i)) := by
  obtain ⟨b1, b2, b3, b4⟩ := M'.2.1 i i0 i1
  have c := M'.1
  have k0 := g_X4_0 hL hB
  have k2 := g_X4_2 hL hB
  have kd := (ly_X4 hL hB).1
  unfold m_X4_of
  simp only [kd, k2, k0]
  refine z_gd trivial (z_gd ⟨by decide, i0, by omega⟩ ?_)
  rw [q_X4_length hL hB M' i0 i1, Option.bind_some]
  refine z_bind (z_mono (c_find4 hL hA M (t := B + 1) (f := h (B + 3) i) (n := (s' i).length) (by rw [k0.2.1]; decide) b1 (by rw [k0.2.2]; omega) (by omega)) (fun v hv => z_some ?_))
  rw [b4] at hv
  exact hv
/-- a tree of the component, out of V -/
def TC (Y V p : Hp) (S : Hp) (a sa ya n' m E M : Int) : Prop := (p a 0 = sa ∧ p a 1 = ya ∧ p a 2 = E) ∧ (∀ e, 0 ≤ e → e < E → prC Y V p a ya n' m e ∧ p (a + 4) e = V 30 e ∧ p (a + 5) e = V 31 e ∧ p (a + 6) e = rlF V (S 7) e ∧ p (a + 8) e = V 28 e ∧ p (a + 7) e = V 27 e ∧ p (a + 13) e = S 11 e) ∧ ∀ k, 0 ≤ k → k < M → p (a + 14) k = arF S k
theorem c_make {S Y V p : Hp} {a sa ya n N E F M n' N' C ns na nsel nb nt m τ : Int} {s s' : Int → List Int} (hL : LAY p) (ha : a ∈ in_aX7) (hs : sa ∈ in_aX6) (hy : ya ∈ in_aX3) (R : SA S p sa n N s E F M) (R' : YA Y p ya n' N' s' C ns na nsel nb nt m) (V_ : TSp S Y V E M nsel) (ht : p a 12 = τ) (t0 : 0 ≤ τ) (t1 : τ ≤ 800000000) (tm : ∀ j, 0 ≤ j → p (a + 9) j ≤ τ) :
    Pz (m_X7_make a sa ya p) (fun p' => F2 (tcW a) p p' ∧ TC Y V p' S a sa ya n' m E M ∧ p' a 12 ≤ τ + 60000 ∧ 0 ≤ p' a 12 ∧ ∀ j, 0 ≤ j → p' (a + 9) j ≤ p' a 12) := by
  have h7 := aX7 ha
  have h6 := aX6 hs
  have h3 := aX3' hy
  have E0 := R.2.2.1.2.1
  have E5 := R.2.2.1.2.2.1
  have na_ := R'.2.1
  obtain ⟨V1, V2, V3, V4⟩ := V_
  have par := fun e e0 e1 => (R.2.2.2.1 e e0 e1).2.2
  unfold m_X7_make
  refine z_pt (z_pt ?_)
  have f0 : F2 (tcW a) p (up (up p a 0 sa) a 1 ya) := (F2.refl.put (by unfold tcW; omega)).put (by unfold tcW; omega)
  have L0 := tcW_l hL ha f0
  have v0 : up (up p a 0 sa) a 1 ya a 0 = sa := by (try simp (disch := omega) only [up_a, up_e, up_j, e32, e8])
  have v4 : up (up p a 0 sa) a 1 ya sa 4 = E := by rw [up_a (by omega), up_a (by omega)]; exact R.2.2.1.1
  simp only [v0, (ly_X6 L0 hs).1, v4]
  refine z_gd trivial (z_pt (z_lt ?_))
  have f1 : F2 (tcW a) p (up (up (up p a 0 sa) a 1 ya) a 2 E) := f0.put (by unfold tcW; omega)
  have w0 : up (up (up p a 0 sa) a 1 ya) a 2 E a 0 = sa := by (try simp (disch := omega) only [up_a, up_e, up_j, e32, e8])
  have w1 : up (up (up p a 0 sa) a 1 ya) a 2 E a 1 = ya := by (try simp (disch := omega) only [up_a, up_e, up_j, e32, e8])
  have w2 : up (up (up p a 0 sa) a 1 ya) a 2 E a 2 = E := by (try simp (disch := omega) only [up_a, up_e, up_j, e32, e8])
  have w9 : up (up (up p a 0 sa) a 1 ya) a 2 E (a + 9) = p (a + 9) := by rw [up_row (by omega), up_row (by omega), up_row (by omega)]
  have w12 : up (up (up p a 0 sa) a 1 ya) a 2 E a 12 = τ := by (try simp (disch := omega) only [up_a, up_e, up_j, e32, e8]); exact ht
  generalize up (up (up p a 0 sa) a 1 ya) a 2 E = g at *
  -- names
  have ctx : ∀ q, F2 (fun b j => b = a + 1 ∧ 0 ≤ j) g q → LAY q ∧ q a 0 = sa ∧ q a 1 = ya ∧ q a 2 = E ∧ SA S q sa n N s E F M ∧ YA Y q ya n' N' s' C ns na nsel nb nt m := fun q Fq => by
    have Fp : F2 (tcW a) p q := f1.trans (Fq.mono (fun b j z => by unfold tcW; omega))
    refine ⟨tcW_l hL ha Fp, by rw [Fq _ _ (by omega)]; exact w0, by rw [Fq _ _ (by omega)]; exact w1, by rw [Fq _ _ (by omega)]; exact w2, R.kept (fun b b0 b1 => Fp.row (fun j z => by unfold tcW at z; omega)), R'.kept (fun b b0 b1 => Fp.row (fun j z => by unfold tcW at z; omega))⟩
  have yl := ly_X3n hL hy
  have cap := R'.1.1.1.2.2.1
  rw [show ya + 1 + 3 = ya + 4 by omega, yl.1] at cap
  have n0 := R'.1.1.1.2.1
  refine z_bind (z_mono (z_lp (Q := fun q => F2 (fun b j => b = a + 1 ∧ 0 ≤ j) g q ∧ ∀ k, 0 ≤ k → k < N' → nmF N s (s' k) (q (a + 1) k)) (fun (t : Int × Hp) => 0 ≤ t.1 ∧ t.1 ≤ N' ∧ F2 (fun b j => b = a + 1 ∧ 0 ≤ j) g t.2 ∧ ∀ k, 0 ≤ k → k < t.1 → nmF N s (s' k) (t.2 (a + 1) k)) (fun t => (N' - t.1).toNat) ⟨Int.le_refl _, n0, F2.refl, fun k z0 z1 => by dsimp only at z1; omega⟩ ?_) (fun g1 hg1 => z_lt ?_))
  · rintro ⟨x, q⟩ ⟨x0, x1, Fq, Eq⟩
    dsimp only at x0 x1 Eq
    replace Fq : F2 (fun b j => b = a + 1 ∧ 0 ≤ j) g q := Fq
    obtain ⟨Lq, q0, q1, q2, Rq, Rq'⟩ := ctx q Fq
    have j0 := g_X3_0 Lq hy
    have k3 := g_X6_3 Lq hs
    have i3 := g_X7_3 Lq ha
    show Pz (m_X7_make_l23 a x q) _
    unfold m_X7_make_l23
    simp only [q0, q1, (ly_X3 Lq hy).1, (ly_X6 Lq hs).1, j0.1, j0.2.1, k3.1, k3.2.1, i3.1, i3.2.1, i3.2.2, Rq'.1.1.1.1]
    refine z_gd trivial (z_gd trivial ?_)
    by_cases hx : N' ≤ x
    · have : x = N' := by omega
      subst this
      exact z_it hx (z_some ⟨Fq, Eq⟩)
    · refine z_ie hx (z_gd trivial (z_gd trivial (z_bind (z_mono (c_of4 Lq (aX6n hs).1 (aX3n hy).1 Rq.2.1.1 Rq'.1.1 x0 (by omega)) (fun v hv => z_gd ⟨by decide, x0, by omega⟩ (z_pt (z_lt (z_some ?_))))))))
      rw [e32 (x := x + 1) (by omega) (by omega)]
      refine ⟨⟨by dsimp only; omega, by dsimp only; omega, Fq.put ⟨rfl, x0⟩, fun k z0 z1 => ?_⟩, by dsimp only; omega⟩
      dsimp only at z1 ⊢
      by_cases hk : k = x
      · rw [hk, up_s]; exact hv
      · rw [up_j hk]; exact Eq k z0 (by omega)
  · obtain ⟨Fg1, nm⟩ := hg1
    obtain ⟨L1, q0, q1, q2, R1, R1'⟩ := ctx g1 Fg1
    have T1 : CT S Y g1 a sa ya n N s E F M n' N' s' C ns na nsel nb nt m := ⟨⟨L1, ha, hs, hy⟩, ⟨q0, q1, q2⟩, R1, R1', nm⟩
    -- properties
    refine z_bind (z_mono (z_lp (Q := fun q => F2 (fun b j => (b = a ∧ j = 12) ∨ (a + 2 ≤ b ∧ b ≤ a + 3 ∨ a + 9 ≤ b ∧ b ≤ a + 11) ∧ 0 ≤ j) g1 q ∧ q a 12 = τ + E * nsel ∧ (∀ j, 0 ≤ j → q (a + 9) j ≤ τ + E * nsel) ∧ ∀ e, 0 ≤ e → e < E → prC Y V q a ya n' m e) (fun (t : Int × Hp) => 0 ≤ t.1 ∧ t.1 ≤ E ∧ F2 (fun b j => (b = a ∧ j = 12) ∨ (a + 2 ≤ b ∧ b ≤ a + 3 ∨ a + 9 ≤ b ∧ b ≤ a + 11) ∧ 0 ≤ j) g1 t.2 ∧ t.2 a 12 = τ + t.1 * nsel ∧ (∀ j, 0 ≤ j → t.2 (a + 9) j ≤ τ + t.1 * nsel) ∧ ∀ e, 0 ≤ e → e < t.1 → prC Y V t.2 a ya n' m e) (fun t => (E - t.1).toNat) ⟨Int.le_refl _, E0, F2.refl, by dsimp only; rw [Fg1 _ _ (by omega), w12]; omega, fun j j0 => by dsimp only; rw [Fg1 _ _ (by omega), w9]; have := tm j j0; omega, fun k z0 z1 => by dsimp only at z1; omega⟩ ?_) (fun g2 hg2 => z_lt ?_))
    · rintro ⟨x, q⟩ ⟨x0, x1, Fq, q12, qt, Pq⟩
      dsimp only at x0 x1 q12 qt Pq
      replace Fq : F2 (fun b j => (b = a ∧ j = 12) ∨ (a + 2 ≤ b ∧ b ≤ a + 3 ∨ a + 9 ≤ b ∧ b ≤ a + 11) ∧ 0 ≤ j) g1 q := Fq
      have Tq := T1.kept (Fq.mono (fun b j z => by omega))
      show Pz (m_X7_make_l69 a x q) _
      unfold m_X7_make_l69
      rw [Tq.2.1.2.2]
      by_cases hx : E ≤ x
      · have : x = E := by omega
        subst this
        exact z_it hx (z_some ⟨Fq, q12, qt, Pq⟩)
      · have m0 : 0 ≤ x * nsel := Int.mul_nonneg x0 (by omega)
        have m1 : x * nsel ≤ 500 * 120 := Int.mul_le_mul (by omega) (by omega) (by omega) (by decide)
        refine z_ie hx (z_bind (z_mono (c_compute (V := V) (τ := τ + x * nsel) Tq V3 (V4 x x0 (by omega)).1 (V4 x x0 (by omega)).2.1 x0 (by omega) Pq q12 (by omega) (by omega) qt) (fun q' hq => z_lt (z_some ?_))))
        obtain ⟨r1, r2, r3, r4⟩ := hq
        rw [e32 (x := x + 1) (by omega) (by omega)]
        have em : (x + 1) * nsel = x * nsel + nsel := by rw [Int.add_mul, Int.one_mul]
        refine ⟨⟨by dsimp only; omega, by dsimp only; omega, Fq.trans (r1.mono (fun b j z => by unfold cmW at z; omega)), by dsimp only; rw [r2, em]; omega, fun j j0 => by dsimp only; rw [em]; have := r3 j j0; omega, fun e e0 e1 => ?_⟩, by dsimp only; omega⟩
        dsimp only at e1 ⊢
        by_cases he : e = x
        · rw [he]; exact r4
        · exact (Pq e e0 (by omega)).kept (fun c z0 z1 => r1 _ _ (by unfold cmW; omega)) (r1 _ _ (by unfold cmW; omega)) (r1.row (fun j z => by unfold cmW at z; omega))
    · obtain ⟨Fg2, g12, gt, Pg⟩ := hg2
      have T2 := T1.kept (Fg2.mono (fun b j z => by omega))
      have fl : ∀ x, 0 ≤ x → x < E → FLV V (S 7) x := fun x x0 x1 => (V4 x x0 x1).2.2.1
      have m0 : 0 ≤ E * nsel := Int.mul_nonneg E0 (by omega)
      have m1 : E * nsel ≤ 500 * 120 := Int.mul_le_mul (by omega) (by omega) (by omega) (by decide)
      refine z_bind (z_mono (z_lp (Q := fun q => F2 (tcW a) p q ∧ TC Y V q S a sa ya n' m E M ∧ q a 12 ≤ τ + 60000 ∧ 0 ≤ q a 12 ∧ ∀ j, 0 ≤ j → q (a + 9) j ≤ q a 12) (fun (t : Int × Hp) => 0 ≤ t.1 ∧ t.1 ≤ E ∧ F2 (fun b j => (a + 4 ≤ b ∧ b ≤ a + 6 ∨ b = a + 8) ∧ 0 ≤ j) g2 t.2 ∧ seI V t.2 (S 7) a t.1) (fun t => (E + 1 - t.1).toNat) ⟨Int.le_refl _, E0, F2.refl, fun k z0 z1 => by dsimp only at z1; omega⟩ ?_) (fun r hr => z_some hr))
      rintro ⟨x, q⟩ ⟨x0, x1, Fq, Iq⟩
      dsimp only at x0 x1 Iq
      replace Fq : F2 (fun b j => (a + 4 ≤ b ∧ b ≤ a + 6 ∨ b = a + 8) ∧ 0 ≤ j) g2 q := Fq
      have Tq := T2.kept (Fq.mono (fun b j z => by omega))
      have Pq : ∀ e, 0 ≤ e → e < E → prC Y V q a ya n' m e := fun e e0 e1 => (Pg e e0 e1).kept (fun c z0 z1 => Fq _ _ (by omega)) (Fq _ _ (by omega)) (Fq.row (fun j z => by omega))
      show Pz (m_X7_make_l90 a x q) _
      unfold m_X7_make_l90
      rw [Tq.2.1.2.2]
      by_cases hx : E ≤ x
      · have : x = E := by omega
        subst this
        refine z_it hx ?_
        refine z_bind (z_mono (c_count (V := V) Tq Pq (fun e e0 e1 => (Iq e e0 e1).1) (fun e e0 e1 => ?_)) (fun g3 hg3 => ?_))
        · have r15 := PV.rng R R' V3 e 15 e1 (by decide) (by decide) (by decide) (by decide)
          have r16 := PV.rng R R' V3 e 16 e1 (by decide) (by decide) (by decide) (by decide)
          unfold ofV at r15 r16
          rw [if_pos e0] at r15 r16
          unfold vrO at r15 r16
          omega
        · obtain ⟨f3, c3⟩ := hg3
          have T3 := Tq.kept (f3.mono (fun b j z => by omega))
          refine z_bind (z_mono (c_order T3) (fun g4 hg4 => z_some ?_))
          obtain ⟨f4, o1, o2⟩ := hg4
          have fA : F2 (fun b j => (a + 4 ≤ b ∧ b ≤ a + 8 ∨ a + 12 ≤ b ∧ b ≤ a + 14) ∧ 0 ≤ j) g2 g4 := ((Fq.mono (fun b j z => by omega)).trans (f3.mono (fun b j z => by omega))).trans (f4.mono (fun b j z => by omega))
          have T4 := T3.kept (f4.mono (fun b j z => by omega))
          have e12 : g4 a 12 = τ + x * nsel := by rw [fA _ _ (by omega)]; exact g12
          refine ⟨(((f1.trans (Fg1.mono (fun b j z => by unfold tcW; omega))).trans (Fg2.mono (fun b j z => by unfold tcW; omega))).trans (fA.mono (fun b j z => by unfold tcW; omega))), ⟨T4.2.1, fun e e0 e1 => ?_, o2⟩, by rw [e12]; omega, by rw [e12]; omega, fun j j0 => by rw [e12, fA _ _ (by omega)]; exact gt j j0⟩
          have ie := Iq e e0 e1
          refine ⟨(Pq e e0 e1).kept (fun c z0 z1 => by rw [f4 _ _ (by omega), f3 _ _ (by omega)]) (by rw [f4 _ _ (by omega), f3 _ _ (by omega)]) ((f4.row (fun j z => by omega)).trans (f3.row (fun j z => by omega))), ?_, ?_, ?_, ?_, ?_, o1 e e0 e1⟩
          · rw [f4 _ _ (by omega), f3 _ _ (by omega)]; exact ie.1
          · rw [f4 _ _ (by omega), f3 _ _ (by omega)]; exact ie.2.1
          · rw [f4 _ _ (by omega), f3 _ _ (by omega)]; exact ie.2.2.1
          · rw [f4 _ _ (by omega), f3 _ _ (by omega), (V4 e e0 e1).2.2.2.1]; exact ie.2.2.2
          · rw [f4 _ _ (by omega), c3 e e0 e1]; exact (V4 e e0 e1).2.2.2.2.symm
      · refine z_ie hx (z_bind (z_mono (c_see (V := V) Tq fl x0 (by omega) (by have := (Pq x x0 (by omega)).1 0 (by decide) (by decide) (by decide); rwa [Int.add_zero] at this) Iq) (fun q' hq => z_lt (z_some ?_))))
        obtain ⟨r1, r2⟩ := hq
        rw [e32 (x := x + 1) (by omega) (by omega)]
        exact ⟨⟨by dsimp only; omega, by dsimp only; omega, Fq.trans (r1.mono (fun b j z => by unfold seW at z; omega)), r2⟩, by dsimp only; omega⟩
