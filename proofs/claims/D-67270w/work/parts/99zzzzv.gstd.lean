-- needs: 99zzzzu
set_option maxRecDepth 100000
/-! GATHERING: the component's tree, all in one; what stands in an element -/
def KTR (S Y V p : Hp) (a sa ya E M : Int) : Prop := ∃ n N s F n' N' s' C ns na nsel nb nt m, KC S Y V p a sa ya n N s E F M n' N' s' C ns na nsel nb nt m
theorem KTR.keep {S Y V p p' : Hp} {a sa ya E M : Int} (K : KTR S Y V p a sa ya E M) (L' : LAY p') (rw_ : ∀ x, x < 218 → x ≠ a → x ≠ a + 15 → x ≠ a + 16 → p' x = p x) (ea : ∀ j, j ≤ 18 → p' a j = p a j) : KTR S Y V p' a sa ya E M := by
  obtain ⟨n, N, s, F, n', N', s', C, ns, na, nsel, nb, nt, m, ⟨⟨hL, ha, hs, hy⟩, R, R', ⟨⟨t0, t1, t2⟩, t3, t4⟩, ts⟩⟩ := K
  have h7 := aX7 ha
  have h6 := aX6 hs
  have h3 := aX3' hy
  refine ⟨n, N, s, F, n', N', s', C, ns, na, nsel, nb, nt, m, ⟨L', ha, hs, hy⟩, R.kept (fun x x0 x1 => rw_ x (by omega) (by omega) (by omega) (by omega)), R'.kept (fun x x0 x1 => rw_ x (by omega) (by omega) (by omega) (by omega)), ⟨⟨?_, ?_, ?_⟩, fun e e0 e1 => ?_, fun k k0 k1 => ?_⟩, ts⟩
  · rw [ea _ (by decide)]; exact t0
  · rw [ea _ (by decide)]; exact t1
  · rw [ea _ (by decide)]; exact t2
  · obtain ⟨z1, z2⟩ := t3 e e0 e1
    rw [rw_ (a + 4) (by omega) (by omega) (by omega) (by omega), rw_ (a + 5) (by omega) (by omega) (by omega) (by omega), rw_ (a + 6) (by omega) (by omega) (by omega) (by omega), rw_ (a + 7) (by omega) (by omega) (by omega) (by omega), rw_ (a + 8) (by omega) (by omega) (by omega) (by omega), rw_ (a + 13) (by omega) (by omega) (by omega) (by omega)]
    refine ⟨z1.kept (fun c _ _ => ?_) ?_ ?_, z2⟩
    · rw [rw_ (a + 2) (by omega) (by omega) (by omega) (by omega)]
    · rw [rw_ (a + 3) (by omega) (by omega) (by omega) (by omega)]
    · rw [rw_ (ya + 12) (by omega) (by omega) (by omega) (by omega)]
  · rw [rw_ (a + 14) (by omega) (by omega) (by omega) (by omega)]; exact t4 k k0 k1
/-- written above the trees alone -/
theorem KTR.high {S Y V p p' : Hp} {a sa ya E M : Int} {W : Int → Int → Prop} (K : KTR S Y V p a sa ya E M) (L' : LAY p') (f : F2 W p p') (w : ∀ x j, W x j → 218 ≤ x) : KTR S Y V p' a sa ya E M := by
  have h7 : a = 184 ∨ a = 201 := by obtain ⟨n, N, s, F, n', N', s', C, ns, na, nsel, nb, nt, m, ⟨⟨hL, ha, hs, hy⟩, R⟩⟩ := K; exact aX7 ha
  exact K.keep L' (fun x x0 _ _ _ => f.row (fun j z => by have := w _ _ z; omega)) (fun j _ => f _ _ (fun z => by have := w _ _ z; omega))
theorem KTR.lay {S Y V p : Hp} {a sa ya E M : Int} (K : KTR S Y V p a sa ya E M) : LAY p ∧ a ∈ in_aX7 ∧ sa ∈ in_aX6 ∧ ya ∈ in_aX3 := by
  obtain ⟨n, N, s, F, n', N', s', C, ns, na, nsel, nb, nt, m, T⟩ := K
  exact T.1
theorem KTR.rng {S Y V p : Hp} {a sa ya E M : Int} (K : KTR S Y V p a sa ya E M) : 0 ≤ E ∧ E ≤ 500 ∧ 0 ≤ M ∧ M ≤ 3000 ∧ p a 2 = E ∧ p a 0 = sa ∧ p a 1 = ya ∧ p sa 24 = M ∧ p sa 4 = E ∧ ∀ e, 0 ≤ e → e < E → -1 ≤ S 7 e ∧ S 7 e < e ∧ p (sa + 8) e = S 7 e := by
  obtain ⟨n, N, s, F, n', N', s', C, ns, na, nsel, nb, nt, m, T⟩ := K
  have R := T.2.1
  have n3 := R.1.2.1
  have Mn := R.2.2.2.2.2.1.2.2.1
  refine ⟨R.2.2.1.2.1, R.2.2.1.2.2.1, R.2.2.2.2.2.1.2.1, by omega, T.2.2.2.1.1.2.2, T.2.2.2.1.1.1, T.2.2.2.1.1.2.1, R.2.2.2.2.2.1.1, R.2.2.1.1, fun e e0 e1 => ?_⟩
  have := R.2.2.2.1 e e0 e1
  exact ⟨this.2.2.1, this.2.2.2.1, this.2.1⟩
theorem KTR.prop {S Y V p : Hp} {a sa ya E M e c : Int} (K : KTR S Y V p a sa ya E M) (e0 : -1 ≤ e) (e1 : e < E) (c0 : 1 ≤ c) (c1 : c ≤ 21) (c2 : c ≠ 17) : m_X7_property a e c p = some (ofV (V 24) e c) := by
  obtain ⟨n, N, s, F, n', N', s', C, ns, na, nsel, nb, nt, m, T⟩ := K
  by_cases h : 0 ≤ e
  · rw [q_propK T h e1 (by omega) c1, (T.2.2.2.1.2.1 e h e1).1.1 c (by omega) c1 c2]
    unfold ofV
    rw [if_pos h]
  · have : e = -1 := by omega
    subst this
    have : ∀ c : Fin 22, (1 ≤ c.1 ∧ c.1 ≠ 17) → m_X7_first (c.1 : Int) = some (begV (c.1 : Int)) := by decide
    have h2 := this ⟨c.toNat, by omega⟩ ⟨by show 1 ≤ c.toNat; omega, by show c.toNat ≠ 17; omega⟩
    rw [show ((c.toNat : Nat) : Int) = c by omega] at h2
    unfold m_X7_property ofV
    rw [if_neg (by decide), if_neg (by decide), h2]
    rfl
/-- the book's own: tree, style, source -/
def bkX (h : Hp) (b a sa ya : Int) : Prop := h b 2 = a ∧ h b 3 = ya ∧ h b 6 = sa
theorem q_prop14 {S Y V p : Hp} {b a sa ya E M e c : Int} (K : KTR S Y V p a sa ya E M) (B : bkX p b a sa ya) (e0 : -1 ≤ e) (e1 : e < E) (c0 : 1 ≤ c) (c1 : c ≤ 21) (c2 : c ≠ 17) : m_X14_property b e c p = some (ofV (V 24) e c) := by
  unfold m_X14_property
  rw [B.1, K.prop e0 e1 c0 c1 c2, gd_t (g_X7 K.lay.1 K.lay.2.1)]
  rfl
def tOf (h : Hp) (b : Int) : Int := if h b 46 = 0 then (if h b 47 = 0 then 261 else 265) else 269
def nOf (h : Hp) (b : Int) : Int := if h b 46 = 0 then 1 else 0
theorem tOf_m (h : Hp) (b : Int) : tOf h b ∈ in_aX12 := by
  unfold tOf in_aX12
  split
  · split <;> simp
  · simp
theorem g10 {h : Hp} (hL : LAY h) : h 256 (-2) = 160 ∧ h 256 1 = 261 ∧ h 256 2 = 265 ∧ h 256 3 = 269 := by
  have := ly_X10 hL
  simp_all
theorem q_open14 {h : Hp} {b : Int} (hL : LAY h) (hb : b ∈ in_aX14) : m_X14_open_2 b h = some (tOf h b) := by
  obtain ⟨g0, g1, g2, g3⟩ := g10 hL
  have b0 : h b 0 = 256 := (ly_X14 hL hb).2.1.1
  unfold m_X14_open_2 tOf
  rw [b0, g0, g1, g2, g3]
  rw [gd_t rfl, gd_t rfl, gd_t rfl]
  split
  · split <;> rfl
  · rfl
theorem KTR.item {S Y V p : Hp} {a sa ya E M k : Int} (K : KTR S Y V p a sa ya E M) (k0 : 0 ≤ k) (k1 : k < M) (i1 : S 2 k ≠ 1) (i2 : S 2 k ≠ 2) :
    ∃ z : Nat, p (sa + 22) k = z ∧ z ≤ 3000 ∧ (itB S k).length = z ∧ ∀ x : Nat, x < z → ∃ c, (itB S k)[x]? = some c ∧ 0 ≤ c ∧ c ≤ 127 ∧ m_X6_byteOf sa k x p = some c := by
  obtain ⟨n, N, s, F, n', N', s', C, ns, na, nsel, nb, nt, m, T⟩ := K
  have hs := T.1.2.2.1
  have R := T.2.1
  have n3 := R.1.2.1
  have Mn := R.2.2.2.2.2.1.2.2.1
  have h6 := aX6 hs
  have Lq := T.1.1
  rcases R.2.2.2.2.2.1.2.2.2 k k0 k1 with z | z | ⟨-, z2, z3, z4, z5, z6, z7⟩ | ⟨-, z2, z3, z4, z5⟩
  · exact absurd z.2.1 i1
  · exact absurd z.2.1 i2
  · have ei : itB S k = wr (S 1) (S 3 k) (S 4 k) := by unfold itB; rw [if_neg (by omega)]
    refine ⟨(S 4 k - S 3 k).toNat, by omega, by omega, by rw [ei, wr_len], fun x hx => ⟨S 1 (S 3 k + x), ?_, ?_, (R.byte (by omega) (by omega)).2, ?_⟩⟩
    · rw [ei]; unfold wr; simp [hx]
    · exact (R.1.2.2.2.2.2.1.2.1 k k0 k1 z2) (S 3 k + x) (by omega) (by omega)
    · have j22 := g_X6_22 Lq hs
      have j0 := g_X6_0 Lq hs
      unfold m_X6_byteOf
      simp only [j22.1, j22.2.1, j22.2.2, j0.1, j0.2.1, j0.2.2, z3]
      rw [gd_t ⟨by decide, k0, by omega⟩, if_pos z4, e32 (by omega) (by omega), gd_t ⟨by decide, by omega, by omega⟩, R.1.2.2.2.2.1 _ (by omega) (by omega)]
  · have ei : itB S k = [S 3 k] := by unfold itB; rw [if_pos z2]
    refine ⟨1, z5, by omega, by rw [ei]; rfl, fun x hx => ⟨S 3 k, ?_, by omega, by omega, ?_⟩⟩
    · have : x = 0 := by omega
      rw [ei, this]; rfl
    · have j22 := g_X6_22 Lq hs
      unfold m_X6_byteOf
      simp only [j22.1, j22.2.1, j22.2.2, z3]
      rw [gd_t ⟨by decide, k0, by omega⟩, if_neg (by omega), e32 (by omega) (by omega), show (-1 - (-1 - S 3 k)) = S 3 k by omega]
theorem pb_kx {S Y V p p' : Hp} {b t a sa ya E M : Int} (K : KTR S Y V p a sa ya E M) (hb : b ∈ in_aX14) (ht : t ∈ in_aX12) (f : F2 (pbW b t) p p') : KTR S Y V p' a sa ya E M := by
  have ht' := aX12 ht
  have hb' := aX14' hb
  exact K.high (pbW_l K.lay.1 ht hb f) f (fun x j z => by unfold pbW txW at z; omega)
theorem c_stand {S Y V h : Hp} {b a sa ya E M e k : Int} {s : TXT × Int} (K : KTR S Y V h a sa ya E M) (hb : b ∈ in_aX14) (B : bkX h b a sa ya) (rm : RM h 1 6) (X : txC h (tOf h b) s.1) (e0 : -1 ≤ e) (e1 : e < E) (k0 : 0 ≤ k) (k1 : k < M) (i1 : S 2 k ≠ 1) (i2 : S 2 k ≠ 2) (z0 : 0 ≤ ofV (V 24) e 1) (eo : h b 27 = s.2) (o0 : 0 ≤ s.2 ∧ s.2 ≤ 900000000) :
    Pz (m_X14_stand_j16 b e k h) (PU b (tOf h b) (nOf h b) (ofV (V 24) e 1) h s (itB S k)) := by
  have hb' := aX14' hb
  obtain ⟨hL, ha, hs, hy⟩ := K.lay
  have ht := tOf_m h b
  have ht' := aX12 ht
  have h6 := aX6 hs
  obtain ⟨y, y1, y2, y3, y4⟩ := K.item k0 k1 i1 i2
  have Mr := K.rng.2.2.2.1
  unfold m_X14_stand_j16
  rw [q_open14 hL hb, Option.bind_some, q_prop14 K B e0 e1 (by decide) (by decide) (by decide), Option.bind_some]
  have j23 := g_X6_23 hL hs
  simp only [B.2.2, g_X6 hL hs, j23.1, j23.2.1, j23.2.2, y1]
  have en : nOf h b = if h b 46 = 0 then 1 else 0 := rfl
  generalize tOf h b = t at *
  generalize ofV (V 24) e 1 = z at *
  refine z_gd trivial (z_gd ⟨by decide, k0, by omega⟩ (z_lt (z_lt (z_bind (z_mono (z_lp (Q := PU b t (nOf h b) z h s (itB S k)) (fun (q : Int × Hp) => ∃ x : Nat, q.1 = x ∧ x ≤ y ∧ F2 (pbW b t) h q.2 ∧ txC q.2 t (tzL (nOf h b) z s ((itB S k).take x)).1 ∧ q.2 b 27 = (tzL (nOf h b) z s ((itB S k).take x)).2) (fun q => ((y : Int) - q.1).toNat) ⟨0, rfl, Nat.zero_le _, F2.refl, X, eo⟩ ?_) (fun r hr => z_some hr))))))
  rintro ⟨w, g⟩ ⟨x, ey, x1, Fg, Xg, og⟩
  dsimp only at ey Xg og
  subst ey
  replace Fg : F2 (pbW b t) h g := Fg
  have Kg := pb_kx K hb ht Fg
  have g6 : g b 6 = sa := by rw [Fg _ _ (fun z => by unfold pbW txW at z; omega)]; exact B.2.2
  have g46 : g b 46 = h b 46 := Fg _ _ (fun z => by unfold pbW txW at z; omega)
  show Pz (m_X14_stand_l43 b k t z y x g) _
  unfold m_X14_stand_l43
  by_cases hx : (y : Int) ≤ x
  · have : (itB S k).take x = itB S k := List.take_of_length_le (by omega)
    rw [this] at Xg og
    exact z_it hx (z_some (Or.inl ⟨rfl, Fg, Xg, og⟩))
  · obtain ⟨c, c1, c2, c3, -⟩ := y4 x (by omega)
    obtain ⟨y', -, -, y3', y4'⟩ := Kg.item k0 k1 i1 i2
    obtain ⟨c', c1', -, -, c4⟩ := y4' x (by omega)
    have : c' = c := by rw [c1] at c1'; exact (Option.some.inj c1').symm
    subst this
    have tk := take_at c1
    have ln := tzL_len (n := nOf h b) (z := z) ((itB S k).take x) s
    have lt : (((itB S k).take x).length : Int) ≤ y := by rw [List.length_take]; omega
    simp only [g6, g_X6 Kg.lay.1 hs]
    refine z_ie hx (z_gd trivial ?_)
    rw [c4, Option.bind_some]
    have go : Pz (m_X14_stand_j76 b t z x c' (nOf h b) g) (sE (fun (q : Int × Hp) => (∃ x : Nat, q.1 = x ∧ x ≤ y ∧ F2 (pbW b t) h q.2 ∧ txC q.2 t (tzL (nOf h b) z s ((itB S k).take x)).1 ∧ q.2 b 27 = (tzL (nOf h b) z s ((itB S k).take x)).2) ∧ ((y : Int) - q.1).toNat < ((y : Int) - x).toNat) (PU b t (nOf h b) z h s (itB S k))) := by
      unfold m_X14_stand_j76
      refine z_bT (z_mono (c_put14 (n := nOf h b) (z := z) Kg.lay.1 ht hb (pb_rm rm ht hb Fg) Xg c2 (by omega) z0 og (by omega)) (fun r hr => ?_))
      rcases hr with ⟨e, f, X', o'⟩ | ⟨hl, xx⟩
      · refine Or.inl ⟨by rw [e], z_lt (z_some ?_)⟩
        rw [e32 (by omega) (by omega)]
        refine ⟨⟨x + 1, by simp, by omega, Fg.trans f, ?_, ?_⟩, by dsimp only; omega⟩
        · dsimp only
          rw [tk, tzL_app]; exact X'
        · dsimp only
          rw [tk, tzL_app]; exact o'
      · refine Or.inr ⟨by rw [xx.one]; decide, z_some ?_⟩
        show PU b t (nOf h b) z h s (itB S k) ((1, r.1.2), r.2)
        rw [← List.take_append_drop (x + 1) (itB S k)]
        refine PU.bad ?_ (TH.after Fg (by rw [(pb_00 ht hb Fg).1]; exact Int.le_refl _) xx)
        rw [tk, tzL_app]; exact hl
    rw [en] at go
    refine z_if (fun h1 => ?_) (fun h1 => ?_)
    · rw [en]; rw [g46] at h1; rw [if_neg h1] at go ⊢; exact go
    · rw [en]; rw [g46] at h1; rw [if_pos (Classical.not_not.mp h1)] at go ⊢; exact go
