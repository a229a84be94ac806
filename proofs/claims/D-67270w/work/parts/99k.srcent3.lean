set_option maxRecDepth 100000
/-! SOURCES: an entity in the text -/
/-- text is added on both sides at i' -/
theorem ZI.text {h1 h2 hc ht hc' ht' : Hp} {n : Int} {B T : Int → Int} {a l i j : Int} {N : Int} {s : Int → List Int} {E F M D : Int} (S : SZ h1 h2 n B T a l hc' ht') (i0 : 0 ≤ i) (ij : i < j) (jn : j ≤ n) (ec : hc' a 2 = j) (et : ht' l 25 = j) (R : RS T n N s E F M D i hc ht a l)
    (hp : ∀ b x, a ≤ b → b ≤ a + 30 → ¬ ((a + 20 ≤ b ∧ b ≤ a + 22 ∧ x = M) ∨ (b = a ∧ (x = 2 ∨ x = 24)) ∨ (b = a + 15 ∧ x = ht l 26)) → hc' b x = hc b x) (hq : ∀ b x, l ≤ b → b ≤ l + 20 → ¬ (b = l + 1) → ¬ ((l + 2 ≤ b ∧ b ≤ l + 4 ∧ x = M) ∨ (b = l ∧ (x = 2 ∨ x = 25))) → ht' b x = ht b x)
    (e1 : hc' a 24 = M + 1) (e2 : ht' l 2 = M + 1) (e3 : 0 < D → hc' (a + 15) (ht l 26) = 1) (ev : evO n E hc' ht' a l M) (ek : ht' (l + 2) M = 0 ∨ ht' (l + 2) M = 3) (ei : ht' (l + 2) M = 0 → ht' (l + 4) M < j ∧ bOK T (ht' (l + 3) M) (ht' (l + 4) M)) : ZI h1 h2 n B T a l j hc' ht' := by
  have m1 : M ≤ i := R.2.2.1.2.2.2.1
  refine ⟨S, ec, et, by omega, jn, N, s, E, F, M + 1, D, R.text (by omega) (by omega) hp hq e1 e2 e3 ev ek (fun z => ⟨by have := ei z; omega, (ei z).2⟩), fun m m0 m2 k0 k1 => ?_⟩
  exfalso
  by_cases hm : m = M
  · rw [hm] at k0 k1; have := ei k0; omega
  · rw [hq _ _ (by omega) (by omega) (by omega) (by omega)] at k0 k1
    have := R.2.2.1.2.2.2.2.2.1 m m0 (by omega) k0
    omega
theorem ZI.go {h1 h2 hc ht hc' ht' : Hp} {n : Int} {B T : Int → Int} {a l i j : Int} {N : Int} {s : Int → List Int} {E F M D : Int} (S : SZ h1 h2 n B T a l hc' ht') (i0 : 0 ≤ i) (ij : i < j) (jn : j ≤ n) (ec : hc' a 2 = j) (et : ht' l 25 = j) (R : RS T n N s E F M D i hc ht a l) (e : eqA a hc hc') (g : eqB l ht ht') : ZI h1 h2 n B T a l j hc' ht' := by
  refine ⟨S, ec, et, by omega, jn, N, s, E, F, M, D, R.kept (by omega) e g, fun m m0 m2 k0 k1 => ?_⟩
  exfalso
  rw [g.1 _ (by omega) (by omega)] at k0 k1
  have := R.2.2.1.2.2.2.2.2.1 m m0 m2 k0
  omega
/-- the two ends of an entity -/
theorem y_entend {h1 h2 hc ht : Hp} {n : Int} {B T : Int → Int} {a l i e v : Int} {lt amp : Int} {N : Int} {s : Int → List Int} {E F M D K : Int} {r : Int → List Int} (ha : a ∈ in_aX6) (hl : l ∈ in_aX23) (S : SZ h1 h2 n B T a l hc ht) (R : RS T n N s E F M D i hc ht a l) (et : ht l 25 = i) (i0 : 0 ≤ i) (ie : i < e) (en : e ≤ n) (hv : (v = -1 ∧ (lt ≠ 0 ∨ (lt = 0 ∧ amp ≠ 0))) ∨ (lt = 0 ∧ amp = 0 ∧ 0 ≤ v ∧ v < K)) (eK : ht l 4 = K) (k40 : K ≤ 40) (hK : ∀ k, 0 ≤ k → k < K → enO T n i r hc ht a l k) (w : Int) (hw : 0 ≤ v → w = v) :
    Pr (m_X6_entity_j80 v lt a e hc) (m_X23_reference_j69 w amp lt e l ht) (ZP h1 h2 n B T a l i) := by
  have h6 := aX6 ha
  have h23 := aX23 hl
  have hn := S.2.2.2
  unfold m_X6_entity_j80 m_X23_reference_j69
  refine yl_pt ?_
  have S1 := S.goL ha (hc' := up hc a 2 e) (F2.refl.put (by unfold srP; omega))
  rw [up_s]
  refine y_nd ha hl S1 (up_s _ _ _ _) rfl (by omega) en (fun b59 => ?_) (fun b h' b' h'' z => y_some (Or.inr z))
  have e1n : e < n := by
    rw [← S.1.2.2.2.1] at b59
    exact Bt_n (h := hc) (t := a + 1) (by omega)
  rw [e32 (x := e + 1) (by omega) (by omega)]
  refine yl_pt ?_
  rw [up_up]
  have S2 := S.goL ha (hc' := up hc a 2 (e + 1)) (F2.refl.put (by unfold srP; omega))
  have rV := R.2.2.1
  have rS := R.2.2.2.1
  have eM : hc a 24 = M := rV.1
  have fM : ht l 2 = M := rV.2.1
  have m0 : 0 ≤ M := rV.2.2.1
  have m1 : M ≤ i := rV.2.2.2.1
  obtain ⟨d1, d2, d3, d4, d5, d6, d7, d8, d9⟩ := rS
  have od : 0 < D → 0 ≤ ht l 26 ∧ ht l 26 < 500 := fun z => by
    have x := d8 (D - 1) (by omega) (by omega)
    rw [d7 z] at x
    have := R.2.1.2.2.2.1
    omega
  -- text on both sides
  have txt : ∀ f z kd q1 q2, z ≠ 0 → ((kd = 0 ∧ f = q1 ∧ 0 ≤ q1 ∧ z = q2 - q1 ∧ 1 ≤ z ∧ q2 < e + 1 ∧ bOK T q1 q2) ∨ (kd = 3 ∧ f = -1 - q1 ∧ (q1 = 38 ∨ q1 = 60) ∧ z = 1)) →
      Pr ((m_X6_stand a f z (up hc a 2 (e + 1))).bind fun h150 => some (((0 : Int), (0 : Int)), h150)) ((m_X23_add l kd q1 q2 ht).bind fun h99 => pt h99 l 25 (e + 1) fun h145 => some (((0 : Int), (0 : Int)), h145)) (ZP h1 h2 n B T a l i) := by
    intro f z kd q1 q2 z0 hk
    obtain ⟨hc', r1, r2, r3, r4, r5, r6, r7⟩ := c_stand6 (f := f) (z := z) (D := D) (M := M) (o := ht l 26) S2.1.1 ha z0 (by rw [up_i (by decide)]; exact d1) d3 d4 (by rw [up_i (by decide)]; exact eM) m0 (by omega) (fun z => by rw [up_a (by omega)]; exact d7 z) od
    rw [r1, Option.bind_some, q_add23 S.2.1.1 hl fM m0 (by omega), Option.bind_some]
    refine yr_pt (y_some (Or.inl ⟨rfl, rfl, e + 1, by omega, ?_⟩))
    have S3 := (S2.goL ha (r2.mono (fun b x z => by
      rcases z with z | z | z
      · unfold srP; omega
      · unfold srP; omega
      · have := od z.1; unfold srP; omega))).goR hl (ht' := up (up (up (up (up ht (l + 2) M kd) (l + 3) M q1) (l + 4) M q2) l 2 (M + 1)) l 25 (e + 1)) (by
      repeat' first
        | exact F2.refl
        | refine F2.put ?_ (by unfold srQ; omega))
    show ZI h1 h2 n B T a l (e + 1) hc' (up (up (up (up (up ht (l + 2) M kd) (l + 3) M q1) (l + 4) M q2) l 2 (M + 1)) l 25 (e + 1))
    refine ZI.text S3 i0 (by omega) (by omega) ?_ ?_ R (fun b x b0 b1 nb => ?_) (fun b x b0 b1 b2 nb => ?_) r6 ?_ r7 ?_ ?_ ?_
    · rw [r2 _ _ (by omega), up_s]
    · (try simp (disch := omega) only [up_a, up_e, up_j, e32, e8])
    · rw [r2 _ _ (by omega), up_ne (by omega)]
    · (repeat rw [up_ne (by omega)])
    · (try simp (disch := omega) only [up_a, up_e, up_j, e32, e8])
    · have u2 : up (up (up (up (up ht (l + 2) M kd) (l + 3) M q1) (l + 4) M q2) l 2 (M + 1)) l 25 (e + 1) (l + 2) M = kd := by (try simp (disch := omega) only [up_a, up_e, up_j, e32, e8])
      have u3 : up (up (up (up (up ht (l + 2) M kd) (l + 3) M q1) (l + 4) M q2) l 2 (M + 1)) l 25 (e + 1) (l + 3) M = q1 := by (try simp (disch := omega) only [up_a, up_e, up_j, e32, e8])
      have u4 : up (up (up (up (up ht (l + 2) M kd) (l + 3) M q1) (l + 4) M q2) l 2 (M + 1)) l 25 (e + 1) (l + 4) M = q2 := by (try simp (disch := omega) only [up_a, up_e, up_j, e32, e8])
      unfold evO
      rw [r3, r4, r5, u2, u3, u4]
      rcases hk with hk | hk
      · exact Or.inr (Or.inr (Or.inl ⟨rfl, hk.1, hk.2.1, hk.2.2.1, hk.2.2.2.1, hk.2.2.2.2.1, by omega⟩))
      · exact Or.inr (Or.inr (Or.inr ⟨rfl, hk.1, hk.2.1, hk.2.2.1, hk.2.2.2⟩))
    · (try simp (disch := omega) only [up_a, up_e, up_j, e32, e8]); omega
    · have u2 : up (up (up (up (up ht (l + 2) M kd) (l + 3) M q1) (l + 4) M q2) l 2 (M + 1)) l 25 (e + 1) (l + 2) M = kd := by (try simp (disch := omega) only [up_a, up_e, up_j, e32, e8])
      have u3 : up (up (up (up (up ht (l + 2) M kd) (l + 3) M q1) (l + 4) M q2) l 2 (M + 1)) l 25 (e + 1) (l + 3) M = q1 := by (try simp (disch := omega) only [up_a, up_e, up_j, e32, e8])
      have u4 : up (up (up (up (up ht (l + 2) M kd) (l + 3) M q1) (l + 4) M q2) l 2 (M + 1)) l 25 (e + 1) (l + 4) M = q2 := by (try simp (disch := omega) only [up_a, up_e, up_j, e32, e8])
      rw [u2, u3, u4]
      intro z
      rcases hk with hk | hk
      · exact hk.2.2.2.2.2
      · omega
  have none_ : Pr (some (((0 : Int), (0 : Int)), up hc a 2 (e + 1))) (pt ht l 25 (e + 1) fun h145 => some (((0 : Int), (0 : Int)), h145)) (ZP h1 h2 n B T a l i) := by
    refine yr_pt (y_some (Or.inl ⟨rfl, rfl, e + 1, by omega, ?_⟩))
    show ZI h1 h2 n B T a l (e + 1) (up hc a 2 (e + 1)) (up ht l 25 (e + 1))
    exact ZI.go (S2.goR hl (F2.refl.put (by unfold srQ; omega))) i0 (by omega) (by omega) (up_s _ _ _ _) (up_s _ _ _ _) R ⟨fun b b0 b1 => up_row (by omega), fun x hx => up_j hx⟩ ⟨fun b b0 b1 => up_row (by omega), fun x hx => up_j hx⟩
  rcases hv with ⟨rfl, hv⟩ | ⟨v1, v2, v3, v4⟩
  · refine yl_it (by decide) ?_
    rcases hv with hv | ⟨hv, hv2⟩
    · refine yl_ie hv (yr_it hv ?_)
      unfold m_X23_reference_j85
      refine yr_ie hv ?_
      rw [e32 (x := e + 1) (by omega) (by omega)]
      exact txt (-61) 1 3 60 0 (by decide) (Or.inr ⟨rfl, rfl, Or.inr rfl, rfl⟩)
    · refine yl_it hv (yr_ie (fun z => z hv) (yr_ie hv2 ?_))
      unfold m_X23_reference_j85
      refine yr_it hv ?_
      rw [e32 (x := e + 1) (by omega) (by omega)]
      exact txt (-39) 1 3 38 0 (by decide) (Or.inr ⟨rfl, rfl, Or.inl rfl, rfl⟩)
  · have ww := hw v3
    subst ww
    obtain ⟨g1, g2, g3, g4, g5, g6, g7, g8, g9, g10⟩ := hK w v3 v4
    have k26 := g_X6_26 S2.1.1 ha
    have k27 := g_X6_27 S2.1.1 ha
    have k23 := g_X23_23 S.2.1.1 hl
    have k24 := g_X23_24 S.2.1.1 hl
    simp only [k26.1, k26.2.1, k26.2.2, k27.1, k27.2.1, k27.2.2, k23.1, k23.2.1, k23.2.2, k24.1, k24.2.1, k24.2.2, up_a (show a + 28 ≠ a by omega), up_a (show a + 29 ≠ a by omega), g5, g6]
    refine yl_ie (by omega) (yl_gd ⟨by decide, v3, by omega⟩ (yl_gd ⟨by decide, v3, by omega⟩ (yr_ie (fun z => z v1) (yr_it v2 (yr_gd ⟨by decide, v3, by omega⟩ (yr_gd ⟨by decide, v3, by omega⟩ ?_))))))
    by_cases hz : ht (l + 20) w ≤ ht (l + 19) w
    · refine yr_it hz ?_
      have : m_X6_stand a (ht (l + 19) w) (ht (l + 20) w - ht (l + 19) w) (up hc a 2 (e + 1)) = some (up hc a 2 (e + 1)) := by
        unfold m_X6_stand
        rw [if_neg (by omega)]
      rw [this, Option.bind_some]
      exact none_
    · exact yr_ie hz (txt _ _ 0 _ _ (by omega) (Or.inl ⟨rfl, rfl, g7, rfl, by omega, by omega, g10.2⟩))
