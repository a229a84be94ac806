set_option maxRecDepth 100000
/-! SOURCES: an entity is told, all of it -/
theorem RS.ent {T : Int → Int} {n N : Int} {s : Int → List Int} {E F M D i j K x e y z : Int} {r r' : Int → List Int} {p q p' q' : Hp} {a l : Int} (R : RS T n N s E F M D i p q a l) (hij : i ≤ j) (eK : q l 4 = K) (k0 : 0 ≤ K) (k40 : K < 40) (hK : ∀ k, 0 ≤ k → k < K → enO T n i r p q a l k)
    (hp : ∀ b x, a ≤ b → b ≤ a + 30 → ¬ ((a + 23 ≤ b ∧ b ≤ a + 27) ∨ ((b = a + 28 ∨ b = a + 29) ∧ x = K) ∨ (b = a ∧ x = 2)) → p' b x = p b x) (hq : ∀ b x, l ≤ b → b ≤ l + 20 → ¬ (b = l + 1) → ¬ ((l + 17 ≤ b ∧ b ≤ l + 20 ∧ x = K) ∨ (b = l ∧ (x = 4 ∨ x = 25))) → q' b x = q b x)
    (M' : NM p' (a + 23) (K + 1) r') (ub : p' (a + 23) 1 ≤ j) (rr : ∀ k, 0 ≤ k → k < K → r' k = r k) (rK : r' K = wr T x e) (e1 : p' (a + 28) K = y) (e2 : p' (a + 29) K = z - y) (e3 : q' l 4 = K + 1) (f1 : q' (l + 17) K = x) (f2 : q' (l + 18) K = e) (f3 : q' (l + 19) K = y) (f4 : q' (l + 20) K = z) (x0 : 0 ≤ x) (xe : x ≤ e) (en : e ≤ n) (y0 : 0 ≤ y) (yz : y ≤ z) (zj : z < j) (zn : z ≤ n) (bz : bOK T y z) : RS T n N s E F M D j p' q' a l := by
  obtain ⟨y1, y2, y3, y4, y5⟩ := R
  have X : ∀ k : Int, 1 ≤ k → k ≤ 30 → (k < 23 ∨ 29 < k) → p' (a + k) = p (a + k) := fun k k0 k1 k2 => funext fun x => hp _ _ (by omega) (by omega) (by omega)
  have Z : ∀ k : Int, 2 ≤ k → k ≤ 16 → q' (l + k) = q (l + k) := fun k k0 k1 => funext fun x => hq _ _ (by omega) (by omega) (by omega) (by omega)
  have pa : ∀ x, x ≠ 2 → p' a x = p a x := fun x x1 => hp _ _ (by omega) (by omega) (by omega)
  have ql : ∀ x, x ≠ 4 → x ≠ 25 → q' l x = q l x := fun x x1 x2 => hq _ _ (by omega) (by omega) (by omega) (by omega)
  refine ⟨?_, ?_, ?_, ?_, K + 1, r', M', ub, e3, by omega, fun k k0 k1 => ?_⟩
  · unfold rsN at *
    rw [X 2 (by decide) (by decide) (by decide)]
    exact ⟨y1.1.kept (fun b b0 b1 => by have := X (b - a) (by omega) (by omega) (by omega); rwa [show a + (b - a) = b by omega] at this), by omega, by omega⟩
  · unfold rsE elO fsO fdO at *
    rw [pa 4 (by decide), pa 18 (by decide), pa 19 (by decide), pa 20 (by decide), ql 3 (by decide) (by decide), X 7 (by decide) (by decide) (by decide), X 8 (by decide) (by decide) (by decide), X 9 (by decide) (by decide) (by decide), X 11 (by decide) (by decide) (by decide), X 12 (by decide) (by decide) (by decide), X 13 (by decide) (by decide) (by decide), X 14 (by decide) (by decide) (by decide), X 16 (by decide) (by decide) (by decide), X 17 (by decide) (by decide) (by decide), X 18 (by decide) (by decide) (by decide), X 19 (by decide) (by decide) (by decide), Z 5 (by decide) (by decide), Z 7 (by decide) (by decide), Z 8 (by decide) (by decide), Z 9 (by decide) (by decide), Z 10 (by decide) (by decide), Z 11 (by decide) (by decide), Z 13 (by decide) (by decide), Z 14 (by decide) (by decide), Z 15 (by decide) (by decide), Z 16 (by decide) (by decide)]
    obtain ⟨c1, c2, c3, c4, c5, c6, c7, c8⟩ := y2
    exact ⟨c1, c2, c3, c4, c5, c6, ⟨by omega, fun e x0 x1 => by have := c7.2 e x0 x1; omega⟩, c8⟩
  · unfold rsV evO at *
    rw [pa 24 (by decide), ql 2 (by decide) (by decide), X 15 (by decide) (by decide) (by decide), X 20 (by decide) (by decide) (by decide), X 21 (by decide) (by decide) (by decide), X 22 (by decide) (by decide) (by decide), Z 2 (by decide) (by decide), Z 3 (by decide) (by decide), Z 4 (by decide) (by decide), Z 7 (by decide) (by decide), Z 11 (by decide) (by decide), Z 12 (by decide) (by decide)]
    obtain ⟨c1, c2, c3, c4, c5, c6, c7, c8⟩ := y3
    exact ⟨c1, c2, c3, by omega, c5, fun m m0 m1 m2 => ⟨by have := (c6 m m0 m1 m2).1; omega, (c6 m m0 m1 m2).2⟩, c7, c8⟩
  · unfold rsS clO at *
    rw [pa 29 (by decide), ql 27 (by decide) (by decide), ql 26 (by decide) (by decide), X 30 (by decide) (by decide) (by decide), X 10 (by decide) (by decide) (by decide), Z 2 (by decide) (by decide), Z 3 (by decide) (by decide), Z 5 (by decide) (by decide), Z 6 (by decide) (by decide), Z 7 (by decide) (by decide), Z 11 (by decide) (by decide), Z 12 (by decide) (by decide)]
    exact y4
  · unfold enO at *
    by_cases hk : k = K
    · rw [hk, f1, f2, f3, f4, e1, e2, rK]
      exact ⟨rfl, x0, xe, en, rfl, rfl, y0, yz, zj, zn, bz⟩
    · obtain ⟨d1, d2, d3, d4, d5, d6, d7, d8, d9, d10⟩ := hK k k0 (by omega)
      have a28 := hp (a + 28) k (by omega) (by omega) (by omega)
      have a29 := hp (a + 29) k (by omega) (by omega) (by omega)
      have l17 := hq (l + 17) k (by omega) (by omega) (by omega) (by omega)
      have l18 := hq (l + 18) k (by omega) (by omega) (by omega) (by omega)
      have l19 := hq (l + 19) k (by omega) (by omega) (by omega) (by omega)
      have l20 := hq (l + 20) k (by omega) (by omega) (by omega) (by omega)
      rw [a28, a29, l17, l18, l19, l20, rr k k0 (by omega)]
      exact ⟨d1, d2, d3, d4, d5, d6, d7, d8, by omega, d10⟩
/-- the name is noted, the end of the tag is looked for -/
theorem y_defend {h1 h2 hc ht : Hp} {n : Int} {B T : Int → Int} {a l i x e y z : Int} {N : Int} {s : Int → List Int} {E F M D K : Int} {r : Int → List Int} (ha : a ∈ in_aX6) (hl : l ∈ in_aX23) (S : SZ h1 h2 n B T a l hc ht) (R : RS T n N s E F M D i hc ht a l) (ec : hc a 2 = y) (i0 : 0 ≤ i) (ix : i < x) (xe : x < e) (ey : e ≤ y) (yz : y + 1 ≤ z) (zn : z < n)
    (M1 : NM hc (a + 23) K r) (ub : hc (a + 23) 1 ≤ i) (eK : ht l 4 = K) (k40 : K < 40) (hK : ∀ k, 0 ≤ k → k < K → enO T n i r hc ht a l k) (new : ∀ k, 0 ≤ k → k < K → r k ≠ wr T x e) (bz : bOK T (y + 1) z) :
    Pr (gd (hc (hc a 25) (-2) = 64) (bW (m_X4_add (hc a 25) (hc a 0) x (w32 (e - x)) hc) fun v161 h161 =>
  gd (h161 (h161 a 26) (-2) % 16 = 1 ∧ (0 : Int) ≤ v161 ∧ v161 < h161 (h161 a 26) (-1)) (pt h161 (h161 a 26) v161 (w32 ((h161 a 2) + 1)) fun h178 =>
  gd (h178 (h178 a 27) (-2) % 16 = 1 ∧ (0 : Int) ≤ v161 ∧ v161 < h178 (h178 a 27) (-1)) (pt h178 (h178 a 27) v161 (z - y - 1) fun h187 =>
  pt h187 a 2 (w32 ((h187 a 2) + (w32 ((z - y - 1) + 2)))) fun h198 =>
  (m_X6_blanks a h198).bind fun h202 =>
  (m_X6_byteAt a (h202 a 2) h202).bind fun v210 =>
  if v210 = 62 then (pt h202 a 2 (w32 ((h202 a 2) + 1)) fun h230 =>
  some (((0 : Int), (0 : Int)), h230))
  else (bW (m_X6_broken a h202) fun v219 h219 =>
  gd (0 < v219) (some ((1, v219), h219))))))) ((m_X23_skip l (z + 1) ht).bind fun v130 =>
  bT (m_X23_need l v130 62 ht) (fun _ h140 =>
  gd (h140 (h140 l 21) (-2) % 16 = 1 ∧ (0 : Int) ≤ (h140 l 4) ∧ (h140 l 4) < h140 (h140 l 21) (-1)) (pt h140 (h140 l 21) (h140 l 4) x fun h152 =>
  gd (h152 (h152 l 22) (-2) % 16 = 1 ∧ (0 : Int) ≤ (h152 l 4) ∧ (h152 l 4) < h152 (h152 l 22) (-1)) (pt h152 (h152 l 22) (h152 l 4) e fun h162 =>
  gd (h162 (h162 l 23) (-2) % 16 = 1 ∧ (0 : Int) ≤ (h162 l 4) ∧ (h162 l 4) < h162 (h162 l 23) (-1)) (pt h162 (h162 l 23) (h162 l 4) (y + 1) fun h174 =>
  gd (h174 (h174 l 24) (-2) % 16 = 1 ∧ (0 : Int) ≤ (h174 l 4) ∧ (h174 l 4) < h174 (h174 l 24) (-1)) (pt h174 (h174 l 24) (h174 l 4) (w32 ((z + 1) - 1)) fun h187 =>
  pt h187 l 4 (w32 ((h187 l 4) + 1)) fun h195 =>
  pt h195 l 25 (w32 (v130 + 1)) fun h203 =>
  some (((0 : Int), (0 : Int)), h203)))))) (fun a_ h_ => some ((1, a_), h_))) (ZP h1 h2 n B T a l i) := by
  have h6 := aX6 ha
  have h23 := aX23 hl
  have hn := S.2.2.2
  have kc := g_X6_0 S.1.1 ha
  have k25 := g_X6_25 S.1.1 ha
  have ln := ly_X6n S.1.1 ha
  have K0 : 0 ≤ K := M1.1.2.1
  have w1 : wd hc (a + 1) x (e - x).toNat = wr T x e := wrL (by omega) (by omega) S.2.2.1
  simp only [k25.1, k25.2.1, kc.1]
  refine yl_gd trivial ?_
  rw [e32 (x := e - x) (by omega) (by omega)]
  obtain ⟨rc, e1, c1⟩ := c_add4 (t := a + 1) (f := x) (n := (e - x).toNat) S.1.1 (aX6n ha).2 M1 (by omega) (by rw [kc.2.1]; decide) (by omega) (by rw [kc.2.2]; omega) (by omega) ⟨by rw [show a + 23 + 3 = a + 26 by omega, ln.2.2.1]; omega, by rw [show a + 23 + 4 = a + 27 by omega, ln.2.2.2]; omega, by omega⟩ (by omega)
  rw [show (((e - x).toNat : Nat) : Int) = e - x by omega, w1] at *
  rcases c1 with ⟨-, b1, b2, b3⟩ | ⟨b1, b2, b3, b4, -⟩
  · exact absurd b3 (new _ b1 b2)
  refine yl_bW ⟨rc, e1, ?_⟩
  obtain ⟨v, g⟩ := rc
  dsimp only at b1 b2 b3 b4 ⊢
  have b1' := b1.symm
  subst b1'
  have F0 : F2 (srP a) hc g := b2.mono (fun b j z => by unfold nmW at z; unfold srP; omega)
  have S1 := S.goL ha F0
  have r2 : g a 2 = y := by rw [b2 _ _ (fun z => by unfold nmW at z; omega)]; exact ec
  have k26 := g_X6_26 S1.1.1 ha
  simp only [k26.1, k26.2.1, k26.2.2, r2]
  rw [e32 (x := y + 1) (by omega) (by omega), e32 (x := z - y - 1 + 2) (by omega) (by omega)]
  refine yl_gd ⟨by decide, K0, k40⟩ (yl_pt ?_)
  have S2 := S1.goL ha (hc' := up g (a + 28) K (y + 1)) (F2.refl.put (by unfold srP; omega))
  have k27 := g_X6_27 S2.1.1 ha
  simp only [k27.1, k27.2.1, k27.2.2]
  refine yl_gd ⟨by decide, K0, k40⟩ (yl_pt ?_)
  have S3 := S2.goL ha (hc' := up (up g (a + 28) K (y + 1)) (a + 29) K (z - y - 1)) (F2.refl.put (by unfold srP; omega))
  rw [up_a (show a ≠ a + 29 by omega), up_a (show a ≠ a + 28 by omega), r2, show y + (z - y - 1 + 2) = z + 1 by omega, e32 (x := z + 1) (by omega) (by omega)]
  refine yl_pt ?_
  have S4 := S3.goL ha (hc' := up (up (up g (a + 28) K (y + 1)) (a + 29) K (z - y - 1)) a 2 (z + 1)) (F2.refl.put (by unfold srP; omega))
  refine y_blanks ha S4 (up_s _ _ _ _) (by omega) (by omega) (fun q1 q2 S5 => ?_)
  rw [up_up] at S5 ⊢
  generalize hj : sc B isBl (z + 1) = j at *
  refine y_nd ha hl S5 (up_s _ _ _ _) (up_s _ _ _ _) (by omega) q2 (fun b62 => ?_) (fun b h' b' h'' z => y_some (Or.inr z))
  have jn : j < n := by
    rw [← S.1.2.2.2.1] at b62
    exact Bt_n (h := hc) (t := a + 1) (by omega)
  rw [up_s, e32 (x := j + 1) (by omega) (by omega)]
  refine yl_pt ?_
  rw [up_up]
  -- the reference
  have t0 := g_X23_21 S.2.1.1 hl
  simp only [t0.1, t0.2.1, t0.2.2, eK]
  refine yr_gd ⟨by decide, K0, k40⟩ (yr_pt ?_)
  have U1 := S.goR hl (ht' := up ht (l + 17) K x) (F2.refl.put (by unfold srQ; omega))
  have t1 := g_X23_22 U1.2.1.1 hl
  have v1 : up ht (l + 17) K x l 4 = K := by rw [up_a (by omega)]; exact eK
  simp only [t1.1, t1.2.1, t1.2.2, v1]
  refine yr_gd ⟨by decide, K0, k40⟩ (yr_pt ?_)
  have U2 := U1.goR hl (ht' := up (up ht (l + 17) K x) (l + 18) K e) (F2.refl.put (by unfold srQ; omega))
  have t2 := g_X23_23 U2.2.1.1 hl
  have v2 : up (up ht (l + 17) K x) (l + 18) K e l 4 = K := by rw [up_a (by omega)]; exact v1
  simp only [t2.1, t2.2.1, t2.2.2, v2]
  refine yr_gd ⟨by decide, K0, k40⟩ (yr_pt ?_)
  have U3 := U2.goR hl (ht' := up (up (up ht (l + 17) K x) (l + 18) K e) (l + 19) K (y + 1)) (F2.refl.put (by unfold srQ; omega))
  have t3 := g_X23_24 U3.2.1.1 hl
  have v3 : up (up (up ht (l + 17) K x) (l + 18) K e) (l + 19) K (y + 1) l 4 = K := by rw [up_a (by omega)]; exact v2
  simp only [t3.1, t3.2.1, t3.2.2, v3]
  rw [show z + 1 - 1 = z by omega, e32 (x := z) (by omega) (by omega)]
  refine yr_gd ⟨by decide, K0, k40⟩ (yr_pt ?_)
  rw [up_a (show l ≠ l + 20 by omega), v3, e32 (x := K + 1) (by omega) (by omega)]
  refine yr_pt (yr_pt (y_some (Or.inl ⟨rfl, rfl, j + 1, by omega, ?_⟩)))
  show ZI h1 h2 n B T a l (j + 1) (up (up (up g (a + 28) K (y + 1)) (a + 29) K (z - y - 1)) a 2 (j + 1)) (up (up (up (up (up (up ht (l + 17) K x) (l + 18) K e) (l + 19) K (y + 1)) (l + 20) K z) l 4 (K + 1)) l 25 (j + 1))
  have S6 := (S3.goL ha (hc' := up (up (up g (a + 28) K (y + 1)) (a + 29) K (z - y - 1)) a 2 (j + 1)) (F2.refl.put (by unfold srP; omega))).goR hl (ht' := up (up (up (up (up (up ht (l + 17) K x) (l + 18) K e) (l + 19) K (y + 1)) (l + 20) K z) l 4 (K + 1)) l 25 (j + 1)) (by
    repeat' first
      | exact F2.refl
      | refine F2.put ?_ (by unfold srQ; omega))
  have R' := R.ent (p' := up (up (up g (a + 28) K (y + 1)) (a + 29) K (z - y - 1)) a 2 (j + 1)) (q' := up (up (up (up (up (up ht (l + 17) K x) (l + 18) K e) (l + 19) K (y + 1)) (l + 20) K z) l 4 (K + 1)) l 25 (j + 1)) (j := j + 1) (x := x) (e := e) (y := y + 1) (z := z) (r' := upF r K (wr T x e)) (by omega) eK K0 k40 hK (fun b x b0 b1 nb => by
    rw [up_ne (by omega), up_ne (by omega), up_ne (by omega)]
    exact b2 _ _ (fun z => by unfold nmW at z; omega)) (fun b x b0 b1 b2 nb => by (repeat rw [up_ne (by omega)])) (b3.kept (fun b b0 b1 => by rw [up_row (by omega), up_row (by omega), up_row (by omega)])) (by rw [up_a (by omega), up_a (by omega), up_a (by omega), b4]; omega) (fun k k0 k1 => upF_n (by omega)) upF_s (by (try simp (disch := omega) only [up_a, up_e, up_j, e32, e8]) <;> omega) (by (try simp (disch := omega) only [up_a, up_e, up_j, e32, e8]); omega) (by (try simp (disch := omega) only [up_a, up_e, up_j, e32, e8]) <;> omega) (by (try simp (disch := omega) only [up_a, up_e, up_j, e32, e8]) <;> omega) (by (try simp (disch := omega) only [up_a, up_e, up_j, e32, e8]) <;> omega) (by (try simp (disch := omega) only [up_a, up_e, up_j, e32, e8]) <;> omega) (by (try simp (disch := omega) only [up_a, up_e, up_j, e32, e8]) <;> omega) (by omega) (by omega) (by omega) (by omega) (by omega) (by omega) (by omega) bz
  refine ⟨S6, up_s _ _ _ _, up_s _ _ _ _, by omega, by omega, N, s, E, F, M, D, R', fun m m0 m1 k0 k1 => ?_⟩
  exfalso
  have l2 : up (up (up (up (up (up ht (l + 17) K x) (l + 18) K e) (l + 19) K (y + 1)) (l + 20) K z) l 4 (K + 1)) l 25 (j + 1) (l + 2) m = ht (l + 2) m := by (repeat rw [up_ne (by omega)])
  have l4 : up (up (up (up (up (up ht (l + 17) K x) (l + 18) K e) (l + 19) K (y + 1)) (l + 20) K z) l 4 (K + 1)) l 25 (j + 1) (l + 4) m = ht (l + 4) m := by (repeat rw [up_ne (by omega)])
  rw [l2] at k0
  rw [l4] at k1
  have := R.2.2.1.2.2.2.2.2.1 m m0 m1 k0
  omega
theorem y_define {h1 h2 hc ht : Hp} {n : Int} {B T : Int → Int} {a l i x : Int} {N : Int} {s : Int → List Int} {E F M D : Int} (ha : a ∈ in_aX6) (hl : l ∈ in_aX23) (S : SZ h1 h2 n B T a l hc ht) (R : RS T n N s E F M D i hc ht a l) (ec : hc a 2 = x) (i0 : 0 ≤ i) (ix : i < x) (xn : x ≤ n) :
    Pr (m_X6_define a hc) (m_X23_tell l x ht) (ZP h1 h2 n B T a l i) := by
  have h6 := aX6 ha
  have h23 := aX23 hl
  have hn := S.2.2.2
  unfold m_X6_define m_X23_tell
  rw [ec]
  refine yl_lt ?_
  refine y_name ha hl S ec (by omega) xn (fun nm lt en => ?_) (fun b h' b' h'' z => y_some (Or.inr z))
  generalize he : sc B isNm x = e at *
  have kc := g_X6_0 S.1.1 ha
  have kt := g_X23_0 S.2.1.1 hl
  have w1 : wd hc (a + 1) x (e - x).toNat = wr T x e := wrL (by omega) en S.2.2.1
  have w2 : wd ht (l + 1) x (e - x).toNat = wr T x e := by rw [wr_wd, S.2.1.2.2.2.2.2]
  have is6 : ∀ {s b}, strB s = some b → m_X6_isWord a x e s hc = some (eqW (wr T x e) b) := fun hs => by
    rw [q_isWord6 hs kc.1 (by rw [kc.2.1]; decide) (by omega) (by omega) (by rw [kc.2.2]; omega) (by rw [kc.2.2]; decide), w1]
  have is23 : ∀ {s b}, strB s = some b → m_X18_is (l + 1) x e s ht = some (eqW (wr T x e) b) := fun hs => by
    rw [q_X18_is hs (by rw [kt.2.1]; decide) (by omega) (by omega) (by rw [kt.2.2]; omega) (by rw [kt.2.2]; decide), w2]
  obtain ⟨K, r, M1, ub, eK, k40, hK⟩ := R.2.2.2.2
  have K0 : 0 ≤ K := M1.1.2.1
  have c3 : hc (a + 23) 3 = K := M1.1.1
  have k25 := g_X6_25 S.1.1 ha
  have bad : ∀ {o : Option ((Int × Int) × Hp)}, (al ht 448 7 fun a52 h52 => (x_broken a52 x h52).bind fun h57 => some (((1 : Int), a52), h57)) = o → Pr (m_X6_define_j50 e x a hc) o (ZP h1 h2 n B T a l i) := by
    intro o ho
    rw [← ho]
    unfold m_X6_define_j50 m_X6_define_j55
    refine yl_it (by decide) ?_
    exact y_brk ha hl S ec (by omega) xn (fun b h' b' h'' z => y_some (Or.inr z))
  rw [kt.1, is23 st_86, is23 st_87, is6 st_17, is6 st_18, Option.bind_some, Option.bind_some, Option.bind_some, Option.bind_some]
  by_cases d1 : eqW (wr T x e) [108, 116] ≠ 0
  · exact yl_it d1 (yr_it d1 (bad rfl))
  refine yl_ie d1 (yr_ie d1 ?_)
  by_cases d2 : eqW (wr T x e) [97, 109, 112] ≠ 0
  · exact yl_it d2 (yr_it d2 (bad rfl))
  refine yl_ie d2 (yr_ie d2 ?_)
  obtain ⟨v, ev, fv⟩ := t_find23 (K := K) (r := r) (x := x) (e := e) S.2.1.1 hl S.2.1.2.2.2.2.2 eK K0 k40 (by omega) (by omega) en (by omega) (fun k k0 k1 => ⟨(hK k k0 k1).1, (hK k k0 k1).2.1, (hK k k0 k1).2.2.1, (hK k k0 k1).2.2.2.1⟩)
  simp only [k25.1, k25.2.1, kc.1]
  refine yl_gd trivial ?_
  rw [e32 (x := e - x) (by omega) (by omega)]
  obtain ⟨v', ev', fv'⟩ := c_find4 (t := a + 1) (f := x) (n := (e - x).toNat) S.1.1 (aX6n ha).2 M1 (by rw [kc.2.1]; decide) (by omega) (by rw [kc.2.2]; omega) (by omega)
  rw [w1] at fv'
  have vv := fv'.uniq fv M1.2.2.1
  subst vv
  rw [show (((e - x).toNat : Nat) : Int) = e - x by omega] at ev'
  rw [ev, ev', Option.bind_some, Option.bind_some]
  rcases fv with ⟨rfl, new⟩ | ⟨v0, v1, -⟩
  · refine yl_it (by decide) (yr_ie (by decide) ?_)
    unfold m_X6_define_j55
    refine yl_ie (by decide) ?_
    simp only [k25.1, k25.2.1, c3, eK]
    refine yl_gd trivial ?_
    by_cases d3 : K ≠ 40
    · refine yl_it d3 (yr_it d3 (yl_pt ?_))
      have S1 := S.goL ha (hc' := up hc a 2 e) (F2.refl.put (by unfold srP; omega))
      refine y_blanks ha S1 (up_s _ _ _ _) (by omega) en (fun q1 q2 S2 => ?_)
      rw [up_up] at S2 ⊢
      generalize hy : sc B isBl e = y at *
      refine y_string ha hl S2 (up_s _ _ _ _) (by omega) q2 (fun st q3 q4 => ?_) (fun b h' b' h'' z => y_some (Or.inr z))
      generalize hz : sc B isSt (y + 1) = z at *
      rw [up_s, e32 (x := y + 1) (by omega) (by omega)]
      refine yl_lt (yr_lt ?_)
      refine y_bind (y_mono (y_defloop ha hl S2 (up_s _ _ _ _) (by omega) q3 q4) (fun u v huv => ?_))
      rcases huv with ⟨rfl, rfl⟩ | ⟨rc, rt, rfl, rfl, zz⟩
      · simp only [sE]
        have R2 := R.at (x := y)
        refine y_defend ha hl S2 R2 (up_s _ _ _ _) i0 ix lt q1 q3 q4 (M1.kept (fun b b0 b1 => up_row (by omega))) (by rw [up_a (by omega)]; exact ub) eK (by omega) (fun k k0 k1 => ?_) new (hz ▸ S2.bok st_r (by omega))
        have := hK k k0 k1
        unfold enO at *
        rw [up_row (show a + 28 ≠ a by omega), up_row (show a + 29 ≠ a by omega)]
        exact this
      · simp only [sE]
        exact y_some (Or.inr zz)
    · refine yl_ie d3 (yr_ie d3 ?_)
      exact y_brk ha hl S ec (by omega) xn (fun b h' b' h'' z => y_some (Or.inr z))
  · exact yl_ie (by omega) (yr_it v0 (bad rfl))
