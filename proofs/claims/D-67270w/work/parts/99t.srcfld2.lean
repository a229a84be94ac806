set_option maxRecDepth 100000
/-! SOURCES: the fields of a tag, side by side -/
/-- a name of the text is noted -/
theorem c_name6 {h1 h2 hc ht : Hp} {n : Int} {B T : Int → Int} {a l x e N : Int} {s : Int → List Int} (ha : a ∈ in_aX6) (S : SZ h1 h2 n B T a l hc ht) (M1 : NM hc (a + 2) N s) (ub : hc (a + 2) 1 ≤ x) (uN : N ≤ x) (x0 : 0 ≤ x) (xe : x < e) (en : e ≤ n) :
    Pz (m_X4_add (a + 2) (a + 1) x (e - x) hc) (fun r => F2 (nmW (a + 2)) hc r.2 ∧ ∃ N' s', NM r.2 (a + 2) N' s' ∧ r.2 (a + 2) 1 ≤ e ∧ N' ≤ e ∧ N ≤ N' ∧ (∀ z, 0 ≤ z → z < N → s' z = s z) ∧ 0 ≤ r.1 ∧ r.1 < N' ∧ s' r.1 = wr T x e) := by
  have h6 := aX6 ha
  have hn := S.2.2.2
  have kc := g_X6_0 S.1.1 ha
  have ln := ly_X6n S.1.1 ha
  have w1 : wd hc (a + 1) x (e - x).toNat = wr T x e := wrL (by omega) (by omega) S.2.2.1
  have N0 : 0 ≤ N := M1.1.2.1
  obtain ⟨rc, e1, c1⟩ := c_add4 (t := a + 1) (f := x) (n := (e - x).toNat) S.1.1 (aX6n ha).1 M1 (by omega) (by rw [kc.2.1]; decide) (by omega) (by rw [kc.2.2]; omega) (by omega) ⟨by rw [show a + 2 + 3 = a + 5 by omega, ln.1]; omega, by rw [show a + 2 + 4 = a + 6 by omega, ln.2.1]; omega, by omega⟩ (by omega)
  rw [show (((e - x).toNat : Nat) : Int) = e - x by omega] at e1 c1
  rw [w1] at c1
  refine ⟨rc, e1, ?_⟩
  rcases c1 with ⟨b0, b1, b2, b3⟩ | ⟨b1, b2, b3, b4, -⟩
  · rw [b0]
    exact ⟨F2.refl, N, s, M1, by omega, by omega, Int.le_refl _, fun z _ _ => rfl, b1, b2, b3⟩
  · exact ⟨b2, N + 1, _, b3, by omega, by omega, by omega, fun z z0 z1 => upF_n (by omega), by omega, by omega, by rw [b1]; exact upF_s⟩
/-- what the fields of a tag may change -/
def fzP (a F : Int) (g0 hc : Hp) : Prop := ∀ b x, a ≤ b → b ≤ a + 30 → ¬ ((a + 2 ≤ b ∧ b ≤ a + 6) ∨ (a + 17 ≤ b ∧ b ≤ a + 19 ∧ F ≤ x) ∨ (b = a ∧ (x = 2 ∨ x = 18))) → hc b x = g0 b x
def fzQ (l E : Int) (t0 ht : Hp) : Prop := ∀ b x, l ≤ b → b ≤ l + 20 → ¬ ((b = l + 10 ∧ x = E) ∨ (l + 13 ≤ b ∧ b ≤ l + 16 ∧ 6 * E ≤ x)) → ht b x = t0 b x
/-- while the fields of element E are read -/
def FZ (T : Int → Int) (n N : Int) (s : Int → List Int) (E F : Int) (g0 t0 : Hp) (a l x : Int) (hc ht : Hp) : Prop :=
  ∃ N' s' F', (NM hc (a + 2) N' s' ∧ hc (a + 2) 1 ≤ x ∧ N' ≤ x ∧ N ≤ N' ∧ ∀ z, 0 ≤ z → z < N → s' z = s z) ∧ (hc a 18 = F' ∧ F' ≤ x ∧ fsO T n N' s' hc ht a l E F F') ∧ fzP a F g0 hc ∧ fzQ l E t0 ht
theorem FZ.place {T : Int → Int} {n N : Int} {s : Int → List Int} {E F : Int} {g0 t0 : Hp} {a l x y : Int} {hc ht : Hp} (f : FZ T n N s E F g0 t0 a l x hc ht) (xy : x ≤ y) (z : Int) : FZ T n N s E F g0 t0 a l y (up hc a 2 z) ht := by
  obtain ⟨N', s', F', ⟨c1, c2, c3, c4, c5⟩, ⟨d1, d2, d3⟩, c8, c9⟩ := f
  refine ⟨N', s', F', ⟨c1.kept (fun b b0 b1 => up_row (by omega)), by rw [up_a (by omega)]; omega, by omega, c4, c5⟩, ⟨by rw [up_i (by decide)]; exact d1, by omega, ?_⟩, fun b y b0 b1 nb => ?_, c9⟩
  · unfold fsO fdO at *
    rw [up_row (show a + 17 ≠ a by omega), up_row (show a + 18 ≠ a by omega), up_row (show a + 19 ≠ a by omega)]
    exact d3
  · rw [up_ne (by omega)]; exact c8 b y b0 b1 nb
/-- the names grow -/
theorem fsO.names {T : Int → Int} {n N N' : Int} {s s' : Int → List Int} {p p' q : Hp} {a l e k k' : Int} (f : fsO T n N s p q a l e k k') (NN : N ≤ N') (ss : ∀ x, 0 ≤ x → x < N → s' x = s x) (r : ∀ b, a + 17 ≤ b → b ≤ a + 19 → p' b = p b) : fsO T n N' s' p' q a l e k k' := by
  obtain ⟨f1, f2, f3, f4, f5⟩ := f
  refine ⟨f1, f2, f3, f4, fun x x0 x1 => ?_⟩
  have f6 := f5 x x0 x1
  unfold fdO at *
  rw [r (a + 17) (by omega) (by omega), r (a + 18) (by omega) (by omega), r (a + 19) (by omega) (by omega)]
  exact ⟨f6.1.mono NN ss, f6.2⟩
/-- a field more -/
theorem fsO.more {T : Int → Int} {n N : Int} {s : Int → List Int} {p p' q q' : Hp} {a l E F F' c v x e y z : Int} (f : fsO T n N s p q a l E F F') (ec : q (l + 10) E = c) (c6 : c < 6) (v0 : 0 ≤ v) (v1 : v < N) (sv : s v = wr T x e) (x0 : 0 ≤ x) (xe : x ≤ e) (en : e ≤ n) (y0 : 0 ≤ y) (yz : y ≤ z) (zn : z ≤ n) (bz : bOK T y z)
    (pr : ∀ b j, a + 17 ≤ b → b ≤ a + 19 → j ≠ F' → p' b j = p b j) (qr : ∀ b j, l + 13 ≤ b → b ≤ l + 16 → j ≠ 6 * E + c → q' b j = q b j) (e1 : p' (a + 17) F' = v) (e2 : p' (a + 18) F' = y) (e3 : p' (a + 19) F' = z - y) (e4 : q' (l + 13) (6 * E + c) = x) (e5 : q' (l + 14) (6 * E + c) = e) (e6 : q' (l + 15) (6 * E + c) = y) (e7 : q' (l + 16) (6 * E + c) = z) (e8 : q' (l + 10) E = c + 1) : fsO T n N s p' q' a l E F (F' + 1) := by
  obtain ⟨f1, f2, f3, f4, f5⟩ := f
  rw [ec] at f2 f3 f4 f5
  unfold fsO
  rw [e8]
  refine ⟨f1, by omega, by omega, by omega, fun k k0 k1 => ?_⟩
  by_cases hk : k = c
  · rw [hk, show F + c = F' by omega]
    unfold fdO nmO
    rw [e1, e2, e3, e4, e5, e6, e7]
    exact ⟨⟨v0, v1, x0, xe, en, sv⟩, rfl, rfl, y0, yz, zn, bz⟩
  · have f6 := f5 k k0 (by omega)
    unfold fdO at *
    rw [pr (a + 17) _ (by omega) (by omega) (by omega), pr (a + 18) _ (by omega) (by omega) (by omega), pr (a + 19) _ (by omega) (by omega) (by omega), qr (l + 13) _ (by omega) (by omega) (by omega), qr (l + 14) _ (by omega) (by omega) (by omega), qr (l + 15) _ (by omega) (by omega) (by omega), qr (l + 16) _ (by omega) (by omega) (by omega)]
    exact f6
/-- what comes of one field -/
def FQ (h1 h2 : Hp) (n : Int) (B T : Int → Int) (a l N : Int) (s : Int → List Int) (E F : Int) (g0 t0 : Hp) (x : Int) (rc : (Int × Hp) ⊕ ((Int × Int) × Hp)) (rt : (Int × Int) × Hp) : Prop :=
  (∃ y hc' ht', rc = .inl (bI (isBl (B y)), up hc' a 2 (sc B isBl y)) ∧ rt = ((0, y), ht') ∧ x < y ∧ y ≤ n ∧ SZ h1 h2 n B T a l hc' ht' ∧ FZ T n N s E F g0 t0 a l y hc' ht') ∨ ∃ r, rc = .inr r ∧ ZO h1 h2 n a l r rt
/-- the second half of a field: the value is read and all is noted -/
theorem y_fval {h1 h2 g ht : Hp} {n : Int} {B T : Int → Int} {a l x e v c : Int} {N N' : Int} {s s' : Int → List Int} {E F F' : Int} {g0 t0 : Hp} (ha : a ∈ in_aX6) (hl : l ∈ in_aX23) (S : SZ h1 h2 n B T a l g ht) (M1 : NM g (a + 2) N' s') (ub : g (a + 2) 1 ≤ e) (uN : N' ≤ e) (NN : N ≤ N') (ss : ∀ z, 0 ≤ z → z < N → s' z = s z)
    (e18 : g a 18 = F') (Fe : F' ≤ x) (fs : fsO T n N' s' g ht a l E F F') (fP : fzP a F g0 g) (fQ : fzQ l E t0 ht) (v0 : 0 ≤ v) (v1 : v < N') (sv : s' v = wr T x e) (x0 : 0 ≤ x) (xe : x < e) (en : e ≤ n) (E0 : 0 ≤ E) (E1 : E < 500) (ec : ht (l + 10) E = c) (c6 : c < 6) (c0 : 0 ≤ c) :
    Pr (pt g a 2 e fun h100 =>
  (m_X6_blanks a h100).bind fun h104 =>
  (m_X6_byteAt a (h104 a 2) h104).bind fun v112 =>
  if v112 = 61 then (pt h104 a 2 (w32 ((h104 a 2) + 1)) fun h132 =>
  (m_X6_blanks a h132).bind fun h136 =>
  bT (m_X6_string a h136) (fun v140 h140 =>
  gd (h140 (h140 a 15) (-2) % 16 = 1 ∧ (0 : Int) ≤ (h140 a 18) ∧ (h140 a 18) < h140 (h140 a 15) (-1)) (pt h140 (h140 a 15) (h140 a 18) v fun h155 =>
  gd (h155 (h155 a 16) (-2) % 16 = 1 ∧ (0 : Int) ≤ (h155 a 18) ∧ (h155 a 18) < h155 (h155 a 16) (-1)) (pt h155 (h155 a 16) (h155 a 18) (w32 ((h155 a 2) + 1)) fun h170 =>
  gd (h170 (h170 a 17) (-2) % 16 = 1 ∧ (0 : Int) ≤ (h170 a 18) ∧ (h170 a 18) < h170 (h170 a 17) (-1)) (pt h170 (h170 a 17) (h170 a 18) v140 fun h181 =>
  pt h181 a 18 (w32 ((h181 a 18) + 1)) fun h189 =>
  pt h189 a 2 (w32 ((h189 a 2) + (w32 (v140 + 2)))) fun h202 =>
  (m_X6_byteAt a (h202 a 2) h202).bind fun v210 =>
  (m_X1_isBlank v210).bind fun v213 =>
  (m_X6_blanks a h202).bind fun h218 =>
  some (Sum.inl (v213, h218)))))) (fun a_ h_ => some (Sum.inr ((1, a_), h_))))
  else (bW (m_X6_broken a h104) fun v121 h121 =>
  gd (0 < v121) (some (Sum.inr ((1, v121), h121))))) ((m_X23_skip l e ht).bind fun v95 =>
  bT (m_X23_need l v95 61 ht) (fun _ h105 =>
  (m_X23_skip l (w32 (v95 + 1)) h105).bind fun v113 =>
  bT (m_X23_stringAt l v113 h105) (fun v121 h121 =>
  gd (h121 (h121 l 14) (-2) % 16 = 1 ∧ (0 : Int) ≤ E ∧ E < h121 (h121 l 14) (-1)) (lt_ (w32 ((w32 (6 * E)) + (h121 (h121 l 14) E))) fun x7_137 =>
  gd (h121 (h121 l 17) (-2) % 16 = 1 ∧ (0 : Int) ≤ x7_137 ∧ x7_137 < h121 (h121 l 17) (-1)) (pt h121 (h121 l 17) x7_137 x fun h146 =>
  gd (h146 (h146 l 18) (-2) % 16 = 1 ∧ (0 : Int) ≤ x7_137 ∧ x7_137 < h146 (h146 l 18) (-1)) (pt h146 (h146 l 18) x7_137 e fun h154 =>
  gd (h154 (h154 l 19) (-2) % 16 = 1 ∧ (0 : Int) ≤ x7_137 ∧ x7_137 < h154 (h154 l 19) (-1)) (pt h154 (h154 l 19) x7_137 (w32 (v113 + 1)) fun h165 =>
  gd (h165 (h165 l 20) (-2) % 16 = 1 ∧ (0 : Int) ≤ x7_137 ∧ x7_137 < h165 (h165 l 20) (-1)) (pt h165 (h165 l 20) x7_137 (w32 (v121 - 1)) fun h176 =>
  gd (h176 (h176 l 14) (-2) % 16 = 1 ∧ (0 : Int) ≤ E ∧ E < h176 (h176 l 14) (-1)) (pt h176 (h176 l 14) E (w32 ((h176 (h176 l 14) E) + 1)) fun h186 =>
  some ((0, v121), h186)))))))) (fun a_ h_ => some ((1, a_), h_))) (fun a_ h_ => some ((1, a_), h_))) (FQ h1 h2 n B T a l N s E F g0 t0 x) := by
  have h6 := aX6 ha
  have h23 := aX23 hl
  have hn := S.2.2.2
  have F0 := fs.1
  have F4 := fs.2.2.2.1
  rw [ec] at F4
  refine yl_pt ?_
  have S1 := S.goL ha (hc' := up g a 2 e) (F2.refl.put (by unfold srP; omega))
  refine y_blanks ha S1 (up_s _ _ _ _) (by omega) en (fun q1 q2 S2 => ?_)
  rw [up_up] at S2 ⊢
  generalize hy : sc B isBl e = y at *
  refine y_nd ha hl S2 (up_s _ _ _ _) (up_s _ _ _ _) (by omega) q2 (fun b61 => ?_) (fun b h' b' h'' z => y_some (Or.inr ⟨_, rfl, z⟩))
  have yn : y < n := by
    rw [← S.1.2.2.2.1] at b61
    exact Bt_n (h := g) (t := a + 1) (by omega)
  rw [up_s, e32 (x := y + 1) (by omega) (by omega)]
  refine yl_pt ?_
  rw [up_up]
  have S3 := S.goL ha (hc' := up g a 2 (y + 1)) (F2.refl.put (by unfold srP; omega))
  refine y_blanks ha S3 (up_s _ _ _ _) (by omega) (by omega) (fun q3 q4 S4 => ?_)
  rw [up_up] at S4 ⊢
  generalize hz : sc B isBl (y + 1) = y2 at *
  refine y_string ha hl S4 (up_s _ _ _ _) (by omega) q4 (fun q5 q6 q7 => ?_) (fun b h' b' h'' z => y_some (Or.inr ⟨_, rfl, z⟩))
  generalize hz2 : sc B isSt (y2 + 1) = z at *
  have bz : bOK T (y2 + 1) z := hz2 ▸ S4.bok st_r (by omega)
  clear hy hz hz2 b61 S1 S2 S3
  -- the component
  have k15 := g_X6_15 S4.1.1 ha
  have r18 : up g a 2 y2 a 18 = F' := by rw [up_i (by decide)]; exact e18
  simp only [k15.1, k15.2.1, k15.2.2, r18]
  refine yl_gd ⟨by decide, by omega, by omega⟩ (yl_pt ?_)
  have S5 := S4.goL ha (hc' := up (up g a 2 y2) (a + 17) F' v) (F2.refl.put (by unfold srP; omega))
  have k16 := g_X6_16 S5.1.1 ha
  have r18b : up (up g a 2 y2) (a + 17) F' v a 18 = F' := by rw [up_a (by omega)]; exact r18
  have r2b : up (up g a 2 y2) (a + 17) F' v a 2 = y2 := by rw [up_a (by omega), up_s]
  simp only [k16.1, k16.2.1, k16.2.2, r18b, r2b]
  rw [e32 (x := y2 + 1) (by omega) (by omega)]
  refine yl_gd ⟨by decide, by omega, by omega⟩ (yl_pt ?_)
  have S6 := S5.goL ha (hc' := up (up (up g a 2 y2) (a + 17) F' v) (a + 18) F' (y2 + 1)) (F2.refl.put (by unfold srP; omega))
  have k17 := g_X6_17 S6.1.1 ha
  have r18c : up (up (up g a 2 y2) (a + 17) F' v) (a + 18) F' (y2 + 1) a 18 = F' := by rw [up_a (by omega)]; exact r18b
  simp only [k17.1, k17.2.1, k17.2.2, r18c]
  refine yl_gd ⟨by decide, by omega, by omega⟩ (yl_pt ?_)
  have r18d : up (up (up (up g a 2 y2) (a + 17) F' v) (a + 18) F' (y2 + 1)) (a + 19) F' (z - y2 - 1) a 18 = F' := by rw [up_a (by omega)]; exact r18c
  rw [r18d, e32 (x := F' + 1) (by omega) (by omega)]
  refine yl_pt ?_
  have r2e : up (up (up (up (up g a 2 y2) (a + 17) F' v) (a + 18) F' (y2 + 1)) (a + 19) F' (z - y2 - 1)) a 18 (F' + 1) a 2 = y2 := by rw [up_j (by decide), up_a (by omega), up_a (by omega)]; exact r2b
  rw [r2e, e32 (x := z - y2 - 1 + 2) (by omega) (by omega), e32 (x := y2 + (z - y2 - 1 + 2)) (by omega) (by omega), show y2 + (z - y2 - 1 + 2) = z + 1 by omega]
  refine yl_pt ?_
  have S7 := S6.goL ha (hc' := up (up (up (up (up (up g a 2 y2) (a + 17) F' v) (a + 18) F' (y2 + 1)) (a + 19) F' (z - y2 - 1)) a 18 (F' + 1)) a 2 (z + 1)) (((F2.refl.put (by unfold srP; omega)).put (by unfold srP; omega)).put (by unfold srP; omega))
  generalize hG : up (up (up (up (up (up g a 2 y2) (a + 17) F' v) (a + 18) F' (y2 + 1)) (a + 19) F' (z - y2 - 1)) a 18 (F' + 1)) a 2 (z + 1) = G at *
  have G2 : G a 2 = z + 1 := by rw [← hG, up_s]
  rw [G2, q_X6_byteAt S7.1.2.2.1 (by omega), Option.bind_some, S7.1.2.2.2.1, q_X1_isBlank, Option.bind_some, z_X6_blanks S7.1.2.2.1 (by omega) (by omega) G2, Option.bind_some, S7.1.2.2.2.1]
  -- the reference
  have kt := g_X23_14 S.2.1.1 hl
  have t17 := g_X23_17 S.2.1.1 hl
  simp only [kt.1, kt.2.1, kt.2.2, t17.1, t17.2.1, t17.2.2, ec]
  rw [e32 (x := 6 * E) (by omega) (by omega), e32 (x := 6 * E + c) (by omega) (by omega), e32 (x := z + 1 - 1) (by omega) (by omega), show z + 1 - 1 = z by omega]
  refine yr_gd ⟨by decide, E0, by omega⟩ (yr_lt (yr_gd ⟨by decide, by omega, by omega⟩ (yr_pt ?_)))
  have U1 := S.goR hl (ht' := up ht (l + 13) (6 * E + c) x) (F2.refl.put (by unfold srQ; omega))
  have t18 := g_X23_18 U1.2.1.1 hl
  simp only [t18.1, t18.2.1, t18.2.2]
  refine yr_gd ⟨by decide, by omega, by omega⟩ (yr_pt ?_)
  have U2 := U1.goR hl (ht' := up (up ht (l + 13) (6 * E + c) x) (l + 14) (6 * E + c) e) (F2.refl.put (by unfold srQ; omega))
  have t19 := g_X23_19 U2.2.1.1 hl
  simp only [t19.1, t19.2.1, t19.2.2]
  refine yr_gd ⟨by decide, by omega, by omega⟩ (yr_pt ?_)
  have U3 := U2.goR hl (ht' := up (up (up ht (l + 13) (6 * E + c) x) (l + 14) (6 * E + c) e) (l + 15) (6 * E + c) (y2 + 1)) (F2.refl.put (by unfold srQ; omega))
  have t20 := g_X23_20 U3.2.1.1 hl
  simp only [t20.1, t20.2.1, t20.2.2]
  refine yr_gd ⟨by decide, by omega, by omega⟩ (yr_pt ?_)
  have U4 := U3.goR hl (ht' := up (up (up (up ht (l + 13) (6 * E + c) x) (l + 14) (6 * E + c) e) (l + 15) (6 * E + c) (y2 + 1)) (l + 16) (6 * E + c) z) (F2.refl.put (by unfold srQ; omega))
  have t14 := g_X23_14 U4.2.1.1 hl
  simp only [t14.1, t14.2.1, t14.2.2]
  refine yr_gd ⟨by decide, E0, by omega⟩ ?_
  have r10 : up (up (up (up ht (l + 13) (6 * E + c) x) (l + 14) (6 * E + c) e) (l + 15) (6 * E + c) (y2 + 1)) (l + 16) (6 * E + c) z (l + 10) E = c := by
    rw [up_a (by omega), up_a (by omega), up_a (by omega), up_a (by omega)]; exact ec
  rw [r10, e32 (x := c + 1) (by omega) (by omega)]
  refine yr_pt (y_some (Or.inl ⟨z + 1, G, _, rfl, rfl, by omega, by omega, ?_, ?_⟩))
  · exact S7.goR hl (by
      repeat' first
        | exact F2.refl
        | refine F2.put ?_ (by unfold srQ; omega))
  · clear S4 S5 S6 S7 U1 U2 U3 U4 kt t17 t18 t19 t20 t14 k15 k16 k17 r18 r18b r18c r18d r2b r2e
    refine ⟨N', s', F' + 1, ⟨M1.kept (fun b b0 b1 => ?_), ?_, by omega, NN, ss⟩, ⟨?_, by omega, ?_⟩, fun b j b0 b1 nb => ?_, fun b j b0 b1 nb => ?_⟩
    · rw [← hG]; rw [up_row (by omega), up_row (by omega), up_row (by omega), up_row (by omega), up_row (by omega), up_row (by omega)]
    · rw [← hG]; rw [up_a (by omega), up_a (by omega), up_a (by omega), up_a (by omega), up_a (by omega), up_a (by omega)]; omega
    · rw [← hG]; rw [up_j (by decide), up_s]
    · refine fs.more ec c6 v0 v1 sv x0 (by omega) en (show 0 ≤ y2 + 1 by omega) (show y2 + 1 ≤ z by omega) (by omega) bz (fun b j b0 b1 hj => ?_) (fun b j b0 b1 hj => ?_) ?_ ?_ ?_ ?_ ?_ ?_ ?_ ?_
      · rw [← hG]; (repeat rw [up_ne (by omega)])
      · (repeat rw [up_ne (by omega)])
      · rw [← hG]; (try simp (disch := omega) only [up_a, up_e, up_j, e32, e8])
      · rw [← hG]; (try simp (disch := omega) only [up_a, up_e, up_j, e32, e8])
      · rw [← hG]; (try simp (disch := omega) only [up_a, up_e, up_j, e32, e8]); omega
      · (try simp (disch := omega) only [up_a, up_e, up_j, e32, e8])
      · (try simp (disch := omega) only [up_a, up_e, up_j, e32, e8])
      · (try simp (disch := omega) only [up_a, up_e, up_j, e32, e8])
      · (try simp (disch := omega) only [up_a, up_e, up_j, e32, e8])
      · (try simp (disch := omega) only [up_a, up_e, up_j, e32, e8])
    · rw [← hG]; rw [up_ne (by omega), up_ne (by omega), up_ne (by omega), up_ne (by omega), up_ne (by omega), up_ne (by omega)]; exact fP b j b0 b1 nb
    · rw [up_ne (by omega), up_ne (by omega), up_ne (by omega), up_ne (by omega), up_ne (by omega)]; exact fQ b j b0 b1 nb
