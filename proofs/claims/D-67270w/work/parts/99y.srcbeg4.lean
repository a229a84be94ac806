set_option maxRecDepth 100000
/-! SOURCES: a tag that begins an element, side by side -/
theorem q_close6 {h : Hp} {a o j D M : Int} (hL : LAY h) (ha : a ∈ in_aX6) (o0 : 0 ≤ o) (o1 : o < 500) (ec : h a 2 = j) (d1 : h a 29 = D) (D0 : 0 ≤ D) (D1 : D ≤ 21) (eM : h a 24 = M) (m0 : 0 ≤ M) (m1 : M < 16000) : m_X6_close a o h = some (up (up (up (up (up (up h (a + 10) o j) a 29 (D - 1)) (a + 20) M 1) (a + 21) M o) (a + 22) M 0) a 24 (M + 1)) := by
  have h6 := aX6 ha
  have k8 := g_X6_8 hL ha
  have L1 : LAY (up (up h (a + 10) o j) a 29 (D - 1)) := srP_l hL ha ((F2.refl.put (by unfold srP; omega)).put (by unfold srP; omega))
  unfold m_X6_close gd pt
  simp only [k8.1, k8.2.1, k8.2.2, ec]
  rw [if_pos ⟨by decide, o0, by omega⟩, up_a (show a ≠ a + 10 by omega), d1, e32 (x := D - 1) (by omega) (by omega), q_event6 L1 ha (by rw [up_i (by decide), up_a (by omega)]; exact eM) m0 (by omega), Option.bind_some]
theorem q_ended23 {h : Hp} {l o j M : Int} (hL : LAY h) (hl : l ∈ in_aX23) (o0 : 0 ≤ o) (o1 : o < 500) (et : h l 25 = j) (fM : h l 2 = M) (m0 : 0 ≤ M) (m1 : M < 16000) : m_X23_ended l o h = some (up (up (up (up (up (up h (l + 6) o j) (l + 12) o M) (l + 2) M 2) (l + 3) M o) (l + 4) M 0) l 2 (M + 1)) := by
  have h23 := aX23 hl
  have k10 := g_X23_10 hL hl
  have L1 : LAY (up h (l + 6) o j) := srQ_l hL hl (F2.refl.put (by unfold srQ; omega))
  have k16 := g_X23_16 L1 hl
  have L2 : LAY (up (up h (l + 6) o j) (l + 12) o M) := srQ_l L1 hl (F2.refl.put (by unfold srQ; omega))
  unfold m_X23_ended gd pt
  simp only [k10.1, k10.2.1, k10.2.2, et]
  rw [if_pos ⟨by decide, o0, by omega⟩]
  simp only [k16.1, k16.2.1, k16.2.2, up_a (show l ≠ l + 6 by omega), fM]
  rw [if_pos ⟨by decide, o0, by omega⟩, q_add23 L2 hl (by rw [up_a (by omega), up_a (by omega)]; exact fM) m0 (by omega), Option.bind_some]
theorem q_open23 {α : Type} {h : Hp} {l E M j : Int} {K : Hp → Option α} (hL : LAY h) (hl : l ∈ in_aX23) (E0 : 0 ≤ E) (E1 : E < 500) (e3 : h l 3 = E) (fM : h l 2 = M) (m0 : 0 ≤ M) (m1 : M < 16000) (j0 : 0 ≤ j) (j1 : j ≤ 5000) : (pt h l 3 (w32 ((h l 3) + 1)) fun h188 =>
  gd (h188 (h188 l 15) (-2) % 16 = 1 ∧ (0 : Int) ≤ E ∧ E < h188 (h188 l 15) (-1)) (pt h188 (h188 l 15) E (h188 l 2) fun h200 =>
  (m_X23_add l 1 E 0 h200).bind fun h205 =>
  pt h205 l 25 (w32 (j + 1)) fun h213 => K h213)) = K (up (up (up (up (up (up (up h l 3 (E + 1)) (l + 11) E M) (l + 2) M 1) (l + 3) M E) (l + 4) M 0) l 2 (M + 1)) l 25 (j + 1)) := by
  have h23 := aX23 hl
  have L1 : LAY (up h l 3 (E + 1)) := srQ_l hL hl (F2.refl.put (by unfold srQ; omega))
  have k15 := g_X23_15 L1 hl
  have L2 : LAY (up (up h l 3 (E + 1)) (l + 11) E M) := srQ_l L1 hl (F2.refl.put (by unfold srQ; omega))
  rw [e3, e32 (x := E + 1) (by omega) (by omega), e32 (x := j + 1) (by omega) (by omega), pt_e]
  simp only [k15.1, k15.2.1, k15.2.2, up_i (show (2 : Int) ≠ 3 by decide), fM]
  rw [gd_t ⟨by decide, E0, by omega⟩, pt_e, q_add23 L2 hl (by rw [up_a (by omega), up_i (by decide)]; exact fM) m0 (by omega), Option.bind_some, pt_e]
theorem oq_z {h : Hp} {l E M D j : Int} (d27 : h l 27 = D) : oqZ l E M D h (up (up (up (up (up (up (up (up (up h l 3 (E + 1)) (l + 11) E M) (l + 2) M 1) (l + 3) M E) (l + 4) M 0) l 2 (M + 1)) l 25 (j + 1)) l 26 E) l 27 (D + 1)) := by
  refine ⟨fun b z b0 b1 nb => ?_, ?_, ?_, ?_, ?_, ?_, ?_, ?_⟩
  · rw [up_ne (by omega), up_ne (by omega), up_ne (by omega), up_ne (by omega), up_ne (by omega), up_ne (by omega), up_ne (by omega), up_ne (by omega), up_ne (by omega)]
  · (try simp (disch := omega) only [up_a, up_e, up_j, e32, e8])
  · (try simp (disch := omega) only [up_a, up_e, up_j, e32, e8])
  · (try simp (disch := omega) only [up_a, up_e, up_j, e32, e8])
  · (try simp (disch := omega) only [up_a, up_e, up_j, e32, e8])
  · (try simp (disch := omega) only [up_a, up_e, up_j, e32, e8])
  · (try simp (disch := omega) only [up_a, up_e, up_j, e32, e8])
  · (try simp (disch := omega) only [up_a, up_e, up_j, e32, e8])
/-- no text ends at j -/
theorem edge_no {T : Int → Int} {n N : Int} {s : Int → List Int} {E F M D i : Int} {p q : Hp} {a l j : Int} (R : RS T n N s E F M D i p q a l) (ij : i < j) {q' : Hp} {M' : Int} {P : Prop} (h : ∀ m, M ≤ m → m < M' → q' (l + 2) m ≠ 0) (hq : ∀ m, m < M → q' (l + 2) m = q (l + 2) m ∧ q' (l + 4) m = q (l + 4) m) : ∀ m, 0 ≤ m → m < M' → q' (l + 2) m = 0 → q' (l + 4) m = j → P := by
  intro m m0 m1 k0 k1
  exfalso
  by_cases hm : m < M
  · rw [(hq m hm).1] at k0
    rw [(hq m hm).2] at k1
    have := R.2.2.1.2.2.2.2.2.1 m m0 hm k0
    omega
  · exact h m (by omega) m1 k0
theorem y_bgend {h1 h2 : Hp} {n : Int} {B T : Int → Int} {a l i o x e v y : Int} {N N1 : Int} {s s1 : Int → List Int} {E F M D : Int} {p q g G t hc' ht' : Hp} (ha : a ∈ in_aX6) (hl : l ∈ in_aX23) (S : SZ h1 h2 n B T a l hc' ht') (R : RS T n N s E F M D i p q a l) (i0 : 0 ≤ i) (i1 : i < n) (iy : i < y) (yn : y ≤ n) (E1 : E < 500) (D1 : D < 20) (ho : q l 26 = o)
    (gn : F2 (nmW (a + 2)) p g) (og : ogP a E F M D o i v e g G) (oq : ogQ l E o i x e q t) (fz : FZ T n N1 s1 E F G t a l y hc' ht') (NN : N ≤ N1) (ss : ∀ z, 0 ≤ z → z < N → s1 z = s z) (kn : nmO N1 s1 T n v x e) (ec : hc' a 2 = y) :
    Pr (bgK a E hc') ((m_X23_byteAt l y ht').bind fun v143 => if v143 ≠ 47 then m_X23_begin_j156 l E y 0 ht' else m_X23_begin_j156 l E y 1 ht') (ZP h1 h2 n B T a l i) := by
  have h6 := aX6 ha
  have h23 := aX23 hl
  have hn := S.2.2.2
  have E0 : 0 ≤ E := R.2.1.2.2.1
  have M0 : 0 ≤ M := R.2.2.1.2.2.1
  have M1 : M ≤ i := R.2.2.1.2.2.2.1
  have D0 : 0 ≤ D := R.2.2.2.1.2.2.1
  have tq : ∀ z, ht' l z = q l z := fun z => by
    obtain ⟨N', s', F', -, -, -, fQ⟩ := id fz
    rw [fQ l z (by omega) (by omega) (by omega), oq.1 l z (by omega) (by omega) (by omega)]
  have t3 : ht' l 3 = E := (tq 3).trans R.2.1.2.1
  have t2 : ht' l 2 = M := (tq 2).trans R.2.2.1.2.1
  have t26 : ht' l 26 = o := (tq 26).trans ho
  have t27 : ht' l 27 = D := (tq 27).trans R.2.2.2.1.2.1
  have cG : hc' a 24 = M + 1 ∧ hc' a 29 = D + 1 := by
    obtain ⟨N', s', F', -, -, fP, -⟩ := id fz
    rw [fP a 24 (by omega) (by omega) (by omega), fP a 29 (by omega) (by omega) (by omega)]
    exact ⟨og.2.1.2.2.2.2.2.2.2.2.2.1, og.2.1.2.2.2.2.2.2.2.2.2.2.1⟩
  have hqq : ∀ m, m < M → ht' (l + 2) m = q (l + 2) m ∧ ht' (l + 4) m = q (l + 4) m := fun m hm => by
    obtain ⟨N', s', F', -, -, -, fQ⟩ := id fz
    rw [fQ (l + 2) m (by omega) (by omega) (by omega), oq.1 (l + 2) m (by omega) (by omega) (by omega), fQ (l + 4) m (by omega) (by omega) (by omega), oq.1 (l + 4) m (by omega) (by omega) (by omega)]
    exact ⟨rfl, rfl⟩
  have OP := fun (j : Int) (yj : y ≤ j) (p' q' : Hp) (pp : ∀ b z, ¬ (b = a ∧ z = 2) → p' b z = hc' b z) (oz : oqZ l E M D ht' q') => og_opened (p' := p') (q' := q') R i0 i1 iy yj E1 D1 ho gn og oq fz NN ss kn pp oz
  have o5 : ht' (l + 5) E = i ∧ ht' (l + 7) E = o := by
    obtain ⟨N', s', F', -, -, -, fQ⟩ := id fz
    rw [fQ (l + 5) E (by omega) (by omega) (by omega), fQ (l + 7) E (by omega) (by omega) (by omega)]
    exact ⟨oq.2.1, oq.2.2.1⟩
  clear fz og oq gn kn ss tq
  unfold bgK
  rw [ec, q_X6_byteAt S.1.2.2.1 (by omega), Option.bind_some, q_X23_byteAt S.2.1.2.2.1 (by omega), Option.bind_some, S.1.2.2.2.1, S.2.1.2.2.2.1]
  by_cases h47 : B y = 47
  · -- an element without inside
    refine yl_ie (fun z => z h47) (yr_ie (fun z => z h47) (yl_pt ?_))
    have y1 : y < n := by
      rw [← S.1.2.2.2.1] at h47
      exact Bt_n (h := hc') (t := a + 1) (by omega)
    unfold m_X23_begin_j156
    rw [e32 (x := y + 1) (by omega) (by omega)]
    refine yr_ie (by decide) ?_
    have S1 := S.goL ha (hc' := up hc' a 2 (y + 1)) (F2.refl.put (by unfold srP; omega))
    refine y_blanks ha S1 (up_s _ _ _ _) (by omega) (by omega) (fun q1 q2 S2 => ?_)
    rw [up_up] at S2 ⊢
    generalize hz : sc B isBl (y + 1) = z at *
    unfold m_X23_begin_j173
    refine y_nd ha hl S2 (up_s _ _ _ _) (up_s _ _ _ _) (by omega) q2 (fun b62 => ?_) (fun b h' b' h'' z => y_some (Or.inr z))
    have zn : z < n := by
      rw [← S.1.2.2.2.1] at b62
      exact Bt_n (h := hc') (t := a + 1) (by omega)
    rw [q_open23 S2.2.1.1 hl E0 E1 t3 t2 M0 (by omega) (by omega) (by omega), up_s, e32 (x := z + 1) (by omega) (by omega)]
    refine yl_pt ?_
    rw [up_up]
    refine yr_ie (by decide) ?_
    have S3 := (S.goL ha (hc' := up hc' a 2 (z + 1)) (F2.refl.put (by unfold srP; omega))).goR hl (ht' := up (up (up (up (up (up (up ht' l 3 (E + 1)) (l + 11) E M) (l + 2) M 1) (l + 3) M E) (l + 4) M 0) l 2 (M + 1)) l 25 (z + 1)) (by
      repeat' first
        | exact F2.refl
        | refine F2.put ?_ (by unfold srQ; omega))
    obtain ⟨N', s', F', R'⟩ := OP z (by omega) (up hc' a 2 (z + 1)) _ (fun b w nb => up_ne nb) (oq_z (E := E) (M := M) (j := z) t27)
    have hq2 : ∀ m, m < M → up (up (up (up (up (up (up ht' l 3 (E + 1)) (l + 11) E M) (l + 2) M 1) (l + 3) M E) (l + 4) M 0) l 2 (M + 1)) l 25 (z + 1) (l + 2) m = q (l + 2) m ∧ up (up (up (up (up (up (up ht' l 3 (E + 1)) (l + 11) E M) (l + 2) M 1) (l + 3) M E) (l + 4) M 0) l 2 (M + 1)) l 25 (z + 1) (l + 4) m = q (l + 4) m := fun m hm => by
      have := hqq m hm
      rw [← this.1, ← this.2]
      constructor
      · rw [up_ne (by omega), up_ne (by omega), up_ne (by omega), up_ne (by omega), up_ne (by omega), up_ne (by omega), up_ne (by omega)]
      · rw [up_ne (by omega), up_ne (by omega), up_ne (by omega), up_ne (by omega), up_ne (by omega), up_ne (by omega), up_ne (by omega)]
    have w2 : up (up (up (up (up (up (up ht' l 3 (E + 1)) (l + 11) E M) (l + 2) M 1) (l + 3) M E) (l + 4) M 0) l 2 (M + 1)) l 25 (z + 1) (l + 2) M = 1 := by (try simp (disch := omega) only [up_a, up_e, up_j, e32, e8])
    have w5 : up (up (up (up (up (up (up ht' l 3 (E + 1)) (l + 11) E M) (l + 2) M 1) (l + 3) M E) (l + 4) M 0) l 2 (M + 1)) l 25 (z + 1) (l + 5) E = i := by (try simp (disch := omega) only [up_a, up_e, up_j, e32, e8]); exact o5.1
    have w7 : up (up (up (up (up (up (up ht' l 3 (E + 1)) (l + 11) E M) (l + 2) M 1) (l + 3) M E) (l + 4) M 0) l 2 (M + 1)) l 25 (z + 1) (l + 7) E = o := by (try simp (disch := omega) only [up_a, up_e, up_j, e32, e8]); exact o5.2
    have x25 : up (up (up (up (up (up (up ht' l 3 (E + 1)) (l + 11) E M) (l + 2) M 1) (l + 3) M E) (l + 4) M 0) l 2 (M + 1)) l 25 (z + 1) l 25 = z + 1 := up_s _ _ _ _
    have x2 : up (up (up (up (up (up (up ht' l 3 (E + 1)) (l + 11) E M) (l + 2) M 1) (l + 3) M E) (l + 4) M 0) l 2 (M + 1)) l 25 (z + 1) l 2 = M + 1 := by (try simp (disch := omega) only [up_a, up_e, up_j, e32, e8])
    have x26 : up (up (up (up (up (up (up ht' l 3 (E + 1)) (l + 11) E M) (l + 2) M 1) (l + 3) M E) (l + 4) M 0) l 2 (M + 1)) l 25 (z + 1) l 26 = o := by (try simp (disch := omega) only [up_a, up_e, up_j, e32, e8]); exact t26
    have x27 : up (up (up (up (up (up (up ht' l 3 (E + 1)) (l + 11) E M) (l + 2) M 1) (l + 3) M E) (l + 4) M 0) l 2 (M + 1)) l 25 (z + 1) l 27 = D := by (try simp (disch := omega) only [up_a, up_e, up_j, e32, e8]); exact t27
    generalize up (up (up (up (up (up (up ht' l 3 (E + 1)) (l + 11) E M) (l + 2) M 1) (l + 3) M E) (l + 4) M 0) l 2 (M + 1)) l 25 (z + 1) = k at *
    have p29 : up hc' a 2 (z + 1) a 29 = D + 1 := by rw [up_i (by decide)]; exact cG.2
    have p24 : up hc' a 2 (z + 1) a 24 = M + 1 := by rw [up_i (by decide)]; exact cG.1
    have p2 : up hc' a 2 (z + 1) a 2 = z + 1 := up_s _ _ _ _
    generalize up hc' a 2 (z + 1) = c at *
    rw [q_close6 S3.1.1 ha E0 E1 p2 p29 (by omega) (by omega) p24 (by omega) (by omega), Option.bind_some, q_ended23 S3.2.1.1 hl E0 E1 x25 x2 (by omega) (by omega), Option.bind_some, show D + 1 - 1 = D by omega, show M + 1 + 1 = M + 2 by omega]
    refine y_some (Or.inl ⟨rfl, rfl, z + 1, by omega, ?_⟩)
    show ZI h1 h2 n B T a l (z + 1) (up (up (up (up (up (up c (a + 10) E (z + 1)) a 29 D) (a + 20) (M + 1) 1) (a + 21) (M + 1) E) (a + 22) (M + 1) 0) a 24 (M + 2)) (up (up (up (up (up (up k (l + 6) E (z + 1)) (l + 12) E (M + 1)) (l + 2) (M + 1) 2) (l + 3) (M + 1) E) (l + 4) (M + 1) 0) l 2 (M + 2))
    have S4 := (S3.goL ha (hc' := up (up (up (up (up (up c (a + 10) E (z + 1)) a 29 D) (a + 20) (M + 1) 1) (a + 21) (M + 1) E) (a + 22) (M + 1) 0) a 24 (M + 2)) (by
      repeat' first
        | exact F2.refl
        | refine F2.put ?_ (by unfold srP; omega))).goR hl (ht' := up (up (up (up (up (up k (l + 6) E (z + 1)) (l + 12) E (M + 1)) (l + 2) (M + 1) 2) (l + 3) (M + 1) E) (l + 4) (M + 1) 0) l 2 (M + 2)) (by
      repeat' first
        | exact F2.refl
        | refine F2.put ?_ (by unfold srQ; omega))
    have RR := R'.close (j := z + 1) (o := E) (p' := up (up (up (up (up (up c (a + 10) E (z + 1)) a 29 D) (a + 20) (M + 1) 1) (a + 21) (M + 1) E) (a + 22) (M + 1) 0) a 24 (M + 2)) (q' := up (up (up (up (up (up k (l + 6) E (z + 1)) (l + 12) E (M + 1)) (l + 2) (M + 1) 2) (l + 3) (M + 1) E) (l + 4) (M + 1) 0) l 2 (M + 2)) (by omega) (by omega) (by omega) (by rw [up_j (by decide), up_s]) (fun b w b0 b1 nb => by (repeat rw [up_ne (by omega)])) (fun b w b0 b1 b2 nb => by rw [up_ne (by omega), up_ne (by omega), up_ne (by omega), up_ne (by omega), up_ne (by omega), up_ne (by omega), up_ne (by omega), up_ne (by omega)]) (by (try simp (disch := omega) only [up_a, up_e, up_j, e32, e8]); omega) (by (try simp (disch := omega) only [up_a, up_e, up_j, e32, e8]); omega) (by (try simp (disch := omega) only [up_a, up_e, up_j, e32, e8]); omega) (by (try simp (disch := omega) only [up_a, up_e, up_j, e32, e8]); omega) (by (try simp (disch := omega) only [up_a, up_e, up_j, e32, e8]); omega) (by (try simp (disch := omega) only [up_a, up_e, up_j, e32, e8]) <;> omega) (by (try simp (disch := omega) only [up_a, up_e, up_j, e32, e8]) <;> omega) (by (try simp (disch := omega) only [up_a, up_e, up_j, e32, e8]) <;> omega) (by (try simp (disch := omega) only [up_a, up_e, up_j, e32, e8]) <;> omega) (by (try simp (disch := omega) only [up_a, up_e, up_j, e32, e8]) <;> omega) (by (try simp (disch := omega) only [up_a, up_e, up_j, e32, e8]) <;> omega) (by (try simp (disch := omega) only [up_a, up_e, up_j, e32, e8]) <;> omega) (by (try simp (disch := omega) only [up_a, up_e, up_j, e32, e8]); omega)
    refine ⟨S4, ?_, ?_, by omega, by omega, N', s', E + 1, F', M + 1 + 1, D + 1 - 1, RR, ?_⟩
    · (try simp (disch := omega) only [up_a, up_e, up_j, e32, e8]); exact p2
    · (try simp (disch := omega) only [up_a, up_e, up_j, e32, e8]); exact x25
    · refine edge_no R (by omega) (fun m m0 m1 => ?_) (fun m hm => ?_)
      · by_cases hm : m = M
        · rw [hm]; (try simp (disch := omega) only [up_a, up_e, up_j, e32, e8]); rw [w2]; decide
        · have : m = M + 1 := by omega
          rw [this]; (try simp (disch := omega) only [up_a, up_e, up_j, e32, e8]); decide
      · rw [up_ne (by omega), up_ne (by omega), up_ne (by omega), up_ne (by omega), up_ne (by omega), up_ne (by omega), up_ne (by omega), up_ne (by omega), up_ne (by omega), up_ne (by omega), up_ne (by omega), up_ne (by omega)]
        exact hq2 m hm
  · refine yl_it h47 (yr_it h47 ?_)
    unfold m_X23_begin_j156
    refine yr_it rfl ?_
    unfold m_X23_begin_j173
    have byl := q_X6_byteAt S.1.2.2.1 (i := y) (by omega)
    rw [S.1.2.2.2.1] at byl
    show Pr ((some (B y)).bind fun v330 => if v330 = 62 then (pt hc' a 2 (w32 (y + 1)) fun h350 => some ((0, 0), h350)) else (bW (m_X6_broken a hc') fun v339 h339 => gd (0 < v339) (some ((1, v339), h339)))) _ _
    rw [← byl]
    refine y_nd ha hl S ec rfl (by omega) yn (fun b62 => ?_) (fun b h' b' h'' z => y_some (Or.inr z))
    have y1 : y < n := by
      rw [← S.1.2.2.2.1] at b62
      exact Bt_n (h := hc') (t := a + 1) (by omega)
    rw [q_open23 S.2.1.1 hl E0 E1 t3 t2 M0 (by omega) (by omega) (by omega), e32 (x := y + 1) (by omega) (by omega)]
    refine yl_pt (yr_it rfl (yr_pt ?_))
    have x27 : up (up (up (up (up (up (up (up ht' l 3 (E + 1)) (l + 11) E M) (l + 2) M 1) (l + 3) M E) (l + 4) M 0) l 2 (M + 1)) l 25 (y + 1)) l 26 E l 27 = D := by (try simp (disch := omega) only [up_a, up_e, up_j, e32, e8]); exact t27
    rw [x27, e32 (x := D + 1) (by omega) (by omega)]
    refine yr_pt (y_some (Or.inl ⟨rfl, rfl, y + 1, by omega, ?_⟩))
    obtain ⟨N', s', F', R'⟩ := OP (y + 1) (by omega) (up hc' a 2 (y + 1)) _ (fun b w nb => up_ne nb) (oq_z (E := E) (M := M) (j := y) t27)
    show ZI h1 h2 n B T a l (y + 1) (up hc' a 2 (y + 1)) (up (up (up (up (up (up (up (up (up ht' l 3 (E + 1)) (l + 11) E M) (l + 2) M 1) (l + 3) M E) (l + 4) M 0) l 2 (M + 1)) l 25 (y + 1)) l 26 E) l 27 (D + 1))
    refine ⟨?_, up_s _ _ _ _, ?_, by omega, by omega, N', s', E + 1, F', M + 1, D + 1, R', ?_⟩
    · exact (S.goL ha (hc' := up hc' a 2 (y + 1)) (F2.refl.put (by unfold srP; omega))).goR hl (by
        repeat' first
          | exact F2.refl
          | refine F2.put ?_ (by unfold srQ; omega))
    · (try simp (disch := omega) only [up_a, up_e, up_j, e32, e8])
    · refine edge_no R (by omega) (fun m m0 m1 => ?_) (fun m hm => ?_)
      · have : m = M := by omega
        rw [this]; (try simp (disch := omega) only [up_a, up_e, up_j, e32, e8]); decide
      · have := hqq m hm
        rw [← this.1, ← this.2]
        constructor
        · rw [up_ne (by omega), up_ne (by omega), up_ne (by omega), up_ne (by omega), up_ne (by omega), up_ne (by omega), up_ne (by omega), up_ne (by omega), up_ne (by omega)]
        · rw [up_ne (by omega), up_ne (by omega), up_ne (by omega), up_ne (by omega), up_ne (by omega), up_ne (by omega), up_ne (by omega), up_ne (by omega), up_ne (by omega)]
