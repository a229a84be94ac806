set_option maxRecDepth 100000
/-! SOURCES: a tag that begins an element, all of it -/
/-- the reference's five notes -/
theorem q_pre23 {α : Type} {h : Hp} {l E x e i o : Int} {K : Hp → Option α} (hL : LAY h) (hl : l ∈ in_aX23) (E0 : 0 ≤ E) (E1 : E < 500) (e25 : h l 25 = i) (e26 : h l 26 = o) :
    ∃ t, (gd (h (h l 9) (-2) % 16 = 1 ∧ (0 : Int) ≤ E ∧ E < h (h l 9) (-1)) (pt h (h l 9) E (h l 25) fun h48 =>
  gd (h48 (h48 l 11) (-2) % 16 = 1 ∧ (0 : Int) ≤ E ∧ E < h48 (h48 l 11) (-1)) (pt h48 (h48 l 11) E (h48 l 26) fun h58 =>
  gd (h58 (h58 l 12) (-2) % 16 = 1 ∧ (0 : Int) ≤ E ∧ E < h58 (h58 l 12) (-1)) (pt h58 (h58 l 12) E x fun h65 =>
  gd (h65 (h65 l 13) (-2) % 16 = 1 ∧ (0 : Int) ≤ E ∧ E < h65 (h65 l 13) (-1)) (pt h65 (h65 l 13) E e fun h72 =>
  gd (h72 (h72 l 14) (-2) % 16 = 1 ∧ (0 : Int) ≤ E ∧ E < h72 (h72 l 14) (-1)) (pt h72 (h72 l 14) E 0 fun h79 => K h79)))))) = K t ∧ ogQ l E o i x e h t ∧ t (l + 10) E = 0 ∧ F2 (srQ l) h t := by
  have h23 := aX23 hl
  have k9 := g_X23_9 hL hl
  have L1 : LAY (up h (l + 5) E i) := srQ_l hL hl (F2.refl.put (by unfold srQ; omega))
  have k11 := g_X23_11 L1 hl
  have L2 : LAY (up (up h (l + 5) E i) (l + 7) E o) := srQ_l L1 hl (F2.refl.put (by unfold srQ; omega))
  have k12 := g_X23_12 L2 hl
  have L3 : LAY (up (up (up h (l + 5) E i) (l + 7) E o) (l + 8) E x) := srQ_l L2 hl (F2.refl.put (by unfold srQ; omega))
  have k13 := g_X23_13 L3 hl
  have L4 : LAY (up (up (up (up h (l + 5) E i) (l + 7) E o) (l + 8) E x) (l + 9) E e) := srQ_l L3 hl (F2.refl.put (by unfold srQ; omega))
  have k14 := g_X23_14 L4 hl
  have y26 : up h (l + 5) E i l 26 = o := by rw [up_a (by omega)]; exact e26
  simp only [k9.1, k9.2.1, k9.2.2, e25]
  rw [gd_t ⟨by decide, E0, by omega⟩, pt_e]
  simp only [k11.1, k11.2.1, k11.2.2, y26]
  rw [gd_t ⟨by decide, E0, by omega⟩, pt_e]
  simp only [k12.1, k12.2.1, k12.2.2]
  rw [gd_t ⟨by decide, E0, by omega⟩, pt_e]
  simp only [k13.1, k13.2.1, k13.2.2]
  rw [gd_t ⟨by decide, E0, by omega⟩, pt_e]
  simp only [k14.1, k14.2.1, k14.2.2]
  rw [gd_t ⟨by decide, E0, by omega⟩, pt_e]
  refine ⟨_, rfl, ⟨fun b z b0 b1 nb => ?_, ?_, ?_, ?_, ?_⟩, up_s _ _ _ _, ?_⟩
  · rw [up_ne (by omega), up_ne (by omega), up_ne (by omega), up_ne (by omega), up_ne (by omega)]
  · (try simp (disch := omega) only [up_a, up_e, up_j, e32, e8])
  · (try simp (disch := omega) only [up_a, up_e, up_j, e32, e8])
  · (try simp (disch := omega) only [up_a, up_e, up_j, e32, e8])
  · (try simp (disch := omega) only [up_a, up_e, up_j, e32, e8])
  · repeat' first
      | exact F2.refl
      | refine F2.put ?_ (by unfold srQ; omega)
theorem y_begin {h1 h2 hc ht : Hp} {n : Int} {B T : Int → Int} {a l i : Int} {N : Int} {s : Int → List Int} {E F M D : Int} (ha : a ∈ in_aX6) (hl : l ∈ in_aX23) (S : SZ h1 h2 n B T a l hc ht) (R : RS T n N s E F M D i hc ht a l) (ec : hc a 2 = i + 1) (et : ht l 25 = i) (i0 : 0 ≤ i) (i1 : i < n) :
    Pr (m_X6_begin a i hc) (m_X23_begin l (i + 1) ht) (ZP h1 h2 n B T a l i) := by
  have h6 := aX6 ha
  have h23 := aX23 hl
  have hn := S.2.2.2
  have rE := R.2.1
  have rV := R.2.2.1
  have rS := R.2.2.2.1
  have E0 : 0 ≤ E := rE.2.2.1
  have E5 : E ≤ 500 := rE.2.2.2.1
  have M0 : 0 ≤ M := rV.2.2.1
  have M1 : M ≤ i := rV.2.2.2.1
  have D0 : 0 ≤ D := rS.2.2.1
  have D5 : D ≤ 20 := rS.2.2.2.1
  have Fi : F ≤ i := rE.2.2.2.2.2.2.1.1
  unfold m_X6_begin m_X23_begin
  refine y_name ha hl S ec (by omega) (by omega) (fun nm lt en => ?_) (fun b h' b' h'' z => y_some (Or.inr z))
  generalize he : sc B isNm (i + 1) = e at *
  rw [rE.1, rE.2.1]
  by_cases c1 : E = 500
  · refine yl_it c1 (yr_it c1 ?_)
    exact y_brk ha hl S ec (by omega) (by omega) (fun b h' b' h'' z => y_some (Or.inr z))
  refine yl_ie c1 (yr_ie c1 ?_)
  rw [rS.1, rS.2.1]
  by_cases c2 : D = 20
  · refine yl_ie (fun z => z c2) (yr_ie (fun z => z c2) ?_)
    exact y_brk ha hl S ec (by omega) (by omega) (fun b h' b' h'' z => y_some (Or.inr z))
  refine yl_it c2 (yr_it c2 (yl_lt (yr_lt ?_)))
  have kc := g_X6_0 S.1.1 ha
  have k3 := g_X6_3 S.1.1 ha
  have k5 := g_X6_5 S.1.1 ha
  simp only [k3.1, k3.2.1, kc.1, k5.1, ec]
  rw [e32 (x := e - (i + 1)) (by omega) (by omega)]
  refine yl_gd trivial (yl_bW ?_)
  obtain ⟨⟨v, g⟩, e1, b2, N1, s1, b3, b4, b5, b6, b7, b8, b9, b10⟩ := c_name6 (x := i + 1) (e := e) ha S R.1.1 (by have := R.1.2.1; omega) (by have := R.1.2.2; omega) (by omega) lt en
  refine ⟨(v, g), e1, ?_⟩
  dsimp only at b2 b3 b4 b8 b9 b10 ⊢
  have S1 := S.goL ha (hc' := g) (b2.mono (fun b j z => by unfold nmW at z; unfold srP; omega))
  have gr : ∀ b j, (b = a ∨ a + 7 ≤ b) → g b j = hc b j := fun b j hb => b2 _ _ (fun z => by unfold nmW at z; omega)
  generalize ho : ht l 26 = o at *
  have oE : -1 ≤ o ∧ o < E := by
    have := rV.2.2.2.2.2.2.2.2.1 M.toNat (by omega)
    rw [← rS.2.2.2.2.1, ho] at this; exact this
  have cr := fun z => cntP_r (P := ht (l + 7)) (x := z) E.toNat
  obtain ⟨G, g1, og⟩ := c_bg (g := g) (i := i) (v := v) (e := e) (E := E) (D := D) (M := M) (F := F) (o := o) S1.1.1 ha (by rw [gr _ _ (by omega)]; exact rE.1) (by rw [gr _ _ (by omega)]; exact rE.2.2.2.2.1) (by rw [gr _ _ (by omega)]; exact rV.1) (by rw [gr _ _ (by omega)]; exact rS.1) E0 (by omega) M0 (by omega) D0 (by omega) oE.2 oE.1 (fun z => by
    rw [gr _ _ (by omega)]
    have q := (rE.2.2.2.2.2.2.2.1 o z oE.2).1.2.2.2.2.2.2.2.2.2.1
    have := cr o
    omega) (by
    rw [gr _ _ (by omega)]
    have q := rE.2.2.2.2.2.2.2.2.1
    have := cr (-1)
    omega) (by
    rw [gr _ _ (by omega)]
    by_cases hD : D = 0
    · rw [if_neg (fun z => z hD), ← ho]; exact rS.2.2.2.2.2.1 hD
    · rw [if_pos hD, ← ho]; exact (rS.2.2.2.2.2.2.1 (by omega)).symm)
  have gG : g (a + 7) (-2) % 16 = 1 := by rw [(g_X6_5 S1.1.1 ha).2.1]; decide
  rw [g1]
  obtain ⟨t, t1, oq, t10, ft⟩ := q_pre23 (K := fun h79 => (m_X23_skip l e h79).bind fun v86 =>
    (lp (fun (q : Int × Int × Hp) => m_X23_begin_l91 l E q.1 q.2.1 q.2.2) (e, v86, h79)).bind (sE (fun (y140 : Int × Hp) => (m_X23_byteAt l y140.1 y140.2).bind fun v143 =>
    if v143 ≠ 47 then (m_X23_begin_j156 l E y140.1 0 y140.2)
    else (m_X23_begin_j156 l E y140.1 1 y140.2)) (fun (x : (Int × Int) × Hp) => some x))) (x := i + 1) (e := e) S.2.1.1 hl E0 (by omega) et ho
  rw [t1]
  clear g1 t1 e1
  have S2 := (S1.goL ha (hc' := G) (og.1.mono (fun b j z => by unfold wbg w131 w205 at z; unfold srP; omega))).goR hl ft
  have G2 : G a 2 = e := og.2.1.2.2.2.2.2.2.2.2.1
  have gG7 : ∀ b, a + 2 ≤ b → b ≤ a + 6 → G b = g b := fun b b0 b1 => funext fun z => og.1 b z (by unfold wbg w131 w205; omega)
  have G18 : G a 18 = F := by rw [og.1 a 18 (by unfold wbg w131 w205; omega), gr _ _ (by omega)]; exact rE.2.2.2.2.1
  have F0 : 0 ≤ F := by
    by_cases hE : E = 0
    · have := rE.2.2.2.2.2.1 hE; omega
    · have q := (rE.2.2.2.2.2.2.2.1 0 (by omega) (by omega)).2
      have := fs_le rE 0 (by omega) (by omega)
      have q1 := q.1
      have q2 := q.2.1
      have q3 := q.2.2.2.1
      omega
  have fz : FZ T n N1 s1 E F G t a l e G t := by
    refine ⟨N1, s1, F, ⟨b3.kept (fun b z0 z1 => gG7 b (by omega) (by omega)), by rw [gG7 _ (by omega) (by omega)]; exact b4, b5, Int.le_refl _, fun _ _ _ => rfl⟩, ⟨G18, by omega, ?_⟩, fun b x _ _ _ => rfl, fun b x _ _ _ => rfl⟩
    refine ⟨F0, by rw [t10]; decide, by rw [t10]; decide, by rw [t10]; omega, fun x x0 x1 => ?_⟩
    rw [t10] at x1; omega
  unfold m_X6_fields
  have eB := S2.1.2.2.2.1
  rw [G2, q_X6_byteAt S2.1.2.2.1 (by omega), Option.bind_some, q_X1_isBlank, Option.bind_some, eB, z_X6_blanks S2.1.2.2.1 (by omega) en G2, Option.bind_some, q_X23_skip S2.2.1.2.2.1 (by omega) en, Option.bind_some, S2.2.1.2.2.2.1, eB]
  obtain ⟨-, s4, s5⟩ := sc_spec (B := B) (p := isBl) (n := n) (i := e) (fun x hx => by rw [← eB]; exact blEnd hx) en
  have S3 := S2.goL ha (hc' := up G a 2 (sc B isBl e)) (F2.refl.put (by unfold srP; omega))
  obtain ⟨rc, rt, f1, f2, f3⟩ := y_fields (v := bI (isBl (B e))) ha hl S3 (fz.place (Int.le_refl _) _) (up_s _ _ _ _) rfl (by omega) en E0 (by omega) og.2.1.2.2.2.2.2.2.2.1 og.2.1.2.2.2.2.2.2.1
  rw [f1, f2, Option.bind_some, Option.bind_some]
  rcases f3 with ⟨y, hc', ht', rfl, rfl, y1, y2, y3, y4, y5⟩ | ⟨r, rfl, z⟩
  · rw [bT_0 rfl rfl]
    show Pr (bgK a E hc') ((m_X23_byteAt l y ht').bind fun v143 => if v143 ≠ 47 then m_X23_begin_j156 l E y 0 ht' else m_X23_begin_j156 l E y 1 ht') (ZP h1 h2 n B T a l i)
    exact y_bgend ha hl y4 R i0 i1 (by omega) y2 (by omega) (by omega) ho b2 og oq y5 b6 b7 ⟨b8, b9, by omega, by omega, en, b10⟩ y3
  · obtain ⟨p, p0, p1, z3, z4⟩ := id z
    rw [bT_1 rfl (by rw [z3.1]; decide)]
    show Pr (some ((1, rc.1.2), rc.2)) (some r) _
    refine y_some (Or.inr ?_)
    have : ((1, rc.1.2), rc.2) = rc := z3.one
    rw [this]; exact z
