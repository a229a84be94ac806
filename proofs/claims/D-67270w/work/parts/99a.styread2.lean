set_option maxRecDepth 100000
/-! STYLES: the loop over the rules, and all of it -/
theorem BO.c {h1 h2 : Hp} {n a l : Int} {rc rt : (Int × Int) × Hp} (z : BO h1 h2 n a l rc rt) : ((1, rc.1.2), rc.2) = rc ∧ ((1, rt.1.2), rt.2) = rt := by
  have z1 := z.r1
  constructor
  · obtain ⟨⟨x, y⟩, w⟩ := rc
    dsimp only at z1 ⊢
    rw [z1.1]
  · obtain ⟨⟨x, y⟩, w⟩ := rt
    dsimp only at z1 ⊢
    rw [z1.2]
theorem y_stloop {h1 h2 hc ht : Hp} {n : Int} {B T : Int → Int} {a l i : Int} (ha : a ∈ in_aX3) (hl : l ∈ in_aX22) (I : TI h1 h2 n B T a l i hc ht) :
    Pr (lp (fun (q : Hp) => m_X3_read_l4 a 3 q) hc) (lp (fun (q : Hp) => m_X22_read_l38 l q) ht) (fun x y => (∃ i' hc', x = .inl hc' ∧ y.1 = (0, 0) ∧ TI h1 h2 n B T a l i' hc' y.2) ∨ (∃ rc, x = .inr rc ∧ BO h1 h2 n a l rc y)) := by
  refine y_lpm (fun m (x : Hp) (y : Hp) => ∃ i', m = (n - i').toNat ∧ TI h1 h2 n B T a l i' x y) ⟨_, i, rfl, I⟩ ?_
  rintro m hc ht ⟨i, rfl, I⟩
  obtain ⟨p, q, S⟩ := I.ss
  have g0 := S.ge
  have e3 : ht (l + 2) 3 = kT (tk B i).1 := S.2.1.2.2.2.1.1
  unfold m_X3_read_l4 m_X22_read_l38
  simp only [g_X22_1 S.2.1.1 hl, g_X2 S.1.1, e3]
  refine yl_gd trivial (yr_gd trivial ?_)
  rw [q_X2_isEnd S.1.2.2.2.2.1, Option.bind_some]
  by_cases t0 : (tk B i).1 = 0
  · rw [if_pos t0]
    refine yl_it (by decide) (yr_it (by rw [t0]; rfl) (y_some (Or.inr ⟨_, _, rfl, rfl, Or.inl ⟨i, _, rfl, rfl, I⟩⟩)))
  · rw [if_neg t0]
    have k5 : kT (tk B i).1 ≠ 5 := by
      unfold kT
      rw [if_neg t0]
      split
      · decide
      · assumption
    refine yl_ie (fun z => z rfl) (yr_ie k5 ?_)
    have same : ∃ v, m_X2_isName 3 (-20) hc = some v ∧ m_X20_isName (l + 2) (-89) ht = some v ∧ ((tk B i).1 ≠ 1 → v = 0) := by
      by_cases t1 : (tk B i).1 = 1
      · exact ⟨_, L_isN S t1 st_20, by rw [ts_isN S.2.1 t1 st_89, S.twR], fun z => absurd t1 z⟩
      · exact ⟨0, cs_isN0 S.1 t1 st_20, ts_isN0 S.2.1 t1 st_89, fun _ => rfl⟩
    obtain ⟨v, e1, e2, ev⟩ := same
    rw [e1, e2, Option.bind_some, Option.bind_some]
    have fin : ∀ {rc rt : (Int × Int) × Hp} {oc ot : Option ((Int × Int) × Hp)} {j : Int}, i ≤ j → oc = some rc → ot = some rt → (TO h1 h2 n B T a l j rc rt ∨ BO h1 h2 n a l rc rt) → Pr (bT oc (fun _ h34 => some (.inl h34)) (fun a_ h_ => some (.inr (.inr ((1, a_), h_))))) (bT ot (fun _ h76 => some (.inl h76)) (fun a_ h_ => some (.inr ((1, a_), h_)))) (fun (x : Hp ⊕ (Hp ⊕ ((Int × Int) × Hp))) (y : Hp ⊕ ((Int × Int) × Hp)) => (∃ m' s' t', x = .inl s' ∧ y = .inl t' ∧ m' < (n - i).toNat ∧ ∃ i', m' = (n - i').toNat ∧ TI h1 h2 n B T a l i' s' t') ∨ (∃ x' y', x = .inr x' ∧ y = .inr y' ∧ ((∃ i' hc', x' = .inl hc' ∧ y'.1 = (0, 0) ∧ TI h1 h2 n B T a l i' hc' y'.2) ∨ (∃ rc, x' = .inr rc ∧ BO h1 h2 n a l rc y')))) := by
      intro rc rt oc ot j hj x1 x2 d
      rcases d with ⟨i', r1, r2, hi, I'⟩ | z
      · rw [bT_0 x1 (by rw [r1]), bT_0 x2 (by rw [r2])]
        obtain ⟨p', q', S'⟩ := I'.ss
        have g1 := S'.ge
        exact y_some (Or.inl ⟨_, _, _, rfl, rfl, by omega, i', rfl, I'⟩)
      · have z1 := z.r1
        rw [bT_1 x1 (by omega), bT_1 x2 (by omega), z.c.1, z.c.2]
        exact y_some (Or.inr ⟨_, _, rfl, rfl, Or.inr ⟨_, rfl, z⟩⟩)
    by_cases v0 : v = 0
    · refine yl_it v0 (yr_it v0 ?_)
      obtain ⟨rc, rt, x1, x2, d⟩ := y_rule ha hl I
      exact fin (Int.le_refl _) x1 x2 d
    · refine yl_ie v0 (yr_ie v0 ?_)
      have t1 : (tk B i).1 = 1 := Classical.not_not.mp (fun z => v0 (ev z))
      refine TI_next ha I (by omega) (fun hc1 ht1 I1 => ?_)
      obtain ⟨rc, rt, x1, x2, d⟩ := y_page ha hl I1
      exact fin g0.1 x1 x2 d
/-- styles, at rest: the component's a, the reference's l -/
def SYr (p q : Hp) (a l : Int) : Prop := ∃ n N s C ns na nsel nb nt, n ≤ 4000 ∧ (∀ j, 0 ≤ j → j < n → -128 ≤ q (l + 1) j ∧ q (l + 1) j ≤ 127) ∧ SY (q (l + 1)) n N s C ns na nsel nsel nb nt p q a l ∧ SelQ ns na nsel q l ∧ q (l + 16) nb = nt ∧ nb ≤ nsel ∧ p (a + 20) nsel = ns ∧ p (a + 15) ns = na ∧ p (a + 27) nb = nt
def styW (l : Int) : Int → Int → Prop := fun b j => stW2 l b j ∨ (b = l + 1 ∧ 0 ≤ j) ∨ (b = l + 2 ∧ 0 ≤ j ∧ j ≤ 7)
def STo (hc ht : Hp) (n a l : Int) (rc rt : (Int × Int) × Hp) : Prop :=
  (rc.1 = (0, 0) ∧ rt.1 = (0, 0) ∧ F2 (scW a) hc rc.2 ∧ F2 (styW l) ht rt.2 ∧ SYr rc.2 rt.2 a l) ∨ ∃ p, 0 ≤ p ∧ p ≤ n ∧ ThF 432 p (scW a) hc rc ∧ ThF 448 p (styW l) ht rt
theorem SY.last {T : Int → Int} {n N : Int} {s : Int → List Int} {C ns na nf nsel nb nt : Int} {p q : Hp} {a l : Int} (Y : SY T n N s C ns na nf nsel nb nt p q a l) (x y z : Int) : SY T n N s C ns na nf nsel nb nt (up (up (up p (a + 20) nsel x) (a + 15) ns y) (a + 27) nb z) q a l := by
  obtain ⟨y1, y2, y3, y4, y5, y6, y7⟩ := Y
  have rp : ∀ k : Int, 0 ≤ k → k ≤ 26 → k ≠ 20 → k ≠ 15 → up (up (up p (a + 20) nsel x) (a + 15) ns y) (a + 27) nb z (a + k) = p (a + k) := fun k k0 k1 k2 k3 => by rw [up_row (by omega), up_row (by omega), up_row (by omega)]
  have ra : up (up (up p (a + 20) nsel x) (a + 15) ns y) (a + 27) nb z a = p a := by rw [up_row (by omega), up_row (by omega), up_row (by omega)]
  refine ⟨?_, ?_, ?_, ?_, ?_, ?_, ?_⟩
  · unfold syN at *
    rw [rp 11 (by decide) (by decide) (by decide) (by decide)]
    exact ⟨y1.1.kept (fun b b0 b1 => by rw [up_row (by omega), up_row (by omega), up_row (by omega)]), y1.2⟩
  · unfold syC at *
    obtain ⟨c1, c2, s, c3, c4⟩ := y2
    exact ⟨c1, c2, s, c3.kept (fun b b0 b1 => by rw [up_row (by omega), up_row (by omega), up_row (by omega)]), c4⟩
  · unfold syS at *
    rw [ra, rp 13 (by decide) (by decide) (by decide) (by decide), rp 14 (by decide) (by decide) (by decide) (by decide)]
    obtain ⟨c1, c2, c3, c4, c5⟩ := y3
    refine ⟨c1, c2, c3, c4, fun k k0 k1 => ?_⟩
    rw [up_ne (by omega), up_ne (by omega), up_ne (by omega)]
    exact c5 k k0 k1
  · unfold syA at *
    rw [ra, rp 11 (by decide) (by decide) (by decide) (by decide), rp 12 (by decide) (by decide) (by decide) (by decide), rp 16 (by decide) (by decide) (by decide) (by decide), rp 17 (by decide) (by decide) (by decide) (by decide), rp 18 (by decide) (by decide) (by decide) (by decide), rp 19 (by decide) (by decide) (by decide) (by decide)]
    exact y4
  · unfold syL at *
    rw [ra, rp 21 (by decide) (by decide) (by decide) (by decide), rp 22 (by decide) (by decide) (by decide) (by decide)]
    obtain ⟨c1, c2, c3, c4, c5, c6⟩ := y5
    refine ⟨c1, c2, c3, c4, c5, fun k k0 k1 => ?_⟩
    rw [up_ne (a := a + 27) (by omega), up_ne (a := a + 15) (by omega), up_ne (a := a + 20) (by omega)]
    exact c6 k k0 k1
  · unfold syD at *
    rw [ra, rp 11 (by decide) (by decide) (by decide) (by decide), rp 12 (by decide) (by decide) (by decide) (by decide), rp 23 (by decide) (by decide) (by decide) (by decide), rp 24 (by decide) (by decide) (by decide) (by decide), rp 25 (by decide) (by decide) (by decide) (by decide), rp 26 (by decide) (by decide) (by decide) (by decide)]
    obtain ⟨c1, c2, c3, c4, c5, c6, c7, c8, c9, c10, c11⟩ := y6
    exact ⟨c1, c2, c3, c4, c5, c6, c7, fun k k0 k1 => by rw [up_ne (by omega), up_ne (by omega), up_ne (by omega)]; exact c8 k k0 k1, c9, c10, c11⟩
  · unfold pgO at *
    rw [ra]
    exact y7
/-- the component's last three stores -/
theorem c_stend {h1 h2 hc ht : Hp} {n : Int} {B T : Int → Int} {a l i : Int} (ha : a ∈ in_aX3) (hl : l ∈ in_aX22) (I : TI h1 h2 n B T a l i hc ht) : Pz (gd (hc (hc a 12) (-2) % 16 = 1 ∧ (0 : Int) ≤ (hc a 15) ∧ (hc a 15) < hc (hc a 12) (-1)) (pt hc (hc a 12) (hc a 15) (hc a 6) fun h52 =>
  gd (h52 (h52 a 5) (-2) % 16 = 1 ∧ (0 : Int) ≤ (h52 a 6) ∧ (h52 a 6) < h52 (h52 a 5) (-1)) (pt h52 (h52 a 5) (h52 a 6) (h52 a 11) fun h65 =>
  gd (h65 (h65 a 21) (-2) % 16 = 1 ∧ (0 : Int) ≤ (h65 a 22) ∧ (h65 a 22) < h65 (h65 a 21) (-1)) (pt h65 (h65 a 21) (h65 a 22) (h65 a 20) fun h78 =>
  some (((0 : Int), (0 : Int)), h78))))) (fun rc => rc.1 = (0, 0) ∧ F2 (scW a) h1 rc.2 ∧ SYr rc.2 ht a l) := by
  have h3 := aX3 ha
  have h22 := aX22 hl
  obtain ⟨p, q, N, s, C, ns, na, nsel, nb, nt, S, Y, ub, sq, e16, nbs⟩ := I
  have s120 := Y.2.2.2.2.1.2.2.2.1
  have s0 := Y.2.2.2.2.1.2.2.1
  have ns0 := Y.2.2.1.2.2.1
  have nb0 := Y.2.2.2.2.2.1.2.2.2.2.1
  obtain ⟨q1, q2, q3, q4⟩ := sq
  have c6 : p a 6 = ns := Y.2.2.1.1
  have c11 : p a 11 = na := Y.2.2.2.1.1
  have c15 : p a 15 = nsel := Y.2.2.2.2.1.1
  have c20 : p a 20 = nt := Y.2.2.2.2.2.1.2.2.1
  have c22 : p a 22 = nb := Y.2.2.2.2.2.1.1
  have k1 := g_X3_12 S.1.1 ha
  have P := S.pL (b := a) (by omega) (by omega)
  simp only [k1.1, k1.2.1, k1.2.2, P, c15, c6]
  refine z_gd ⟨by decide, by omega, by omega⟩ (z_pt ?_)
  have S1 := S.putL (b := a + 20) (j := nsel) (v := ns) ha (by omega) (by unfold scW; omega)
  have k2 := g_X3_5 S1.1.1 ha
  simp only [k2.1, k2.2.1, k2.2.2, up_a (show a ≠ a + 20 by omega), P, c6, c11]
  refine z_gd ⟨by decide, by omega, by omega⟩ (z_pt ?_)
  have S2 := S1.putL (b := a + 15) (j := ns) (v := na) ha (by omega) (by unfold scW; omega)
  have k3 := g_X3_21 S2.1.1 ha
  simp only [k3.1, k3.2.1, k3.2.2, up_a (show a ≠ a + 20 by omega), up_a (show a ≠ a + 15 by omega), P, c22, c20]
  refine z_gd ⟨by decide, by omega, by omega⟩ (z_pt (z_some ?_))
  have S3 := S2.putL (b := a + 27) (j := nb) (v := nt) ha (by omega) (by unfold scW; omega)
  refine ⟨rfl, S3.2.2.1, n, N, s, C, ns, na, nsel, nb, nt, S.2.2.2.2.2.2, fun j j0 j1 => ?_, ?_, ?_, ?_, nbs, (by (try simp (disch := omega) only [up_a, up_e, up_j, e32, e8]) <;> omega), (by (try simp (disch := omega) only [up_a, up_e, up_j, e32, e8]) <;> omega), (by (try simp (disch := omega) only [up_a, up_e, up_j, e32, e8]) <;> omega)⟩
  · rw [S.2.2.2.2.1.1, ← S.2.2.2.2.1.2 j j0 j1]
    have := S.1.2.2.1 j j0 j1
    exact ⟨this.1, by omega⟩
  · have Y' := Y.kept S.2.2.2.2.2.1.1 S.2.2.2.2.2.1.2
    rw [S.2.2.2.2.1.1]
    exact Y'.last ns na nt
  · unfold SelQ
    rw [S.pR (Or.inr ⟨by omega, by omega⟩), S.pR (b := l + 9) (Or.inr ⟨by omega, by omega⟩)]
    exact ⟨q1, q2, q3, q4⟩
  · rw [S.pR (Or.inr ⟨by omega, by omega⟩)]; exact e16
