set_option maxRecDepth 100000
/-! STYLES: a step, all of it -/
theorem syL.mono {nf nsel nb : Int} {hc ht : Hp} {a l : Int} (L : syL nf nsel nb hc ht a l) : ∀ (m : Nat) (k : Int), 0 ≤ k → k + m = nsel → ht (l + 4) k ≤ ht (l + 4) nsel := by
  intro m
  induction m with
  | zero => intro k k0 e; have : k = nsel := by omega
            rw [this]; exact Int.le_refl _
  | succ m ih =>
    intro k k0 e
    have a1 := ih (k + 1) (by omega) (by omega)
    have a2 := (L.2.2.2.2.2 k k0 (by omega)).2.2.1
    omega
theorem SY.step {T : Int → Int} {n N : Int} {s : Int → List Int} {C ns na nf nsel nb nt : Int} {p q p' q' : Hp} {a l : Int} (Y : SY T n N s C ns na nf nsel nb nt p q a l) (hb : q (l + 4) nsel ≤ ns)
    (hp : ∀ b j, a ≤ b → b ≤ a + 27 → ¬ ((b = a ∧ j = 6) ∨ (a + 13 ≤ b ∧ b ≤ a + 15 ∧ j = ns)) → p' b j = p b j)
    (hq : ∀ b j, (b = l ∨ l + 3 ≤ b ∧ b ≤ l + 22) → ¬ ((b = l ∧ j = 4) ∨ (l + 6 ≤ b ∧ b ≤ l + 8 ∧ j = ns) ∨ (b = l + 9 ∧ j = ns + 1)) → q' b j = q b j) (e1 : p' a 6 = ns + 1) (e2 : q' l 4 = ns + 1)
    (hs : stepO N s T n (p' (a + 13) ns) (p' (a + 14) ns) (q' (l + 6) ns) (q' (l + 7) ns) (q' (l + 8) ns)) (e3 : p' (a + 15) ns = q (l + 9) ns) (e4 : 0 ≤ q (l + 9) ns) (e5 : q (l + 9) ns ≤ q' (l + 9) (ns + 1) ∧ q' (l + 9) (ns + 1) ≤ q (l + 9) ns + 4) :
    SY T n N s C (ns + 1) na nf nsel nb nt p' q' a l := by
  obtain ⟨y1, y2, y3, y4, y5, y6, y7⟩ := Y
  have rp : ∀ k : Int, 1 ≤ k → k ≤ 27 → (k < 13 ∨ 15 < k) → p' (a + k) = p (a + k) := fun k k0 k1 k2 => funext fun j => hp _ _ (by omega) (by omega) (by omega)
  have rq : ∀ k : Int, 3 ≤ k → k ≤ 22 → (k < 6 ∨ 9 < k) → q' (l + k) = q (l + k) := fun k k0 k1 k2 => funext fun j => hq _ _ (Or.inr ⟨by omega, by omega⟩) (by omega)
  have pa : ∀ j, j ≠ 6 → p' a j = p a j := fun j hj => hp _ _ (by omega) (by omega) (by omega)
  have ql : ∀ j, j ≠ 4 → q' l j = q l j := fun j hj => hq _ _ (Or.inl rfl) (by omega)
  have q9 : ∀ j, j ≠ ns + 1 → q' (l + 9) j = q (l + 9) j := fun j hj => hq _ _ (Or.inr ⟨by omega, by omega⟩) (by omega)
  have q6 : ∀ j, j ≠ ns → q' (l + 6) j = q (l + 6) j := fun j hj => hq _ _ (Or.inr ⟨by omega, by omega⟩) (by omega)
  refine ⟨?_, ?_, ?_, ?_, ?_, ?_, ?_⟩
  · unfold syN at *
    rw [rp 11 (by decide) (by decide) (by decide)]
    exact ⟨y1.1.kept (fun b b0 b1 => by have := rp (b - a) (by omega) (by omega) (by omega); rwa [show a + (b - a) = b by omega] at this), y1.2⟩
  · unfold syC at *
    rw [ql 8 (by decide), rq 21 (by decide) (by decide) (by decide), rq 22 (by decide) (by decide) (by decide)]
    obtain ⟨c1, c2, s, c3, c4⟩ := y2
    exact ⟨c1, c2, s, c3.kept (fun b b0 b1 => by have := rp (b - a) (by omega) (by omega) (by omega); rwa [show a + (b - a) = b by omega] at this), c4⟩
  · unfold syS at *
    obtain ⟨c1, c2, c3, c4, c5⟩ := y3
    refine ⟨e1, e2, by omega, by rw [q9 0 (by omega)]; exact c4, fun k k0 k1 => ?_⟩
    by_cases hk : k = ns
    · subst hk
      rw [q9 k (by omega)]
      exact ⟨hs, e3, e4, e5.1, e5.2⟩
    · have P : ∀ x : Int, 13 ≤ x → x ≤ 15 → p' (a + x) k = p (a + x) k := fun x x0 x1 => hp _ _ (by omega) (by omega) (by omega)
      have Q : ∀ x : Int, 6 ≤ x → x ≤ 8 → q' (l + x) k = q (l + x) k := fun x x0 x1 => hq _ _ (Or.inr ⟨by omega, by omega⟩) (by omega)
      rw [P 13 (by decide) (by decide), P 14 (by decide) (by decide), P 15 (by decide) (by decide), Q 6 (by decide) (by decide), Q 7 (by decide) (by decide), Q 8 (by decide) (by decide), q9 k (by omega), q9 (k + 1) (by omega)]
      exact c5 k k0 (by omega)
  · unfold syA at *
    rw [pa 11 (by decide), ql 5 (by decide), rp 11 (by decide) (by decide) (by decide), rp 12 (by decide) (by decide) (by decide), rp 16 (by decide) (by decide) (by decide), rp 17 (by decide) (by decide) (by decide), rp 18 (by decide) (by decide) (by decide), rp 19 (by decide) (by decide) (by decide), rq 10 (by decide) (by decide) (by decide), rq 11 (by decide) (by decide) (by decide), rq 12 (by decide) (by decide) (by decide), rq 13 (by decide) (by decide) (by decide), rq 14 (by decide) (by decide) (by decide), rq 15 (by decide) (by decide) (by decide)]
    exact y4
  · have mo := y5.mono
    unfold syL at *
    rw [pa 15 (by decide), ql 3 (by decide), rp 20 (by decide) (by decide) (by decide), rp 21 (by decide) (by decide) (by decide), rp 22 (by decide) (by decide) (by decide), rq 4 (by decide) (by decide) (by decide), rq 5 (by decide) (by decide) (by decide)]
    obtain ⟨c1, c2, c3, c4, c5, c6⟩ := y5
    refine ⟨c1, c2, c3, c4, c5, fun k k0 k1 => ?_⟩
    obtain ⟨d1, d2, d3, d4, d5, d6⟩ := c6 k k0 k1
    have m1 := mo (nsel - (k + 1)).toNat (k + 1) (by omega) (by omega)
    refine ⟨d1, d2, d3, d4, ?_, d6⟩
    rw [d5]
    exact (wsm_congr _ (fun x x0 x1 => q9 x (by omega)) (fun x x0 x1 => q6 x (by omega))).symm
  · unfold syD at *
    rw [pa 22 (by decide), ql 6 (by decide), pa 20 (by decide), ql 7 (by decide), rp 11 (by decide) (by decide) (by decide), rp 12 (by decide) (by decide) (by decide), rp 27 (by decide) (by decide) (by decide), rp 23 (by decide) (by decide) (by decide), rp 24 (by decide) (by decide) (by decide), rp 25 (by decide) (by decide) (by decide), rp 26 (by decide) (by decide) (by decide), rq 16 (by decide) (by decide) (by decide), rq 17 (by decide) (by decide) (by decide), rq 18 (by decide) (by decide) (by decide), rq 19 (by decide) (by decide) (by decide), rq 20 (by decide) (by decide) (by decide)]
    exact y6
  · unfold pgO at *
    rw [pa 23 (by decide), pa 24 (by decide), pa 25 (by decide), pa 26 (by decide), pa 27 (by decide), pa 28 (by decide), rq 3 (by decide) (by decide) (by decide)]
    exact y7
/-- what a step leaves as it is -/
def KS (a : Int) (p p' : Hp) : Prop := ∀ b j, a ≤ b → b ≤ a + 27 → ¬ ((a + 1 ≤ b ∧ b ≤ a + 5) ∨ (b = a ∧ (j = 6 ∨ j = 11)) ∨ (a + 11 ≤ b ∧ b ≤ a + 19)) → p' b j = p b j
def KT (l ns : Int) (q q' : Hp) : Prop := (∀ b j, (b = l ∨ l + 3 ≤ b ∧ b ≤ l + 22) → ¬ ((b = l ∧ (j = 4 ∨ j = 5)) ∨ (l + 6 ≤ b ∧ b ≤ l + 15)) → q' b j = q b j) ∧ (∀ j, j < ns → q' (l + 6) j = q (l + 6) j) ∧ ∀ j, j ≤ ns → q' (l + 9) j = q (l + 9) j
/-- a step is read by both -/
def SO (h1 h2 : Hp) (n : Int) (B T : Int → Int) (a l : Int) (p0 q0 : Hp) (C ns na nf nsel nb nt i : Int) (rc rt : (Int × Int) × Hp) : Prop :=
  ∃ p q N s na' i', rc.1.1 = 0 ∧ rt.1.1 = 0 ∧ i < i' ∧ SS h1 h2 n B T a l p q i' i' rc.2 rt.2 ∧ SY T n N s C (ns + 1) na' nf nsel nb nt p q a l ∧ UB p a i' ∧ na ≤ na' ∧ na' ≤ na + 4 ∧ rc.1.2 = 100 * (na' - na) + (if 0 ≤ q (l + 6) ns then 1 else 0) ∧ q (l + 9) (ns + 1) = na' ∧ KS a p0 p ∧ KT l ns q0 q
def joinO (j k : Int) : Prop := (j = 0 ∧ k = 0) ∨ (j = 1 ∧ k = 62) ∨ (j = 2 ∧ k = 47) ∨ (j = 3 ∧ k = 43)
/-- behind the name -/
theorem y_step2 {h1 h2 hc ht : Hp} {n : Int} {B T : Int → Int} {a l : Int} {p0 q0 p q : Hp} {i N C ns na nf nsel nb nt jn lk w : Int} {s : Int → List Int} (ha : a ∈ in_aX3) (hl : l ∈ in_aX22) (S : SS h1 h2 n B T a l p q i i hc ht) (t5 : (tk B i).1 ≠ 5) (tlt : i < nx B i) (Y : SY T n N s C ns na nf nsel nb nt p q a l) (hj : joinO jn lk) (hb : q (l + 4) nsel ≤ ns) (e9 : q (l + 9) ns = na) (n1 : na ≤ 4 * ns) (ns1 : ns < 960)
    (hst : ((p (a + 13) ns = -1 ∧ q (l + 6) ns = -1 ∧ w = 0) ∨ (nmO N s T n (p (a + 13) ns) (q (l + 6) ns) (q (l + 7) ns) ∧ w = 1))) (ub : UB p a (nx B i)) (ks : KS a p0 p) (kt : KT l ns q0 q) :
    Pr (m_X3_step_j50 jn a 3 w hc) (m_X22_step_j108 l lk ht) (fun rc rt => SO h1 h2 n B T a l p0 q0 C ns na nf nsel nb nt i rc rt ∨ BO h1 h2 n a l rc rt) := by
  have h3 := aX3 ha
  have h22 := aX22 hl
  have pa6 : hc a 6 = ns := by rw [S.pL (by omega) (by omega)]; exact Y.2.2.1.1
  have pa11 : hc a 11 = na := by rw [S.pL (by omega) (by omega)]; exact Y.2.2.2.1.1
  have ns0 := Y.2.2.1.2.2.1
  have na0 := Y.2.2.2.1.2.2.1
  unfold m_X3_step_j50 m_X22_step_j108
  simp only [g_X3_4 S.1.1 ha, pa6]
  refine yl_gd (by omega) (yl_pt ?_)
  have S1 := S.putL (b := a + 14) (j := ns) (v := jn) ha (by omega) (by unfold scW; omega)
  simp only [g_X3_5 S1.1.1 ha, up_a (show a ≠ a + 14 by omega), pa6, pa11]
  refine yl_gd (by omega) (yl_pt ?_)
  have S2 := S1.putL (b := a + 15) (j := ns) (v := na) ha (by omega) (by unfold scW; omega)
  refine L_next ha S2 t5 (fun hc1 S3 => ?_)
  simp only [g_X22_1 S3.2.1.1 hl]
  refine yr_gd trivial (R_next S3 t5 (fun ht1 S4 => ?_))
  have l4 : ht1 l 4 = ns := by rw [S4.pR (Or.inl rfl)]; exact Y.2.2.1.2.1
  have l5 : ht1 l 5 = na := by rw [S4.pR (Or.inl rfl)]; exact Y.2.2.2.1.2.1
  simp only [g_X22_13 S4.2.1.1 hl, l4]
  refine yr_gd (by omega) (yr_pt ?_)
  have S5 := S4.putR (b := l + 8) (j := ns) (v := lk) hl (Or.inr ⟨by omega, by omega⟩) (by unfold stW2; omega)
  simp only [up_a (show l ≠ l + 8 by omega), l5, e32 (x := na + 4) (by omega) (by omega)]
  refine yr_lt (yl_lt ?_)
  generalize hpb : up (up p (a + 14) ns jn) (a + 15) ns na = pb at *
  generalize hqb : up q (l + 8) ns lk = qb at *
  have Yb : SY T n N s C ns na nf nsel nb nt pb qb a l := by
    obtain ⟨y1, y2, y3, y4, y5, y6, y7⟩ := Y
    have rp : ∀ k : Int, 0 ≤ k → k ≤ 27 → (k < 14 ∨ 15 < k) → pb (a + k) = p (a + k) := fun k k0 k1 k2 => by rw [← hpb, up_row (by omega), up_row (by omega)]
    have ra : pb a = p a := by have := rp 0 (by decide) (by decide) (by decide); rwa [Int.add_zero] at this
    have rq : ∀ k : Int, 3 ≤ k → k ≤ 22 → k ≠ 8 → qb (l + k) = q (l + k) := fun k k0 k1 k2 => by rw [← hqb, up_row (by omega)]
    have rl : qb l = q l := by rw [← hqb, up_row (by omega)]
    refine ⟨?_, ?_, ?_, ?_, ?_, ?_, ?_⟩
    · unfold syN at *
      rw [rp 11 (by decide) (by decide) (by decide)]
      exact ⟨y1.1.kept (fun b b0 b1 => by have := rp (b - a) (by omega) (by omega) (by omega); rwa [show a + (b - a) = b by omega] at this), y1.2⟩
    · unfold syC at *
      rw [rl, rq 21 (by decide) (by decide) (by decide), rq 22 (by decide) (by decide) (by decide)]
      obtain ⟨c1, c2, s, c3, c4⟩ := y2
      exact ⟨c1, c2, s, c3.kept (fun b b0 b1 => by have := rp (b - a) (by omega) (by omega) (by omega); rwa [show a + (b - a) = b by omega] at this), c4⟩
    · unfold syS at *
      rw [ra, rl, rp 13 (by decide) (by decide) (by decide), rq 6 (by decide) (by decide) (by decide), rq 7 (by decide) (by decide) (by decide), rq 9 (by decide) (by decide) (by decide)]
      obtain ⟨c1, c2, c3, c4, c5⟩ := y3
      refine ⟨c1, c2, c3, c4, fun k k0 k1 => ?_⟩
      have x14 : pb (a + 14) k = p (a + 14) k := by rw [← hpb]; (try simp (disch := omega) only [up_a, up_e, up_j, e32, e8])
      have x15 : pb (a + 15) k = p (a + 15) k := by rw [← hpb]; (try simp (disch := omega) only [up_a, up_e, up_j, e32, e8])
      have x8 : qb (l + 8) k = q (l + 8) k := by rw [← hqb]; (try simp (disch := omega) only [up_a, up_e, up_j, e32, e8])
      rw [x14, x15, x8]
      exact c5 k k0 k1
    · unfold syA at *
      rw [ra, rl, rp 11 (by decide) (by decide) (by decide), rp 12 (by decide) (by decide) (by decide), rp 16 (by decide) (by decide) (by decide), rp 17 (by decide) (by decide) (by decide), rp 18 (by decide) (by decide) (by decide), rp 19 (by decide) (by decide) (by decide), rq 10 (by decide) (by decide) (by decide), rq 11 (by decide) (by decide) (by decide), rq 12 (by decide) (by decide) (by decide), rq 13 (by decide) (by decide) (by decide), rq 14 (by decide) (by decide) (by decide), rq 15 (by decide) (by decide) (by decide)]
      exact y4
    · unfold syL at *
      rw [ra, rl, rp 20 (by decide) (by decide) (by decide), rp 21 (by decide) (by decide) (by decide), rp 22 (by decide) (by decide) (by decide), rq 4 (by decide) (by decide) (by decide), rq 5 (by decide) (by decide) (by decide), rq 6 (by decide) (by decide) (by decide), rq 9 (by decide) (by decide) (by decide)]
      exact y5
    · unfold syD at *
      rw [ra, rl, rp 11 (by decide) (by decide) (by decide), rp 12 (by decide) (by decide) (by decide), rp 27 (by decide) (by decide) (by decide), rp 23 (by decide) (by decide) (by decide), rp 24 (by decide) (by decide) (by decide), rp 25 (by decide) (by decide) (by decide), rp 26 (by decide) (by decide) (by decide), rq 16 (by decide) (by decide) (by decide), rq 17 (by decide) (by decide) (by decide), rq 18 (by decide) (by decide) (by decide), rq 19 (by decide) (by decide) (by decide), rq 20 (by decide) (by decide) (by decide)]
      exact y6
    · unfold pgO at *
      rw [ra, rq 3 (by decide) (by decide) (by decide)]
      exact y7
  have f13 : pb (a + 13) ns = p (a + 13) ns := by rw [← hpb]; (try simp (disch := omega) only [up_a, up_e, up_j, e32, e8])
  have f14 : pb (a + 14) ns = jn := by rw [← hpb]; (try simp (disch := omega) only [up_a, up_e, up_j, e32, e8])
  have f15 : pb (a + 15) ns = na := by rw [← hpb]; (try simp (disch := omega) only [up_a, up_e, up_j, e32, e8])
  have f6 : qb (l + 6) = q (l + 6) := by rw [← hqb, up_row (by omega)]
  have f7 : qb (l + 7) = q (l + 7) := by rw [← hqb, up_row (by omega)]
  have f9 : qb (l + 9) = q (l + 9) := by rw [← hqb, up_row (by omega)]
  have f4 : qb (l + 4) = q (l + 4) := by rw [← hqb, up_row (by omega)]
  have f8 : qb (l + 8) ns = lk := by rw [← hqb]; (try simp (disch := omega) only [up_a, up_e, up_j, e32, e8])
  have kS : KS a p0 pb := fun b j b0 b1 nb => by rw [← hpb]; ((repeat rw [up_ne (by omega)])); exact ks b j b0 b1 nb
  have kT : KT l ns q0 qb := ⟨fun b j b0 nb => by rw [← hqb]; ((repeat rw [up_ne (by omega)])); exact kt.1 b j b0 nb, fun j hj => by rw [f6]; exact kt.2.1 j hj, fun j hj => by rw [f9]; exact kt.2.2 j hj⟩
  have ubb : UB pb a (nx B i) := by
    unfold UB at *
    rw [← hpb]; (try simp (disch := omega) only [up_a, up_e, up_j, e32, e8]); exact ub
  clear hpb hqb Y
  refine y_bind (y_mono (y_sloop (w := w) (na := na) ha hl na0 (by omega) (by omega) (by omega) ns0 ns1 ⟨pb, qb, N, s, nx B i, S5, by rw [Int.add_zero]; exact Yb, ubb, Int.le_refl N, fun _ _ _ => rfl, KA.refl, KB.refl, Int.le_refl _⟩) (fun x y hxy => ?_))
  rcases hxy with ⟨many, hc', ht', rfl, rfl, m0, m4, p', q', N', s', i', S', Y', ub', Na, sa, ka, kb, hi⟩ | ⟨rt, rfl, z⟩
  · simp only [sE]
    have l4' : ht' l 4 = ns := by rw [S'.pR (Or.inl rfl)]; exact Y'.2.2.1.2.1
    have l5' : ht' l 5 = na + many := by rw [S'.pR (Or.inl rfl)]; exact Y'.2.2.2.1.2.1
    rw [l4', e32 (by omega) (by omega)]
    refine yr_pt ?_
    have S6 := S'.putR (b := l) (j := 4) (v := ns + 1) hl (Or.inl rfl) (by unfold stW2; omega)
    have S6' := S6.putL (b := a) (j := 6) (v := ns + 1) ha (by omega) (by unfold scW; omega)
    simp only [g_X22_14 S6.2.1.1 hl, up_s, up_j (show (5 : Int) ≠ 4 by decide), l5']
    refine yr_gd (by omega) (yr_pt (y_some (Or.inl ⟨_, _, N', s', na + many, i', rfl, rfl, by omega, S6'.putR (b := l + 9) (j := ns + 1) (v := na + many) hl (Or.inr ⟨by omega, by omega⟩) (by unfold stW2; omega), ?_, ?_, by omega, by omega, ?_, ?_, ?_, ?_⟩)))
    · have q9e : q' (l + 9) ns = na := by rw [kb _ _ (Or.inr ⟨by omega, by omega⟩) (by omega), f9]; exact e9
      refine Y'.step (by rw [kb _ _ (Or.inr ⟨by omega, by omega⟩) (by omega), f4]; exact hb) (fun b j b0 b1 nb => by (repeat rw [up_ne (by omega)])) (fun b j b0 nb => by (repeat rw [up_ne (by omega)])) (by (try simp (disch := omega) only [up_a, up_e, up_j, e32, e8]) <;> omega) (by (try simp (disch := omega) only [up_a, up_e, up_j, e32, e8]) <;> omega) ?_ ?_ (by rw [q9e]; exact na0) ?_
      · (try simp (disch := omega) only [up_a, up_e, up_j, e32, e8])
        rw [ka (a + 13) ns (by omega) (by omega) (by omega), ka (a + 14) ns (by omega) (by omega) (by omega), kb (l + 6) ns (Or.inr ⟨by omega, by omega⟩) (by omega), kb (l + 7) ns (Or.inr ⟨by omega, by omega⟩) (by omega), kb (l + 8) ns (Or.inr ⟨by omega, by omega⟩) (by omega), f13, f14, f6, f7, f8]
        refine ⟨?_, hj⟩
        rcases hst with z | z
        · exact Or.inl ⟨z.1, z.2.1⟩
        · exact Or.inr (z.1.mono Na sa)
      · (try simp (disch := omega) only [up_a, up_e, up_j, e32, e8])
        rw [ka (a + 15) ns (by omega) (by omega) (by omega), f15, q9e]
      · (try simp (disch := omega) only [up_a, up_e, up_j, e32, e8])
        rw [q9e]; omega
    · unfold UB at *
      (try simp (disch := omega) only [up_a, up_e, up_j, e32, e8]); exact ub'
    · (try simp (disch := omega) only [up_a, up_e, up_j, e32, e8])
      rw [kb (l + 6) ns (Or.inr ⟨by omega, by omega⟩) (by omega), f6]
      rcases hst with z | z
      · rw [if_neg (by omega)]; omega
      · rw [if_pos z.1.2.2.1]; omega
    · (try simp (disch := omega) only [up_a, up_e, up_j, e32, e8])
    · intro b j b0 b1 nb
      (repeat rw [up_ne (by omega)])
      rw [ka b j b0 b1 (by omega)]
      exact kS b j b0 b1 nb
    · refine ⟨fun b j b0 nb => ?_, fun j hj => ?_, fun j hj => ?_⟩
      · (repeat rw [up_ne (by omega)])
        rw [kb b j b0 (by omega)]
        exact kT.1 b j b0 nb
      · (try simp (disch := omega) only [up_a, up_e, up_j, e32, e8])
        rw [kb _ _ (Or.inr ⟨by omega, by omega⟩) (by omega)]
        exact kT.2.1 j hj
      · (try simp (disch := omega) only [up_a, up_e, up_j, e32, e8])
        rw [kb _ _ (Or.inr ⟨by omega, by omega⟩) (by omega)]
        exact kT.2.2 j hj
  · exact y_some (Or.inr z)
