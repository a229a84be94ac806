set_option maxRecDepth 100000
/-! STYLES: what is asked of elements -/
theorem stO.mono {U U' T : Int → Int} {n m m' f k x e : Int} (h : stO U T n m f k x e) (hm : m ≤ m') (hU : ∀ j, 0 ≤ j → j < m → U' j = U j) : stO U' T n m' f k x e := by
  obtain ⟨a1, a2, a3, a4, a5, a6, a7⟩ := h
  exact ⟨a1, a2, by omega, a4, a5, a6, fun y y0 y1 => by rw [hU _ (by omega) (by omega)]; exact a7 y y0 y1⟩
theorem askO.mono {N : Int} {s : Int → List Int} {U U' T : Int → Int} {n m m' kd nm f z ts x e tp te nu : Int} (h : askO N s U T n m kd nm f z ts x e tp te nu) (hm : m ≤ m') (hU : ∀ j, 0 ≤ j → j < m → U' j = U j) : askO N s U' T n m' kd nm f z ts x e tp te nu := by
  obtain ⟨a1, a2, a3, a4, a5, a6⟩ := h
  exact ⟨a1, a2, a3, a4, fun z => (a5 z).mono hm hU, a6⟩
theorem declO.mono {C : Int} {U U' T : Int → Int} {n m m' x v z sh x' v' lb le : Int} (h : declO C U T n m x v z sh x' v' lb le) (hm : m ≤ m') (hU : ∀ j, 0 ≤ j → j < m → U' j = U j) : declO C U' T n m' x v z sh x' v' lb le := by
  obtain ⟨a1, a2, a3, a4, a5, a6⟩ := h
  exact ⟨a1, a2, a3, a4, fun y => (a5 y).imp id (fun w => ⟨w.1, w.2.1.mono hm hU, w.2.2⟩), a6⟩
theorem q_ask {h : Hp} {a na kd nm f z : Int} (hL : LAY h) (ha : a ∈ in_aX3) (e : h a 11 = na) (n0 : 0 ≤ na) (n1 : na < 3840) : m_X3_ask a kd nm f z h = some (up (up (up (up (up h (a + 16) na kd) (a + 17) na nm) (a + 18) na f) (a + 19) na z) a 11 (na + 1)) := by
  have h3 := aX3 ha
  have key : Pz (m_X3_ask a kd nm f z h) (fun r => r = up (up (up (up (up h (a + 16) na kd) (a + 17) na nm) (a + 18) na f) (a + 19) na z) a 11 (na + 1)) := by
    unfold m_X3_ask
    try simp (disch := omega) only [up_a, up_e, up_j, e32, e8, ly_X3 hL ha, e]
    repeat' first
      | with_reducible refine z_lt ?_
      | (with_reducible refine z_pt ?_; try simp (disch := omega) only [up_a, up_e, up_j, e32, e8, ly_X3 hL ha, e])
      | with_reducible refine z_some ?_
      | with_reducible refine z_gd (by (try simp (disch := omega) only [up_a, up_e, up_j, e32, e8, ly_X3 hL ha, e]) <;> omega) ?_
      | with_reducible refine z_brk (by assumption) (fun b h1 z => ?_)
      | with_reducible refine z_it (by first | decide | omega) ?_
      | with_reducible refine z_ie (by first | decide | omega) ?_
      | with_reducible refine z_if (fun hq => ?_) (fun hq => ?_)
      | with_reducible refine zc_sm (fun hq => ?_) (fun hq => ?_)
      | with_reducible refine zc_dg (fun hq => ?_) (fun hq => ?_)
      | with_reducible refine zc_bl (fun hq => ?_) (fun hq => ?_)
      | with_reducible refine zt_sm (fun hq => ?_) (fun hq => ?_)
      | with_reducible refine zt_dg (fun hq => ?_) (fun hq => ?_)
      | with_reducible refine zt_bl (fun hq => ?_) (fun hq => ?_)
    rfl
  obtain ⟨r, e1, e2⟩ := key
  rw [e1, e2]
theorem SY.ask {T : Int → Int} {n N : Int} {s : Int → List Int} {C ns na nf nsel nb nt : Int} {p q p' q' : Hp} {a l : Int} (Y : SY T n N s C ns na nf nsel nb nt p q a l)
    (hp : ∀ b j, a ≤ b → b ≤ a + 27 → ¬ ((b = a ∧ j = 11) ∨ (a + 16 ≤ b ∧ b ≤ a + 19 ∧ j = na) ∨ (b = a + 11 ∧ j = 1) ∨ (b = a + 12 ∧ p (a + 11) 1 ≤ j)) → p' b j = p b j) (hm : p (a + 11) 1 ≤ p' (a + 11) 1 ∧ p' (a + 11) 1 ≤ 16384)
    (hq : ∀ b j, (b = l ∨ l + 3 ≤ b ∧ b ≤ l + 22) → ¬ ((b = l ∧ j = 5) ∨ (l + 10 ≤ b ∧ b ≤ l + 15 ∧ j = na)) → q' b j = q b j) (e1 : p' a 11 = na + 1) (e2 : q' l 5 = na + 1)
    (hask : askO N s (p' (a + 12)) T n (p' (a + 11) 1) (p' (a + 16) na) (p' (a + 17) na) (p' (a + 18) na) (p' (a + 19) na) (q' (l + 10) na) (q' (l + 11) na) (q' (l + 12) na) (q' (l + 13) na) (q' (l + 14) na) (q' (l + 15) na)) :
    SY T n N s C ns (na + 1) nf nsel nb nt p' q' a l := by
  obtain ⟨y1, y2, y3, y4, y5, y6, y7⟩ := Y
  have rp : ∀ k : Int, 1 ≤ k → k ≤ 27 → k ≠ 11 → k ≠ 12 → (k < 16 ∨ 19 < k) → p' (a + k) = p (a + k) := fun k k0 k1 k2 k3 k4 => funext fun j => hp _ _ (by omega) (by omega) (by omega)
  have rq : ∀ k : Int, 3 ≤ k → k ≤ 22 → (k < 10 ∨ 15 < k) → q' (l + k) = q (l + k) := fun k k0 k1 k2 => funext fun j => hq _ _ (Or.inr ⟨by omega, by omega⟩) (by omega)
  have pa : ∀ j, j ≠ 11 → p' a j = p a j := fun j hj => hp _ _ (by omega) (by omega) (by omega)
  have ql : ∀ j, j ≠ 5 → q' l j = q l j := fun j hj => hq _ _ (Or.inl rfl) (by omega)
  have U : ∀ j, 0 ≤ j → j < p (a + 11) 1 → p' (a + 12) j = p (a + 12) j := fun j j0 j1 => hp _ _ (by omega) (by omega) (by omega)
  refine ⟨?_, ?_, ?_, ?_, ?_, ?_, ?_⟩
  · unfold syN at *
    exact ⟨y1.1.kept (fun b b0 b1 => by have := rp (b - a) (by omega) (by omega) (by omega) (by omega) (by omega); rwa [show a + (b - a) = b by omega] at this), by omega, by omega⟩
  · unfold syC at *
    rw [ql 8 (by decide), rq 21 (by decide) (by decide) (by decide), rq 22 (by decide) (by decide) (by decide)]
    obtain ⟨c1, c2, s, c3, c4⟩ := y2
    exact ⟨c1, c2, s, c3.kept (fun b b0 b1 => by have := rp (b - a) (by omega) (by omega) (by omega) (by omega) (by omega); rwa [show a + (b - a) = b by omega] at this), c4⟩
  · unfold syS at *
    rw [pa 6 (by decide), ql 4 (by decide), rp 13 (by decide) (by decide) (by decide) (by decide) (by decide), rp 14 (by decide) (by decide) (by decide) (by decide) (by decide), rp 15 (by decide) (by decide) (by decide) (by decide) (by decide), rq 6 (by decide) (by decide) (by decide), rq 7 (by decide) (by decide) (by decide), rq 8 (by decide) (by decide) (by decide), rq 9 (by decide) (by decide) (by decide)]
    exact y3
  · unfold syA at *
    obtain ⟨c1, c2, c3, c4⟩ := y4
    refine ⟨e1, e2, by omega, fun k k0 k1 => ?_⟩
    by_cases hk : k = na
    · subst hk; exact hask
    · have P : ∀ x : Int, 16 ≤ x → x ≤ 19 → p' (a + x) k = p (a + x) k := fun x x0 x1 => hp _ _ (by omega) (by omega) (by omega)
      have Q : ∀ x : Int, 10 ≤ x → x ≤ 15 → q' (l + x) k = q (l + x) k := fun x x0 x1 => hq _ _ (Or.inr ⟨by omega, by omega⟩) (by omega)
      rw [P 16 (by decide) (by decide), P 17 (by decide) (by decide), P 18 (by decide) (by decide), P 19 (by decide) (by decide), Q 10 (by decide) (by decide), Q 11 (by decide) (by decide), Q 12 (by decide) (by decide), Q 13 (by decide) (by decide), Q 14 (by decide) (by decide), Q 15 (by decide) (by decide)]
      exact (c4 k k0 (by omega)).mono hm.1 U
  · unfold syL at *
    rw [pa 15 (by decide), ql 3 (by decide), rp 20 (by decide) (by decide) (by decide) (by decide) (by decide), rp 21 (by decide) (by decide) (by decide) (by decide) (by decide), rp 22 (by decide) (by decide) (by decide) (by decide) (by decide), rq 4 (by decide) (by decide) (by decide), rq 5 (by decide) (by decide) (by decide), rq 6 (by decide) (by decide) (by decide), rq 9 (by decide) (by decide) (by decide)]
    exact y5
  · unfold syD at *
    rw [pa 22 (by decide), ql 6 (by decide), pa 20 (by decide), ql 7 (by decide), rp 27 (by decide) (by decide) (by decide) (by decide) (by decide), rp 23 (by decide) (by decide) (by decide) (by decide) (by decide), rp 24 (by decide) (by decide) (by decide) (by decide) (by decide), rp 25 (by decide) (by decide) (by decide) (by decide) (by decide), rp 26 (by decide) (by decide) (by decide) (by decide) (by decide), rq 16 (by decide) (by decide) (by decide), rq 17 (by decide) (by decide) (by decide), rq 18 (by decide) (by decide) (by decide), rq 19 (by decide) (by decide) (by decide), rq 20 (by decide) (by decide) (by decide)]
    obtain ⟨c1, c2, c3, c4, c5, c6, c7, c8, c9, c10, c11⟩ := y6
    exact ⟨c1, c2, c3, c4, c5, c6, c7, c8, c9, c10, fun k k0 k1 => (c11 k k0 k1).mono hm.1 U⟩
  · unfold pgO at *
    rw [pa 23 (by decide), pa 24 (by decide), pa 25 (by decide), pa 26 (by decide), pa 27 (by decide), pa 28 (by decide), rq 3 (by decide) (by decide) (by decide)]
    exact y7
/-- room for names and strings -/
def UB (p : Hp) (a i : Int) : Prop := p (a + 1) 1 ≤ i ∧ p (a + 1) 3 ≤ i ∧ p (a + 6) 1 ≤ i ∧ p (a + 11) 1 ≤ i
/-- what an ask leaves as it is -/
def KA (a : Int) (p p' : Hp) : Prop := ∀ b j, a ≤ b → b ≤ a + 27 → ¬ ((a + 1 ≤ b ∧ b ≤ a + 5) ∨ (b = a ∧ j = 11) ∨ (a + 16 ≤ b ∧ b ≤ a + 19) ∨ b = a + 11 ∨ b = a + 12) → p' b j = p b j
def KB (l : Int) (q q' : Hp) : Prop := ∀ b j, (b = l ∨ l + 3 ≤ b ∧ b ≤ l + 22) → ¬ ((b = l ∧ j = 5) ∨ (l + 10 ≤ b ∧ b ≤ l + 15)) → q' b j = q b j
/-- an ask is read by both -/
def AO (h1 h2 : Hp) (n : Int) (B T : Int → Int) (a l : Int) (p0 q0 : Hp) (N0 : Int) (s0 : Int → List Int) (C ns na nf nsel nb nt i : Int) (rc rt : (Int × Int) × Hp) : Prop :=
  (∃ p q N s i', rc.1 = (0, 0) ∧ rt.1 = (0, 0) ∧ i ≤ i' ∧ SS h1 h2 n B T a l p q i' i' rc.2 rt.2 ∧ SY T n N s C ns (na + 1) nf nsel nb nt p (up q l 5 (na + 1)) a l ∧ q l 5 = na ∧ UB p a i' ∧ N0 ≤ N ∧ (∀ x, 0 ≤ x → x < N0 → s x = s0 x) ∧ KA a p0 p ∧ KB l q0 q) ∨ BO h1 h2 n a l rc rt
