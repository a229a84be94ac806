set_option maxRecDepth 100000
/-! STYLES: a rule, all of it -/
theorem SY.body {T : Int → Int} {n N : Int} {s : Int → List Int} {C ns na nf nsel nb nt : Int} {p q p' q' : Hp} {a l : Int} (Y : SY T n N s C ns na nf nsel nb nt p q a l) (hl5 : ∀ k, nf ≤ k → k < nsel → q (l + 5) k = nb) (h27 : p (a + 27) nb = q (l + 16) nb) (h16 : 0 ≤ q (l + 16) nb ∧ q (l + 16) nb ≤ nt)
    (hp : ∀ b j, a ≤ b → b ≤ a + 27 → ¬ (b = a ∧ j = 22) → p' b j = p b j) (hq : ∀ b j, (b = l ∨ l + 3 ≤ b ∧ b ≤ l + 22) → ¬ ((b = l ∧ j = 6) ∨ (b = l + 16 ∧ j = nb + 1)) → q' b j = q b j) (e1 : p' a 22 = nb + 1) (e2 : q' l 6 = nb + 1) (e3 : q' (l + 16) (nb + 1) = nt) : SY T n N s C ns na nsel nsel (nb + 1) nt p' q' a l := by
  obtain ⟨y1, y2, y3, y4, y5, y6, y7⟩ := Y
  have rp : ∀ k : Int, 1 ≤ k → k ≤ 27 → p' (a + k) = p (a + k) := fun k k0 k1 => funext fun j => hp _ _ (by omega) (by omega) (by omega)
  have rq : ∀ k : Int, 3 ≤ k → k ≤ 22 → k ≠ 16 → q' (l + k) = q (l + k) := fun k k0 k1 k2 => funext fun j => hq _ _ (Or.inr ⟨by omega, by omega⟩) (by omega)
  have pa : ∀ j, j ≠ 22 → p' a j = p a j := fun j hj => hp _ _ (by omega) (by omega) (by omega)
  have ql : ∀ j, j ≠ 6 → q' l j = q l j := fun j hj => hq _ _ (Or.inl rfl) (by omega)
  have q16 : ∀ j, j ≠ nb + 1 → q' (l + 16) j = q (l + 16) j := fun j hj => hq _ _ (Or.inr ⟨by omega, by omega⟩) (by omega)
  refine ⟨?_, ?_, ?_, ?_, ?_, ?_, ?_⟩
  · unfold syN at *
    rw [rp 11 (by decide) (by decide)]
    exact ⟨y1.1.kept (fun b b0 b1 => by have := rp (b - a) (by omega) (by omega); rwa [show a + (b - a) = b by omega] at this), y1.2⟩
  · unfold syC at *
    rw [ql 8 (by decide), rq 21 (by decide) (by decide) (by decide), rq 22 (by decide) (by decide) (by decide)]
    obtain ⟨c1, c2, s, c3, c4⟩ := y2
    exact ⟨c1, c2, s, c3.kept (fun b b0 b1 => by have := rp (b - a) (by omega) (by omega); rwa [show a + (b - a) = b by omega] at this), c4⟩
  · unfold syS at *
    rw [pa 6 (by decide), ql 4 (by decide), rp 13 (by decide) (by decide), rp 14 (by decide) (by decide), rp 15 (by decide) (by decide), rq 6 (by decide) (by decide) (by decide), rq 7 (by decide) (by decide) (by decide), rq 8 (by decide) (by decide) (by decide), rq 9 (by decide) (by decide) (by decide)]
    exact y3
  · unfold syA at *
    rw [pa 11 (by decide), ql 5 (by decide), rp 11 (by decide) (by decide), rp 12 (by decide) (by decide), rp 16 (by decide) (by decide), rp 17 (by decide) (by decide), rp 18 (by decide) (by decide), rp 19 (by decide) (by decide), rq 10 (by decide) (by decide) (by decide), rq 11 (by decide) (by decide) (by decide), rq 12 (by decide) (by decide) (by decide), rq 13 (by decide) (by decide) (by decide), rq 14 (by decide) (by decide) (by decide), rq 15 (by decide) (by decide) (by decide)]
    exact y4
  · unfold syL at *
    rw [pa 15 (by decide), ql 3 (by decide), rp 20 (by decide) (by decide), rp 21 (by decide) (by decide), rp 22 (by decide) (by decide), rq 4 (by decide) (by decide) (by decide), rq 5 (by decide) (by decide) (by decide), rq 6 (by decide) (by decide) (by decide), rq 9 (by decide) (by decide) (by decide)]
    obtain ⟨c1, c2, c3, c4, c5, c6⟩ := y5
    refine ⟨c1, c2, c3, c4, c5, fun k k0 k1 => ?_⟩
    obtain ⟨d1, d2, d3, d4, d5, d6, d7, d8, d9⟩ := c6 k k0 k1
    refine ⟨d1, d2, d3, d4, d5, d6, by omega, fun _ => ?_, fun z => by omega⟩
    by_cases hk : k < nf
    · have := d8 hk; exact ⟨this.1, by omega⟩
    · have x1 := d9 (by omega)
      have x2 := hl5 k (by omega) k1
      exact ⟨by rw [x1, x2], by omega⟩
  · unfold syD at *
    rw [pa 20 (by decide), ql 7 (by decide), rp 11 (by decide) (by decide), rp 12 (by decide) (by decide), rp 27 (by decide) (by decide), rp 23 (by decide) (by decide), rp 24 (by decide) (by decide), rp 25 (by decide) (by decide), rp 26 (by decide) (by decide), rq 17 (by decide) (by decide) (by decide), rq 18 (by decide) (by decide) (by decide), rq 19 (by decide) (by decide) (by decide), rq 20 (by decide) (by decide) (by decide)]
    obtain ⟨c1, c2, c3, c4, c5, c6, c7, c8, c9, c10, c11⟩ := y6
    refine ⟨e1, e2, c3, c4, by omega, c6, c7, fun k k0 k1 => ?_, fun k k0 k1 => ?_, by rw [q16 0 (by omega)]; exact c10, c11⟩
    · rw [q16 k (by omega)]
      by_cases hk : k = nb
      · rw [hk]; exact h27
      · exact c8 k k0 (by omega)
    · rw [q16 k (by omega)]
      by_cases hk : k = nb
      · rw [hk, e3]; exact ⟨h16.1, h16.2, Int.le_refl _⟩
      · rw [q16 (k + 1) (by omega)]; exact c9 k k0 (by omega)
  · unfold pgO at *
    rw [pa 23 (by decide), pa 24 (by decide), pa 25 (by decide), pa 26 (by decide), pa 27 (by decide), pa 28 (by decide), rq 3 (by decide) (by decide) (by decide)]
    exact y7
/-- the reference tells its selectors their body -/
theorem t_bodies {h1 h2 hc ht : Hp} {n : Int} {B T : Int → Int} {a l : Int} {p q : Hp} {i nf nsel nb : Int} (hl : l ∈ in_aX22) (S : SS h1 h2 n B T a l p q i i hc ht) (e3 : q l 3 = nsel) (e6 : q l 6 = nb) (f0 : 0 ≤ nf) (f1 : nf ≤ nsel) (s1 : nsel ≤ 120) :
    ∃ ht' q', SS h1 h2 n B T a l p q' i i hc ht' ∧ (∀ b j, (b = l ∨ l + 3 ≤ b ∧ b ≤ l + 22) → ¬ (b = l + 5 ∧ nf ≤ j ∧ j < nsel) → q' b j = q b j) ∧ (∀ k, nf ≤ k → k < nsel → q' (l + 5) k = nb) ∧ lp (fun (q : Int × Hp) => m_X22_rule_l37 l q.1 q.2) (nf, ht) = lp (fun (q : Int × Hp) => m_X22_rule_l37 l q.1 q.2) (nsel, ht') := by
  have h22 := aX22 hl
  have key : ∀ (m : Nat) (x : Int) (ht q1 : Hp), nf ≤ x → x + m = nsel → SS h1 h2 n B T a l p q1 i i hc ht → (∀ b j, (b = l ∨ l + 3 ≤ b ∧ b ≤ l + 22) → ¬ (b = l + 5 ∧ nf ≤ j ∧ j < nsel) → q1 b j = q b j) → (∀ k, nf ≤ k → k < x → q1 (l + 5) k = nb) → ∃ ht' q', SS h1 h2 n B T a l p q' i i hc ht' ∧ (∀ b j, (b = l ∨ l + 3 ≤ b ∧ b ≤ l + 22) → ¬ (b = l + 5 ∧ nf ≤ j ∧ j < nsel) → q' b j = q b j) ∧ (∀ k, nf ≤ k → k < nsel → q' (l + 5) k = nb) ∧ lp (fun (q : Int × Hp) => m_X22_rule_l37 l q.1 q.2) (x, ht) = lp (fun (q : Int × Hp) => m_X22_rule_l37 l q.1 q.2) (nsel, ht') := by
    intro m
    induction m with
    | zero =>
      intro x ht q1 x0 x1 S1 f g
      have : x = nsel := by omega
      subst this
      exact ⟨ht, q1, S1, f, g, rfl⟩
    | succ m ih =>
      intro x ht q1 x0 x1 S1 f g
      have r3 : ht l 3 = nsel := by rw [S1.pR (Or.inl rfl), f _ _ (Or.inl rfl) (by omega)]; exact e3
      have r6 : ht l 6 = nb := by rw [S1.pR (Or.inl rfl), f _ _ (Or.inl rfl) (by omega)]; exact e6
      have S2 := S1.putR (b := l + 5) (j := x) (v := nb) hl (Or.inr ⟨by omega, by omega⟩) (by unfold stW2; omega)
      obtain ⟨ht', q', z1, z2, z3, z4⟩ := ih (x + 1) _ _ (by omega) (by omega) S2 (fun b j b0 nb => by rw [up_ne (by omega)]; exact f b j b0 nb) (fun k k0 k1 => by
        by_cases hk : k = x
        · rw [hk, up_e rfl rfl]
        · rw [up_j hk]; exact g k k0 (by omega))
      refine ⟨ht', q', z1, z2, z3, ?_⟩
      rw [lp_eq]
      have : m_X22_rule_l37 l x ht = some (.inl (x + 1, up ht (l + 5) x nb)) := by
        unfold m_X22_rule_l37 gd pt lt_
        simp only [g_X22_10 S1.2.1.1 hl, r3, r6]
        rw [if_neg (by omega), if_pos (by omega), e32 (by omega) (by omega)]
      dsimp only
      rw [this]
      exact z4
  exact key (nsel - nf).toNat nf ht q (Int.le_refl _) (by omega) S (fun _ _ _ _ => rfl) (fun k k0 k1 => by omega)
/-- between rules -/
def TI (h1 h2 : Hp) (n : Int) (B T : Int → Int) (a l : Int) (i : Int) (hc ht : Hp) : Prop :=
  ∃ p q N s C ns na nsel nb nt, SS h1 h2 n B T a l p q i i hc ht ∧ SY T n N s C ns na nsel nsel nb nt p q a l ∧ UB p a i ∧ SelQ ns na nsel q l ∧ q (l + 16) nb = nt ∧ nb ≤ nsel
def TO (h1 h2 : Hp) (n : Int) (B T : Int → Int) (a l i : Int) (rc rt : (Int × Int) × Hp) : Prop :=
  ∃ i', rc.1 = (0, 0) ∧ rt.1 = (0, 0) ∧ i < i' ∧ TI h1 h2 n B T a l i' rc.2 rt.2
theorem y_rule {h1 h2 hc ht : Hp} {n : Int} {B T : Int → Int} {a l i : Int} (ha : a ∈ in_aX3) (hl : l ∈ in_aX22) (I : TI h1 h2 n B T a l i hc ht) :
    Pr (m_X3_rule a 3 hc) (m_X22_rule l ht) (fun rc rt => TO h1 h2 n B T a l i rc rt ∨ BO h1 h2 n a l rc rt) := by
  have h3 := aX3 ha
  have h22 := aX22 hl
  obtain ⟨p, q, N, s, C, ns, na, nsel, nb, nt, S, Y, ub, sq, e16, nbs⟩ := I
  have nb0 := Y.2.2.2.2.2.1.2.2.2.2.1
  have nt0 := Y.2.2.2.2.2.1.2.2.2.2.2.1
  have s120 := Y.2.2.2.2.1.2.2.2.1
  have s0 := Y.2.2.2.2.1.2.2.1
  have c22 : hc a 22 = nb := by rw [S.pL (by omega) (by omega)]; exact Y.2.2.2.2.2.1.1
  have c20 : hc a 20 = nt := by rw [S.pL (by omega) (by omega)]; exact Y.2.2.2.2.2.1.2.2.1
  have r3 : ht l 3 = nsel := by rw [S.pR (Or.inl rfl)]; exact Y.2.2.2.2.1.2.1
  unfold m_X3_rule m_X22_rule
  simp only [g_X3_21 S.1.1 ha, c22, c20, r3]
  refine yl_gd (by omega) (yl_pt (yl_lt (yr_lt ?_)))
  have S1 := S.putL (b := a + 27) (j := nb) (v := nt) ha (by omega) (by unfold scW; omega)
  have Y1 : SY T n N s C ns na nsel nsel nb nt (up p (a + 27) nb nt) q a l := by
    obtain ⟨y1, y2, y3, y4, y5, y6, y7⟩ := Y
    have rp : ∀ k : Int, 0 ≤ k → k ≤ 26 → up p (a + 27) nb nt (a + k) = p (a + k) := fun k k0 k1 => up_row (by omega)
    have ra : up p (a + 27) nb nt a = p a := up_row (by omega)
    refine ⟨?_, ?_, ?_, ?_, ?_, ?_, ?_⟩
    · unfold syN at *
      rw [rp 11 (by decide) (by decide)]
      exact ⟨y1.1.kept (fun b b0 b1 => up_row (by omega)), y1.2⟩
    · unfold syC at *
      obtain ⟨c1, c2, s, c3, c4⟩ := y2
      exact ⟨c1, c2, s, c3.kept (fun b b0 b1 => up_row (by omega)), c4⟩
    · unfold syS at *
      rw [ra, rp 13 (by decide) (by decide), rp 14 (by decide) (by decide), rp 15 (by decide) (by decide)]
      exact y3
    · unfold syA at *
      rw [ra, rp 11 (by decide) (by decide), rp 12 (by decide) (by decide), rp 16 (by decide) (by decide), rp 17 (by decide) (by decide), rp 18 (by decide) (by decide), rp 19 (by decide) (by decide)]
      exact y4
    · unfold syL at *
      rw [ra, rp 20 (by decide) (by decide), rp 21 (by decide) (by decide), rp 22 (by decide) (by decide)]
      exact y5
    · unfold syD at *
      rw [ra, rp 11 (by decide) (by decide), rp 12 (by decide) (by decide), rp 23 (by decide) (by decide), rp 24 (by decide) (by decide), rp 25 (by decide) (by decide), rp 26 (by decide) (by decide)]
      obtain ⟨c1, c2, c3, c4, c5, c6, c7, c8, c9, c10, c11⟩ := y6
      exact ⟨c1, c2, c3, c4, c5, c6, c7, fun k k0 k1 => by rw [up_j (by omega)]; exact c8 k k0 k1, c9, c10, c11⟩
    · unfold pgO at *
      rw [ra]
      exact y7
  have g0 := S.ge
  have R0 : RI h1 h2 n B T a l (up p (a + 27) nb nt) q C nsel nb nt i i nsel (up hc (a + 27) nb nt) ht := ⟨_, _, N, s, ns, na, S1, Y1, by
    unfold UB at *
    (try simp (disch := omega) only [up_a, up_e, up_j, e32, e8]); exact ub, sq, fun _ _ _ _ _ => rfl, fun _ _ _ _ => rfl, Int.le_refl _, Int.le_refl _⟩
  have sels := y_sels ha hl _ i nsel _ ht (Nat.lt_succ_self _) R0
  obtain ⟨x, y, e1, e2, d⟩ := sels
  -- the right one's two ways of writing it
  have right : ∀ {α : Type} {o : Option α} {F : Hp → Option ((Int × Int) × Hp)} {Q : α → _ → Prop}, Pr o ((some y).bind (sE F (fun x => some x))) Q → Pr o (bT (m_X22_selector l ht) (fun _ h6 => (lp (fun (q : Hp) => m_X22_rule_l9 l q) h6).bind (sE F (fun (x : (Int × Int) × Hp) => some x))) (fun a_ h_ => some ((1, a_), h_))) Q := by
    intro α o F Q hQ
    have : bT (m_X22_selector l ht) (fun _ h6 => (lp (fun (q : Hp) => m_X22_rule_l9 l q) h6).bind (sE F (fun (x : (Int × Int) × Hp) => some x))) (fun a_ h_ => some ((1, a_), h_)) = (bT (m_X22_selector l ht) (fun _ h6 => lp (fun (q : Hp) => m_X22_rule_l9 l q) h6) (fun a_ h_ => some (.inr ((1, a_), h_)))).bind (sE F (fun x => some x)) := by
      unfold bT
      cases m_X22_selector l ht with
      | none => rfl
      | some w =>
        simp only [Option.bind_some]
        by_cases hw : w.1.1 = 0
        · rw [if_pos hw, if_pos hw]
        · rw [if_neg hw, if_neg hw]; rfl
    rw [this, e2]; exact hQ
  rw [e1]
  refine right ?_
  rw [Option.bind_some, Option.bind_some]
  rcases d with ⟨i1, nsel1, hc1, ht1, rfl, rfl, hi1, hns, p1, q1, N1, s1, ns1, na1, S2, Y2, ub2, sq2, kr, kq, -, -⟩ | ⟨rc, rt, rfl, rfl, z⟩
  · simp only [sE]
    have g1 := S2.ge
    obtain ⟨ht2, q2, S3, f3, f4, f5⟩ := t_bodies (nf := nsel) (nb := nb) hl S2 Y2.2.2.2.2.1.2.1 Y2.2.2.2.2.2.1.2.1 (by omega) (by omega) Y2.2.2.2.2.1.2.2.2.1
    rw [f5]
    have s121 := Y2.2.2.2.2.1.2.2.2.1
    have Y3 : SY T n N1 s1 C ns1 na1 nsel nsel1 nb nt p1 q2 a l := by
      obtain ⟨y1, y2, y3, y4, y5, y6, y7⟩ := Y2
      have rq : ∀ k : Int, 3 ≤ k → k ≤ 22 → k ≠ 5 → q2 (l + k) = q1 (l + k) := fun k k0 k1 k2 => funext fun j => f3 _ _ (Or.inr ⟨by omega, by omega⟩) (by omega)
      have rl : q2 l = q1 l := funext fun j => f3 _ _ (Or.inl rfl) (by omega)
      refine ⟨y1, ?_, ?_, ?_, ?_, ?_, ?_⟩
      · unfold syC at *
        rw [rl, rq 21 (by decide) (by decide) (by decide), rq 22 (by decide) (by decide) (by decide)]; exact y2
      · unfold syS at *
        rw [rl, rq 6 (by decide) (by decide) (by decide), rq 7 (by decide) (by decide) (by decide), rq 8 (by decide) (by decide) (by decide), rq 9 (by decide) (by decide) (by decide)]; exact y3
      · unfold syA at *
        rw [rl, rq 10 (by decide) (by decide) (by decide), rq 11 (by decide) (by decide) (by decide), rq 12 (by decide) (by decide) (by decide), rq 13 (by decide) (by decide) (by decide), rq 14 (by decide) (by decide) (by decide), rq 15 (by decide) (by decide) (by decide)]; exact y4
      · unfold syL at *
        rw [rl, rq 4 (by decide) (by decide) (by decide), rq 6 (by decide) (by decide) (by decide), rq 9 (by decide) (by decide) (by decide)]
        obtain ⟨c1, c2, c3, c4, c5, c6⟩ := y5
        refine ⟨c1, c2, c3, c4, c5, fun k k0 k1 => ?_⟩
        obtain ⟨d1, d2, d3, d4, d5, d6, d7, d8, d9⟩ := c6 k k0 k1
        exact ⟨d1, d2, d3, d4, d5, d6, d7, fun z => by rw [f3 _ _ (Or.inr ⟨by omega, by omega⟩) (by omega)]; exact d8 z, d9⟩
      · unfold syD at *
        rw [rl, rq 16 (by decide) (by decide) (by decide), rq 17 (by decide) (by decide) (by decide), rq 18 (by decide) (by decide) (by decide), rq 19 (by decide) (by decide) (by decide), rq 20 (by decide) (by decide) (by decide)]; exact y6
      · unfold pgO at *
        rw [rq 3 (by decide) (by decide) (by decide)]; exact y7
    have r3' : ht2 l 3 = nsel1 := by rw [S3.pR (Or.inl rfl)]; exact Y3.2.2.2.2.1.2.1
    -- the body
    have bodyR : ∀ {α : Type} {o : Option α} {Q : α → _ → Prop}, Pr o (m_X22_body l ht2) (fun x y => Q x y ∧ (y.1 = (0, 0) ∨ y.1.1 = 1)) → Pr o ((lp (fun (q : Int × Hp) => m_X22_rule_l37 l q.1 q.2) (nsel1, ht2)).bind (fun (x : (Int × Int) × Hp) => some x)) Q := by
      rintro α o Q ⟨x, y, k1, k2, k3, k4⟩
      refine ⟨x, y, k1, ?_, k3⟩
      rw [lp_eq]
      have : m_X22_rule_l37 l nsel1 ht2 = some (.inr y) := by
        unfold m_X22_rule_l37
        rw [r3', if_pos (Int.le_refl _)]
        unfold bT
        rw [k2, Option.bind_some]
        obtain ⟨⟨y1, y2⟩, y3⟩ := y
        dsimp only at k4 ⊢
        rcases k4 with k4 | k4
        · have e1 := congrArg Prod.fst k4
          have e2 := congrArg Prod.snd k4
          dsimp only at e1 e2
          rw [e1, e2, if_pos rfl]
        · rw [k4, if_neg (by decide)]
      dsimp only
      rw [this]
      rfl
    refine bodyR ?_
    unfold m_X22_body
    simp only [g_X2 S3.1.1, g_X22_1 S3.2.1.1 hl]
    refine yl_gd trivial (yr_gd trivial ?_)
    by_cases t1 : (tk B i1).1 = 4 ∧ (tk B i1).2.2.2 = 123
    · refine L_need1 ha S3 t1 (fun hc3 S4 => R_need1 S4 (by decide) t1 (fun ht3 S5 => ?_))
      have g5 := S5.ge
      have lt1 := tk_lt4 t1.1
      have bl := y_bodyloop (nb := nb) ha hl ⟨nb0, by omega⟩ (show BI h1 h2 n B T a l p1 q2 N1 s1 C ns1 na1 nsel nsel1 nb nt (nx B i1) hc3 ht3 from ⟨p1, q2, C, nt, nx B i1, S5, Y3, by
        obtain ⟨u1, u2, u3, u4⟩ := ub2
        exact ⟨by omega, by omega, by omega, by omega⟩, Int.le_refl _, Int.le_refl _, fun _ _ _ _ _ => rfl, fun _ _ _ _ => rfl, Int.le_refl _⟩)
      refine y_bind (y_mono bl (fun x y hxy => ?_))
      rcases hxy with ⟨p4, q4, C', nt', i4, hc4, ht4, rfl, rfl, S6, t4, Y4, ub4, hnt, kd, ke, hi4⟩ | ⟨rt, rfl, z⟩
      · simp only [sE]
        have g6 := S6.ge
        have gR := S6.geR
        have lt4 := tk_lt4 t4
        simp only [g_X22_1 S6.2.1.1 hl]
        refine yr_gd trivial (R_next S6 (by omega) (fun ht5 S7 => ?_))
        have l6 : ht5 l 6 = nb := by rw [S7.pR (Or.inl rfl)]; exact Y4.2.2.2.2.2.1.2.1
        have l7 : ht5 l 7 = nt' := by rw [S7.pR (Or.inl rfl)]; exact Y4.2.2.2.2.2.1.2.2.2.1
        rw [l6, e32 (by omega) (by omega)]
        refine yr_pt ?_
        have S8 := S7.putR (b := l) (j := 6) (v := nb + 1) hl (Or.inl rfl) (by unfold stW2; omega)
        simp only [g_X22_21 S8.2.1.1 hl, up_s, up_j (show (7 : Int) ≠ 6 by decide), l7]
        refine yr_gd (by omega) (yr_pt ?_)
        have S9 := (S8.putR (b := l + 16) (j := nb + 1) (v := nt') hl (Or.inr ⟨by omega, by omega⟩) (by unfold stW2; omega)).putL (b := a) (j := 22) (v := nb + 1) ha (by omega) (by unfold scW; omega)
        have q16 : q4 (l + 16) nb = nt := by
          rw [ke _ _ (Or.inr ⟨by omega, by omega⟩) (by omega), f3 _ _ (Or.inr ⟨by omega, by omega⟩) (by omega), kq _ _ (Or.inr ⟨by omega, by omega⟩) (by omega)]; exact e16
        have p27 : p4 (a + 27) nb = nt := by
          rw [kd _ _ (by omega) (by omega) (by omega), kr _ _ (by omega) (by omega) (by omega)]; (try simp (disch := omega) only [up_a, up_e, up_j, e32, e8])
        obtain ⟨sq21, sq22, sq23, sq24⟩ := sq2
        refine y_some ⟨Or.inl ⟨nx B i4, rfl, rfl, by omega, _, _, N1, s1, C', ns1, na1, nsel1, nb + 1, nt', S9, Y4.body (fun k k0 k1 => by rw [ke _ _ (Or.inr ⟨by omega, by omega⟩) (by omega)]; exact f4 k k0 k1) (by rw [p27, q16]) (by rw [q16]; omega) (fun b j b0 b1 nb => by (repeat rw [up_ne (by omega)])) (fun b j b0 nb => by (repeat rw [up_ne (by omega)])) (by (try simp (disch := omega) only [up_a, up_e, up_j, e32, e8]) <;> omega) (by (try simp (disch := omega) only [up_a, up_e, up_j, e32, e8]) <;> omega) (by (try simp (disch := omega) only [up_a, up_e, up_j, e32, e8]) <;> omega), ?_, ⟨?_, ?_, sq23, sq24⟩, (by (try simp (disch := omega) only [up_a, up_e, up_j, e32, e8]) <;> omega), by omega⟩, Or.inl rfl⟩
        · obtain ⟨u1, u2, u3, u4⟩ := ub4
          refine ⟨?_, ?_, ?_, ?_⟩ <;> (try simp (disch := omega) only [up_a, up_e, up_j, e32, e8]) <;> omega
        · (try simp (disch := omega) only [up_a, up_e, up_j, e32, e8])
          rw [ke _ _ (Or.inr ⟨by omega, by omega⟩) (by omega), f3 _ _ (Or.inr ⟨by omega, by omega⟩) (by omega)]; exact sq21
        · (try simp (disch := omega) only [up_a, up_e, up_j, e32, e8])
          rw [ke _ _ (Or.inr ⟨by omega, by omega⟩) (by omega), f3 _ _ (Or.inr ⟨by omega, by omega⟩) (by omega)]; exact sq22
      · exact y_some ⟨Or.inr z, Or.inr z.r1.2⟩
    · exact L_need0 S3 t1 (fun b h' z => R_need0 S3 (by decide) t1 (fun b' h'' z' => y_some ⟨Or.inr (ss_thr ha hl S3 ⟨by omega, by omega⟩ z z'), Or.inr rfl⟩))
  · simp only [sE]
    exact y_some (Or.inr z)
