set_option maxRecDepth 100000
/-! STYLES: rules -/
def KR (a : Int) (p p' : Hp) : Prop := ∀ b j, a ≤ b → b ≤ a + 27 → ¬ ((a + 1 ≤ b ∧ b ≤ a + 5) ∨ (b = a ∧ (j = 6 ∨ j = 11 ∨ j = 15)) ∨ (a + 11 ≤ b ∧ b ≤ a + 22)) → p' b j = p b j
def KQ (l : Int) (q q' : Hp) : Prop := ∀ b j, (b = l ∨ l + 3 ≤ b ∧ b ≤ l + 22) → ¬ ((b = l ∧ (j = 3 ∨ j = 4 ∨ j = 5)) ∨ b = l + 4 ∨ (l + 6 ≤ b ∧ b ≤ l + 15)) → q' b j = q b j
/-- both stand before or behind selectors -/
def RI (h1 h2 : Hp) (n : Int) (B T : Int → Int) (a l : Int) (p0 q0 : Hp) (C nf nb nt i0 i nsel : Int) (hc ht : Hp) : Prop :=
  ∃ p q N s ns na, SS h1 h2 n B T a l p q i i hc ht ∧ SY T n N s C ns na nf nsel nb nt p q a l ∧ UB p a i ∧ SelQ ns na nsel q l ∧ KR a p0 p ∧ KQ l q0 q ∧ i0 ≤ i ∧ nf ≤ nsel
theorem y_sels {h1 h2 : Hp} {n : Int} {B T : Int → Int} {a l : Int} {p0 q0 : Hp} {C nf nb nt i0 : Int} (ha : a ∈ in_aX3) (hl : l ∈ in_aX22) : ∀ (m : Nat) (i nsel : Int) (hc ht : Hp), (n + 1 - i).toNat < m → RI h1 h2 n B T a l p0 q0 C nf nb nt i0 i nsel hc ht →
    Pr (lp (fun (q : Int × Hp) => m_X3_rule_l15 a 3 q.1 q.2) (1, hc)) (bT (m_X22_selector l ht) (fun _ h6 => lp (fun (q : Hp) => m_X22_rule_l9 l q) h6) (fun a_ h_ => some (.inr ((1, a_), h_))))
      (fun x y => (∃ i' nsel' hc' ht', x = .inl hc' ∧ y = .inl ht' ∧ i < i' ∧ nf < nsel' ∧ RI h1 h2 n B T a l p0 q0 C nf nb nt i0 i' nsel' hc' ht') ∨ (∃ rc rt, x = .inr rc ∧ y = .inr rt ∧ BO h1 h2 n a l rc rt)) := by
  have h3 := aX3 ha
  have h22 := aX22 hl
  intro m
  induction m with
  | zero => intro i nsel hc ht hm; omega
  | succ m ih =>
    rintro i nsel hc ht hm ⟨p, q, N, s, ns, na, S, Y, ub, sq, kr, kq, hi, hf⟩
    refine yl_turn ?_
    show Pz (m_X3_rule_l15 a 3 1 hc) _
    unfold m_X3_rule_l15
    refine z_ie (by decide) ?_
    have sel := y_selector ha hl S Y hf sq ub
    obtain ⟨rc, rt, e1, e2, z⟩ := sel
    rcases z with ⟨p1, q1, N1, s1, ns1, na1, i1, r1, r2, hi1, S1, Y1, ub1, sq1, ku, kw⟩ | z
    · rw [bT_0 e1 (by rw [r1])]
      have g1 := S1.ge
      rw [g_X2 S1.1.1]
      refine z_gd rfl (z_bW (z_mono (cs_take S1.1) (fun r z => ?_)))
      have kr1 : KR a p0 p1 := fun b j b0 b1 nb => by rw [ku b j b0 b1 (by omega)]; exact kr b j b0 b1 nb
      have kq1 : KQ l q0 q1 := fun b j b0 nb => by rw [kw b j b0 (by omega)]; exact kq b j b0 nb
      rcases z with ⟨z1, z2, z3, z4⟩ | ⟨z1, z2, z3⟩
      · -- a further one
        have S2 := S1.goL ha z3 z4
        refine z_some ?_
        show Pr (lp _ (r.1, r.2)) _ _
        rw [z1]
        -- the right one's turn
        have right : Pr (lp (fun (q : Int × Hp) => m_X3_rule_l15 a 3 q.1 q.2) (1, r.2)) (lp (fun (q : Hp) => m_X22_rule_l9 l q) rt.2) (fun x y => (∃ i' nsel' hc' ht', x = .inl hc' ∧ y = .inl ht' ∧ i < i' ∧ nf < nsel' ∧ RI h1 h2 n B T a l p0 q0 C nf nb nt i0 i' nsel' hc' ht') ∨ (∃ rc rt, x = .inr rc ∧ y = .inr rt ∧ BO h1 h2 n a l rc rt)) := by
          obtain ⟨ht3, e3, f3, c3⟩ := ts_next S2.2.1 (by omega)
          have S3 := S2.goR f3 c3
          have g3 := S3.ge
          have lt := tk_lt4 z2.1
          have tn : nx B i1 = (tk B i1).2.2.1 := rfl
          have := ih (nx B i1) (nsel + 1) r.2 ht3 (by omega) ⟨p1, q1, N1, s1, ns1, na1, S3, Y1, by
            obtain ⟨u1, u2, u3, u4⟩ := ub1
            exact ⟨by omega, by omega, by omega, by omega⟩, sq1, kr1, kq1, by omega, by omega⟩
          obtain ⟨x, y, f1, f2, f4⟩ := this
          refine ⟨x, y, f1, ?_, ?_⟩
          · rw [lp_eq]
            have tn : m_X22_rule_l9 l rt.2 = bT (m_X22_selector l ht3) (fun _ h29 => some (.inl h29)) (fun a_ h_ => some (.inr (.inr ((1, a_), h_)))) := by
              unfold m_X22_rule_l9 gd
              simp only [g_X22_1 S2.2.1.1 hl]
              rw [R_byte S1 (by decide), Option.bind_some, if_pos z2, if_pos trivial, if_neg (by decide), e3, Option.bind_some]
            rw [tn]
            unfold bT at f2 ⊢
            cases hsel : m_X22_selector l ht3 with
            | none => rw [hsel] at f2; exact absurd f2 (by simp)
            | some w =>
              rw [hsel] at f2
              simp only [Option.bind_some] at f2 ⊢
              by_cases hw : w.1.1 = 0
              · rw [if_pos hw] at f2 ⊢; exact f2
              · rw [if_neg hw] at f2 ⊢; exact f2
          · rcases f4 with ⟨i', nsel', hc', ht', x1, x2, x3, x4, x5⟩ | x
            · exact Or.inl ⟨i', nsel', hc', ht', x1, x2, by omega, x4, x5⟩
            · exact Or.inr x
        rw [bT_0 e2 (by rw [r2])]
        exact right
      · -- the last one
        refine z_some ?_
        show Pr (lp _ (r.1, r.2)) _ _
        rw [z1, z3, bT_0 e2 (by rw [r2])]
        refine yl_turn ?_
        show Pz (m_X3_rule_l15 a 3 0 rc.2) _
        unfold m_X3_rule_l15
        refine z_it rfl (z_some (yr_turn ?_))
        show Pz (m_X22_rule_l9 l rt.2) _
        unfold m_X22_rule_l9
        simp only [g_X22_1 S1.2.1.1 hl]
        rw [R_byte S1 (by decide), Option.bind_some, if_neg z2]
        exact z_gd trivial (z_it rfl (z_some (y_some (Or.inl ⟨i1, nsel + 1, _, _, rfl, rfl, hi1, by omega, p1, q1, N1, s1, ns1, na1, S1, Y1, ub1, sq1, kr1, kq1, by omega, by omega⟩))))
    · have z1 := z.r1
      rw [bT_1 e1 (by omega), bT_1 e2 (by omega)]
      refine z_some (y_some (Or.inr ⟨_, _, rfl, rfl, ?_⟩))
      have c1 : ((1, rc.1.2), rc.2) = rc := by
        obtain ⟨⟨x, y⟩, w⟩ := rc
        dsimp only at z1 ⊢
        rw [z1.1]
      have c2 : ((1, rt.1.2), rt.2) = rt := by
        obtain ⟨⟨x, y⟩, w⟩ := rt
        dsimp only at z1 ⊢
        rw [z1.2]
      rw [c1, c2]; exact z
/-- in the body of a rule -/
def BI (h1 h2 : Hp) (n : Int) (B T : Int → Int) (a l : Int) (p0 q0 : Hp) (N : Int) (s : Int → List Int) (C ns na nf nsel nb nt i0 : Int) (hc ht : Hp) : Prop :=
  ∃ p q C' nt' i, SS h1 h2 n B T a l p q i i hc ht ∧ SY T n N s C' ns na nf nsel nb nt' p q a l ∧ UB p a i ∧ C ≤ C' ∧ nt ≤ nt' ∧ KD a p0 p ∧ KE l q0 q ∧ i0 ≤ i
theorem KD.trans {a : Int} {p q r : Hp} (e : KD a p q) (f : KD a q r) : KD a p r := fun b j h1 h2 h3 => (f b j h1 h2 h3).trans (e b j h1 h2 h3)
theorem KE.trans {a : Int} {p q r : Hp} (e : KE a p q) (f : KE a q r) : KE a p r := fun b j h1 h2 => (f b j h1 h2).trans (e b j h1 h2)
theorem y_bodyloop {h1 h2 hc ht : Hp} {n : Int} {B T : Int → Int} {a l : Int} {p0 q0 : Hp} {N C ns na nf nsel nb nt i0 : Int} {s : Int → List Int} (ha : a ∈ in_aX3) (hl : l ∈ in_aX22) (nb1 : 0 ≤ nb ∧ nb ≤ 120) (I0 : BI h1 h2 n B T a l p0 q0 N s C ns na nf nsel nb nt i0 hc ht) :
    Pr (lp (fun (q : Hp) => m_X3_rule_l40 a 3 q) hc) (lp (fun (q : Hp) => m_X22_body_l9 l q) ht)
      (fun x y => (∃ p q C' nt' i hc' ht', x = ((0, 0), up hc' a 22 (nb + 1)) ∧ y = .inl ht' ∧ SS h1 h2 n B T a l p q (nx B i) i hc' ht' ∧ (tk B i).1 = 4 ∧ SY T n N s C' ns na nf nsel nb nt' p q a l ∧ UB p a i ∧ nt ≤ nt' ∧ KD a p0 p ∧ KE l q0 q ∧ i0 ≤ i) ∨ (∃ rt, y = .inr rt ∧ BO h1 h2 n a l x rt)) := by
  have h3 := aX3 ha
  have h22 := aX22 hl
  refine y_lp (fun (x : Hp) (y : Hp) => BI h1 h2 n B T a l p0 q0 N s C ns na nf nsel nb nt i0 x y) (fun x => (600 - x a 20).toNat) I0 ?_
  rintro hc ht ⟨p, q, C', nt', i, S, Y, ub, hC, hnt, kd, ke, hi⟩
  have g0 := S.ge
  have c20 : hc a 20 = nt' := by rw [S.pL (by omega) (by omega)]; exact Y.2.2.2.2.2.1.2.2.1
  have c22 : hc a 22 = nb := by rw [S.pL (by omega) (by omega)]; exact Y.2.2.2.2.2.1.1
  unfold m_X3_rule_l40 m_X22_body_l9
  simp only [g_X22_1 S.2.1.1 hl]
  refine yr_gd trivial ?_
  rw [R_byte S (by decide), Option.bind_some]
  by_cases t1 : (tk B i).1 = 4 ∧ (tk B i).2.2.2 = 125
  · rw [if_pos t1]
    refine L_take1 ha S t1 (fun hc1 S1 => yl_it (by decide) (yr_it (by decide) ?_))
    have c22' : hc1 a 22 = nb := by rw [S1.pL (by omega) (by omega)]; exact Y.2.2.2.2.2.1.1
    rw [c22', e32 (by omega) (by omega)]
    exact yl_pt (y_some (Or.inr ⟨_, _, rfl, rfl, Or.inl ⟨p, q, C', nt', i, hc1, ht, rfl, rfl, S1, t1.1, Y, ub, hnt, kd, ke, hi⟩⟩))
  · rw [if_neg t1]
    refine L_take0 S t1 (yl_ie (fun z => z rfl) (yr_ie (fun z => z rfl) ?_))
    have D := y_decl ha hl S Y ub
    unfold tDecl at D
    simp only [g_X22_1 S.2.1.1 hl] at D
    obtain ⟨rc, y, e1, e2, d⟩ := D
    rcases d with ⟨p1, q1, C1, i1, ht1, r1, rfl, hi1, hC1, h6, S1, Y1, ub1, kd1, ke1⟩ | ⟨rt, rfl, z⟩
    · rw [bT_0 e1 (by rw [r1])]
      refine ⟨_, _, rfl, e2, Or.inl ⟨_, _, rfl, rfl, ⟨p1, q1, C1, nt' + 1, i1, S1, Y1, ub1, by omega, by omega, kd.trans kd1, ke.trans ke1, by omega⟩, ?_⟩⟩
      have : rc.2 a 20 = nt' + 1 := by rw [S1.pL (by omega) (by omega)]; exact Y1.2.2.2.2.2.1.2.2.1
      rw [this, c20]; omega
    · have z1 := z.r1
      rw [bT_1 e1 (by omega)]
      refine ⟨_, _, rfl, e2, Or.inr ⟨_, _, rfl, rfl, Or.inr ⟨rt, rfl, ?_⟩⟩⟩
      have c1 : ((1, rc.1.2), rc.2) = rc := by
        obtain ⟨⟨x, y⟩, w⟩ := rc
        dsimp only at z1 ⊢
        rw [z1.1]
      rw [c1]; exact z
