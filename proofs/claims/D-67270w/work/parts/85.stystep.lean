set_option maxRecDepth 100000
/-! STYLES: a step -/
theorem KA.refl {a : Int} {p : Hp} : KA a p p := fun _ _ _ _ _ => rfl
theorem KB.refl {a : Int} {p : Hp} : KB a p p := fun _ _ _ _ => rfl
theorem KA.trans {a : Int} {p q r : Hp} (e : KA a p q) (f : KA a q r) : KA a p r := fun b j h1 h2 h3 => (f b j h1 h2 h3).trans (e b j h1 h2 h3)
theorem KB.trans {a : Int} {p q r : Hp} (e : KB a p q) (f : KB a q r) : KB a p r := fun b j h1 h2 => (f b j h1 h2).trans (e b j h1 h2)
/-- in the loop over what is asked -/
def AI (h1 h2 : Hp) (n : Int) (B T : Int → Int) (a l : Int) (pb qb : Hp) (Nb : Int) (sb : Int → List Int) (C ns na nf nsel nb nt ib many : Int) (hc ht : Hp) : Prop :=
  ∃ p q N s i, SS h1 h2 n B T a l p q i i hc ht ∧ SY T n N s C ns (na + many) nf nsel nb nt p q a l ∧ UB p a i ∧ Nb ≤ N ∧ (∀ x, 0 ≤ x → x < Nb → s x = sb x) ∧ KA a pb p ∧ KB l qb q ∧ ib ≤ i
theorem BO.r1 {h1 h2 : Hp} {n a l : Int} {rc rt : (Int × Int) × Hp} (b : BO h1 h2 n a l rc rt) : rc.1.1 = 1 ∧ rt.1.1 = 1 := by
  obtain ⟨p, -, -, z1, z2⟩ := b
  exact ⟨z1.1, z2.1⟩
/-- calls that both return or both throw -/
theorem y_bT {α β : Type} {oc ot : Option ((Int × Int) × Hp)} {f fe : Int → Hp → Option α} {g ge : Int → Hp → Option β} {P : (Int × Int) × Hp → (Int × Int) × Hp → Prop} {h1 h2 : Hp} {n a l : Int} {Q : α → β → Prop} (h : Pr oc ot (fun rc rt => P rc rt ∨ BO h1 h2 n a l rc rt)) (k0 : ∀ rc rt, P rc rt → rc.1.1 = 0 ∧ rt.1.1 = 0) (k : ∀ rc rt, P rc rt → Pr (f rc.1.2 rc.2) (g rt.1.2 rt.2) Q) (ke : ∀ rc rt : (Int × Int) × Hp, BO h1 h2 n a l ((1, rc.1.2), rc.2) ((1, rt.1.2), rt.2) → Pr (fe rc.1.2 rc.2) (ge rt.1.2 rt.2) Q) : Pr (bT oc f fe) (bT ot g ge) Q := by
  obtain ⟨rc, rt, e1, e2, h⟩ := h
  rcases h with h | h
  · obtain ⟨z1, z2⟩ := k0 rc rt h
    rw [bT_0 e1 z1, bT_0 e2 z2]
    exact k rc rt h
  · obtain ⟨z1, z2⟩ := h.r1
    rw [bT_1 e1 (by omega), bT_1 e2 (by omega)]
    refine ke rc rt ?_
    have c1 : ((1, rc.1.2), rc.2) = rc := by
      obtain ⟨⟨x, y⟩, z⟩ := rc
      dsimp only at z1 ⊢
      rw [z1]
    have c2 : ((1, rt.1.2), rt.2) = rt := by
      obtain ⟨⟨x, y⟩, z⟩ := rt
      dsimp only at z2 ⊢
      rw [z2]
    rw [c1, c2]; exact h
theorem y_sloop {h1 h2 hc ht : Hp} {n : Int} {B T : Int → Int} {a l : Int} {pb qb : Hp} {Nb C ns na nf nsel nb nt ib w : Int} {sb : Int → List Int} (ha : a ∈ in_aX3) (hl : l ∈ in_aX22) (n0 : 0 ≤ na) (n1 : na + 4 ≤ 3840) (w0 : 0 ≤ w) (w1 : w ≤ 1) (ns0 : 0 ≤ ns) (ns1 : ns < 960) (I0 : AI h1 h2 n B T a l pb qb Nb sb C ns na nf nsel nb nt ib 0 hc ht) :
    Pr (lp (fun (q : Int × Int × Hp) => m_X3_step_l80 a 3 q.1 q.2.1 q.2.2) (w, 0, hc)) (lp (fun (q : Hp) => m_X22_step_l132 l (na + 4) q) ht)
      (fun x y => (∃ many hc' ht', x = ((0, w + 100 * many), up hc' a 6 (ns + 1)) ∧ y = .inl ht' ∧ 0 ≤ many ∧ many ≤ 4 ∧ AI h1 h2 n B T a l pb qb Nb sb C ns na nf nsel nb nt ib many hc' ht') ∨ (∃ rt, y = .inr rt ∧ BO h1 h2 n a l x rt)) := by
  have h3 := aX3 ha
  have h22 := aX22 hl
  refine y_lp (fun (x : Int × Int × Hp) (y : Hp) => x.1 = w + 100 * x.2.1 ∧ 0 ≤ x.2.1 ∧ x.2.1 ≤ 4 ∧ AI h1 h2 n B T a l pb qb Nb sb C ns na nf nsel nb nt ib x.2.1 x.2.2 y) (fun x => (5 - x.2.1).toNat) ⟨by dsimp only; omega, by dsimp only; omega, by dsimp only; omega, I0⟩ ?_
  rintro ⟨v, many, hc⟩ ht ⟨ev, m0, m4, I⟩
  dsimp only at ev m0 m4 ⊢
  replace I : AI h1 h2 n B T a l pb qb Nb sb C ns na nf nsel nb nt ib many hc ht := I
  have I' := I
  obtain ⟨p, q, N, s, i, S, Y, ub, Na, sa, ka, kb, hi⟩ := I
  have g0 := S.ge
  have pa6 : hc a 6 = ns := by rw [S.pL (by omega) (by omega)]; exact Y.2.2.1.1
  have ql5 : ht l 5 = na + many := by rw [S.pR (Or.inl rfl)]; exact Y.2.2.2.1.2.1
  unfold m_X3_step_l80 m_X22_step_l132
  simp only [g_X22_1 S.2.1.1 hl]
  refine yr_gd trivial ?_
  rw [L_byte S, L_byte S, R_byte S (by decide), R_byte S (by decide)]
  simp only [Option.bind_some]
  have both : ((tk B i).1 = 4 ∧ (tk B i).2.2.2 = 91) ∨ (¬ ((tk B i).1 = 4 ∧ (tk B i).2.2.2 = 91) ∧ ((tk B i).1 = 4 ∧ (tk B i).2.2.2 = 58)) → Pr (m_X3_step_j98 a 3 v many hc) (m_X22_step_j156 l (na + 4) ht) (fun x y => (∃ s' t', x = .inl s' ∧ y = .inl t' ∧ (s'.1 = w + 100 * s'.2.1 ∧ 0 ≤ s'.2.1 ∧ s'.2.1 ≤ 4 ∧ AI h1 h2 n B T a l pb qb Nb sb C ns na nf nsel nb nt ib s'.2.1 s'.2.2 t') ∧ (5 - s'.2.1).toNat < (5 - many).toNat) ∨ (∃ x' y', x = .inr x' ∧ y = .inr y' ∧ ((∃ many hc' ht', x' = ((0, w + 100 * many), up hc' a 6 (ns + 1)) ∧ y' = .inl ht' ∧ 0 ≤ many ∧ many ≤ 4 ∧ AI h1 h2 n B T a l pb qb Nb sb C ns na nf nsel nb nt ib many hc' ht') ∨ (∃ rt, y' = .inr rt ∧ BO h1 h2 n a l x' rt)))) := by
    intro tt
    unfold m_X3_step_j98 m_X22_step_j156
    rw [ql5]
    by_cases h4 : many = 4
    · refine yl_ie (fun z => z h4) (yr_ie (by omega) ?_)
      simp only [g_X22_1 S.2.1.1 hl]
      exact L_brk S (fun b h' z => R_brk hl S (fun b' h'' z' => y_some (Or.inr ⟨_, _, rfl, rfl, Or.inr ⟨_, rfl, ss_thr ha hl S ⟨by omega, by omega⟩ z z'⟩⟩)))
    · refine yl_it h4 (yr_it (by omega) ?_)
      simp only [g_X22_1 S.2.1.1 hl]
      rw [R_byte S (by decide), Option.bind_some]
      have fin : ∀ rc rt : (Int × Int) × Hp, (∃ p' q' N' s' i', rc.1 = (0, 0) ∧ rt.1 = (0, 0) ∧ nx B i ≤ i' ∧ SS h1 h2 n B T a l p' q' i' i' rc.2 rt.2 ∧ SY T n N' s' C ns (na + many + 1) nf nsel nb nt p' (up q' l 5 (na + many + 1)) a l ∧ q' l 5 = na + many ∧ UB p' a i' ∧ N ≤ N' ∧ (∀ x, 0 ≤ x → x < N → s' x = s x) ∧ KA a p p' ∧ KB l q q') → Pr (m_X3_step_j135 v many rc.2) (m_X22_step_j195 l rt.2) (fun x y => (∃ s' t', x = .inl s' ∧ y = .inl t' ∧ (s'.1 = w + 100 * s'.2.1 ∧ 0 ≤ s'.2.1 ∧ s'.2.1 ≤ 4 ∧ AI h1 h2 n B T a l pb qb Nb sb C ns na nf nsel nb nt ib s'.2.1 s'.2.2 t') ∧ (5 - s'.2.1).toNat < (5 - many).toNat) ∨ (∃ x' y', x = .inr x' ∧ y = .inr y' ∧ ((∃ many hc' ht', x' = ((0, w + 100 * many), up hc' a 6 (ns + 1)) ∧ y' = .inl ht' ∧ 0 ≤ many ∧ many ≤ 4 ∧ AI h1 h2 n B T a l pb qb Nb sb C ns na nf nsel nb nt ib many hc' ht') ∨ (∃ rt, y' = .inr rt ∧ BO h1 h2 n a l x' rt)))) := by
        rintro rc rt ⟨p', q', N', s', i', e1, e2, e3, S', Y', e4, e5, e6, e7, e8, e9⟩
        unfold m_X3_step_j135 m_X22_step_j195
        have r5 : rt.2 l 5 = na + many := by rw [S'.pR (Or.inl rfl)]; exact e4
        rw [r5]
        (try simp (disch := omega) only [up_a, up_e, up_j, e32, e8])
        refine yl_lt (yl_lt (yr_pt (y_some (Or.inl ⟨_, _, rfl, rfl, ⟨?_, ?_, ?_, ?_⟩, ?_⟩)))) <;> dsimp only
        · omega
        · omega
        · omega
        · have e : na + (many + 1) = na + many + 1 := by omega
          refine ⟨p', up q' l 5 (na + many + 1), N', s', i', S'.putR hl (Or.inl rfl) (by unfold stW2; omega), by rw [e]; exact Y', e5, by omega, fun x x0 x1 => by rw [e7 x x0 (by omega)]; exact sa x x0 x1, ka.trans e8, kb.trans (e9.trans (fun b j b0 nb => up_ne (by omega))), by omega⟩
        · omega
      by_cases t1 : (tk B i).1 = 4 ∧ (tk B i).2.2.2 = 91
      · rw [if_pos t1]
        refine L_take1 ha S t1 (fun hc1 S1 => yl_ie (by decide) (yr_ie (by decide) (y_bT (y_field ha hl S1 rfl t1.1 Y (by omega) ?_) (fun rc rt z => ?_) fin (fun rc rt z => y_some (Or.inr ⟨_, _, rfl, rfl, Or.inr ⟨_, rfl, z⟩⟩)))))
        · obtain ⟨u1, u2, u3, u4⟩ := ub
          exact ⟨by omega, by omega, by omega, by omega⟩
        · obtain ⟨p', q', N', s', i', e1, e2, -⟩ := z
          rw [e1, e2]; exact ⟨rfl, rfl⟩
      · rw [if_neg t1]
        have t2 : (tk B i).1 = 4 ∧ (tk B i).2.2.2 = 58 := by
          rcases tt with z | z
          · exact absurd z t1
          · exact z.2
        refine L_take0 S t1 (yl_it rfl (yr_it rfl (L_next ha S (by omega) (fun hc1 S1 => y_bT (y_place ha hl S1 rfl t2.1 Y (by omega) ?_) (fun rc rt z => ?_) fin (fun rc rt z => y_some (Or.inr ⟨_, _, rfl, rfl, Or.inr ⟨_, rfl, z⟩⟩))))))
        · obtain ⟨u1, u2, u3, u4⟩ := ub
          exact ⟨by omega, by omega, by omega, by omega⟩
        · obtain ⟨p', q', N', s', i', e1, e2, -⟩ := z
          rw [e1, e2]; exact ⟨rfl, rfl⟩
  by_cases t1 : (tk B i).1 = 4 ∧ (tk B i).2.2.2 = 91
  · rw [if_pos t1]
    exact yl_it (by decide) (yr_it (by decide) (both (Or.inl t1)))
  · rw [if_neg t1]
    refine yl_ie (fun z => z rfl) (yr_ie (fun z => z rfl) ?_)
    by_cases t2 : (tk B i).1 = 4 ∧ (tk B i).2.2.2 = 58
    · rw [if_pos t2]
      exact yl_ie (by decide) (yr_ie (by decide) (both (Or.inr ⟨t1, t2⟩)))
    · rw [if_neg t2]
      refine yl_it rfl (yr_it rfl (yl_pt (y_some (Or.inr ⟨_, _, rfl, rfl, Or.inl ⟨many, hc, ht, ?_, rfl, m0, m4, I'⟩⟩))))
      rw [pa6, e32 (by omega) (by omega), ev]
