set_option maxRecDepth 100000
/-! SOURCES: tags, the loop over the text -/
theorem zp_wrap {h1 h2 : Hp} {n : Int} {B T : Int → Int} {a l i : Int} {c t : Option ((Int × Int) × Hp)} (h : Pr c t (ZP h1 h2 n B T a l i)) : Pr (bT c (fun _ h => some (((0 : Int), (0 : Int)), h)) (fun a_ h_ => some ((1, a_), h_))) (bT t (fun _ h => some (((0 : Int), (0 : Int)), h)) (fun a_ h_ => some ((1, a_), h_))) (ZP h1 h2 n B T a l i) := by
  obtain ⟨rc, rt, e1, e2, z⟩ := h
  rcases z with ⟨z1, z2, i', z3, z4⟩ | z
  · rw [bT_0 e1 (by rw [z1]), bT_0 e2 (by rw [z2])]
    exact y_some (Or.inl ⟨rfl, rfl, i', z3, z4⟩)
  · obtain ⟨p, p0, p1, z3, z4⟩ := id z
    rw [bT_1 e1 (by rw [z3.1]; decide), bT_1 e2 (by rw [z4.1]; decide)]
    have w1 : ((1, rc.1.2), rc.2) = rc := z3.one
    have w2 : ((1, rt.1.2), rt.2) = rt := z4.one
    rw [w1, w2]
    exact y_some (Or.inr z)
theorem y_tag {h1 h2 hc ht : Hp} {n : Int} {B T : Int → Int} {a l i : Int} (ha : a ∈ in_aX6) (hl : l ∈ in_aX23) (I : ZI h1 h2 n B T a l i hc ht) (i1 : i < n) :
    Pr (m_X6_tag a hc) (m_X23_tag l ht) (ZP h1 h2 n B T a l i) := by
  have h6 := aX6 ha
  have h23 := aX23 hl
  obtain ⟨S, ec, et, i0, -, N, s, E, F, M, D, R, edge⟩ := I
  have hn := S.2.2.2
  have S1 := S.goL ha (hc' := up hc a 2 (i + 1)) (F2.refl.put (by unfold srP; omega))
  have R1 : RS T n N s E F M D i (up hc a 2 (i + 1)) ht a l := R.kept (Int.le_refl _) ⟨fun b b0 b1 => up_row (by omega), fun j hj => up_j hj⟩ ⟨fun _ _ _ => rfl, fun _ _ => rfl⟩
  unfold m_X6_tag m_X23_tag
  rw [ec, et, e32 (x := i + 1) (by omega) (by omega)]
  refine yl_lt (yr_lt (yl_pt ?_))
  rw [up_s, q_X6_byteAt S1.1.2.2.1 (by omega), Option.bind_some, q_X23_byteAt S.2.1.2.2.1 (by omega), Option.bind_some, S1.1.2.2.2.1, S.2.1.2.2.2.1]
  rw [Option.bind_some]
  by_cases c1 : B (i + 1) = 33
  · have x1 : i + 1 < n := by
      rw [← S.1.2.2.2.1] at c1
      exact Bt_n (h := hc) (t := a + 1) (by omega)
    refine yl_ie (fun z => z c1) (yr_ie (fun z => z c1) ?_)
    rw [show i + 1 + 1 = i + 2 by omega, e32 (x := i + 2) (by omega) (by omega), show i + 1 + 2 = i + 3 by omega, e32 (x := i + 3) (by omega) (by omega)]
    refine yl_pt ?_
    rw [up_up]
    have S2 := S.goL ha (hc' := up hc a 2 (i + 2)) (F2.refl.put (by unfold srP; omega))
    have R2 : RS T n N s E F M D i (up hc a 2 (i + 2)) ht a l := R.kept (Int.le_refl _) ⟨fun b b0 b1 => up_row (by omega), fun j hj => up_j hj⟩ ⟨fun _ _ _ => rfl, fun _ _ => rfl⟩
    rw [up_s, q_X6_byteAt S2.1.2.2.1 (by omega), Option.bind_some, q_X23_byteAt S.2.1.2.2.1 (by omega), Option.bind_some, S2.1.2.2.2.1, S.2.1.2.2.2.1]
    by_cases c2 : B (i + 2) = 45
    · have x2 : i + 2 < n := by
        rw [← S.1.2.2.2.1] at c2
        exact Bt_n (h := hc) (t := a + 1) (by omega)
      refine yl_ie (fun z => z c2) (yr_ie (fun z => z c2) ?_)
      have Y := zp_wrap (y_comm (x := i + 2) ha hl S2 R2 (up_s _ _ _ _) i0 (by omega) x2)
      rwa [show i + 2 + 1 = i + 3 by omega] at Y
    · refine yl_it c2 (yr_it c2 ?_)
      exact zp_wrap (y_define (x := i + 2) ha hl S2 R2 (up_s _ _ _ _) i0 (by omega) (by omega))
  · refine yl_it c1 (yr_it c1 ?_)
    by_cases c2 : B (i + 1) = 47
    · have x1 : i + 1 < n := by
        rw [← S.1.2.2.2.1] at c2
        exact Bt_n (h := hc) (t := a + 1) (by omega)
      refine yl_ie (fun z => z c2) (yr_ie (fun z => z c2) ?_)
      have d1 := R1.2.2.2.1.1
      have d3 := R.2.2.2.1.2.2.1
      rw [d1]
      by_cases hD : D = 0
      · refine yl_ie (fun z => z hD) ?_
        have o1 := R.2.2.2.1.2.2.2.2.2.1 hD
        have e2 : m_X23_close l (i + 1) ht = (al ht 448 7 fun a7 h7 => (x_broken a7 (i + 1) h7).bind fun h12 => some ((1, a7), h12)) := by
          unfold m_X23_close
          rw [if_neg (by omega)]
        rw [e2]
        obtain ⟨b, h', k1, z1⟩ := bW_g S1.1.2.1 (by omega) (by omega) S1.1.2.2.1.2.1 (up_s hc a 2 (i + 1)) (by omega)
        obtain ⟨b', h'', k2, z2⟩ := al_g (p := i + 1) S.2.1.2.1
        rw [k1, k2, bT_1 rfl Int.one_ne_zero]
        exact y_some (Or.inr (sz_thr ha hl S1 (by omega) (by omega) z1 z2))
      · refine yl_it hD (yl_pt ?_)
        rw [show i + 1 + 1 = i + 2 by omega, e32 (x := i + 2) (by omega) (by omega), up_up]
        have S2 := S.goL ha (hc' := up hc a 2 (i + 2)) (F2.refl.put (by unfold srP; omega))
        have R2 : RS T n N s E F M D i (up hc a 2 (i + 2)) ht a l := R.kept (Int.le_refl _) ⟨fun b b0 b1 => up_row (by omega), fun j hj => up_j hj⟩ ⟨fun _ _ _ => rfl, fun _ _ => rfl⟩
        exact zp_wrap (y_end (x := i + 1) ha hl S2 R2 (by rw [up_s]; omega) i0 (by omega) (by omega) (by omega))
    · refine yl_it c2 (yr_it c2 ?_)
      exact zp_wrap (y_begin ha hl S1 R1 (up_s _ _ _ _) et i0 i1)
/-- the text is read to its end -/
theorem y_srcloop {h1 h2 : Hp} {n : Int} {B T : Int → Int} {a l : Int} (ha : a ∈ in_aX6) (hl : l ∈ in_aX23) : ∀ (k : Nat) (i : Int) (hc ht : Hp), (n - i).toNat < k → ZI h1 h2 n B T a l i hc ht →
    Pr (lp (fun (q : Hp) => m_X6_read_l54 a q) hc) (lp (fun (q : Hp) => m_X23_read_l62 l n q) ht) (fun u w => (∃ hc' ht', u = .inl hc' ∧ w = .inl ht' ∧ ZI h1 h2 n B T a l n hc' ht') ∨ ∃ rc rt, u = .inr rc ∧ w = .inr rt ∧ ZO h1 h2 n a l rc rt) := by
  have h6 := aX6 ha
  have h23 := aX23 hl
  intro k
  induction k with
  | zero => intro i hc ht hk; omega
  | succ k ih =>
    intro i hc ht hk I
    obtain ⟨S, ec, et, i0, i2, -⟩ := id I
    have en := S.1.2.2.1.2.1
    by_cases hi : n ≤ i
    · have : i = n := by omega
      subst this
      rw [lp_eq, lp_eq]
      unfold m_X6_read_l54 m_X23_read_l62
      rw [en, ec, et, if_pos hi, if_pos hi]
      exact y_some (Or.inl ⟨hc, ht, rfl, rfl, I⟩)
    · have go : ∀ (c t : Option ((Int × Int) × Hp)), Pr c t (ZP h1 h2 n B T a l i) → m_X6_piece a hc = bT c (fun _ h => some (((0 : Int), (0 : Int)), h)) (fun a_ h_ => some ((1, a_), h_)) → m_X23_read_l62 l n ht = bT t (fun _ h99 => some (.inl h99)) (fun a_ h_ => some (.inr (.inr ((1, a_), h_)))) →
          Pr (lp (fun (q : Hp) => m_X6_read_l54 a q) hc) (lp (fun (q : Hp) => m_X23_read_l62 l n q) ht) (fun u w => (∃ hc' ht', u = .inl hc' ∧ w = .inl ht' ∧ ZI h1 h2 n B T a l n hc' ht') ∨ ∃ rc rt, u = .inr rc ∧ w = .inr rt ∧ ZO h1 h2 n a l rc rt) := by
        intro c t hp e1 e2
        obtain ⟨rc, rt, q1, q2, z⟩ := hp
        have L1 : m_X6_read_l54 a hc = bT (m_X6_piece a hc) (fun _ h66 => some (.inl h66)) (fun a_ h_ => some (.inr (.inr ((1, a_), h_)))) := by
          unfold m_X6_read_l54
          rw [en, ec, if_neg hi]
        rcases z with ⟨z1, z2, i', z3, z4⟩ | z
        · have p1 : m_X6_piece a hc = some ((0, 0), rc.2) := by rw [e1, bT_0 q1 (by rw [z1])]
          have p2 : m_X6_read_l54 a hc = some (.inl rc.2) := by rw [L1, bT_0 p1 rfl]
          have p3 : m_X23_read_l62 l n ht = some (.inl rt.2) := by rw [e2, bT_0 q2 (by rw [z2])]
          obtain ⟨x, y, w1, w2, w3⟩ := ih i' rc.2 rt.2 (by omega) z4
          exact ⟨x, y, by rw [lp_eq, p2]; exact w1, by rw [lp_eq, p3]; exact w2, w3⟩
        · obtain ⟨p, p0, p1, z3, z4⟩ := id z
          have p1 : m_X6_piece a hc = some ((1, rc.1.2), rc.2) := by rw [e1, bT_1 q1 (by rw [z3.1]; decide)]
          have w1 : ((1, rc.1.2), rc.2) = rc := z3.one
          have w2 : ((1, rt.1.2), rt.2) = rt := z4.one
          have p2 : m_X6_read_l54 a hc = some (.inr (.inr rc)) := by rw [L1, bT_1 p1 Int.one_ne_zero]; dsimp only; rw [w1]
          have p3 : m_X23_read_l62 l n ht = some (.inr (.inr rt)) := by rw [e2, bT_1 q2 (by rw [z4.1]; decide), w2]
          exact ⟨.inr rc, .inr rt, by rw [lp_eq, p2], by rw [lp_eq, p3], Or.inr ⟨rc, rt, rfl, rfl, z⟩⟩
      have bc := q_X6_byteAt S.1.2.2.1 (i := i) i0
      have bt := q_X23_byteAt S.2.1.2.2.1 (i := i) i0
      rw [S.1.2.2.2.1] at bc
      rw [S.2.1.2.2.2.1] at bt
      by_cases c60 : B i = 60
      · refine go _ _ (y_tag ha hl I (by omega)) ?_ ?_
        · unfold m_X6_piece
          rw [ec, bc, Option.bind_some, if_neg (fun z => z c60)]
        · unfold m_X23_read_l62
          rw [et, if_neg hi, bt, Option.bind_some, if_pos (by omega), if_neg (fun z => z c60)]
      by_cases c38 : B i = 38
      · refine go _ _ (y_entity ha hl I (by omega)) ?_ ?_
        · unfold m_X6_piece
          have := S.2.2.2
          rw [ec, bc, Option.bind_some, if_pos c60, if_neg (fun z => z c38), e32 (x := i + 1) (by omega) (by omega)]
          rfl
        · unfold m_X23_read_l62
          rw [et, if_neg hi, bt, Option.bind_some, if_neg (fun z => z c38)]
      by_cases pc : isPc (B i) = true
      · obtain ⟨hc', ht', r1, r2, i', r3, r4⟩ := y_run ha hl I (by omega) pc
        obtain ⟨x, y, w1, w2, w3⟩ := ih i' hc' ht' (by omega) r4
        refine ⟨x, y, ?_, by rw [r2]; exact w2, w3⟩
        have p2 : m_X6_read_l54 a hc = some (.inl hc') := by
          unfold m_X6_read_l54
          rw [en, ec, if_neg hi, bT_0 r1 rfl]
        rw [lp_eq, p2]; exact w1
      · have pc' : isPc (B i) = false := by simpa using pc
        have np : ¬ ((B i = 10 ∨ (32 ≤ B i ∧ B i ≤ 126)) ∧ B i ≠ 60 ∧ B i ≠ 38) := of_decide_eq_false pc'
        have sc0 : sc B isPc i = i := by
          obtain ⟨⟨s1, s2, s3⟩, s4, s5⟩ := sc_spec (B := B) (p := isPc) (n := n) (i := i) (fun x hx => by rw [← S.1.2.2.2.1]; exact pcEnd hx) (by omega)
          rcases Int.lt_or_eq_of_le s4 with z | z
          · have := s2 i (Int.le_refl _) z
            rw [pc'] at this; exact absurd this (by decide)
          · exact z.symm
        have S1 := S.goL ha (hc' := up hc a 2 i) (F2.refl.put (by unfold srP; omega))
        obtain ⟨b, h', k1, z1⟩ := bW_g S1.1.2.1 (by omega) (by omega) S1.1.2.2.1.2.1 (up_s hc a 2 i) i2
        obtain ⟨b', h'', k2, z2⟩ := al_g (p := i) S.2.1.2.1
        have p1 : m_X6_piece a hc = some ((1, b), h') := by
          unfold m_X6_piece
          rw [ec, bc, Option.bind_some, if_pos c60, if_pos c38]
          unfold lt_
          dsimp only
          rw [q_run6 S.1.2.2.1 i0 i2 ec, Option.bind_some, S.1.2.2.2.1, sc0, up_s, if_neg (fun z => z rfl), k1]
        have p2 : m_X6_read_l54 a hc = some (.inr (.inr ((1, b), h'))) := by
          unfold m_X6_read_l54
          rw [en, ec, if_neg hi, bT_1 p1 Int.one_ne_zero]
        have bk : ∀ {β : Type} (g : Int → Hp → Option β), (al ht 448 7 fun b h0 => (x_broken b (h0 l 25) h0).bind fun h8 => g b h8) = (al ht 448 7 fun b h0 => (x_broken b i h0).bind fun h8 => g b h8) := fun g => by
          have rm := S.2.1.2.1.2.2.1
          have e : nw ht 448 7 l 25 = i := by
            unfold nw
            rw [if_neg (by omega), if_neg (by omega), if_neg (by omega)]
            exact et
          unfold al
          dsimp only
          rw [e]
        have p3 : m_X23_read_l62 l n ht = some (.inr (.inr ((1, b'), h''))) := by
          unfold m_X23_read_l62
          rw [et, if_neg hi, bt, Option.bind_some, if_pos c38, if_pos c60, if_neg (by omega), bk, k2]
          by_cases x : B i < 32
          · rw [if_pos x]
          · rw [if_neg x, if_pos (by omega)]
        exact ⟨.inr ((1, b), h'), .inr ((1, b'), h''), by rw [lp_eq, p2], by rw [lp_eq, p3], Or.inr ⟨_, _, rfl, rfl, sz_thr ha hl S1 i0 i2 z1 z2⟩⟩
