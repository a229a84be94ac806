set_option maxRecDepth 100000
/-! TITLES: a label is put into a title, the component -/
theorem ttC.more {p : Hp} {a b : Int} {L : List Int} {s : List Int × Bool} (B : ttC p a b L s) (h : 40 ≤ s.1.length) (A : List Int) : ttC p a b L (ttL s A) := by
  obtain ⟨C, B1, B2⟩ := B
  refine ⟨C, B1, ?_⟩
  have l := ttL_len (s := s) (b := A)
  rcases B2 with z | z
  · omega
  · exact Or.inr ⟨by omega, z.2.1, by rw [ttF_end h]; exact z.2.2⟩
theorem ttC.full {p : Hp} {a b : Int} {L : List Int} {s : List Int × Bool} (B : ttC p a b L s) : p a 19 = 40 ↔ 40 ≤ s.1.length := by
  obtain ⟨C, B1, B2⟩ := B
  exact B2.end_
theorem q_full7 {p : Hp} {a : Int} : m_X7_isFull a p = some (bI (decide (p a 19 = 40))) := by
  unfold m_X7_isFull
  by_cases h : p a 19 = 40
  · rw [if_neg (fun z => z h), decide_eq_true h]; rfl
  · rw [if_pos h, decide_eq_false h]; rfl
theorem ttQ_bT {α : Type} {a b : Int} {p : Hp} {L : List Int} {s : List Int × Bool} {o : Option ((Int × Int) × Hp)} {f g : Int → Hp → Option α} {Q : α → Prop} (h : Pz o (ttQ a b p L s)) (k : ∀ p', F2 (ttW a b) p p' → ttC p' a b L s → Pz (f 0 p') Q) : Pz (bT o f g) Q := by
  obtain ⟨r, e, r1, r2, r3⟩ := h
  rw [bT_0 e (by rw [r1])]
  have : r.1.2 = 0 := by rw [r1]
  rw [this]
  exact k _ r2 r3
theorem take_at {A : List Int} {x : Nat} {c : Int} (h : A[x]? = some c) : A.take (x + 1) = A.take x ++ [c] := by
  rw [List.take_add_one, h]; rfl
/-- the number within a label -/
theorem c_digs7 {p : Hp} {a b cap : Int} {L D : List Int} {s : List Int × Bool} (hL : LAY p) (ha : a ∈ in_aX7) (hb : b ∈ in_aX5) (hb2 : 273 ≤ b) (B : ttC p a b L s) (hc : p (b + 1) (-1) = cap) (hl : (L.length : Int) + 40 ≤ cap) (hc2 : cap ≤ 100000) (hD : bsL p (a + 15) D) (lD : D.length ≤ 18) (by_ : ∀ c ∈ D, 0 ≤ c ∧ c ≤ 127) :
    Pz (lp (fun (q : Int × Hp) => m_X7_titleLabel_l48 a b 35 q.1 q.2) (0, p)) (fun r => ∃ q, r = .inl q ∧ F2 (ttW a b) p q ∧ ttC q a b L (ttL s D)) := by
  have h7 := aX7 ha
  have h5 : a + 15 ∈ in_aX5 := by
    simp only [in_aX5, List.mem_cons, List.not_mem_nil, or_false]
    omega
  refine z_lp (fun (t : Int × Hp) => ∃ x : Nat, t.1 = x ∧ x ≤ D.length ∧ F2 (ttW a b) p t.2 ∧ ttC t.2 a b L (ttL s (D.take x))) (fun t => ((D.length : Int) - t.1).toNat) ⟨0, rfl, Nat.zero_le _, F2.refl, B⟩ ?_
  rintro ⟨y, q⟩ ⟨x, ey, x1, Fq, Bq⟩
  dsimp only at ey Bq
  subst ey
  replace Fq : F2 (ttW a b) p q := Fq
  have Lq := ttW_l hL ha hb Fq
  have k18 := (g_X7_18 Lq ha).1
  have k5 := ly_X5 Lq h5
  have hD' : bsL q (a + 15) D := hD.kept (Fq _ _ (by unfold ttW b5W; omega)) (Fq.row (fun j z => by unfold ttW b5W at z; omega))
  show Pz (m_X7_titleLabel_l48 a b 35 x q) _
  unfold m_X7_titleLabel_l48
  have c16 := g_X5_c Lq ha
  rw [show a + 16 = a + 15 + 1 by omega] at c16
  simp only [k18, k5.1, k5.2, hD'.1]
  refine z_ie (fun z => z rfl) (z_gd trivial ?_)
  by_cases hx : (D.length : Int) ≤ x
  · have : x = D.length := by omega
    subst this
    rw [List.take_length] at Bq
    exact z_it hx (z_some ⟨q, rfl, Fq, Bq⟩)
  · have ex := (wd_eq rfl).mp hD'.2 x (by omega)
    rw [Int.zero_add] at ex
    have rg := by_ _ (List.mem_of_getElem? ex)
    refine z_ie hx (z_gd ⟨by decide, by omega, by omega⟩ (ttQ_bT (c_put7 Lq ha hb Bq (by rw [Fq _ _ (by unfold ttW b5W; omega)]; exact hc) hl hc2 (by omega) (by omega)) (fun p' f h => z_lt (z_some ?_))))
    rw [e32 (by omega) (by omega)]
    refine ⟨⟨x + 1, by dsimp only; omega, by omega, Fq.trans f, ?_⟩, by dsimp only; omega⟩
    dsimp only
    rw [take_at ex, ttL_app]
    exact h
theorem wr_succ {T : Int → Int} {p : Int} {k : Nat} : wr T p (p + (k + 1 : Nat)) = wr T p (p + k) ++ [T (p + k)] := by
  unfold wr
  rw [show (p + ((k + 1 : Nat) : Int) - p).toNat = k + 1 by omega, show (p + (k : Int) - p).toNat = k by omega, List.range_succ, List.map_append]
  rfl
theorem wr_nil {T : Int → Int} {p e : Int} (h : e ≤ p) : wr T p e = [] := by
  unfold wr
  rw [show (e - p).toNat = 0 by omega]
  rfl
theorem c_titleLabel {S Y V p : Hp} {a b cap sa ya n N E F M n' N' C ns na nsel nb nt m e : Int} {s s' : Int → List Int} {L : List Int} {t : List Int × Bool} (T : KC S Y V p a sa ya n N s E F M n' N' s' C ns na nsel nb nt m) (e0 : 0 ≤ e) (e1 : e < E) (hb : b ∈ in_aX5) (hb2 : 273 ≤ b) (B : ttC p a b L t) (hc : p (b + 1) (-1) = cap) (hl : (L.length : Int) + 40 ≤ cap) (hc2 : cap ≤ 100000) :
    Pz (m_X7_titleLabel a e b p) (fun r => r.1 = (0, 0) ∧ F2 (tlW a b) p r.2 ∧ ttC r.2 a b L (ttL t (lbS Y V e))) := by
  have ha := T.1.2.1
  have h7 := aX7 ha
  obtain ⟨r, er, r1, f0, hr⟩ := c_labelOf T e0 e1
  have v27 := (T.2.2.2.2.2.2.2 e e0 e1).2.2.2.2
  have vr : 0 ≤ V 27 e ∧ V 27 e ≤ 1000000 := by
    rw [v27]
    unfold vlF
    split
    · have := ctS_r (sh := V 30) (f := V 24) (j := V 24 (22 * e + 15)) (e.toNat + 1)
      have := T.2.1.2.2.1.2.2.1
      omega
    · omega
  unfold m_X7_titleLabel
  rw [bT_0 er r1]
  have F1 : F2 (tlW a b) p r.2 := f0.mono (fun x j z => Or.inr z)
  have B1 : ttC r.2 a b L t := by
    obtain ⟨c, b1, b2⟩ := B
    refine ⟨c, b1.kept (f0 _ _ (by omega)) (f0.row (fun j z => by omega)), ?_⟩
    unfold ttP
    rw [f0 _ _ (by omega), f0 _ _ (by omega)]; exact b2
  obtain ⟨⟨r11, v2⟩, g⟩ := r
  dsimp only at r1 f0 hr F1 B1 ⊢
  rcases hr with ⟨v0, lz, -⟩ | ⟨mt, v0, p17, bD⟩
  · subst v0
    rw [lz]
    refine z_lt (z_bind ?_)
    refine lz_turn ?_
    show Pz (m_X7_titleLabel_l9 a e b 0 0 g) _
    unfold m_X7_titleLabel_l9
    exact z_it (by decide) (z_some (z_some ⟨rfl, F1, B1⟩))
  · subst v0
    have el : lbS Y V e = (wr (Y 1) (V 25 e) (V 26 e)).flatMap (lbB V e) := by unfold lbS; rw [mt]; rfl
    rw [el]
    have zl := (T.2.2.2.1.2.1 e e0 e1).1.2
    obtain ⟨-, st⟩ : V 24 (22 * e + 17) = 1 ∧ stO (p (ya + 12)) (Y 1) n' m (p (a + 2) (22 * e + 17)) (p (a + 3) e) (V 25 e) (V 26 e) := by
      rcases zl with z | z
      · omega
      · exact z
    obtain ⟨u1, u2, u3, u4, u5, u6, u7⟩ := st
    have yb := T.2.2.1.1.2.2.2.2.2.2
    have m1 := T.2.2.1.1.2.2.2.1
    refine z_lt (z_bind (z_mono (z_lp (Q := fun r => r.1 = (0, 0) ∧ F2 (tlW a b) p r.2 ∧ ttC r.2 a b L (ttL t ((wr (Y 1) (V 25 e) (V 26 e)).flatMap (lbB V e)))) (fun (z : Int × Hp) => ∃ x : Nat, z.1 = x ∧ (x : Int) ≤ V 26 e - V 25 e ∧ F2 (tlW a b) p z.2 ∧ bsL z.2 (a + 15) (fmL (V 24 (22 * e + 18)) (V 27 e).toNat) ∧ ttC z.2 a b L (ttL t ((wr (Y 1) (V 25 e) (V 25 e + x)).flatMap (lbB V e)))) (fun z => (V 26 e - V 25 e - z.1).toNat) ⟨0, rfl, by omega, F1, bD, by rw [wr_nil (by omega)]; exact B1⟩ ?_) (fun r hr => z_some hr)))
    rintro ⟨y, q⟩ ⟨x, ey, x1, Fq, Dq, Bq⟩
    dsimp only at ey Dq Bq
    subst ey
    replace Fq : F2 (tlW a b) p q := Fq
    have Tq := T.kept hb hb2 Fq
    have Lq := Tq.1.1
    have hy := T.1.2.2.2
    have h3 := aX3' hy
    show Pz (m_X7_titleLabel_l9 a e b (V 26 e - V 25 e) x q) _
    unfold m_X7_titleLabel_l9
    by_cases hx : V 26 e - V 25 e ≤ x
    · have ex : V 25 e + x = V 26 e := by omega
      rw [ex] at Bq
      exact z_it hx (z_some ⟨rfl, Fq, Bq⟩)
    · refine z_ie hx ?_
      rw [q_full7, Option.bind_some]
      have wsp : wr (Y 1) (V 25 e) (V 26 e) = wr (Y 1) (V 25 e) (V 25 e + x) ++ wr (Y 1) (V 25 e + x) (V 26 e) := by
        unfold wr
        rw [show (V 26 e - V 25 e).toNat = (V 25 e + (x : Int) - V 25 e).toNat + (V 26 e - (V 25 e + (x : Int))).toNat by omega, List.range_add, List.map_append, List.map_map]
        congr 1
        refine List.map_congr_left (fun z _ => ?_)
        dsimp only [Function.comp]
        congr 1
        omega
      by_cases hf : q a 19 = 40
      · rw [decide_eq_true hf]
        refine z_it (by decide) (z_some ⟨rfl, Fq, ?_⟩)
        have := Bq.more (Bq.full.mp hf) ((wr (Y 1) (V 25 e + x) (V 26 e)).flatMap (lbB V e))
        rw [wsp, List.flatMap_append, ttL_app]
        exact this
      · rw [decide_eq_false hf]
        refine z_ie (by decide) ?_
        have q17 := q_propK Tq e0 e1 (c := 17) (by decide) (by decide)
        have n3 := ly_X3n Lq hy
        have j2 := (g_X3_2 Lq hy).1
        have tq1 := Tq.2.2.2.1.1.2.1
        have pq17 : q (a + 2) (22 * e + 17) = p (a + 2) (22 * e + 17) := Fq _ _ (by unfold tlW ttW b5W; omega)
        have py12 : q (ya + 12) = p (ya + 12) := Fq.row (fun j z => by unfold tlW ttW b5W at z; omega)
        have lbyte : m_X7_labelByte a e x q = some (Y 1 (V 25 e + x)) := by
          unfold m_X7_labelByte
          simp only [tq1, j2, n3.2.2.2.2.2.1, n3.2.2.2.2.2.2.1, n3.2.2.2.2.2.2.2, n3.2.2.2.2.1, (ly_X3 Lq hy).1, q17, Option.bind_some, pq17, py12]
          rw [e32 (by omega) (by omega), gd_t trivial, gd_t trivial, gd_t ⟨by decide, by omega, by omega⟩, u7 x (by omega) (by omega)]
        rw [lbyte, Option.bind_some]
        have rg := yb (V 25 e + x) (by omega) (by omega)
        have capq : q (b + 1) (-1) = cap := by rw [Fq _ _ (by unfold tlW ttW b5W; omega)]; exact hc
        have stp : wr (Y 1) (V 25 e) (V 25 e + ((x + 1 : Nat) : Int)) = wr (Y 1) (V 25 e) (V 25 e + x) ++ [Y 1 (V 25 e + x)] := wr_succ
        have fin : ∀ q', F2 (tlW a b) q q' → bsL q' (a + 15) (fmL (V 24 (22 * e + 18)) (V 27 e).toNat) → ttC q' a b L (ttL (ttL t ((wr (Y 1) (V 25 e) (V 25 e + x)).flatMap (lbB V e))) (lbB V e (Y 1 (V 25 e + x)))) → ∀ (P : Int × Hp → Prop), P = (fun (z : Int × Hp) => ∃ x : Nat, z.1 = x ∧ (x : Int) ≤ V 26 e - V 25 e ∧ F2 (tlW a b) p z.2 ∧ bsL z.2 (a + 15) (fmL (V 24 (22 * e + 18)) (V 27 e).toNat) ∧ ttC z.2 a b L (ttL t ((wr (Y 1) (V 25 e) (V 25 e + x)).flatMap (lbB V e)))) → P ((x : Int) + 1, q') := by
          intro q' f d h P hP
          rw [hP]
          refine ⟨x + 1, by dsimp only; omega, by omega, Fq.trans f, d, ?_⟩
          dsimp only
          rw [stp, List.flatMap_append, ttL_app, List.flatMap_cons, List.flatMap_nil, List.append_nil]
          exact h
        generalize Y 1 (V 25 e + x) = c at *
        by_cases h35 : c = 35
        · subst h35
          refine z_it rfl ?_
          unfold m_X7_titleLabel_j45
          have eb : lbB V e 35 = fmL (V 24 (22 * e + 18)) (V 27 e).toNat := by unfold lbB; rw [if_pos rfl]
          refine z_lt (z_bind (z_mono (c_digs7 Lq ha hb hb2 Bq capq hl hc2 Dq (fmL_len (by omega)) fmL_by) ?_))
          rintro r ⟨q', rfl, f1, b1⟩
          show Pz (lt_ (w32 ((x : Int) + 1)) fun x4_88 => some (Sum.inl (x4_88, q') : (Int × Hp) ⊕ ((Int × Int) × Hp))) _
          rw [lt_e, e32 (by omega) (by omega)]
          refine z_some ⟨fin q' (f1.mono (fun x j z => Or.inl z)) (Dq.kept (f1 _ _ (by unfold ttW b5W; omega)) (f1.row (fun j z => by unfold ttW b5W at z; omega))) (by rw [eb]; exact b1) _ rfl, by dsimp only; omega⟩
        · refine z_ie h35 (ttQ_bT (c_put7 Lq ha hb Bq capq hl hc2 (by omega) (by omega)) (fun q' f1 b1 => ?_))
          have eb : lbB V e c = [c] := by unfold lbB; rw [if_neg h35]
          unfold m_X7_titleLabel_j45
          have e48 : m_X7_titleLabel_l48 a b c 0 q' = some (Sum.inr (Sum.inl q')) := by unfold m_X7_titleLabel_l48; rw [if_pos h35]
          refine z_lt (z_bind (lz_turn ⟨_, e48, ?_⟩))
          show Pz (lt_ (w32 ((x : Int) + 1)) fun x4_88 => some (Sum.inl (x4_88, q') : (Int × Hp) ⊕ ((Int × Int) × Hp))) _
          rw [lt_e, e32 (by omega) (by omega)]
          refine z_some ⟨fin q' (f1.mono (fun x j z => Or.inl z)) (Dq.kept (f1 _ _ (by unfold ttW b5W; omega)) (f1.row (fun j z => by unfold ttW b5W at z; omega))) (by rw [eb]; exact b1) _ rfl, by dsimp only; omega⟩
