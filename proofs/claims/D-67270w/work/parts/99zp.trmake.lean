set_option maxRecDepth 100000
/-! TREES: the reference makes a tree -/
theorem vr_beg {p : Int} : vrO 12 p (begV p) := by
  unfold vrO begV
  repeat' split
  all_goals omega
theorem vrO.mono {C p v : Int} (h : vrO C p v) (hC : C ≤ 12) : vrO 12 p v := by
  unfold vrO at *
  omega
/-- properties are in their ranges -/
theorem PV.rng {S Y p0 p' : Hp} {a a' n n' N N' E F M C ns na nsel nb nt m : Int} {s s' : Int → List Int} {f : Int → Int} (R : SA S p0 a n N s E F M) (R' : YA Y p' a' n' N' s' C ns na nsel nb nt m) (hf : PV S Y E M nsel f) : ∀ e p, e < E → 0 ≤ p → p ≤ 21 → p ≠ 1 → p ≠ 17 → vrO 12 p (ofV f e p) := by
  have hn := R'.2.1.2.2.1
  have C12 := R'.1.2.2.2.2.2.1
  have key : ∀ (k : Nat) (e p : Int), e.toNat ≤ k → e < E → 0 ≤ p → p ≤ 21 → p ≠ 1 → p ≠ 17 → vrO 12 p (ofV f e p) := by
    intro k
    have step : ∀ e p : Int, 0 ≤ e → e < E → 0 ≤ p → p ≤ 21 → p ≠ 1 → p ≠ 17 → vrO 12 p (ofV f (S 7 e) p) → vrO 12 p (ofV f e p) := by
      intro e p e0 e1 p0 p1 n1 n17 hp
      unfold ofV
      rw [if_pos e0, hf e p e0 e1 p0 p1]
      have r := slF_r (S := S) (E := E) (M := M) (e := e) (p := p) R' nsel.toNat (by omega)
      generalize slF S Y E M e p nsel.toNat = d at *
      unfold pvE
      rcases r with r | ⟨r1, r2, r3, r4⟩
      · rw [r, if_pos (by decide)]
        by_cases hi : inhP p = true
        · rw [if_pos hi]; exact hp
        · rw [if_neg hi]; exact vr_beg
      · rw [if_neg (by omega), if_neg (fun z => n1 z.1)]
        obtain ⟨c1, -, -, -, -, c6⟩ := R'.2.2.2.2.2.2.2.2.2.2.1 d.1 r1 r2
        rw [r4] at c1
        rw [c1] at c6
        have := c6 n1 n17
        rw [this.1]
        exact this.2.mono C12
    induction k with
    | zero =>
      intro e p he e1 p0 p1 n1 n17
      by_cases e0 : 0 ≤ e
      · refine step e p e0 e1 p0 p1 n1 n17 ?_
        have := (R.2.2.2.1 e e0 e1).2.2
        unfold ofV; rw [if_neg (by omega)]; exact vr_beg
      · unfold ofV; rw [if_neg e0]; exact vr_beg
    | succ k ih =>
      intro e p he e1 p0 p1 n1 n17
      by_cases e0 : 0 ≤ e
      · have := (R.2.2.2.1 e e0 e1).2.2
        exact step e p e0 e1 p0 p1 n1 n17 (ih (S 7 e) p (by omega) (by omega) p0 p1 n1 n17)
      · unfold ofV; rw [if_neg e0]; exact vr_beg
  exact fun e p e1 p0 p1 n1 n17 => key _ e p (Nat.le_refl _) e1 p0 p1 n1 n17
theorem t_rel {h S p : Hp} {l a n N E F M : Int} {s : Int → List Int} (hL : LAY h) (hl : l ∈ in_aX24) (R : SA S p a n N s E F M) (X : SXt S h (l + 1) n E M) : Pz (m_X24_relations l h) (fun h' => F2 (fun b j => l + 40 ≤ b ∧ b ≤ l + 44 ∧ 0 ≤ j) h h' ∧ RL S h' l E M) := by
  have h24 := aX24 hl
  have E0 := R.2.2.1.2.1
  have E5 := R.2.2.1.2.2.1
  have M0 := R.2.2.2.2.2.1.2.1
  have M1 := R.2.2.2.2.2.1.2.2.1
  have n1 := R.1.2.1
  have pw : PW (S 7) E := ⟨E0, E5, fun e e0 e1 => ⟨(R.2.2.2.1 e e0 e1).2.2.1, (R.2.2.2.1 e e0 e1).2.2.2.1⟩⟩
  have cuR := R.2.2.2.2.2.2.2.1
  have cuE := R.2.2.2.2.2.2.2.2
  have iw : IW (S 2) (S 3) (S 7) E M := by
    refine ⟨M0, by omega, fun m m0 m1 i1 => ?_, cuR, fun m m1 i2 => ?_⟩
    · rcases R.2.2.2.2.2.1.2.2.2 m m0 m1 with z | z | z | z
      · exact ⟨z.2.2.2.1, z.2.2.2.2.1⟩
      · omega
      · omega
      · omega
    · have := (cuE m m1).2 i2
      rcases R.2.2.2.2.2.1.2.2.2 m (by omega) m1 with z | z | z | z
      · omega
      · omega
      · omega
      · omega
  have lay : ∀ q, F2 (fun b j => l + 40 ≤ b ∧ b ≤ l + 44 ∧ 0 ≤ j) h q → LAY q := fun q Fq => trW_l hL hl (Fq.mono (fun b j z => by unfold trW crW; omega))
  obtain ⟨⟨u1, u2, u3⟩, u4, u5, u6, u7⟩ := X
  unfold m_X24_relations
  refine z_lt (z_bind (z_mono (t_rel1 hL hl u3 E0 E5) (fun g1 k1 => z_lt ?_)))
  obtain ⟨f1, z1⟩ := k1
  have F1 : F2 (fun b j => l + 40 ≤ b ∧ b ≤ l + 44 ∧ 0 ≤ j) h g1 := f1.mono (fun b j z => by omega)
  refine z_bind (z_mono (t_rel2 (P := S 7) (lay g1 F1) hl (by rw [F1 _ _ (by omega)]; exact u3) pw (fun e e0 e1 => by rw [F1 _ _ (by omega), ← u6 7 (by decide) (by decide) e e0 e1, show l + 1 + 7 = l + 8 by omega]) z1) (fun g2 k2 => z_lt (z_lt ?_)))
  obtain ⟨f2, z2, z3⟩ := k2
  have F2' : F2 (fun b j => l + 40 ≤ b ∧ b ≤ l + 44 ∧ 0 ≤ j) h g2 := F1.trans f2
  refine z_bind (z_mono (t_rel3 (I := S 2) (A := S 3) (P := S 7) (lay g2 F2') hl (by rw [F2' _ _ (by omega)]; exact u2) pw iw (fun e e0 e1 => by rw [F2' _ _ (by omega), ← u6 7 (by decide) (by decide) e e0 e1, show l + 1 + 7 = l + 8 by omega]) (fun m m0 m1 => by
    rw [F2' _ _ (by omega), F2' _ _ (by omega), ← u5 2 (by decide) (by decide) m m0 m1, ← u5 3 (by decide) (by decide) m m0 m1, show l + 1 + 2 = l + 3 by omega, show l + 1 + 3 = l + 4 by omega]; exact ⟨rfl, rfl⟩) (fun e e0 e1 => (z3 e e0 e1).2.2)) (fun g3 k3 => z_some ?_))
  obtain ⟨f3, z4⟩ := k3
  refine ⟨F2'.trans (f3.mono (fun b j z => by omega)), fun e e0 e1 => ⟨?_, ?_, z4 e e0 e1⟩, fun k k0 k1 => ?_⟩
  · rw [f3 _ _ (by omega)]; exact (z3 e e0 e1).1
  · rw [f3 _ _ (by omega)]; exact (z3 e e0 e1).2.1
  · rw [f3 _ _ (by omega)]; exact z2 k k0 k1
/-- a tree: its rows V, out of the source S and the style Y -/
def TSp (S Y V : Hp) (E M nsel : Int) : Prop := (∀ j, 0 ≤ j → j < 16384 → V 22 j = Y 1 j) ∧ (∀ k, 0 ≤ k → k < 6 → V 23 k = Y 3 k) ∧ PV S Y E M nsel (V 24) ∧
  ∀ e, 0 ≤ e → e < E → V 25 e = (if 0 ≤ (slF S Y E M e 17 nsel.toNat).1 then Y 19 (slF S Y E M e 17 nsel.toNat).1 else 0) ∧ V 26 e = (if 0 ≤ (slF S Y E M e 17 nsel.toNat).1 then Y 20 (slF S Y E M e 17 nsel.toNat).1 else 0) ∧ FLV V (S 7) e ∧ V 28 e = cntC (V 36) (S 7) e E.toNat ∧ V 27 e = vlF (V 30) (V 24) e
theorem t_make {h S Y p p' : Hp} {l l' ly a a' n n' N N' E F M C ns na nsel nb nt m : Int} {s s' : Int → List Int} (hL : LAY h) (hl : l ∈ in_aX24) (hl' : l' ∈ in_aX23) (hd : l + 48 < l' ∨ l' + 20 < l) (hly : ly ∈ in_aX22) (eS : S = vw h l') (eY : Y = vw h ly) (R : SA S p a n N s E F M) (R' : YA Y p' a' n' N' s' C ns na nsel nb nt m) :
    Pz (m_X24_make l l' ly h) (fun h' => F2 (trW l) h h' ∧ SXt S h' (l + 1) n E M ∧ TSp S Y (vw h' l) E M nsel) := by
  have h24 := aX24 hl
  have h22 := aX22 hly
  have E0 := R.2.2.1.2.1
  have E5 := R.2.2.1.2.2.1
  have M0 := R.2.2.2.2.2.1.2.1
  have M1 := R.2.2.2.2.2.1.2.2.1
  have n1 := R.1.2.1
  have hn := R'.2.1.2.2.1
  have hn2 := R'.2.1.2.2.2.1
  have yk : ∀ q : Hp, (∀ b j, ly ≤ b → b ≤ ly + 22 → q b j = h b j) → ∀ k, 0 ≤ k → k ≤ 22 → q (ly + k) = Y k := fun q hq k k0 k1 => by
    rw [eY]; funext j; exact hq _ _ (by omega) (by omega)
  unfold m_X24_make
  simp only [g_X24_0 hL hl, (ly_X23 hL h24.2.2).1]
  refine z_gd trivial ?_
  refine z_bind (z_mono (t_copy (l' := l') hL h24.2.2 hl' (by omega) (eS ▸ R)) (fun g1 k1 => z_lt ?_))
  obtain ⟨f1, x1⟩ := k1
  rw [← eS] at x1
  have F1 : F2 (trW l) h g1 := f1.mono (fun b j z => Or.inl z)
  -- the style's text
  refine z_bind (z_fill (g := Y 1) (n := 16384) (d := l + 22) (s := 0) (by decide) (fun x q x0 z1 Fq => ?_) (fun g2 Fg2 Eg2 => ?_))
  · have Fh : F2 (trW l) h q := F1.trans (Fq.mono (fun b j z => by unfold trW; omega))
    have Lq := trW_l hL hl Fh
    have k0 := g_X22_0 Lq hly
    have ky := yk q (fun b j b0 b1 => Fh _ _ (by unfold trW crW; omega)) 1 (by decide) (by decide)
    show m_X24_make_l10 l ly x q = _
    unfold m_X24_make_l10
    simp only [(ly_X22 Lq hly).1, k0.1, k0.2.1, k0.2.2, g_X24_1 Lq hl, ky]
    rw [if_neg (by omega), gd_t trivial, gd_t ⟨by decide, x0, by omega⟩, gd_t ⟨by decide, x0, by omega⟩, pt_e, lt_e, e32 (x := x + 1) (by omega) (by omega), Int.zero_add]
  show Pz (m_X24_make_l10 l ly 16384 g2) _
  unfold m_X24_make_l10
  refine z_it (by decide) (z_some (z_lt ?_))
  have F2' : F2 (trW l) h g2 := F1.trans (Fg2.mono (fun b j z => by unfold trW; omega))
  -- the page
  refine z_bind (z_fill (g := Y 3) (n := 6) (d := l + 23) (s := 0) (by decide) (fun x q x0 z1 Fq => ?_) (fun g3 Fg3 Eg3 => ?_))
  · have Fh : F2 (trW l) h q := F2'.trans (Fq.mono (fun b j z => by unfold trW; omega))
    have Lq := trW_l hL hl Fh
    have k2 := g_X22_2 Lq hly
    have ky := yk q (fun b j b0 b1 => Fh _ _ (by unfold trW crW; omega)) 3 (by decide) (by decide)
    show m_X24_make_l37 l ly x q = _
    unfold m_X24_make_l37
    simp only [(ly_X22 Lq hly).1, k2.1, k2.2.1, k2.2.2, g_X24_2 Lq hl, ky]
    rw [if_neg (by omega), gd_t trivial, gd_t ⟨by decide, x0, by omega⟩, gd_t ⟨by decide, x0, by omega⟩, pt_e, lt_e, e32 (x := x + 1) (by omega) (by omega), Int.zero_add]
  show Pz (m_X24_make_l37 l ly 6 g3) _
  unfold m_X24_make_l37
  refine z_it (by decide) (z_some ?_)
  have F3 : F2 (trW l) h g3 := F2'.trans (Fg3.mono (fun b j z => by unfold trW; omega))
  have L3 := trW_l hL hl F3
  have c13 : F2 (fun b j => l + 22 ≤ b ∧ b ≤ l + 23 ∧ 0 ≤ j) g1 g3 := (Fg2.mono (fun b j z => by omega)).trans (Fg3.mono (fun b j z => by omega))
  -- relations
  have SX : ∀ q, F2 (fun b j => l + 22 ≤ b ∧ 0 ≤ j) g1 q → SXt S q (l + 1) n E M := fun q Fq => by
    obtain ⟨⟨u1, u2, u3⟩, u4, u5, u6, u7⟩ := x1
    have k : ∀ b j, b ≤ l + 21 → q b j = g1 b j := fun b j hb => Fq _ _ (by omega)
    refine ⟨⟨by rw [k _ _ (by omega)]; exact u1, by rw [k _ _ (by omega)]; exact u2, by rw [k _ _ (by omega)]; exact u3⟩, fun j j0 j1 => by rw [k _ _ (by omega)]; exact u4 j j0 j1, fun c c0 c1 m m0 m1 => by rw [k _ _ (by omega)]; exact u5 c c0 c1 m m0 m1, fun c c0 c1 e e0 e1 => by rw [k _ _ (by omega)]; exact u6 c c0 c1 e e0 e1, fun c c0 c1 e x e0 e1 y0 y1 => by rw [k _ _ (by omega)]; exact u7 c c0 c1 e x e0 e1 y0 y1⟩
  have SX3 := SX g3 (c13.mono (fun b j z => by omega))
  show Pz ((m_X24_relations l g3).bind _) _
  refine z_bind (z_mono (t_rel L3 hl R SX3) (fun g4 k4 => z_lt ?_))
  obtain ⟨f4, rl⟩ := k4
  have F4 : F2 (trW l) h g4 := F3.trans (f4.mono (fun b j z => by unfold trW; omega))
  have L4 := trW_l hL hl F4
  have c14 : F2 (fun b j => (l + 22 ≤ b ∧ b ≤ l + 23 ∨ l + 40 ≤ b ∧ b ≤ l + 44) ∧ 0 ≤ j) g1 g4 := (c13.mono (fun b j z => by omega)).trans (f4.mono (fun b j z => by omega))
  have T4 : TT S Y g4 l ly n E M := ⟨L4, SX g4 (c14.mono (fun b j z => by omega)), yk g4 (fun b j b0 b1 => F4 _ _ (by unfold trW crW; omega)), rl⟩
  -- weights
  refine z_bind (z_fill (g := fun _ => -1) (n := 22 * E) (d := l + 37) (s := 0) (by omega) (fun x q x0 z1 Fq => ?_) (fun g5 Fg5 Eg5 => ?_))
  · have Tq : TT S Y q l ly n E M := T4.kept hl hly (Fq.mono (fun b j z => by omega))
    have Lq := Tq.1
    show m_X24_make_l67 l x q = _
    unfold m_X24_make_l67
    simp only [g_X24_0 Lq hl, (ly_X23 Lq h24.2.2).1, Tq.2.1.1.2.2, g_X24_16 Lq hl]
    rw [e32 (x := 22 * E) (by omega) (by omega), gd_t trivial, if_neg (by omega), gd_t ⟨by decide, x0, by omega⟩, pt_e, lt_e, e32 (x := x + 1) (by omega) (by omega), Int.zero_add]
  have T5 : TT S Y g5 l ly n E M := T4.kept hl hly (Fg5.mono (fun b j z => by omega))
  show Pz (m_X24_make_l67 l (22 * E) g5) _
  unfold m_X24_make_l67
  simp only [g_X24_0 T5.1 hl, (ly_X23 T5.1 h24.2.2).1, T5.2.1.1.2.2]
  rw [e32 (x := 22 * E) (by omega) (by omega)]
  refine z_gd trivial (z_it (Int.le_refl _) (z_some (z_lt ?_)))
  -- labels
  refine z_bind (z_rows (n := E) (d := l + 25) (m := 2) (g := fun _ _ => 0) E0 (by decide) (fun x q x0 z1 Fq => ?_) (fun g6 Fg6 Eg6 => ?_))
  · have Tq : TT S Y q l ly n E M := T5.kept hl hly (Fq.mono (fun b j z => by omega))
    have Lq := Tq.1
    have L' : LAY (up q (l + 25) x 0) := fl_l Lq hl (F2.refl.put ⟨by omega, x0⟩)
    show ∃ q', m_X24_make_l96 l x q = _ ∧ _
    unfold m_X24_make_l96
    simp only [g_X24_0 Lq hl, (ly_X23 Lq h24.2.2).1, Tq.2.1.1.2.2, g_X24_4 Lq hl]
    rw [gd_t trivial, if_neg (by omega), gd_t ⟨by decide, x0, by omega⟩, pt_e]
    simp only [g_X24_5 L' hl]
    rw [gd_t ⟨by decide, x0, by omega⟩, pt_e, lt_e, e32 (x := x + 1) (by omega) (by omega)]
    refine ⟨_, rfl, (F2.refl.put ⟨by omega, by omega, rfl⟩).put ⟨by omega, by omega, rfl⟩, fun k k0 k1 => ?_⟩
    have hk : k = 0 ∨ k = 1 := by omega
    rcases hk with rfl | rfl
    · rw [show l + 25 + 0 = l + 25 by omega, up_a (by omega), up_s]
    · rw [show l + 25 + 1 = l + 26 by omega, up_s]
  have T6 : TT S Y g6 l ly n E M := T5.kept hl hly (Fg6.mono (fun b j z => by omega))
  show Pz (m_X24_make_l96 l E g6) _
  unfold m_X24_make_l96
  simp only [g_X24_0 T6.1 hl, (ly_X23 T6.1 h24.2.2).1, T6.2.1.1.2.2]
  refine z_gd trivial (z_it (Int.le_refl _) (z_some (z_lt ?_)))
  have d6 : ∀ e, 0 ≤ e → e < E → prD Y g6 l e (fun q => slF S Y E M e q 0) := fun e e0 e1 => by
    refine ⟨fun p p0 p1 => ⟨?_, fun z => ?_⟩, ?_, ?_⟩
    · show g6 (l + 37) (22 * e + p) = -1
      rw [Fg6 _ _ (by omega)]
      have := Eg5 (22 * e + p) (by omega) (by omega)
      rwa [Int.zero_add] at this
    · exact absurd z (by show ¬ (0 : Int) ≤ -1; decide)
    · have := Eg6 0 e (by decide) (by decide) e0 e1
      rw [show l + 25 + 0 = l + 25 by omega] at this
      rw [this]; exact (if_neg (by show ¬ (0 : Int) ≤ -1; decide)).symm
    · have := Eg6 1 e (by decide) (by decide) e0 e1
      rw [show l + 25 + 1 = l + 26 by omega] at this
      rw [this]; exact (if_neg (by show ¬ (0 : Int) ≤ -1; decide)).symm
  have c26 : F2 (fun b j => (l + 25 ≤ b ∧ b ≤ l + 26 ∨ b = l + 37 ∨ l + 40 ≤ b ∧ b ≤ l + 44) ∧ 0 ≤ j) g3 g6 := ((f4.mono (fun b j z => by omega)).trans (Fg5.mono (fun b j z => by omega))).trans (Fg6.mono (fun b j z => by omega))
  clear Fg5 Fg6 Eg5 Eg6
  -- selectors
  refine z_bind (z_mono (z_lp (Q := fun h' => F2 (trW l) h h' ∧ SXt S h' (l + 1) n E M ∧ TSp S Y (vw h' l) E M nsel) (fun (s : Int × Hp) => 0 ≤ s.1 ∧ s.1 ≤ nsel ∧ F2 (fun b j => (l + 24 ≤ b ∧ b ≤ l + 26 ∨ l + 37 ≤ b ∧ b ≤ l + 39) ∧ 0 ≤ j) g6 s.2 ∧ ∀ e, 0 ≤ e → e < E → prD Y s.2 l e (fun q => slF S Y E M e q s.1.toNat)) (fun s => (nsel + 1 - s.1).toNat) ⟨Int.le_refl _, hn, F2.refl, d6⟩ ?_) (fun r hr => z_some hr))
  rintro ⟨x, q⟩ ⟨x0, xn, Fq, Dq⟩
  dsimp only at x0 xn Dq
  replace Fq : F2 (fun b j => (l + 24 ≤ b ∧ b ≤ l + 26 ∨ l + 37 ≤ b ∧ b ≤ l + 39) ∧ 0 ≤ j) g6 q := Fq
  have Tq : TT S Y q l ly n E M := T6.kept hl hly (Fq.mono (fun b j z => by omega))
  have Lq := Tq.1
  have qs : q ly 3 = nsel := by
    have := Tq.2.2.1 0 (by decide) (by decide)
    rw [Int.add_zero] at this
    rw [this]; exact R'.2.1.2.1
  show Pz (m_X24_make_l129 l ly x q) _
  unfold m_X24_make_l129
  simp only [(ly_X22 Lq hly).1, qs]
  refine z_gd trivial ?_
  by_cases hx : nsel ≤ x
  · have : x = nsel := by omega
    subst this
    refine z_it hx ?_
    refine z_bind (z_mono (t_inherit hl hly R R' Tq Dq) (fun g7 k7 => ?_))
    obtain ⟨f7, pv⟩ := k7
    have T7 : TT S Y g7 l ly n E M := Tq.kept hl hly (f7.mono (fun b j z => by omega))
    refine z_bind (z_mono (t_flags hl hly R T7) (fun g8 k8 => ?_))
    obtain ⟨f8, fl, cl⟩ := k8
    have T8 : TT S Y g8 l ly n E M := T7.kept hl hly (f8.mono (fun b j z => by omega))
    have r24 : g8 (l + 24) = g7 (l + 24) := f8.row (fun j z => by omega)
    refine z_bind (z_mono (t_count T8.1 hl T8.2.1.1.2.2 E0 E5 (fun e e0 e1 => ?_)) (fun g9 k9 => z_some ?_))
    · rw [r24]
      have r15 := PV.rng R R' pv e 15 e1 (by decide) (by decide) (by decide) (by decide)
      have r16 := PV.rng R R' pv e 16 e1 (by decide) (by decide) (by decide) (by decide)
      unfold ofV at r15 r16
      rw [if_pos e0] at r15 r16
      unfold vrO at r15 r16
      omega
    · obtain ⟨f9, vl⟩ := k9
      have T9 : TT S Y g9 l ly n E M := T8.kept hl hly (f9.mono (fun b j z => by omega))
      have c69 : F2 (fun b j => (l + 24 ≤ b ∧ b ≤ l + 39 ∨ b = l + 45) ∧ 0 ≤ j) g6 g9 := (((Fq.mono (fun b j z => by omega)).trans (f7.mono (fun b j z => by omega))).trans (f8.mono (fun b j z => by omega))).trans (f9.mono (fun b j z => by omega))
      have c39 : F2 (fun b j => (l + 24 ≤ b ∧ b ≤ l + 45) ∧ 0 ≤ j) g3 g9 := (c26.mono (fun b j z => by omega)).trans (c69.mono (fun b j z => by omega))
      have r24' : g9 (l + 24) = g7 (l + 24) := (f9.row (fun j z => by omega)).trans r24
      have r30' : g9 (l + 30) = g8 (l + 30) := f9.row (fun j z => by omega)
      refine ⟨F3.trans (c39.mono (fun b j z => by unfold trW crW; omega)), T9.2.1, fun j j0 j1 => ?_, fun k k0 k1 => ?_, ?_, fun e e0 e1 => ?_⟩
      · show g9 (l + 22) j = _
        rw [c39 _ _ (by omega), Fg3 _ _ (by omega)]
        have := Eg2 j j0 j1
        rwa [Int.zero_add] at this
      · show g9 (l + 23) k = _
        rw [c39 _ _ (by omega)]
        have := Eg3 k k0 k1
        rwa [Int.zero_add] at this
      · show PV S Y E M x (g9 (l + 24))
        rw [r24']; exact pv
      · have d := Dq e e0 e1
        refine ⟨?_, ?_, FLV.congr e0 (R.2.2.2.1 e e0 e1).2.2.2.1 (fl e e0 e1) (fun b j b0 b1 j0 j1 => ?_) ?_, ?_, ?_⟩
        · show g9 (l + 25) e = _
          rw [f9 _ _ (by omega), f8 _ _ (by omega), f7 _ _ (by omega)]; exact d.2.1
        · show g9 (l + 26) e = _
          rw [f9 _ _ (by omega), f8 _ _ (by omega), f7 _ _ (by omega)]; exact d.2.2
        · show g9 (l + b) j = g8 (l + b) j
          exact f9 _ _ (by omega)
        · show g9 (l + 24) = g8 (l + 24)
          exact f9.row (fun j z => by omega)
        · show g9 (l + 28) e = cntC (g9 (l + 36)) (S 7) e E.toNat
          rw [f9 _ _ (by omega), (show g9 (l + 36) = g8 (l + 36) from f9.row (fun j z => by omega))]; exact cl e e0 e1
        · show g9 (l + 27) e = vlF (g9 (l + 30)) (g9 (l + 24)) e
          rw [vl e e0 e1, r30', r24', r24]
  · refine z_ie hx ?_
    refine z_bind (z_mono (t_apply (k := x) (D := fun e q => slF S Y E M e q x.toNat) hl hly R R' Tq x0 (by omega) Dq) (fun g7 k7 => z_lt (z_some ?_)))
    obtain ⟨f7, d7⟩ := k7
    rw [e32 (x := x + 1) (by omega) (by omega)]
    refine ⟨⟨by dsimp only; omega, by dsimp only; omega, Fq.trans f7, fun e e0 e1 => ?_⟩, by dsimp only; omega⟩
    dsimp only
    have := d7 e e0 e1
    have ex : ((x.toNat : Nat) : Int) = x := by omega
    rw [show (x + 1).toNat = x.toNat + 1 by omega]
    unfold slF
    rw [ex]
    exact this
