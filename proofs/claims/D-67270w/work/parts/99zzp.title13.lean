set_option maxRecDepth 100000
/-! TITLES: the component's title, joined -/
theorem c_title {S Y V p : Hp} {a b cap sa ya n N E F M n' N' C ns na nsel nb nt m e : Int} {s s' : Int → List Int} {L : List Int} (T : KC S Y V p a sa ya n N s E F M n' N' s' C ns na nsel nb nt m) (e0 : 0 ≤ e) (e1 : e < E) (hb : b ∈ in_aX5) (hb2 : 273 ≤ b) (B : bsL p b L) (hc : p (b + 1) (-1) = cap) (hl : (L.length : Int) + 40 ≤ cap) (hc2 : cap ≤ 100000) :
    Pz (m_X7_title a e b p) (fun r => r.1 = (0, 0) ∧ F2 (tlW a b) p r.2 ∧ bsL r.2 b (L ++ tiT S Y V e)) := by
  have ha := T.1.2.1
  have h7 := aX7 ha
  have R := T.2.1
  have n3 := R.1.2.1
  have Mn := R.2.2.2.2.2.1.2.2.1
  have E5 := R.2.2.1.2.2.1
  have be := R.2.2.2.2.2.2.1 e e0 e1
  have j6 := g_X7_6 T.1.1 ha
  have z4 := (T.2.2.2.1.2.1 e e0 e1).2.1
  unfold m_X7_title
  simp only [j6.1, j6.2.1, j6.2.2, z4]
  refine z_gd ⟨by decide, e0, by omega⟩ ?_
  by_cases h0 : V 30 e = 0
  · have : tiT S Y V e = [] := by unfold tiT; exact if_pos h0
    rw [this, List.append_nil]
    exact z_ie (fun z => z h0) (z_some ⟨rfl, F2.refl, B⟩)
  · have eT : tiT S Y V e = ttF (ttL ([], false) (tiA S Y V e)).1 := by unfold tiT; exact if_neg h0
    rw [eT]
    refine z_it h0 (z_pt (z_pt ?_))
    have f0 : F2 (tlW a b) p (up (up p a 19 0) a 20 0) := (F2.refl.put (Or.inl (Or.inr ⟨rfl, Or.inl rfl⟩))).put (Or.inl (Or.inr ⟨rfl, Or.inr rfl⟩))
    have B0 : ttC (up (up p a 19 0) a 20 0) a b L ([], false) := ⟨[], by rw [List.append_nil]; exact B.kept (by rw [up_a (by omega), up_a (by omega)]) (by rw [up_row (by omega), up_row (by omega)]), Or.inl ⟨by decide, by rw [up_j (by decide), up_s]; rfl, rfl, by rw [up_s]; rfl⟩⟩
    generalize up (up p a 19 0) a 20 0 = g0 at *
    have T0 := T.kept hb hb2 f0
    obtain ⟨r, er, r1, r2, r3⟩ := c_titleLabel T0 e0 e1 hb hb2 B0 (by rw [f0 _ _ (by unfold tlW ttW b5W; omega)]; exact hc) hl hc2
    rw [bT_0 er (by rw [r1])]
    obtain ⟨rv, g1⟩ := r
    dsimp only at r1 r2 r3 ⊢
    have F1 := f0.trans r2
    have T1 := T.kept hb hb2 F1
    have j16 := g_X7_16 T1.1.1 ha
    have v13 := (T1.2.2.2.1.2.1 e e0 e1).2.2.2.2.2.2
    simp only [j16.1, j16.2.1, j16.2.2, v13]
    rw [e32 (x := S 11 e + 1) (by omega) (by omega)]
    refine z_gd ⟨by decide, e0, by omega⟩ (z_lt (z_lt (z_lt (z_bind (z_mono (z_lp (Q := fun r => r.1 = (0, 0) ∧ F2 (tlW a b) p r.2 ∧ ttC r.2 a b L (ttL ([], false) (tiA S Y V e))) (fun (z : Int × Int × Int × Hp) => (z.2.2.1 = 1 ∧ tiJ S Y V p a b e L (tiA S Y V e) z.1 z.2.1 z.2.2.2) ∨ (z.2.2.1 = 0 ∧ F2 (tlW a b) p z.2.2.2 ∧ ttC z.2.2.2 a b L (ttL ([], false) (tiA S Y V e)))) (fun z => (S 12 e + 2 - z.1).toNat + z.2.2.1.toNat) ?_ ?_) (fun r hr => z_some ⟨hr.1, hr.2.1, hr.2.2.fin⟩))))))
    · exact Or.inl ⟨rfl, F1, by dsimp only; omega, by dsimp only; omega, lbS Y V e, (S 12 e).toNat, S 11 e + 1, by omega, rfl, r3, Or.inl ⟨rfl, rfl⟩⟩
    · rintro ⟨k, sk, go, g⟩ hI
      dsimp only at hI
      rcases hI with ⟨rfl, I⟩ | ⟨rfl, Fg, Bg⟩
      · have kk : k ≤ S 12 e := I.2.2.1
        show Pz (m_X7_title_l41 a e b k sk 1 g) _
        refine z_mono (c_titleTurn T e0 e1 hb hb2 hc hl hc2 I) ?_
        rintro r (⟨g', rfl, x1, x2⟩ | ⟨sk', g', rfl, x1⟩ | ⟨sk', g', rfl, x1, x2⟩)
        · exact ⟨rfl, x1, x2⟩
        · exact ⟨Or.inl ⟨rfl, x1⟩, by dsimp only; omega⟩
        · exact ⟨Or.inr ⟨rfl, x1, x2⟩, by dsimp only; omega⟩
      · show Pz (m_X7_title_l41 a e b k sk 0 g) _
        unfold m_X7_title_l41
        exact z_it rfl (z_some ⟨rfl, Fg, Bg⟩)
