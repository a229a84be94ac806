set_option maxRecDepth 100000
/-! TITLES: the component's title, all of it -/
/-- what is left of a title: at k, or behind the element that is left out -/
def tiJ (S Y V p : Hp) (a b e : Int) (L A0 : List Int) (k sk : Int) (g : Hp) : Prop :=
  F2 (tlW a b) p g ∧ S 11 e < k ∧ k ≤ S 12 e ∧ ∃ A f nx, (S 12 e - nx).toNat ≤ f ∧ A ++ tiS S Y V (S 12 e) f nx = A0 ∧ ttC g a b L (ttL ([], false) A) ∧ ((sk = -1 ∧ nx = k) ∨ (0 ≤ sk ∧ S 11 sk < k ∧ k ≤ S 12 sk ∧ S 12 sk < S 12 e ∧ nx = S 12 sk + 1 ∧ S 3 (S 12 sk) = sk ∧ S 2 (S 12 sk) = 2))
theorem c_titleTurn {S Y V p g : Hp} {a b cap sa ya n N E F M n' N' C ns na nsel nb nt m e k sk : Int} {s s' : Int → List Int} {L A0 : List Int} (T : KC S Y V p a sa ya n N s E F M n' N' s' C ns na nsel nb nt m) (e0 : 0 ≤ e) (e1 : e < E) (hb : b ∈ in_aX5) (hb2 : 273 ≤ b) (hc : p (b + 1) (-1) = cap) (hl : (L.length : Int) + 40 ≤ cap) (hc2 : cap ≤ 100000) (I : tiJ S Y V p a b e L A0 k sk g) :
    Pz (m_X7_title_l41 a e b k sk 1 g) (fun r => (∃ g', r = .inr ((0, 0), g') ∧ F2 (tlW a b) p g' ∧ ttC g' a b L (ttL ([], false) A0)) ∨ (∃ sk' g', r = .inl (k + 1, sk', 1, g') ∧ tiJ S Y V p a b e L A0 (k + 1) sk' g') ∨ ∃ sk' g', r = .inl (k + 1, sk', 0, g') ∧ F2 (tlW a b) p g' ∧ ttC g' a b L (ttL ([], false) A0)) := by
  obtain ⟨Fg, k0, k1, A, f, nx, hf, hA, Bg, hs_⟩ := I
  have Tg := T.kept hb hb2 Fg
  have ha := T.1.2.1
  have h7 := aX7 ha
  have hs := T.1.2.2.1
  have R := T.2.1
  have n3 := R.1.2.1
  have Mn := R.2.2.2.2.2.1.2.2.1
  have E5 := R.2.2.1.2.2.1
  have be := R.2.2.2.2.2.2.1 e e0 e1
  have Lg := Tg.1.1
  have t0 := Tg.2.2.2.1.1.1
  have j21 := g_X6_21 Lg hs
  have j22 := g_X6_22 Lg hs
  have j17 := g_X7_17 Lg ha
  have j6 := g_X7_6 Lg ha
  have capg : g (b + 1) (-1) = cap := by rw [Fg _ _ (by unfold tlW ttW b5W; omega)]; exact hc
  have ev := Tg.2.1.2.2.2.2.2.1.2.2.2 k (by omega) (by omega)
  unfold m_X7_title_l41
  refine z_ie (by decide) ?_
  rw [q_full7, Option.bind_some]
  by_cases hfl : g a 19 = 40
  · rw [decide_eq_true hfl]
    refine z_it (by decide) (z_some (Or.inl ⟨g, rfl, Fg, ?_⟩))
    have := Bg.more (Bg.full.mp hfl) (tiS S Y V (S 12 e) f nx)
    rw [← ttL_app, hA] at this
    exact this
  · rw [decide_eq_false hfl]
    refine z_ie (by decide) ?_
    simp only [t0, (ly_X6 Lg hs).1, j21.1, j21.2.1, j21.2.2, j22.1, j22.2.1, j22.2.2, j17.1, j17.2.1, j17.2.2, j6.1, j6.2.1, j6.2.2]
    refine z_gd trivial (z_gd ⟨by decide, by omega, by omega⟩ (z_lt (z_gd ⟨by decide, by omega, by omega⟩ (z_lt ?_))))
    have j216 : ∀ sk' g', tiJ S Y V p a b e L A0 (k + 1) sk' g' → Pz (m_X7_title_j216 k sk' 1 g') (fun r => (∃ g', r = .inr ((0, 0), g') ∧ F2 (tlW a b) p g' ∧ ttC g' a b L (ttL ([], false) A0)) ∨ (∃ sk' g', r = .inl (k + 1, sk', 1, g') ∧ tiJ S Y V p a b e L A0 (k + 1) sk' g') ∨ ∃ sk' g', r = .inl (k + 1, sk', 0, g') ∧ F2 (tlW a b) p g' ∧ ttC g' a b L (ttL ([], false) A0)) := by
      intro sk' g' hI
      unfold m_X7_title_j216
      rw [lt_e, e32 (x := k + 1) (by omega) (by omega)]
      exact z_some (Or.inr (Or.inl ⟨sk', g', rfl, hI⟩))
    have skip : 0 ≤ sk → ¬ (S 2 k = 2 ∧ S 3 k = sk) → tiJ S Y V p a b e L A0 (k + 1) sk g := by
      intro z0 z1
      rcases hs_ with ⟨z, -⟩ | ⟨y0, y1, y2, y3, y4, y5, y6⟩
      · omega
      · have ne : k ≠ S 12 sk := fun w => z1 (by rw [w]; exact ⟨y6, y5⟩)
        exact ⟨Fg, by omega, by omega, A, f, nx, hf, hA, Bg, Or.inr ⟨y0, by omega, by omega, y3, y4, y5, y6⟩⟩
    have go1 : sk = -1 → k < S 12 e → ∃ f', (S 12 e - (k + 1)).toNat ≤ f' ∧ A ++ (if S 2 k = 1 then (if hid V (S 3 k) = true then tiS S Y V (S 12 e) f' (S 12 (S 3 k) + 1) else lbS Y V (S 3 k) ++ tiS S Y V (S 12 e) f' (k + 1)) else if S 2 k = 2 then tiS S Y V (S 12 e) f' (k + 1) else (if mtF V (cuP (S 2) (S 3) (S 7) k.toNat) = true then [] else itB S k) ++ tiS S Y V (S 12 e) f' (k + 1)) = A0 := by
      intro z0 z1
      rcases hs_ with ⟨-, z⟩ | z
      · subst z
        obtain ⟨f', rfl⟩ : ∃ f', f = f' + 1 := ⟨f - 1, by omega⟩
        refine ⟨f', by omega, ?_⟩
        unfold tiS at hA
        rw [if_neg (by omega)] at hA
        exact hA
      · omega
    rcases ev with ⟨v1, v2, v3, v4, v5, v6⟩ | ⟨v1, v2, v3, v4, v5, v6⟩ | ev
    · -- begin
      rw [v1, v3]
      have kn : k < S 12 e := by
        rcases (show k = S 12 e ∨ k < S 12 e by omega) with w | w
        · rw [w, be.2.2.2.2.2.1] at v2; exact absurd v2 (by decide)
        · exact w
      refine z_it (by decide) (z_ie (by decide) ?_)
      by_cases hk : 0 ≤ sk
      · refine z_it hk ?_
        unfold m_X7_title_j138
        exact z_it hk (j216 sk g (skip hk (fun w => by omega)))
      · have s1 : sk = -1 := by
          rcases hs_ with z | z <;> omega
        obtain ⟨f', hf', hA'⟩ := go1 s1 kn
        rw [if_pos v2] at hA'
        generalize S 3 k = x at *
        have z4 := (Tg.2.2.2.1.2.1 x v4 v5).2.1
        have zp := (Tg.2.2.2.1.2.1 x v4 v5).1.1 0 (by decide) (by decide) (by decide)
        rw [Int.add_zero] at zp
        have bx := R.2.2.2.2.2.2.1 x v4 v5
        have ne := nest_end R e0 e1 v4 v5 (by omega) (by omega)
        rw [z4, q_propK Tg v4 v5 (c := 0) (by decide) (by decide), Option.bind_some, Int.add_zero, zp]
        refine z_ie hk (z_gd ⟨by decide, v4, by omega⟩ ?_)
        have hidden : hid V x = true → Pz (m_X7_title_j134 x 1 a b k g) (fun r => (∃ g', r = .inr ((0, 0), g') ∧ F2 (tlW a b) p g' ∧ ttC g' a b L (ttL ([], false) A0)) ∨ (∃ sk' g', r = .inl (k + 1, sk', 1, g') ∧ tiJ S Y V p a b e L A0 (k + 1) sk' g') ∨ ∃ sk' g', r = .inl (k + 1, sk', 0, g') ∧ F2 (tlW a b) p g' ∧ ttC g' a b L (ttL ([], false) A0)) := by
          intro hh
          rw [if_pos hh] at hA'
          unfold m_X7_title_j134 m_X7_title_j138
          exact z_it v4 (j216 x g ⟨Fg, by omega, by omega, A, f', S 12 x + 1, by omega, hA', Bg, Or.inr ⟨v4, by omega, by omega, ne.1, rfl, bx.2.2.2.2.2.2.1, bx.2.2.2.2.2.1⟩⟩)
        have told : ¬ hid V x = true → Pz (m_X7_title_j138 x 1 a b k sk g) (fun r => (∃ g', r = .inr ((0, 0), g') ∧ F2 (tlW a b) p g' ∧ ttC g' a b L (ttL ([], false) A0)) ∨ (∃ sk' g', r = .inl (k + 1, sk', 1, g') ∧ tiJ S Y V p a b e L A0 (k + 1) sk' g') ∨ ∃ sk' g', r = .inl (k + 1, sk', 0, g') ∧ F2 (tlW a b) p g' ∧ ttC g' a b L (ttL ([], false) A0)) := by
          intro hh
          rw [if_neg hh] at hA'
          unfold m_X7_title_j138
          refine z_ie hk ?_
          obtain ⟨r, er, r1, r2, r3⟩ := c_titleLabel Tg v4 v5 hb hb2 Bg capg hl hc2
          rw [bT_0 er (by rw [r1])]
          exact j216 sk r.2 ⟨Fg.trans r2, by omega, by omega, A ++ lbS Y V x, f', k + 1, hf', by rw [List.append_assoc]; exact hA', by rw [ttL_app]; exact r3, Or.inl ⟨s1, rfl⟩⟩
        by_cases h0 : V 30 x = 0
        · exact z_it h0 (hidden (by unfold hid; rw [decide_eq_true h0]; rfl))
        · refine z_ie h0 ?_
          by_cases h3 : V 24 (22 * x) = 3
          · exact z_ie (fun z => z h3) (hidden (by unfold hid; rw [decide_eq_true h3, Bool.or_true]))
          · exact z_it h3 (told (by unfold hid; rw [decide_eq_false h0, decide_eq_false h3]; decide))
    · -- end
      rw [v1, v3]
      refine z_ie (fun z => z rfl) ?_
      by_cases he : S 3 k = e
      · refine z_ie (fun z => z he) (z_lt ?_)
        have ke : k = S 12 e := by rw [← he]; exact v6.symm
        have s1 : sk = -1 ∧ nx = k := by
          rcases hs_ with z | z
          · exact z
          · omega
        rw [s1.2, tiS_end (by omega), List.append_nil] at hA
        rw [hA] at Bg
        unfold m_X7_title_j90 m_X7_title_j216
        refine z_it (by omega) ?_
        rw [lt_e, e32 (x := k + 1) (by omega) (by omega)]
        exact z_some (Or.inr (Or.inr ⟨sk, g, rfl, Fg, Bg⟩))
      · have kn : k < S 12 e := by
          rcases (show k = S 12 e ∨ k < S 12 e by omega) with w | w
          · rw [w, be.2.2.2.2.2.2.1] at he; exact absurd rfl he
          · exact w
        refine z_it he ?_
        unfold m_X7_title_j90
        by_cases hk : S 3 k = sk
        · refine z_ie (fun z => z hk) (z_lt (j216 (-1) g ?_))
          rcases hs_ with z | ⟨y0, y1, y2, y3, y4, y5, y6⟩
          · omega
          · have ks : k = S 12 sk := by rw [← hk]; exact v6.symm
            exact ⟨Fg, by omega, by omega, A, f, nx, hf, hA, Bg, Or.inl ⟨rfl, by omega⟩⟩
        · refine z_it hk (j216 sk g ?_)
          by_cases h0 : 0 ≤ sk
          · exact skip h0 (fun w => hk w.2)
          · have s1 : sk = -1 := by
              rcases hs_ with z | z <;> omega
            obtain ⟨f', hf', hA'⟩ := go1 s1 kn
            rw [if_neg (by omega), if_pos v2] at hA'
            exact ⟨Fg, by omega, by omega, A, f', k + 1, hf', hA', Bg, Or.inl ⟨s1, rfl⟩⟩
    · -- a piece
      have vv : g (sa + 20) k = 2 ∧ S 2 k ≠ 1 ∧ S 2 k ≠ 2 := by
        rcases ev with z | z <;> omega
      have kn : k < S 12 e := by
        rcases (show k = S 12 e ∨ k < S 12 e by omega) with w | w
        · rw [w, be.2.2.2.2.2.1] at vv; exact absurd rfl vv.2.2
        · exact w
      rw [vv.1]
      refine z_it (by decide) (z_it (by decide) ?_)
      by_cases hk : 0 ≤ sk
      · exact z_it hk (j216 sk g (skip hk (fun w => vv.2.2 w.1)))
      · have s1 : sk = -1 := by
          rcases hs_ with z | z <;> omega
        obtain ⟨f', hf', hA'⟩ := go1 s1 kn
        rw [if_neg vv.2.1, if_neg vv.2.2] at hA'
        have ar := Tg.2.2.2.1.2.2 k (by omega) (by omega)
        have ea : arF S k = cuP (S 2) (S 3) (S 7) k.toNat := by unfold arF; rw [if_neg vv.2.1]
        rw [ea] at ar
        obtain ⟨dk, hd⟩ := nest R e0 e1 k.toNat (by omega) (by omega)
        have ye := dsc_le _ _ hd
        have yE := (R.2.2.2.2.2.2.2.1 k.toNat (by omega)).2
        rw [ar, q_mute7 Tg (by omega) yE, Option.bind_some]
        refine z_ie hk (z_gd ⟨by decide, by omega, by omega⟩ ?_)
        cases hm : mtF V (cuP (S 2) (S 3) (S 7) k.toNat)
        · rw [hm] at hA'
          refine z_ie (by decide) (z_lt (z_bind (z_mono (c_piece Tg hb hb2 Bg capg hl hc2 (by omega) (by omega) vv.2.1 vv.2.2) ?_)))
          rintro r ⟨q, rfl, f1, b1⟩
          show Pz (m_X7_title_j216 k sk 1 q) _
          exact j216 sk q ⟨Fg.trans f1, by omega, by omega, A ++ itB S k, f', k + 1, hf', by rw [List.append_assoc]; exact hA', by rw [ttL_app]; exact b1, Or.inl ⟨s1, rfl⟩⟩
        · rw [hm] at hA'
          exact z_it (by decide) (j216 sk g ⟨Fg, by omega, by omega, A, f', k + 1, hf', hA', Bg, Or.inl ⟨s1, rfl⟩⟩)
