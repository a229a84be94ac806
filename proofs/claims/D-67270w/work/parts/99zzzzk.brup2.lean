-- needs: 99zzzzj
set_option maxRecDepth 100000
/-! LINES: the reference writes the lines -/
def lwW (s lam : Int) : Int → Int → Prop := fun q j => ((q = s + 71 ∨ q = s + 72) ∧ lam ≤ j) ∨ mfW s q j
theorem lwW_l {h h' : Hp} {s lam : Int} (hL : LAY h) (hs : s ∈ in_aX25) (l0 : 0 ≤ lam) (f : F2 (lwW s lam) h h') : LAY h' :=
  lay_W hL f _ _ (rgS hs) (rgM hs) (fun q j z => by
    have hs' : 671 ≤ s ∧ s ≤ 825 := by have := aX25 hs; omega
    rcases z with z | z
    · exact ⟨by omega, Or.inl ⟨_, List.mem_cons_self, by dsimp only; omega, by dsimp only; omega⟩⟩
    · unfold mfW at z
      refine ⟨by omega, Or.inr ⟨_, List.mem_cons_self, z.1, ?_⟩⟩
      have : j = 112 ∨ j = 113 ∨ j = 114 ∨ j = 115 ∨ j = 116 ∨ j = 117 ∨ j = 118 ∨ j = 119 ∨ j = 120 := by omega
      rcases this with rfl | rfl | rfl | rfl | rfl | rfl | rfl | rfl | rfl <;> (dsimp only; decide))
theorem t_bro {D h : Hp} {s p β τ lam : Int} (hL : LAY h) (hs : s ∈ in_aX25) (U : lnU h s p β D) (O : lnO D) (e61 : h (s + 61) p = lam) (l0 : 0 ≤ lam) (l1 : lam + D 6 0 < 25208) (T : ∀ b, 1 ≤ b → b ≤ D 6 0 → tbT D h s τ b) :
    ∀ (n : Nat) (b c : Int) (g : Hp), F2 (lwW s lam) h g → 0 ≤ b → b ≤ n → b ≤ D 6 0 → 0 ≤ c → c ≤ 3 → (1 ≤ b → tR h s b c) → Pz (lp (fun (q : Int × Int × Int × Hp) => m_X25_breakUp_l263 s p q.1 q.2.1 q.2.2.1 q.2.2.2) (b, c, ((chL (tF h s) (tG h s) n b c).length : Int) - 1, g)) (fun g' => F2 (lwW s lam) h g' ∧ (∀ j, lam + (chL (tF h s) (tG h s) n b c).length ≤ j → g' (s + 71) j = g (s + 71) j ∧ g' (s + 72) j = g (s + 72) j) ∧ ∀ j : Int, 0 ≤ j → j < (chL (tF h s) (tG h s) n b c).length → g' (s + 71) (lam + j) = enE (chL (tF h s) (tG h s) n b c).reverse (j + 1) ∧ g' (s + 72) (lam + j) = lnR2 D (enE (chL (tF h s) (tG h s) n b c).reverse j) (enE (chL (tF h s) (tG h s) n b c).reverse (j + 1))) := by
  have hs' : 671 ≤ s ∧ s ≤ 825 := by have := aX25 hs; omega
  have m6 := O.1
  obtain ⟨p0, p1, -, -⟩ := U.1.2.1
  have Tdp : ∀ b, 1 ≤ b → b ≤ D 6 0 → dpR D τ (tR h s) (tB h s) (tF h s) (tG h s) b := fun b b0 b1 => (T b b0 b1).1
  have keep : ∀ {g}, F2 (lwW s lam) h g → LAY g ∧ lnU g s p β D ∧ g (s + 61) p = lam ∧ (∀ k j, 136 ≤ k → k ≤ 139 → g (s + k) j = h (s + k) j) := fun {g} Fg => ⟨lwW_l hL hs l0 Fg, U.kept (fun b x0 x1 x2 => Fg.row (fun j z => by unfold lwW mfW at z; omega)), by rw [Fg _ _ (fun z => by unfold lwW mfW at z; omega)]; exact e61, fun k j k0 k1 => Fg _ _ (fun z => by unfold lwW mfW at z; omega)⟩
  intro n
  have stop : ∀ b c x g, x < 0 → lp (fun (q : Int × Int × Int × Hp) => m_X25_breakUp_l263 s p q.1 q.2.1 q.2.2.1 q.2.2.2) (b, c, x, g) = some g := fun b c x g hx => by
    refine lp_out ?_
    show m_X25_breakUp_l263 s p b c x g = _
    unfold m_X25_breakUp_l263
    rw [if_pos hx]
  induction n with
  | zero =>
    intro b c g Fg b0 bn bm c0 c3 hr
    unfold chL
    rw [stop _ _ _ _ (show (([] : List Int).length : Int) - 1 < 0 by decide)]
    exact z_some ⟨Fg, fun _ _ => ⟨rfl, rfl⟩, fun j j0 j1 => by dsimp only [List.length_nil] at j1; omega⟩
  | succ n ih =>
    intro b c g Fg b0 bn bm c0 c3 hr
    have inc := chL_inc Tdp (n + 1) b c b0 bn bm c0 c3 hr
    unfold chL at inc ⊢
    by_cases hb : b ≤ 0
    · rw [if_pos hb, stop _ _ _ _ (show (([] : List Int).length : Int) - 1 < 0 by decide)]
      exact z_some ⟨Fg, fun _ _ => ⟨rfl, rfl⟩, fun j j0 j1 => by dsimp only [List.length_nil] at j1; omega⟩
    rw [if_neg hb] at inc ⊢
    obtain ⟨s2, s3, s4, s5, s7⟩ := tbT_step T (show 1 ≤ b by omega) bm c0 c3 (hr (by omega))
    have last := (chL_inc Tdp n (tF h s b c) (tG h s b c) s2 (by omega) (by omega) s4 s5 s7).1
    have ih' := fun g F => ih (tF h s b c) (tG h s b c) g F s2 (by omega) (by omega) s4 s5 s7
    generalize chL (tF h s) (tG h s) n (tF h s b c) (tG h s b c) = M at *
    rw [List.reverse_cons]
    rw [List.length_cons, show (((M.length + 1 : Nat)) : Int) = M.length + 1 by omega] at inc ⊢
    have len := inc.2.1
    have lr : (M.reverse.length : Int) = M.length := by rw [List.length_reverse]
    rw [show (M.length : Int) + 1 - 1 = M.length by omega]
    obtain ⟨Lg, Ug, g61, gt⟩ := keep Fg
    refine z_turn ?_
    show Pz (m_X25_breakUp_l263 s p b c M.length g) _
    unfold m_X25_breakUp_l263
    have c18 := g_X25_18 Lg hs
    have c28 := g_X25_28 Lg hs
    simp only [c18, c28, g61]
    rw [if_neg (by omega), e32 (x := 4 * b) (by omega) (by omega), e32 (x := 4 * b + c) (by omega) (by omega), e32 (x := lam + (M.length : Int)) (by omega) (by omega)]
    refine z_lt (z_gd ⟨by decide, p0, by omega⟩ (z_gd ⟨by decide, by omega, by omega⟩ (z_pt ?_)))
    have F1 : F2 (lwW s lam) h (up g (s + 71) (lam + M.length) b) := Fg.put (Or.inl ⟨Or.inl rfl, by omega⟩)
    have v1 : up g (s + 71) (lam + M.length) b (s + 71) (lam + M.length) = b := up_s _ _ _ _
    have o1 : ∀ j, lam + M.length + 1 ≤ j → up g (s + 71) (lam + M.length) b (s + 71) j = g (s + 71) j ∧ up g (s + 71) (lam + M.length) b (s + 72) j = g (s + 72) j := fun j hj => ⟨up_j (by omega), up_a (by omega)⟩
    generalize up g (s + 71) (lam + M.length) b = g1 at F1 v1 o1 ⊢
    obtain ⟨L1, U1, g61', gt1⟩ := keep F1
    have c110 := g_X25_110 L1 hs
    have f0 : g1 (s + 138) (4 * b + c) = tF h s b c := gt1 138 _ (by decide) (by decide)
    simp only [c110, f0]
    refine z_gd ⟨by decide, by omega, by omega⟩ (z_bind (z_mono (t_measure L1 hs U1.1 O U1.2.1 U1.2.2 s2 s3 bm) (fun g2 hg2 => ?_)))
    obtain ⟨G2, ⟨-, -, n117', -⟩⟩ := hg2
    have n117 : g2 s 117 = lnR2 D (tF h s b c) b := n117'
    clear n117'
    have F2_ : F2 (lwW s lam) h g2 := F1.trans (G2.mono (fun q j z => Or.inr z))
    obtain ⟨L2, U2, g61'', gt2⟩ := keep F2_
    have d18 := g_X25_18 L2 hs
    have d29 := g_X25_29 L2 hs
    simp only [d18, d29, g61'', n117]
    rw [e32 (x := lam + (M.length : Int)) (by omega) (by omega)]
    refine z_gd ⟨by decide, p0, by omega⟩ (z_gd ⟨by decide, by omega, by omega⟩ (z_pt ?_))
    have F3 : F2 (lwW s lam) h (up g2 (s + 72) (lam + M.length) (lnR2 D (tF h s b c) b)) := F2_.put (Or.inl ⟨Or.inr rfl, by omega⟩)
    have v1' : up g2 (s + 72) (lam + M.length) (lnR2 D (tF h s b c) b) (s + 71) (lam + M.length) = b := by rw [up_a (by omega), G2 _ _ (fun z => by unfold mfW at z; omega)]; exact v1
    have v2 : up g2 (s + 72) (lam + M.length) (lnR2 D (tF h s b c) b) (s + 72) (lam + M.length) = lnR2 D (tF h s b c) b := up_s _ _ _ _
    have o2 : ∀ j, lam + M.length + 1 ≤ j → up g2 (s + 72) (lam + M.length) (lnR2 D (tF h s b c) b) (s + 71) j = g (s + 71) j ∧ up g2 (s + 72) (lam + M.length) (lnR2 D (tF h s b c) b) (s + 72) j = g (s + 72) j := fun j hj => ⟨by rw [up_a (by omega), G2 _ _ (fun z => by unfold mfW at z; omega)]; exact (o1 j hj).1, by rw [up_j (by omega), G2 _ _ (fun z => by unfold mfW at z; omega)]; exact (o1 j hj).2⟩
    generalize up g2 (s + 72) (lam + M.length) (lnR2 D (tF h s b c) b) = g3 at F3 v1' v2 o2 ⊢
    obtain ⟨L3, U3, -, gt3⟩ := keep F3
    have c111 := g_X25_111 L3 hs
    have c110' := g_X25_110 L3 hs
    have w1 : g3 (s + 139) (4 * b + c) = tG h s b c := gt3 139 _ (by decide) (by decide)
    have w2 : g3 (s + 138) (4 * b + c) = tF h s b c := gt3 138 _ (by decide) (by decide)
    simp only [c111, c110', w1, w2]
    refine z_gd ⟨by decide, by omega, by omega⟩ (z_lt (z_gd ⟨by decide, by omega, by omega⟩ (z_lt (z_lt ?_))))
    rw [show (M.length : Int) + (-1) = M.length - 1 by omega, e32 (x := (M.length : Int) - 1) (by omega) (by omega)]
    refine z_some ?_
    refine z_mono (ih' g3 F3) (fun g' hg' => ⟨hg'.1, fun j hj => ?_, fun j j0 j1 => ?_⟩)
    · have a := hg'.2.1 j (by omega)
      rw [a.1, a.2]; exact o2 j (by omega)
    · by_cases hj : j = M.length
      · have a := hg'.2.1 (lam + M.length) (Int.le_refl _)
        rw [hj, a.1, a.2, v1', v2, enE_last (show (M.length : Int) + 1 = M.reverse.length + 1 by omega), enE_old (by omega) (by omega), last]
        exact ⟨rfl, rfl⟩
      · rw [enE_old (by omega) (by omega), enE_old (by omega) (by omega)]
        exact hg'.2.2 j j0 (by omega)
