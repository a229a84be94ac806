-- needs: 99zzzzi
set_option maxRecDepth 100000
/-! LINES: the reference breaks a paragraph -/
noncomputable def lnR2 (D : Hp) (a b : Int) : Int := @ite _ (lnT D a b) (Classical.propDecidable _) (-1000) (lnR0 D a b)
theorem t_buEnd {D h : Hp} {s τ : Int} (hL : LAY h) (hs : s ∈ in_aX25) (O : lnO D) (T : ∀ b, 1 ≤ b → b ≤ D 6 0 → tbT D h s τ b) (hf : ∃ c, 0 ≤ c ∧ c ≤ 3 ∧ tR h s (D 6 0) c) :
    Pz (lp (fun (q : Int × Int) => m_X25_breakUp_l74 s (D 6 0) q.1 q.2 h) (-1, 0)) (fun e => endP (tR h s) (tB h s) (tF h s) (D 6 0) e) := by
  have m6 := O.1
  have hs' : 671 ≤ s ∧ s ≤ 825 := by have := aX25 hs; omega
  have c109 := g_X25_109 hL hs
  have c108 := g_X25_108 hL hs
  have c110 := g_X25_110 hL hs
  obtain ⟨cx, x0, x3, xr⟩ := hf
  have Tm := T (D 6 0) m6.1 (Int.le_refl _)
  refine z_lp (fun (q : Int × Int) => 0 ≤ q.2 ∧ q.2 ≤ 4 ∧ ((q.1 = -1 ∧ ∀ c, 0 ≤ c → c < q.2 → ¬ tR h s (D 6 0) c) ∨ (0 ≤ q.1 ∧ q.1 < q.2 ∧ tR h s (D 6 0) q.1 ∧ ∀ c, 0 ≤ c → c < q.2 → tR h s (D 6 0) c → c = q.1 ∨ tB h s (D 6 0) q.1 < tB h s (D 6 0) c ∨ (tB h s (D 6 0) q.1 = tB h s (D 6 0) c ∧ tF h s (D 6 0) q.1 < tF h s (D 6 0) c)))) (fun q => (4 - q.2).toNat) ⟨Int.le_refl _, show (0 : Int) ≤ 4 by decide, Or.inl ⟨rfl, fun c c0 c1 => by dsimp only at c1; omega⟩⟩ ?_
  rintro ⟨e, c⟩ ⟨c0, c1, I⟩
  dsimp only at c0 c1 I
  show Pz (m_X25_breakUp_l74 s (D 6 0) e c h) _
  unfold m_X25_breakUp_l74
  by_cases hc : 4 ≤ c
  · rw [if_pos hc]
    have : c = 4 := by omega
    subst this
    rcases I with ⟨i1, i2⟩ | ⟨i1, i2, i3, i4⟩
    · exact absurd xr (i2 cx x0 (by omega))
    · exact z_some ⟨i1, by omega, i3, fun c' z0 z1 z2 => i4 c' z0 (by omega) z2⟩
  rw [if_neg hc]
  simp only [c109, c108]
  rw [e32 (x := 4 * D 6 0) (by omega) (by omega), e32 (x := 4 * D 6 0 + c) (by omega) (by omega)]
  refine z_gd ⟨by decide, by omega, by omega⟩ ?_
  have next : ∀ v, ((v = -1 ∧ ∀ c', 0 ≤ c' → c' < c + 1 → ¬ tR h s (D 6 0) c') ∨ (0 ≤ v ∧ v < c + 1 ∧ tR h s (D 6 0) v ∧ ∀ c', 0 ≤ c' → c' < c + 1 → tR h s (D 6 0) c' → c' = v ∨ tB h s (D 6 0) v < tB h s (D 6 0) c' ∨ (tB h s (D 6 0) v = tB h s (D 6 0) c' ∧ tF h s (D 6 0) v < tF h s (D 6 0) c'))) → Pz (m_X25_breakUp_j171 c v) (sE (fun (q : Int × Int) => (0 ≤ q.2 ∧ q.2 ≤ 4 ∧ ((q.1 = -1 ∧ ∀ c, 0 ≤ c → c < q.2 → ¬ tR h s (D 6 0) c) ∨ (0 ≤ q.1 ∧ q.1 < q.2 ∧ tR h s (D 6 0) q.1 ∧ ∀ c, 0 ≤ c → c < q.2 → tR h s (D 6 0) c → c = q.1 ∨ tB h s (D 6 0) q.1 < tB h s (D 6 0) c ∨ (tB h s (D 6 0) q.1 = tB h s (D 6 0) c ∧ tF h s (D 6 0) q.1 < tF h s (D 6 0) c)))) ∧ (4 - q.2).toNat < (4 - c).toNat) (fun e => endP (tR h s) (tB h s) (tF h s) (D 6 0) e)) := by
    intro v hv
    unfold m_X25_breakUp_j171
    refine z_lt ?_
    rw [e32 (x := c + 1) (by omega) (by omega)]
    exact z_some ⟨⟨show 0 ≤ c + 1 by omega, show c + 1 ≤ 4 by omega, hv⟩, by dsimp only; omega⟩
  by_cases hr : h (s + 137) (4 * D 6 0 + c) = 0
  · rw [if_neg (fun z => z hr)]
    refine next e (I.imp (fun ⟨i1, i2⟩ => ⟨i1, fun c' z0 z1 => ?_⟩) (fun ⟨i1, i2, i3, i4⟩ => ⟨i1, by omega, i3, fun c' z0 z1 z2 => ?_⟩))
    · by_cases h' : c' = c
      · rw [h']; exact fun z => z hr
      · exact i2 c' z0 (by omega)
    · by_cases h' : c' = c
      · rw [h'] at z2; exact absurd hr z2
      · exact i4 c' z0 (by omega) z2
  rw [if_pos hr]
  have r : tR h s (D 6 0) c := hr
  have take : (0 ≤ e → e < c → tR h s (D 6 0) e → tB h s (D 6 0) c < tB h s (D 6 0) e ∨ (tB h s (D 6 0) c = tB h s (D 6 0) e ∧ tF h s (D 6 0) c < tF h s (D 6 0) e)) → Pz (m_X25_breakUp_j167 c) (sE (fun (q : Int × Int) => (0 ≤ q.2 ∧ q.2 ≤ 4 ∧ ((q.1 = -1 ∧ ∀ c, 0 ≤ c → c < q.2 → ¬ tR h s (D 6 0) c) ∨ (0 ≤ q.1 ∧ q.1 < q.2 ∧ tR h s (D 6 0) q.1 ∧ ∀ c, 0 ≤ c → c < q.2 → tR h s (D 6 0) c → c = q.1 ∨ tB h s (D 6 0) q.1 < tB h s (D 6 0) c ∨ (tB h s (D 6 0) q.1 = tB h s (D 6 0) c ∧ tF h s (D 6 0) q.1 < tF h s (D 6 0) c)))) ∧ (4 - q.2).toNat < (4 - c).toNat) (fun e => endP (tR h s) (tB h s) (tF h s) (D 6 0) e)) := by
    intro hh
    unfold m_X25_breakUp_j167
    refine next c (Or.inr ⟨c0, by omega, r, fun c' z0 z1 z2 => ?_⟩)
    by_cases h' : c' = c
    · exact Or.inl h'
    · right
      rcases I with ⟨i1, i2⟩ | ⟨i1, i2, i3, i4⟩
      · exact absurd z2 (i2 c' z0 (by omega))
      · have k := hh i1 i2 i3
        rcases i4 c' z0 (by omega) z2 with rfl | w | w
        · exact k
        · omega
        · omega
  rcases I with ⟨i1, i2⟩ | ⟨i1, i2, i3, i4⟩
  · rw [if_pos (by omega)]
    exact take (fun z => by omega)
  rw [if_neg (by omega), e32 (x := 4 * D 6 0 + e) (by omega) (by omega)]
  refine z_gd ⟨by decide, by omega, by omega⟩ (z_gd ⟨by decide, by omega, by omega⟩ ?_)
  rw [show h (s + 136) (4 * D 6 0 + c) = tB h s (D 6 0) c from rfl, show h (s + 136) (4 * D 6 0 + e) = tB h s (D 6 0) e from rfl]
  have keepE : (tB h s (D 6 0) e < tB h s (D 6 0) c ∨ (tB h s (D 6 0) e = tB h s (D 6 0) c ∧ tF h s (D 6 0) e < tF h s (D 6 0) c)) → Pz (m_X25_breakUp_j171 c e) (sE (fun (q : Int × Int) => (0 ≤ q.2 ∧ q.2 ≤ 4 ∧ ((q.1 = -1 ∧ ∀ c, 0 ≤ c → c < q.2 → ¬ tR h s (D 6 0) c) ∨ (0 ≤ q.1 ∧ q.1 < q.2 ∧ tR h s (D 6 0) q.1 ∧ ∀ c, 0 ≤ c → c < q.2 → tR h s (D 6 0) c → c = q.1 ∨ tB h s (D 6 0) q.1 < tB h s (D 6 0) c ∨ (tB h s (D 6 0) q.1 = tB h s (D 6 0) c ∧ tF h s (D 6 0) q.1 < tF h s (D 6 0) c)))) ∧ (4 - q.2).toNat < (4 - c).toNat) (fun e => endP (tR h s) (tB h s) (tF h s) (D 6 0) e)) := fun hh => next e (Or.inr ⟨i1, by omega, i3, fun c' z0 z1 z2 => by
    by_cases h' : c' = c
    · rw [h']; exact Or.inr hh
    · exact i4 c' z0 (by omega) z2⟩)
  by_cases h1 : tB h s (D 6 0) c < tB h s (D 6 0) e
  · rw [if_pos (lc_lt.mpr h1)]
    exact take (fun _ _ _ => Or.inl h1)
  rw [if_neg (fun z => h1 (lc_lt.mp z))]
  by_cases h2 : tB h s (D 6 0) c = tB h s (D 6 0) e
  rotate_left
  · rw [if_pos (fun z => h2 (lc_eq.mp z))]
    exact keepE (Or.inl (by omega))
  rw [if_neg (fun z => z (lc_eq.mpr h2))]
  have g1 := ((Tm.1 c c0 (by omega)).1 r).1
  have g2 := ((Tm.1 e i1 (by omega)).1 i3).1
  have nf : tF h s (D 6 0) c ≠ tF h s (D 6 0) e := fun z => by
    have u1 := g1.2.2.2.1
    have u2 := g2.2.2.2.1
    rw [z, u2] at u1; omega
  have first : m_X25_comesFirst s (D 6 0) c (D 6 0) e h = some (if tF h s (D 6 0) c < tF h s (D 6 0) e then 1 else 0) := by
    unfold m_X25_comesFirst
    rw [lt_e, lt_e, e32 (x := 4 * D 6 0) (by omega) (by omega), e32 (x := 4 * D 6 0 + c) (by omega) (by omega), e32 (x := 4 * D 6 0 + e) (by omega) (by omega)]
    have nf' : ¬ h (s + 138) (4 * D 6 0 + c) = h (s + 138) (4 * D 6 0 + e) := nf
    have out : lp (fun (q : Int × Int) => m_X25_comesFirst_l15 s q.1 q.2 h) (4 * D 6 0 + c, 4 * D 6 0 + e) = some (.inl (4 * D 6 0 + c, 4 * D 6 0 + e)) := by
      refine lp_out ?_
      show m_X25_comesFirst_l15 s (4 * D 6 0 + c) (4 * D 6 0 + e) h = _
      unfold m_X25_comesFirst_l15
      simp only [c110]
      rw [if_neg (by omega), gd_t ⟨by decide, by omega, by omega⟩, gd_t ⟨by decide, by omega, by omega⟩, if_neg nf']
    rw [out, Option.bind_some]
    simp only [sE, c110]
    rw [gd_t ⟨by decide, by omega, by omega⟩, gd_t ⟨by decide, by omega, by omega⟩]
    unfold tF
    by_cases z : h (s + 138) (4 * D 6 0 + c) < h (s + 138) (4 * D 6 0 + e)
    · rw [if_neg (by omega), if_pos z]
    · rw [if_pos (by omega), if_neg z]
  rw [first, Option.bind_some]
  by_cases h3 : tF h s (D 6 0) c < tF h s (D 6 0) e
  · rw [if_pos h3, if_neg (show ¬ (1 : Int) = 0 by decide)]
    exact take (fun _ _ _ => Or.inr ⟨h2, h3⟩)
  · rw [if_neg h3, if_pos rfl]
    exact keepE (Or.inr ⟨h2.symm, by omega⟩)
theorem tbT_step {D h : Hp} {s τ m b c : Int} (T : ∀ b, 1 ≤ b → b ≤ m → tbT D h s τ b) (b0 : 1 ≤ b) (bm : b ≤ m) (c0 : 0 ≤ c) (c3 : c ≤ 3) (hr : tR h s b c) : 0 ≤ tF h s b c ∧ tF h s b c < b ∧ 0 ≤ tG h s b c ∧ tG h s b c ≤ 3 ∧ (1 ≤ tF h s b c → tR h s (tF h s b c) (tG h s b c)) := by
  have g := (((T b b0 bm).1 c c0 c3).1 hr).1
  obtain ⟨g1, g2, g3, g4, g5⟩ := g
  refine ⟨g1, g2, by omega, by omega, fun z => ?_⟩
  rcases g5 with w | w
  · omega
  · exact w.2.2.2
theorem t_count25 {D h : Hp} {s τ m : Int} (hL : LAY h) (hs : s ∈ in_aX25) (m6 : m ≤ 600) (T : ∀ b, 1 ≤ b → b ≤ m → tbT D h s τ b) : ∀ (n : Nat) (b c x : Int), 0 ≤ b → b ≤ n → b ≤ m → 0 ≤ c → c ≤ 3 → (1 ≤ b → tR h s b c) → 0 ≤ x → x + b ≤ 1000 → lp (fun (q : Int × Int × Int) => m_X25_breakUp_l204 s q.1 q.2.1 q.2.2 h) (x, b, c) = some (x + (chL (tF h s) (tG h s) n b c).length) := by
  have hs' : 671 ≤ s ∧ s ≤ 825 := by have := aX25 hs; omega
  have c110 := g_X25_110 hL hs
  have c111 := g_X25_111 hL hs
  intro n
  have stop : ∀ b c x, b ≤ 0 → lp (fun (q : Int × Int × Int) => m_X25_breakUp_l204 s q.1 q.2.1 q.2.2 h) (x, b, c) = some x := fun b c x hb => by
    refine lp_out ?_
    show m_X25_breakUp_l204 s x b c h = _
    unfold m_X25_breakUp_l204
    rw [if_pos hb]
  induction n with
  | zero =>
    intro b c x b0 bn bm c0 c3 hr x0 x1
    rw [stop b c x (by omega)]
    exact congrArg some (Int.add_zero _).symm
  | succ n ih =>
    intro b c x b0 bn bm c0 c3 hr x0 x1
    unfold chL
    by_cases hb : b ≤ 0
    · rw [stop b c x hb, if_pos hb]
      exact congrArg some (Int.add_zero _).symm
    · rw [if_neg hb, List.length_cons]
      obtain ⟨s2, s3, s4, s5, s7⟩ := tbT_step T (show 1 ≤ b by omega) bm c0 c3 (hr (by omega))
      have turn : lp (fun (q : Int × Int × Int) => m_X25_breakUp_l204 s q.1 q.2.1 q.2.2 h) (x, b, c) = lp (fun (q : Int × Int × Int) => m_X25_breakUp_l204 s q.1 q.2.1 q.2.2 h) (x + 1, tF h s b c, tG h s b c) := by
        refine lp_in ?_
        show m_X25_breakUp_l204 s x b c h = _
        unfold m_X25_breakUp_l204
        simp only [c110, c111]
        rw [if_neg hb, e32 (x := 4 * b) (by omega) (by omega), e32 (x := 4 * b + c) (by omega) (by omega), lt_e, gd_t ⟨by decide, by omega, by omega⟩, lt_e, gd_t ⟨by decide, by omega, by omega⟩, lt_e, lt_e, e32 (x := x + 1) (by omega) (by omega)]
        rfl
      rw [turn, ih _ _ (x + 1) s2 (by omega) (by omega) s4 s5 s7 (by omega) (by omega)]
      congr 1
      omega
