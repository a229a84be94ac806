-- needs: 99zzzy
set_option maxRecDepth 100000
/-! LINES: the component gathers the lines -/
theorem c_collEnd {D h : Hp} {P R β τ : Int} (hL : LAY h) (C : lnH h P R β D) (O : lnO D) (T : ∀ b, 1 ≤ b → b ≤ D 6 0 → tbC D h τ b) (hf : ∃ c, 0 ≤ c ∧ c ≤ 3 ∧ cR h (D 6 0) c) :
    Pz (lp (fun (q : Int × Int) => m_X28_collect_l4 P 257 q.1 q.2 h) (-1, 0)) (fun y => ∃ e, y = 4 * D 6 0 + e ∧ endP (cR h) (cB h) (cF h) (D 6 0) e) := by
  have m6 := O.1
  obtain ⟨k0, -, ⟨k4, k5, k6⟩, ⟨k7, k8, k9⟩⟩ := ly_X11 hL
  have e16 : h P 16 = D 6 0 := C.1.2.2.2.2.2.2
  obtain ⟨cx, x0, x3, xr⟩ := hf
  have Rdp : ∀ b', 1 ≤ b' → b' < D 6 0 → dpR D τ (cR h) (cB h) (cF h) (cG h) b' := fun b' y0 y1 => (T b' y0 (by omega)).1
  have Tm := T (D 6 0) m6.1 (Int.le_refl _)
  refine z_lp (fun (s : Int × Int) => 0 ≤ s.2 ∧ s.2 ≤ 4 ∧ ((s.1 = -1 ∧ ∀ c, 0 ≤ c → c < s.2 → ¬ cR h (D 6 0) c) ∨ ∃ e, s.1 = 4 * D 6 0 + e ∧ 0 ≤ e ∧ e < s.2 ∧ cR h (D 6 0) e ∧ ∀ c, 0 ≤ c → c < s.2 → cR h (D 6 0) c → c = e ∨ cB h (D 6 0) e < cB h (D 6 0) c ∨ (cB h (D 6 0) e = cB h (D 6 0) c ∧ cF h (D 6 0) e < cF h (D 6 0) c))) (fun s => (4 - s.2).toNat) ⟨Int.le_refl _, show (0 : Int) ≤ 4 by decide, Or.inl ⟨rfl, fun c c0 c1 => by dsimp only at c1; omega⟩⟩ ?_
  rintro ⟨en, c⟩ ⟨c0, c1, I⟩
  dsimp only at c0 c1 I
  show Pz (m_X28_collect_l4 P 257 en c h) _
  unfold m_X28_collect_l4
  by_cases hc : 4 ≤ c
  · rw [if_pos hc]
    have : c = 4 := by omega
    subst this
    rcases I with ⟨i1, i2⟩ | ⟨e, i1, i2, i3, i4, i5⟩
    · exact absurd xr (i2 cx x0 (by omega))
    · exact z_some ⟨e, i1, i2, by omega, i4, fun c' z0 z1 z2 => i5 c' z0 (by omega) z2⟩
  rw [if_neg hc, e16, e32 (x := 4 * D 6 0) (by omega) (by omega), e32 (x := 4 * D 6 0 + c) (by omega) (by omega), lt_e, k0, k7]
  refine z_gd rfl (z_gd ⟨by rw [k8]; decide, by omega, by rw [k9]; omega⟩ ?_)
  have next : ∀ v, ((v = -1 ∧ ∀ c', 0 ≤ c' → c' < c + 1 → ¬ cR h (D 6 0) c') ∨ ∃ e, v = 4 * D 6 0 + e ∧ 0 ≤ e ∧ e < c + 1 ∧ cR h (D 6 0) e ∧ ∀ c', 0 ≤ c' → c' < c + 1 → cR h (D 6 0) c' → c' = e ∨ cB h (D 6 0) e < cB h (D 6 0) c' ∨ (cB h (D 6 0) e = cB h (D 6 0) c' ∧ cF h (D 6 0) e < cF h (D 6 0) c')) → Pz (m_X28_collect_j94 c v) (sE (fun (s : Int × Int) => (0 ≤ s.2 ∧ s.2 ≤ 4 ∧ ((s.1 = -1 ∧ ∀ c, 0 ≤ c → c < s.2 → ¬ cR h (D 6 0) c) ∨ ∃ e, s.1 = 4 * D 6 0 + e ∧ 0 ≤ e ∧ e < s.2 ∧ cR h (D 6 0) e ∧ ∀ c, 0 ≤ c → c < s.2 → cR h (D 6 0) c → c = e ∨ cB h (D 6 0) e < cB h (D 6 0) c ∨ (cB h (D 6 0) e = cB h (D 6 0) c ∧ cF h (D 6 0) e < cF h (D 6 0) c))) ∧ (4 - s.2).toNat < (4 - c).toNat) (fun y => ∃ e, y = 4 * D 6 0 + e ∧ endP (cR h) (cB h) (cF h) (D 6 0) e)) := by
    intro v hv
    unfold m_X28_collect_j94
    refine z_lt ?_
    rw [e32 (x := c + 1) (by omega) (by omega)]
    exact z_some ⟨⟨show 0 ≤ c + 1 by omega, show c + 1 ≤ 4 by omega, hv⟩, by dsimp only; omega⟩
  by_cases hr : 0 ≤ h 260 (4 * D 6 0 + c)
  rotate_left
  · rw [if_neg hr]
    have nr : ¬ cR h (D 6 0) c := hr
    refine next en (I.imp (fun ⟨i1, i2⟩ => ⟨i1, fun c' z0 z1 => ?_⟩) (fun ⟨e, i1, i2, i3, i4, i5⟩ => ⟨e, i1, i2, by omega, i4, fun c' z0 z1 z2 => ?_⟩))
    · by_cases h' : c' = c
      · rw [h']; exact nr
      · exact i2 c' z0 (by omega)
    · by_cases h' : c' = c
      · rw [h'] at z2; exact absurd z2 nr
      · exact i5 c' z0 (by omega) z2
  rw [if_pos hr]
  have r : cR h (D 6 0) c := hr
  have take : (∀ e, en = 4 * D 6 0 + e → 0 ≤ e → e < c → cR h (D 6 0) e → cB h (D 6 0) c < cB h (D 6 0) e ∨ (cB h (D 6 0) c = cB h (D 6 0) e ∧ cF h (D 6 0) c < cF h (D 6 0) e)) → Pz (m_X28_collect_j91 (4 * D 6 0 + c) c) (sE (fun (s : Int × Int) => (0 ≤ s.2 ∧ s.2 ≤ 4 ∧ ((s.1 = -1 ∧ ∀ c, 0 ≤ c → c < s.2 → ¬ cR h (D 6 0) c) ∨ ∃ e, s.1 = 4 * D 6 0 + e ∧ 0 ≤ e ∧ e < s.2 ∧ cR h (D 6 0) e ∧ ∀ c, 0 ≤ c → c < s.2 → cR h (D 6 0) c → c = e ∨ cB h (D 6 0) e < cB h (D 6 0) c ∨ (cB h (D 6 0) e = cB h (D 6 0) c ∧ cF h (D 6 0) e < cF h (D 6 0) c))) ∧ (4 - s.2).toNat < (4 - c).toNat) (fun y => ∃ e, y = 4 * D 6 0 + e ∧ endP (cR h) (cB h) (cF h) (D 6 0) e)) := by
    intro hh
    unfold m_X28_collect_j91
    refine next _ (Or.inr ⟨c, rfl, c0, by omega, r, fun c' z0 z1 z2 => ?_⟩)
    by_cases h' : c' = c
    · exact Or.inl h'
    · right
      rcases I with ⟨i1, i2⟩ | ⟨e, i1, i2, i3, i4, i5⟩
      · exact absurd z2 (i2 c' z0 (by omega))
      · have k := hh e i1 i2 i3 i4
        rcases i5 c' z0 (by omega) z2 with rfl | w | w
        · exact k
        · omega
        · omega
  rcases I with ⟨i1, i2⟩ | ⟨e, i1, i2, i3, i4, i5⟩
  · rw [if_pos (by omega)]
    exact take (fun e z1 z2 z3 _ => by omega)
  rw [if_neg (by omega), k4, i1]
  refine z_gd ⟨by rw [k5]; decide, by omega, by rw [k6]; omega⟩ (z_gd ⟨by rw [k5]; decide, by omega, by rw [k6]; omega⟩ ?_)
  rw [show h 259 (4 * D 6 0 + c) = cB h (D 6 0) c from rfl, show h 259 (4 * D 6 0 + e) = cB h (D 6 0) e from rfl]
  have keepE : (cB h (D 6 0) e < cB h (D 6 0) c ∨ (cB h (D 6 0) e = cB h (D 6 0) c ∧ cF h (D 6 0) e < cF h (D 6 0) c)) → Pz (m_X28_collect_j94 c (4 * D 6 0 + e)) (sE (fun (s : Int × Int) => (0 ≤ s.2 ∧ s.2 ≤ 4 ∧ ((s.1 = -1 ∧ ∀ c, 0 ≤ c → c < s.2 → ¬ cR h (D 6 0) c) ∨ ∃ e, s.1 = 4 * D 6 0 + e ∧ 0 ≤ e ∧ e < s.2 ∧ cR h (D 6 0) e ∧ ∀ c, 0 ≤ c → c < s.2 → cR h (D 6 0) c → c = e ∨ cB h (D 6 0) e < cB h (D 6 0) c ∨ (cB h (D 6 0) e = cB h (D 6 0) c ∧ cF h (D 6 0) e < cF h (D 6 0) c))) ∧ (4 - s.2).toNat < (4 - c).toNat) (fun y => ∃ e, y = 4 * D 6 0 + e ∧ endP (cR h) (cB h) (cF h) (D 6 0) e)) := fun hh => next _ (Or.inr ⟨e, rfl, i2, by omega, i4, fun c' z0 z1 z2 => by
    by_cases h' : c' = c
    · rw [h']; exact Or.inr hh
    · exact i5 c' z0 (by omega) z2⟩)
  by_cases h1 : cB h (D 6 0) c < cB h (D 6 0) e
  · rw [if_pos (lc_lt.mpr h1)]
    exact take (fun e' z1 z2 z3 _ => by have : e' = e := by omega
                                        rw [this]; exact Or.inl h1)
  rw [if_neg (fun z => h1 (lc_lt.mp z))]
  by_cases h2 : cB h (D 6 0) c = cB h (D 6 0) e
  rotate_left
  · rw [if_pos (fun z => h2 (lc_eq.mp z))]
    exact keepE (Or.inl (by omega))
  rw [if_neg (fun z => z (lc_eq.mpr h2))]
  have g1 := ((Tm.1 c c0 (by omega)).1 r).1
  have g2 := ((Tm.1 e i2 (by omega)).1 i4).1
  have nf : cF h (D 6 0) c ≠ cF h (D 6 0) e := fun z => by
    have u1 := g1.2.2.2.1
    have u2 := g2.2.2.2.1
    rw [z, u2] at u1; omega
  refine z_gd ⟨by rw [k8]; decide, by omega, by rw [k9]; omega⟩ ?_
  rw [(Tm.2 c c0 (by omega) r).1, (Tm.2 e i2 (by omega) i4).1, e_isE hL (by omega) Rdp ⟨g1.1, g1.2.1, g1.2.2.2.2⟩ ⟨g2.1, g2.2.1, g2.2.2.2.2⟩ (fun z => nf z.1), Option.bind_some]
  by_cases h3 : cF h (D 6 0) c < cF h (D 6 0) e
  · rw [if_pos (Or.inl h3), if_neg (by decide)]
    exact take (fun e' z1 z2 z3 _ => by have : e' = e := by omega
                                        rw [this]; exact Or.inr ⟨h2, h3⟩)
  · rw [if_neg (show ¬ (cF h (D 6 0) c < cF h (D 6 0) e ∨ _) from fun z => z.elim (fun w => h3 w) (fun w => nf w.1)), if_pos rfl]
    exact keepE (Or.inr ⟨h2.symm, by omega⟩)
/-- how a place of the table goes on -/
theorem tbC_step {D h : Hp} {τ m b c : Int} (T : ∀ b, 1 ≤ b → b ≤ m → tbC D h τ b) (b0 : 1 ≤ b) (bm : b ≤ m) (c0 : 0 ≤ c) (c3 : c ≤ 3) (hr : cR h b c) : h 260 (4 * b + c) = sgm (cF h b c) (cG h b c) ∧ 0 ≤ cF h b c ∧ cF h b c < b ∧ 0 ≤ cG h b c ∧ cG h b c ≤ 3 ∧ (cF h b c = 0 → cG h b c = 1) ∧ (1 ≤ cF h b c → cR h (cF h b c) (cG h b c)) := by
  have g := (((T b b0 bm).1 c c0 c3).1 hr).1
  have e := ((T b b0 bm).2 c c0 c3 hr).1
  obtain ⟨g1, g2, g3, g4, g5⟩ := g
  refine ⟨e, g1, g2, by omega, by omega, fun z => by omega, fun z => ?_⟩
  rcases g5 with w | w
  · omega
  · exact w.2.2.2
theorem c_count28 {D h : Hp} {τ m : Int} (hL : LAY h) (m6 : m ≤ 600) (T : ∀ b, 1 ≤ b → b ≤ m → tbC D h τ b) : ∀ (n : Nat) (b c x : Int), 0 ≤ b → b ≤ n → b ≤ m → 0 ≤ c → c ≤ 3 → (b = 0 → c = 1) → (1 ≤ b → cR h b c) → 0 ≤ x → x + b ≤ 1000 → lp (fun (q : Int × Int) => m_X28_collect_l115 257 q.1 q.2 h) (x, sgm b c) = some (x + (chL (cF h) (cG h) n b c).length) := by
  obtain ⟨k0, -, -, ⟨k7, k8, k9⟩⟩ := ly_X11 hL
  intro n
  have stop : ∀ c x, c = 1 → lp (fun (q : Int × Int) => m_X28_collect_l115 257 q.1 q.2 h) (x, sgm 0 c) = some x := fun c x hc => by
    refine lp_out ?_
    show m_X28_collect_l115 257 x (sgm 0 c) h = _
    unfold m_X28_collect_l115 sgm
    rw [if_pos rfl, if_pos (by decide)]
  induction n with
  | zero =>
    intro b c x b0 bn bm c0 c3 h0 hr x0 x1
    have : b = 0 := by omega
    subst this
    rw [stop c x (h0 rfl)]
    exact congrArg some (Int.add_zero _).symm
  | succ n ih =>
    intro b c x b0 bn bm c0 c3 h0 hr x0 x1
    unfold chL
    by_cases hb : b ≤ 0
    · have : b = 0 := by omega
      subst this
      rw [stop c x (h0 rfl), if_pos (Int.le_refl _)]
      exact congrArg some (Int.add_zero _).symm
    · rw [if_neg hb, List.length_cons]
      obtain ⟨s1, s2, s3, s4, s5, s6, s7⟩ := tbC_step T (show 1 ≤ b by omega) bm c0 c3 (hr (by omega))
      have e : sgm b c = 4 * b + c := by unfold sgm; rw [if_neg (by omega)]
      have turn : lp (fun (q : Int × Int) => m_X28_collect_l115 257 q.1 q.2 h) (x, sgm b c) = lp (fun (q : Int × Int) => m_X28_collect_l115 257 q.1 q.2 h) (x + 1, sgm (cF h b c) (cG h b c)) := by
        refine lp_in ?_
        show m_X28_collect_l115 257 x (sgm b c) h = _
        unfold m_X28_collect_l115
        rw [e, Int.tdiv_eq_ediv_of_nonneg (by omega), e32 (by omega) (by omega), if_neg (by omega), lt_e, e32 (x := x + 1) (by omega) (by omega), k7, gd_t ⟨by rw [k8]; decide, by omega, by rw [k9]; omega⟩, lt_e, s1]
      rw [turn, ih _ _ (x + 1) s2 (by omega) (by omega) s4 s5 s6 s7 (by omega) (by omega)]
      congr 1
      omega
