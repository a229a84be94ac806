-- needs: 99zzzz
set_option maxRecDepth 100000
/-! LINES: the component writes the lines -/
theorem chL_inc {D : Hp} {τ : Int} {rc : Int → Int → Prop} {bs fr fc : Int → Int → Int} {m : Int} (R : ∀ b, 1 ≤ b → b ≤ m → dpR D τ rc bs fr fc b) : ∀ (n : Nat) (b c : Int), 0 ≤ b → b ≤ n → b ≤ m → 0 ≤ c → c ≤ 3 → (1 ≤ b → rc b c) → enE (chL fr fc n b c).reverse (chL fr fc n b c).length = b ∧ ((chL fr fc n b c).length : Int) ≤ b ∧ (1 ≤ b → 1 ≤ (chL fr fc n b c).length) ∧ ∀ j : Int, 0 ≤ j → j < (chL fr fc n b c).length → 0 ≤ enE (chL fr fc n b c).reverse j ∧ enE (chL fr fc n b c).reverse j < enE (chL fr fc n b c).reverse (j + 1) ∧ enE (chL fr fc n b c).reverse (j + 1) ≤ b := by
  intro n
  have nil : ∀ b : Int, b = 0 → enE ([] : List Int).reverse (([] : List Int).length : Int) = b ∧ ((([] : List Int).length : Nat) : Int) ≤ b ∧ (1 ≤ b → 1 ≤ ([] : List Int).length) ∧ ∀ j : Int, 0 ≤ j → j < (([] : List Int).length : Int) → 0 ≤ enE ([] : List Int).reverse j ∧ enE ([] : List Int).reverse j < enE ([] : List Int).reverse (j + 1) ∧ enE ([] : List Int).reverse (j + 1) ≤ b := fun b hb => ⟨by rw [hb]; rfl, by rw [hb]; exact Int.le_refl _, fun z => by omega, fun j j0 j1 => by dsimp only [List.length_nil] at j1; omega⟩
  induction n with
  | zero =>
    intro b c b0 bn bm c0 c3 hr
    exact nil b (by omega)
  | succ n ih =>
    intro b c b0 bn bm c0 c3 hr
    unfold chL
    by_cases hb : b ≤ 0
    · rw [if_pos hb]; exact nil b (by omega)
    · rw [if_neg hb]
      have r := hr (by omega)
      have g := ((R b (by omega) bm c c0 c3).1 r).1
      obtain ⟨g1, g2, g3, g4, g5⟩ := g
      obtain ⟨i1, i2, i3, i4⟩ := ih (fr b c) (fc b c) g1 (by omega) (by omega) (by omega) (by omega) (fun z => by
        rcases g5 with w | w
        · omega
        · exact w.2.2.2)
      generalize chL fr fc n (fr b c) (fc b c) = M at *
      rw [List.reverse_cons, List.length_cons, show (((M.length + 1 : Nat)) : Int) = M.length + 1 by omega]
      have lr : (M.reverse.length : Int) = M.length := by rw [List.length_reverse]
      refine ⟨enE_last (by omega), by omega, fun _ => by omega, fun j j0 j1 => ?_⟩
      by_cases hj : j = M.length
      · rw [hj, enE_last (show (M.length : Int) + 1 = M.reverse.length + 1 by omega), enE_old (by omega) (by omega), i1]
        omega
      · rw [enE_old (by omega) (by omega), enE_old (by omega) (by omega)]
        have := i4 j j0 (by omega)
        omega
theorem rgL {R : Int} (hR : R ∈ in_aX15) : ([(R + 12, R + 13)] : List (Int × Int)).all rgA = true := by
  rcases aX15 hR with rfl | rfl | rfl <;> decide +kernel
theorem msW_l' {h h' : Hp} {R lam : Int} (hL : LAY h) (hR : R ∈ in_aX15) (l0 : 0 ≤ lam) (f : F2 (fun q j => q = R + 12 ∧ lam ≤ j) h h') : LAY h' :=
  lay_W hL f _ [] (rgL hR) rfl (fun q j z => ⟨by omega, Or.inl ⟨_, List.mem_cons_self, by dsimp only; omega, by dsimp only; omega⟩⟩)
theorem c_bro {D h : Hp} {τ m P R : Int} {lam : Int} (hL : LAY h) (hR : R ∈ in_aX15) (hP : 983 ≤ P) (m6 : m ≤ 600) (e0 : h P 0 = R) (e17 : h P 17 = lam) (l0 : 0 ≤ lam) (l1 : lam + m < 26400) (T : ∀ b, 1 ≤ b → b ≤ m → tbC D h τ b) :
    ∀ (n : Nat) (b c : Int) (g : Hp), F2 (fun q j => q = R + 12 ∧ lam ≤ j) h g → 0 ≤ b → b ≤ n → b ≤ m → 0 ≤ c → c ≤ 3 → (b = 0 → c = 1) → (1 ≤ b → cR h b c) → Pz (lp (fun (q : Int × Int × Hp) => m_X28_collect_l148 P 257 q.1 q.2.1 q.2.2) (((chL (cF h) (cG h) n b c).length : Int), sgm b c, g)) (fun g' => F2 (fun q j => q = R + 12 ∧ lam + 1 ≤ j ∧ j ≤ lam + (chL (cF h) (cG h) n b c).length) g g' ∧ ∀ j : Int, 1 ≤ j → j ≤ (chL (cF h) (cG h) n b c).length → g' (R + 12) (lam + j) = enE (chL (cF h) (cG h) n b c).reverse j) := by
  have hR' : 293 ≤ R ∧ R ≤ 423 := by have := aX15 hR; omega
  have Tdp : ∀ b, 1 ≤ b → b ≤ m → dpR D τ (cR h) (cB h) (cF h) (cG h) b := fun b b0 b1 => (T b b0 b1).1
  intro n
  have stop : ∀ c x g, c = 1 → lp (fun (q : Int × Int × Hp) => m_X28_collect_l148 P 257 q.1 q.2.1 q.2.2) (x, sgm 0 c, g) = some g := fun c x g hc => by
    refine lp_out ?_
    show m_X28_collect_l148 P 257 x (sgm 0 c) g = _
    unfold m_X28_collect_l148 sgm
    rw [if_pos rfl, if_pos (by decide)]
  induction n with
  | zero =>
    intro b c g Fg b0 bn bm c0 c3 h0 hr
    have : b = 0 := by omega
    subst this
    rw [stop c _ g (h0 rfl)]
    exact z_some ⟨F2.refl, fun j j0 j1 => by dsimp only [chL, List.length_nil] at j1; omega⟩
  | succ n ih =>
    intro b c g Fg b0 bn bm c0 c3 h0 hr
    have len := (chL_inc Tdp (n + 1) b c b0 bn bm c0 c3 hr).2.1
    unfold chL at len ⊢
    by_cases hb : b ≤ 0
    · have : b = 0 := by omega
      subst this
      rw [if_pos (Int.le_refl _), stop c _ g (h0 rfl)]
      exact z_some ⟨F2.refl, fun j j0 j1 => by dsimp only [List.length_nil] at j1; omega⟩
    rw [if_neg hb] at len ⊢
    obtain ⟨s1, s2, s3, s4, s5, s6, s7⟩ := tbC_step T (show 1 ≤ b by omega) bm c0 c3 (hr (by omega))
    have ih' := fun g F => ih (cF h b c) (cG h b c) g F s2 (by omega) (by omega) s4 s5 s6 s7
    generalize chL (cF h) (cG h) n (cF h b c) (cG h b c) = M at *
    rw [List.reverse_cons]
    rw [List.length_cons, show (((M.length + 1 : Nat)) : Int) = M.length + 1 by omega] at len ⊢
    have lr : (M.reverse.length : Int) = M.length := by rw [List.length_reverse]
    have e : sgm b c = 4 * b + c := by unfold sgm; rw [if_neg (by omega)]
    have Lg : LAY g := msW_l' hL hR l0 Fg
    have g0 : g P 0 = R := by rw [Fg P 0 (fun z => by omega)]; exact e0
    have g17 : g P 17 = lam := by rw [Fg P 17 (fun z => by omega)]; exact e17
    have a13 := g_X15_13 Lg hR
    refine z_turn ?_
    show Pz (m_X28_collect_l148 P 257 ((M.length : Int) + 1) (sgm b c) g) _
    unfold m_X28_collect_l148
    rw [e, Int.tdiv_eq_ediv_of_nonneg (by omega), e32 (x := (4 * b + c) / 4) (by omega) (by omega), if_neg (by omega)]
    simp only [g0, g_X15 Lg hR, a13, g17]
    rw [e32 (x := lam + ((M.length : Int) + 1)) (by omega) (by omega), show (4 * b + c) / 4 = b by omega, show (M.length : Int) + 1 + (-1) = M.length by omega, e32 (x := (M.length : Int)) (by omega) (by omega)]
    refine z_gd trivial (z_gd ⟨by decide, by omega, by omega⟩ (z_pt (z_lt ?_)))
    have F1 : F2 (fun q j => q = R + 12 ∧ lam ≤ j) h (up g (R + 12) (lam + ((M.length : Int) + 1)) b) := Fg.put ⟨rfl, by omega⟩
    have L1 := msW_l' hL hR l0 F1
    obtain ⟨-, -, -, ⟨k7, k8, k9⟩⟩ := ly_X11 L1
    rw [k7]
    refine z_gd ⟨by rw [k8]; decide, by omega, by rw [k9]; omega⟩ (z_lt (z_some ?_))
    have f0 : up g (R + 12) (lam + ((M.length : Int) + 1)) b 260 (4 * b + c) = sgm (cF h b c) (cG h b c) := by rw [F1 260 _ (fun z => by omega)]; exact s1
    rw [f0]
    refine z_mono (ih' _ F1) (fun g' hg' => ⟨?_, fun j j0 j1 => ?_⟩)
    · intro q j nq
      rw [hg'.1 q j (fun z => nq ⟨z.1, z.2.1, by omega⟩), up_ne (fun z => nq ⟨z.1, by omega, by omega⟩)]
    · by_cases hj : j = M.length + 1
      · rw [hg'.1 _ _ (fun z => by omega), hj, up_s, enE_last (by omega)]
      · rw [hg'.2 j j0 (by omega), enE_old (by omega) (by omega)]
