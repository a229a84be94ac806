-- needs: 99zzzza
set_option maxRecDepth 100000
/-! LINES: the component sets a paragraph -/
/-- lines as they are noted: from lam on -/
def liC (h : Hp) (P R lam : Int) (D : Hp) (τ cost : Int) (L : List Int) : Prop := h P 17 = lam ∧ h P 18 = L.length ∧ h P 19 = cost ∧ h P 20 = τ ∧ (∀ j : Int, 0 ≤ j → j ≤ L.length → h (R + 12) (lam + j) = enE L j) ∧ ∀ j : Int, 0 ≤ j → j < L.length → h (R + 13) (lam + j) = lnR D (enE L j) (enE L (j + 1))
/-- ends of lines grow up to m -/
def liO (L : List Int) (m : Int) : Prop := enE L L.length = m ∧ (L.length : Int) ≤ m ∧ 1 ≤ L.length ∧ ∀ j : Int, 0 ≤ j → j < L.length → 0 ≤ enE L j ∧ enE L j < enE L (j + 1) ∧ enE L (j + 1) ≤ m
def liW (P R lam : Int) : Int → Int → Prop := fun b j => (b = P ∧ 17 ≤ j ∧ j ≤ 20) ∨ (b = R ∧ j = 15) ∨ ((b = R + 12 ∨ b = R + 13) ∧ lam ≤ j) ∨ ((b = 259 ∨ b = 260) ∧ 0 ≤ j ∧ j < 2404)
theorem rgL2 {R : Int} (hR : R ∈ in_aX15) : ([(R + 12, R + 13), (259, 260)] : List (Int × Int)).all rgA = true ∧ ([(R, [15])] : List (Int × List Int)).all rgO = true := by
  rcases aX15 hR with rfl | rfl | rfl <;> exact ⟨by decide +kernel, by decide +kernel⟩
theorem liW_l {h h' : Hp} {P R lam : Int} (hL : LAY h) (hR : R ∈ in_aX15) (hP : 983 ≤ P) (l0 : 0 ≤ lam) (f : F2 (liW P R lam) h h') : LAY h' := by
  refine lay_X hL f _ _ (rgL2 hR).1 (rgL2 hR).2 (fun b j z => ?_)
  rcases z with z | z | z | z
  · exact Or.inl (by omega)
  · exact Or.inr ⟨by omega, Or.inr ⟨_, List.mem_cons_self, z.1, by rw [z.2]; exact List.mem_cons_self⟩⟩
  · exact Or.inr ⟨by omega, Or.inl ⟨_, List.mem_cons_self, by dsimp only; omega, by dsimp only; omega⟩⟩
  · exact Or.inr ⟨z.2.1, Or.inl ⟨_, List.mem_cons_of_mem _ List.mem_cons_self, by dsimp only; omega, by dsimp only; omega⟩⟩
/-- the ratios of lines -/
theorem c_ratios {D h : Hp} {P R β lam : Int} {L : List Int} (hL : LAY h) (C : lnH h P R β D) (O : lnO D) (I : liO L (D 6 0)) (l0 : 0 ≤ lam) (l1 : lam + L.length < 26400) (e17 : h P 17 = lam) (H : ∀ j : Int, 0 ≤ j → j ≤ L.length → h (R + 12) (lam + j) = enE L j) :
    Pz (lp (fun (q : Int × Hp) => m_X28_collect_l192 P L.length q.1 q.2) (0, h)) (fun g => F2 (fun q j => q = R + 13 ∧ lam ≤ j ∧ j < lam + L.length) h g ∧ ∀ j : Int, 0 ≤ j → j < L.length → g (R + 13) (lam + j) = lnR D (enE L j) (enE L (j + 1))) := by
  have hR := C.2.1.1
  have hR' : 293 ≤ R ∧ R ≤ 423 := by have := aX15 hR; omega
  have hP := C.2.1.2.1
  refine z_lp (fun (s : Int × Hp) => 0 ≤ s.1 ∧ s.1 ≤ L.length ∧ F2 (fun q j => q = R + 13 ∧ lam ≤ j ∧ j < lam + L.length) h s.2 ∧ ∀ j : Int, 0 ≤ j → j < s.1 → s.2 (R + 13) (lam + j) = lnR D (enE L j) (enE L (j + 1))) (fun s => (L.length - s.1).toNat) ⟨Int.le_refl _, Int.natCast_nonneg _, F2.refl, fun j j0 j1 => by dsimp only at j1; omega⟩ ?_
  rintro ⟨j, g⟩ ⟨j0, j1, Fg, G⟩
  dsimp only at j0 j1 G
  replace Fg : F2 (fun q j => q = R + 13 ∧ lam ≤ j ∧ j < lam + L.length) h g := Fg
  show Pz (m_X28_collect_l192 P L.length j g) _
  unfold m_X28_collect_l192
  by_cases hj : (L.length : Int) ≤ j
  · rw [if_pos hj]
    exact z_some ⟨Fg, fun x x0 x1 => G x x0 (by omega)⟩
  have Lg : LAY g := lay_W hL Fg _ [] (rgL hR) rfl (fun q j z => ⟨by omega, Or.inl ⟨_, List.mem_cons_self, by dsimp only; omega, by dsimp only; omega⟩⟩)
  have Cg := C.kept (h' := g) (fun j hj => Fg P j (fun z => by omega)) (fun r r0 r1 => Fg.row (fun j z => by omega))
  have g17 : g P 17 = lam := by rw [Fg P 17 (fun z => by omega)]; exact e17
  have a13 := g_X15_13 Lg hR
  have a14 := g_X15_14 Lg hR
  have bo : ∀ x : Int, 0 ≤ x → x ≤ L.length → m_X28_breakOf P x g = some (enE L x) := fun x x0 x1 => by
    unfold m_X28_breakOf
    simp only [Cg.1.2.1, g_X15 Lg hR, a13, g17]
    rw [gd_t trivial, e32 (x := lam + x) (by omega) (by omega), gd_t ⟨by decide, by omega, by omega⟩, Fg _ _ (fun z => by omega), H x x0 x1]
  obtain ⟨i1, i2, i3⟩ := I.2.2.2 j j0 (by omega)
  rw [if_neg hj]
  simp only [Cg.1.2.1, g_X15 Lg hR]
  refine z_gd trivial ?_
  rw [bo j j0 (by omega), Option.bind_some, e32 (x := j + 1) (by omega) (by omega), bo (j + 1) (by omega) (by omega), Option.bind_some, q_ratio Lg Cg O i1 i2 i3, Option.bind_some]
  simp only [a14, g17]
  rw [e32 (x := lam + j) (by omega) (by omega)]
  refine z_gd ⟨by decide, by omega, by omega⟩ (z_pt (z_lt (z_some ⟨⟨show 0 ≤ j + 1 by omega, show j + 1 ≤ L.length by omega, Fg.put ⟨rfl, by omega, by omega⟩, fun x x0 x1 => ?_⟩, by dsimp only; omega⟩)))
  dsimp only at x1 ⊢
  by_cases hx : x = j
  · rw [hx, up_s]
  · rw [up_j (by omega)]; exact G x x0 (by omega)
theorem c_collect {D h : Hp} {P R β lam τ : Int} (hL : LAY h) (C : lnH h P R β D) (O : lnO D) (eτ : h P 20 = τ) (el : h R 15 = lam) (l0 : 0 ≤ lam) (l1 : lam + D 6 0 + 1 < 26400) (T : ∀ b, 1 ≤ b → b ≤ D 6 0 → tbC D h τ b) (hf : ∃ c, 0 ≤ c ∧ c ≤ 3 ∧ cR h (D 6 0) c) :
    Pz (m_X28_collect P 257 h) (fun g => F2 (liW P R lam) h g ∧ ∃ e, endP (cR h) (cB h) (cF h) (D 6 0) e ∧ liC g P R lam D τ (cB h (D 6 0) e) (chL (cF h) (cG h) (D 6 0).toNat (D 6 0) e).reverse ∧ liO (chL (cF h) (cG h) (D 6 0).toNat (D 6 0) e).reverse (D 6 0) ∧ g R 15 = lam + (chL (cF h) (cG h) (D 6 0).toNat (D 6 0) e).length + 1) := by
  have hR := C.2.1.1
  have hR' : 293 ≤ R ∧ R ≤ 423 := by have := aX15 hR; omega
  have hP := C.2.1.2.1
  have m6 := O.1
  obtain ⟨k0, -, ⟨k4, k5, k6⟩, ⟨k7, k8, k9⟩⟩ := ly_X11 hL
  have Tdp : ∀ b, 1 ≤ b → b ≤ D 6 0 → dpR D τ (cR h) (cB h) (cF h) (cG h) b := fun b b0 b1 => (T b b0 b1).1
  unfold m_X28_collect
  refine z_lt (z_lt (z_bind (z_mono (c_collEnd hL C O T hf) (fun y hy => ?_))))
  obtain ⟨e, rfl, E⟩ := hy
  obtain ⟨e0, e3, er, em⟩ := id E
  obtain ⟨j1, j2, j3, j4⟩ := chL_inc Tdp (D 6 0).toNat (D 6 0) e (by omega) (by omega) (Int.le_refl _) e0 e3 (fun _ => er)
  have es : 4 * D 6 0 + e = sgm (D 6 0) e := by unfold sgm; rw [if_neg (by omega)]
  rw [k0, k4]
  refine z_gd rfl (z_gd ⟨by rw [k5]; decide, by omega, by rw [k6]; omega⟩ (z_pt (z_lt ?_)))
  rw [show h 259 (4 * D 6 0 + e) = cB h (D 6 0) e from rfl, es]
  have F1 : F2 (liW P R lam) h (up h P 19 (cB h (D 6 0) e)) := F2.refl.put (Or.inl ⟨rfl, by decide, by decide⟩)
  have L1 := liW_l hL hR hP l0 F1
  -- the table is as it was
  have T1 : ∀ {g}, (∀ j, g 259 j = h 259 j) → (∀ j, g 260 j = h 260 j) → ∀ b, 1 ≤ b → b ≤ D 6 0 → tbC D g τ b := fun {g} f1 f2 b b0 b1 => (T b b0 b1).kept b0 (fun j _ _ => ⟨f1 j, f2 j⟩)
  have tf : ∀ {g : Hp}, (∀ j, g 260 j = h 260 j) → cF g = cF h ∧ cG g = cG h ∧ ∀ b c, cR g b c ↔ cR h b c := fun {g} f2 => by
    refine ⟨?_, ?_, fun b c => ?_⟩
    · funext b c; unfold cF; rw [f2]
    · funext b c; unfold cG; rw [f2]
    · unfold cR; rw [f2]
  have u1 : ∀ j, up h P 19 (cB h (D 6 0) e) 259 j = h 259 j := fun j => up_a (by omega)
  have u2 : ∀ j, up h P 19 (cB h (D 6 0) e) 260 j = h 260 j := fun j => up_a (by omega)
  obtain ⟨x1, x2, x3⟩ := tf u2
  have cn := c_count28 (D := D) (τ := τ) (m := D 6 0) L1 (by omega) (T1 u1 u2) (D 6 0).toNat (D 6 0) e 0 (by omega) (by omega) (Int.le_refl _) e0 e3 (fun z => by omega) (fun _ => (x3 _ _).mpr er) (Int.le_refl _) (by omega)
  rw [x1, x2] at cn
  rw [cn, Option.bind_some, Int.zero_add]
  generalize hM : chL (cF h) (cG h) (D 6 0).toNat (D 6 0) e = M at *
  have lr : (M.reverse.length : Int) = M.length := by rw [List.length_reverse]
  have liOk : liO M.reverse (D 6 0) := ⟨by rw [lr]; exact j1, by rw [lr]; exact j2, by rw [List.length_reverse]; exact j3 (by omega), fun j a0 a1 => j4 j a0 (by rw [lr] at a1; exact a1)⟩
  -- room is made
  unfold m_X28_begin
  rw [pt_e]
  have F2_ : F2 (liW P R lam) h (up (up h P 19 (cB h (D 6 0) e)) P 18 M.length) := F1.put (Or.inl ⟨rfl, by decide, by decide⟩)
  have L2 := liW_l hL hR hP l0 F2_
  have p0 : up (up h P 19 (cB h (D 6 0) e)) P 18 M.length P 0 = R := by rw [up_j (by decide), up_j (by decide)]; exact C.1.2.1
  have q15 : up (up h P 19 (cB h (D 6 0) e)) P 18 M.length R 15 = lam := by rw [up_a (by omega), up_a (by omega)]; exact el
  simp only [p0, g_X15 L2 hR, q15]
  rw [gd_t trivial, pt_e]
  have F3 : F2 (liW P R lam) h (up (up (up h P 19 (cB h (D 6 0) e)) P 18 M.length) P 17 lam) := F2_.put (Or.inl ⟨rfl, by decide, by decide⟩)
  have L3 := liW_l hL hR hP l0 F3
  have p1 : up (up (up h P 19 (cB h (D 6 0) e)) P 18 M.length) P 17 lam P 0 = R := by rw [up_j (by decide)]; exact p0
  have q16 : up (up (up h P 19 (cB h (D 6 0) e)) P 18 M.length) P 17 lam R 15 = lam := by rw [up_a (by omega)]; exact q15
  simp only [p1, g_X15 L3 hR, q16]
  rw [gd_t trivial, pt_e, e32 (x := (M.length : Int) + 1) (by omega) (by omega), e32 (x := lam + ((M.length : Int) + 1)) (by omega) (by omega)]
  have F4 : F2 (liW P R lam) h (up (up (up (up h P 19 (cB h (D 6 0) e)) P 18 M.length) P 17 lam) R 15 (lam + ((M.length : Int) + 1))) := F3.put (Or.inr (Or.inl ⟨rfl, rfl⟩))
  have L4 := liW_l hL hR hP l0 F4
  have p2 : up (up (up (up h P 19 (cB h (D 6 0) e)) P 18 M.length) P 17 lam) R 15 (lam + ((M.length : Int) + 1)) P 0 = R := by rw [up_a (by omega)]; exact p1
  have p17 : up (up (up (up h P 19 (cB h (D 6 0) e)) P 18 M.length) P 17 lam) R 15 (lam + ((M.length : Int) + 1)) P 17 = lam := by rw [up_a (by omega), up_s]
  have a13 := g_X15_13 L4 hR
  simp only [p2, g_X15 L4 hR, a13, p17]
  rw [gd_t trivial, gd_t ⟨by decide, by omega, by omega⟩, pt_e, Option.bind_some]
  have F5 : F2 (liW P R lam) h (up (up (up (up (up h P 19 (cB h (D 6 0) e)) P 18 M.length) P 17 lam) R 15 (lam + ((M.length : Int) + 1))) (R + 12) lam 0) := F4.put (Or.inr (Or.inr (Or.inl ⟨Or.inl rfl, Int.le_refl _⟩)))
  have v0 : up (up (up (up (up h P 19 (cB h (D 6 0) e)) P 18 M.length) P 17 lam) R 15 (lam + ((M.length : Int) + 1))) (R + 12) lam 0 (R + 12) lam = 0 := up_s _ _ _ _
  have v17 : up (up (up (up (up h P 19 (cB h (D 6 0) e)) P 18 M.length) P 17 lam) R 15 (lam + ((M.length : Int) + 1))) (R + 12) lam 0 P 17 = lam := by rw [up_a (by omega)]; exact p17
  have v18 : up (up (up (up (up h P 19 (cB h (D 6 0) e)) P 18 M.length) P 17 lam) R 15 (lam + ((M.length : Int) + 1))) (R + 12) lam 0 P 18 = M.length := by rw [up_a (by omega), up_a (by omega), up_j (by decide), up_s]
  have v19 : up (up (up (up (up h P 19 (cB h (D 6 0) e)) P 18 M.length) P 17 lam) R 15 (lam + ((M.length : Int) + 1))) (R + 12) lam 0 P 19 = cB h (D 6 0) e := by rw [up_a (by omega), up_a (by omega), up_j (by decide), up_j (by decide), up_s]
  have v20 : up (up (up (up (up h P 19 (cB h (D 6 0) e)) P 18 M.length) P 17 lam) R 15 (lam + ((M.length : Int) + 1))) (R + 12) lam 0 P 20 = τ := by rw [up_a (by omega), up_a (by omega), up_j (by decide), up_j (by decide), up_j (by decide)]; exact eτ
  have v15 : up (up (up (up (up h P 19 (cB h (D 6 0) e)) P 18 M.length) P 17 lam) R 15 (lam + ((M.length : Int) + 1))) (R + 12) lam 0 R 15 = lam + M.length + 1 := by rw [up_a (by omega), up_s]; omega
  have vz : ∀ j, up (up (up (up (up h P 19 (cB h (D 6 0) e)) P 18 M.length) P 17 lam) R 15 (lam + ((M.length : Int) + 1))) (R + 12) lam 0 259 j = h 259 j ∧ up (up (up (up (up h P 19 (cB h (D 6 0) e)) P 18 M.length) P 17 lam) R 15 (lam + ((M.length : Int) + 1))) (R + 12) lam 0 260 j = h 260 j := fun j => ⟨by rw [up_a (by omega), up_a (by omega), up_a (by omega), up_a (by omega), up_a (by omega)], by rw [up_a (by omega), up_a (by omega), up_a (by omega), up_a (by omega), up_a (by omega)]⟩
  clear F1 F2_ F3 F4 L1 L2 L3 L4 p0 p1 p2 p17 q15 q16 a13 u1 u2 x1 x2 x3 cn
  generalize up (up (up (up (up h P 19 (cB h (D 6 0) e)) P 18 M.length) P 17 lam) R 15 (lam + ((M.length : Int) + 1))) (R + 12) lam 0 = g at F5 v0 v17 v18 v19 v20 v15 vz ⊢
  have L5 := liW_l hL hR hP l0 F5
  obtain ⟨y1, y2, y3⟩ := tf (fun j => (vz j).2)
  have p0 : g P 0 = R := by rw [F5 P 0 (fun z => by unfold liW at z; omega)]; exact C.1.2.1
  have wr := c_bro (D := D) (τ := τ) (m := D 6 0) L5 hR hP (by omega) p0 v17 l0 (by omega) (T1 (fun j => (vz j).1) (fun j => (vz j).2)) (D 6 0).toNat (D 6 0) e g F2.refl (by omega) (by omega) (Int.le_refl _) e0 e3 (fun z => by omega) (fun _ => (y3 _ _).mpr er)
  rw [y1, y2, hM] at wr
  refine z_bind (z_mono wr (fun g2 hg2 => z_lt ?_))
  obtain ⟨G2, H2⟩ := hg2
  have F6 : F2 (liW P R lam) h g2 := F5.trans (G2.mono (fun b j z => Or.inr (Or.inr (Or.inl ⟨Or.inl z.1, by omega⟩))))
  have L6 := liW_l hL hR hP l0 F6
  have C6 := C.kept (h' := g2) (fun j hj => F6 P j (fun z => by unfold liW at z; omega)) (fun r r0 r1 => F6.row (fun j z => by unfold liW at z; omega))
  have rt := c_ratios (L := M.reverse) L6 C6 O liOk l0 (by omega) (by rw [G2 P 17 (fun z => by omega)]; exact v17) (fun j z0 z1 => by
    by_cases hj : j = 0
    · rw [hj, Int.add_zero, G2 _ _ (fun z => by omega), v0]; rfl
    · exact H2 j (by omega) (by omega))
  rw [lr] at rt
  refine z_bind (z_mono rt (fun g3 hg3 => z_some ⟨F6.trans (hg3.1.mono (fun b j z => Or.inr (Or.inr (Or.inl ⟨Or.inr z.1, z.2.1⟩)))), e, E, ?_⟩))
  rw [hM]
  refine ⟨?_, liOk, ?_⟩
  · refine ⟨?_, ?_, ?_, ?_, fun j z0 z1 => ?_, fun j z0 z1 => ?_⟩
    · rw [hg3.1 P 17 (fun z => by omega), G2 P 17 (fun z => by omega)]; exact v17
    · rw [hg3.1 P 18 (fun z => by omega), G2 P 18 (fun z => by omega), lr]; exact v18
    · rw [hg3.1 P 19 (fun z => by omega), G2 P 19 (fun z => by omega)]; exact v19
    · rw [hg3.1 P 20 (fun z => by omega), G2 P 20 (fun z => by omega)]; exact v20
    · rw [hg3.1 _ _ (fun z => by omega)]
      by_cases hj : j = 0
      · rw [hj, Int.add_zero, G2 _ _ (fun z => by omega), v0]; rfl
      · exact H2 j (by omega) (by omega)
    · exact hg3.2 j z0 (by omega)
  · rw [hg3.1 R 15 (fun z => by omega), G2 R 15 (fun z => by omega)]; exact v15
/-- a paragraph is set -/
theorem c_set28 {D h : Hp} {P R β lam tol : Int} (hL : LAY h) (C : lnH h P R β D) (O : lnO D) (et : h P 9 = tol) (el : h R 15 = lam) (l0 : 0 ≤ lam) (l1 : lam + D 6 0 + 1 < 26400) :
    Pz (m_X28_set P 257 h) (fun g => F2 (liW P R lam) h g ∧ ∃ τ cost L, lnF D tol τ cost L ∧ liO L (D 6 0) ∧ liC g P R lam D τ cost L ∧ g R 15 = lam + L.length + 1) := by
  have hR := C.2.1.1
  have hR' : 293 ≤ R ∧ R ≤ 423 := by have := aX15 hR; omega
  have hP := C.2.1.2.1
  have m6 := O.1
  have keep : ∀ {g}, F2 (liW P R lam) h g → g R 15 = h R 15 → LAY g ∧ lnH g P R β D ∧ g P 9 = tol ∧ g R 15 = lam := fun {g} Fg e => ⟨liW_l hL hR hP l0 Fg, C.kept (fun j hj => Fg P j (fun z => by unfold liW at z; omega)) (fun r r0 r1 => Fg.row (fun j z => by unfold liW at z; omega)), by rw [Fg P 9 (fun z => by unfold liW at z; omega)]; exact et, by rw [e]; exact el⟩
  -- the end, when a row was found
  have fin : ∀ g τ, F2 (liW P R lam) h g → g R 15 = h R 15 → g P 20 = τ → (∀ b, 1 ≤ b → b ≤ D 6 0 → tbC D g τ b) → (∃ c, 0 ≤ c ∧ c ≤ 3 ∧ cR g (D 6 0) c) → ((τ = tol ∧ fndP D tol) ∨ (τ = 10000 ∧ ¬ fndP D tol ∧ fndP D 10000) ∨ (τ = 10001 ∧ ¬ fndP D tol ∧ ¬ fndP D 10000)) → Pz (m_X28_collect P 257 g) (fun g => F2 (liW P R lam) h g ∧ ∃ τ cost L, lnF D tol τ cost L ∧ liO L (D 6 0) ∧ liC g P R lam D τ cost L ∧ g R 15 = lam + L.length + 1) := by
    intro g τ Fg e15 e20 T hf ht
    obtain ⟨Lg, Cg, -, elg⟩ := keep Fg e15
    refine z_mono (c_collect Lg Cg O e20 elg l0 l1 T hf) (fun g' hg' => ?_)
    obtain ⟨w1, e, w2, w3, w4, w5⟩ := hg'
    exact ⟨Fg.trans w1, τ, _, _, ⟨ht, cR g, cB g, cF g, cG g, e, fun b b0 b1 => (T b b0 b1).1, w2, rfl, rfl⟩, w4, w3, by rw [w5, List.length_reverse]⟩
  -- one search
  have srch : ∀ g τ, F2 (liW P R lam) h g → g R 15 = h R 15 → Pz (m_X28_search P 257 (up g P 20 τ)) (fun r => F2 (liW P R lam) h r.2 ∧ r.2 R 15 = h R 15 ∧ r.2 P 20 = τ ∧ (∀ b, 1 ≤ b → b ≤ D 6 0 → tbC D r.2 τ b) ∧ is01 r.1 (fndP D τ) ∧ (fndP D τ → ∃ c, 0 ≤ c ∧ c ≤ 3 ∧ cR r.2 (D 6 0) c)) := by
    intro g τ Fg e15
    have F1 : F2 (liW P R lam) h (up g P 20 τ) := Fg.put (Or.inl ⟨rfl, by decide, by decide⟩)
    obtain ⟨L1, C1, -, -⟩ := keep F1 (by rw [up_a (by omega)]; exact e15)
    refine z_mono (c_search L1 C1 O (up_s _ _ _ _)) (fun r hr => ?_)
    obtain ⟨r1, r2, r3⟩ := hr
    have fi := fnd_iff (D := D) (τ := τ) m6.1 (fun b b0 b1 => (r2 b b0 b1).1)
    exact ⟨F1.trans (r1.mono (fun b j z => Or.inr (Or.inr (Or.inr z)))), by rw [r1 R 15 (fun z => by omega), up_a (by omega)]; exact e15, by rw [r1 P 20 (fun z => by omega), up_s], r2, r3.imp (fun z => ⟨z.1, fi.mpr z.2⟩) (fun z => ⟨z.1, fun y => z.2 (fi.mp y)⟩), fi.mp⟩
  unfold m_X28_set
  rw [pt_e, et]
  refine z_bW (z_mono (srch h tol F2.refl rfl) (fun r hr => ?_))
  obtain ⟨r1, r2, r3, r4, r5, r6⟩ := hr
  unfold m_X28_set_j31
  rcases r5 with ⟨v1, v2⟩ | ⟨v1, v2⟩
  · rw [if_pos (by omega), if_pos (by omega)]
    exact z_bind (z_mono (fin r.2 tol r1 r2 r3 r4 (r6 v2) (Or.inl ⟨rfl, v2⟩)) (fun g hg => z_some hg))
  rw [if_neg (by omega), pt_e]
  refine z_bW (z_mono (srch r.2 10000 r1 r2) (fun s hs => ?_))
  obtain ⟨s1, s2, s3, s4, s5, s6⟩ := hs
  rcases s5 with ⟨u1, u2⟩ | ⟨u1, u2⟩
  · rw [if_pos (by omega)]
    exact z_bind (z_mono (fin s.2 10000 s1 s2 s3 s4 (s6 u2) (Or.inr (Or.inl ⟨rfl, v2, u2⟩))) (fun g hg => z_some hg))
  rw [if_neg (by omega), pt_e]
  refine z_bW (z_mono (srch s.2 10001 s1 s2) (fun t ht => ?_))
  obtain ⟨t1, t2, t3, t4, t5, t6⟩ := ht
  -- one line alone is always a row
  have all : fndP D 10001 := by
    refine (fnd_iff m6.1 (fun b b0 b1 => (t4 b b0 b1).1)).mpr ?_
    have cr : 0 ≤ lnC D 0 (D 6 0) ∧ lnC D 0 (D 6 0) ≤ 3 := clsI_r
    refine ⟨lnC D 0 (D 6 0), cr.1, cr.2, ?_⟩
    by_cases hr : cR t.2 (D 6 0) (lnC D 0 (D 6 0))
    · exact hr
    · exact absurd ⟨Int.le_refl _, by omega, Or.inl (by decide), rfl, Or.inl ⟨rfl, rfl⟩⟩ (((t4 (D 6 0) m6.1 (Int.le_refl _)).1 _ cr.1 cr.2).2 hr 0 1)
  exact z_bind (z_mono (fin t.2 10001 t1 t2 t3 t4 (t6 all) (Or.inr (Or.inr ⟨rfl, v2, u2⟩))) (fun g hg => z_some hg))
