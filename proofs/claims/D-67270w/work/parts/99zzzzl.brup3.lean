-- needs: 99zzzzk
set_option maxRecDepth 100000
/-! LINES: the reference breaks a paragraph: all of it -/
def liT (h : Hp) (s p lam : Int) (D : Hp) (τ cost : Int) (L : List Int) : Prop := h (s + 60) p = L.length ∧ h (s + 62) p = τ ∧ h (s + 65) p = cost ∧ ∀ j : Int, 0 ≤ j → j < L.length → h (s + 71) (lam + j) = enE L (j + 1) ∧ h (s + 72) (lam + j) = lnR2 D (enE L j) (enE L (j + 1))
def buW (s p lam : Int) : Int → Int → Prop := fun q j => ((q = s + 60 ∨ q = s + 62 ∨ q = s + 65) ∧ j = p) ∨ ((q = s + 71 ∨ q = s + 72) ∧ lam ≤ j) ∨ (s + 132 ≤ q ∧ q ≤ s + 139 ∧ 0 ≤ j) ∨ mfW s q j
theorem buW_l {h h' : Hp} {s p lam : Int} (hL : LAY h) (hs : s ∈ in_aX25) (p0 : 0 ≤ p) (l0 : 0 ≤ lam) (f : F2 (buW s p lam) h h') : LAY h' :=
  lay_W hL f _ _ (rgS hs) (rgM hs) (fun q j z => by
    have hs' : 671 ≤ s ∧ s ≤ 825 := by have := aX25 hs; omega
    rcases z with z | z | z | z
    · exact ⟨by omega, Or.inl ⟨_, List.mem_cons_self, by dsimp only; omega, by dsimp only; omega⟩⟩
    · exact ⟨by omega, Or.inl ⟨_, List.mem_cons_self, by dsimp only; omega, by dsimp only; omega⟩⟩
    · exact ⟨by omega, Or.inl ⟨_, List.mem_cons_self, by dsimp only; omega, by dsimp only; omega⟩⟩
    · unfold mfW at z
      refine ⟨by omega, Or.inr ⟨_, List.mem_cons_self, z.1, ?_⟩⟩
      have : j = 112 ∨ j = 113 ∨ j = 114 ∨ j = 115 ∨ j = 116 ∨ j = 117 ∨ j = 118 ∨ j = 119 ∨ j = 120 := by omega
      rcases this with rfl | rfl | rfl | rfl | rfl | rfl | rfl | rfl | rfl <;> (dsimp only; decide))
theorem lnU.kept2 {h h' : Hp} {s p β : Int} {D : Hp} {lam : Int} (hs : s ∈ in_aX25) (U : lnU h s p β D) (f : F2 (fun q j => buW s p lam q j ∧ ¬ (s + 132 ≤ q ∧ q ≤ s + 135)) h h') : lnU h' s p β D := by
  have hs' : 671 ≤ s ∧ s ≤ 825 := by have := aX25 hs; omega
  obtain ⟨u1, u2, u3⟩ := U
  have row : ∀ b, s + 1 ≤ b → b ≤ s + 135 → ¬ (b = s + 60 ∨ b = s + 62 ∨ b = s + 65 ∨ b = s + 71 ∨ b = s + 72) → h' b = h b := fun b b0 b1 b2 => f.row (fun j z => by unfold buW mfW at z; omega)
  refine ⟨?_, ?_, fun g Lg eg => ?_⟩
  · unfold lnG at *
    rw [row (s + 58) (by omega) (by omega) (by omega), row (s + 59) (by omega) (by omega) (by omega), row (s + 64) (by omega) (by omega) (by omega), row (s + 56) (by omega) (by omega) (by omega), row (s + 63) (by omega) (by omega) (by omega), row (s + 66) (by omega) (by omega) (by omega), row (s + 68) (by omega) (by omega) (by omega), row (s + 69) (by omega) (by omega) (by omega), row (s + 70) (by omega) (by omega) (by omega)]
    exact u1
  · unfold lnM at *
    rw [row (s + 132) (by omega) (by omega) (by omega), row (s + 133) (by omega) (by omega) (by omega), row (s + 134) (by omega) (by omega) (by omega), row (s + 135) (by omega) (by omega) (by omega)]
    exact u2
  · rw [row (s + 55) (by omega) (by omega) (by omega)]
    exact u3 g Lg (fun b b0 b1 => by rw [eg b b0 b1, row b b0 (by omega) (by omega)])
theorem t_bu61 {D h : Hp} {s p β τ tol lam : Int} (hL : LAY h) (hs : s ∈ in_aX25) (U : lnU h s p β D) (O : lnO D) (e61 : h (s + 61) p = lam) (l0 : 0 ≤ lam) (l1 : lam + D 6 0 < 25208) (T : ∀ b, 1 ≤ b → b ≤ D 6 0 → tbT D h s τ b) (hf : ∃ c, 0 ≤ c ∧ c ≤ 3 ∧ tR h s (D 6 0) c) (ht : (τ = tol ∧ fndP D tol) ∨ (τ = 10000 ∧ ¬ fndP D tol ∧ fndP D 10000) ∨ (τ = 10001 ∧ ¬ fndP D tol ∧ ¬ fndP D 10000)) :
    Pz (m_X25_breakUp_j61 (D 6 0) p s τ h) (fun g => F2 (buW s p lam) h g ∧ ∃ cost L, lnF D tol τ cost L ∧ liO L (D 6 0) ∧ liT g s p lam D τ cost L) := by
  have hs' : 671 ≤ s ∧ s ≤ 825 := by have := aX25 hs; omega
  have m6 := O.1
  obtain ⟨p0, p1, -, -⟩ := U.1.2.1
  have tkeep : ∀ {g : Hp}, (∀ k j, 136 ≤ k → k ≤ 139 → g (s + k) j = h (s + k) j) → (∀ b, 1 ≤ b → b ≤ D 6 0 → tbT D g s τ b) ∧ tR g s = tR h s ∧ tB g s = tB h s ∧ tF g s = tF h s ∧ tG g s = tG h s := fun {g} e => ⟨fun b b0 b1 => (T b b0 b1).kept b0 (fun j _ _ k k0 k1 => e k j k0 k1), by funext b c; unfold tR; rw [e 137 _ (by decide) (by decide)], by funext b c; unfold tB; rw [e 136 _ (by decide) (by decide)], by funext b c; unfold tF; rw [e 138 _ (by decide) (by decide)], by funext b c; unfold tG; rw [e 139 _ (by decide) (by decide)]⟩
  unfold m_X25_breakUp_j61
  have c19 := g_X25_19 hL hs
  simp only [c19]
  refine z_gd ⟨by decide, p0, by omega⟩ (z_pt (z_lt (z_lt ?_)))
  have F1 : F2 (buW s p lam) h (up h (s + 62) p τ) := F2.refl.put (by unfold buW; omega)
  have v1 : up h (s + 62) p τ (s + 62) p = τ := up_s _ _ _ _
  have t1 : ∀ k j, 136 ≤ k → k ≤ 139 → up h (s + 62) p τ (s + k) j = h (s + k) j := fun k j k0 k1 => up_a (by omega)
  have u1 : F2 (fun q j => buW s p lam q j ∧ ¬ (s + 132 ≤ q ∧ q ≤ s + 135)) h (up h (s + 62) p τ) := F2.refl.put ⟨by unfold buW; omega, by omega⟩
  generalize up h (s + 62) p τ = g1 at F1 v1 t1 u1 ⊢
  have L1 := buW_l hL hs p0 l0 F1
  obtain ⟨T1, x1, x2, x3, x4⟩ := tkeep t1
  refine z_bind (z_mono (t_buEnd L1 hs O T1 (by rw [x1]; exact hf)) (fun e E => ?_))
  rw [x1, x2, x3] at E
  obtain ⟨e0, e3, er, em⟩ := id E
  have Tdp : ∀ b, 1 ≤ b → b ≤ D 6 0 → dpR D τ (tR h s) (tB h s) (tF h s) (tG h s) b := fun b b0 b1 => (T b b0 b1).1
  obtain ⟨j1, j2, j3, j4⟩ := chL_inc Tdp (D 6 0).toNat (D 6 0) e (by omega) (by omega) (Int.le_refl _) e0 e3 (fun _ => er)
  have c108 := g_X25_108 L1 hs
  have c22 := g_X25_22 L1 hs
  simp only [c108, c22]
  rw [e32 (x := 4 * D 6 0) (by omega) (by omega), e32 (x := 4 * D 6 0 + e) (by omega) (by omega), show g1 (s + 136) (4 * D 6 0 + e) = tB h s (D 6 0) e from t1 136 _ (by decide) (by decide)]
  refine z_gd ⟨by decide, by omega, by omega⟩ (z_gd ⟨by decide, p0, by omega⟩ (z_pt (z_lt ?_)))
  have F2_ : F2 (buW s p lam) h (up g1 (s + 65) p (tB h s (D 6 0) e)) := F1.put (by unfold buW; omega)
  have v1' : up g1 (s + 65) p (tB h s (D 6 0) e) (s + 62) p = τ := by rw [up_a (by omega)]; exact v1
  have v2 : up g1 (s + 65) p (tB h s (D 6 0) e) (s + 65) p = tB h s (D 6 0) e := up_s _ _ _ _
  have t2 : ∀ k j, 136 ≤ k → k ≤ 139 → up g1 (s + 65) p (tB h s (D 6 0) e) (s + k) j = h (s + k) j := fun k j k0 k1 => by rw [up_a (by omega)]; exact t1 k j k0 k1
  have u2 : F2 (fun q j => buW s p lam q j ∧ ¬ (s + 132 ≤ q ∧ q ≤ s + 135)) h (up g1 (s + 65) p (tB h s (D 6 0) e)) := u1.put ⟨by unfold buW; omega, by omega⟩
  generalize up g1 (s + 65) p (tB h s (D 6 0) e) = g2 at F2_ v1' v2 t2 u2 ⊢
  have L2 := buW_l hL hs p0 l0 F2_
  obtain ⟨T2, y1, y2, y3, y4⟩ := tkeep t2
  have cn := t_count25 (D := D) (τ := τ) (m := D 6 0) L2 hs (by omega) T2 (D 6 0).toNat (D 6 0) e 0 (by omega) (by omega) (Int.le_refl _) e0 e3 (fun _ => by rw [y1]; exact er) (Int.le_refl _) (by omega)
  rw [y3, y4] at cn
  rw [cn, Option.bind_some, Int.zero_add]
  have c17 := g_X25_17 L2 hs
  simp only [c17]
  refine z_gd ⟨by decide, p0, by omega⟩ (z_pt (z_lt ?_))
  generalize hM : chL (tF h s) (tG h s) (D 6 0).toNat (D 6 0) e = M at *
  have lr : (M.reverse.length : Int) = M.length := by rw [List.length_reverse]
  have liOk : liO M.reverse (D 6 0) := ⟨by rw [lr]; exact j1, by rw [lr]; exact j2, by rw [List.length_reverse]; exact j3 (by omega), fun j a0 a1 => j4 j a0 (by rw [lr] at a1; exact a1)⟩
  have F3 : F2 (buW s p lam) h (up g2 (s + 60) p M.length) := F2_.put (by unfold buW; omega)
  have w1 : up g2 (s + 60) p M.length (s + 62) p = τ := by rw [up_a (by omega)]; exact v1'
  have w2 : up g2 (s + 60) p M.length (s + 65) p = tB h s (D 6 0) e := by rw [up_a (by omega)]; exact v2
  have w3 : up g2 (s + 60) p M.length (s + 60) p = M.length := up_s _ _ _ _
  have t3 : ∀ k j, 136 ≤ k → k ≤ 139 → up g2 (s + 60) p M.length (s + k) j = h (s + k) j := fun k j k0 k1 => by rw [up_a (by omega)]; exact t2 k j k0 k1
  have u3 : F2 (fun q j => buW s p lam q j ∧ ¬ (s + 132 ≤ q ∧ q ≤ s + 135)) h (up g2 (s + 60) p M.length) := u2.put ⟨by unfold buW; omega, by omega⟩
  generalize up g2 (s + 60) p M.length = g3 at F3 w1 w2 w3 t3 u3 ⊢
  have L3 := buW_l hL hs p0 l0 F3
  obtain ⟨T3, z1, z2, z3, z4⟩ := tkeep t3
  have U3 := U.kept2 hs u3
  rw [e32 (x := (M.length : Int) - 1) (by omega) (by omega)]
  have br := t_bro (D := D) (τ := τ) L3 hs U3 O (by rw [u3 _ _ (fun z => by unfold buW mfW at z; omega)]; exact e61) l0 l1 T3 (D 6 0).toNat (D 6 0) e g3 F2.refl (by omega) (by omega) (Int.le_refl _) e0 e3 (fun _ => by rw [z1]; exact er)
  rw [z3, z4, hM] at br
  refine z_bind (z_mono br (fun g4 hg4 => z_some ⟨F3.trans (hg4.1.mono (fun q j z => by unfold lwW mfW at z; unfold buW mfW; omega)), tB h s (D 6 0) e, M.reverse, ⟨ht, tR h s, tB h s, tF h s, tG h s, e, Tdp, E, rfl, by rw [hM]⟩, liOk, ?_, ?_, ?_, fun j a0 a1 => ?_⟩))
  · rw [hg4.1 _ _ (fun z => by unfold lwW mfW at z; omega), lr]; exact w3
  · rw [hg4.1 _ _ (fun z => by unfold lwW mfW at z; omega)]; exact w1
  · rw [hg4.1 _ _ (fun z => by unfold lwW mfW at z; omega)]; exact w2
  · exact hg4.2.2 j a0 (by omega)
theorem t_breakUp {D h : Hp} {s p β tol lam : Int} (hL : LAY h) (hs : s ∈ in_aX25) (G : lnG h s p β D) (O : lnO D) (hA : ∀ g, LAY g → (∀ b, s + 1 ≤ b → b ≤ s + 49 → g b = h b) → m_X24_of (s + 1) (h (s + 55) p) 8 g = some (D 6 3) ∧ m_X24_of (s + 1) (h (s + 55) p) 10 g = some tol) (e61 : h (s + 61) p = lam) (l0 : 0 ≤ lam) (l1 : lam + D 6 0 < 25208) :
    Pz (m_X25_breakUp s p h) (fun g => F2 (buW s p lam) h g ∧ ∃ τ cost L, lnF D tol τ cost L ∧ liO L (D 6 0) ∧ liT g s p lam D τ cost L) := by
  have hs' : 671 ≤ s ∧ s ≤ 825 := by have := aX25 hs; omega
  have m6 := O.1
  obtain ⟨p0, p1, -, -⟩ := G.2.1
  unfold m_X25_breakUp
  refine z_bind (z_mono (t_sums hL hs G O) (fun g0 hg0 => ?_))
  obtain ⟨F0, M0⟩ := hg0
  have F0' : F2 (buW s p lam) h g0 := F0.mono (fun q j z => Or.inr (Or.inr (Or.inl ⟨z.1, by unfold smW at z; omega, z.2.2⟩)))
  have L0 := buW_l hL hs p0 l0 F0'
  have row0 : ∀ b, s + 1 ≤ b → b ≤ s + 131 → g0 b = h b := fun b b0 b1 => F0.row (fun j z => by unfold smW at z; omega)
  have U0 : lnU g0 s p β D := ⟨G.kept (fun b b0 b1 => row0 b (by omega) (by omega)), M0, fun g Lg eg => by rw [row0 (s + 55) (by omega) (by omega)]; exact (hA g Lg (fun b b0 b1 => by rw [eg b b0 b1, row0 b b0 (by omega)])).1⟩
  have c15 := g_X25_15 L0 hs
  have c12 := g_X25_12 L0 hs
  have c0 := g_X25_0 L0 hs
  simp only [c15, c12, c0, U0.1.1.1, row0 (s + 55) (by omega) (by omega)]
  refine z_gd ⟨by decide, p0, by omega⟩ (z_lt (z_gd ⟨by decide, p0, by omega⟩ (z_gd trivial ?_)))
  rw [(hA g0 L0 (fun b b0 b1 => row0 b b0 (by omega))).2, Option.bind_some]
  -- one try
  have try_ : ∀ g τ, F2 (tyW s) g0 g → Pz (m_X25_tryAll s p τ g) (fun r => F2 (tyW s) g0 r.2 ∧ (∀ b, 1 ≤ b → b ≤ D 6 0 → tbT D r.2 s τ b) ∧ is01 r.1 (fndP D τ) ∧ (fndP D τ → ∃ c, 0 ≤ c ∧ c ≤ 3 ∧ tR r.2 s (D 6 0) c)) := by
    intro g τ Fg
    have Lg := tyW_l L0 hs Fg
    have Ug := U0.kept (h' := g) (fun b x0 x1 x2 => Fg.row (fun j z => by unfold tyW mfW at z; omega))
    refine z_mono (t_tryAll (τ := τ) Lg hs Ug O) (fun r hr => ?_)
    obtain ⟨r1, r2, r3⟩ := hr
    have fi := fnd_iff (D := D) (τ := τ) m6.1 (fun b b0 b1 => (r2 b b0 b1).1)
    exact ⟨Fg.trans r1, r2, r3.imp (fun z => ⟨z.1, fi.mpr z.2⟩) (fun z => ⟨z.1, fun y => z.2 (fi.mp y)⟩), fi.mp⟩
  have fin : ∀ g τ, F2 (tyW s) g0 g → (∀ b, 1 ≤ b → b ≤ D 6 0 → tbT D g s τ b) → (∃ c, 0 ≤ c ∧ c ≤ 3 ∧ tR g s (D 6 0) c) → ((τ = tol ∧ fndP D tol) ∨ (τ = 10000 ∧ ¬ fndP D tol ∧ fndP D 10000) ∨ (τ = 10001 ∧ ¬ fndP D tol ∧ ¬ fndP D 10000)) → Pz (m_X25_breakUp_j61 (D 6 0) p s τ g) (fun g => F2 (buW s p lam) h g ∧ ∃ τ cost L, lnF D tol τ cost L ∧ liO L (D 6 0) ∧ liT g s p lam D τ cost L) := by
    intro g τ Fg T hf ht
    have Lg := tyW_l L0 hs Fg
    have Ug := U0.kept (h' := g) (fun b x0 x1 x2 => Fg.row (fun j z => by unfold tyW mfW at z; omega))
    refine z_mono (t_bu61 Lg hs Ug O (by rw [Fg _ _ (fun z => by unfold tyW mfW at z; omega), row0 (s + 61) (by omega) (by omega)]; exact e61) l0 l1 T hf ht) (fun g' hg' => ⟨(F0'.trans (Fg.mono (fun q j z => by unfold tyW mfW at z; unfold buW mfW; omega))).trans hg'.1, τ, hg'.2⟩)
  refine z_bW (z_mono (try_ g0 tol F2.refl) (fun r hr => ?_))
  obtain ⟨r1, r4, r5, r6⟩ := hr
  rcases r5 with ⟨v1, v2⟩ | ⟨v1, v2⟩
  · rw [if_pos (by omega)]
    exact fin r.2 tol r1 r4 (r6 v2) (Or.inl ⟨rfl, v2⟩)
  rw [if_neg (by omega)]
  refine z_lt (z_bW (z_mono (try_ r.2 10000 r1) (fun q hq => ?_)))
  obtain ⟨s1, s4, s5, s6⟩ := hq
  rcases s5 with ⟨u1, u2⟩ | ⟨u1, u2⟩
  · rw [if_pos (by omega)]
    exact fin q.2 10000 s1 s4 (s6 u2) (Or.inr (Or.inl ⟨rfl, v2, u2⟩))
  rw [if_neg (by omega)]
  refine z_lt (z_bW (z_mono (try_ q.2 10001 s1) (fun t ht => ?_)))
  obtain ⟨t1, t4, t5, t6⟩ := ht
  have all : fndP D 10001 := by
    refine (fnd_iff m6.1 (fun b b0 b1 => (t4 b b0 b1).1)).mpr ?_
    have cr : 0 ≤ lnC D 0 (D 6 0) ∧ lnC D 0 (D 6 0) ≤ 3 := clsI_r
    refine ⟨lnC D 0 (D 6 0), cr.1, cr.2, ?_⟩
    by_cases hr : tR t.2 s (D 6 0) (lnC D 0 (D 6 0))
    · exact hr
    · exact absurd ⟨Int.le_refl _, by omega, Or.inl (by decide), rfl, Or.inl ⟨rfl, rfl⟩⟩ (((t4 (D 6 0) m6.1 (Int.le_refl _)).1 _ cr.1 cr.2).2 hr 0 1)
  exact fin t.2 10001 t1 t4 (t6 all) (Or.inr (Or.inr ⟨rfl, v2, u2⟩))
