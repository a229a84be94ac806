-- needs: 99zzzzh
set_option maxRecDepth 100000
/-! LINES: the reference tries all: rows, and all of it -/
def tbT (D h : Hp) (s τ b : Int) : Prop := dpR D τ (tR h s) (tB h s) (tF h s) (tG h s) b ∧ ∀ c, 0 ≤ c → c ≤ 3 → tR h s b c → 0 ≤ tB h s b c ∧ tB h s b c ≤ 50000000000 * b
theorem tbT.kept {D h h' : Hp} {s τ b : Int} (b0 : 1 ≤ b) (T : tbT D h s τ b) (e : ∀ j, 4 ≤ j → j ≤ 4 * b + 3 → ∀ k, 136 ≤ k → k ≤ 139 → h' (s + k) j = h (s + k) j) : tbT D h' s τ b := by
  refine ⟨dpR_t b0 e T.1, fun c c0 c3 z => ?_⟩
  have k := e (4 * b + c) (by omega) (by omega)
  have t := T.2 c c0 c3
  unfold tR tB at *
  rw [k 137 (by decide) (by decide)] at z
  rw [k 136 (by decide) (by decide)]
  exact t z
theorem row_doneT {D h0 g : Hp} {s τ b : Int} (O : lnO D) (b0 : 1 ≤ b) (b1 : b ≤ D 6 0) (ag : agT h0 g s b) (T : ∀ b', 1 ≤ b' → b' < b → tbT D h0 s τ b') (E : ∀ c, 0 ≤ c → c ≤ 3 → enT D h0 g s b c (upT D h0 s τ b b c)) : tbT D g s τ b := by
  have rows : ∀ a c', 1 ≤ a → a < b → 0 ≤ c' → c' ≤ 3 → (tR h0 s a c' ↔ tR g s a c') ∧ tB h0 s a c' = tB g s a c' ∧ tF h0 s a c' = tF g s a c' := fun a c' a0 a1 y0 y1 => by
    have k := ag (4 * a + c') (by omega)
    unfold tR tB tF
    rw [k 136 (by decide) (by decide), k 137 (by decide) (by decide), k 138 (by decide) (by decide)]
    exact ⟨Iff.rfl, rfl, rfl⟩
  have cc : ∀ c a c', cnd D τ (tR g s) b c a c' ↔ upT D h0 s τ b b c a c' := fun c a c' => by
    unfold upT
    rw [cnd_congr (rc := tR h0 s) (rc' := tR g s) (fun x y x0 x1 y0 y1 => (rows x y x0 x1 y0 y1).1)]
    exact ⟨fun z => ⟨z, z.2.1⟩, fun z => z.1⟩
  have cg : ∀ {c a c'}, upT D h0 s τ b b c a c' → a ≠ 0 → tB g s a c' = tB h0 s a c' ∧ tF g s a c' = tF h0 s a c' := fun {c a c'} z ha => by
    rcases z.1.2.2.2.2 with ⟨p, -⟩ | ⟨p1, p2, p3, p4⟩
    · exact absurd p ha
    · have := rows a c' p1 z.1.2.1 p2 p3
      exact ⟨this.2.1.symm, this.2.2.symm⟩
  refine ⟨fun c c0 c3 => ?_, fun c c0 c3 hr => ?_⟩
  · obtain ⟨E1, E2⟩ := E c c0 c3
    refine ⟨fun hr => ?_, fun hr a c' z => E2 hr a c' ((cc c a c').mp z)⟩
    obtain ⟨e1, e2, e3⟩ := E1 hr
    refine ⟨(cc c _ _).mpr e1, ?_, fun a c' z => ?_⟩
    · rw [e2]; exact (vlS_congr (fun ha => (cg e1 ha).1)).symm
    · have z' := (cc c a c').mp z
      exact (e3 a c' z').imp id (fun k => (klt_congr (cg e1) (cg z')).mpr k)
  · obtain ⟨E1, E2⟩ := E c c0 c3
    obtain ⟨e1, e2, e3⟩ := E1 hr
    have n := e1.1
    have xr := lnX_r (c := tG g s b c) O n.1 n.2.1 b1
    rw [e2]
    unfold vlS
    by_cases ha : tF g s b c = 0
    · rw [if_pos ha]; omega
    · rw [if_neg ha]
      rcases n.2.2.2.2 with ⟨p, -⟩ | ⟨p1, p2, p3, p4⟩
      · exact absurd p ha
      · have := (T _ p1 n.2.1).2 _ p2 p3 p4
        have := n.2.1
        omega
/-- what a paragraph of the reference needs to be measured -/
def lnU (h : Hp) (s p β : Int) (D : Hp) : Prop := lnG h s p β D ∧ lnM h s D (D 6 0) ∧ ∀ g, LAY g → (∀ b, s + 1 ≤ b → b ≤ s + 49 → g b = h b) → m_X24_of (s + 1) (h (s + 55) p) 8 g = some (D 6 3)
theorem lnU.kept {h h' : Hp} {s p β : Int} {D : Hp} (U : lnU h s p β D) (e : ∀ b, s + 1 ≤ b → b ≤ s + 135 → ¬ (s + 71 ≤ b ∧ b ≤ s + 131) → h' b = h b) : lnU h' s p β D := by
  obtain ⟨u1, u2, u3⟩ := U
  refine ⟨u1.kept (fun b b0 b1 => e b (by omega) (by omega) (by omega)), ?_, fun g Lg eg => ?_⟩
  · unfold lnM at *
    rw [e (s + 132) (by omega) (by omega) (by omega), e (s + 133) (by omega) (by omega) (by omega), e (s + 134) (by omega) (by omega) (by omega), e (s + 135) (by omega) (by omega) (by omega)]
    exact u2
  · rw [e (s + 55) (by omega) (by omega) (by omega)]
    exact u3 g Lg (fun b b0 b1 => by rw [eg b b0 b1, e b b0 (by omega) (by omega)])
theorem t_trow {D h0 : Hp} {s p β τ b : Int} (hL : LAY h0) (hs : s ∈ in_aX25) (U : lnU h0 s p β D) (O : lnO D) (b0 : 1 ≤ b) (b1 : b ≤ D 6 0) (T : ∀ b', 1 ≤ b' → b' < b → tbT D h0 s τ b') (Z : ∀ c, 0 ≤ c → c ≤ 3 → h0 (s + 137) (4 * b + c) = 0) :
    Pz (lp (fun (q : Int × Hp) => m_X25_tryAll_l46 s p τ b q.1 q.2) (0, h0)) (fun g => F2 (rwT s b) h0 g ∧ tbT D g s τ b) := by
  have hs' : 671 ≤ s ∧ s ≤ 825 := by have := aX25 hs; omega
  have m6 := O.1
  have Tdp : ∀ b', 1 ≤ b' → b' < b → dpR D τ (tR h0 s) (tB h0 s) (tF h0 s) (tG h0 s) b' := fun b' x0 x1 => (T b' x0 x1).1
  have hv : ∀ a c, 1 ≤ a → a < b → 0 ≤ c → c ≤ 3 → tR h0 s a c → 0 ≤ tB h0 s a c ∧ tB h0 s a c ≤ 50000000000 * a := fun a c a0 a1 c0 c3 z => (T a a0 a1).2 c c0 c3 z
  have agF : ∀ {g}, F2 (rwT s b) h0 g → agT h0 g s b := fun {g} Fg j hj k k0 k1 => Fg _ _ (fun z => by unfold rwT mfW at z; omega)
  refine z_mono (z_lp (Q := fun g => F2 (rwT s b) h0 g ∧ ∀ c, 0 ≤ c → c ≤ 3 → enT D h0 g s b c (upT D h0 s τ b b c)) (fun (q : Int × Hp) => 0 ≤ q.1 ∧ q.1 ≤ b ∧ F2 (rwT s b) h0 q.2 ∧ ∀ c, 0 ≤ c → c ≤ 3 → enT D h0 q.2 s b c (upT D h0 s τ b q.1 c)) (fun q => (b - q.1).toNat) ⟨Int.le_refl _, show 0 ≤ b by omega, F2.refl, fun c c0 c3 => ?_⟩ ?_) (fun g hg => ⟨hg.1, row_doneT O b0 b1 (agF hg.1) T hg.2⟩)
  · have no : ¬ tR h0 s b c := fun z => z (Z c c0 c3)
    exact ⟨fun z => absurd z no, fun _ x y z => by have := z.2; have := z.1.1; dsimp only at *; omega⟩
  rintro ⟨u, g⟩ ⟨u0, u1, Fg, H⟩
  dsimp only at u0 u1 H
  replace Fg : F2 (rwT s b) h0 g := Fg
  show Pz (m_X25_tryAll_l46 s p τ b u g) _
  unfold m_X25_tryAll_l46
  by_cases hu : b ≤ u
  · rw [if_pos hu]
    have : u = b := by omega
    subst this
    exact z_some ⟨Fg, H⟩
  rw [if_neg hu]
  have Lg := rwT_l hL hs (by omega) Fg
  have Ug := U.kept (h' := g) (fun b' x0 x1 x2 => Fg.row (fun j z => by unfold rwT mfW at z; omega))
  refine z_bind (z_mono (t_measure Lg hs Ug.1 O Ug.2.1 Ug.2.2 u0 (show u < b by omega) b1) (fun g1 hg1 => ?_))
  obtain ⟨F1, ⟨-, n116, -, n118, n119, n120⟩⟩ := hg1
  have F1' : F2 (rwT s b) h0 g1 := Fg.trans (F1.mono (fun q j z => Or.inr z))
  have L1 := rwT_l hL hs (by omega) F1'
  have H1 : ∀ c, 0 ≤ c → c ≤ 3 → enT D h0 g1 s b c (upT D h0 s τ b u c) := fun c c0 c3 => (H c c0 c3).kept (fun k k0 k1 => F1 _ _ (fun z => by unfold mfW at z; omega)) (fun _ _ => Iff.rfl)
  have bd := lnB_r O u0 (show u < b by omega) b1
  have next : ∀ g2, F2 (rwT s b) h0 g2 → (∀ c, 0 ≤ c → c ≤ 3 → enT D h0 g2 s b c (upT D h0 s τ b (u + 1) c)) → Pz (m_X25_tryAll_j322 u g2) (sE (fun (q : Int × Hp) => (0 ≤ q.1 ∧ q.1 ≤ b ∧ F2 (rwT s b) h0 q.2 ∧ ∀ c, 0 ≤ c → c ≤ 3 → enT D h0 q.2 s b c (upT D h0 s τ b q.1 c)) ∧ (b - q.1).toNat < (b - u).toNat) (fun g => F2 (rwT s b) h0 g ∧ ∀ c, 0 ≤ c → c ≤ 3 → enT D h0 g s b c (upT D h0 s τ b b c))) := by
    intro g2 F2' H2
    unfold m_X25_tryAll_j322
    refine z_lt ?_
    rw [e32 (x := u + 1) (by omega) (by omega)]
    exact z_some ⟨⟨show 0 ≤ u + 1 by omega, show u + 1 ≤ b by omega, F2', H2⟩, by dsimp only; omega⟩
  have al : m_X25_isAllowed s τ g1 = some (@ite _ (lnA D τ u b) (Classical.propDecidable _) 1 0) := by
    unfold m_X25_isAllowed
    by_cases h1 : 10000 < τ
    · rw [if_pos h1, if_pos (show lnA D τ u b from Or.inl h1)]
    rw [if_neg h1]
    rcases n120 with ⟨t1, t2⟩ | ⟨t1, t2⟩
    · rw [if_pos (by omega), if_neg]
      rintro (z | z)
      · exact h1 z
      · exact z.1 t2
    · rw [if_neg (by omega), n118]
      by_cases h2 : τ < lnB D u b
      · rw [if_pos h2, if_neg]
        rintro (z | z) <;> omega
      · rw [if_neg h2, if_pos (show lnA D τ u b from Or.inr ⟨t2, by omega⟩)]
  rw [al, Option.bind_some]
  by_cases ha : lnA D τ u b
  · rw [if_pos ha, if_pos (by decide)]
    refine z_lt (z_bind (z_mono (t_classes L1 hs O b1 u0 (by omega) (agF F1') Tdp hv ha n119 n116 H1) (fun g2 hg2 => next g2 (F1'.trans (hg2.1.mono (fun q j z => Or.inl z))) hg2.2)))
  · rw [if_neg ha, if_neg (fun z => z rfl)]
    refine next g1 F1' (fun c c0 c3 => (H1 c c0 c3).kept (fun _ _ _ => rfl) (fun x y => ?_))
    unfold upT
    constructor
    · rintro ⟨z1, z2⟩
      refine ⟨z1, ?_⟩
      by_cases hx : x = u
      · rw [hx] at z1; exact absurd z1.2.2.1 ha
      · omega
    · rintro ⟨z1, z2⟩
      exact ⟨z1, by omega⟩
def tyW (s : Int) : Int → Int → Prop := fun q j => (s + 136 ≤ q ∧ q ≤ s + 139 ∧ 0 ≤ j) ∨ mfW s q j
theorem tyW_l {h h' : Hp} {s : Int} (hL : LAY h) (hs : s ∈ in_aX25) (f : F2 (tyW s) h h') : LAY h' :=
  lay_W hL f _ _ (rgS hs) (rgM hs) (fun q j z => by
    have hs' : 671 ≤ s ∧ s ≤ 825 := by have := aX25 hs; omega
    rcases z with z | z
    · exact ⟨by omega, Or.inl ⟨_, List.mem_cons_self, by dsimp only; omega, by dsimp only; omega⟩⟩
    · unfold mfW at z
      refine ⟨by omega, Or.inr ⟨_, List.mem_cons_self, z.1, ?_⟩⟩
      have : j = 112 ∨ j = 113 ∨ j = 114 ∨ j = 115 ∨ j = 116 ∨ j = 117 ∨ j = 118 ∨ j = 119 ∨ j = 120 := by omega
      rcases this with rfl | rfl | rfl | rfl | rfl | rfl | rfl | rfl | rfl <;> (dsimp only; decide))
theorem t_tryAll {D h : Hp} {s p β τ : Int} (hL : LAY h) (hs : s ∈ in_aX25) (U : lnU h s p β D) (O : lnO D) :
    Pz (m_X25_tryAll s p τ h) (fun r => F2 (tyW s) h r.2 ∧ (∀ b, 1 ≤ b → b ≤ D 6 0 → tbT D r.2 s τ b) ∧ is01 r.1 (∃ c, 0 ≤ c ∧ c ≤ 3 ∧ tR r.2 s (D 6 0) c)) := by
  have hs' : 671 ≤ s ∧ s ≤ 825 := by have := aX25 hs; omega
  have m6 := O.1
  obtain ⟨p0, p1, -, -⟩ := U.1.2.1
  have keep : ∀ {g}, F2 (tyW s) h g → LAY g ∧ lnU g s p β D := fun {g} Fg => ⟨tyW_l hL hs Fg, U.kept (fun b x0 x1 x2 => Fg.row (fun j z => by unfold tyW mfW at z; omega))⟩
  unfold m_X25_tryAll
  have c15 := g_X25_15 hL hs
  simp only [c15, U.1.1.1]
  refine z_gd ⟨by decide, p0, by omega⟩ (z_lt (z_lt (z_bind (z_mono (z_lp (Q := fun g => F2 (tyW s) h g ∧ ∀ j, 0 ≤ j → j < 4 * D 6 0 + 4 → g (s + 137) j = 0) (fun (q : Int × Hp) => 0 ≤ q.1 ∧ q.1 ≤ 4 * D 6 0 + 4 ∧ F2 (tyW s) h q.2 ∧ ∀ j, 0 ≤ j → j < q.1 → q.2 (s + 137) j = 0) (fun q => (4 * D 6 0 + 4 - q.1).toNat) ⟨Int.le_refl _, by dsimp only; omega, F2.refl, fun j j0 j1 => by dsimp only at j1; omega⟩ ?_) (fun g1 hg1 => ?_)))))
  · rintro ⟨x, g⟩ ⟨x0, x1, Fg, G⟩
    dsimp only at x0 x1 G
    replace Fg : F2 (tyW s) h g := Fg
    have c109 := g_X25_109 (keep Fg).1 hs
    show Pz (m_X25_tryAll_l10 s (D 6 0) x g) _
    unfold m_X25_tryAll_l10
    rw [e32 (x := D 6 0 + 1) (by omega) (by omega), e32 (x := 4 * (D 6 0 + 1)) (by omega) (by omega)]
    by_cases hx : 4 * (D 6 0 + 1) ≤ x
    · rw [if_pos hx]
      exact z_some ⟨Fg, fun j j0 j1 => G j j0 (by omega)⟩
    rw [if_neg hx]
    simp only [c109]
    refine z_gd ⟨by decide, x0, by omega⟩ (z_pt (z_lt ?_))
    rw [e32 (x := x + 1) (by omega) (by omega)]
    refine z_some ⟨⟨show 0 ≤ x + 1 by omega, show x + 1 ≤ 4 * D 6 0 + 4 by omega, Fg.put (Or.inl ⟨by omega, by omega, x0⟩), fun j j0 j1 => ?_⟩, by dsimp only; omega⟩
    dsimp only at j1 ⊢
    by_cases hj : j = x
    · rw [hj, up_s]
    · rw [up_j hj]; exact G j j0 (by omega)
  obtain ⟨F1, Z1⟩ := hg1
  refine z_lt (z_bind (z_mono (z_lp (Q := fun g => F2 (tyW s) h g ∧ ∀ b, 1 ≤ b → b ≤ D 6 0 → tbT D g s τ b) (fun (q : Int × Hp) => 1 ≤ q.1 ∧ q.1 ≤ D 6 0 + 1 ∧ F2 (tyW s) h q.2 ∧ (∀ b, 1 ≤ b → b < q.1 → tbT D q.2 s τ b) ∧ ∀ j, 4 * q.1 ≤ j → j < 4 * D 6 0 + 4 → q.2 (s + 137) j = 0) (fun q => (D 6 0 + 1 - q.1).toNat) ⟨Int.le_refl _, by dsimp only; omega, F1, fun b b0 b1 => by dsimp only at b1; omega, fun j j0 j1 => Z1 j (by dsimp only at j0; omega) j1⟩ ?_) (fun g2 hg2 => ?_)))
  · rintro ⟨b, g⟩ ⟨b0, b1, Fg, G, G0⟩
    dsimp only at b0 b1 G G0
    replace Fg : F2 (tyW s) h g := Fg
    obtain ⟨Lg, Ug⟩ := keep Fg
    show Pz (m_X25_tryAll_l37 s p τ (D 6 0) b g) _
    unfold m_X25_tryAll_l37
    by_cases hb : D 6 0 < b
    · rw [if_pos hb]
      exact z_some ⟨Fg, fun x x0 x1 => G x x0 (by omega)⟩
    rw [if_neg hb]
    refine z_lt (z_bind (z_mono (t_trow Lg hs Ug O b0 (by omega) G (fun c c0 c3 => G0 (4 * b + c) (by omega) (by omega))) (fun g' hg' => z_lt ?_)))
    rw [e32 (x := b + 1) (by omega) (by omega)]
    refine z_some ⟨⟨show 1 ≤ b + 1 by omega, show b + 1 ≤ D 6 0 + 1 by omega, Fg.trans (hg'.1.mono (fun q j z => z.imp (fun z => ⟨z.1, z.2.1, by omega⟩) id)), fun x x0 x1 => ?_, fun j j0 j1 => ?_⟩, by dsimp only; omega⟩
    · dsimp only at x1 ⊢
      by_cases hx : x = b
      · rw [hx]; exact hg'.2
      · exact (G x x0 (by omega)).kept x0 (fun j j0 j1 k k0 k1 => hg'.1 _ _ (fun z => by unfold rwT mfW at z; omega))
    · dsimp only at j0 ⊢
      rw [hg'.1 _ _ (fun z => by unfold rwT mfW at z; omega)]
      exact G0 j (by omega) j1
  obtain ⟨F2', T2⟩ := hg2
  have c109 := g_X25_109 (keep F2').1 hs
  refine z_lt (z_bind (z_mono (z_lp (Q := fun (r : Int × Hp) => r.2 = g2 ∧ is01 r.1 (∃ c, 0 ≤ c ∧ c ≤ 3 ∧ tR g2 s (D 6 0) c)) (fun (c : Int) => 0 ≤ c ∧ c ≤ 4 ∧ ∀ c', 0 ≤ c' → c' < c → ¬ tR g2 s (D 6 0) c') (fun c => (4 - c).toNat) ⟨Int.le_refl _, by decide, fun c' z0 z1 => by omega⟩ ?_) (fun r hr => z_some ⟨by rw [hr.1]; exact F2', by rw [hr.1]; exact T2, by rw [hr.1]; exact hr.2⟩)))
  rintro c ⟨c0, c1, N⟩
  show Pz (m_X25_tryAll_l337 s (D 6 0) c g2) _
  unfold m_X25_tryAll_l337
  by_cases hc : 4 ≤ c
  · rw [if_pos hc]
    exact z_some ⟨rfl, Or.inr ⟨rfl, fun ⟨c', z0, z1, z2⟩ => N c' z0 (by omega) z2⟩⟩
  rw [if_neg hc]
  simp only [c109]
  rw [e32 (x := 4 * D 6 0) (by omega) (by omega), e32 (x := 4 * D 6 0 + c) (by omega) (by omega)]
  refine z_gd ⟨by decide, by omega, by omega⟩ ?_
  by_cases hr : g2 (s + 137) (4 * D 6 0 + c) = 0
  · rw [if_pos hr]
    refine z_lt ?_
    rw [e32 (x := c + 1) (by omega) (by omega)]
    refine z_some ⟨⟨by omega, by omega, fun c' z0 z1 => ?_⟩, by omega⟩
    by_cases h' : c' = c
    · rw [h']; exact fun z => z hr
    · exact N c' z0 (by omega)
  · rw [if_neg hr]
    exact z_some ⟨rfl, Or.inl ⟨rfl, c, c0, by omega, hr⟩⟩
