-- needs: 99zzzw
set_option maxRecDepth 100000
/-! LINES: the component's search: rows, and all of it -/
def tbC (D h : Hp) (τ b : Int) : Prop := dpR D τ (cR h) (cB h) (cF h) (cG h) b ∧ ∀ c, 0 ≤ c → c ≤ 3 → cR h b c → h 260 (4 * b + c) = sgm (cF h b c) (cG h b c) ∧ 0 ≤ cB h b c ∧ cB h b c ≤ 50000000000 * b
theorem tbC.kept {D h h' : Hp} {τ b : Int} (b0 : 1 ≤ b) (T : tbC D h τ b) (e : ∀ j, 4 ≤ j → j ≤ 4 * b + 3 → h' 259 j = h 259 j ∧ h' 260 j = h 260 j) : tbC D h' τ b := by
  refine ⟨dpR_h b0 e T.1, fun c c0 c3 z => ?_⟩
  have k := e (4 * b + c) (by omega) (by omega)
  have t := T.2 c c0 c3
  unfold cR cB cF cG at *
  rw [k.2] at z
  rw [k.1, k.2]
  exact t z
theorem row_done {D h0 g : Hp} {τ b : Int} (O : lnO D) (b0 : 1 ≤ b) (b1 : b ≤ D 6 0) (ag : agR h0 g b) (T : ∀ b', 1 ≤ b' → b' < b → tbC D h0 τ b') (E : ∀ c, 0 ≤ c → c ≤ 3 → enC D h0 g b c (dnC D h0 τ b (-1) c)) : tbC D g τ b := by
  have rows : ∀ a c', 1 ≤ a → a < b → 0 ≤ c' → c' ≤ 3 → (cR h0 a c' ↔ cR g a c') ∧ cB h0 a c' = cB g a c' ∧ cF h0 a c' = cF g a c' := fun a c' a0 a1 y0 y1 => by
    have k := ag (4 * a + c') (by omega)
    unfold cR cB cF
    rw [k.1, k.2]
    exact ⟨Iff.rfl, rfl, rfl⟩
  have cc : ∀ c a c', cnd D τ (cR g) b c a c' ↔ dnC D h0 τ b (-1) c a c' := fun c a c' => by
    unfold dnC
    rw [cnd_congr (rc := cR h0) (rc' := cR g) (fun x y x0 x1 y0 y1 => (rows x y x0 x1 y0 y1).1)]
    exact ⟨fun z => ⟨z, by have := z.1; omega⟩, fun z => z.1⟩
  have cg : ∀ {c a c'}, dnC D h0 τ b (-1) c a c' → a ≠ 0 → cB g a c' = cB h0 a c' ∧ cF g a c' = cF h0 a c' := fun {c a c'} z ha => by
    rcases z.1.2.2.2.2 with ⟨p, -⟩ | ⟨p1, p2, p3, p4⟩
    · exact absurd p ha
    · have := rows a c' p1 z.1.2.1 p2 p3
      exact ⟨this.2.1.symm, this.2.2.symm⟩
  refine ⟨fun c c0 c3 => ?_, fun c c0 c3 hr => ?_⟩
  · obtain ⟨⟨E1, E2⟩, E3⟩ := E c c0 c3
    refine ⟨fun hr => ?_, fun hr a c' z => E2 hr a c' ((cc c a c').mp z)⟩
    obtain ⟨e1, e2, e3⟩ := E1 hr
    refine ⟨(cc c _ _).mpr e1, ?_, fun a c' z => ?_⟩
    · rw [e2]; exact (vlS_congr (fun ha => (cg e1 ha).1)).symm
    · have z' := (cc c a c').mp z
      exact (e3 a c' z').imp id (fun k => (klt_congr (cg e1) (cg z')).mpr k)
  · obtain ⟨⟨E1, E2⟩, E3⟩ := E c c0 c3
    obtain ⟨e1, e2, e3⟩ := E1 hr
    refine ⟨E3 hr, ?_⟩
    have n := e1.1
    have xr := lnX_r (c := cG g b c) O n.1 n.2.1 b1
    rw [e2]
    unfold vlS
    by_cases ha : cF g b c = 0
    · rw [if_pos ha]; omega
    · rw [if_neg ha]
      rcases n.2.2.2.2 with ⟨p, -⟩ | ⟨p1, p2, p3, p4⟩
      · exact absurd p ha
      · have := ((T _ p1 n.2.1).2 _ p2 p3 p4).2
        have := n.2.1
        omega
theorem c_srow {D h0 : Hp} {P R β τ b : Int} (hL : LAY h0) (C : lnH h0 P R β D) (O : lnO D) (b0 : 1 ≤ b) (b1 : b ≤ D 6 0) (eτ : h0 P 20 = τ) (T : ∀ b', 1 ≤ b' → b' < b → tbC D h0 τ b') (Z : ∀ c, 0 ≤ c → c ≤ 3 → h0 260 (4 * b + c) < 0) :
    Pz (lp (fun (q : Int × Int × Hp) => m_X28_search_l44 P 257 b q.1 q.2.1 q.2.2) (1, b - 1, h0)) (fun g => F2 (rwW b) h0 g ∧ tbC D g τ b) := by
  have m6 := O.1
  have hR : 293 ≤ R ∧ R ≤ 423 := by have := aX15 C.2.1.1; omega
  have hP := C.2.1.2.1
  have Tdp : ∀ b', 1 ≤ b' → b' < b → dpR D τ (cR h0) (cB h0) (cF h0) (cG h0) b' := fun b' x0 x1 => (T b' x0 x1).1
  have hv : ∀ a c, 1 ≤ a → a < b → 0 ≤ c → c ≤ 3 → cR h0 a c → 0 ≤ cB h0 a c ∧ cB h0 a c ≤ 50000000000 * a := fun a c a0 a1 c0 c3 z => ((T a a0 a1).2 c c0 c3 z).2
  refine z_mono (z_lp (Q := fun g => F2 (rwW b) h0 g ∧ ∀ c, 0 ≤ c → c ≤ 3 → enC D h0 g b c (dnC D h0 τ b (-1) c)) (fun (s : Int × Int × Hp) => -1 ≤ s.2.1 ∧ s.2.1 < b ∧ F2 (rwW b) h0 s.2.2 ∧ ((s.1 ≠ 0 ∧ ∀ c, 0 ≤ c → c ≤ 3 → enC D h0 s.2.2 b c (dnC D h0 τ b s.2.1 c)) ∨ (s.1 = 0 ∧ ∀ c, 0 ≤ c → c ≤ 3 → enC D h0 s.2.2 b c (dnC D h0 τ b (-1) c)))) (fun s => (s.2.1 + 1).toNat) ⟨show -1 ≤ b - 1 by omega, show b - 1 < b by omega, F2.refl, Or.inl ⟨show (1 : Int) ≠ 0 by decide, fun c c0 c3 => ?_⟩⟩ ?_) (fun g hg => ⟨hg.1, row_done O b0 b1 (fun j hj => ⟨hg.1 _ _ (fun z => by unfold rwW at z; omega), hg.1 _ _ (fun z => by unfold rwW at z; omega)⟩) T hg.2⟩)
  · have no : ¬ cR h0 b c := fun z => by have := Z c c0 c3; unfold cR at z; omega
    exact ⟨⟨fun z => absurd z no, fun _ x y z => by have := z.2; have := z.1.2.1; dsimp only at *; omega⟩, fun z => absurd z no⟩
  rintro ⟨go, a, g⟩ ⟨a0, a1, Fg, hg⟩
  dsimp only at a0 a1 hg
  replace Fg : F2 (rwW b) h0 g := Fg
  show Pz (m_X28_search_l44 P 257 b go a g) _
  unfold m_X28_search_l44
  by_cases ha : a < 0
  · rw [if_pos ha]
    have : a = -1 := by omega
    subst this
    exact z_some ⟨Fg, hg.elim (fun z => z.2) (fun z => z.2)⟩
  rw [if_neg ha]
  rcases hg with ⟨g0, G⟩ | ⟨g0, G⟩
  rotate_left
  · rw [if_pos g0]
    exact z_some ⟨Fg, G⟩
  rw [if_neg g0]
  have Lg := rwW_l hL (by omega) Fg
  have Cg := C.kept (h' := g) (fun j hj => Fg P j (fun z => by unfold rwW at z; omega)) (fun r r0 r1 => Fg.row (fun j z => by unfold rwW at z; omega))
  have τg : g P 20 = τ := by rw [Fg P 20 (fun z => by unfold rwW at z; omega)]; exact eτ
  have ag : agR h0 g b := fun j hj => ⟨Fg _ _ (fun z => by unfold rwW at z; omega), Fg _ _ (fun z => by unfold rwW at z; omega)⟩
  rw [q_ratio Lg Cg O (by omega) a1 b1, Option.bind_some]
  have bd := lnB_r O (show 0 ≤ a by omega) a1 b1
  -- the turn ends
  have next : ∀ go' g', F2 (rwW b) h0 g' → ((go' ≠ 0 ∧ ∀ c, 0 ≤ c → c ≤ 3 → enC D h0 g' b c (dnC D h0 τ b (a - 1) c)) ∨ (go' = 0 ∧ ∀ c, 0 ≤ c → c ≤ 3 → enC D h0 g' b c (dnC D h0 τ b (-1) c))) → Pz (m_X28_search_j106 a go' g') (sE (fun (s : Int × Int × Hp) => (-1 ≤ s.2.1 ∧ s.2.1 < b ∧ F2 (rwW b) h0 s.2.2 ∧ ((s.1 ≠ 0 ∧ ∀ c, 0 ≤ c → c ≤ 3 → enC D h0 s.2.2 b c (dnC D h0 τ b s.2.1 c)) ∨ (s.1 = 0 ∧ ∀ c, 0 ≤ c → c ≤ 3 → enC D h0 s.2.2 b c (dnC D h0 τ b (-1) c)))) ∧ (s.2.1 + 1).toNat < (a + 1).toNat) (fun g => F2 (rwW b) h0 g ∧ ∀ c, 0 ≤ c → c ≤ 3 → enC D h0 g b c (dnC D h0 τ b (-1) c))) := by
    intro go' g' F' G'
    unfold m_X28_search_j106
    refine z_lt ?_
    rw [show a + (-1) = a - 1 by omega, e32 (x := a - 1) (by omega) (by omega)]
    exact z_some ⟨⟨show -1 ≤ a - 1 by omega, show a - 1 < b by omega, F', G'⟩, by dsimp only; omega⟩
  -- no way from here down to A'
  have none_ : ∀ A', A' < a → (∀ x, A' < x → x ≤ a → ¬ lnA D τ x b) → ∀ c, 0 ≤ c → c ≤ 3 → enC D h0 g b c (dnC D h0 τ b A' c) := fun A' h1 h2 c c0 c3 => (G c c0 c3).kept rfl rfl (fun x y => by
    unfold dnC
    constructor
    · rintro ⟨z1, z2⟩
      refine ⟨z1, ?_⟩
      by_cases hx : a < x
      · exact hx
      · exact absurd z1.2.2.1 (h2 x z2 (by omega))
    · rintro ⟨z1, z2⟩
      exact ⟨z1, by omega⟩)
  have go84 : (lnT D a b → 10000 < τ) → Pz (m_X28_search_j84 (lnR D a b) a P 257 b go g) (sE (fun (s : Int × Int × Hp) => (-1 ≤ s.2.1 ∧ s.2.1 < b ∧ F2 (rwW b) h0 s.2.2 ∧ ((s.1 ≠ 0 ∧ ∀ c, 0 ≤ c → c ≤ 3 → enC D h0 s.2.2 b c (dnC D h0 τ b s.2.1 c)) ∨ (s.1 = 0 ∧ ∀ c, 0 ≤ c → c ≤ 3 → enC D h0 s.2.2 b c (dnC D h0 τ b (-1) c)))) ∧ (s.2.1 + 1).toNat < (a + 1).toNat) (fun g => F2 (rwW b) h0 g ∧ ∀ c, 0 ≤ c → c ≤ 3 → enC D h0 g b c (dnC D h0 τ b (-1) c))) := by
    intro ht
    unfold m_X28_search_j84
    rw [q_bad28 O (by omega) a1 b1, Option.bind_some, τg]
    by_cases hb : τ < lnB D a b
    · rw [if_pos hb]
      refine next go g Fg (Or.inl ⟨g0, none_ (a - 1) (by omega) (fun x x0 x1 z => ?_)⟩)
      have : x = a := by omega
      subst this
      rcases z with z | z <;> omega
    · rw [if_neg hb]
      have al : lnA D τ a b := by
        by_cases t : lnT D a b
        · exact Or.inl (ht t)
        · exact Or.inr ⟨t, by omega⟩
      exact z_bind (z_mono (c_reach Lg Cg O b1 (by omega) a1 ag Tdp hv al G) (fun g' hg' => next go g' (Fg.trans hg'.1) (Or.inl ⟨g0, hg'.2⟩)))
  by_cases ht : lnT D a b
  · rw [if_neg (fun z => z ((lnR_T O (by omega) a1 b1).mpr ht)), τg]
    by_cases hτ : 10000 < τ
    · rw [if_pos hτ]
      exact go84 (fun _ => hτ)
    · rw [if_neg hτ]
      refine z_lt (next 0 g Fg (Or.inr ⟨rfl, none_ (-1) (by omega) (fun x x0 x1 z => ?_)⟩))
      rcases z with z | z
      · exact hτ z
      · exact z.1 (lnT_mono O (by omega) x1 a1 b1 ht)
  · rw [if_pos (fun z => ht ((lnR_T O (by omega) a1 b1).mp z))]
    exact go84 (fun z => absurd z ht)
/-- all of the search -/
theorem c_search {D h : Hp} {P R β τ : Int} (hL : LAY h) (C : lnH h P R β D) (O : lnO D) (eτ : h P 20 = τ) :
    Pz (m_X28_search P 257 h) (fun r => F2 (fun q j => (q = 259 ∨ q = 260) ∧ 0 ≤ j ∧ j < 2404) h r.2 ∧ (∀ b, 1 ≤ b → b ≤ D 6 0 → tbC D r.2 τ b) ∧ is01 r.1 (∃ c, 0 ≤ c ∧ c ≤ 3 ∧ cR r.2 (D 6 0) c)) := by
  have m6 := O.1
  have hR : 293 ≤ R ∧ R ≤ 423 := by have := aX15 C.2.1.1; omega
  have hP := C.2.1.2.1
  have keep : ∀ {g}, F2 (fun q j => (q = 259 ∨ q = 260) ∧ 0 ≤ j ∧ j < 2404) h g → LAY g ∧ lnH g P R β D ∧ g P 20 = τ ∧ g P 16 = D 6 0 := fun {g} Fg => ⟨lay_W hL Fg _ [] rg59 rfl (fun q j z => ⟨z.2.1, Or.inl ⟨_, List.mem_cons_self, by dsimp only; omega, by dsimp only; omega⟩⟩), C.kept (fun j hj => Fg P j (fun z => by omega)) (fun r r0 r1 => Fg.row (fun j z => by omega)), by rw [Fg P 20 (fun z => by omega)]; exact eτ, by rw [Fg P 16 (fun z => by omega)]; exact C.1.2.2.2.2.2.2⟩
  unfold m_X28_search
  refine z_lt (z_bind (z_mono (z_lp (Q := fun g => F2 (fun q j => (q = 259 ∨ q = 260) ∧ 0 ≤ j ∧ j < 2404) h g ∧ ∀ j, 0 ≤ j → j < 4 * D 6 0 + 4 → g 260 j = -1) (fun (s : Int × Hp) => 0 ≤ s.1 ∧ s.1 ≤ 4 * D 6 0 + 4 ∧ F2 (fun q j => (q = 259 ∨ q = 260) ∧ 0 ≤ j ∧ j < 2404) h s.2 ∧ ∀ j, 0 ≤ j → j < s.1 → s.2 260 j = -1) (fun s => (4 * D 6 0 + 4 - s.1).toNat) ⟨Int.le_refl _, by dsimp only; omega, F2.refl, fun j j0 j1 => by dsimp only at j1; omega⟩ ?_) (fun g1 hg1 => ?_)))
  · rintro ⟨x, g⟩ ⟨x0, x1, Fg, G⟩
    dsimp only at x0 x1 G
    replace Fg : F2 (fun q j => (q = 259 ∨ q = 260) ∧ 0 ≤ j ∧ j < 2404) h g := Fg
    obtain ⟨Lg, -, -, g16⟩ := keep Fg
    obtain ⟨k0, -, -, ⟨k7, k8, k9⟩⟩ := ly_X11 Lg
    show Pz (m_X28_search_l2 P 257 x g) _
    unfold m_X28_search_l2
    rw [g16, e32 (x := 4 * D 6 0) (by omega) (by omega), e32 (x := 4 * D 6 0 + 4) (by omega) (by omega)]
    by_cases hx : 4 * D 6 0 + 4 ≤ x
    · rw [if_pos hx]
      exact z_some ⟨Fg, fun j j0 j1 => G j j0 (by omega)⟩
    rw [if_neg hx, k0, k7]
    refine z_gd rfl (z_gd ⟨by rw [k8]; decide, x0, by rw [k9]; omega⟩ (z_pt (z_lt ?_)))
    rw [e32 (x := x + 1) (by omega) (by omega)]
    refine z_some ⟨⟨show 0 ≤ x + 1 by omega, show x + 1 ≤ 4 * D 6 0 + 4 by omega, Fg.put ⟨Or.inr rfl, x0, by omega⟩, fun j j0 j1 => ?_⟩, by dsimp only; omega⟩
    dsimp only at j1 ⊢
    by_cases hj : j = x
    · rw [hj, up_s]
    · rw [up_j hj]; exact G j j0 (by omega)
  obtain ⟨F1, Z1⟩ := hg1
  refine z_lt (z_bind (z_mono (z_lp (Q := fun g => F2 (fun q j => (q = 259 ∨ q = 260) ∧ 0 ≤ j ∧ j < 2404) h g ∧ ∀ b, 1 ≤ b → b ≤ D 6 0 → tbC D g τ b) (fun (s : Int × Hp) => 1 ≤ s.1 ∧ s.1 ≤ D 6 0 + 1 ∧ F2 (fun q j => (q = 259 ∨ q = 260) ∧ 0 ≤ j ∧ j < 2404) h s.2 ∧ (∀ b, 1 ≤ b → b < s.1 → tbC D s.2 τ b) ∧ ∀ j, 4 * s.1 ≤ j → j < 4 * D 6 0 + 4 → s.2 260 j = -1) (fun s => (D 6 0 + 1 - s.1).toNat) ⟨Int.le_refl _, by dsimp only; omega, F1, fun b b0 b1 => by dsimp only at b1; omega, fun j j0 j1 => Z1 j (by dsimp only at j0; omega) j1⟩ ?_) (fun g2 hg2 => ?_)))
  · rintro ⟨b, g⟩ ⟨b0, b1, Fg, G, G0⟩
    dsimp only at b0 b1 G G0
    replace Fg : F2 (fun q j => (q = 259 ∨ q = 260) ∧ 0 ≤ j ∧ j < 2404) h g := Fg
    obtain ⟨Lg, Cg, τg, g16⟩ := keep Fg
    show Pz (m_X28_search_l29 P 257 b g) _
    unfold m_X28_search_l29
    rw [g16]
    by_cases hb : D 6 0 < b
    · rw [if_pos hb]
      exact z_some ⟨Fg, fun x x0 x1 => G x x0 (by omega)⟩
    rw [if_neg hb]
    refine z_lt (z_lt ?_)
    rw [e32 (x := b - 1) (by omega) (by omega)]
    refine z_bind (z_mono (c_srow Lg Cg O b0 (by omega) τg G (fun c c0 c3 => by rw [G0 (4 * b + c) (by omega) (by omega)]; decide)) (fun g' hg' => z_lt ?_))
    rw [e32 (x := b + 1) (by omega) (by omega)]
    refine z_some ⟨⟨show 1 ≤ b + 1 by omega, show b + 1 ≤ D 6 0 + 1 by omega, Fg.trans (hg'.1.mono (fun q j z => by unfold rwW at z; omega)), fun x x0 x1 => ?_, fun j j0 j1 => ?_⟩, by dsimp only; omega⟩
    · dsimp only at x1 ⊢
      by_cases hx : x = b
      · rw [hx]; exact hg'.2
      · exact (G x x0 (by omega)).kept x0 (fun j j0 j1 => ⟨hg'.1 _ _ (fun z => by unfold rwW at z; omega), hg'.1 _ _ (fun z => by unfold rwW at z; omega)⟩)
    · dsimp only at j0 ⊢
      rw [hg'.1 _ _ (fun z => by unfold rwW at z; omega)]
      exact G0 j (by omega) j1
  obtain ⟨F2', T2⟩ := hg2
  obtain ⟨L2, -, -, g16⟩ := keep F2'
  obtain ⟨k0, -, -, ⟨k7, k8, k9⟩⟩ := ly_X11 L2
  refine z_lt (z_bind (z_mono (z_lp (Q := fun (r : Int × Hp) => r.2 = g2 ∧ is01 r.1 (∃ c, 0 ≤ c ∧ c ≤ 3 ∧ cR g2 (D 6 0) c)) (fun (c : Int) => 0 ≤ c ∧ c ≤ 4 ∧ ∀ c', 0 ≤ c' → c' < c → ¬ cR g2 (D 6 0) c') (fun c => (4 - c).toNat) ⟨Int.le_refl _, by decide, fun c' z0 z1 => by omega⟩ ?_) (fun r hr => z_some ⟨by rw [hr.1]; exact F2', by rw [hr.1]; exact T2, by rw [hr.1]; exact hr.2⟩)))
  rintro c ⟨c0, c1, N⟩
  show Pz (m_X28_search_l120 P 257 c g2) _
  unfold m_X28_search_l120
  by_cases hc : 4 ≤ c
  · rw [if_pos hc]
    exact z_some ⟨rfl, Or.inr ⟨rfl, fun ⟨c', z0, z1, z2⟩ => N c' z0 (by omega) z2⟩⟩
  rw [if_neg hc, k0, k7, g16, e32 (x := 4 * D 6 0) (by omega) (by omega), e32 (x := 4 * D 6 0 + c) (by omega) (by omega)]
  refine z_gd rfl (z_gd ⟨by rw [k8]; decide, by omega, by rw [k9]; omega⟩ ?_)
  by_cases hr : g2 260 (4 * D 6 0 + c) < 0
  · rw [if_pos hr]
    refine z_lt ?_
    rw [e32 (x := c + 1) (by omega) (by omega)]
    refine z_some ⟨⟨by omega, by omega, fun c' z0 z1 => ?_⟩, by omega⟩
    by_cases h' : c' = c
    · rw [h']; unfold cR; omega
    · exact N c' z0 (by omega)
  · rw [if_neg hr]
    exact z_some ⟨rfl, Or.inl ⟨rfl, c, c0, by omega, by unfold cR; omega⟩⟩
