-- needs: 99zzx
set_option maxRecDepth 100000
/-! HYPHENS: the places of a word: the component, all of it -/
def is01 (v : Int) (P : Prop) : Prop := (v = 1 ∧ P) ∨ (v = 0 ∧ ¬ P)
/-- what a word tells, before the ends are looked at -/
def hyK (T : Hp) (np : Int) (sg : Int → List Int) (dt : Int → Int → Int) (q : Int → Int) (n k : Int) : Prop :=
  ((∃ e, 0 ≤ e ∧ e < T 0 3 ∧ exM T q n e ∧ (∀ e', 0 ≤ e' → e' < e → ¬ exM T q n e') ∧ T 6 (31 * e + k) = 1) ∨ ((∀ e, 0 ≤ e → e < T 0 3 → ¬ exM T q n e) ∧ ∃ M, gdM (ocX np sg q n n 0) sg dt k M ∧ M % 2 = 1))
theorem plW_l {h h' : Hp} {a o n : Int} (hL : LAY h) (ha : a ∈ in_aX9) (f : F2 (plW a 258 o n) h h') (o0 : 0 ≤ o) : LAY h' := by
  have h9 := aX9 ha
  refine lay_W hL f [(a + 13, a + 13), (258, 258)] [] ?_ rfl (fun b j z => ?_)
  · rcases h9 with rfl | rfl <;> decide
  · rcases z with z | z
    · exact ⟨by omega, Or.inl ⟨_, List.mem_cons_self, by dsimp only; omega, by dsimp only; omega⟩⟩
    · exact ⟨by omega, Or.inl ⟨_, List.mem_cons_of_mem _ List.mem_cons_self, by dsimp only; omega, by dsimp only; omega⟩⟩
theorem exS_M {T h : Hp} {a np n r f : Int} {sg : Int → List Int} {dt : Int → Int → Int} {q : Int → Int} {e : Int} (C : hyC T h a np sg dt) (W : wdQ h r f n q) (e0 : 0 ≤ e) (e1 : e < T 0 3) : exS h a r f n e n ↔ exM T q n e := by
  obtain ⟨-, -, ⟨-, -, -, x⟩, -⟩ := C
  obtain ⟨⟨x1, x2, x3⟩, x4⟩ := x e e0 e1
  unfold exS exM
  rw [x1]
  constructor
  · rintro ⟨y1, y2⟩
    exact ⟨y1, fun j j0 j1 => by rw [← (x4 j j0 (by omega)).1, y2 j j0 j1, (W j j0 j1).2.1]⟩
  · rintro ⟨y1, y2⟩
    exact ⟨y1, fun j j0 j1 => by rw [(x4 j j0 (by omega)).1, y2 j j0 j1, (W j j0 j1).2.1]⟩
theorem c_plEnd {T h : Hp} {a np n o : Int} {sg : Int → List Int} {dt : Int → Int → Int} {q : Int → Int} (ha : a ∈ in_aX9) (C : hyC T h a np sg dt) (n0 : 0 ≤ n) (n1 : n ≤ 24000) (kd : h 258 (-2) % 16 = 3) (ld : o + n ≤ h 258 (-1)) (o0 : 0 ≤ o) (on : o + n ≤ 30000)
    (z0 : 1 ≤ n → h 258 o = 0) (z1 : ∀ k, 1 ≤ k → k < n → is01 (h 258 (o + k)) (hyK T np sg dt q n k)) :
    Pz (m_X9_places_j106 o a n 258 h) (fun h' => F2 (fun b j => b = 258 ∧ o ≤ j ∧ j < o + n) h h' ∧ ∀ k, 0 ≤ k → k < n → is01 (h' 258 (o + k)) (hyP T np sg dt q n k)) := by
  have h9 := aX9 ha
  obtain ⟨-, -, -, c0, c1, c2, c3, c4, c5⟩ := C
  unfold m_X9_places_j106
  refine z_lt (z_bind (z_mono (z_lp (Q := fun h' => F2 (fun b j => b = 258 ∧ o ≤ j ∧ j < o + n) h h' ∧ ∀ k, 0 ≤ k → k < n → is01 (h' 258 (o + k)) (hyP T np sg dt q n k)) (fun (st : Int × Hp) => 0 ≤ st.1 ∧ st.1 ≤ n ∧ F2 (fun b j => b = 258 ∧ o ≤ j ∧ j < o + st.1) h st.2 ∧ ∀ k, 0 ≤ k → k < st.1 → is01 (st.2 258 (o + k)) (hyP T np sg dt q n k)) (fun st => (n - st.1).toNat) ⟨Int.le_refl _, n0, F2.refl, fun k k0 k1 => by dsimp only at k1; omega⟩ ?_) (fun r hr => z_some hr)))
  rintro ⟨x, g⟩ ⟨x0, x1, Fg, G⟩
  dsimp only at x0 x1 G
  replace Fg : F2 (fun b j => b = 258 ∧ o ≤ j ∧ j < o + x) h g := Fg
  show Pz (m_X9_places_l109 a n 258 o x g) _
  unfold m_X9_places_l109
  by_cases hx : n ≤ x
  · rw [if_pos hx]
    have : x = n := by omega
    subst this
    exact z_some ⟨Fg, G⟩
  have g0 : g a 0 = T 0 0 := by rw [Fg a 0 (fun z => by omega)]; exact c0
  have g1 : g a 1 = T 0 1 := by rw [Fg a 1 (fun z => by omega)]; exact c1
  have kd' : g 258 (-2) % 16 = 3 := by rw [Fg 258 (-2) (fun z => by omega)]; exact kd
  have ld' : o + n ≤ g 258 (-1) := by rw [Fg 258 (-1) (fun z => by omega)]; exact ld
  have gx : g 258 (o + x) = h 258 (o + x) := Fg 258 (o + x) (fun z => by omega)
  rw [if_neg hx, g0, g1, e32 (x := n - x) (by omega) (by omega)]
  have next : ∀ g', F2 (fun b j => b = 258 ∧ j = o + x) g g' → is01 (g' 258 (o + x)) (hyP T np sg dt q n x) → Pz (m_X9_places_j144 x g') (sE (fun (st : Int × Hp) => (0 ≤ st.1 ∧ st.1 ≤ n ∧ F2 (fun b j => b = 258 ∧ o ≤ j ∧ j < o + st.1) h st.2 ∧ ∀ k, 0 ≤ k → k < st.1 → is01 (st.2 258 (o + k)) (hyP T np sg dt q n k)) ∧ (n - st.1).toNat < (n - x).toNat) (fun h' => F2 (fun b j => b = 258 ∧ o ≤ j ∧ j < o + n) h h' ∧ ∀ k, 0 ≤ k → k < n → is01 (h' 258 (o + k)) (hyP T np sg dt q n k))) := by
    intro g' Fg' v
    unfold m_X9_places_j144
    refine z_lt ?_
    rw [e32 (x := x + 1) (by omega) (by omega)]
    refine z_some ⟨⟨show 0 ≤ x + 1 by omega, show x + 1 ≤ n by omega, fun b j nb => ?_, fun k k0 k1 => ?_⟩, by dsimp only; omega⟩
    · dsimp only at nb ⊢
      rw [Fg' b j (fun z => nb ⟨z.1, by omega, by omega⟩), Fg b j (fun z => nb ⟨z.1, z.2.1, by omega⟩)]
    · dsimp only at k1 ⊢
      by_cases hk : k = x
      · rw [hk]; exact v
      · rw [Fg' _ _ (fun z => by omega)]; exact G k k0 (by omega)
  have clr : ¬ hyP T np sg dt q n x → Pz (m_X9_places_j135 258 o x g) (sE (fun (st : Int × Hp) => (0 ≤ st.1 ∧ st.1 ≤ n ∧ F2 (fun b j => b = 258 ∧ o ≤ j ∧ j < o + st.1) h st.2 ∧ ∀ k, 0 ≤ k → k < st.1 → is01 (st.2 258 (o + k)) (hyP T np sg dt q n k)) ∧ (n - st.1).toNat < (n - x).toNat) (fun h' => F2 (fun b j => b = 258 ∧ o ≤ j ∧ j < o + n) h h' ∧ ∀ k, 0 ≤ k → k < n → is01 (h' 258 (o + k)) (hyP T np sg dt q n k))) := by
    intro hn
    unfold m_X9_places_j135
    rw [e32 (x := o + x) (by omega) (by omega)]
    refine z_gd ⟨kd', by omega, by omega⟩ (z_pt ?_)
    exact next _ (F2.refl.put ⟨rfl, rfl⟩) (Or.inr ⟨up_s _ _ _ _, hn⟩)
  by_cases b1 : x < T 0 0
  · rw [if_pos b1]
    exact clr (fun z => by have := z.2.2.1; omega)
  rw [if_neg b1]
  by_cases b2 : T 0 1 ≤ n - x
  · rw [if_pos b2]
    refine next g F2.refl ?_
    rw [gx]
    rcases z1 x (by omega) (by omega) with ⟨v1, v2⟩ | ⟨v1, v2⟩
    · exact Or.inl ⟨v1, by omega, by omega, by omega, b2, v2⟩
    · exact Or.inr ⟨v1, fun z => v2 z.2.2.2.2⟩
  · rw [if_neg b2]
    exact clr (fun z => b2 z.2.2.2.1)
theorem c_places {T h : Hp} {a np n r f o : Int} {sg : Int → List Int} {dt : Int → Int → Int} {q : Int → Int} (hL : LAY h) (ha : a ∈ in_aX9) (C : hyC T h a np sg dt) (n0 : 1 ≤ n) (n1 : n ≤ 24000)
    (kr : h r (-2) % 16 = 2) (lr : f + n ≤ h r (-1)) (lr2 : h r (-1) ≤ 30000) (f0 : 0 ≤ f) (hr : ¬ (a ≤ r ∧ r ≤ a + 13)) (hr2 : r ≠ 258) (W : wdQ h r f n q) (o0 : 0 ≤ o) (on : o + n ≤ 24001) :
    Pz (m_X9_places a r f n 258 o h) (fun h' => F2 (plW a 258 o n) h h' ∧ ∀ k, 0 ≤ k → k < n → is01 (h' 258 (o + k)) (hyP T np sg dt q n k)) := by
  have h9 := aX9 ha
  have kp := g_X11_0 hL
  have kd : h 258 (-2) % 16 = 3 := by rw [kp.2.1]; decide
  have ld : h 258 (-1) = 24001 := kp.2.2
  unfold m_X9_places
  refine z_bind (z_mono (z_zero (d := 258) (n := o + n) (by omega) (fun x g x0 x1 Fg => ?_) (fun g => ?_)) (fun h1 hh1 => ?_))
  · show m_X9_places_l4 n 258 o x g = _
    unfold m_X9_places_l4
    rw [e32 (x := o + n) (by omega) (by omega), if_neg (by omega), gd_t ⟨by rw [Fg 258 (-2) (fun z => by omega)]; exact kd, by omega, by rw [Fg 258 (-1) (fun z => by omega)]; omega⟩, pt_e, lt_e, e32 (by omega) (by omega)]
  · show m_X9_places_l4 n 258 o (o + n) g = _
    unfold m_X9_places_l4
    rw [e32 (x := o + n) (by omega) (by omega), if_pos (by omega)]
  obtain ⟨F1, Z1⟩ := hh1
  have G1 : F2 (plW a 258 o n) h h1 := F1.mono (fun b j z => Or.inr z)
  have L1 := plW_l hL ha G1 o0
  have row1 : ∀ b, b ≠ 258 → h1 b = h b := fun b hb => F1.row (fun j z => hb z.1)
  have C1 := C.kept (h' := h1) (fun b b0 b1 => row1 b (by omega)) (fun j => by rw [row1 a (by omega)])
  have W1 : wdQ h1 r f n q := by unfold wdQ; rw [row1 r hr2]; exact W
  -- the end
  have fin : ∀ g, F2 (plW a 258 o n) h1 g → (g 258 o = 0) → (∀ k, 1 ≤ k → k < n → is01 (g 258 (o + k)) (hyK T np sg dt q n k)) → Pz (m_X9_places_j106 o a n 258 g) (fun h' => F2 (plW a 258 o n) h h' ∧ ∀ k, 0 ≤ k → k < n → is01 (h' 258 (o + k)) (hyP T np sg dt q n k)) := by
    intro g Fg e0 e1
    have Cg := C1.kept (h' := g) (fun b b0 b1 => Fg.row (fun j z => by unfold plW at z; omega)) (fun j => Fg a j (fun z => by unfold plW at z; omega))
    have kpg := g_X11_0 (plW_l L1 ha Fg o0)
    refine z_mono (c_plEnd ha Cg (by omega) n1 (by rw [kpg.2.1]; decide) (by rw [kpg.2.2]; omega) o0 (by omega) (fun _ => e0) e1) (fun h' hh => ⟨(G1.trans Fg).trans (hh.1.mono (fun b j z => Or.inr z)), hh.2⟩)
  obtain ⟨cH, clen, ⟨x0, x1, x2, x3⟩, -⟩ := id C1
  -- by patterns
  have pat : (∀ e, 0 ≤ e → e < T 0 3 → ¬ exM T q n e) → Pz (m_X9_places_j42 a r f n 258 o (-1) h1) (fun h' => F2 (plW a 258 o n) h h' ∧ ∀ k, 0 ≤ k → k < n → is01 (h' 258 (o + k)) (hyP T np sg dt q n k)) := by
    intro no
    unfold m_X9_places_j42
    rw [if_pos (by decide), cH.1]
    by_cases hp : np ≤ 0
    · rw [if_pos hp]
      refine fin h1 F2.refl (Z1 o (by omega) (by omega)) (fun k k0 k1 => Or.inr ⟨Z1 _ (by omega) (by omega), ?_⟩)
      rintro (⟨e, e0, e1, e2, -⟩ | ⟨-, M, ⟨-, -, -, m4⟩, m⟩)
      · exact no e e0 e1 e2
      · rcases m4 with m4 | ⟨p, i, ⟨p0, p1, -⟩, -⟩ <;> omega
    · rw [if_neg hp]
      have kp1 := g_X11_0 L1
      refine z_bind (z_mono (c_byPat L1 ha cH clen (by omega) n1 (by rw [row1 r hr2]; exact kr) (by rw [row1 r hr2]; exact lr) f0 (by omega) hr W1 (by rw [kp1.2.1]; decide) (by rw [kp1.2.2]; omega) o0 (by omega) (by omega)) (fun g hg => ?_))
      obtain ⟨g1, g2, g3⟩ := hg
      refine fin g g1 (by rw [g2 n0]; exact Z1 o (by omega) (by omega)) (fun k k0 k1 => ?_)
      obtain ⟨M, m1, m2⟩ := g3 k k0 k1
      by_cases hm : M % 2 = 1
      · rw [if_pos hm] at m2
        exact Or.inl ⟨m2, Or.inr ⟨no, M, m1, hm⟩⟩
      · rw [if_neg hm] at m2
        refine Or.inr ⟨m2, ?_⟩
        rintro (⟨e, e0, e1, e2, -⟩ | ⟨-, M', m3, m4⟩)
        · exact no e e0 e1 e2
        · rw [m1.uniq m3] at hm; exact hm m4
  by_cases hn : 30 < n
  · rw [if_pos hn]
    exact pat (fun e e0 e1 z => by have := (x3 e e0 e1).1; have := z.1; omega)
  · rw [if_neg hn]
    refine z_bind (z_mono (c_exOf L1 ha (by rw [row1 r hr2]; exact kr) f0 (by omega) (by rw [row1 r hr2]; exact lr) (by rw [row1 r hr2]; omega) (fun j j0 j1 => by have := (W1 j j0 j1).1; omega) (by omega) (by omega) (fun e e0 e1 => by have := (x3 e e0 (by omega)).1; omega)) (fun e he => ?_))
    rcases he with ⟨rfl, he⟩ | ⟨e0, e1, e2, e3⟩
    · exact pat (fun e e0 e1 z => he e e0 (by omega) ((exS_M C1 W1 e0 e1).mpr z))
    · rw [x0] at e1
      have em := (exS_M C1 W1 e0 e1).mp e2
      have ef : ∀ e', 0 ≤ e' → e' < e → ¬ exM T q n e' := fun e' y0 y1 z => e3 e' y0 y1 ((exS_M C1 W1 y0 (by omega)).mpr z)
      obtain ⟨-, y⟩ := x3 e e0 e1
      have en := em.1
      unfold m_X9_places_j42
      rw [if_neg (by omega)]
      refine z_lt (z_bind (z_mono (z_lp (Q := fun g => F2 (fun b j => b = 258 ∧ o + 1 ≤ j ∧ j < o + n) h1 g ∧ ∀ k, 1 ≤ k → k < n → g 258 (o + k) = T 6 (31 * e + k)) (fun (st : Int × Hp) => 1 ≤ st.1 ∧ st.1 ≤ n ∧ F2 (fun b j => b = 258 ∧ o + 1 ≤ j ∧ j < o + n) h1 st.2 ∧ ∀ k, 1 ≤ k → k < st.1 → st.2 258 (o + k) = T 6 (31 * e + k)) (fun st => (n - st.1).toNat) ⟨Int.le_refl _, n0, F2.refl, fun k k0 k1 => by dsimp only at k1; omega⟩ ?_) (fun g hg => ?_)))
      · rintro ⟨x, g⟩ ⟨v0, v1, Fg, G⟩
        dsimp only at v0 v1 G
        replace Fg : F2 (fun b j => b = 258 ∧ o + 1 ≤ j ∧ j < o + n) h1 g := Fg
        show Pz (m_X9_places_l52 a n 258 o e x g) _
        unfold m_X9_places_l52
        by_cases hx : n ≤ x
        · rw [if_pos hx]
          have : x = n := by omega
          subst this
          exact z_some ⟨Fg, G⟩
        have Lg := plW_l L1 ha (Fg.mono (fun b j z => Or.inr ⟨z.1, by omega, z.2.2⟩)) o0
        obtain ⟨-, -, -, -, -, -, -, -, k8, -⟩ := ly_X9 Lg ha
        have kpg := g_X11_0 Lg
        have r8 : g (a + 8) = h1 (a + 8) := Fg.row (fun j z => by omega)
        simp only [k8, r8, kpg.2.1, kpg.2.2]
        rw [if_neg hx, e32 (x := 31 * e) (by omega) (by omega), e32 (x := 31 * e + x) (by omega) (by omega), e32 (x := o + x) (by omega) (by omega)]
        refine z_gd ⟨by decide, by omega, by omega⟩ (z_gd ⟨by decide, by omega, by omega⟩ (z_pt (z_lt ?_)))
        rw [e32 (x := x + 1) (by omega) (by omega), (y x (by omega) (by omega)).2.1]
        refine z_some ⟨⟨show 1 ≤ x + 1 by omega, show x + 1 ≤ n by omega, Fg.put ⟨rfl, by omega, by omega⟩, fun k k0 k1 => ?_⟩, by dsimp only; omega⟩
        dsimp only at k1 ⊢
        by_cases hk : k = x
        · rw [hk, up_s]
        · rw [up_j (by omega)]; exact G k k0 (by omega)
      · obtain ⟨g1, g2⟩ := hg
        refine fin g (g1.mono (fun b j z => Or.inr ⟨z.1, by omega, z.2.2⟩)) (by rw [g1 258 o (fun z => by omega)]; exact Z1 o (by omega) (by omega)) (fun k k0 k1 => ?_)
        rw [g2 k k0 k1]
        rcases (y k (by omega) (by omega)).2.2 with z | z
        · refine Or.inr ⟨z, ?_⟩
          rintro (⟨e', e0', e1', e2', e3', e4'⟩ | ⟨z', -⟩)
          · have : e' = e := by
              rcases Int.lt_trichotomy e' e with w | w | w
              · exact absurd e2' (ef e' e0' w)
              · exact w
              · exact absurd em (e3' e e0 w)
            rw [this] at e4'; omega
          · exact z' e e0 e1 em
        · exact Or.inl ⟨z, Or.inl ⟨e, e0, e1, em, ef, z⟩⟩
