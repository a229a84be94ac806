-- needs: 99zzzt
set_option maxRecDepth 100000
/-! LINES: the component's table -/
theorem lp_in {σ ρ : Type} {f : σ → Option (σ ⊕ ρ)} {s t : σ} (h : f s = some (.inl t)) : lp f s = lp f t := by rw [lp_eq, h]
theorem lp_out {σ ρ : Type} {f : σ → Option (σ ⊕ ρ)} {s : σ} {r : ρ} (h : f s = some (.inr r)) : lp f s = some r := by rw [lp_eq, h]
def cR (h : Hp) (b c : Int) : Prop := 0 ≤ h 260 (4 * b + c)
def cB (h : Hp) (b c : Int) : Int := h 259 (4 * b + c)
def cF (h : Hp) (b c : Int) : Int := h 260 (4 * b + c) / 4
def cG (h : Hp) (b c : Int) : Int := if h 260 (4 * b + c) < 4 then 1 else h 260 (4 * b + c) % 4
/-- how a way is written -/
def sgm (a c : Int) : Int := if a = 0 then 0 else 4 * a + c
theorem sgm_r {a c : Int} (a0 : 0 ≤ a) (c0 : 0 ≤ c) (c3 : c ≤ 3) (h : a = 0 → c = 1) : 0 ≤ sgm a c ∧ sgm a c / 4 = a ∧ (if sgm a c < 4 then 1 else sgm a c % 4) = c ∧ sgm a c ≤ 4 * a + 3 := by
  unfold sgm
  by_cases z : a = 0
  · rw [if_pos z]; have := h z; refine ⟨by omega, by omega, by rw [if_pos (by decide)]; omega, by omega⟩
  · rw [if_neg z]; refine ⟨by omega, by omega, by rw [if_neg (by omega)]; omega, by omega⟩
theorem dpR_congr {D : Hp} {τ : Int} {rc rc' : Int → Int → Prop} {bs bs' fr fr' fc fc' : Int → Int → Int} {b : Int} (b0 : 1 ≤ b) (h : ∀ x y, 1 ≤ x → x ≤ b → 0 ≤ y → y ≤ 3 → (rc x y ↔ rc' x y) ∧ bs x y = bs' x y ∧ fr x y = fr' x y ∧ fc x y = fc' x y) (R : dpR D τ rc bs fr fc b) : dpR D τ rc' bs' fr' fc' b := by
  intro c c0 c3
  obtain ⟨E1, E2⟩ := R c c0 c3
  have hb := h b c b0 (Int.le_refl _) c0 c3
  have cc : ∀ a c', cnd D τ rc' b c a c' ↔ cnd D τ rc b c a c' := fun a c' => (cnd_congr (fun x y x0 x1 y0 y1 => (h x y x0 (by omega) y0 y1).1)).symm
  have cg : ∀ {a c'}, cnd D τ rc b c a c' → a ≠ 0 → bs' a c' = bs a c' ∧ fr' a c' = fr a c' := fun {a c'} z ha => by
    rcases z.2.2.2.2 with ⟨p, -⟩ | ⟨p1, p2, p3, p4⟩
    · exact absurd p ha
    · have := h a c' p1 (by have := z.2.1; omega) p2 p3
      exact ⟨this.2.1.symm, this.2.2.1.symm⟩
  refine ⟨fun z => ?_, fun z a c' w => E2 (fun y => z (hb.1.mp y)) a c' ((cc a c').mp w)⟩
  obtain ⟨e1, e2, e3⟩ := E1 (hb.1.mpr z)
  rw [← hb.2.1, ← hb.2.2.1, ← hb.2.2.2]
  refine ⟨(cc _ _).mpr e1, ?_, fun a c' w => ?_⟩
  · rw [e2]; exact (vlS_congr (fun ha => (cg e1 ha).1)).symm
  · have w' := (cc a c').mp w
    exact (e3 a c' w').imp id (fun k => (klt_congr (cg e1) (cg w')).mpr k)
/-- what table rows of the component lie in -/
theorem dpR_h {D h h' : Hp} {τ b : Int} (b0 : 1 ≤ b) (e : ∀ j, 4 ≤ j → j ≤ 4 * b + 3 → h' 259 j = h 259 j ∧ h' 260 j = h 260 j) (R : dpR D τ (cR h) (cB h) (cF h) (cG h) b) : dpR D τ (cR h') (cB h') (cF h') (cG h') b := by
  refine dpR_congr b0 (fun x y x0 x1 y0 y1 => ?_) R
  have k := e (4 * x + y) (by omega) (by omega)
  unfold cR cB cF cG
  rw [k.1, k.2]
  exact ⟨Iff.rfl, rfl, rfl, rfl⟩
/-- a way that is there -/
def wyO (h : Hp) (b a c : Int) : Prop := 0 ≤ a ∧ a < b ∧ ((a = 0 ∧ c = 1) ∨ (1 ≤ a ∧ 0 ≤ c ∧ c ≤ 3 ∧ cR h a c))
theorem e_isE {D h : Hp} {P τ b a1 c1 a2 c2 : Int} (hL : LAY h) (b6 : b ≤ 601) (R : ∀ b', 1 ≤ b' → b' < b → dpR D τ (cR h) (cB h) (cF h) (cG h) b') (h1 : wyO h b a1 c1) (h2 : wyO h b a2 c2) (ne : ¬ (a1 = a2 ∧ c1 = c2)) :
    m_X28_isEarlier P 257 (sgm a1 c1) (sgm a2 c2) h = some (if a1 < a2 ∨ (a1 = a2 ∧ pvB (cF h) a1 c1 < pvB (cF h) a2 c2) then 1 else 0) := by
  obtain ⟨k0, ⟨k1, k2, k3⟩, ⟨k4, k5, k6⟩, ⟨k7, k8, k9⟩⟩ := ly_X11 hL
  obtain ⟨x0, x1, x2⟩ := h1
  obtain ⟨y0, y1, y2⟩ := h2
  have s1 := sgm_r (a := a1) (c := c1) x0 (by omega) (by omega) (by omega)
  have s2 := sgm_r (a := a2) (c := c2) y0 (by omega) (by omega) (by omega)
  have td : ∀ z : Int, 0 ≤ z → Int.tdiv z 4 = z / 4 := fun z z0 => Int.tdiv_eq_ediv_of_nonneg z0
  unfold m_X28_isEarlier
  -- the end
  have fin : ∀ x y : Int, 0 ≤ x → 0 ≤ y → x ≤ 3000 → y ≤ 3000 → (if (w32 (Int.tdiv y 4)) ≤ (w32 (Int.tdiv x 4)) then (some (0 : Int)) else (some 1)) = some (if x / 4 < y / 4 then 1 else 0) := fun x y x0 y0 x3 y3 => by
    rw [td x x0, td y y0, e32 (by omega) (by omega), e32 (by omega) (by omega)]
    by_cases z : x / 4 < y / 4
    · rw [if_neg (by omega), if_pos z]
    · rw [if_pos (by omega), if_neg z]
  -- a turn that ends
  have stop : ∀ x y : Int, 0 ≤ x → 0 ≤ y → x ≤ 3000 → y ≤ 3000 → (x / 4 ≤ 0 ∨ x / 4 ≠ y / 4) → lp (fun (q : Int × Int) => m_X28_isEarlier_l6 257 q.1 q.2 h) (x, y) = some (x, y) := fun x y x0 y0 x3 y3 hh => by
    refine lp_out ?_
    show m_X28_isEarlier_l6 257 x y h = _
    unfold m_X28_isEarlier_l6
    rw [td x x0, td y y0, e32 (by omega) (by omega), e32 (by omega) (by omega)]
    by_cases z : x / 4 ≤ 0
    · rw [if_pos z]
    · rw [if_neg z, if_pos (by omega)]
  by_cases ea : a1 = a2
  · subst ea
    have a1p : 1 ≤ a1 := by omega
    have r1 : cR h a1 c1 := by rcases x2 with z | z; omega; exact z.2.2.2
    have r2 : cR h a1 c2 := by rcases y2 with z | z; omega; exact z.2.2.2
    have g1 := ((R a1 a1p x1 c1 (by omega) (by omega)).1 r1).1
    have g2 := ((R a1 a1p x1 c2 (by omega) (by omega)).1 r2).1
    have nf : cF h a1 c1 ≠ cF h a1 c2 := fun z => by
      have u1 := g1.2.2.2.1
      have u2 := g2.2.2.2.1
      rw [z, u2] at u1
      omega
    have e1 : sgm a1 c1 = 4 * a1 + c1 := by unfold sgm; rw [if_neg (by omega)]
    have e2 : sgm a1 c2 = 4 * a1 + c2 := by unfold sgm; rw [if_neg (by omega)]
    have f1 : pvB (cF h) a1 c1 = cF h a1 c1 := by unfold pvB; rw [if_neg (by omega)]
    have f2 : pvB (cF h) a1 c2 = cF h a1 c2 := by unfold pvB; rw [if_neg (by omega)]
    have v1 : 0 ≤ h 260 (4 * a1 + c1) := r1
    have v2 : 0 ≤ h 260 (4 * a1 + c2) := r2
    have w1 := g1.2.1
    have w2 := g2.2.1
    unfold cF at nf w1 w2
    rw [f1, f2, e1, e2]
    have turn : lp (fun (q : Int × Int) => m_X28_isEarlier_l6 257 q.1 q.2 h) (4 * a1 + c1, 4 * a1 + c2) = lp (fun (q : Int × Int) => m_X28_isEarlier_l6 257 q.1 q.2 h) (h 260 (4 * a1 + c1), h 260 (4 * a1 + c2)) := by
      refine lp_in ?_
      show m_X28_isEarlier_l6 257 (4 * a1 + c1) (4 * a1 + c2) h = _
      unfold m_X28_isEarlier_l6
      rw [td _ (by omega), td _ (by omega), e32 (by omega) (by omega), e32 (by omega) (by omega), if_neg (by omega), if_neg (by omega), k0, k7, k8, k9, gd_t rfl, gd_t ⟨by decide, by omega, by omega⟩, lt_e, gd_t ⟨by decide, by omega, by omega⟩, lt_e]
    rw [turn, stop _ _ v1 v2 (by omega) (by omega) (by omega), Option.bind_some]
    dsimp only
    rw [fin _ _ v1 v2 (by omega) (by omega)]
    unfold cF
    by_cases z : h 260 (4 * a1 + c1) / 4 < h 260 (4 * a1 + c2) / 4
    · rw [if_pos z, if_pos (Or.inr ⟨rfl, z⟩)]
    · rw [if_neg z, if_neg (by omega)]
  · rw [stop _ _ s1.1 s2.1 (by omega) (by omega) (by omega), Option.bind_some]
    dsimp only
    rw [fin _ _ s1.1 s2.1 (by omega) (by omega), s1.2.1, s2.2.1]
    by_cases z : a1 < a2
    · rw [if_pos z, if_pos (Or.inl z)]
    · rw [if_neg z, if_neg (by omega)]
