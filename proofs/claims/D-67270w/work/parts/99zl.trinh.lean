set_option maxRecDepth 100000
/-! TREES: properties that are inherited, on the reference's side -/
theorem e64 {x : Int} (h1 : -9223372036854775808 ≤ x) (h2 : x ≤ 9223372036854775807) : w64 x = x := by
  unfold w64; omega
theorem dcF_r {Y : Hp} {p w lo hi : Int} {s : Int × Int} : ∀ c : Nat, lo + c ≤ hi → (s = (-1, -1) ∨ (0 ≤ s.1 ∧ s.1 < hi ∧ 0 ≤ s.2 ∧ Y 17 s.1 = p)) → 0 ≤ lo → 0 ≤ w → dcF Y p w lo c s = (-1, -1) ∨ (0 ≤ (dcF Y p w lo c s).1 ∧ (dcF Y p w lo c s).1 < hi ∧ 0 ≤ (dcF Y p w lo c s).2 ∧ Y 17 (dcF Y p w lo c s).1 = p) := by
  intro c
  induction c with
  | zero => intro _ h _ _; exact h
  | succ c ih =>
    intro hc h lo0 w0
    have i := ih (by omega) h lo0 w0
    show (if Y 17 (lo + c) = p ∧ (dcF Y p w lo c s).2 ≤ w then (lo + c, w) else dcF Y p w lo c s) = (-1, -1) ∨ _
    by_cases hq : Y 17 (lo + c) = p ∧ (dcF Y p w lo c s).2 ≤ w
    · have e : dcF Y p w lo (c + 1) s = (lo + c, w) := if_pos hq
      rw [e]
      exact Or.inr ⟨by dsimp only; omega, by dsimp only; omega, w0, hq.1⟩
    · have e : dcF Y p w lo (c + 1) s = dcF Y p w lo c s := if_neg hq
      rw [e, if_neg hq]; exact i
theorem wsm_nn {P Q : Int → Int} {f : Int} : ∀ c : Nat, (∀ x, f ≤ x → x < f + c → P x ≤ P (x + 1)) → 0 ≤ wsm P Q f c := by
  intro c
  induction c with
  | zero => intro _; exact Int.le_refl _
  | succ c ih =>
    intro h
    have := ih (fun x x0 x1 => h x x0 (by omega))
    have := h (f + c) (by omega) (by omega)
    rw [wsm_step]
    split <;> omega
theorem slF_r {S Y p' : Hp} {a' n' N' E M C ns na nsel nb nt m e p : Int} {s' : Int → List Int} (R' : YA Y p' a' n' N' s' C ns na nsel nb nt m) : ∀ k : Nat, (k : Int) ≤ nsel → slF S Y E M e p k = (-1, -1) ∨ (0 ≤ (slF S Y E M e p k).1 ∧ (slF S Y E M e p k).1 < nt ∧ 0 ≤ (slF S Y E M e p k).2 ∧ Y 17 (slF S Y E M e p k).1 = p) := by
  intro k
  induction k with
  | zero => intro _; exact Or.inl rfl
  | succ k ih =>
    intro hk
    have i := ih (by omega)
    have sk := R'.2.2.2.2.2.2.2.1 k (by omega) (by omega)
    have s0 := R'.2.2.2.2.2.2.1 k (by omega) (by omega)
    have s1 := R'.2.2.2.2.2.2.1 (k + 1) (by omega) (by omega)
    have b0 := R'.2.2.2.2.2.2.2.2.1 (Y 5 k) (by omega) (by omega)
    have b1 := R'.2.2.2.2.2.2.2.2.1 (Y 5 k + 1) (by omega) (by omega)
    have b2 := R'.2.2.2.2.2.2.2.2.2.1 (Y 5 k) (by omega) (by omega)
    show (@ite _ (FT S Y E M (Y 4 k) (Y 4 (k + 1) - Y 4 k - 1).toNat e) (Classical.propDecidable _) _ _ : Int × Int) = (-1, -1) ∨ _
    by_cases hf : FT S Y E M (Y 4 k) (Y 4 (k + 1) - Y 4 k - 1).toNat e
    · have ee : slF S Y E M e p (k + 1) = dcF Y p (wsm (Y 9) (Y 6) (Y 4 k) (Y 4 (k + 1) - Y 4 k).toNat) (Y 16 (Y 5 k)) (Y 16 (Y 5 k + 1) - Y 16 (Y 5 k)).toNat (slF S Y E M e p k) := if_pos hf
      rw [ee, if_pos hf]
      exact dcF_r _ (by omega) i (by omega) (wsm_nn _ (fun x x0 x1 => (R'.2.2.2.2.1 x (by omega) (by omega)).1))
    · have ee : slF S Y E M e p (k + 1) = slF S Y E M e p k := if_neg hf
      rw [ee, if_neg hf]; exact i
/-- what is inherited; what a property is at the beginning -/
def inhP (p : Int) : Bool := decide (p = 1 ∨ p = 2 ∨ p = 3 ∨ p = 8 ∨ p = 9 ∨ p = 10 ∨ p = 11 ∨ p = 12 ∨ p = 14 ∨ p = 18)
def begV (p : Int) : Int := if p = 1 then 10000 else if p = 2 then 12000 else if p = 10 then 200 else if p = 11 ∨ p = 12 then 2 else 0
theorem q_inh24 (p : Int) : m_X24_isInherited p = some (bI (inhP p)) := by
  unfold m_X24_isInherited inhP
  repeat' split
  all_goals first
    | (have : (p = 1 ∨ p = 2 ∨ p = 3 ∨ p = 8 ∨ p = 9 ∨ p = 10 ∨ p = 11 ∨ p = 12 ∨ p = 14 ∨ p = 18) := by omega
       rw [decide_eq_true this]; rfl)
    | (have : ¬ (p = 1 ∨ p = 2 ∨ p = 3 ∨ p = 8 ∨ p = 9 ∨ p = 10 ∨ p = 11 ∨ p = 12 ∨ p = 14 ∨ p = 18) := by omega
       rw [decide_eq_false this]; rfl)
theorem q_beg24 (p : Int) : m_X24_beginning p = some (begV p) := by
  unfold m_X24_beginning begV
  simp only [List.mem_cons, List.not_mem_nil, or_false]
  repeat' split
  all_goals rfl
/-- a property of an element, or of none -/
def ofV (f : Int → Int) (e p : Int) : Int := if 0 ≤ e then f (22 * e + p) else begV p
theorem q_of24 {h : Hp} {l E e p : Int} (hL : LAY h) (hl : l ∈ in_aX24) (E5 : E ≤ 500) (e1 : e < E) (p0 : 0 ≤ p) (p1 : p ≤ 21) : m_X24_of l e p h = some (ofV (h (l + 24)) e p) := by
  unfold m_X24_of ofV
  by_cases he : 0 ≤ e
  · rw [if_pos he, if_pos he]
    simp only [g_X24_3 hL hl]
    rw [e32 (x := 22 * e) (by omega) (by omega), e32 (x := 22 * e + p) (by omega) (by omega), gd_t ⟨by decide, by omega, by omega⟩]
  · rw [if_neg he, if_neg he, q_beg24, Option.bind_some]
def clampS (v : Int) : Int := if 1000 ≤ v then (if v ≤ 100000 then v else 100000) else 1000
/-- what a property comes to; d: the declaration that counts, or -1 -/
def pvE (S Y : Hp) (f : Int → Int) (e p d : Int) : Int := if d < 0 then (if inhP p = true then ofV f (S 7 e) p else begV p) else if p = 1 ∧ Y 18 d < 0 then clampS (Int.tdiv (ofV f (S 7 e) 1 * -(Y 18 d)) 100) else Y 18 d
theorem pvE.congr {S Y : Hp} {f g : Int → Int} {e p d : Int} (hP : S 7 e < e) (h : ∀ j, j < 22 * e → f j = g j) (p0 : 0 ≤ p) (p1 : p ≤ 21) : pvE S Y f e p d = pvE S Y g e p d := by
  have o : ∀ p, 0 ≤ p → p ≤ 21 → ofV f (S 7 e) p = ofV g (S 7 e) p := fun p p0 p1 => by
    unfold ofV
    by_cases he : 0 ≤ S 7 e
    · rw [if_pos he, if_pos he, h _ (by omega)]
    · rw [if_neg he, if_neg he]
  unfold pvE
  rw [o p p0 p1, o 1 (by decide) (by decide)]
theorem clampS_r (v : Int) : 1000 ≤ clampS v ∧ clampS v ≤ 100000 := by
  unfold clampS
  split
  · split <;> omega
  · omega
/-- what holds of a size -/
theorem size_r {S Y p' : Hp} {a' n' N' E M C ns na nsel nb nt m e : Int} {s' : Int → List Int} {f : Int → Int} (R' : YA Y p' a' n' N' s' C ns na nsel nb nt m) (h : 1000 ≤ ofV f (S 7 e) 1 ∧ ofV f (S 7 e) 1 ≤ 100000) : 1000 ≤ pvE S Y f e 1 (slF S Y E M e 1 nsel.toNat).1 ∧ pvE S Y f e 1 (slF S Y E M e 1 nsel.toNat).1 ≤ 100000 := by
  have hn := R'.2.1.2.2.1
  have r := slF_r (S := S) (E := E) (M := M) (e := e) (p := 1) R' nsel.toNat (by omega)
  generalize slF S Y E M e 1 nsel.toNat = d at *
  unfold pvE
  by_cases hd : d.1 < 0
  · rw [if_pos hd]
    exact h
  · rw [if_neg hd]
    rcases r with r | ⟨r1, r2, r3, r4⟩
    · rw [r] at hd; exact absurd (show (-1 : Int) < 0 by decide) hd
    · obtain ⟨c1, -, -, c4, -⟩ := R'.2.2.2.2.2.2.2.2.2.2.1 d.1 r1 r2
      rw [r4] at c1
      have c5 := c4 c1
      by_cases h1 : (1 : Int) = 1 ∧ Y 18 d.1 < 0
      · rw [if_pos h1]; exact clampS_r _
      · rw [if_neg h1]; omega
/-- the row of properties at the end -/
def PV (S Y : Hp) (E M nsel : Int) (f : Int → Int) : Prop := ∀ e p, 0 ≤ e → e < E → 0 ≤ p → p ≤ 21 → f (22 * e + p) = pvE S Y f e p (slF S Y E M e p nsel.toNat).1
theorem PV.size {S Y p p' : Hp} {a a' n n' N N' E F M C ns na nsel nb nt m : Int} {s s' : Int → List Int} {f : Int → Int} {K : Int} (R : SA S p a n N s E F M) (R' : YA Y p' a' n' N' s' C ns na nsel nb nt m) (hf : ∀ e, 0 ≤ e → e < K → f (22 * e + 1) = pvE S Y f e 1 (slF S Y E M e 1 nsel.toNat).1) (KE : K ≤ E) : ∀ e, e < K → 1000 ≤ ofV f e 1 ∧ ofV f e 1 ≤ 100000 := by
  have key : ∀ (k : Nat) (e : Int), e.toNat ≤ k → e < K → 1000 ≤ ofV f e 1 ∧ ofV f e 1 ≤ 100000 := by
    intro k
    induction k with
    | zero =>
      intro e he eK
      by_cases e0 : 0 ≤ e
      · have par := (R.2.2.2.1 e e0 (by omega)).2.2
        have o : ofV f (S 7 e) 1 = 10000 := by unfold ofV; rw [if_neg (by omega)]; rfl
        have := size_r (S := S) (E := E) (M := M) (e := e) (f := f) R' (by rw [o]; decide)
        rw [← hf e e0 eK] at this
        unfold ofV; rw [if_pos e0]; exact this
      · unfold ofV; rw [if_neg e0]; decide
    | succ k ih =>
      intro e he eK
      by_cases e0 : 0 ≤ e
      · have par := (R.2.2.2.1 e e0 (by omega)).2.2
        have := size_r (S := S) (E := E) (M := M) (e := e) (f := f) R' (ih (S 7 e) (by omega) (by omega))
        rw [← hf e e0 eK] at this
        unfold ofV; rw [if_pos e0]; exact this
      · unfold ofV; rw [if_neg e0]; decide
  exact fun e eK => key _ e (Nat.le_refl _) eK
theorem t_inherit {h S Y p p' : Hp} {l ly a a' n n' N N' E F M C ns na nsel nb nt m : Int} {s s' : Int → List Int} (hl : l ∈ in_aX24) (hly : ly ∈ in_aX22) (R : SA S p a n N s E F M) (R' : YA Y p' a' n' N' s' C ns na nsel nb nt m) (T : TT S Y h l ly n E M) (d : ∀ e, 0 ≤ e → e < E → prD Y h l e (fun q => slF S Y E M e q nsel.toNat)) :
    Pz (m_X24_inherit l h) (fun h' => F2 (fun b j => b = l + 24 ∧ 0 ≤ j) h h' ∧ PV S Y E M nsel (h' (l + 24))) := by
  have h24 := aX24 hl
  have h22 := aX22 hly
  obtain ⟨hL, X, eY, rl⟩ := id T
  have E0 := R.2.2.1.2.1
  have E5 := R.2.2.1.2.2.1
  have hn := R'.2.1.2.2.1
  have sr := fun e p => slF_r (S := S) (E := E) (M := M) (e := e) (p := p) R' nsel.toNat (by omega)
  unfold m_X24_inherit
  refine z_lt (z_bind (z_mono (z_lp (Q := fun h' => F2 (fun b j => b = l + 24 ∧ 0 ≤ j) h h' ∧ PV S Y E M nsel (h' (l + 24))) (fun (s : Int × Hp) => 0 ≤ s.1 ∧ s.1 ≤ E ∧ F2 (fun b j => b = l + 24 ∧ 0 ≤ j ∧ j < 22 * s.1) h s.2 ∧ ∀ e p, 0 ≤ e → e < s.1 → 0 ≤ p → p ≤ 21 → s.2 (l + 24) (22 * e + p) = pvE S Y (s.2 (l + 24)) e p (slF S Y E M e p nsel.toNat).1) (fun s => (E - s.1).toNat) ⟨Int.le_refl _, E0, F2.refl, fun e p z0 z1 => by dsimp only at z1; omega⟩ ?_) (fun r hr => z_some hr)))
  rintro ⟨x, g⟩ ⟨x0, x1, Fg, Eg⟩
  dsimp only at x0 x1 Eg
  replace Fg : F2 (fun b j => b = l + 24 ∧ 0 ≤ j ∧ j < 22 * x) h g := Fg
  have Tg : TT S Y g l ly n E M := T.kept hl hly (Fg.mono (fun b j z => by omega))
  have Lg := Tg.1
  show Pz (m_X24_inherit_l2 l x g) _
  unfold m_X24_inherit_l2
  simp only [g_X24_0 Lg hl, (ly_X23 Lg h24.2.2).1, Tg.2.1.1.2.2]
  refine z_gd trivial ?_
  by_cases hx : E ≤ x
  · have : x = E := by omega
    subst this
    exact z_it hx (z_some ⟨Fg.mono (fun b j z => ⟨z.1, z.2.1⟩), Eg⟩)
  · refine z_ie hx (z_lt ?_)
    have par := (R.2.2.2.1 x x0 (by omega)).2.2
    have sz := PV.size (f := g (l + 24)) (K := x) R R' (fun e e0 e1 => Eg e 1 e0 e1 (by decide) (by decide)) (by omega) (S 7 x) (by omega)
    refine z_bind (z_mono (z_lp (Q := fun g' => F2 (fun b j => b = l + 24 ∧ 22 * x ≤ j ∧ j < 22 * x + 22) g g' ∧ ∀ p, 0 ≤ p → p ≤ 21 → g' (l + 24) (22 * x + p) = pvE S Y (g (l + 24)) x p (slF S Y E M x p nsel.toNat).1) (fun (s : Int × Hp) => 0 ≤ s.1 ∧ s.1 ≤ 22 ∧ F2 (fun b j => b = l + 24 ∧ 22 * x ≤ j ∧ j < 22 * x + s.1) g s.2 ∧ ∀ p, 0 ≤ p → p < s.1 → s.2 (l + 24) (22 * x + p) = pvE S Y (g (l + 24)) x p (slF S Y E M x p nsel.toNat).1) (fun s => (22 - s.1).toNat) ⟨Int.le_refl _, by dsimp only; omega, F2.refl, fun e z0 z1 => by dsimp only at z1; omega⟩ ?_) (fun g' hg => ?_))
    · rintro ⟨y, q⟩ ⟨y0, y1, Fq, Eq⟩
      dsimp only at y0 y1 Eq
      replace Fq : F2 (fun b j => b = l + 24 ∧ 22 * x ≤ j ∧ j < 22 * x + y) g q := Fq
      have Tq : TT S Y q l ly n E M := Tg.kept hl hly (Fq.mono (fun b j z => by omega))
      have Lq := Tq.1
      show Pz (m_X24_inherit_l15 l x y q) _
      unfold m_X24_inherit_l15
      by_cases hy : 22 ≤ y
      · have : y = 22 := by omega
        subst this
        exact z_it hy (z_some ⟨Fq, fun p p0 p1 => Eq p p0 (by omega)⟩)
      · refine z_ie hy (z_lt ?_)
        rw [e32 (x := 22 * x) (by omega) (by omega), e32 (x := 22 * x + y) (by omega) (by omega)]
        obtain ⟨d1, -, -⟩ := d x x0 (by omega)
        have dy := d1 y y0 (by omega)
        have w37 : q (l + 37) (22 * x + y) = (slF S Y E M x y nsel.toNat).2 := by rw [Fq _ _ (by omega), Fg _ _ (by omega)]; exact dy.1
        have w24 : 0 ≤ (slF S Y E M x y nsel.toNat).1 → q (l + 24) (22 * x + y) = Y 18 (slF S Y E M x y nsel.toNat).1 := fun z => by rw [Fq _ _ (by omega), Fg _ _ (by omega)]; exact dy.2 z
        have r := sr x y
        have j11 := g_X23_11 Lq h24.2.2
        have qP : q (l + 1 + 7) x = S 7 x := Tq.2.1.2.2.2.1 7 (by decide) (by decide) x x0 (by omega)
        have of_ : ∀ p, 0 ≤ p → p ≤ 21 → m_X24_of l (S 7 x) p q = some (ofV (g (l + 24)) (S 7 x) p) := fun p p0 p1 => by
          rw [q_of24 (E := E) Lq hl E5 (by omega) p0 p1]
          congr 1
          unfold ofV
          by_cases z : 0 ≤ S 7 x
          · rw [if_pos z, if_pos z, Fq _ _ (by omega)]
          · rw [if_neg z, if_neg z]
        have fin : ∀ q', F2 (fun b j => b = l + 24 ∧ j = 22 * x + y) q q' → q' (l + 24) (22 * x + y) = pvE S Y (g (l + 24)) x y (slF S Y E M x y nsel.toNat).1 → Pz (m_X24_inherit_j153 y q') (sE (fun (s : Int × Hp) => (0 ≤ s.1 ∧ s.1 ≤ 22 ∧ F2 (fun b j => b = l + 24 ∧ 22 * x ≤ j ∧ j < 22 * x + s.1) g s.2 ∧ ∀ p, 0 ≤ p → p < s.1 → s.2 (l + 24) (22 * x + p) = pvE S Y (g (l + 24)) x p (slF S Y E M x p nsel.toNat).1) ∧ (22 - s.1).toNat < (22 - y).toNat) (fun g' => F2 (fun b j => b = l + 24 ∧ 22 * x ≤ j ∧ j < 22 * x + 22) g g' ∧ ∀ p, 0 ≤ p → p ≤ 21 → g' (l + 24) (22 * x + p) = pvE S Y (g (l + 24)) x p (slF S Y E M x p nsel.toNat).1)) := by
          intro q' f1 hv
          unfold m_X24_inherit_j153
          rw [lt_e, e32 (x := y + 1) (by omega) (by omega)]
          refine z_some ⟨⟨by dsimp only; omega, by dsimp only; omega, (Fq.mono (fun b j z => by omega)).trans (f1.mono (fun b j z => by omega)), fun p p0 p1 => ?_⟩, by dsimp only; omega⟩
          dsimp only at p1 ⊢
          by_cases hp : p = y
          · rw [hp]; exact hv
          · rw [f1 _ _ (by omega)]; exact Eq p p0 (by omega)
        generalize slF S Y E M x y nsel.toNat = dw at *
        have k3 := g_X24_3 Lq hl
        have st : ∀ v, v = pvE S Y (g (l + 24)) x y dw.1 → Pz (m_X24_inherit_j70 (22 * x + y) y (l + 24) v q) (sE (fun (s : Int × Hp) => (0 ≤ s.1 ∧ s.1 ≤ 22 ∧ F2 (fun b j => b = l + 24 ∧ 22 * x ≤ j ∧ j < 22 * x + s.1) g s.2 ∧ ∀ p, 0 ≤ p → p < s.1 → s.2 (l + 24) (22 * x + p) = pvE S Y (g (l + 24)) x p (slF S Y E M x p nsel.toNat).1) ∧ (22 - s.1).toNat < (22 - y).toNat) (fun g' => F2 (fun b j => b = l + 24 ∧ 22 * x ≤ j ∧ j < 22 * x + 22) g g' ∧ ∀ p, 0 ≤ p → p ≤ 21 → g' (l + 24) (22 * x + p) = pvE S Y (g (l + 24)) x p (slF S Y E M x p nsel.toNat).1)) := fun v hv => by
          unfold m_X24_inherit_j70
          exact z_gd ⟨by rw [k3.2.1]; decide, by omega, by rw [k3.2.2]; omega⟩ (z_pt (fin _ (F2.refl.put ⟨rfl, rfl⟩) (by rw [up_s]; exact hv)))
        simp only [g_X24_16 Lq hl, w37]
        refine z_gd ⟨by decide, by omega, by omega⟩ ?_
        rcases r with r | ⟨r1, r2, r3, r4⟩
        · subst r
          refine z_ie (by decide) ?_
          rw [q_inh24, Option.bind_some]
          have pv : pvE S Y (g (l + 24)) x y (-1) = if inhP y = true then ofV (g (l + 24)) (S 7 x) y else begV y := by
            unfold pvE; rw [if_pos (by decide)]
          by_cases hi : inhP y = true
          · rw [hi]
            rw [if_pos hi] at pv
            refine z_ie (by decide) ?_
            simp only [g_X24_0 Lq hl, (ly_X23 Lq h24.2.2).1, j11.1, j11.2.1, j11.2.2, qP, k3.1]
            refine z_gd trivial (z_gd ⟨by decide, x0, by omega⟩ ?_)
            rw [of_ y y0 (by omega), Option.bind_some]
            exact st _ pv.symm
          · have hi' : inhP y = false := by simpa using hi
            rw [hi']
            rw [if_neg hi] at pv
            refine z_it rfl ?_
            rw [q_beg24, Option.bind_some, k3.1]
            exact st _ pv.symm
        · refine z_it r3 ?_
          have v24 := w24 r1
          have pv : pvE S Y (g (l + 24)) x y dw.1 = if y = 1 ∧ Y 18 dw.1 < 0 then clampS (Int.tdiv (ofV (g (l + 24)) (S 7 x) 1 * -(Y 18 dw.1)) 100) else Y 18 dw.1 := by
            unfold pvE; rw [if_neg (by omega)]
          by_cases h1 : y = 1
          · refine z_ie (fun z => z h1) ?_
            simp only [k3.1, k3.2.1, k3.2.2, v24]
            refine z_gd ⟨by decide, by omega, by omega⟩ ?_
            by_cases hv : 0 ≤ Y 18 dw.1
            · rw [if_neg (by omega)] at pv
              exact z_it hv (fin q F2.refl (by rw [v24, pv]))
            · rw [if_pos ⟨h1, by omega⟩] at pv
              obtain ⟨c1, -, -, c4, -⟩ := R'.2.2.2.2.2.2.2.2.2.2.1 dw.1 r1 r2
              rw [r4] at c1
              have c5 := c4 (by omega)
              refine z_ie hv ?_
              simp only [g_X24_0 Lq hl, (ly_X23 Lq h24.2.2).1, j11.1, j11.2.1, j11.2.2, qP]
              refine z_gd trivial (z_gd ⟨by decide, x0, by omega⟩ ?_)
              rw [of_ 1 (by decide) (by decide), Option.bind_some, e32 (x := -(Y 18 dw.1)) (by omega) (by omega)]
              have pr : 0 ≤ ofV (g (l + 24)) (S 7 x) 1 * -(Y 18 dw.1) ∧ ofV (g (l + 24)) (S 7 x) 1 * -(Y 18 dw.1) ≤ 100000 * 1000 := by
                constructor
                · exact Int.mul_nonneg (by omega) (by omega)
                · exact Int.mul_le_mul sz.2 (by omega) (by omega) (by decide)
              generalize ofV (g (l + 24)) (S 7 x) 1 * -(Y 18 dw.1) = pp at *
              rw [e64 (x := pp) (by omega) (by omega)]
              have td : Int.tdiv pp 100 = pp / 100 := Int.tdiv_eq_ediv_of_nonneg pr.1
              rw [td] at pv ⊢
              rw [e64 (x := pp / 100) (by omega) (by omega), e32 (x := pp / 100) (by omega) (by omega)]
              refine z_lt ?_
              have st2 : ∀ v, v = pvE S Y (g (l + 24)) x y dw.1 → Pz (m_X24_inherit_j152 (22 * x + y) y (l + 24) v q) _ := fun v hv => st v hv
              unfold clampS at pv
              by_cases g1 : 1000 ≤ pp / 100
              · rw [if_pos g1] at pv
                refine z_it g1 ?_
                by_cases g2 : pp / 100 ≤ 100000
                · rw [if_pos g2] at pv
                  exact z_it g2 (st2 _ pv.symm)
                · rw [if_neg g2] at pv
                  exact z_ie g2 (st2 _ pv.symm)
              · rw [if_neg g1] at pv
                exact z_ie g1 (st2 _ pv.symm)
          · rw [if_neg (fun z => h1 z.1)] at pv
            exact z_it h1 (fin q F2.refl (by rw [v24, pv]))
    · obtain ⟨f1, f2⟩ := hg
      rw [lt_e, e32 (x := x + 1) (by omega) (by omega)]
      have same : ∀ e, 0 ≤ e → e ≤ x → ∀ p, 0 ≤ p → p ≤ 21 → ∀ dd, pvE S Y (g' (l + 24)) e p dd = pvE S Y (g (l + 24)) e p dd := fun e e0 e1 p p0 p1 dd => pvE.congr (R.2.2.2.1 e e0 (by omega)).2.2.2.1 (fun j hj => f1 _ _ (by omega)) p0 p1
      refine z_some ⟨⟨by dsimp only; omega, by dsimp only; omega, (Fg.mono (fun b j z => by dsimp only; omega)).trans (f1.mono (fun b j z => by dsimp only; omega)), fun e p e0 e1 p0 p1 => ?_⟩, by dsimp only; omega⟩
      dsimp only at e1 ⊢
      rw [same e e0 (by omega) p p0 p1]
      by_cases he : e = x
      · rw [he]; exact f2 p p0 p1
      · rw [f1 _ _ (by omega)]; exact Eg e p e0 (by omega) p0 p1
