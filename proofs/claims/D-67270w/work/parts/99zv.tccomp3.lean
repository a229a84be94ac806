set_option maxRecDepth 100000
/-! TREES: the component's side: an element is computed -/
/-- what computing e may write -/
def cmW (a e : Int) : Int → Int → Prop := fun b j => (b = a ∧ j = 12) ∨ (a + 9 ≤ b ∧ b ≤ a + 11 ∧ 0 ≤ j) ∨ (b = a + 2 ∧ 22 * e ≤ j ∧ j < 22 * e + 22) ∨ (b = a + 3 ∧ j = e)
theorem c_compute {S Y V p : Hp} {a sa ya n N E F M n' N' C ns na nsel nb nt m e τ : Int} {s s' : Int → List Int} (T : CT S Y p a sa ya n N s E F M n' N' s' C ns na nsel nb nt m) (hPV : PV S Y E M nsel (V 24)) (h25 : V 25 e = (if 0 ≤ (slF S Y E M e 17 nsel.toNat).1 then Y 19 (slF S Y E M e 17 nsel.toNat).1 else 0)) (h26 : V 26 e = (if 0 ≤ (slF S Y E M e 17 nsel.toNat).1 then Y 20 (slF S Y E M e 17 nsel.toNat).1 else 0)) (e0 : 0 ≤ e) (e1 : e < E) (pr : ∀ x, 0 ≤ x → x < e → prC Y V p a ya n' m x) (ht : p a 12 = τ) (t0 : 0 ≤ τ) (t1 : τ ≤ 900000000) (tm : ∀ j, 0 ≤ j → p (a + 9) j ≤ τ) :
    Pz (m_X7_compute a e p) (fun p' => F2 (cmW a e) p p' ∧ p' a 12 = τ + nsel ∧ (∀ j, 0 ≤ j → p' (a + 9) j ≤ τ + nsel) ∧ prC Y V p' a ya n' m e) := by
  obtain ⟨⟨hL, ha, hs, hy⟩, ⟨p0, p1, p2⟩, R, R', nm⟩ := id T
  have h7 := aX7 ha
  have h6 := aX6 hs
  have h3 := aX3' hy
  have E5 := R.2.2.1.2.2.1
  have na_ := R'.2.1
  unfold m_X7_compute
  refine z_lt (z_bind (z_fill (g := fun _ => -1) (n := 22) (d := a + 10) (s := 0) (by decide) (fun x q x0 x1 Fq => ?_) (fun g Fg Eg => ?_)))
  · have Tq := T.kept (Fq.mono (fun b j z => by omega))
    have i13 := g_X7_13 Tq.1.1 ha
    show m_X7_compute_l2 a x q = _
    unfold m_X7_compute_l2
    simp only [i13.1, i13.2.1, i13.2.2]
    rw [if_neg (by omega), gd_t ⟨by decide, x0, by omega⟩, pt_e, lt_e, e32 (x := x + 1) (by omega) (by omega), Int.zero_add]
  · show Pz (m_X7_compute_l2 a 22 g) _
    unfold m_X7_compute_l2
    refine z_it (by decide) (z_some (z_lt ?_))
    have Tg := T.kept (Fg.mono (fun b j z => by omega))
    refine z_bind (z_mono (z_lp (Q := fun g' => F2 (fun b j => (b = a ∧ j = 12) ∨ (a + 9 ≤ b ∧ b ≤ a + 11 ∧ 0 ≤ j)) g g' ∧ g' a 12 = τ + nsel ∧ (∀ j, 0 ≤ j → g' (a + 9) j ≤ τ + nsel) ∧ bsD g' a (fun c => slF S Y E M e c nsel.toNat)) (fun (s : Int × Hp) => 0 ≤ s.1 ∧ s.1 ≤ nsel ∧ F2 (fun b j => (b = a ∧ j = 12) ∨ (a + 9 ≤ b ∧ b ≤ a + 11 ∧ 0 ≤ j)) g s.2 ∧ s.2 a 12 = τ + s.1 ∧ (∀ j, 0 ≤ j → s.2 (a + 9) j ≤ τ + s.1) ∧ bsD s.2 a (fun c => slF S Y E M e c s.1.toNat)) (fun s => (nsel - s.1).toNat) ⟨Int.le_refl _, by omega, F2.refl, by dsimp only; rw [Fg _ _ (by omega)]; omega, fun j j0 => by dsimp only; rw [Fg _ _ (by omega)]; have := tm j j0; omega, fun c c0 c1 => ?_⟩ ?_) (fun g' hg => ?_))
    · have := Eg c c0 (by omega)
      rw [Int.zero_add] at this
      exact ⟨this, fun z => absurd z (by show ¬ (0 : Int) ≤ -1; decide), Or.inl rfl⟩
    · rintro ⟨k, q⟩ ⟨k0, k1, Fq, q12, qt, Dq⟩
      dsimp only at k0 k1 q12 qt Dq
      replace Fq : F2 (fun b j => (b = a ∧ j = 12) ∨ (a + 9 ≤ b ∧ b ≤ a + 11 ∧ 0 ≤ j)) g q := Fq
      have Tq := Tg.kept (Fq.mono (fun b j z => by omega))
      obtain ⟨⟨hL1, -⟩, ⟨q0, q1, q2⟩, R1, R1', -⟩ := id Tq
      show Pz (m_X7_compute_l23 a e k q) _
      unfold m_X7_compute_l23
      simp only [q1, (ly_X3 hL1 hy).1, R1'.2.1.1]
      refine z_gd trivial ?_
      by_cases hk : nsel ≤ k
      · have : k = nsel := by omega
        subst this
        exact z_it hk (z_some ⟨Fq, q12, qt, Dq⟩)
      · refine z_ie hk (z_bW (z_mono (c_fits Tq k0 (by omega) e0 e1 q12 (by omega) (by omega) qt) (fun r hr => ?_)))
        obtain ⟨r1, r2, r3, r4⟩ := hr
        have ek : ((k.toNat : Nat) : Int) = k := by omega
        have tk : (k + 1).toNat = k.toNat + 1 := by omega
        have Tr := Tq.kept (r1.mono (fun b j z => by omega))
        have Dr : bsD r.2 a (fun c => slF S Y E M e c k.toNat) := fun c c0 c1 => by
          rw [r1 _ _ (by omega), r1 _ _ (by omega)]; exact Dq c c0 c1
        have fin : ∀ q', F2 (fun b j => (b = a + 10 ∨ b = a + 11) ∧ 0 ≤ j) r.2 q' → bsD q' a (fun c => slF S Y E M e c (k + 1).toNat) → Pz (m_X7_compute_j48 k q') (sE (fun (s : Int × Hp) => (0 ≤ s.1 ∧ s.1 ≤ nsel ∧ F2 (fun b j => (b = a ∧ j = 12) ∨ (a + 9 ≤ b ∧ b ≤ a + 11 ∧ 0 ≤ j)) g s.2 ∧ s.2 a 12 = τ + s.1 ∧ (∀ j, 0 ≤ j → s.2 (a + 9) j ≤ τ + s.1) ∧ bsD s.2 a (fun c => slF S Y E M e c s.1.toNat)) ∧ (nsel - s.1).toNat < (nsel - k).toNat) (fun g' => F2 (fun b j => (b = a ∧ j = 12) ∨ (a + 9 ≤ b ∧ b ≤ a + 11 ∧ 0 ≤ j)) g g' ∧ g' a 12 = τ + nsel ∧ (∀ j, 0 ≤ j → g' (a + 9) j ≤ τ + nsel) ∧ bsD g' a (fun c => slF S Y E M e c nsel.toNat))) := by
          intro q' f1 f2
          unfold m_X7_compute_j48
          rw [lt_e, e32 (x := k + 1) (by omega) (by omega)]
          refine z_some ⟨⟨by dsimp only; omega, by dsimp only; omega, (Fq.trans (r1.mono (fun b j z => by omega))).trans (f1.mono (fun b j z => by omega)), ?_, fun j j0 => ?_, f2⟩, by dsimp only; omega⟩
          · dsimp only
            rw [f1 _ _ (by omega), r2]; omega
          · dsimp only
            rw [f1 _ _ (by omega)]
            have := r3 j j0
            omega
        rcases r4 with ⟨r4, r5⟩ | ⟨r4, r5⟩
        · refine z_ie (by omega) (z_bind (z_mono (c_weigh Tr k0 (by omega) Dr) (fun q' hq => fin q' hq.1 ?_)))
          have := hq.2
          rw [tk]
          unfold slF
          rw [ek]
          simp only [if_pos r5]
          exact this
        · refine z_it r4 (fin _ F2.refl ?_)
          rw [tk]
          unfold slF
          rw [ek]
          simp only [if_neg r5]
          exact Dr
    · obtain ⟨f1, f2, f3, f4⟩ := hg
      have Fp : F2 (fun b j => (b = a ∧ j = 12) ∨ (a + 9 ≤ b ∧ b ≤ a + 11 ∧ 0 ≤ j)) p g' := (Fg.mono (fun b j z => by omega)).trans f1
      have Tg' := T.kept (Fp.mono (fun b j z => by omega))
      obtain ⟨⟨hL1, -⟩, ⟨q0, q1, q2⟩, R1, R1', -⟩ := id Tg'
      have k6 := g_X6_6 hL1 hs
      have w := (R1.2.2.2.1 e e0 e1).2.1
      simp only [q0, (ly_X6 hL1 hs).1, k6.1, k6.2.1, k6.2.2, w]
      refine z_gd trivial (z_gd ⟨by decide, e0, by omega⟩ (z_lt (z_lt ?_)))
      refine z_bind (z_mono (c_props (V := V) Tg' hPV h25 h26 e0 e1 (fun x x0 x1 => (pr x x0 x1).kept (fun c z0 z1 => Fp _ _ (by omega)) (Fp _ _ (by omega)) (Fp.row (fun j z => by omega))) f4) (fun p' hp => z_some ?_))
      obtain ⟨g1, g2⟩ := hp
      refine ⟨(Fp.mono (fun b j z => by unfold cmW; omega)).trans (g1.mono (fun b j z => by unfold cmW; omega)), ?_, fun j j0 => ?_, g2⟩
      · rw [g1 _ _ (by omega)]; exact f2
      · rw [g1 _ _ (by omega)]; exact f3 j j0
/-- the roles that elements have, out of the tree V -/
def rlF (V : Hp) (P : Int → Int) (e : Int) : Int :=
  if V 30 e = 0 then 2 else
  if V 24 (22 * e) = 1 then (if V 31 e = 0 then 0 else 1) else if V 24 (22 * e) = 3 then (if V 31 e = 0 then 0 else 3) else
  if V 24 (22 * e) = 4 ∨ V 24 (22 * e) = 8 ∨ V 24 (22 * e) = 9 ∨ V 24 (22 * e) = 10 then V 24 (22 * e) else
  if V 24 (22 * e) = 5 then (if V 31 e = 0 then 0 else 5) else if V 24 (22 * e) = 6 then (if V 35 e = 0 then 0 else 6) else if V 24 (22 * e) = 7 then (if V 36 e = 0 then 0 else 7) else
  if V 24 (22 * e) = 11 then (if V 31 e = 0 then 0 else 11) else 0
theorem ok0_i {V : Hp} {P : Int → Int} {e : Int} : ok0 V P e = true ↔ V 24 (22 * e) ≠ 2 ∧ (P e < 0 ∨ V 30 (P e) ≠ 0 ∧ muF (V 24 (22 * P e)) = false) := by
  unfold ok0; simp
theorem isTb_i {V : Hp} {P : Int → Int} {e : Int} : isTb V P e = true ↔ 0 ≤ P e ∧ V 34 (P e) ≠ 0 := by
  unfold isTb; simp
theorem isRw_i {V : Hp} {P : Int → Int} {e : Int} : isRw V P e = true ↔ 0 ≤ P e ∧ V 35 (P e) ≠ 0 := by
  unfold isRw; simp
theorem ok1_i {V : Hp} {P : Int → Int} {e : Int} : ok1 V P e = true ↔ ok0 V P e = true ∧ (isTb V P e = true → V 24 (22 * e) = 6) := by
  unfold ok1
  cases ok0 V P e <;> cases isTb V P e <;> simp
theorem ok2_i {V : Hp} {P : Int → Int} {e : Int} : ok2 V P e = true ↔ ok1 V P e = true ∧ (isRw V P e = true → V 24 (22 * e) = 7 ∧ cntC (V 36) P (P e) e.toNat < 8) := by
  unfold ok2
  cases ok1 V P e <;> cases isRw V P e <;> simp
theorem okFl_i {V : Hp} {P : Int → Int} {e : Int} : okFl V P e = true ↔ P e < 0 ∨ V 31 (P e) ≠ 0 ∧ V 32 (P e) = 0 ∧ V 36 (P e) = 0 := by
  unfold okFl; simp [and_assoc]
/-- what an element is by its parent: plain facts -/
def flA (V : Hp) (P : Int → Int) (x : Int) : Prop := (V 30 x ≠ 0 → V 24 (22 * x) ≠ 2 ∧ (0 ≤ P x → V 30 (P x) ≠ 0)) ∧ (V 31 x ≠ 0 → V 30 x ≠ 0) ∧ (V 32 x ≠ 0 ↔ V 31 x ≠ 0 ∧ V 24 (22 * x) = 3) ∧ (V 34 x ≠ 0 ↔ V 31 x ≠ 0 ∧ V 24 (22 * x) = 5) ∧ (V 35 x ≠ 0 → V 24 (22 * x) = 6 ∧ V 30 x ≠ 0 ∧ V 31 x ≠ 0) ∧ (V 36 x ≠ 0 → V 24 (22 * x) = 7 ∧ V 30 x ≠ 0 ∧ V 31 x ≠ 0)
theorem FLV.facts {V : Hp} {P : Int → Int} {E : Int} (h : ∀ x, 0 ≤ x → x < E → FLV V P x) (hP : ∀ x, 0 ≤ x → x < E → -1 ≤ P x ∧ P x < x) : ∀ x, 0 ≤ x → x < E → flA V P x := by
  have step : ∀ x, 0 ≤ x → x < E → (0 ≤ P x → flA V P (P x)) → flA V P x := by
    intro x x0 x1 ih
    obtain ⟨f35, f36, -, f30, f31, f32, f34, -⟩ := h x x0 x1
    have g30 : V 30 x ≠ 0 ↔ ok2 V P x = true := by rw [f30]; exact bI_0
    have g31 : V 31 x ≠ 0 ↔ ok2 V P x = true ∧ okFl V P x = true := by rw [f31]; exact bI_0.trans (by simp)
    have g35 : V 35 x ≠ 0 ↔ isTb V P x = true ∧ ok1 V P x = true := by rw [f35]; exact bI_0.trans (by simp)
    have g36 : V 36 x ≠ 0 ↔ isRw V P x = true ∧ ok2 V P x = true := by rw [f36]; exact bI_0.trans (by simp)
    have g32 : V 32 x ≠ 0 ↔ V 31 x ≠ 0 ∧ V 24 (22 * x) = 3 := by rw [f32]; exact bI_0.trans (by simp)
    have g34 : V 34 x ≠ 0 ↔ V 31 x ≠ 0 ∧ V 24 (22 * x) = 5 := by rw [f34]; exact bI_0.trans (by simp)
    refine ⟨fun z => ?_, fun z => g30.mpr (g31.mp z).1, g32, g34, fun z => ?_, fun z => ?_⟩
    · have o0 := ok0_i.mp (ok1_i.mp (ok2_i.mp (g30.mp z)).1).1
      refine ⟨o0.1, fun p0 => ?_⟩
      rcases o0.2 with w | w
      · omega
      · exact w.1
    · obtain ⟨t1, o1⟩ := g35.mp z
      obtain ⟨p0, t2⟩ := isTb_i.mp t1
      have s6 := (ok1_i.mp o1).2 t1
      obtain ⟨-, i2, i3, i4, i5, i6⟩ := ih p0
      have j4 := i4.mp t2
      have nr : ¬ isRw V P x = true := fun w => by
        have := (i5 (isRw_i.mp w).2).1
        omega
      have o2 : ok2 V P x = true := ok2_i.mpr ⟨o1, fun w => absurd w nr⟩
      refine ⟨s6, g30.mpr o2, g31.mpr ⟨o2, okFl_i.mpr (Or.inr ⟨j4.1, ?_, ?_⟩)⟩⟩
      · exact Classical.byContradiction fun w => by have := (i3.mp w).2; omega
      · exact Classical.byContradiction fun w => by have := (i6 w).1; omega
    · obtain ⟨r1, o2⟩ := g36.mp z
      obtain ⟨p0, r2⟩ := isRw_i.mp r1
      have s7 := ((ok2_i.mp o2).2 r1).1
      obtain ⟨-, i2, i3, i4, i5, i6⟩ := ih p0
      have j5 := i5 r2
      refine ⟨s7, g30.mpr o2, g31.mpr ⟨o2, okFl_i.mpr (Or.inr ⟨j5.2.2, ?_, ?_⟩)⟩⟩
      · exact Classical.byContradiction fun w => by have := (i3.mp w).2; omega
      · exact Classical.byContradiction fun w => by have := (i6 w).1; omega
  have key : ∀ (k : Nat) (x : Int), x.toNat ≤ k → 0 ≤ x → x < E → flA V P x := by
    intro k
    induction k with
    | zero =>
      intro x hx x0 x1
      have := hP x x0 x1
      exact step x x0 x1 (fun p0 => by omega)
    | succ k ih =>
      intro x hx x0 x1
      have := hP x x0 x1
      exact step x x0 x1 (fun p0 => ih (P x) (by omega) p0 (by omega))
  exact fun x x0 x1 => key _ x (Nat.le_refl _) x0 x1
/-- roles by the flags -/
theorem rl_facts {V : Hp} {P : Int → Int} {x : Int} (f : flA V P x) : (rlF V P x = 5 ↔ V 34 x ≠ 0) ∧ (rlF V P x = 6 ↔ V 35 x ≠ 0) ∧ (rlF V P x = 3 ↔ V 32 x ≠ 0) ∧ (rlF V P x = 7 ↔ V 36 x ≠ 0) ∧ (V 30 x ≠ 0 → ((rlF V P x = 8 ∨ rlF V P x = 9 ∨ rlF V P x = 4 ∨ rlF V P x = 10) ↔ muF (V 24 (22 * x)) = true)) := by
  obtain ⟨f1, f2, f3, f4, f5, f6⟩ := f
  have mu : muF (V 24 (22 * x)) = true ↔ (8 ≤ V 24 (22 * x) ∧ V 24 (22 * x) ≤ 10 ∨ V 24 (22 * x) = 4) := by unfold muF; simp
  rw [mu, f3, f4]
  unfold rlF
  generalize V 24 (22 * x) = v at *
  generalize V 30 x = a at *
  generalize V 31 x = b at *
  generalize V 35 x = c at *
  generalize V 36 x = d at *
  refine ⟨?_, ?_, ?_, ?_, fun ha => ?_⟩
  all_goals (repeat' split) <;> omega
