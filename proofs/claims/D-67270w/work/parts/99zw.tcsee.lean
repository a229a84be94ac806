set_option maxRecDepth 100000
/-! TREES: the component's side: what is shown -/
def nnP (rl P : Int → Int) (e : Int) : Prop := ∀ k : Nat, (∀ j, j ≤ k → 0 ≤ itP P j (P e)) → rl (itP P k (P e)) ≠ 3 ∧ rl (itP P k (P e)) ≠ 7
theorem nn_neg {rl P : Int → Int} {e : Int} (h : P e < 0) : nnP rl P e := fun k hk => by
  have := hk 0 (Nat.zero_le _)
  exact absurd this (by show ¬ 0 ≤ P e; omega)
theorem nn_step {rl P : Int → Int} {e : Int} (h : 0 ≤ P e) : nnP rl P e ↔ (rl (P e) ≠ 3 ∧ rl (P e) ≠ 7) ∧ nnP rl P (P e) := by
  constructor
  · intro n
    refine ⟨n 0 (fun j hj => by rw [show j = 0 by omega]; exact h), fun k hk => ?_⟩
    refine n (k + 1) (fun j hj => ?_)
    cases j with
    | zero => exact h
    | succ j => exact hk j (by omega)
  · rintro ⟨n0, n1⟩ k hk
    cases k with
    | zero => exact n0
    | succ k => exact n1 k (fun j hj => hk (j + 1) (by omega))
theorem nn_fl {V : Hp} {P : Int → Int} {E : Int} (h : ∀ x, 0 ≤ x → x < E → FLV V P x) (hP : ∀ x, 0 ≤ x → x < E → -1 ≤ P x ∧ P x < x) : ∀ x, 0 ≤ x → x < E → V 30 x ≠ 0 → (V 31 x ≠ 0 ↔ nnP (rlF V P) P x) := by
  have fa := FLV.facts h hP
  have key : ∀ (k : Nat) (x : Int), x.toNat ≤ k → 0 ≤ x → x < E → V 30 x ≠ 0 → (V 31 x ≠ 0 ↔ nnP (rlF V P) P x) := by
    have step : ∀ x, 0 ≤ x → x < E → V 30 x ≠ 0 → (0 ≤ P x → (V 31 (P x) ≠ 0 ↔ nnP (rlF V P) P (P x))) → (V 31 x ≠ 0 ↔ nnP (rlF V P) P x) := by
      intro x x0 x1 sh ih
      have px := hP x x0 x1
      obtain ⟨-, -, -, f30, f31, -⟩ := h x x0 x1
      have o2 : ok2 V P x = true := by rw [f30] at sh; exact bI_0.mp sh
      have g31 : V 31 x ≠ 0 ↔ okFl V P x = true := by rw [f31, o2]; exact bI_0.trans (by simp)
      rw [g31, okFl_i]
      by_cases hp : P x < 0
      · exact ⟨fun _ => nn_neg hp, fun _ => Or.inl hp⟩
      · have rf := rl_facts (fa (P x) (by omega) (by omega))
        rw [nn_step (by omega), ← ih (by omega)]
        constructor
        · rintro (w | ⟨w1, w2, w3⟩)
          · omega
          · exact ⟨⟨fun z => rf.2.2.1.mp z w2, fun z => rf.2.2.2.1.mp z w3⟩, w1⟩
        · rintro ⟨⟨w1, w2⟩, w3⟩
          exact Or.inr ⟨w3, Classical.byContradiction fun z => w1 (rf.2.2.1.mpr z), Classical.byContradiction fun z => w2 (rf.2.2.2.1.mpr z)⟩
    intro k
    induction k with
    | zero =>
      intro x hx x0 x1 sh
      have := hP x x0 x1
      exact step x x0 x1 sh (fun p0 => by omega)
    | succ k ih =>
      intro x hx x0 x1 sh
      have := hP x x0 x1
      exact step x x0 x1 sh (fun p0 => ih (P x) (by omega) p0 (by omega) (((fa x x0 x1).1 sh).2 p0))
  exact fun x x0 x1 sh => key _ x (Nat.le_refl _) x0 x1 sh
/-- what is settled of the elements before e -/
def seI (V p : Hp) (P : Int → Int) (a e : Int) : Prop := ∀ x, 0 ≤ x → x < e → p (a + 4) x = V 30 x ∧ p (a + 5) x = V 31 x ∧ p (a + 6) x = rlF V P x ∧ p (a + 8) x = cntC (V 36) P x e.toNat
theorem c_inNote {S Y V p : Hp} {a sa ya n N E F M n' N' C ns na nsel nb nt m e : Int} {s s' : Int → List Int} (T : CT S Y p a sa ya n N s E F M n' N' s' C ns na nsel nb nt m) (e0 : 0 ≤ e) (e1 : e < E) (hr : ∀ x, 0 ≤ x → x < e → p (a + 6) x = rlF V (S 7) x) :
    Pz (m_X7_isInNote a e p) (fun v => (v = 0 ∧ nnP (rlF V (S 7)) (S 7) e) ∨ (v = 1 ∧ ¬ nnP (rlF V (S 7)) (S 7) e)) := by
  obtain ⟨⟨hL, ha, hs, hy⟩, ⟨p0, p1, p2⟩, R, R', nm⟩ := id T
  have E5 := R.2.2.1.2.2.1
  have k6 := g_X6_6 hL hs
  have i8 := g_X7_8 hL ha
  have par := fun e e0 e1 => (R.2.2.2.1 e e0 e1).2.2
  have pe := par e e0 e1
  unfold m_X7_isInNote
  simp only [p0, (ly_X6 hL hs).1, k6.1, k6.2.1, k6.2.2, (R.2.2.2.1 e e0 e1).2.1]
  refine z_gd trivial (z_gd ⟨by decide, e0, by omega⟩ (z_lt ?_))
  refine z_bind (z_mono (z_lp (Q := fun v => (v = 0 ∧ nnP (rlF V (S 7)) (S 7) e) ∨ (v = 1 ∧ ¬ nnP (rlF V (S 7)) (S 7) e)) (fun y : Int => -1 ≤ y ∧ y < e ∧ ∃ c : Nat, y = itP (S 7) c (S 7 e) ∧ ∀ j, j < c → 0 ≤ itP (S 7) j (S 7 e) ∧ rlF V (S 7) (itP (S 7) j (S 7 e)) ≠ 3 ∧ rlF V (S 7) (itP (S 7) j (S 7 e)) ≠ 7) (fun y => (y + 1).toNat) ⟨by omega, by omega, 0, rfl, fun j hj => absurd hj (by omega)⟩ ?_) (fun r hr => z_some hr))
  rintro y ⟨y0, y1, c, yc, yn⟩
  show Pz (m_X7_isInNote_l10 a y p) _
  unfold m_X7_isInNote_l10
  by_cases hy2 : y < 0
  · refine z_it hy2 (z_some (Or.inl ⟨rfl, fun k hk => ?_⟩))
    rcases Nat.lt_or_ge k c with u | u
    · exact (yn k u).2
    · have := hk c u; omega
  · refine z_ie hy2 ?_
    have bad : (rlF V (S 7) y = 3 ∨ rlF V (S 7) y = 7) → ¬ nnP (rlF V (S 7)) (S 7) e := fun w z => by
      have := z c (fun j hj => by
        by_cases hjc : j = c
        · rw [hjc, ← yc]; omega
        · exact (yn j (by omega)).1)
      rw [← yc] at this
      omega
    simp only [i8.1, i8.2.1, i8.2.2, hr y (by omega) y1, p0, k6.1, k6.2.1, k6.2.2, (R.2.2.2.1 y (by omega) (by omega)).2.1]
    refine z_gd ⟨by decide, by omega, by omega⟩ ?_
    by_cases h3 : rlF V (S 7) y = 3
    · exact z_it h3 (z_some (Or.inr ⟨rfl, bad (Or.inl h3)⟩))
    · refine z_ie h3 ?_
      by_cases h7 : rlF V (S 7) y = 7
      · exact z_ie (fun z => z h7) (z_some (Or.inr ⟨rfl, bad (Or.inr h7)⟩))
      · have py := par y (by omega) (by omega)
        refine z_it h7 (z_gd ⟨by decide, by omega, by omega⟩ (z_lt (z_some ⟨⟨by omega, by omega, c + 1, by rw [itP_step, ← yc], fun j hj => ?_⟩, by omega⟩)))
        by_cases hjc : j = c
        · rw [hjc, ← yc]; exact ⟨by omega, h3, h7⟩
        · exact yn j (by omega)
theorem role_eq {V : Hp} {P : Int → Int} {e sh x y z : Int} (s30 : V 30 e ≠ 0) (hsh : V 24 (22 * e) = sh) (w31 : V 31 e = x) (w35 : V 35 e = y) (w36 : V 36 e = z) (e5 : y ≠ 0 → x ≠ 0) (e6 : z ≠ 0 → x ≠ 0) : m_X7_roleOf sh x y z = some (rlF V P e) := by
  unfold m_X7_roleOf rlF
  rw [hsh, if_neg s30, w31, w35, w36]
  simp only [List.mem_cons, List.not_mem_nil, or_false]
  clear s30 hsh w31 w35 w36
  repeat' split
  all_goals first
    | rfl
    | (exfalso; omega)
/-- rows that seeing e writes -/
def seW (a e p : Int) : Int → Int → Prop := fun b j => ((a + 4 ≤ b ∧ b ≤ a + 6 ∨ b = a + 8) ∧ j = e) ∨ (b = a + 8 ∧ j = p ∧ 0 ≤ p)
theorem c_see {S Y V p : Hp} {a sa ya n N E F M n' N' C ns na nsel nb nt m e : Int} {s s' : Int → List Int} (T : CT S Y p a sa ya n N s E F M n' N' s' C ns na nsel nb nt m) (hF : ∀ x, 0 ≤ x → x < E → FLV V (S 7) x) (e0 : 0 ≤ e) (e1 : e < E) (pr : p (a + 2) (22 * e) = V 24 (22 * e)) (I : seI V p (S 7) a e) :
    Pz (m_X7_see a e p) (fun p' => F2 (seW a e (S 7 e)) p p' ∧ seI V p' (S 7) a (e + 1)) := by
  obtain ⟨⟨hL, ha, hs, hy⟩, ⟨p0, p1, p2⟩, R, R', nm⟩ := id T
  have h7 := aX7 ha
  have h6 := aX6 hs
  have h3 := aX3' hy
  have E5 := R.2.2.1.2.2.1
  have k6 := g_X6_6 hL hs
  have par := fun e e0 e1 => (R.2.2.2.1 e e0 e1).2.2
  have hP : ∀ x, 0 ≤ x → x < E → -1 ≤ S 7 x ∧ S 7 x < x := fun x x0 x1 => ⟨(par x x0 x1).1, (par x x0 x1).2.1⟩
  have fa := FLV.facts hF hP
  have nf := nn_fl hF hP e e0 e1
  have pe := hP e e0 e1
  obtain ⟨f35, f36, -, f30, f31, -, -, -⟩ := hF e e0 e1
  have fe := fa e e0 e1
  have prop : m_X7_property a e 0 p = some (V 24 (22 * e)) := by
    have i4 := g_X7_4 hL ha
    unfold m_X7_property
    rw [if_pos e0]
    simp only [i4.1, i4.2.1, i4.2.2]
    rw [e32 (x := 22 * e) (by omega) (by omega), e32 (x := 22 * e + 0) (by omega) (by omega), gd_t ⟨by decide, by omega, by omega⟩, Int.add_zero, pr]
  generalize hsh : V 24 (22 * e) = sh at *
  have cc : ∀ x, cntC (V 36) (S 7) x (e + 1).toNat = cntC (V 36) (S 7) x e.toNat + (if S 7 e = x ∧ V 36 e ≠ 0 then 1 else 0) := fun x => by
    rw [show (e + 1).toNat = e.toNat + 1 by omega]
    show cntC (V 36) (S 7) x e.toNat + (if S 7 (e.toNat : Int) = x ∧ V 36 (e.toNat : Int) ≠ 0 then 1 else 0) = _
    rw [show ((e.toNat : Nat) : Int) = e by omega]
  have cz : cntC (V 36) (S 7) e e.toNat = 0 := cntC_0 _ (fun j j0 j1 => by have := hP j j0 (by omega); omega)
  -- the last part
  have last : ∀ (q : Hp) (o2 rw_ cl : Bool), o2 = ok2 V (S 7) e → rw_ = isTb V (S 7) e → cl = isRw V (S 7) e → F2 (fun b j => b = a + 8 ∧ j = S 7 e ∧ 0 ≤ S 7 e) p q → (0 ≤ S 7 e → q (a + 8) (S 7 e) = cntC (V 36) (S 7) (S 7 e) e.toNat + (if V 36 e ≠ 0 then 1 else 0)) → Pz (m_X7_see_j184 a e sh (bI rw_) (bI cl) (bI o2) q) (fun p' => F2 (seW a e (S 7 e)) p p' ∧ seI V p' (S 7) a (e + 1)) := by
    intro q o2 rw_ cl ho hr hc Fq q8
    have Tq := T.kept (Fq.mono (fun b j z => by omega))
    have L1 := Tq.1.1
    have i6 := g_X7_6 L1 ha
    unfold m_X7_see_j184
    simp only [i6.1, i6.2.1, i6.2.2]
    refine z_gd ⟨by decide, e0, by omega⟩ (z_pt ?_)
    have T2 := Tq.kept (p' := up q (a + 4) e (bI o2)) (F2.refl.put (by omega))
    have i10 := g_X7_10 T2.1.1 ha
    simp only [i10.1, i10.2.1, i10.2.2]
    refine z_gd ⟨by decide, e0, by omega⟩ (z_pt ?_)
    have T3 := T2.kept (p' := up (up q (a + 4) e (bI o2)) (a + 8) e 0) (F2.refl.put (by omega))
    have F3 : F2 (seW a e (S 7 e)) p (up (up q (a + 4) e (bI o2)) (a + 8) e 0) := ((Fq.mono (fun b j z => by unfold seW; omega)).put (by unfold seW; omega)).put (by unfold seW; omega)
    have v4 : up (up q (a + 4) e (bI o2)) (a + 8) e 0 (a + 4) e = V 30 e := by rw [up_a (by omega), up_s, f30, ho]
    have v8 : up (up q (a + 4) e (bI o2)) (a + 8) e 0 (a + 8) e = 0 := up_s _ _ _ _
    have v8p : 0 ≤ S 7 e → up (up q (a + 4) e (bI o2)) (a + 8) e 0 (a + 8) (S 7 e) = cntC (V 36) (S 7) (S 7 e) e.toNat + (if V 36 e ≠ 0 then 1 else 0) := fun z => by rw [up_j (by omega), up_a (by omega)]; exact q8 z
    have vx : ∀ b x, x < e → ¬ (b = a + 8 ∧ x = S 7 e) → up (up q (a + 4) e (bI o2)) (a + 8) e 0 b x = p b x := fun b x hx nb => by rw [up_i (by omega), up_i (by omega), Fq _ _ (by omega)]
    generalize up (up q (a + 4) e (bI o2)) (a + 8) e 0 = g at *
    refine z_bind (z_mono (c_inNote (V := V) T3 e0 e1 (fun x x0 x1 => by rw [vx _ _ x1 (by omega)]; exact (I x x0 x1).2.2.1)) (fun v hv => ?_))
    -- free is known
    have fin : ∀ fr : Bool, (o2 = true → (fr = true ↔ V 31 e ≠ 0)) → Pz (m_X7_see_j212 a e sh (bI o2) (bI rw_) (bI cl) (bI fr) g) (fun p' => F2 (seW a e (S 7 e)) p p' ∧ seI V p' (S 7) a (e + 1)) := by
      intro fr hf
      have i7 := g_X7_7 T3.1.1 ha
      have v31 : V 31 e = bI (o2 && fr) := by
        cases hq : o2 with
        | false => rw [f31, ← ho, hq]; rfl
        | true =>
          have := hf hq
          cases hfr : fr with
          | true =>
            rw [hfr] at this
            have w := this.mp rfl
            rw [f31, ← ho, hq] at w ⊢
            rw [bI_0.mp w]; rfl
          | false =>
            rw [hfr] at this
            exact Classical.byContradiction fun w => absurd (this.mpr (fun z => w (by rw [z]; rfl))) (by decide)
      have rol : ∀ z, z = bI (o2 && fr) → Pz (m_X7_see_j234 (bI fr) (bI cl) a e sh (bI o2) (bI rw_) (a + 5) z g) (fun p' => F2 (seW a e (S 7 e)) p p' ∧ seI V p' (S 7) a (e + 1)) := by
        intro z hz
        unfold m_X7_see_j234
        refine z_gd ⟨by rw [i7.2.1]; decide, e0, by rw [i7.2.2]; omega⟩ (z_pt ?_)
        have T4 := T3.kept (p' := up g (a + 5) e z) (F2.refl.put (by omega))
        have i8 := g_X7_8 T4.1.1 ha
        simp only [i8.1, i8.2.1, i8.2.2]
        have put : ∀ r, r = rlF V (S 7) e → F2 (seW a e (S 7 e)) p (up (up g (a + 5) e z) (a + 6) e r) ∧ seI V (up (up g (a + 5) e z) (a + 6) e r) (S 7) a (e + 1) := by
          intro r hr'
          refine ⟨(F3.put (by unfold seW; omega)).put (by unfold seW; omega), fun x x0 x1 => ?_⟩
          rw [cc]
          by_cases hx : x = e
          · subst hx
            rw [if_neg (by omega), cz]
            refine ⟨?_, ?_, ?_, ?_⟩
            · rw [up_a (by omega), up_a (by omega)]; exact v4
            · rw [up_a (by omega), up_s, hz, v31]
            · rw [up_s]; exact hr'
            · rw [up_a (by omega), up_a (by omega)]; exact v8
          · have ix := I x x0 (by omega)
            rw [up_i hx, up_i hx, up_i hx, up_i hx, up_i hx, up_i hx, up_i hx, up_i hx, vx _ _ (by omega) (by omega), vx _ _ (by omega) (by omega), vx _ _ (by omega) (by omega)]
            refine ⟨ix.1, ix.2.1, ix.2.2.1, ?_⟩
            by_cases hp : x = S 7 e
            · rw [hp, v8p (by omega)]
              by_cases w : V 36 e ≠ 0
              · rw [if_pos w, if_pos ⟨rfl, w⟩]
              · rw [if_neg w, if_neg (fun y => w y.2)]
            · rw [if_neg (fun y => hp y.1.symm), Int.add_zero, vx _ _ (by omega) (by omega)]; exact ix.2.2.2
        cases hq : o2 with
        | false =>
          refine z_it rfl (z_gd ⟨by decide, e0, by omega⟩ (z_pt (z_some (put 2 ?_))))
          unfold rlF
          rw [if_pos (by rw [f30, ← ho, hq]; rfl)]
        | true =>
          refine z_ie (by decide) ?_
          have s30 : V 30 e ≠ 0 := by rw [f30, ← ho, hq]; decide
          have w31 : V 31 e = bI fr := by rw [v31, hq]; rfl
          have w35 : V 35 e = bI rw_ := by
            have o1 : ok1 V (S 7) e = true := (ok2_i.mp (by rw [← ho]; exact hq)).1
            rw [f35, o1, hr]; simp
          have w36 : V 36 e = bI cl := by rw [f36, ← ho, hq, hc]; simp
          have e5 := fe.2.2.2.2.1
          have e6 := fe.2.2.2.2.2
          rw [w31, w35] at e5
          rw [w31, w36] at e6
          have rof : m_X7_roleOf sh (bI fr) (bI rw_) (bI cl) = some (rlF V (S 7) e) := role_eq s30 hsh w31 w35 w36 (fun z => (e5 z).2.2) (fun z => (e6 z).2.2)
          rw [rof, Option.bind_some]
          exact z_gd ⟨by decide, e0, by omega⟩ (z_pt (z_some (put _ rfl)))
      unfold m_X7_see_j212 m_X7_see_j233
      simp only [i7.1]
      cases hq : o2 with
      | false => rw [hq] at rol; exact z_it rfl (rol 0 (by simp [bI]))
      | true =>
        rw [hq] at rol
        refine z_ie (by decide) ?_
        cases hfr : fr with
        | false => rw [hfr] at rol; exact z_it rfl (rol 0 rfl)
        | true => rw [hfr] at rol; exact z_ie (by decide) (rol 1 rfl)
    rcases hv with ⟨rfl, hv⟩ | ⟨rfl, hv⟩
    · refine z_ie (fun z => z rfl) (fin true (fun hq => ⟨fun _ => ?_, fun _ => rfl⟩))
      exact (nf (by rw [f30, ← ho, hq]; decide)).mpr hv
    · refine z_it (by decide) (fin false (fun hq => ⟨fun z => absurd z (by decide), fun z => ?_⟩))
      exact absurd ((nf (by rw [f30, ← ho, hq]; decide)).mp z) hv
  have o2i : ok2 V (S 7) e = (ok1 V (S 7) e && (!isRw V (S 7) e || (decide (sh = 7) && decide (cntC (V 36) (S 7) (S 7 e) e.toNat < 8)))) := by unfold ok2; rw [hsh]
  have o1i : ok1 V (S 7) e = (ok0 V (S 7) e && (!isTb V (S 7) e || decide (sh = 6))) := by unfold ok1; rw [hsh]
  -- cells
  have j135 : Pz (m_X7_see_j135 (bI (isRw V (S 7) e)) (bI (isTb V (S 7) e)) a e (S 7 e) sh (bI (ok1 V (S 7) e)) p) (fun p' => F2 (seW a e (S 7 e)) p p' ∧ seI V p' (S 7) a (e + 1)) := by
    unfold m_X7_see_j135
    cases hc : isRw V (S 7) e with
    | false =>
      rw [hc] at o2i
      refine z_it rfl ?_
      have := last p (ok1 V (S 7) e) (isTb V (S 7) e) false (by rw [o2i]; simp) rfl hc.symm F2.refl (fun z => by
        rw [if_neg (by rw [f36, hc]; simp [bI]), Int.add_zero]
        exact (I (S 7 e) z (by omega)).2.2.2)
      exact this
    | true =>
      rw [hc] at o2i
      refine z_ie (by decide) ?_
      have p0' : 0 ≤ S 7 e := (isRw_i.mp hc).1
      have ip := (I (S 7 e) p0' (by omega)).2.2.2
      have no : ok2 V (S 7) e = false → Pz (m_X7_see_j167 a e (S 7 e) sh (bI (isTb V (S 7) e)) (bI true) 0 p) (fun p' => F2 (seW a e (S 7 e)) p p' ∧ seI V p' (S 7) a (e + 1)) := by
        intro ho
        unfold m_X7_see_j167
        refine z_it rfl ?_
        exact last p false (isTb V (S 7) e) true ho.symm rfl hc.symm F2.refl (fun z => by
          rw [if_neg (by rw [f36, ho]; simp [bI]), Int.add_zero]; exact ip)
      unfold m_X7_see_j166
      cases h1 : ok1 V (S 7) e with
      | false => exact z_it rfl (no (by rw [o2i, h1]; rfl))
      | true =>
        refine z_ie (by decide) ?_
        by_cases s7 : sh = 7
        · refine z_ie (fun z => z s7) ?_
          have i10 := g_X7_10 hL ha
          simp only [i10.1, i10.2.1, i10.2.2, ip]
          refine z_gd ⟨by decide, p0', by omega⟩ ?_
          by_cases c8 : 8 ≤ cntC (V 36) (S 7) (S 7 e) e.toNat
          · exact z_it c8 (no (by rw [o2i, h1]; simp; omega))
          · refine z_ie c8 ?_
            have ho : ok2 V (S 7) e = true := by rw [o2i, h1]; simp [s7]; omega
            have cr := cntC_r (c := V 36) (P := S 7) (x := S 7 e) e.toNat
            unfold m_X7_see_j167
            refine z_ie (by decide) ?_
            simp only [i10.1, i10.2.1, i10.2.2, ip]
            refine z_gd ⟨by decide, p0', by omega⟩ (z_pt ?_)
            rw [e32 (x := cntC (V 36) (S 7) (S 7 e) e.toNat + 1) (by omega) (by omega)]
            exact last _ true (isTb V (S 7) e) true ho.symm rfl hc.symm (F2.refl.put ⟨rfl, rfl, p0'⟩) (fun z => by
              rw [up_s, if_pos (by rw [f36, ho, hc]; decide)])
        · exact z_it s7 (no (by rw [o2i, h1]; simp [s7]))
  -- rows
  have j110 : Pz (m_X7_see_j110 (bI (isTb V (S 7) e)) (bI (ok0 V (S 7) e)) a e (S 7 e) sh (bI (isRw V (S 7) e)) p) (fun p' => F2 (seW a e (S 7 e)) p p' ∧ seI V p' (S 7) a (e + 1)) := by
    unfold m_X7_see_j110 m_X7_see_j132 m_X7_see_j133
    cases ht : isTb V (S 7) e with
    | false =>
      rw [ht] at o1i j135
      refine z_it rfl ?_
      rw [o1i] at j135
      simpa using j135
    | true =>
      rw [ht] at o1i j135
      refine z_ie (by decide) ?_
      cases h0 : ok0 V (S 7) e with
      | false =>
        rw [o1i, h0] at j135
        exact z_it rfl j135
      | true =>
        rw [o1i, h0] at j135
        refine z_ie (by decide) ?_
        by_cases s6 : sh = 6
        · rw [decide_eq_true s6] at j135
          exact z_ie (fun z => z s6) j135
        · rw [decide_eq_false s6] at j135
          exact z_it s6 j135
  have j83 : ∀ ov, (ov = 5 ↔ isTb V (S 7) e = true) → (ov = 6 ↔ isRw V (S 7) e = true) → Pz (m_X7_see_j83 ov sh a e (S 7 e) (bI (ok0 V (S 7) e)) p) (fun p' => F2 (seW a e (S 7 e)) p p' ∧ seI V p' (S 7) a (e + 1)) := by
    intro ov h5 h6'
    unfold m_X7_see_j83 m_X7_see_j96
    have j96 : ∀ z, z = bI (isTb V (S 7) e) → Pz (if ov ≠ 6 then m_X7_see_j110 z (bI (ok0 V (S 7) e)) a e (S 7 e) sh 0 p else m_X7_see_j110 z (bI (ok0 V (S 7) e)) a e (S 7 e) sh 1 p) (fun p' => F2 (seW a e (S 7 e)) p p' ∧ seI V p' (S 7) a (e + 1)) := by
      intro z hz
      rw [hz]
      cases hc : isRw V (S 7) e with
      | false =>
        rw [hc] at j110 h6'
        exact z_it (fun w => absurd (h6'.mp w) (by decide)) j110
      | true =>
        rw [hc] at j110 h6'
        exact z_ie (fun w => w (h6'.mpr rfl)) j110
    cases ht : isTb V (S 7) e with
    | false =>
      rw [ht] at j96 h5
      exact z_it (fun w => absurd (h5.mp w) (by decide)) (j96 0 rfl)
    | true =>
      rw [ht] at j96 h5
      exact z_ie (fun w => w (h5.mpr rfl)) (j96 1 rfl)
  unfold m_X7_see
  simp only [p0, (ly_X6 hL hs).1, k6.1, k6.2.1, k6.2.2, (R.2.2.2.1 e e0 e1).2.1]
  refine z_gd trivial (z_gd ⟨by decide, e0, by omega⟩ (z_lt ?_))
  rw [prop, Option.bind_some]
  have i8 := g_X7_8 hL ha
  have i6 := g_X7_6 hL ha
  have f0 : ok0 V (S 7) e = false → ∀ ov, (ov = 5 ↔ isTb V (S 7) e = true) → (ov = 6 ↔ isRw V (S 7) e = true) → Pz (m_X7_see_j83 ov sh a e (S 7 e) 0 p) (fun p' => F2 (seW a e (S 7 e)) p p' ∧ seI V p' (S 7) a (e + 1)) := fun h0 ov g1 g2 => by
    have := j83 ov g1 g2
    rw [h0] at this; exact this
  have f1 : ok0 V (S 7) e = true → ∀ ov, (ov = 5 ↔ isTb V (S 7) e = true) → (ov = 6 ↔ isRw V (S 7) e = true) → Pz (m_X7_see_j83 ov sh a e (S 7 e) 1 p) (fun p' => F2 (seW a e (S 7 e)) p p' ∧ seI V p' (S 7) a (e + 1)) := fun h0 ov g1 g2 => by
    have := j83 ov g1 g2
    rw [h0] at this; exact this
  by_cases hp : 0 ≤ S 7 e
  · refine z_it hp ?_
    have rf := rl_facts (fa (S 7 e) hp (by omega))
    have ip := I (S 7 e) hp (by omega)
    simp only [i8.1, i8.2.1, i8.2.2, ip.2.2.1]
    refine z_gd ⟨by decide, hp, by omega⟩ ?_
    have g1 : rlF V (S 7) (S 7 e) = 5 ↔ isTb V (S 7) e = true := by rw [rf.1, isTb_i]; exact ⟨fun z => ⟨hp, z⟩, fun z => z.2⟩
    have g2 : rlF V (S 7) (S 7 e) = 6 ↔ isRw V (S 7) e = true := by rw [rf.2.1, isRw_i]; exact ⟨fun z => ⟨hp, z⟩, fun z => z.2⟩
    have rm := rf.2.2.2.2
    generalize rlF V (S 7) (S 7 e) = ov at *
    unfold m_X7_see_j31 m_X7_see_j82 m_X7_see_j51
    by_cases s2 : sh = 2
    · exact z_it s2 (f0 (by unfold ok0; rw [hsh]; simp [s2]) ov g1 g2)
    · refine z_ie s2 (z_ie (by omega) ?_)
      simp only [i6.1, i6.2.1, i6.2.2, ip.1]
      refine z_gd ⟨by decide, hp, by omega⟩ ?_
      by_cases s30 : V 30 (S 7 e) = 0
      · exact z_it s30 (f0 (by unfold ok0; rw [hsh]; simp [s30]; intro _; omega) ov g1 g2)
      · refine z_ie s30 ?_
        have rm' := rm s30
        unfold m_X7_see_j82
        cases hm : muF (V 24 (22 * S 7 e)) with
        | true =>
          rw [hm] at rm'
          have z0 := f0 (by unfold ok0; rw [hsh, hm]; simp; intro _; omega) ov g1 g2
          have w := rm'.mpr rfl
          refine z_if (fun _ => z0) (fun _ => z_if (fun _ => z0) (fun _ => z_if (fun _ => z0) (fun _ => z_if (fun _ => z0) (fun _ => ?_))))
          omega
        | false =>
          rw [hm] at rm'
          have nw_ : ¬ (ov = 8 ∨ ov = 9 ∨ ov = 4 ∨ ov = 10) := fun z => absurd (rm'.mp z) (by decide)
          refine z_ie (by omega) (z_ie (by omega) (z_ie (by omega) (z_ie (by omega) (f1 ?_ ov g1 g2))))
          unfold ok0; rw [hsh, hm]; simp [s2, s30]
  · refine z_ie hp ?_
    have nt : ¬ isTb V (S 7) e = true := fun z => hp (isTb_i.mp z).1
    have nr : ¬ isRw V (S 7) e = true := fun z => hp (isRw_i.mp z).1
    have g1 : (1 : Int) = 5 ↔ isTb V (S 7) e = true := ⟨fun z => absurd z (by decide), fun z => absurd z nt⟩
    have g2 : (1 : Int) = 6 ↔ isRw V (S 7) e = true := ⟨fun z => absurd z (by decide), fun z => absurd z nr⟩
    unfold m_X7_see_j31 m_X7_see_j82 m_X7_see_j51
    by_cases s2 : sh = 2
    · exact z_it s2 (f0 (by unfold ok0; rw [hsh]; simp [s2]) 1 g1 g2)
    · refine z_ie s2 (z_it (by omega) (z_ie (by decide) (z_ie (by decide) (z_ie (by decide) (z_ie (by decide) (f1 ?_ 1 g1 g2))))))
      unfold ok0; rw [hsh]; simp [s2]; omega
