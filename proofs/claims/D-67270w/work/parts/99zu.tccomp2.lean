set_option maxRecDepth 100000
/-! TREES: the component's side: properties of an element, all of it -/
theorem q_inh7 (p : Int) : m_X7_inherits p = some (bI (inhP p)) := by
  unfold m_X7_inherits inhP
  repeat' split
  all_goals first
    | (have : (p = 1 ∨ p = 2 ∨ p = 3 ∨ p = 8 ∨ p = 9 ∨ p = 10 ∨ p = 11 ∨ p = 12 ∨ p = 14 ∨ p = 18) := by omega
       rw [decide_eq_true this]; rfl)
    | (have : ¬ (p = 1 ∨ p = 2 ∨ p = 3 ∨ p = 8 ∨ p = 9 ∨ p = 10 ∨ p = 11 ∨ p = 12 ∨ p = 14 ∨ p = 18) := by omega
       rw [decide_eq_false this]; rfl)
theorem q_first7 (p : Int) : m_X7_first p = some (if p = 0 then 1 else if p = 17 then -1 else begV p) := by
  unfold m_X7_first begV
  simp only [List.mem_cons, List.not_mem_nil, or_false]
  repeat' split
  all_goals first
    | rfl
    | (exfalso; omega)
/-- an element's properties, component and tree V -/
def lbC (Y V p : Hp) (a ya n' m e : Int) : Prop := (p (a + 2) (22 * e + 17) = -1 ∧ V 24 (22 * e + 17) = 0 ∧ V 25 e = 0 ∧ V 26 e = 0 ∧ p (a + 3) e = 0) ∨ (V 24 (22 * e + 17) = 1 ∧ stO (p (ya + 12)) (Y 1) n' m (p (a + 2) (22 * e + 17)) (p (a + 3) e) (V 25 e) (V 26 e))
def prC (Y V p : Hp) (a ya n' m e : Int) : Prop := (∀ c, 0 ≤ c → c ≤ 21 → c ≠ 17 → p (a + 2) (22 * e + c) = V 24 (22 * e + c)) ∧ lbC Y V p a ya n' m e
theorem prC.kept {Y V p p' : Hp} {a ya n' m e : Int} (h : prC Y V p a ya n' m e) (k : ∀ c, 0 ≤ c → c ≤ 21 → p' (a + 2) (22 * e + c) = p (a + 2) (22 * e + c)) (k3 : p' (a + 3) e = p (a + 3) e) (ky : p' (ya + 12) = p (ya + 12)) : prC Y V p' a ya n' m e := by
  obtain ⟨h1, h2⟩ := h
  refine ⟨fun c c0 c1 c2 => by rw [k c c0 c1]; exact h1 c c0 c1 c2, ?_⟩
  unfold lbC at *
  rw [k 17 (by decide) (by decide), k3, ky]
  exact h2
/-- a property of an element, or of none -/
theorem q_prop7 {S Y V p : Hp} {a sa ya n N E F M n' N' C ns na nsel nb nt m e c : Int} {s s' : Int → List Int} (T : CT S Y p a sa ya n N s E F M n' N' s' C ns na nsel nb nt m) (e1 : e < E) (h : 0 ≤ e → prC Y V p a ya n' m e) (c0 : 0 ≤ c) (c1 : c ≤ 21) (c17 : c ≠ 17) (cz : c ≠ 0 ∨ 0 ≤ e) : m_X7_property a e c p = some (ofV (V 24) e c) := by
  obtain ⟨⟨hL, ha, hs, hy⟩, -, R, -⟩ := T
  have E5 := R.2.2.1.2.2.1
  have i4 := g_X7_4 hL ha
  unfold m_X7_property ofV
  by_cases e0 : 0 ≤ e
  · rw [if_pos e0, if_pos e0]
    simp only [i4.1, i4.2.1, i4.2.2]
    rw [e32 (x := 22 * e) (by omega) (by omega), e32 (x := 22 * e + c) (by omega) (by omega), gd_t ⟨by decide, by omega, by omega⟩, (h e0).1 c c0 c1 c17]
  · rw [if_neg e0, if_neg e0, q_first7, Option.bind_some, if_neg (by omega), if_neg c17]
theorem lcmp_ge {x y : Int} : 0 ≤ lcmp_ x y ↔ y ≤ x := by
  unfold lcmp_
  repeat' split
  all_goals omega
theorem lcmp_le {x y : Int} : lcmp_ x y ≤ 0 ↔ x ≤ y := by
  unfold lcmp_
  repeat' split
  all_goals omega
/-- the properties out of the declarations that count -/
theorem c_props {S Y V p : Hp} {a sa ya n N E F M n' N' C ns na nsel nb nt m e : Int} {s s' : Int → List Int} (T : CT S Y p a sa ya n N s E F M n' N' s' C ns na nsel nb nt m) (hPV : PV S Y E M nsel (V 24)) (h25 : V 25 e = (if 0 ≤ (slF S Y E M e 17 nsel.toNat).1 then Y 19 (slF S Y E M e 17 nsel.toNat).1 else 0)) (h26 : V 26 e = (if 0 ≤ (slF S Y E M e 17 nsel.toNat).1 then Y 20 (slF S Y E M e 17 nsel.toNat).1 else 0)) (e0 : 0 ≤ e) (e1 : e < E) (pr : ∀ x, 0 ≤ x → x < e → prC Y V p a ya n' m x) (d : bsD p a (fun c => slF S Y E M e c nsel.toNat)) :
    Pz (lp (fun (q : Int × Hp) => m_X7_compute_l66 a e (S 7 e) q.1 q.2) (0, p)) (fun p' => F2 (fun b j => (b = a + 2 ∧ 22 * e ≤ j ∧ j < 22 * e + 22) ∨ (b = a + 3 ∧ j = e)) p p' ∧ prC Y V p' a ya n' m e) := by
  obtain ⟨⟨hL, ha, hs, hy⟩, ⟨p0, p1, p2⟩, R, R', nm⟩ := id T
  have h7 := aX7 ha
  have h3 := aX3' hy
  have E5 := R.2.2.1.2.2.1
  have na_ := R'.2.1
  have pe := (R.2.2.2.1 e e0 e1).2.2
  have sz := PV.size (f := V 24) (K := E) R R' (fun x x0 x1 => hPV x 1 x0 x1 (by decide) (by decide)) (Int.le_refl _) (S 7 e) (by omega)
  refine z_lp (fun (q : Int × Hp) => 0 ≤ q.1 ∧ q.1 ≤ 22 ∧ F2 (fun b j => (b = a + 2 ∧ 22 * e ≤ j ∧ j < 22 * e + 22) ∨ (b = a + 3 ∧ j = e)) p q.2 ∧ (∀ c, 0 ≤ c → c < q.1 → c ≠ 17 → q.2 (a + 2) (22 * e + c) = V 24 (22 * e + c)) ∧ (17 < q.1 → lbC Y V q.2 a ya n' m e)) (fun q => (22 - q.1).toNat) ⟨Int.le_refl _, by dsimp only; omega, F2.refl, fun c z0 z1 => by dsimp only at z1; omega, fun z => by dsimp only at z; omega⟩ ?_
  rintro ⟨c, q⟩ ⟨c0, c1, Fq, Eq, Lq⟩
  dsimp only at c0 c1 Eq Lq
  replace Fq : F2 (fun b j => (b = a + 2 ∧ 22 * e ≤ j ∧ j < 22 * e + 22) ∨ (b = a + 3 ∧ j = e)) p q := Fq
  have Tq := T.kept (Fq.mono (fun b j z => by omega))
  obtain ⟨⟨hL1, -⟩, ⟨q0, q1, q2⟩, R1, R1', -⟩ := id Tq
  show Pz (m_X7_compute_l66 a e (S 7 e) c q) _
  unfold m_X7_compute_l66
  by_cases hc : 22 ≤ c
  · have : c = 22 := by omega
    subst this
    exact z_it hc (z_some ⟨Fq, fun c z0 z1 z2 => Eq c z0 (by omega) z2, Lq (by decide)⟩)
  · refine z_ie hc ?_
    have i13 := g_X7_13 hL1 ha
    have dcr := slF_r (S := S) (E := E) (M := M) (e := e) (p := c) R' nsel.toNat (by omega)
    have dc : q (a + 10) c = (slF S Y E M e c nsel.toNat).1 := by rw [Fq _ _ (by omega)]; exact (d c c0 (by omega)).1
    have pv := hPV e c e0 e1 c0 (by omega)
    have h25' : c = 17 → V 25 e = (if 0 ≤ (slF S Y E M e c nsel.toNat).1 then Y 19 (slF S Y E M e c nsel.toNat).1 else 0) := fun z => by rw [z]; exact h25
    have h26' : c = 17 → V 26 e = (if 0 ≤ (slF S Y E M e c nsel.toNat).1 then Y 20 (slF S Y E M e c nsel.toNat).1 else 0) := fun z => by rw [z]; exact h26
    generalize slF S Y E M e c nsel.toNat = dw at *
    have prq : ∀ x, 0 ≤ x → x < e → prC Y V q a ya n' m x := fun x x0 x1 => (pr x x0 x1).kept (fun c' z0 z1 => Fq _ _ (by omega)) (Fq _ _ (by omega)) (Fq.row (fun j z => by omega))
    have prp : ∀ c', 0 ≤ c' → c' ≤ 21 → c' ≠ 17 → c' ≠ 0 → m_X7_property a (S 7 e) c' q = some (ofV (V 24) (S 7 e) c') := fun c' z0 z1 z2 z3 => q_prop7 (V := V) Tq (by omega) (fun z => prq _ z (by omega)) z0 z1 z2 (Or.inl z3)
    have i4 := g_X7_4 hL1 ha
    -- the end of a turn
    have fin : ∀ q', F2 (fun b j => (b = a + 2 ∧ j = 22 * e + c) ∨ (b = a + 3 ∧ j = e ∧ c = 17)) q q' → (c ≠ 17 → q' (a + 2) (22 * e + c) = V 24 (22 * e + c)) → (c = 17 → lbC Y V q' a ya n' m e) → Pz (m_X7_compute_j252 c q') (sE (fun (s : Int × Hp) => (0 ≤ s.1 ∧ s.1 ≤ 22 ∧ F2 (fun b j => (b = a + 2 ∧ 22 * e ≤ j ∧ j < 22 * e + 22) ∨ (b = a + 3 ∧ j = e)) p s.2 ∧ (∀ c, 0 ≤ c → c < s.1 → c ≠ 17 → s.2 (a + 2) (22 * e + c) = V 24 (22 * e + c)) ∧ (17 < s.1 → lbC Y V s.2 a ya n' m e)) ∧ (22 - s.1).toNat < (22 - c).toNat) (fun p' => F2 (fun b j => (b = a + 2 ∧ 22 * e ≤ j ∧ j < 22 * e + 22) ∨ (b = a + 3 ∧ j = e)) p p' ∧ prC Y V p' a ya n' m e)) := by
      intro q' f1 f2 f3
      unfold m_X7_compute_j252
      rw [lt_e, e32 (x := c + 1) (by omega) (by omega)]
      refine z_some ⟨⟨by dsimp only; omega, by dsimp only; omega, Fq.trans (f1.mono (fun b j z => by omega)), fun c' z0 z1 z2 => ?_, fun z => ?_⟩, by dsimp only; omega⟩
      · dsimp only at z1 ⊢
        by_cases hcc : c' = c
        · rw [hcc]; exact f2 (by omega)
        · rw [f1 _ _ (by omega)]; exact Eq c' z0 (by omega) z2
      · dsimp only at z ⊢
        by_cases hcc : c = 17
        · exact f3 hcc
        · have := Lq (by omega)
          unfold lbC at *
          have r1 : q' (ya + 12) = q (ya + 12) := f1.row (fun j z => by omega)
          rw [f1 (a + 2) (22 * e + 17) (by omega), f1 (a + 3) e (by omega), r1]
          exact this
    -- a value is noted
    have note : ∀ v, (c ≠ 17 → v = V 24 (22 * e + c)) → (c = 17 → dw.1 < 0 ∧ v = -1 ∨ 0 ≤ dw.1 ∧ v = q (ya + 24) dw.1) → Pz (m_X7_compute_j203 dw.1 a e c v q) (sE (fun (s : Int × Hp) => (0 ≤ s.1 ∧ s.1 ≤ 22 ∧ F2 (fun b j => (b = a + 2 ∧ 22 * e ≤ j ∧ j < 22 * e + 22) ∨ (b = a + 3 ∧ j = e)) p s.2 ∧ (∀ c, 0 ≤ c → c < s.1 → c ≠ 17 → s.2 (a + 2) (22 * e + c) = V 24 (22 * e + c)) ∧ (17 < s.1 → lbC Y V s.2 a ya n' m e)) ∧ (22 - s.1).toNat < (22 - c).toNat) (fun p' => F2 (fun b j => (b = a + 2 ∧ 22 * e ≤ j ∧ j < 22 * e + 22) ∨ (b = a + 3 ∧ j = e)) p p' ∧ prC Y V p' a ya n' m e)) := by
      intro v hv hl
      unfold m_X7_compute_j203
      rw [e32 (x := 22 * e) (by omega) (by omega), e32 (x := 22 * e + c) (by omega) (by omega)]
      simp only [i4.1, i4.2.1, i4.2.2]
      refine z_gd ⟨by decide, by omega, by omega⟩ (z_pt ?_)
      have F3 : F2 (fun b j => (b = a + 2 ∧ j = 22 * e + c) ∨ (b = a + 3 ∧ j = e ∧ c = 17)) q (up q (a + 2) (22 * e + c) v) := F2.refl.put (Or.inl ⟨rfl, rfl⟩)
      by_cases h17 : c = 17
      · refine z_ie (fun z => z h17) ?_
        have T3 := Tq.kept (F3.mono (fun b j z => by omega))
        obtain ⟨⟨hL3, -⟩, ⟨u0, u1, u2⟩, -, R3', -⟩ := id T3
        have i5 := g_X7_5 hL3 ha
        have pv17 : V 24 (22 * e + 17) = pvE S Y (V 24) e 17 dw.1 := by rw [← h17]; exact pv
        have put : ∀ z, lbC Y V (up (up q (a + 2) (22 * e + c) v) (a + 3) e z) a ya n' m e → Pz (m_X7_compute_j251 e c (a + 3) z (up q (a + 2) (22 * e + c) v)) (sE (fun (s : Int × Hp) => (0 ≤ s.1 ∧ s.1 ≤ 22 ∧ F2 (fun b j => (b = a + 2 ∧ 22 * e ≤ j ∧ j < 22 * e + 22) ∨ (b = a + 3 ∧ j = e)) p s.2 ∧ (∀ c, 0 ≤ c → c < s.1 → c ≠ 17 → s.2 (a + 2) (22 * e + c) = V 24 (22 * e + c)) ∧ (17 < s.1 → lbC Y V s.2 a ya n' m e)) ∧ (22 - s.1).toNat < (22 - c).toNat) (fun p' => F2 (fun b j => (b = a + 2 ∧ 22 * e ≤ j ∧ j < 22 * e + 22) ∨ (b = a + 3 ∧ j = e)) p p' ∧ prC Y V p' a ya n' m e)) := by
          intro z hz
          unfold m_X7_compute_j251
          exact z_gd ⟨by rw [i5.2.1]; decide, e0, by rw [i5.2.2]; omega⟩ (z_pt (fin _ (F3.put (Or.inr ⟨rfl, rfl, h17⟩)) (fun w => absurd h17 w) (fun _ => hz)))
        have w17 : ∀ z, up (up q (a + 2) (22 * e + c) v) (a + 3) e z (a + 2) (22 * e + 17) = v := fun z => by rw [up_a (by omega), h17, up_s]
        have wy : ∀ z, up (up q (a + 2) (22 * e + c) v) (a + 3) e z (ya + 12) = q (ya + 12) := fun z => by rw [up_row (by omega), up_row (by omega)]
        unfold m_X7_compute_j250
        have h25'' := h25' h17
        have h26'' := h26' h17
        rcases hl h17 with ⟨l1, l2⟩ | ⟨l1, l2⟩
        · rw [if_neg (by omega)] at h25'' h26''
          refine z_it l1 ?_
          rw [i5.1]
          refine put 0 (Or.inl ⟨by rw [w17]; exact l2, ?_, h25'', h26'', up_s _ _ _ _⟩)
          rw [pv17]; unfold pvE; rw [if_pos l1]; rfl
        · rw [if_pos l1] at h25'' h26''
          rcases dcr with r | ⟨r1, r2, r3, r4⟩
          · rw [r] at l1; exact absurd l1 (by decide)
          · obtain ⟨g1, -, -, -, g5, -⟩ := R1'.2.2.2.2.2.2.2.2.2.2.1 dw.1 r1 r2
            rw [r4, h17] at g1
            have pvv : V 24 (22 * e + 17) = Y 18 dw.1 := by
              rw [pv17]; unfold pvE; rw [if_neg (by omega), if_neg (fun z => absurd z.1 (by decide))]
            refine z_ie (by omega) ?_
            rcases g5 g1 with ⟨g6, g7, g8, g9⟩ | ⟨g6, g7, -⟩
            · refine z_it (by omega) ?_
              rw [i5.1]
              refine put 0 (Or.inl ⟨by rw [w17, l2]; exact g6, by rw [pvv]; exact g7, by rw [h25'']; exact g8, by rw [h26'']; exact g9, up_s _ _ _ _⟩)
            · refine z_ie (by have := g7.1; omega) ?_
              have j18 := g_X3_18 hL3 hy
              have q25 : up q (a + 2) (22 * e + c) v (ya + 25) dw.1 = q (ya + 25) dw.1 := up_a (by omega)
              simp only [u1, (ly_X3 hL3 hy).1, j18.1, j18.2.1, j18.2.2, q25, i5.1]
              refine z_gd trivial (z_gd ⟨by decide, r1, by omega⟩ (put _ (Or.inr ⟨by rw [pvv]; exact g6, ?_⟩)))
              rw [w17, wy, up_s, l2, h25'', h26'']
              exact g7
      · exact z_it h17 (fin _ F3 (fun _ => by rw [up_s]; exact hv h17) (fun z => absurd z h17))
    -- sizes
    have j126 : ∀ v, (dw.1 < 0 → (c ≠ 17 → v = V 24 (22 * e + c)) ∧ (c = 17 → v = -1)) → (0 ≤ dw.1 → v = q (ya + 24) dw.1) → Pz (m_X7_compute_j126 dw.1 c a e (S 7 e) v q) (sE (fun (s : Int × Hp) => (0 ≤ s.1 ∧ s.1 ≤ 22 ∧ F2 (fun b j => (b = a + 2 ∧ 22 * e ≤ j ∧ j < 22 * e + 22) ∨ (b = a + 3 ∧ j = e)) p s.2 ∧ (∀ c, 0 ≤ c → c < s.1 → c ≠ 17 → s.2 (a + 2) (22 * e + c) = V 24 (22 * e + c)) ∧ (17 < s.1 → lbC Y V s.2 a ya n' m e)) ∧ (22 - s.1).toNat < (22 - c).toNat) (fun p' => F2 (fun b j => (b = a + 2 ∧ 22 * e ≤ j ∧ j < 22 * e + 22) ∨ (b = a + 3 ∧ j = e)) p p' ∧ prC Y V p' a ya n' m e)) := by
      intro v hv1 hv2
      unfold m_X7_compute_j126
      by_cases hd : dw.1 < 0
      · obtain ⟨hv3, hv4⟩ := hv1 hd
        have nt_ := note v hv3 (fun z => Or.inl ⟨hd, hv4 z⟩)
        by_cases h1 : c = 1
        · exact z_ie (fun z => z h1) (z_it hd nt_)
        · exact z_it h1 nt_
      · rcases dcr with r | ⟨r1, r2, r3, r4⟩
        · rw [r] at hd; exact absurd (by decide) hd
        · have hv3 := hv2 r1
          obtain ⟨g1, -, -, g4, -, g6⟩ := R1'.2.2.2.2.2.2.2.2.2.2.1 dw.1 r1 r2
          rw [r4] at g1
          have pvd : V 24 (22 * e + c) = if c = 1 ∧ Y 18 dw.1 < 0 then clampS (Int.tdiv (ofV (V 24) (S 7 e) 1 * -(Y 18 dw.1)) 100) else Y 18 dw.1 := by
            rw [pv]; unfold pvE; rw [if_neg hd]
          by_cases h1 : c = 1
          · refine z_ie (fun z => z h1) (z_ie hd ?_)
            have j19 := g_X3_19 hL1 hy
            simp only [q1, (ly_X3 hL1 hy).1, j19.1, j19.2.1, j19.2.2]
            refine z_gd trivial (z_gd ⟨by decide, r1, by omega⟩ ?_)
            rcases g4 (by omega) with ⟨s1, s2, s3, s4⟩ | ⟨s1, s2, s3, s4⟩
            · refine z_ie s1 ?_
              rw [prp 1 (by decide) (by decide) (by decide) (by decide), Option.bind_some, hv3]
              rw [if_pos ⟨h1, by omega⟩, show -(Y 18 dw.1) = q (ya + 24) dw.1 by omega] at pvd
              have prr : 0 ≤ ofV (V 24) (S 7 e) 1 * q (ya + 24) dw.1 ∧ ofV (V 24) (S 7 e) 1 * q (ya + 24) dw.1 ≤ 100000 * 1000 := by
                constructor
                · exact Int.mul_nonneg (by omega) (by omega)
                · exact Int.mul_le_mul sz.2 (by omega) (by omega) (by decide)
              generalize ofV (V 24) (S 7 e) 1 * q (ya + 24) dw.1 = pp at *
              rw [e64 (x := pp) (by omega) (by omega)]
              have td : Int.tdiv pp 100 = pp / 100 := Int.tdiv_eq_ediv_of_nonneg prr.1
              rw [td] at pvd ⊢
              rw [e64 (x := pp / 100) (by omega) (by omega)]
              refine z_lt ?_
              unfold clampS at pvd
              unfold m_X7_compute_j200
              by_cases g1' : 1000 ≤ pp / 100
              · rw [if_pos g1'] at pvd
                refine z_it (lcmp_ge.mpr g1') ?_
                by_cases g2 : pp / 100 ≤ 100000
                · rw [if_pos g2] at pvd
                  refine z_it (lcmp_le.mpr g2) ?_
                  rw [lt_e, e32 (x := pp / 100) (by omega) (by omega)]
                  exact note _ (fun _ => pvd.symm) (fun z => by omega)
                · rw [if_neg g2] at pvd
                  refine z_ie (fun z => g2 (lcmp_le.mp z)) ?_
                  rw [lt_e, e32 (x := 100000) (by decide) (by decide)]
                  exact note _ (fun _ => pvd.symm) (fun z => by omega)
              · rw [if_neg g1'] at pvd
                refine z_ie (fun z => g1' (lcmp_ge.mp z)) ?_
                rw [lt_e, e32 (x := 1000) (by decide) (by decide)]
                exact note _ (fun _ => pvd.symm) (fun z => by omega)
            · refine z_it s1 (note v (fun _ => ?_) (fun z => by omega))
              rw [pvd, if_neg (by omega), hv3]; omega
          · refine z_it h1 (note v (fun h17 => ?_) (fun _ => Or.inr ⟨r1, hv3⟩))
            rw [pvd, if_neg (fun z => h1 z.1), hv3]
            exact (g6 (by omega) (by omega)).1.symm
    simp only [i13.1, i13.2.1, i13.2.2, dc]
    refine z_gd ⟨by decide, c0, by omega⟩ (z_lt ?_)
    by_cases hd : dw.1 < 0
    · refine z_it hd ?_
      rw [q_inh7, Option.bind_some]
      have pvd : V 24 (22 * e + c) = if inhP c = true then ofV (V 24) (S 7 e) c else begV c := by
        rw [pv]; unfold pvE; rw [if_pos hd]
      by_cases hi : inhP c = true
      · rw [hi]
        rw [if_pos hi] at pvd
        have ci := of_decide_eq_true hi
        refine z_ie (by decide) ?_
        rw [prp c c0 (by omega) (by omega) (by omega), Option.bind_some]
        exact j126 _ (fun _ => ⟨fun _ => pvd.symm, fun z => by omega⟩) (fun z => by omega)
      · have hi' : inhP c = false := by simpa using hi
        rw [hi']
        rw [if_neg hi] at pvd
        refine z_it rfl ?_
        by_cases hc0 : c = 0
        · refine z_ie (fun z => z hc0) (j126 0 (fun _ => ⟨fun _ => ?_, fun z => by omega⟩) (fun z => by omega))
          rw [pvd, hc0]; rfl
        · refine z_it hc0 ?_
          rw [q_first7, Option.bind_some, if_neg hc0]
          refine j126 _ (fun _ => ⟨fun z => ?_, fun z => ?_⟩) (fun z => by omega)
          · rw [if_neg z]; exact pvd.symm
          · rw [if_pos z]
    · refine z_ie hd ?_
      rcases dcr with r | ⟨r1, r2, r3, r4⟩
      · rw [r] at hd; exact absurd (by decide) hd
      · have j17 := g_X3_17 hL1 hy
        simp only [q1, (ly_X3 hL1 hy).1, j17.1, j17.2.1, j17.2.2]
        exact z_gd trivial (z_gd ⟨by decide, r1, by omega⟩ (j126 _ (fun z => absurd z hd) (fun _ => rfl)))
