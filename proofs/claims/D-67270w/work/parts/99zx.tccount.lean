set_option maxRecDepth 100000
/-! TREES: the component's side: counters, order -/
theorem c_count {S Y V p : Hp} {a sa ya n N E F M n' N' C ns na nsel nb nt m : Int} {s s' : Int → List Int} (T : CT S Y p a sa ya n N s E F M n' N' s' C ns na nsel nb nt m) (pr : ∀ e, 0 ≤ e → e < E → prC Y V p a ya n' m e) (sh : ∀ e, 0 ≤ e → e < E → p (a + 4) e = V 30 e) (rg : ∀ e, 0 ≤ e → e < E → 0 ≤ V 24 (22 * e + 15) ∧ V 24 (22 * e + 15) ≤ 12 ∧ 0 ≤ V 24 (22 * e + 16) ∧ V 24 (22 * e + 16) ≤ 12) :
    Pz (m_X7_count a p) (fun p' => F2 (fun b j => (b = a + 7 ∨ b = a + 12) ∧ 0 ≤ j) p p' ∧ ∀ e, 0 ≤ e → e < E → p' (a + 7) e = vlF (V 30) (V 24) e) := by
  obtain ⟨⟨hL, ha, hs, hy⟩, ⟨p0, p1, p2⟩, R, R', nm⟩ := id T
  have h7 := aX7 ha
  have h3 := aX3' hy
  have E0 := R.2.2.1.2.1
  have E5 := R.2.2.1.2.2.1
  unfold m_X7_count
  refine z_lt (z_bind (z_fill (g := fun _ => 0) (n := 13) (d := a + 12) (s := 0) (by decide) (fun x q x0 x1 Fq => ?_) (fun g Fg Eg => ?_)))
  · have Tq := T.kept (Fq.mono (fun b j z => by omega))
    have i15 := g_X7_15 Tq.1.1 ha
    show m_X7_count_l2 a x q = _
    unfold m_X7_count_l2
    simp only [i15.1, i15.2.1, i15.2.2]
    rw [gd_t ⟨by decide, by decide⟩, if_neg (by omega), gd_t ⟨by decide, x0, by omega⟩, pt_e, lt_e, e32 (x := x + 1) (by omega) (by omega), Int.zero_add]
  · have Tg := T.kept (Fg.mono (fun b j z => by omega))
    have i15 := g_X7_15 Tg.1.1 ha
    have Fg' : F2 (fun b j => (b = a + 7 ∨ b = a + 12) ∧ 0 ≤ j) p g := Fg.mono (fun b j z => by omega)
    show Pz (m_X7_count_l2 a 13 g) _
    unfold m_X7_count_l2
    simp only [i15.1, i15.2.1, i15.2.2]
    refine z_gd ⟨by decide, by decide⟩ (z_it (by decide) (z_some (z_lt ?_)))
    refine z_bind (z_mono (z_lp (Q := fun p' => F2 (fun b j => (b = a + 7 ∨ b = a + 12) ∧ 0 ≤ j) p p' ∧ ∀ e, 0 ≤ e → e < E → p' (a + 7) e = vlF (V 30) (V 24) e) (fun (s : Int × Hp) => 0 ≤ s.1 ∧ s.1 ≤ E ∧ F2 (fun b j => (b = a + 7 ∨ b = a + 12) ∧ 0 ≤ j) p s.2 ∧ (∀ e, 0 ≤ e → e < s.1 → s.2 (a + 7) e = vlF (V 30) (V 24) e) ∧ ∀ j, 1 ≤ j → j ≤ 12 → s.2 (a + 12) j = ctS (V 30) (V 24) s.1.toNat j) (fun s => (E - s.1).toNat) ⟨Int.le_refl _, E0, Fg', fun e z0 z1 => by dsimp only at z1; omega, fun j j0 j1 => by
      have := Eg j (by omega) (by omega)
      rw [Int.zero_add] at this
      exact this⟩ ?_) (fun r hr => z_some hr))
    rintro ⟨x, q⟩ ⟨x0, x1, Fq, Eq, Gq⟩
    dsimp only at x0 x1 Eq Gq
    replace Fq : F2 (fun b j => (b = a + 7 ∨ b = a + 12) ∧ 0 ≤ j) p q := Fq
    have Tq := T.kept (Fq.mono (fun b j z => by omega))
    obtain ⟨⟨Lq, -⟩, ⟨q0, q1, q2⟩, -⟩ := id Tq
    show Pz (m_X7_count_l26 a x q) _
    unfold m_X7_count_l26
    rw [q2]
    by_cases hx : E ≤ x
    · have : x = E := by omega
      subst this
      exact z_it hx (z_some ⟨Fq, Eq⟩)
    · refine z_ie hx ?_
      simp only [g_X7_9 Lq ha]
      refine z_gd ⟨by decide, x0, by omega⟩ (z_pt ?_)
      have F1 : F2 (fun b j => (b = a + 7 ∨ b = a + 12) ∧ 0 ≤ j) p (up q (a + 7) x 0) := Fq.put ⟨Or.inl rfl, x0⟩
      have T1 := T.kept (F1.mono (fun b j z => by omega))
      have L1 := T1.1.1
      have tx : (x + 1).toNat = x.toNat + 1 := by omega
      have ex : ((x.toNat : Nat) : Int) = x := by omega
      have r := rg x x0 (by omega)
      have q30 : up q (a + 7) x 0 (a + 4) x = V 30 x := by rw [F1 _ _ (by omega)]; exact sh x x0 (by omega)
      have of_ : ∀ c, 0 ≤ c → c ≤ 21 → c ≠ 17 → m_X7_property a x c (up q (a + 7) x 0) = some (V 24 (22 * x + c)) := fun c c0 c1 c2 => by
        rw [q_prop7 (V := V) T1 (by omega) (fun z => (pr x x0 (by omega)).kept (fun c' z0 z1 => F1 _ _ (by omega)) (F1 _ _ (by omega)) (F1.row (fun j z => by omega))) c0 c1 c2 (Or.inr x0)]
        unfold ofV
        rw [if_pos x0]
      have st : ∀ j, ctS (V 30) (V 24) (x + 1).toNat j = if V 30 x ≠ 0 then (if 0 < V 24 (22 * x + 15) ∧ j = V 24 (22 * x + 15) then (if 0 < V 24 (22 * x + 16) ∧ j = V 24 (22 * x + 16) then 0 else ctS (V 30) (V 24) x.toNat j) + 1 else (if 0 < V 24 (22 * x + 16) ∧ j = V 24 (22 * x + 16) then 0 else ctS (V 30) (V 24) x.toNat j)) else ctS (V 30) (V 24) x.toNat j := fun j => by
        rw [tx]
        show (if V 30 (x.toNat : Int) ≠ 0 then _ else _) = _
        rw [ex]
      have fin : ∀ q' : Hp, F2 (fun b j => (b = a + 7 ∧ j = x) ∨ (b = a + 12 ∧ 0 ≤ j)) q q' → q' (a + 7) x = vlF (V 30) (V 24) x → (∀ j, 1 ≤ j → j ≤ 12 → q' (a + 12) j = ctS (V 30) (V 24) (x + 1).toNat j) → Pz (m_X7_count_j106 x q') (sE (fun (s : Int × Hp) => (0 ≤ s.1 ∧ s.1 ≤ E ∧ F2 (fun b j => (b = a + 7 ∨ b = a + 12) ∧ 0 ≤ j) p s.2 ∧ (∀ e, 0 ≤ e → e < s.1 → s.2 (a + 7) e = vlF (V 30) (V 24) e) ∧ ∀ j, 1 ≤ j → j ≤ 12 → s.2 (a + 12) j = ctS (V 30) (V 24) s.1.toNat j) ∧ (E - s.1).toNat < (E - x).toNat) (fun p' => F2 (fun b j => (b = a + 7 ∨ b = a + 12) ∧ 0 ≤ j) p p' ∧ ∀ e, 0 ≤ e → e < E → p' (a + 7) e = vlF (V 30) (V 24) e)) := by
        intro q' f1 f2 f3
        unfold m_X7_count_j106
        rw [lt_e, e32 (x := x + 1) (by omega) (by omega)]
        refine z_some ⟨⟨by dsimp only; omega, by dsimp only; omega, Fq.trans (f1.mono (fun b j z => by omega)), fun e e0 e1 => ?_, f3⟩, by dsimp only; omega⟩
        dsimp only at e1 ⊢
        by_cases he : e = x
        · rw [he]; exact f2
        · rw [f1 _ _ (by omega)]; exact Eq e e0 (by omega)
      have i6 := g_X7_6 L1 ha
      simp only [i6.1, i6.2.1, i6.2.2, q30]
      refine z_gd ⟨by decide, x0, by omega⟩ ?_
      by_cases hsx : V 30 x = 0
      · refine z_ie (fun z => z hsx) (fin _ (F2.refl.put (Or.inl ⟨rfl, rfl⟩)) ?_ (fun j j0 j1 => ?_))
        · rw [up_s]; unfold vlF; rw [if_neg (fun z => z.1 hsx)]
        · rw [st, if_neg (fun z => z hsx), up_a (by omega)]; exact Gq j j0 j1
      · refine z_it hsx ?_
        rw [of_ 16 (by decide) (by decide) (by decide), Option.bind_some, of_ 15 (by decide) (by decide) (by decide), Option.bind_some]
        have v : vlF (V 30) (V 24) x = if 0 < V 24 (22 * x + 15) then ctS (V 30) (V 24) (x + 1).toNat (V 24 (22 * x + 15)) else 0 := by
          unfold vlF
          rw [← tx]
          by_cases z : 0 < V 24 (22 * x + 15)
          · rw [if_pos ⟨hsx, z⟩, if_pos z]
          · rw [if_neg (fun y => z y.2), if_neg z]
        simp only [if_pos hsx] at st
        generalize V 24 (22 * x + 15) = sp at *
        generalize V 24 (22 * x + 16) = rs at *
        have j82 : ∀ q' : Hp, F2 (fun b j => (b = a + 7 ∧ j = x) ∨ (b = a + 12 ∧ 0 ≤ j)) q q' → q' (a + 7) x = 0 → (∀ j, 1 ≤ j → j ≤ 12 → q' (a + 12) j = if 0 < rs ∧ j = rs then 0 else ctS (V 30) (V 24) x.toNat j) → Pz (m_X7_count_j80 sp x a q') (sE (fun (s : Int × Hp) => (0 ≤ s.1 ∧ s.1 ≤ E ∧ F2 (fun b j => (b = a + 7 ∨ b = a + 12) ∧ 0 ≤ j) p s.2 ∧ (∀ e, 0 ≤ e → e < s.1 → s.2 (a + 7) e = vlF (V 30) (V 24) e) ∧ ∀ j, 1 ≤ j → j ≤ 12 → s.2 (a + 12) j = ctS (V 30) (V 24) s.1.toNat j) ∧ (E - s.1).toNat < (E - x).toNat) (fun p' => F2 (fun b j => (b = a + 7 ∨ b = a + 12) ∧ 0 ≤ j) p p' ∧ ∀ e, 0 ≤ e → e < E → p' (a + 7) e = vlF (V 30) (V 24) e)) := by
          intro q' f1 f2 f3
          have T' := Tq.kept (f1.mono (fun b j z => by omega))
          have L' := T'.1.1
          unfold m_X7_count_j80
          by_cases hsp : sp ≤ 0
          · refine z_it hsp (fin q' f1 ?_ (fun j j0 j1 => ?_))
            · rw [f2, v, if_neg (by omega)]
            · rw [st, if_neg (by omega)]; exact f3 j j0 j1
          · refine z_ie hsp ?_
            have k24 := g_X7_15 L' ha
            have f4 := f3 sp (by omega) (by omega)
            have cr := ctS_r (sh := V 30) (f := V 24) (j := sp) x.toNat
            simp only [k24.1, k24.2.1, k24.2.2, f4]
            have ifr : 0 ≤ (if 0 < rs ∧ sp = rs then 0 else ctS (V 30) (V 24) x.toNat sp) ∧ (if 0 < rs ∧ sp = rs then 0 else ctS (V 30) (V 24) x.toNat sp) ≤ 500 := by
              split <;> omega
            have s1 := st sp
            rw [if_pos (show 0 < sp ∧ sp = sp from ⟨by omega, rfl⟩)] at s1
            generalize (if 0 < rs ∧ sp = rs then 0 else ctS (V 30) (V 24) x.toNat sp) = cv at *
            refine z_gd ⟨by decide, by omega, by omega⟩ (z_pt ?_)
            rw [e32 (x := cv + 1) (by omega) (by omega)]
            have L2 := (T'.kept (p' := up q' (a + 12) sp (cv + 1)) (F2.refl.put (by omega))).1.1
            have k24' := g_X7_15 L2 ha
            have k6' := g_X7_9 L2 ha
            simp only [k24'.1, k24'.2.1, k24'.2.2, k6'.1, k6'.2.1, k6'.2.2, up_s]
            refine z_gd ⟨by decide, by omega, by omega⟩ (z_gd ⟨by decide, x0, by omega⟩ (z_pt (fin _ ((f1.put (Or.inr ⟨rfl, by omega⟩)).put (Or.inl ⟨rfl, rfl⟩)) ?_ (fun j j0 j1 => ?_))))
            · rw [up_s, v, if_pos (by omega), s1]
            · rw [up_a (by omega)]
              by_cases hj : j = sp
              · rw [hj, up_s, s1]
              · rw [up_j hj, st, if_neg (fun z => hj z.2)]; exact f3 j j0 j1
        by_cases hrs : rs ≤ 0
        · refine z_it hrs (j82 _ (F2.refl.put (Or.inl ⟨rfl, rfl⟩)) (up_s _ _ _ _) (fun j j0 j1 => ?_))
          rw [up_a (by omega), if_neg (by omega)]; exact Gq j j0 j1
        · refine z_ie hrs ?_
          have k24 := g_X7_15 L1 ha
          simp only [k24.1, k24.2.1, k24.2.2]
          refine z_gd ⟨by decide, by omega, by omega⟩ (z_pt (j82 _ ((F2.refl.put (Or.inl ⟨rfl, rfl⟩)).put (Or.inr ⟨rfl, by omega⟩)) ?_ (fun j j0 j1 => ?_)))
          · rw [up_a (by omega), up_s]
          · by_cases hj : j = rs
            · rw [hj, up_s, if_pos ⟨by omega, rfl⟩]
            · rw [up_j hj, up_a (by omega), if_neg (fun z => hj z.2)]; exact Gq j j0 j1
/-- the element an event stands in, or is -/
def arF (S : Hp) (k : Int) : Int := if S 2 k = 1 then S 3 k else cuP (S 2) (S 3) (S 7) k.toNat
theorem c_order {S Y p : Hp} {a sa ya n N E F M n' N' C ns na nsel nb nt m : Int} {s s' : Int → List Int} (T : CT S Y p a sa ya n N s E F M n' N' s' C ns na nsel nb nt m) :
    Pz (m_X7_order a p) (fun p' => F2 (fun b j => (b = a + 13 ∨ b = a + 14) ∧ 0 ≤ j) p p' ∧ (∀ e, 0 ≤ e → e < E → p' (a + 13) e = S 11 e) ∧ ∀ k, 0 ≤ k → k < M → p' (a + 14) k = arF S k) := by
  obtain ⟨⟨hL, ha, hs, hy⟩, ⟨p0, p1, p2⟩, R, R', nm⟩ := id T
  have h7 := aX7 ha
  have h6 := aX6 hs
  have E5 := R.2.2.1.2.2.1
  have n1 := R.1.2.1
  have M0 := R.2.2.2.2.2.1.2.1
  have M1 := R.2.2.2.2.2.1.2.2.1
  have ev := R.2.2.2.2.2.1.2.2.2
  have bg := R.2.2.2.2.2.2.1
  have cuR := R.2.2.2.2.2.2.2.1
  have cuE := R.2.2.2.2.2.2.2.2
  unfold m_X7_order
  refine z_lt (z_lt (z_bind (z_mono (z_lp (Q := fun p' => F2 (fun b j => (b = a + 13 ∨ b = a + 14) ∧ 0 ≤ j) p p' ∧ (∀ e, 0 ≤ e → e < E → S 11 e < M → p' (a + 13) e = S 11 e) ∧ ∀ k, 0 ≤ k → k < M → p' (a + 14) k = arF S k) (fun (t : Int × Int × Hp) => 0 ≤ t.2.1 ∧ t.2.1 ≤ M ∧ t.1 = cuP (S 2) (S 3) (S 7) t.2.1.toNat ∧ F2 (fun b j => (b = a + 13 ∨ b = a + 14) ∧ 0 ≤ j) p t.2.2 ∧ (∀ e, 0 ≤ e → e < E → S 11 e < t.2.1 → t.2.2 (a + 13) e = S 11 e) ∧ ∀ k, 0 ≤ k → k < t.2.1 → t.2.2 (a + 14) k = arF S k) (fun t => (M - t.2.1).toNat) ⟨Int.le_refl _, M0, rfl, F2.refl, fun e z0 z1 z2 => by have := (bg e z0 z1).1; dsimp only at z2; omega, fun k z0 z1 => by dsimp only at z1; omega⟩ ?_) (fun r hr => z_some ⟨hr.1, fun e z0 z1 => hr.2.1 e z0 z1 (by have := bg e z0 z1; omega), hr.2.2⟩))))
  rintro ⟨o, x, q⟩ ⟨x0, x1, eo, Fq, Eq, Gq⟩
  dsimp only at x0 x1 eo Eq Gq
  replace Fq : F2 (fun b j => (b = a + 13 ∨ b = a + 14) ∧ 0 ≤ j) p q := Fq
  have Tq := T.kept (Fq.mono (fun b j z => by omega))
  obtain ⟨⟨Lq, -⟩, ⟨q0, q1, q2⟩, R1, -⟩ := id Tq
  show Pz (m_X7_order_l4 a o x q) _
  unfold m_X7_order_l4
  simp only [q0, (ly_X6 Lq hs).1, R1.2.2.2.2.2.1.1]
  refine z_gd trivial ?_
  by_cases hx : M ≤ x
  · have : x = M := by omega
    subst this
    exact z_it hx (z_some ⟨Fq, Eq, Gq⟩)
  · refine z_ie hx ?_
    have k21 := g_X6_21 Lq hs
    have k22 := g_X6_22 Lq hs
    have ex := R1.2.2.2.2.2.1.2.2.2 x x0 (by omega)
    have xn : ((x.toNat : Nat) : Int) = x := by omega
    have tx : (x + 1).toNat = x.toNat + 1 := by omega
    have cu : cuP (S 2) (S 3) (S 7) (x + 1).toNat = if S 2 x = 1 then S 3 x else if S 2 x = 2 then S 7 o else o := by
      rw [tx, cuP_step, xn, ← eo]
    have or_ := cuR x.toNat (by omega)
    rw [← eo] at or_
    have ce := cuE x.toNat (by omega)
    rw [xn, ← eo] at ce
    -- the second half
    have j44 : ∀ (o' : Int) (g : Hp), o' = arF S x → -1 ≤ o' → o' < E → F2 (fun b j => b = a + 13 ∧ 0 ≤ j) q g → (∀ e, 0 ≤ e → e < E → S 11 e < x + 1 → g (a + 13) e = S 11 e) → Pz (m_X7_order_j44 a x o' g) (sE (fun (t : Int × Int × Hp) => (0 ≤ t.2.1 ∧ t.2.1 ≤ M ∧ t.1 = cuP (S 2) (S 3) (S 7) t.2.1.toNat ∧ F2 (fun b j => (b = a + 13 ∨ b = a + 14) ∧ 0 ≤ j) p t.2.2 ∧ (∀ e, 0 ≤ e → e < E → S 11 e < t.2.1 → t.2.2 (a + 13) e = S 11 e) ∧ ∀ k, 0 ≤ k → k < t.2.1 → t.2.2 (a + 14) k = arF S k) ∧ (M - t.2.1).toNat < (M - x).toNat) (fun p' => F2 (fun b j => (b = a + 13 ∨ b = a + 14) ∧ 0 ≤ j) p p' ∧ (∀ e, 0 ≤ e → e < E → S 11 e < M → p' (a + 13) e = S 11 e) ∧ ∀ k, 0 ≤ k → k < M → p' (a + 14) k = arF S k)) := by
      intro o' g ho' o0 o1 Fg Eg
      have Tg := Tq.kept (Fg.mono (fun b j z => by omega))
      have i17 := g_X7_17 Tg.1.1 ha
      unfold m_X7_order_j44
      simp only [i17.1, i17.2.1, i17.2.2]
      refine z_gd ⟨by decide, x0, by omega⟩ (z_pt ?_)
      have T2 := Tg.kept (p' := up g (a + 14) x o') (F2.refl.put (by omega))
      obtain ⟨⟨L2, -⟩, ⟨u0, u1, u2⟩, R2, -⟩ := id T2
      have k21' := g_X6_21 L2 hs
      have k6' := g_X6_6 L2 hs
      have ex2 := R2.2.2.2.2.2.1.2.2.2 x x0 (by omega)
      have fin : ∀ o2, o2 = cuP (S 2) (S 3) (S 7) (x + 1).toNat → Pz (m_X7_order_j74 x o2 (up g (a + 14) x o')) (sE (fun (t : Int × Int × Hp) => (0 ≤ t.2.1 ∧ t.2.1 ≤ M ∧ t.1 = cuP (S 2) (S 3) (S 7) t.2.1.toNat ∧ F2 (fun b j => (b = a + 13 ∨ b = a + 14) ∧ 0 ≤ j) p t.2.2 ∧ (∀ e, 0 ≤ e → e < E → S 11 e < t.2.1 → t.2.2 (a + 13) e = S 11 e) ∧ ∀ k, 0 ≤ k → k < t.2.1 → t.2.2 (a + 14) k = arF S k) ∧ (M - t.2.1).toNat < (M - x).toNat) (fun p' => F2 (fun b j => (b = a + 13 ∨ b = a + 14) ∧ 0 ≤ j) p p' ∧ (∀ e, 0 ≤ e → e < E → S 11 e < M → p' (a + 13) e = S 11 e) ∧ ∀ k, 0 ≤ k → k < M → p' (a + 14) k = arF S k)) := by
        intro o2 ho2
        unfold m_X7_order_j74
        rw [lt_e, e32 (x := x + 1) (by omega) (by omega)]
        refine z_some ⟨⟨by dsimp only; omega, by dsimp only; omega, ho2, (Fq.trans (Fg.mono (fun b j z => by omega))).put ⟨Or.inr rfl, x0⟩, fun e e0 e1 e2 => ?_, fun k z0 z1 => ?_⟩, by dsimp only; omega⟩
        · dsimp only at e2 ⊢
          rw [up_a (by omega)]; exact Eg e e0 e1 e2
        · dsimp only at z1 ⊢
          by_cases hk : k = x
          · rw [hk, up_s]; exact ho'
          · rw [up_j hk, Fg _ _ (by omega)]; exact Gq k z0 (by omega)
      simp only [u0, (ly_X6 L2 hs).1, k21'.1, k21'.2.1, k21'.2.2]
      refine z_gd trivial (z_gd ⟨by decide, x0, by omega⟩ ?_)
      by_cases h1 : up g (a + 14) x o' (sa + 20) x = 1
      · have s2 : S 2 x = 2 := by
          rcases ex2 with z | z | z | z <;> omega
        have oo : o' = o := by rw [ho']; unfold arF; rw [if_neg (by omega), ← eo]
        have oz : 0 ≤ o := by
          have := ce.2 s2
          rcases ex2 with z | z | z | z <;> omega
        refine z_ie (fun z => z h1) ?_
        have oz' : 0 ≤ o' := by omega
        have wp := (R2.2.2.2.1 o' oz' o1).2.1
        simp only [k6'.1, k6'.2.1, k6'.2.2, wp]
        refine z_gd ⟨by decide, oz', by omega⟩ (z_lt ?_)
        exact fin _ (by rw [cu, if_neg (by omega), if_pos s2, oo])
      · refine z_it h1 (fin o' ?_)
        rw [cu, ho']
        unfold arF
        by_cases s1 : S 2 x = 1
        · rw [if_pos s1, if_pos s1]
        · rw [if_neg s1, if_neg s1, if_neg (by rcases ex2 with z | z | z | z <;> omega), ← eo]
    simp only [k21.1, k21.2.1, k21.2.2]
    refine z_gd ⟨by decide, x0, by omega⟩ ?_
    by_cases h0 : q (sa + 20) x = 0
    · have s1 : S 2 x = 1 ∧ q (sa + 21) x = S 3 x ∧ 0 ≤ S 3 x ∧ S 3 x < E ∧ S 11 (S 3 x) = x := by
        rcases ex with z | z | z | z
        · exact ⟨z.2.1, z.2.2.1, z.2.2.2.1, z.2.2.2.2.1, z.2.2.2.2.2⟩
        · omega
        · omega
        · omega
      refine z_ie (fun z => z h0) ?_
      have i16 := g_X7_16 Lq ha
      simp only [k22.1, k22.2.1, k22.2.2, s1.2.1, i16.1, i16.2.1, i16.2.2]
      refine z_gd ⟨by decide, x0, by omega⟩ (z_lt (z_gd ⟨by decide, s1.2.2.1, by omega⟩ (z_pt (j44 _ _ (by unfold arF; rw [if_pos s1.1]) (by omega) s1.2.2.2.1 (F2.refl.put ⟨rfl, s1.2.2.1⟩) (fun e e0 e1 e2 => ?_)))))
      by_cases he : e = S 3 x
      · rw [he, up_s]; exact s1.2.2.2.2.symm
      · rw [up_j he]
        have nx : S 11 e ≠ x := fun z => by
          have := (bg e e0 e1).2.2.2.2.1
          rw [z] at this; exact he this.symm
        exact Eq e e0 e1 (by omega)
    · have s1 : S 2 x ≠ 1 := by rcases ex with z | z | z | z <;> omega
      refine z_it h0 (j44 o q (by unfold arF; rw [if_neg s1, ← eo]) or_.1 or_.2 F2.refl (fun e e0 e1 e2 => ?_))
      have nx : S 11 e ≠ x := fun z => by
        have := (bg e e0 e1).2.2.2.1
        rw [z] at this; exact s1 this
      exact Eq e e0 e1 (by omega)
