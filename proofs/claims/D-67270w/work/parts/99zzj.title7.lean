set_option maxRecDepth 100000
/-! TITLES: a label is said, the reference -/
theorem t_digs24 {q : Hp} {l : Int} {D : List Int} {s : List Int × Bool} (hL : LAY q) (hl : l ∈ in_aX24) (B : ttR q l s) (hD : dgH q l D.length D) (lD : D.length ≤ 18) (by_ : ∀ c ∈ D, 0 ≤ c ∧ c ≤ 127) :
    Pz (lp (fun (x : Int × Hp) => m_X24_sayLabel_l71 l D.length x.1 x.2) (0, q)) (fun q' => F2 (ttV l) q q' ∧ ttR q' l (ttL s D)) := by
  have h24 := aX24 hl
  refine z_lp (fun (t : Int × Hp) => ∃ x : Nat, t.1 = x ∧ x ≤ D.length ∧ F2 (ttV l) q t.2 ∧ ttR t.2 l (ttL s (D.take x))) (fun t => ((D.length : Int) - t.1).toNat) ⟨0, rfl, Nat.zero_le _, F2.refl, B⟩ ?_
  rintro ⟨y, g⟩ ⟨x, ey, x1, Fg, Bg⟩
  dsimp only at ey Bg
  subst ey
  replace Fg : F2 (ttV l) q g := Fg
  have Lg := ttV_l hL hl Fg
  have k25 := g_X24_25 Lg hl
  show Pz (m_X24_sayLabel_l71 l D.length x g) _
  unfold m_X24_sayLabel_l71
  simp only [k25.1, k25.2.1, k25.2.2]
  by_cases hx : (D.length : Int) ≤ x
  · have : x = D.length := by omega
    subst this
    rw [List.take_length] at Bg
    exact z_it hx (z_some ⟨Fg, Bg⟩)
  · have ex := (wd_eq rfl).mp hD.2 x (by omega)
    rw [Int.zero_add, ← Fg (l + 46) x (by unfold ttV; omega)] at ex
    have rg := by_ _ (List.mem_of_getElem? ex)
    refine z_ie hx (z_gd ⟨by decide, by omega, by omega⟩ (z_bind (z_mono (t_say Lg hl Bg (by omega) (by omega)) (fun g' hg => z_lt (z_some ?_)))))
    rw [e32 (by omega) (by omega)]
    refine ⟨⟨x + 1, by dsimp only; omega, by omega, Fg.trans hg.1, ?_⟩, by dsimp only; omega⟩
    dsimp only
    rw [take_at ex, ttL_app]
    exact hg.2
theorem t_sayLabel {S Y q p' : Hp} {l a' n n' N' E M C ns na nsel nb nt m e : Int} {s' : Int → List Int} {t : List Int × Bool} (T : TK S Y q l n E M nsel) (R' : YA Y p' a' n' N' s' C ns na nsel nb nt m) (E5 : E ≤ 500) (e0 : 0 ≤ e) (e1 : e < E) (sh : q (l + 30) e ≠ 0) (B : ttR q l t) :
    Pz (m_X24_sayLabel l e q) (fun q' => F2 (slW l) q q' ∧ ttR q' l (ttL t (lbS Y (vw q l) e))) := by
  have lr := lb_rng R' T.2.2.1 e0 e1
  have vr := vl_rng (T.2.2.1.2.2.2 e e0 e1).2.2.2.2 e1 E5 e0
  have K := T
  obtain ⟨⟨hL, hl⟩, -, ⟨V1, -, -, V4⟩, w⟩ := T
  have h24 := aX24 hl
  have k6 := g_X24_6 hL hl
  unfold m_X24_sayLabel
  rw [q_hasLabel24 hL hl e0 (by omega) sh, Option.bind_some]
  by_cases hm : mtF (vw q l) e = true
  · have : lbS Y (vw q l) e = [] := by unfold lbS; rw [if_pos hm]
    rw [this, hm, Bool.not_true, Bool.and_false]
    exact z_ie (by decide) (z_some ⟨F2.refl, B⟩)
  · have el : lbS Y (vw q l) e = (wr (Y 1) (q (l + 25) e) (q (l + 26) e)).flatMap (lbB (vw q l) e) := by unfold lbS; rw [if_neg hm]; rfl
    replace hm : mtF (vw q l) e = false := by simpa using hm
    rw [el, hm]
    by_cases hlt : q (l + 25) e < q (l + 26) e
    · rw [decide_eq_true hlt]
      replace lr : 0 ≤ q (l + 25) e ∧ q (l + 25) e ≤ q (l + 26) e ∧ q (l + 26) e ≤ n' := by
        rcases lr with z | ⟨z1, z2⟩
        · exact z
        · replace z1 : q (l + 25) e = 0 := z1
          replace z2 : q (l + 26) e = 0 := z2
          omega
      have yb := R'.1.2.2.2.2.2.2
      have n4 := R'.1.2.2.2.2.1
      replace vr : 0 ≤ q (l + 27) e ∧ q (l + 27) e ≤ 1000000 := vr
      simp only [k6.1, k6.2.1, k6.2.2]
      refine z_it (by decide) (z_gd ⟨by decide, e0, by omega⟩ ?_)
      rw [q_of24 (E := E) hL hl E5 e1 (by decide) (by decide), Option.bind_some]
      have tf := t_form24 (how := q (l + 24) (22 * e + 18)) (v := (q (l + 27) e).toNat) hL hl w (by omega)
      rw [show (((q (l + 27) e).toNat : Nat) : Int) = q (l + 27) e by omega] at tf
      have eo : ofV (q (l + 24)) e 18 = q (l + 24) (22 * e + 18) := by unfold ofV; rw [if_pos e0]
      rw [eo]
      refine z_bW (z_mono tf ?_)
      rintro ⟨v23, g⟩ ⟨f1, D1⟩
      dsimp only at f1 D1 ⊢
      have lD := D1.1
      subst lD
      have Lg := dgW_l hL hl f1
      have k4 := g_X24_4 Lg hl
      simp only [k4.1, k4.2.1, k4.2.2]
      have g25 : g (l + 25) e = q (l + 25) e := f1 _ _ (by unfold dgW; omega)
      have g26 : g (l + 26) e = q (l + 26) e := f1 _ _ (by unfold dgW; omega)
      rw [g25]
      have B1 : ttR g l t := by
        obtain ⟨b1, b2, b3⟩ := B
        exact ⟨by rw [f1 _ _ (by unfold dgW; omega)]; exact b1, by rw [wd_h (f1.row (fun j z => by unfold dgW at z; omega))]; exact b2, by rw [f1 _ _ (by unfold dgW; omega)]; exact b3⟩
      have bl : ∀ c, c = 35 → lbB (vw q l) e c = fmL (q (l + 24) (22 * e + 18)) (q (l + 27) e).toNat := fun c hc => by unfold lbB; rw [if_pos hc]; rfl
      have bn : ∀ c, c ≠ 35 → lbB (vw q l) e c = [c] := fun c hc => by unfold lbB; rw [if_neg hc]
      have ln := fmL_len (how := q (l + 24) (22 * e + 18)) (v := (q (l + 27) e).toNat) (by omega)
      have bb := fmL_by (how := q (l + 24) (22 * e + 18)) (v := (q (l + 27) e).toNat)
      generalize fmL (q (l + 24) (22 * e + 18)) (q (l + 27) e).toNat = D at *
      generalize lbB (vw q l) e = LB at *
      refine z_gd ⟨by decide, e0, by omega⟩ (z_lt (z_bind (z_mono (z_lp (Q := fun r => F2 (slW l) q r ∧ ttR r l (ttL t ((wr (Y 1) (q (l + 25) e) (q (l + 26) e)).flatMap LB))) (fun (z : Int × Hp) => ∃ x : Nat, z.1 = q (l + 25) e + x ∧ q (l + 25) e + (x : Int) ≤ q (l + 26) e ∧ F2 (ttV l) g z.2 ∧ ttR z.2 l (ttL t ((wr (Y 1) (q (l + 25) e) (q (l + 25) e + x)).flatMap LB))) (fun z => (q (l + 26) e - z.1).toNat) ⟨0, by dsimp only; omega, by omega, F2.refl, by rw [wr_nil (by omega)]; exact B1⟩ ?_) (fun r hr => z_some hr))))
      rintro ⟨y, u⟩ ⟨x, ey, x1, Fu, Bu⟩
      dsimp only at ey Bu
      subst ey
      replace Fu : F2 (ttV l) g u := Fu
      have Lu := ttV_l Lg hl Fu
      have j5 := g_X24_5 Lu hl
      have j1 := g_X24_1 Lu hl
      have u26 : u (l + 26) e = q (l + 26) e := by rw [Fu _ _ (by unfold ttV; omega)]; exact g26
      have ub : ∀ c, 0 ≤ c → c < 16384 → u (l + 22) c = Y 1 c := fun c c0 c1 => by
        rw [Fu _ _ (by unfold ttV; omega), f1 _ _ (by unfold dgW; omega)]; exact V1 c c0 c1
      have fx : F2 (slW l) q u := (f1.mono (fun b j z => by unfold dgW at z; unfold slW; omega)).trans (Fu.mono (fun b j z => by unfold ttV at z; unfold slW; omega))
      show Pz (m_X24_sayLabel_l34 l e D.length (q (l + 25) e + x) u) _
      unfold m_X24_sayLabel_l34
      simp only [j5.1, j5.2.1, j5.2.2, j1.1, j1.2.1, j1.2.2, u26]
      refine z_gd ⟨by decide, e0, by omega⟩ ?_
      by_cases hx : q (l + 26) e ≤ q (l + 25) e + x
      · have ex : q (l + 25) e + x = q (l + 26) e := by omega
        rw [ex] at Bu
        exact z_it hx (z_some ⟨fx, Bu⟩)
      · refine z_ie hx (z_gd ⟨by decide, by omega, by omega⟩ ?_)
        rw [ub _ (by omega) (by omega)]
        have rg := yb (q (l + 25) e + x) (by omega) (by omega)
        have stp : wr (Y 1) (q (l + 25) e) (q (l + 25) e + ((x + 1 : Nat) : Int)) = wr (Y 1) (q (l + 25) e) (q (l + 25) e + x) ++ [Y 1 (q (l + 25) e + x)] := wr_succ
        generalize Y 1 (q (l + 25) e + x) = c at *
        have fin : ∀ u', F2 (ttV l) u u' → ttR u' l (ttL (ttL t ((wr (Y 1) (q (l + 25) e) (q (l + 25) e + x)).flatMap LB)) (LB c)) → Pz (m_X24_sayLabel_j94 (q (l + 25) e + x) u') (sE (fun (z : Int × Hp) => (∃ x : Nat, z.1 = q (l + 25) e + x ∧ q (l + 25) e + (x : Int) ≤ q (l + 26) e ∧ F2 (ttV l) g z.2 ∧ ttR z.2 l (ttL t ((wr (Y 1) (q (l + 25) e) (q (l + 25) e + x)).flatMap LB))) ∧ (q (l + 26) e - z.1).toNat < (q (l + 26) e - (q (l + 25) e + x)).toNat) (fun r => F2 (slW l) q r ∧ ttR r l (ttL t ((wr (Y 1) (q (l + 25) e) (q (l + 26) e)).flatMap LB)))) := by
          intro u' f h
          unfold m_X24_sayLabel_j94
          rw [lt_e, e32 (by omega) (by omega)]
          refine z_some ⟨⟨x + 1, by dsimp only; omega, by omega, Fu.trans f, ?_⟩, by dsimp only; omega⟩
          dsimp only
          rw [stp, List.flatMap_append, ttL_app, List.flatMap_cons, List.flatMap_nil, List.append_nil]
          exact h
        by_cases h35 : c = 35
        · refine z_it h35 (z_lt (z_bind (z_mono (t_digs24 Lu hl Bu ⟨rfl, ?_⟩ ln bb) (fun u' hu => fin u' hu.1 (by rw [bl c h35]; exact hu.2)))))
          rw [wd_h (Fu.row (fun j z => by unfold ttV at z; omega))]; exact D1.2
        · exact z_ie h35 (z_bind (z_mono (t_say Lu hl Bu (by omega) (by omega)) (fun u' hu => fin u' hu.1 (by rw [bn c h35]; exact hu.2))))
    · rw [decide_eq_false hlt, wr_nil (by omega)]
      exact z_ie (by decide) (z_some ⟨F2.refl, B⟩)
