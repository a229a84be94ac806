set_option maxRecDepth 100000
/-! TITLES: the reference's title, all of it -/
/-- the loop's state: what was said, and what is left -/
def tiI (S Y V q : Hp) (l e : Int) (A0 : List Int) (at_ k : Int) (g : Hp) : Prop :=
  S 11 e < k ∧ k ≤ S 12 e ∧ F2 (slW l) q g ∧ at_ = cuP (S 2) (S 3) (S 7) k.toNat ∧ V 30 at_ ≠ 0 ∧ ∃ A f, (S 12 e - k).toNat ≤ f ∧ A ++ tiS S Y V (S 12 e) f k = A0 ∧ ttR g l (ttL ([], false) A)
theorem t_title {S Y q p p' : Hp} {l a a' n n' N N' E F M C ns na nsel nb nt m e : Int} {s s' : Int → List Int} (T : TK S Y q l n E M nsel) (R : SA S p a n N s E F M) (R' : YA Y p' a' n' N' s' C ns na nsel nb nt m) (e0 : 0 ≤ e) (e1 : e < E) :
    Pz (m_X24_title l e q) (fun r => F2 (slW l) q r.2 ∧ r.1 = (tiT S Y (vw q l) e).length ∧ wd r.2 (l + 48) 0 (tiT S Y (vw q l) e).length = tiT S Y (vw q l) e) := by
  have E5 := R.2.2.1.2.2.1
  have Mn := R.2.2.2.2.2.1.2.2.1
  have n3 := R.1.2.1
  have be := R.2.2.2.2.2.2.1 e e0 e1
  have K := T
  obtain ⟨⟨hL, hl⟩, X, V4, w⟩ := T
  have h24 := aX24 hl
  have fa := FLV.facts (fun x x0 x1 => (V4.2.2.2 x x0 x1).2.2.1) (fun x x0 x1 => ⟨(R.2.2.2.1 x x0 x1).2.2.1, (R.2.2.2.1 x x0 x1).2.2.2.1⟩)
  unfold m_X24_title
  refine z_pt (z_pt ?_)
  have f0 : F2 (slW l) q (up (up q l 28 0) l 29 0) := (F2.refl.put (Or.inl ⟨rfl, Or.inl rfl⟩)).put (Or.inl ⟨rfl, Or.inr rfl⟩)
  have T0 := K.kept f0
  have L0 := T0.1.1
  have i9 := g_X24_9 L0 hl
  have v30 : up (up q l 28 0) l 29 0 (l + 30) e = q (l + 30) e := by rw [up_a (by omega), up_a (by omega)]
  have B0 : ttR (up (up q l 28 0) l 29 0) l ([], false) := ⟨by rw [up_j (by decide), up_s]; rfl, rfl, fun _ => by rw [up_s]; rfl⟩
  simp only [i9.1, i9.2.1, i9.2.2, v30]
  refine z_gd ⟨by decide, e0, by omega⟩ ?_
  have vwk : ∀ g, F2 (slW l) q g → ∀ k, 0 < k → k ≠ 46 → k ≠ 48 → g (l + k) = q (l + k) := fun g f k k0 k1 k2 => f.row (fun j z => by unfold slW at z; omega)
  generalize up (up q l 28 0) l 29 0 = g0 at *
  by_cases h30 : q (l + 30) e = 0
  · have : tiT S Y (vw q l) e = [] := by unfold tiT; exact if_pos h30
    rw [this]
    exact z_ie (fun z => z h30) (z_some ⟨f0, rfl, rfl⟩)
  · have eT : tiT S Y (vw q l) e = ttF (ttL ([], false) (tiA S Y (vw q l) e)).1 := by unfold tiT; exact if_neg h30
    rw [eT]
    refine z_it h30 ?_
    have lbq : ∀ g x, F2 (slW l) q g → lbS Y (vw g l) x = lbS Y (vw q l) x := fun g x f => by
      have r24 : vw g l 24 = vw q l 24 := vwk g f 24 (by decide) (by decide) (by decide)
      have r25 : vw g l 25 = vw q l 25 := vwk g f 25 (by decide) (by decide) (by decide)
      have r26 : vw g l 26 = vw q l 26 := vwk g f 26 (by decide) (by decide) (by decide)
      have r27 : vw g l 27 = vw q l 27 := vwk g f 27 (by decide) (by decide) (by decide)
      have r30 : vw g l 30 = vw q l 30 := vwk g f 30 (by decide) (by decide) (by decide)
      have r34 : vw g l 34 = vw q l 34 := vwk g f 34 (by decide) (by decide) (by decide)
      have r35 : vw g l 35 = vw q l 35 := vwk g f 35 (by decide) (by decide) (by decide)
      have em : mtF (vw g l) x = mtF (vw q l) x := by unfold mtF; rw [r24, r30, r34, r35]
      have eb : lbB (vw g l) x = lbB (vw q l) x := by funext c; unfold lbB; rw [r24, r27]
      unfold lbS; rw [em, eb, r25, r26]
    refine z_bind (z_mono (t_sayLabel T0 R' E5 e0 e1 (by rw [vwk _ f0 30 (by decide) (by decide) (by decide)]; exact h30) B0) (fun g1 hg1 => ?_))
    obtain ⟨f1, B1⟩ := hg1
    rw [lbq _ _ f0] at B1
    have F1 : F2 (slW l) q g1 := f0.trans f1
    have T1 := K.kept F1
    have j0 := g_X24_0 T1.1.1 hl
    have j15 := g_X23_15 T1.1.1 h24.2.2
    have v11 : g1 (l + 1 + 11) e = S 11 e := T1.2.1.2.2.2.1 11 (by decide) (by decide) e e0 e1
    simp only [j0.1, j0.2.1, j15.1, j15.2.1, j15.2.2, v11]
    rw [e32 (x := S 11 e + 1) (by omega) (by omega)]
    refine z_gd trivial (z_gd ⟨by decide, e0, by omega⟩ (z_lt (z_bind (z_mono (Q := fun g => F2 (slW l) q g ∧ ttR g l (ttL ([], false) (tiA S Y (vw q l) e))) ?_ ?_))))
    · have c0 : cuP (S 2) (S 3) (S 7) (S 11 e + 1).toNat = e := by
        rw [show (S 11 e + 1).toNat = (S 11 e).toNat + 1 by omega, cuP_step, show (((S 11 e).toNat : Nat) : Int) = S 11 e by omega, if_pos be.2.2.2.1]; exact be.2.2.2.2.1
      refine z_lp (fun (z : Int × Int × Hp) => tiI S Y (vw q l) q l e (tiA S Y (vw q l) e) z.1 z.2.1 z.2.2) (fun z => (S 12 e + 1 - z.2.1).toNat) ⟨by dsimp only; omega, by dsimp only; omega, F1, c0.symm, h30, lbS Y (vw q l) e, (S 12 e).toNat, by dsimp only; omega, rfl, B1⟩ ?_
      rintro ⟨y, k, g⟩ ⟨k0, k1, Fg, ey, sh, A, f, hf, hA, Bg⟩
      dsimp only at k0 k1 ey sh hf hA Bg
      replace Fg : F2 (slW l) q g := Fg
      have Tg := K.kept Fg
      have Lg := Tg.1.1
      have i0 := g_X24_0 Lg hl
      have x16 := g_X23_16 Lg h24.2.2
      have x6 := g_X23_6 Lg h24.2.2
      have x7 := g_X23_7 Lg h24.2.2
      have x11 := g_X23_11 Lg h24.2.2
      have i9' := g_X24_9 Lg hl
      have w12 : ∀ x, 0 ≤ x → x < E → g (l + 1 + 12) x = S 12 x := fun x z0 z1 => Tg.2.1.2.2.2.1 12 (by decide) (by decide) x z0 z1
      have w7 : ∀ x, 0 ≤ x → x < E → g (l + 1 + 7) x = S 7 x := fun x z0 z1 => Tg.2.1.2.2.2.1 7 (by decide) (by decide) x z0 z1
      have w2 : ∀ x, 0 ≤ x → x < M → g (l + 1 + 2) x = S 2 x := fun x z0 z1 => Tg.2.1.2.2.1 2 (by decide) (by decide) x z0 z1
      have w3 : ∀ x, 0 ≤ x → x < M → g (l + 1 + 3) x = S 3 x := fun x z0 z1 => Tg.2.1.2.2.1 3 (by decide) (by decide) x z0 z1
      have j240 : ∀ (y' k' : Int) (g' : Hp), k ≤ k' → k' < S 12 e → F2 (slW l) q g' → y' = cuP (S 2) (S 3) (S 7) (k' + 1).toNat → vw q l 30 y' ≠ 0 → (∃ A' f', (S 12 e - (k' + 1)).toNat ≤ f' ∧ A' ++ tiS S Y (vw q l) (S 12 e) f' (k' + 1) = tiA S Y (vw q l) e ∧ ttR g' l (ttL ([], false) A')) → Pz (m_X24_title_j240 y' k' g') (sE (fun (z : Int × Int × Hp) => tiI S Y (vw q l) q l e (tiA S Y (vw q l) e) z.1 z.2.1 z.2.2 ∧ (S 12 e + 1 - z.2.1).toNat < (S 12 e + 1 - k).toNat) (fun g => F2 (slW l) q g ∧ ttR g l (ttL ([], false) (tiA S Y (vw q l) e)))) := by
        intro y' k' g' z1 z2 z3 z4 z5 z6
        unfold m_X24_title_j240
        rw [lt_e, e32 (x := k' + 1) (by omega) (by omega)]
        exact z_some ⟨⟨by dsimp only; omega, by dsimp only; omega, z3, z4, z5, z6⟩, by dsimp only; omega⟩
      show Pz (m_X24_title_l40 l e y k g) _
      unfold m_X24_title_l40
      simp only [i0.1, i0.2.1, x16.1, x16.2.1, x16.2.2, x6.1, x6.2.1, x6.2.2, x7.1, x7.2.1, x7.2.2, x11.1, x11.2.1, x11.2.2, i9'.1, i9'.2.1, i9'.2.2, w12 e e0 e1]
      refine z_gd trivial (z_gd ⟨by decide, e0, by omega⟩ ?_)
      by_cases hk : S 12 e ≤ k
      · rw [tiS_end hk, List.append_nil] at hA
        rw [hA] at Bg
        exact z_it hk (z_some ⟨Fg, Bg⟩)
      · obtain ⟨f', rfl⟩ : ∃ f', f = f' + 1 := ⟨f - 1, by omega⟩
        obtain ⟨dk, hd⟩ := nest R e0 e1 k.toNat (by omega) (by omega)
        rw [← ey] at hd
        have ye := dsc_le _ _ hd
        have yE : y < E := by rw [ey]; exact (R.2.2.2.2.2.2.2.1 k.toNat (by omega)).2
        have tk : ((k.toNat : Nat) : Int) = k := by omega
        have cs := cuP_step (I := S 2) (A := S 3) (P := S 7) (k := k.toNat)
        rw [tk, ← ey, show k.toNat + 1 = (k + 1).toNat by omega] at cs
        unfold tiS at hA
        rw [if_neg hk] at hA
        rw [w2 k (by omega) (by omega), w3 k (by omega) (by omega)]
        refine z_ie hk (z_gd ⟨by decide, by omega, by omega⟩ ?_)
        by_cases b1 : S 2 k = 1
        · rw [if_pos b1] at hA cs
          obtain ⟨x0, x1, x2⟩ := R.beg_ (by omega) (by omega) b1
          refine z_ie (fun z => z b1) (z_gd ⟨by decide, by omega, by omega⟩ (z_lt ?_))
          generalize S 3 k = x at *
          have bx := R.2.2.2.2.2.2.1 x x0 x1
          have ne := nest_end R e0 e1 x0 x1 (by omega) (by omega)
          have ce := cu_end R x0 x1
          have g30 : g (l + 30) x = vw q l 30 x := by rw [vwk _ Fg 30 (by decide) (by decide) (by decide)]; rfl
          have g24 : g (l + 24) (22 * x) = vw q l 24 (22 * x) := by rw [vwk _ Fg 24 (by decide) (by decide) (by decide)]; rfl
          rw [g30, q_show24 Lg hl x0 (by omega), Option.bind_some, g24]
          refine z_gd ⟨by decide, x0, by omega⟩ ?_
          have j97 : hid (vw q l) x = true → Pz (m_X24_title_j97 x l y g) (sE (fun (z : Int × Int × Hp) => tiI S Y (vw q l) q l e (tiA S Y (vw q l) e) z.1 z.2.1 z.2.2 ∧ (S 12 e + 1 - z.2.1).toNat < (S 12 e + 1 - k).toNat) (fun g => F2 (slW l) q g ∧ ttR g l (ttL ([], false) (tiA S Y (vw q l) e)))) := by
            intro hh
            rw [if_pos hh] at hA
            unfold m_X24_title_j97
            simp only [i0.1, x16.1, x16.2.1, x16.2.2, w12 x x0 x1]
            refine z_gd ⟨by decide, x0, by omega⟩ (z_lt (j240 y (S 12 x) g (by omega) (by omega) Fg ?_ sh ⟨A, f', by omega, hA, Bg⟩))
            rw [ce.1, ← ce.2, x2, ey]
          by_cases h0 : vw q l 30 x = 0
          · exact z_it h0 (j97 (by unfold hid; rw [decide_eq_true h0]; rfl))
          · refine z_ie h0 ?_
            by_cases h3 : vw q l 24 (22 * x) = 3
            · exact z_ie (fun z => z h3) (j97 (by unfold hid; rw [decide_eq_true h3, Bool.or_true]))
            · have hh : ¬ hid (vw q l) x = true := by unfold hid; rw [decide_eq_false h0, decide_eq_false h3]; decide
              rw [if_neg hh] at hA
              refine z_it h3 (z_bind (z_mono (t_sayLabel Tg R' E5 x0 x1 (by rw [g30]; exact h0) Bg) (fun g2 hg2 => ?_)))
              obtain ⟨f2, B2⟩ := hg2
              rw [lbq _ _ Fg] at B2
              exact j240 x k g2 (Int.le_refl _) (by omega) (Fg.trans f2) cs.symm h0 ⟨A ++ lbS Y (vw q l) x, f', by omega, by rw [List.append_assoc]; exact hA, by rw [ttL_app]; exact B2⟩
        · rw [if_neg b1] at hA cs
          refine z_it b1 ?_
          by_cases b2 : S 2 k = 2
          · rw [if_pos b2] at hA cs
            have c2 := (R.2.2.2.2.2.2.2.2 k.toNat (by omega)).2 (by rw [tk]; exact b2)
            rw [tk, ← ey] at c2
            have en := R.end_ (by omega) (by omega) b2
            have ny : y ≠ e := fun z => by rw [c2, z] at en; omega
            obtain ⟨d', hd'⟩ := dsc_up _ _ hd ny
            have pe := dsc_le _ _ hd'
            refine z_ie (fun z => z b2) (z_gd ⟨by decide, by omega, by omega⟩ (z_lt ?_))
            rw [w7 y (by omega) yE]
            exact j240 (S 7 y) k g (Int.le_refl _) (by omega) Fg cs.symm ((fa y (by omega) yE).1 sh |>.2 (by omega)) ⟨A, f', by omega, hA, Bg⟩
          · rw [if_neg b2] at hA cs
            refine z_it b2 ?_
            have g30 : g (l + 30) y = vw q l 30 y := by rw [vwk _ Fg 30 (by decide) (by decide) (by decide)]; rfl
            rw [q_speaks24 Lg hl (by omega) (by omega) (by rw [g30]; exact sh), Option.bind_some]
            have em : mtF (vw g l) y = mtF (vw q l) y := by
              have r24 : vw g l 24 = vw q l 24 := vwk g Fg 24 (by decide) (by decide) (by decide)
              have r30 : vw g l 30 = vw q l 30 := vwk g Fg 30 (by decide) (by decide) (by decide)
              have r34 : vw g l 34 = vw q l 34 := vwk g Fg 34 (by decide) (by decide) (by decide)
              have r35 : vw g l 35 = vw q l 35 := vwk g Fg 35 (by decide) (by decide) (by decide)
              unfold mtF; rw [r24, r30, r34, r35]
            rw [em]
            rw [← ey] at hA
            cases hm : mtF (vw q l) y
            · rw [hm] at hA
              rw [if_neg (by decide), ← List.append_assoc] at hA
              have go : ∀ g2, F2 (slW l) g g2 → ttR g2 l (ttL (ttL ([], false) A) (itB S k)) → Pz (m_X24_title_j240 y k g2) (sE (fun (z : Int × Int × Hp) => tiI S Y (vw q l) q l e (tiA S Y (vw q l) e) z.1 z.2.1 z.2.2 ∧ (S 12 e + 1 - z.2.1).toNat < (S 12 e + 1 - k).toNat) (fun g => F2 (slW l) q g ∧ ttR g l (ttL ([], false) (tiA S Y (vw q l) e)))) := by
                intro g2 f2 B2
                exact j240 y k g2 (Int.le_refl _) (by omega) (Fg.trans f2) cs.symm sh ⟨A ++ itB S k, f', by omega, hA, by rw [ttL_app]; exact B2⟩
              refine z_ie (by decide) ?_
              by_cases b3 : S 2 k = 3
              · have s3 : S 3 k = 38 ∨ S 3 k = 60 := by
                  rcases R.2.2.2.2.2.1.2.2.2 k (by omega) (by omega) with z | z | z | z
                  · omega
                  · omega
                  · omega
                  · exact z.2.2.2.1
                have ei : itB S k = [S 3 k] := by unfold itB; rw [if_pos b3]
                refine z_ie (fun z => z b3) (z_gd ⟨by decide, by omega, by omega⟩ (z_bind (z_mono (t_say Lg hl Bg (by omega) (by omega)) (fun g2 hg2 => go g2 (hg2.1.mono (fun b j z => by unfold ttV at z; unfold slW; omega)) (by rw [ei]; exact hg2.2)))))
              · have b0 : S 2 k = 0 := by
                  rcases R.2.2.2.2.2.1.2.2.2 k (by omega) (by omega) with z | z | z | z <;> omega
                have ei : itB S k = wr (S 1) (S 3 k) (S 4 k) := by unfold itB; rw [if_neg b3]
                refine z_it b3 (z_gd ⟨by decide, by omega, by omega⟩ (z_lt (z_bind (z_mono (t_piece Lg hl Tg.2.1 R (by omega) (by omega) b0 Bg) (fun g2 hg2 => go g2 (hg2.1.mono (fun b j z => by unfold ttV at z; unfold slW; omega)) (by rw [ei]; exact hg2.2))))))
            · rw [hm, if_pos rfl] at hA
              exact z_it (by decide) (j240 y k g (Int.le_refl _) (by omega) Fg cs.symm sh ⟨A, f', by omega, hA, Bg⟩)
    · rintro g2 ⟨f2, B2⟩
      refine z_mono (t_tEnd (slW_l hL hl f2) hl B2) (fun r hr => ?_)
      obtain ⟨r1, r2, r3⟩ := hr
      rw [r1]
      exact ⟨f2, r2, r3⟩
