set_option maxRecDepth 100000
/-! SOURCES: an entity in the text, all of it -/
theorem RS.at {T : Int → Int} {n N : Int} {s : Int → List Int} {E F M D i x : Int} {p q : Hp} {a l : Int} (R : RS T n N s E F M D i p q a l) : RS T n N s E F M D i (up p a 2 x) q a l :=
  R.kept (Int.le_refl _) ⟨fun b b0 b1 => up_row (by omega), fun j hj => up_j hj⟩ ⟨fun _ _ _ => rfl, fun _ _ => rfl⟩
theorem eqW01 {w b : List Int} : eqW w b ≠ 0 ↔ w = b := by
  unfold eqW
  by_cases h : w = b
  · rw [if_pos h]; exact ⟨fun _ => h, fun _ => by decide⟩
  · rw [if_neg h]; exact ⟨fun z => absurd rfl z, fun z => absurd z h⟩
theorem y_entity {h1 h2 hc ht : Hp} {n : Int} {B T : Int → Int} {a l i : Int} (ha : a ∈ in_aX6) (hl : l ∈ in_aX23) (I : ZI h1 h2 n B T a l i hc ht) (i1 : i < n) :
    Pr (m_X6_entity a (up hc a 2 (i + 1))) (m_X23_reference l ht) (ZP h1 h2 n B T a l i) := by
  have h6 := aX6 ha
  have h23 := aX23 hl
  obtain ⟨S, ec, et, i0, -, N, s, E, F, M, D, R, edge⟩ := I
  have hn := S.2.2.2
  have S1 := S.goL ha (hc' := up hc a 2 (i + 1)) (F2.refl.put (by unfold srP; omega))
  have R1 := R.at (x := i + 1)
  unfold m_X6_entity m_X23_reference
  rw [up_s, et, e32 (by omega) (by omega)]
  refine yl_lt (yr_lt ?_)
  refine y_name ha hl S1 (up_s _ _ _ _) (by omega) (by omega) (fun nm lt en => ?_) (fun b h' b' h'' z => y_some (Or.inr z))
  generalize hg : up hc a 2 (i + 1) = g at *
  generalize he : sc B isNm (i + 1) = e at *
  have kc := g_X6_0 S1.1.1 ha
  have kt := g_X23_0 S1.2.1.1 hl
  have w1 : wd g (a + 1) (i + 1) (e - (i + 1)).toNat = wr T (i + 1) e := wrL (by omega) en S1.2.2.1
  have w2 : wd ht (l + 1) (i + 1) (e - (i + 1)).toNat = wr T (i + 1) e := by rw [wr_wd, S1.2.1.2.2.2.2.2]
  have is6 : ∀ {s b}, strB s = some b → m_X6_isWord a (i + 1) e s g = some (eqW (wr T (i + 1) e) b) := fun hs => by
    rw [q_isWord6 hs kc.1 (by rw [kc.2.1]; decide) (by omega) (by omega) (by rw [kc.2.2]; omega) (by rw [kc.2.2]; decide), w1]
  have is23 : ∀ {s b}, strB s = some b → m_X18_is (l + 1) (i + 1) e s ht = some (eqW (wr T (i + 1) e) b) := fun hs => by
    rw [q_X18_is hs (by rw [kt.2.1]; decide) (by omega) (by omega) (by rw [kt.2.2]; omega) (by rw [kt.2.2]; decide), w2]
  obtain ⟨K, r, M1, ub, eK, k40, hK⟩ := R1.2.2.2.2
  have K0 : 0 ≤ K := M1.1.2.1
  rw [kt.1, is23 st_86, is23 st_87, is6 st_17, is6 st_18]
  obtain ⟨v, ev, fv⟩ := t_find23 (K := K) (r := r) (x := i + 1) (e := e) S1.2.1.1 hl S1.2.1.2.2.2.2.2 eK K0 k40 (by omega) (by omega) en (by omega) (fun k k0 k1 => ⟨(hK k k0 k1).1, (hK k k0 k1).2.1, (hK k k0 k1).2.2.1, (hK k k0 k1).2.2.2.1⟩)
  rw [ev]
  simp only [Option.bind_some]
  generalize hw : wr T (i + 1) e = w at *
  unfold m_X6_entity_j34 m_X6_entity_j53
  rw [is6 st_18]
  simp only [Option.bind_some]
  by_cases c1 : w = [108, 116]
  · have d1 := eqW01.mpr c1
    refine yl_it d1 (yl_ie (by decide) (yl_it d1 (yr_it d1 ?_)))
    exact y_entend ha hl S1 R1 et i0 (by omega) en (Or.inl ⟨rfl, Or.inl d1⟩) eK k40 hK _ (fun z => absurd z (by decide))
  · have d1 : eqW w [108, 116] = 0 := Classical.not_not.mp (fun z => c1 (eqW01.mp z))
    by_cases c2 : w = [97, 109, 112]
    · have d2 := eqW01.mpr c2
      refine yl_ie (fun z => z d1) (yl_ie d2 (yl_ie (by decide) (yl_ie (fun z => z d1) (yl_it d2 (yr_ie (fun z => z d1) (yr_it d2 ?_))))))
      exact y_entend ha hl S1 R1 et i0 (by omega) en (Or.inl ⟨rfl, Or.inr ⟨d1, d2⟩⟩) eK k40 hK _ (fun z => absurd z (by decide))
    · have d2 : eqW w [97, 109, 112] = 0 := Classical.not_not.mp (fun z => c2 (eqW01.mp z))
      have k25 := g_X6_25 S1.1.1 ha
      simp only [k25.1, k25.2.1, kc.1]
      refine yl_ie (fun z => z d1) (yl_it d2 (yl_gd trivial ?_))
      rw [e32 (by omega) (by omega)]
      obtain ⟨v', ev', fv'⟩ := c_find4 (t := a + 1) (f := i + 1) (n := (e - (i + 1)).toNat) S1.1.1 (aX6n ha).2 M1 (by rw [kc.2.1]; decide) (by omega) (by rw [kc.2.2]; omega) (by omega)
      rw [w1] at fv'
      have vv := fv'.uniq fv M1.2.2.1
      subst vv
      rw [show (((e - (i + 1)).toNat : Nat) : Int) = e - (i + 1) by omega] at ev'
      rw [ev', Option.bind_some]
      refine yr_ie (fun z => z d1) (yr_ie (fun z => z d2) ?_)
      rcases fv with ⟨rfl, -⟩ | ⟨v0, v1, -⟩
      · refine yl_ie (by decide) (yl_ie (fun z => z d1) (yl_ie (fun z => z d2) (yr_ie (by decide) ?_)))
        exact y_brk ha hl S1 (by rw [← hg]; exact up_s _ _ _ _) (by omega) (by omega) (fun b h' b' h'' z => y_some (Or.inr z))
      · refine yl_it v0 (yr_it v0 ?_)
        exact y_entend ha hl S1 R1 et i0 (by omega) en (Or.inr ⟨d1, d2, v0, v1⟩) eK k40 hK _ (fun _ => rfl)
