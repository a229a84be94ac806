set_option maxRecDepth 100000
/-! SOURCES: a tag that ends an element -/
theorem y_end {h1 h2 hc ht : Hp} {n : Int} {B T : Int → Int} {a l i x : Int} {N : Int} {s : Int → List Int} {E F M D : Int} (ha : a ∈ in_aX6) (hl : l ∈ in_aX23) (S : SZ h1 h2 n B T a l hc ht) (R : RS T n N s E F M D i hc ht a l) (ec : hc a 2 = x + 1) (i0 : 0 ≤ i) (ix : i < x) (xn : x + 1 ≤ n) (hD : 0 < D) :
    Pr (m_X6_end a hc) (m_X23_close l x ht) (ZP h1 h2 n B T a l i) := by
  have h6 := aX6 ha
  have h23 := aX23 hl
  have hn := S.2.2.2
  have rS := R.2.2.2.1
  have so := rS.2.2.2.2.2.2.2.1 (D - 1) (by omega) (by omega)
  have e29 := rS.2.2.2.2.2.2.1 hD
  generalize ho : ht l 26 = o at *
  rw [e29] at so
  have o0 := so.1
  have o1 := so.2.1
  have E5 := R.2.1.2.2.2.1
  have el := (R.2.1.2.2.2.2.2.2.2.1 o o0 o1).1
  unfold m_X6_end m_X23_close
  rw [ec, ho, e32 (x := x + 1) (by omega) (by omega)]
  refine yl_lt (yr_it o0 ?_)
  refine y_name ha hl S ec (by omega) xn (fun nm lt en => ?_) (fun b h' b' h'' z => y_some (Or.inr z))
  generalize he : sc B isNm (x + 1) = e at *
  have kc := g_X6_0 S.1.1 ha
  have k3 := g_X6_3 S.1.1 ha
  have k5 := g_X6_5 S.1.1 ha
  have kt := g_X23_0 S.2.1.1 hl
  have k12 := g_X23_12 S.2.1.1 hl
  have k13 := g_X23_13 S.2.1.1 hl
  have w1 : wd hc (a + 1) (x + 1) (e - (x + 1)).toNat = wr T (x + 1) e := wrL (by omega) en S.2.2.1
  rw [q_top6 S.1.1 ha rS.1 rS.2.2.1 rS.2.2.2.1, if_pos (by omega), Option.bind_some, e29]
  simp only [k3.1, k3.2.1, kc.1, k5.1, k5.2.1, k5.2.2, kt.1, k12.1, k12.2.1, k12.2.2, k13.1, k13.2.1, k13.2.2, ho]
  refine yl_gd trivial (yr_gd ⟨by decide, o0, by omega⟩ (yr_gd ⟨by decide, o0, by omega⟩ ?_))
  obtain ⟨⟨n1, n2, n3, n4, n5, n6⟩, el2⟩ := el
  rw [e32 (x := e - (x + 1)) (by omega) (by omega), q_X18_same (by rw [kt.2.1]; decide) (by omega) (by omega) (by rw [kt.2.2]; omega) (by rw [kt.2.2]; decide) (by rw [kt.2.1]; decide) n3 n4 (by rw [kt.2.2]; omega) (by rw [kt.2.2]; decide), Option.bind_some, wr_wd, wr_wd, S.2.1.2.2.2.2.2]
  obtain ⟨v, ev, fv⟩ := c_find4 (t := a + 1) (f := x + 1) (n := (e - (x + 1)).toNat) S.1.1 (aX6n ha).1 R.1.1 (by rw [kc.2.1]; decide) (by omega) (by rw [kc.2.2]; omega) (by omega)
  rw [w1] at fv
  rw [show (((e - (x + 1)).toNat : Nat) : Int) = e - (x + 1) by omega] at ev
  rw [ev, Option.bind_some]
  refine yl_gd ⟨by decide, o0, by omega⟩ ?_
  by_cases hw : wr T (x + 1) e = wr T (ht (l + 8) o) (ht (l + 9) o)
  · have vk : v = hc (a + 7) o := fv.uniq (Or.inr ⟨n1, n2, by rw [n6]; exact hw.symm⟩) R.1.1.2.2.1
    refine yl_it vk (yr_it (eqW01.mpr hw) (yl_pt ?_))
    have S1 := S.goL ha (hc' := up hc a 2 e) (F2.refl.put (by unfold srP; omega))
    refine y_blanks ha S1 (up_s _ _ _ _) (by omega) en (fun q1 q2 S2 => ?_)
    rw [up_up] at S2 ⊢
    generalize hy : sc B isBl e = y at *
    refine y_nd ha hl S2 (up_s _ _ _ _) (up_s _ _ _ _) (by omega) q2 (fun b62 => ?_) (fun b h' b' h'' z => y_some (Or.inr z))
    have yn : y < n := by
      rw [← S.1.2.2.2.1] at b62
      exact Bt_n (h := hc) (t := a + 1) (by omega)
    rw [up_s, e32 (x := y + 1) (by omega) (by omega)]
    refine yl_pt ?_
    rw [up_up]
    refine yr_pt ?_
    have S3 := (S.goL ha (hc' := up hc a 2 (y + 1)) (F2.refl.put (by unfold srP; omega))).goR hl (ht' := up ht l 25 (y + 1)) (F2.refl.put (by unfold srQ; omega))
    have R3 : RS T n N s E F M D i (up hc a 2 (y + 1)) (up ht l 25 (y + 1)) a l := R.kept (Int.le_refl _) ⟨fun b b0 b1 => up_row (by omega), fun j hj => up_j hj⟩ ⟨fun b b0 b1 => up_row (by omega), fun j hj => up_j hj⟩
    rw [up_j (show (26 : Int) ≠ 25 by decide), ho]
    exact y_closed ha hl S3 R3 (up_s _ _ _ _) (up_s _ _ _ _) i0 (by omega) (by omega) hD (by rw [up_j (by decide)]; exact ho) (by
      rw [up_a (by omega)]
      have := R.2.1.2.2.2.2.2.2.1.2 o o0 o1
      omega)
  · refine yl_ie (fun z => ?_) (yr_ie (fun z => hw (eqW01.mp z)) ?_)
    · rcases fv with ⟨r1, -⟩ | ⟨r1, r2, r3⟩
      · omega
      · rw [z, n6] at r3; exact hw r3.symm
    · exact y_brk ha hl S ec (by omega) xn (fun b h' b' h'' z => y_some (Or.inr z))
