set_option maxRecDepth 100000
/-! SOURCES: a source is read, side by side -/
theorem y_srcread {hc ht : Hp} {a l u n : Int} (ha : a ∈ in_aX6) (hl : l ∈ in_aX23) (hL : LAY hc) (rm : RM hc 1 7) (hL2 : LAY ht) (rm2 : RM ht 1 7) (n0 : 0 ≤ n) (n1 : n ≤ 3000) (by1 : BY hc (a + 1) n) (u1 : ht u (-2) % 16 = 2) (u2 : n ≤ ht u (-1)) (hu : u < l ∨ l + 20 < u) (hb : ∀ j, 0 ≤ j → j < n → hc (a + 1) j = ht u j) :
    Pr (m_X6_read a n hc) (m_X23_read l u n ht) (SRo hc ht n a l) := by
  have h6 := aX6 ha
  have h23 := aX23 hl
  unfold m_X6_read m_X23_read
  obtain ⟨g, g1, Lg, Fg, ⟨x1, x2, x3⟩, ⟨y1, y2, y3⟩, z1, z2, z3, z4, z5, z6, z7, z8⟩ := c_src0 (n := n) hL ha
  rw [g1]
  refine yr_pt (yr_pt (yr_lt ?_))
  have L1 : LAY (up (up ht l 5 1) l 1 n) := srQ1_l hL2 hl ((F2.refl.put (by unfold srQ1; omega)).put (by unfold srQ1; omega))
  obtain ⟨t1, e1, c1, c2⟩ := t_copy23 (h := up (up ht l 5 1) l 1 n) (u := u) (n := n) L1 hl (by rw [up_a (by omega), up_a (by omega)]; exact u1) (by rw [up_a (by omega), up_a (by omega)]; exact u2) (by omega) n0 (by omega)
  rw [e1, Option.bind_some]
  have Ft1 : F2 (srQ1 l) ht t1 := ((F2.refl.put (by unfold srQ1; omega)).put (by unfold srQ1; omega)).trans (c1.mono (fun b j z => Or.inr (Or.inr z)))
  have Lt1 : LAY t1 := srQ1_l hL2 hl Ft1
  have t15 : t1 l 5 = 1 := by rw [c1 _ _ (by omega)]; (try simp (disch := omega) only [up_a, up_e, up_j, e32, e8])
  have t11 : t1 l 1 = n := by rw [c1 _ _ (by omega)]; (try simp (disch := omega) only [up_a, up_e, up_j, e32, e8])
  refine yr_pt (yr_pt (yr_pt (yr_pt (yr_pt (yr_pt ?_)))))
  have Ft2 : F2 (srQ l) t1 (up (up (up (up (up (up t1 l 2 0) l 3 0) l 4 0) l 25 0) l 26 (-1)) l 27 0) := by
    repeat' first
      | exact F2.refl
      | refine F2.put ?_ (by unfold srQ; omega)
  have v2 : up (up (up (up (up (up t1 l 2 0) l 3 0) l 4 0) l 25 0) l 26 (-1)) l 27 0 l 2 = 0 := by (try simp (disch := omega) only [up_a, up_e, up_j, e32, e8])
  have v3 : up (up (up (up (up (up t1 l 2 0) l 3 0) l 4 0) l 25 0) l 26 (-1)) l 27 0 l 3 = 0 := by (try simp (disch := omega) only [up_a, up_e, up_j, e32, e8])
  have v4 : up (up (up (up (up (up t1 l 2 0) l 3 0) l 4 0) l 25 0) l 26 (-1)) l 27 0 l 4 = 0 := by (try simp (disch := omega) only [up_a, up_e, up_j, e32, e8])
  have v5 : up (up (up (up (up (up t1 l 2 0) l 3 0) l 4 0) l 25 0) l 26 (-1)) l 27 0 l 25 = 0 := by (try simp (disch := omega) only [up_a, up_e, up_j, e32, e8])
  have v6 : up (up (up (up (up (up t1 l 2 0) l 3 0) l 4 0) l 25 0) l 26 (-1)) l 27 0 l 26 = -1 := by (try simp (disch := omega) only [up_a, up_e, up_j, e32, e8])
  have v7 : up (up (up (up (up (up t1 l 2 0) l 3 0) l 4 0) l 25 0) l 26 (-1)) l 27 0 l 27 = 0 := by (try simp (disch := omega) only [up_a, up_e, up_j, e32, e8])
  generalize up (up (up (up (up (up t1 l 2 0) l 3 0) l 4 0) l 25 0) l 26 (-1)) l 27 0 = t2 at *
  have Lt2 := srQ_l Lt1 hl Ft2
  have kc := g_X6_0 Lg ha
  have kt := g_X23_0 Lt2 hl
  have rg : g (a + 1) = hc (a + 1) := (Fg.row (fun j z => by unfold srP at z; omega)).trans (up_row (by omega))
  have rt : t2 (l + 1) = t1 (l + 1) := Ft2.row (fun j z => by unfold srQ at z; omega)
  have tx : ∀ j, 0 ≤ j → j < n → t1 (l + 1) j = ht u j := fun j j0 j1 => by rw [c2 j j0 j1, up_a (by omega), up_a (by omega)]
  have eq : ∀ j, 0 ≤ j → j < n → g (a + 1) j = t2 (l + 1) j := fun j j0 j1 => by rw [rg, rt, tx j j0 j1, hb j j0 j1]
  have F1 : F2 (srP1 a) hc (up hc a 1 n) := F2.refl.put (Or.inr ⟨rfl, rfl⟩)
  have S : SZ (up hc a 1 n) t1 n (Bt g (a + 1) n) (t2 (l + 1)) a l g t2 := by
    refine ⟨⟨Lg, (rm.F2 F1 (fun z => by unfold srP1 srP at z; omega) (fun z => by unfold srP1 srP at z; omega)).F2 Fg (fun z => by unfold srP at z; omega) (fun z => by unfold srP at z; omega), ⟨kc.1, z1, by rw [kc.2.1]; decide, by rw [kc.2.2]; omega, by omega, by omega⟩, rfl, Fg, fun j j0 j1 => by rw [rg]; exact by1 j j0 j1⟩, ⟨Lt2, (rm2.F2 Ft1 (fun z => by unfold srQ1 srQ at z; omega) (fun z => by unfold srQ1 srQ at z; omega)).F2 Ft2 (fun z => by unfold srQ at z; omega) (fun z => by unfold srQ at z; omega), ⟨kt.1, ?_, by rw [kt.2.1]; decide, by rw [kt.2.2]; omega, by omega, by omega⟩, (Bt_same eq).symm, Ft2, rfl⟩, eq, n1⟩
    rw [Ft2 _ _ (by unfold srQ; omega)]; exact t11
  have I : ZI (up hc a 1 n) t1 n (Bt g (a + 1) n) (t2 (l + 1)) a l 0 g t2 :=
    ⟨S, z2, v5, Int.le_refl _, n0, 0, fun _ => [], 0, 0, 0, 0, RS_0 Lg ha x1 x2 x3 y1 y2 y3 z3 z4 z5 z6 z7 z8 v2 v3 v4 v6 v7, fun m m0 m1 => by omega⟩
  obtain ⟨rc, rt', q1, q2, q3⟩ := y_srcloop ha hl _ 0 g t2 (Nat.lt_succ_self _) I
  rw [q1, q2, Option.bind_some, Option.bind_some]
  rcases q3 with ⟨hc', ht', rfl, rfl, I'⟩ | ⟨rc', rt'', rfl, rfl, z⟩
  · obtain ⟨S', ec, et, -, -, N, s, E, F, M, D, R, -⟩ := I'
    have rS := R.2.2.2.1
    have rE := R.2.1
    have d0 := rS.2.2.1
    show Pr (if hc' a 29 ≤ 0 then _ else _) (if ht' l 26 < 0 then _ else _) _
    rw [rS.1]
    by_cases hD : D = 0
    · refine yl_it (by omega) (yr_it (by rw [rS.2.2.2.2.2.1 hD]; decide) ?_)
      have k14 := g_X6_14 S'.1.1 ha
      simp only [k14.1, k14.2.1, k14.2.2, rE.1, rE.2.2.2.2.1]
      have E0 := rE.2.2.1
      have E5 := rE.2.2.2.1
      refine yl_gd ⟨by decide, E0, by omega⟩ (yl_pt (y_some (Or.inl ⟨rfl, rfl, ?_, S'.2.1.1, ?_, ?_, ?_, N, s, E, F, M, n0, n1, ?_, S'.2.1.2.2.1.2.1, ?_, ?_, ?_, ?_⟩)))
      · exact srP_l S'.1.1 ha (F2.refl.put (by unfold srP; omega))
      · exact (F1.trans (S'.1.2.2.2.2.1.mono (fun b j z => Or.inl z))).put (Or.inl (by unfold srP; omega))
      · exact Ft1.trans (S'.2.1.2.2.2.2.1.mono (fun b j z => Or.inl z))
      · show ht' l 5 = 1
        rw [S'.2.1.2.2.2.2.1 _ _ (by unfold srQ; omega)]; exact t15
      · show up hc' (a + 16) E F a 1 = n
        rw [up_a (by omega)]; exact S'.1.2.2.1.2.1
      · intro j j0 j1
        show up hc' (a + 16) E F (a + 1) j = ht' (l + 1) j
        rw [up_a (by omega), S'.2.2.1 j j0 j1, S'.2.1.2.2.2.2.2]
      · intro j j0 j1
        show -128 ≤ up hc' (a + 16) E F (a + 1) j ∧ up hc' (a + 16) E F (a + 1) j < 128
        rw [up_a (by omega)]; exact S'.1.2.2.2.2.2 j j0 j1
      · show RS (ht' (l + 1)) n N s E F M 0 n (up hc' (a + 16) E F) ht' a l
        rw [S'.2.1.2.2.2.2.2]
        have R' := R
        rw [hD] at R'
        obtain ⟨w1, ⟨b1, b2, b3, b4, b5, b6, b7, b8, b9, b10⟩, w3, w4, w5⟩ := R'
        have row : ∀ b, b ≠ a + 16 → up hc' (a + 16) E F b = hc' b := fun b hb => up_row hb
        refine ⟨?_, ?_, ?_, ?_, ?_⟩
        · unfold rsN at *
          rw [row _ (by omega)]
          exact ⟨w1.1.kept (fun b _ _ => row b (by omega)), w1.2⟩
        · unfold rsE elO fsO fdO at *
          rw [row a (by omega), row (a + 7) (by omega), row (a + 8) (by omega), row (a + 9) (by omega), row (a + 11) (by omega), row (a + 12) (by omega), row (a + 13) (by omega), row (a + 14) (by omega), row (a + 17) (by omega), row (a + 18) (by omega), row (a + 19) (by omega)]
          refine ⟨b1, b2, b3, b4, b5, b6, b7, fun e x0 x1 => ?_, b9, b10⟩
          have := b8 e x0 x1
          rw [up_j (show e ≠ E by omega)]
          by_cases he : e + 1 < E
          · rw [if_pos he] at this ⊢
            rw [up_j (show e + 1 ≠ E by omega)]; exact this
          · rw [if_neg he] at this ⊢; exact this
        · unfold rsV evO at *
          rw [row a (by omega), row (a + 15) (by omega), row (a + 20) (by omega), row (a + 21) (by omega), row (a + 22) (by omega)]
          exact w3
        · unfold rsS clO at *
          rw [row a (by omega), row (a + 30) (by omega), row (a + 10) (by omega)]
          exact w4
        · unfold rsT enO at *
          rw [row (a + 23) (by omega), row (a + 28) (by omega), row (a + 29) (by omega)]
          obtain ⟨K, r, k1, k2⟩ := w5
          exact ⟨K, r, k1.kept (fun b _ _ => row b (by omega)), k2⟩
      · exact up_s _ _ _ _
    · have so := rS.2.2.2.2.2.2.2.1 (D - 1) (by omega) (by omega)
      rw [rS.2.2.2.2.2.2.1 (by omega)] at so
      refine yl_ie (by omega) (yr_ie (by omega) ?_)
      have r7 := S'.1.2.1.2.2.1
      have rz := S'.1.2.1
      obtain ⟨b, h', k1, w1⟩ : ∃ b h', (∀ {β : Type} (g : Int → Hp → Option β), (al hc' 432 7 fun b h0 => (x_broken b (h0 a 1) h0).bind fun h8 => g b h8) = g b h') ∧ Thr 432 n hc' ((1, b), h') := by
        have e : nw hc' 432 7 a 1 = n := by
          unfold nw
          rw [if_neg (by omega), if_neg (by omega), if_neg (by omega)]
          exact S'.1.2.2.1.2.1
        obtain ⟨⟨b, h'⟩, e1, z⟩ := z_brk (K := 432) (p := n) (f := fun b h' => some (b, h')) (Q := fun r => Thr 432 n hc' ((1, r.1), r.2)) rz (fun b h' z => z_some z)
        refine ⟨b, h', fun g => ?_, z⟩
        have : (al hc' 432 7 fun b h0 => (x_broken b (h0 a 1) h0).bind fun h8 => g b h8) = (al hc' 432 7 fun b h0 => (x_broken b n h0).bind fun h8 => some (b, h8)).bind (fun r => g r.1 r.2) := by
          unfold al
          dsimp only
          rw [e]
          split
          · rw [Option.bind_assoc]; rfl
          · rfl
        rw [this, e1, Option.bind_some]
      obtain ⟨b', h'', k2, w2⟩ := al_g (p := n) S'.2.1.2.1
      rw [k1, k2]
      exact y_some (Or.inr (ZO.out ha hl (sz_thr ha hl S' n0 (Int.le_refl _) w1 w2) F1 Ft1))
  · show Pr (some rc') (some rt'') _
    exact y_some (Or.inr (ZO.out ha hl z F1 Ft1))
