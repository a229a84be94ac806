set_option maxRecDepth 100000
/-! STYLES: :first, :last, :empty, :nth(..), :not(..) -/
theorem SS.twL {h1 h2 hc ht : Hp} {n : Int} {B T : Int → Int} {a l : Int} {p q : Hp} {i k : Int} (S : SS h1 h2 n B T a l p q i k hc ht) (h : (tk B i).1 = 1) : tw hc 2 (tk B i) = wr T (tk B i).2.1 (nx B i) := by
  have g := S.ge
  have t := S.tl h
  unfold tw
  rw [wr_wd]
  exact wr_congr (fun x x0 x1 => S.2.2.2.2.1.2 x (by omega) (by unfold nx at t; omega))
theorem SS.twR {h1 h2 hc ht : Hp} {n : Int} {B T : Int → Int} {a l : Int} {p q : Hp} {i k : Int} (S : SS h1 h2 n B T a l p q i k hc ht) : tw ht (l + 1) (tk B k) = wr T (tk B k).2.1 (nx B k) := by
  unfold tw
  rw [wr_wd, S.2.2.2.2.1.1]
  rfl
theorem L_isN {h1 h2 hc ht : Hp} {n : Int} {B T : Int → Int} {a l : Int} {p q : Hp} {i k x : Int} {b : List Int} (S : SS h1 h2 n B T a l p q i k hc ht) (h : (tk B i).1 = 1) (hs : strB x = some b) : m_X2_isName 3 x hc = some (eqW (wr T (tk B i).2.1 (nx B i)) b) := by
  rw [← S.twL h]; exact cs_isN S.1 h hs
theorem R_word1 {α β : Type} {h1 h2 hc ht : Hp} {n : Int} {B T : Int → Int} {a l : Int} {p q : Hp} {i k x : Int} {Z : List Int} {Ls : List (List Int)} {f g : Int → Hp → Option α} {u : Option β} {Q : β → α → Prop} (hl : l ∈ in_aX22) (S : SS h1 h2 n B T a l p q i k hc ht) (hs : strB x = some Z) (hz : spl Z [] = Ls) (hx : (tk B k).1 = 1 ∧ 0 ≤ ix (wr T (tk B k).2.1 (nx B k)) Ls 0)
    (K : ∀ ht', SS h1 h2 n B T a l p q i (nx B k) hc ht' → Pr u (f (ix (wr T (tk B k).2.1 (nx B k)) Ls 0) ht') Q) : Pr u (bT (m_X22_word l x ht) f g) Q := by
  refine yr_bT (z_mono (ts_word hl S.2.1 hs hz) (fun r z => ?_))
  rw [S.twR] at z
  rcases z with ⟨z1, z2, z3, z4⟩ | ⟨z1, z2⟩
  · refine Or.inl ⟨by rw [z2], ?_⟩
    rw [z2]; exact K _ (S.goR z3 z4)
  · exact absurd hx z1
theorem R_word0 {α β : Type} {h1 h2 hc ht : Hp} {n : Int} {B T : Int → Int} {a l : Int} {p q : Hp} {i k x : Int} {Z : List Int} {Ls : List (List Int)} {f g : Int → Hp → Option α} {u : Option β} {Q : β → α → Prop} (hl : l ∈ in_aX22) (S : SS h1 h2 n B T a l p q i k hc ht) (hs : strB x = some Z) (hz : spl Z [] = Ls) (hx : ¬ ((tk B k).1 = 1 ∧ 0 ≤ ix (wr T (tk B k).2.1 (nx B k)) Ls 0))
    (K : ∀ b h', Thr 448 (tk B k).2.1 ht ((1, b), h') → Pr u (g b h') Q) : Pr u (bT (m_X22_word l x ht) f g) Q := by
  refine yr_bT (z_mono (ts_word hl S.2.1 hs hz) (fun r z => ?_))
  rw [S.twR] at z
  rcases z with ⟨z1, z2, z3, z4⟩ | ⟨z1, z2⟩
  · exact absurd z1 hx
  · refine Or.inr ⟨by rw [z2.1]; decide, K _ _ ?_⟩
    have e := z2.1
    obtain ⟨⟨r1, r2⟩, r3⟩ := r
    dsimp only at e ⊢
    rw [← e]; exact z2
theorem yl_eqW {α β : Type} {w b : List Int} {x y : Option α} {u : Option β} {Q : α → β → Prop} (h1 : w = b → Pr y u Q) (h0 : w ≠ b → Pr x u Q) : Pr (if eqW w b = 0 then x else y) u Q := by
  rw [ite_eqW]; exact yl_if h1 h0
theorem y_place {h1 h2 hc ht : Hp} {n : Int} {B T : Int → Int} {a l : Int} {p q : Hp} {i k N C ns na nf nsel nb nt : Int} {s : Int → List Int} (ha : a ∈ in_aX3) (hl : l ∈ in_aX22) (S : SS h1 h2 n B T a l p q i k hc ht) (hk : nx B k = i) (hk4 : (tk B k).1 = 4) (Y : SY T n N s C ns na nf nsel nb nt p q a l) (n1 : na < 3840) (ub : UB p a i) :
    Pr (m_X3_place a 3 hc) (m_X22_colon l ht) (AO h1 h2 n B T a l p q N s C ns na nf nsel nb nt i) := by
  have h3 := aX3 ha
  have h22 := aX22 hl
  have pa11 := Y.2.2.2.1.1
  have ql5 := Y.2.2.2.1.2.1
  have na0 := Y.2.2.2.1.2.2.1
  have g0 := S.ge
  obtain ⟨Z, hZ, hZ2⟩ := sp_wAsk
  unfold m_X3_place
  simp only [g_X2 S.1.1]
  refine yl_gd trivial ?_
  unfold m_X22_colon
  simp only [g_X22_1 S.2.1.1 hl]
  refine yr_gd trivial (R_next S (by omega) (fun ht1 S1 => ?_))
  rw [hk] at S1
  by_cases t1 : (tk B i).1 = 1
  · have tl1 := S1.tl t1
    rw [L_isN S1 t1 st_29, L_isN S1 t1 st_30, L_isN S1 t1 st_31, L_isN S1 t1 st_32, L_isN S1 t1 st_33]
    simp only [Option.bind_some]
    generalize hw : wr T (tk B i).2.1 (nx B i) = w at *
    refine yl_eqW (fun e => ?_) (fun e0 => yl_eqW (fun e => ?_) (fun e1 => yl_eqW (fun e => ?_) (fun e2 => yl_eqW (fun e => ?_) (fun e3 => yl_eqW (fun e => ?_) (fun e4 => ?_)))))
    · have hx : ix w wAsk 0 = 0 := by
        unfold wAsk
        simp only [ix]
        rw [if_pos e]
        all_goals (first | rfl | decide)
      refine R_word1 hl S1 hZ hZ2 (by rw [hw, hx]; exact ⟨t1, by decide⟩) (fun ht2 S2 => ?_)
      rw [hw, hx]
      have l5 : ht2 l 5 = na := by rw [S2.pR (Or.inl rfl)]; exact ql5
      simp only [g_X22_15 S2.2.1.1 hl, l5, e32 (x := 3 + (0 : Int)) (by decide) (by decide)]
      refine yr_gd (by omega) (yr_pt ?_)
      have S3 := S2.putR (b := l + 10) (j := na) (v := 3 + 0) hl (Or.inr ⟨by omega, by omega⟩) (by unfold stW2; omega)
      refine yr_it (by decide) (yr_it (by decide) (L_ask ha S3 pa11 na0 n1 (fun hc3 S5 => L_next ha S5 (by omega) (fun hc4 S6 => y_some (Or.inl ⟨_, _, N, s, nx B i, rfl, rfl, by omega, S6, ?_, (by (try simp (disch := omega) only [up_a, up_e, up_j, e32, e8, ql5]) <;> omega), ?_, by omega, fun _ _ _ => rfl, fun b j b0 b1 nb => by (repeat rw [up_ne (by omega)]), fun b j b0 nb => by (repeat rw [up_ne (by omega)])⟩)))))
      · refine Y.ask (fun b j b0 b1 nb => by (repeat rw [up_ne (by omega)])) ⟨by (try simp (disch := omega) only [up_a, up_e, up_j, e32, e8]); omega, by (try simp (disch := omega) only [up_a, up_e, up_j, e32, e8]); exact Y.1.2.2⟩ (fun b j b0 nb => by (repeat rw [up_ne (by omega)])) (by (try simp (disch := omega) only [up_a, up_e, up_j, e32, e8]) <;> omega) (by (try simp (disch := omega) only [up_a, up_e, up_j, e32, e8]) <;> omega) ?_
        (try simp (disch := omega) only [up_a, up_e, up_j, e32, e8])
        exact ⟨by omega, by omega, by omega, fun y => by omega, fun y => by omega, fun y => by omega⟩
      · obtain ⟨u1, u2, u3, u4⟩ := ub
        refine ⟨?_, ?_, ?_, ?_⟩ <;> (try simp (disch := omega) only [up_a, up_e, up_j, e32, e8]) <;> omega
    · have hx : ix w wAsk 0 = 1 := by
        unfold wAsk
        simp only [ix]
        rw [if_neg e0, if_pos e]
        all_goals (first | rfl | decide)
      refine R_word1 hl S1 hZ hZ2 (by rw [hw, hx]; exact ⟨t1, by decide⟩) (fun ht2 S2 => ?_)
      rw [hw, hx]
      have l5 : ht2 l 5 = na := by rw [S2.pR (Or.inl rfl)]; exact ql5
      simp only [g_X22_15 S2.2.1.1 hl, l5, e32 (x := 3 + (1 : Int)) (by decide) (by decide)]
      refine yr_gd (by omega) (yr_pt ?_)
      have S3 := S2.putR (b := l + 10) (j := na) (v := 3 + 1) hl (Or.inr ⟨by omega, by omega⟩) (by unfold stW2; omega)
      refine yr_it (by decide) (yr_it (by decide) (L_ask ha S3 pa11 na0 n1 (fun hc3 S5 => L_next ha S5 (by omega) (fun hc4 S6 => y_some (Or.inl ⟨_, _, N, s, nx B i, rfl, rfl, by omega, S6, ?_, (by (try simp (disch := omega) only [up_a, up_e, up_j, e32, e8, ql5]) <;> omega), ?_, by omega, fun _ _ _ => rfl, fun b j b0 b1 nb => by (repeat rw [up_ne (by omega)]), fun b j b0 nb => by (repeat rw [up_ne (by omega)])⟩)))))
      · refine Y.ask (fun b j b0 b1 nb => by (repeat rw [up_ne (by omega)])) ⟨by (try simp (disch := omega) only [up_a, up_e, up_j, e32, e8]); omega, by (try simp (disch := omega) only [up_a, up_e, up_j, e32, e8]); exact Y.1.2.2⟩ (fun b j b0 nb => by (repeat rw [up_ne (by omega)])) (by (try simp (disch := omega) only [up_a, up_e, up_j, e32, e8]) <;> omega) (by (try simp (disch := omega) only [up_a, up_e, up_j, e32, e8]) <;> omega) ?_
        (try simp (disch := omega) only [up_a, up_e, up_j, e32, e8])
        exact ⟨by omega, by omega, by omega, fun y => by omega, fun y => by omega, fun y => by omega⟩
      · obtain ⟨u1, u2, u3, u4⟩ := ub
        refine ⟨?_, ?_, ?_, ?_⟩ <;> (try simp (disch := omega) only [up_a, up_e, up_j, e32, e8]) <;> omega
    · have hx : ix w wAsk 0 = 2 := by
        unfold wAsk
        simp only [ix]
        rw [if_neg e0, if_neg e1, if_pos e]
        all_goals (first | rfl | decide)
      refine R_word1 hl S1 hZ hZ2 (by rw [hw, hx]; exact ⟨t1, by decide⟩) (fun ht2 S2 => ?_)
      rw [hw, hx]
      have l5 : ht2 l 5 = na := by rw [S2.pR (Or.inl rfl)]; exact ql5
      simp only [g_X22_15 S2.2.1.1 hl, l5, e32 (x := 3 + (2 : Int)) (by decide) (by decide)]
      refine yr_gd (by omega) (yr_pt ?_)
      have S3 := S2.putR (b := l + 10) (j := na) (v := 3 + 2) hl (Or.inr ⟨by omega, by omega⟩) (by unfold stW2; omega)
      refine yr_it (by decide) (yr_it (by decide) (L_ask ha S3 pa11 na0 n1 (fun hc3 S5 => L_next ha S5 (by omega) (fun hc4 S6 => y_some (Or.inl ⟨_, _, N, s, nx B i, rfl, rfl, by omega, S6, ?_, (by (try simp (disch := omega) only [up_a, up_e, up_j, e32, e8, ql5]) <;> omega), ?_, by omega, fun _ _ _ => rfl, fun b j b0 b1 nb => by (repeat rw [up_ne (by omega)]), fun b j b0 nb => by (repeat rw [up_ne (by omega)])⟩)))))
      · refine Y.ask (fun b j b0 b1 nb => by (repeat rw [up_ne (by omega)])) ⟨by (try simp (disch := omega) only [up_a, up_e, up_j, e32, e8]); omega, by (try simp (disch := omega) only [up_a, up_e, up_j, e32, e8]); exact Y.1.2.2⟩ (fun b j b0 nb => by (repeat rw [up_ne (by omega)])) (by (try simp (disch := omega) only [up_a, up_e, up_j, e32, e8]) <;> omega) (by (try simp (disch := omega) only [up_a, up_e, up_j, e32, e8]) <;> omega) ?_
        (try simp (disch := omega) only [up_a, up_e, up_j, e32, e8])
        exact ⟨by omega, by omega, by omega, fun y => by omega, fun y => by omega, fun y => by omega⟩
      · obtain ⟨u1, u2, u3, u4⟩ := ub
        refine ⟨?_, ?_, ?_, ?_⟩ <;> (try simp (disch := omega) only [up_a, up_e, up_j, e32, e8]) <;> omega
    · have hx : ix w wAsk 0 = 3 := by
        unfold wAsk
        simp only [ix]
        rw [if_neg e0, if_neg e1, if_neg e2, if_pos e]
        all_goals (first | rfl | decide)
      refine R_word1 hl S1 hZ hZ2 (by rw [hw, hx]; exact ⟨t1, by decide⟩) (fun ht2 S2 => ?_)
      rw [hw, hx]
      have l5 : ht2 l 5 = na := by rw [S2.pR (Or.inl rfl)]; exact ql5
      simp only [g_X22_15 S2.2.1.1 hl, l5, e32 (x := 3 + (3 : Int)) (by decide) (by decide)]
      refine yr_gd (by omega) (yr_pt ?_)
      have S3 := S2.putR (b := l + 10) (j := na) (v := 3 + 3) hl (Or.inr ⟨by omega, by omega⟩) (by unfold stW2; omega)
      refine yr_ie (fun y => y rfl) ?_
      simp only [g_X22_1 S3.2.1.1 hl]
      refine yr_gd trivial (L_next ha S3 (by omega) (fun hc2 S4 => ?_))
      generalize hi1 : nx B i = i1 at *
      have g1 := S4.ge
      by_cases t2 : (tk B i1).1 = 4 ∧ (tk B i1).2.2.2 = 40
      · refine L_need1 ha S4 t2 (fun hc3 S5 => R_need1 S5 (by decide) t2 (fun ht3 S6 => ?_))
        simp only [g_X22_1 S6.2.1.1 hl]
        refine yr_gd trivial ?_
        generalize hi2 : nx B i1 = i2 at *
        have g2 := S6.ge
        have hq2 := cs_ok S6.1
        by_cases t3 : (tk B i2).1 = 2
        · have rn := hq2.2.2.2.2.2.2.2.2.1 t3
          have a7 : hc3 3 7 = (tk B i2).2.2.2 := S6.1.2.2.2.2.1.2.2.2.2.2 (Or.inl t3)
          refine L_kind1 S6 t3 ?_
          rw [a7]
          refine L_ask ha S6 pa11 na0 n1 (fun hc4 S7 => L_next ha S7 (by omega) (fun hc5 S8 => R_num1 S8 ⟨t3, by omega, by omega⟩ (fun ht4 S9 => ?_)))
          have l5' : ht3 l 5 = na := by rw [S6.pR (Or.inl rfl)]; (try simp (disch := omega) only [up_a, up_e, up_j, e32, e8]); exact ql5
          have k15 := g_X22_20 S9.2.1.1 hl
          have e20 := g_X22_20 S6.2.1.1 hl
          simp only [e20.1, k15, l5']
          refine yr_gd (by omega) (yr_pt ?_)
          have R1 := S9.putR (b := l + 15) (j := na) (v := (tk B i2).2.2.2) hl (Or.inr ⟨by omega, by omega⟩) (by unfold stW2; omega)
          simp only [g_X22_1 R1.2.1.1 hl]
          refine yr_gd trivial ?_
          generalize hi3 : nx B i2 = i3 at *
          have g3 := R1.ge
          rw [L_byte R1, Option.bind_some]
          by_cases t4 : (tk B i3).1 = 4 ∧ (tk B i3).2.2.2 = 41
          · rw [if_pos t4]
            refine yl_it (by decide) (L_next ha R1 (by omega) (fun hc6 R2 => R_need1 R2 (by decide) t4 (fun ht5 R3 => y_some (Or.inl ⟨_, _, N, s, nx B i3, rfl, rfl, by omega, R3, ?_, (by (try simp (disch := omega) only [up_a, up_e, up_j, e32, e8, ql5]) <;> omega), ?_, by omega, fun _ _ _ => rfl, fun b j b0 b1 nb => by (repeat rw [up_ne (by omega)]), fun b j b0 nb => by (repeat rw [up_ne (by omega)])⟩))))
            · refine Y.ask (fun b j b0 b1 nb => by (repeat rw [up_ne (by omega)])) ⟨by (try simp (disch := omega) only [up_a, up_e, up_j, e32, e8]); omega, by (try simp (disch := omega) only [up_a, up_e, up_j, e32, e8]); exact Y.1.2.2⟩ (fun b j b0 nb => by (repeat rw [up_ne (by omega)])) (by (try simp (disch := omega) only [up_a, up_e, up_j, e32, e8]) <;> omega) (by (try simp (disch := omega) only [up_a, up_e, up_j, e32, e8]) <;> omega) ?_
              (try simp (disch := omega) only [up_a, up_e, up_j, e32, e8])
              exact ⟨by omega, by omega, by omega, fun y => by omega, fun y => by omega, fun _ => rfl⟩
            · obtain ⟨u1, u2, u3, u4⟩ := ub
              refine ⟨?_, ?_, ?_, ?_⟩ <;> (try simp (disch := omega) only [up_a, up_e, up_j, e32, e8]) <;> omega
          · rw [if_neg t4]
            exact yl_ie (fun y => y rfl) (L_brk R1 (fun b h' z => R_need0 R1 (by decide) t4 (fun b' h'' z' => y_some (Or.inr (ss_thr ha hl R1 ⟨by omega, by omega⟩ z z')))))
        · exact L_kind0 S6 t3 (fun b h' z => R_num0 S6 (fun y => t3 y.1) (fun b' h'' z' => y_some (Or.inr (ss_thr ha hl S6 ⟨by omega, by omega⟩ z z'))))
      · exact L_need0 S4 t2 (fun b h' z => R_need0 S4 (by decide) t2 (fun b' h'' z' => y_some (Or.inr (ss_thr ha hl S4 ⟨by omega, by omega⟩ z z'))))
    · have hx : ix w wAsk 0 = 4 := by
        unfold wAsk
        simp only [ix]
        rw [if_neg e0, if_neg e1, if_neg e2, if_neg e3, if_pos e]
        all_goals (first | rfl | decide)
      refine R_word1 hl S1 hZ hZ2 (by rw [hw, hx]; exact ⟨t1, by decide⟩) (fun ht2 S2 => ?_)
      rw [hw, hx]
      have l5 : ht2 l 5 = na := by rw [S2.pR (Or.inl rfl)]; exact ql5
      simp only [g_X22_15 S2.2.1.1 hl, l5, e32 (x := 3 + (4 : Int)) (by decide) (by decide)]
      refine yr_gd (by omega) (yr_pt ?_)
      have S3 := S2.putR (b := l + 10) (j := na) (v := 3 + 4) hl (Or.inr ⟨by omega, by omega⟩) (by unfold stW2; omega)
      refine yr_it (by decide) (yr_ie (fun y => y rfl) ?_)
      simp only [g_X22_1 S3.2.1.1 hl]
      refine yr_gd trivial (L_next ha S3 (by omega) (fun hc2 S4 => ?_))
      generalize hi1 : nx B i = i1 at *
      have g1 := S4.ge
      by_cases t2 : (tk B i1).1 = 4 ∧ (tk B i1).2.2.2 = 40
      · refine L_need1 ha S4 t2 (fun hc3 S5 => R_need1 S5 (by decide) t2 (fun ht3 S6 => ?_))
        simp only [g_X22_1 S6.2.1.1 hl]
        refine yr_gd trivial ?_
        rw [S6.tR.1]
        generalize hi2 : nx B i1 = i2 at *
        have g2 := S6.ge
        by_cases t3 : (tk B i2).1 = 1
        · have tl2 := S6.tl t3
          obtain ⟨ub1, ub2, ub3, ub4⟩ := ub
          have ubN0 : p (a + 1) 3 = N := Y.1.1.1.1
          refine L_kind1 S6 t3 (yr_it (kT1 t3) ?_)
          simp only [g_X3_0 S6.1.1 ha, g_X2_0 S6.1.1]
          refine yl_gd trivial (L_add ha S6 t3 Y.1.1 ⟨by omega, by omega⟩ (fun v p1 hc1 N1 s1 S7 M1 e1 N1a N1b s1a nv u1 => ?_))
          have Y1 := Y.names M1 N1a s1a e1
          have pa1 : p1 a = p a := e1 a (by omega) (by omega) (by omega)
          have p11 : p1 (a + 11) = p (a + 11) := e1 _ (by omega) (by omega) (by omega)
          have p6 : p1 (a + 6) = p (a + 6) := e1 _ (by omega) (by omega) (by omega)
          have ubN : p1 (a + 1) 3 = N1 := M1.1.1
          refine L_ask ha S7 (by rw [pa1]; exact pa11) na0 n1 (fun hc4 S8 => L_next ha S8 (by omega) (fun hc5 S9 => ?_))
          have l5' : ht3 l 5 = na := by rw [S9.pR (Or.inl rfl)]; (try simp (disch := omega) only [up_a, up_e, up_j, e32, e8]); exact ql5
          simp only [g_X22_16 S9.2.1.1 hl, l5', S9.tR.2.1]
          refine yr_gd (by omega) (yr_pt ?_)
          have R1 := S9.putR (b := l + 11) (j := na) (v := (tk B i2).2.1) hl (Or.inr ⟨by omega, by omega⟩) (by unfold stW2; omega)
          simp only [g_X22_1 R1.2.1.1 hl, g_X22_17 R1.2.1.1 hl, R1.tR.2.2, up_a (show l ≠ l + 11 by omega), l5']
          refine yr_gd trivial (yr_gd (by omega) (yr_pt ?_))
          have R2 := R1.putR (b := l + 12) (j := na) (v := nx B i2) hl (Or.inr ⟨by omega, by omega⟩) (by unfold stW2; omega)
          simp only [g_X22_1 R2.2.1.1 hl]
          refine yr_gd trivial (R_next R2 (by omega) (fun ht4 R3 => ?_))
          simp only [g_X22_1 R3.2.1.1 hl]
          refine yr_gd trivial ?_
          generalize hi3 : nx B i2 = i3 at *
          have g3 := R3.ge
          rw [L_byte R3, Option.bind_some]
          by_cases t4 : (tk B i3).1 = 4 ∧ (tk B i3).2.2.2 = 41
          · rw [if_pos t4]
            refine yl_it (by decide) (L_next ha R3 (by omega) (fun hc6 R4 => R_need1 R4 (by decide) t4 (fun ht5 R5 => y_some (Or.inl ⟨_, _, N1, s1, nx B i3, rfl, rfl, by omega, R5, ?_, (by (try simp (disch := omega) only [up_a, up_e, up_j, e32, e8, ql5]) <;> omega), ?_, N1a, s1a, fun b j b0 b1 nb => by ((repeat rw [up_ne (by omega)]); exact congrFun (e1 b b0 b1 (by omega)) j), fun b j b0 nb => by (repeat rw [up_ne (by omega)])⟩))))
            · refine Y1.ask (fun b j b0 b1 nb => by (repeat rw [up_ne (by omega)])) ⟨by (try simp (disch := omega) only [up_a, up_e, up_j, e32, e8]); omega, by (try simp (disch := omega) only [up_a, up_e, up_j, e32, e8]); exact Y1.1.2.2⟩ (fun b j b0 nb => by (repeat rw [up_ne (by omega)])) (by (try simp (disch := omega) only [up_a, up_e, up_j, e32, e8]) <;> omega) (by (try simp (disch := omega) only [up_a, up_e, up_j, e32, e8]) <;> omega) ?_
              (try simp (disch := omega) only [up_a, up_e, up_j, e32, e8])
              exact ⟨by omega, by omega, by omega, fun _ => nv, fun y => by omega, fun y => by omega⟩
            · refine ⟨?_, ?_, ?_, ?_⟩ <;> (try simp (disch := omega) only [up_a, up_e, up_j, e32, e8, p6, p11]) <;> omega
          · rw [if_neg t4]
            exact yl_ie (fun y => y rfl) (L_brk R3 (fun b h' z => R_need0 R3 (by decide) t4 (fun b' h'' z' => y_some (Or.inr (ss_thr ha hl R3 ⟨by omega, by omega⟩ z z')))))
        · exact L_kind0 S6 t3 (fun b h' z => yr_ie (fun y => t3 ((kTe (by decide) (by decide)).mp y)) (R_brk hl S6 (fun b' h'' z' => y_some (Or.inr (ss_thr ha hl S6 ⟨by omega, by omega⟩ z z')))))
      · exact L_need0 S4 t2 (fun b h' z => R_need0 S4 (by decide) t2 (fun b' h'' z' => y_some (Or.inr (ss_thr ha hl S4 ⟨by omega, by omega⟩ z z'))))
    · have hx : ix w wAsk 0 = -1 := by
        unfold wAsk
        simp only [ix]
        rw [if_neg e0, if_neg e1, if_neg e2, if_neg e3, if_neg e4]
      exact L_brk S1 (fun b h' z => R_word0 hl S1 hZ hZ2 (by rw [hw, hx]; exact fun y => absurd y.2 (by decide)) (fun b' h'' z' => y_some (Or.inr (ss_thr ha hl S1 ⟨by omega, by omega⟩ z z'))))
  · rw [cs_isN0 S1.1 t1 st_29, cs_isN0 S1.1 t1 st_30, cs_isN0 S1.1 t1 st_31, cs_isN0 S1.1 t1 st_32, cs_isN0 S1.1 t1 st_33]
    simp only [Option.bind_some, if_true]
    exact L_brk S1 (fun b h' z => R_word0 hl S1 hZ hZ2 (fun y => t1 y.1) (fun b' h'' z' => y_some (Or.inr (ss_thr ha hl S1 ⟨by omega, by omega⟩ z z'))))
