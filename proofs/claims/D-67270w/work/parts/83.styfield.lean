set_option maxRecDepth 100000
/-! STYLES: [name], [name="string"] -/
theorem up_ne {h : Hp} {a i v b j : Int} (n : ¬ (b = a ∧ j = i)) : up h a i v b j = h b j := if_neg n
theorem q_inner {h : Hp} {a : Int} {q : Int × Int × Int × Int} (A : AtT h a q) (h0 : 0 ≤ q.2.1) (h1 : q.2.1 ≤ 100000) (h2 : q.2.2.1 ≤ 100000) (h3 : 0 ≤ q.2.2.1) : m_X20_inner a h = some (q.2.1 + 1) ∧ m_X20_innerEnd a h = some (q.2.2.1 - 1) := by
  unfold m_X20_inner m_X20_innerEnd
  rw [A.2.1, A.2.2.1, e32 (by omega) (by omega), e32 (by omega) (by omega)]
  exact ⟨rfl, rfl⟩
/-- what a place asks, left -/
theorem L_ask {α β : Type} {h1 h2 hc ht : Hp} {n : Int} {B T : Int → Int} {a l : Int} {p q : Hp} {i k na kd nm x z : Int} {f : Hp → Option α} {u : Option β} {Q : α → β → Prop} (ha : a ∈ in_aX3) (S : SS h1 h2 n B T a l p q i k hc ht) (e : p a 11 = na) (n0 : 0 ≤ na) (n1 : na < 3840)
    (K : ∀ hc', SS h1 h2 n B T a l (up (up (up (up (up p (a + 16) na kd) (a + 17) na nm) (a + 18) na x) (a + 19) na z) a 11 (na + 1)) q i k hc' ht → Pr (f hc') u Q) : Pr ((m_X3_ask a kd nm x z hc).bind f) u Q := by
  have ec : hc a 11 = na := by rw [S.2.2.2.2.2.1.1 a (by omega) (by omega)]; exact e
  rw [q_ask S.1.1 ha ec n0 n1, Option.bind_some]
  exact K _ (((((S.putL ha (by omega) (by unfold scW; omega)).putL ha (by omega) (by unfold scW; omega)).putL ha (by omega) (by unfold scW; omega)).putL ha (by omega) (by unfold scW; omega)).putL ha (by omega) (by unfold scW; omega))
theorem SS.pL {h1 h2 hc ht : Hp} {n : Int} {B T : Int → Int} {a l : Int} {p q : Hp} {i k : Int} (S : SS h1 h2 n B T a l p q i k hc ht) {b : Int} (b0 : a ≤ b) (b1 : b ≤ a + 27) : hc b = p b := S.2.2.2.2.2.1.1 b b0 b1
theorem SS.pR {h1 h2 hc ht : Hp} {n : Int} {B T : Int → Int} {a l : Int} {p q : Hp} {i k : Int} (S : SS h1 h2 n B T a l p q i k hc ht) {b : Int} (b0 : b = l ∨ l + 3 ≤ b ∧ b ≤ l + 22) : ht b = q b := by
  rcases b0 with rfl | b0
  · exact S.2.2.2.2.2.1.2.1
  · exact S.2.2.2.2.2.1.2.2 b b0.1 b0.2
/-- the right one's sign: its kind, its ends -/
theorem SS.tR {h1 h2 hc ht : Hp} {n : Int} {B T : Int → Int} {a l : Int} {p q : Hp} {i k : Int} (S : SS h1 h2 n B T a l p q i k hc ht) : ht (l + 2) 3 = kT (tk B k).1 ∧ ht (l + 2) 4 = (tk B k).2.1 ∧ ht (l + 2) 5 = nx B k := ⟨S.2.1.2.2.2.1.1, S.2.1.2.2.2.1.2.1, S.2.1.2.2.2.1.2.2.1⟩
theorem SS.inner {h1 h2 hc ht : Hp} {n : Int} {B T : Int → Int} {a l : Int} {p q : Hp} {i k : Int} (S : SS h1 h2 n B T a l p q i k hc ht) (h0 : 0 ≤ (tk B k).2.1) (h1 : nx B k ≤ n) : m_X20_inner (l + 2) ht = some ((tk B k).2.1 + 1) ∧ m_X20_innerEnd (l + 2) ht = some (nx B k - 1) := by
  have hq := ts_ok S.2.1
  have n4 := S.2.2.2.2.2.2
  have e := hq.2.2.1
  have e2 := hq.2.1
  unfold nx at *
  exact q_inner S.2.1.2.2.2.1 h0 (by omega) (by omega) (by omega)
theorem kT3 {k : Int} (h : k = 3) : kT k = 3 := by subst h; rfl
theorem SS.tl {h1 h2 hc ht : Hp} {n : Int} {B T : Int → Int} {a l : Int} {p q : Hp} {i k : Int} (S : SS h1 h2 n B T a l p q i k hc ht) (h : (tk B i).1 = 1) : (tk B i).2.1 < nx B i ∧ nx B i ≤ n := by
  have hq := cs_ok S.1
  have := hq.2.2.2.2.2.2.1 h
  have := hq.2.2.2.1 (by omega)
  unfold nx; omega
theorem y_field {h1 h2 hc ht : Hp} {n : Int} {B T : Int → Int} {a l : Int} {p q : Hp} {i k N C ns na nf nsel nb nt : Int} {s : Int → List Int} (ha : a ∈ in_aX3) (hl : l ∈ in_aX22) (S : SS h1 h2 n B T a l p q i k hc ht) (hk : nx B k = i) (hk4 : (tk B k).1 = 4) (Y : SY T n N s C ns na nf nsel nb nt p q a l) (n1 : na < 3840) (ub : UB p a i) :
    Pr (m_X3_field a 3 hc) (m_X22_bracket l ht) (AO h1 h2 n B T a l p q N s C ns na nf nsel nb nt i) := by
  have h3 := aX3 ha
  have h22 := aX22 hl
  have pa11 := Y.2.2.2.1.1
  have ql5 := Y.2.2.2.1.2.1
  have na0 := Y.2.2.2.1.2.2.1
  have g0 := S.ge
  unfold m_X3_field
  simp only [g_X2 S.1.1]
  refine yl_gd trivial ?_
  unfold m_X22_bracket
  simp only [g_X22_1 S.2.1.1 hl]
  refine yr_gd trivial (R_next S (by omega) (fun ht1 S1 => ?_))
  rw [hk] at S1
  simp only [g_X22_1 S1.2.1.1 hl]
  refine yr_gd trivial ?_
  rw [S1.tR.1]
  by_cases t1 : (tk B i).1 = 1
  · have tl1 := S1.tl t1
    refine L_kind1 S1 t1 (yr_it (kT1 t1) ?_)
    simp only [g_X3_0 S1.1.1 ha, g_X2_0 S1.1.1]
    refine yl_gd trivial (L_add ha S1 t1 Y.1.1 ⟨ub.1, by rw [← Y.1.1.1.1]; exact ub.2.1⟩ (fun v p1 hc1 N1 s1 S2 M1 e1 N1a N1b s1a nv u1 => ?_))
    have Y1 := Y.names M1 N1a s1a e1
    have pa1 : p1 a = p a := e1 a (by omega) (by omega) (by omega)
    have p11 : p1 (a + 11) = p (a + 11) := e1 _ (by omega) (by omega) (by omega)
    have p6 : p1 (a + 6) = p (a + 6) := e1 _ (by omega) (by omega) (by omega)
    obtain ⟨ub1, ub2, ub3, ub4⟩ := ub
    have ubN : p1 (a + 1) 3 = N1 := M1.1.1
    have ubN0 : p (a + 1) 3 = N := Y.1.1.1.1
    refine L_next ha S2 (by omega) (fun hc2 S3 => ?_)
    -- the right one writes the name
    have l5 : ht1 l 5 = na := by rw [S3.pR (Or.inl rfl)]; exact ql5
    simp only [g_X22_15 S3.2.1.1 hl, l5]
    refine yr_gd (by omega) (yr_pt ?_)
    have R1 := S3.putR (b := l + 10) (j := na) (v := 1) hl (Or.inr ⟨by omega, by omega⟩) (by unfold stW2; omega)
    simp only [g_X22_1 R1.2.1.1 hl, g_X22_16 R1.2.1.1 hl, R1.tR.2.1, up_a (show l ≠ l + 10 by omega), l5]
    refine yr_gd trivial (yr_gd (by omega) (yr_pt ?_))
    have R2 := R1.putR (b := l + 11) (j := na) (v := (tk B i).2.1) hl (Or.inr ⟨by omega, by omega⟩) (by unfold stW2; omega)
    simp only [g_X22_1 R2.2.1.1 hl, g_X22_17 R2.2.1.1 hl, R2.tR.2.2, up_a (show l ≠ l + 10 by omega), up_a (show l ≠ l + 11 by omega), l5]
    refine yr_gd trivial (yr_gd (by omega) (yr_pt ?_))
    have R3 := R2.putR (b := l + 12) (j := na) (v := nx B i) hl (Or.inr ⟨by omega, by omega⟩) (by unfold stW2; omega)
    simp only [g_X22_1 R3.2.1.1 hl]
    refine yr_gd trivial (R_next R3 (by omega) (fun ht2 R4 => ?_))
    simp only [g_X22_1 R4.2.1.1 hl]
    refine yr_gd trivial ?_
    rw [R_byte R4 (by decide), Option.bind_some]
    generalize hi1 : nx B i = i1 at *
    have g1 := R4.ge
    have q5 : ∀ {q' : Hp}, (up (up (up q (l + 10) na 1) (l + 11) na (tk B i).2.1) (l + 12) na i1) l 5 = na := by
      intro q'; (try simp (disch := omega) only [up_a, up_e, up_j, e32, e8]); exact ql5
    by_cases t2 : (tk B i1).1 = 4 ∧ (tk B i1).2.2.2 = 61
    · rw [if_pos t2]
      refine L_take1 ha R4 t2 (fun hc3 S5 => yl_ie (by decide) (yr_ie (by decide) (R_next S5 (by omega) (fun ht3 S6 => ?_))))
      simp only [g_X22_1 S6.2.1.1 hl]
      refine yr_gd trivial ?_
      rw [S6.tR.1]
      generalize hi2 : nx B i1 = i2 at *
      have g2 := S6.ge
      by_cases t4 : (tk B i2).1 = 3
      · have hq2 := cs_ok S6.1
        have l3 : (tk B i2).2.1 + 2 ≤ nx B i2 ∧ nx B i2 ≤ n := ⟨hq2.2.2.2.2.2.2.2.1 t4, hq2.2.2.2.1 (by omega)⟩
        have a6 : hc3 3 6 = nx B i2 - (tk B i2).2.1 - 2 := (S6.1.2.2.2.2.1.2.2.2.2.1 t4).2
        have m0 := Y1.1.2.1
        have m1 := Y1.1.2.2
        have n4 := S.2.2.2.2.2.2
        have cm : hc3 (a + 11) 1 = p1 (a + 11) 1 := by rw [S6.pL (by omega) (by omega)]
        refine L_kind1 S6 t4 (yr_it (kT3 t4) ?_)
        simp only [g_X3_2 S6.1.1 ha, a6, cm]
        refine yl_gd trivial (L_ask ha S6 (by rw [pa1]; exact pa11) na0 n1 (fun hc4 S7 => ?_))
        simp only [g_X3_2 S7.1.1 ha, g_X2_0 S7.1.1]
        refine yl_gd trivial (yl_bT (z_mono (c_addAll (T := T) (m := p1 (a + 11) 1) ha S7.1 S7.2.2.2.2.1.2 t4 (by rw [S7.pL (by omega) (by omega)]; (try simp (disch := omega) only [up_a, up_e, up_j, e32, e8])) m0 (by rw [p11]; omega)) (fun r hr => Or.inl ?_)))
        obtain ⟨r1, r2, r3, r4⟩ := hr
        refine ⟨by rw [r1], ?_⟩
        have S8 := S7.newL ha r2 (fun b j z => by unfold scW; omega)
        have fr : ∀ b j, a ≤ b → b ≤ a + 27 → ¬ ((b = a + 11 ∧ j = 1) ∨ (b = a + 12 ∧ p1 (a + 11) 1 ≤ j)) → r.2 b j = (up (up (up (up (up p1 (a + 16) na 1) (a + 17) na v) (a + 18) na (p1 (a + 11) 1)) (a + 19) na (nx B i2 - (tk B i2).2.1 - 2)) a 11 (na + 1)) b j := fun b j b0 b1 nb => by
          rw [r2 b j (fun z => nb (z.imp id (fun y => ⟨y.1, y.2.1⟩))), S7.pL b0 b1]
        refine L_next ha S8 (by omega) (fun hc6 S9 => ?_)
        -- the right one writes the string
        have l5' : ht3 l 5 = na := by rw [S9.pR (Or.inl rfl)]; exact q5 (q' := q)
        simp only [g_X22_15 S9.2.1.1 hl, l5']
        refine yr_gd (by omega) (yr_pt ?_)
        have R5 := S9.putR (b := l + 10) (j := na) (v := 2) hl (Or.inr ⟨by omega, by omega⟩) (by unfold stW2; omega)
        have hin := R5.inner (by omega) l3.2
        simp only [g_X22_1 R5.2.1.1 hl, g_X22_18 R5.2.1.1 hl, up_a (show l ≠ l + 10 by omega), l5', hin.1, Option.bind_some]
        refine yr_gd trivial (yr_gd (by omega) (yr_pt ?_))
        have R6 := R5.putR (b := l + 13) (j := na) (v := (tk B i2).2.1 + 1) hl (Or.inr ⟨by omega, by omega⟩) (by unfold stW2; omega)
        have hin2 := R6.inner (by omega) l3.2
        simp only [g_X22_1 R6.2.1.1 hl, g_X22_19 R6.2.1.1 hl, up_a (show l ≠ l + 10 by omega), up_a (show l ≠ l + 13 by omega), l5', hin2.2, Option.bind_some]
        refine yr_gd trivial (yr_gd (by omega) (yr_pt ?_))
        have R7 := R6.putR (b := l + 14) (j := na) (v := nx B i2 - 1) hl (Or.inr ⟨by omega, by omega⟩) (by unfold stW2; omega)
        simp only [g_X22_1 R7.2.1.1 hl]
        refine yr_gd trivial (R_next R7 (by omega) (fun ht4 R8 => ?_))
        simp only [g_X22_1 R8.2.1.1 hl]
        refine yr_gd trivial ?_
        generalize hi3 : nx B i2 = i3 at *
        have g3 := R8.ge
        by_cases t3 : (tk B i3).1 = 4 ∧ (tk B i3).2.2.2 = 93
        · refine L_need1 ha R8 t3 (fun hc7 T1 => R_need1 T1 (by decide) t3 (fun ht5 T2 => y_some (Or.inl ⟨_, _, N1, s1, nx B i3, rfl, rfl, by omega, T2, ?_, ?_, ?_, N1a, s1a, fun b j b0 b1 nb => ?_, fun b j b0 nb => by (repeat rw [up_ne (by omega)])⟩)))
          · refine Y1.ask (fun b j b0 b1 nb => ?_) ?_ (fun b j b0 nb => ?_) ?_ ?_ ?_
            · rw [fr b j b0 b1 (by omega)]
              (repeat rw [up_ne (by omega)])
            · rw [r3]; exact ⟨by omega, by rw [p11]; omega⟩
            · (repeat rw [up_ne (by omega)])
            · rw [fr _ _ (by omega) (by omega) (by omega)]; (try simp (disch := omega) only [up_a, up_e, up_j, e32, e8])
            · (try simp (disch := omega) only [up_a, up_e, up_j, e32, e8])
            · rw [r3, fr (a + 16) _ (by omega) (by omega) (by omega), fr (a + 17) _ (by omega) (by omega) (by omega), fr (a + 18) _ (by omega) (by omega) (by omega), fr (a + 19) _ (by omega) (by omega) (by omega)]
              (try simp (disch := omega) only [up_a, up_e, up_j, e32, e8])
              refine ⟨by omega, by omega, by omega, fun _ => nv, fun _ => ⟨m0, by omega, by omega, by omega, by omega, by omega, r4⟩, fun y => by omega⟩
          · (try simp (disch := omega) only [up_a, up_e, up_j, e32, e8]); exact ql5
          · refine ⟨?_, ?_, ?_, ?_⟩
            · rw [fr _ _ (by omega) (by omega) (by omega)]; (try simp (disch := omega) only [up_a, up_e, up_j, e32, e8]); omega
            · rw [fr _ _ (by omega) (by omega) (by omega)]; (try simp (disch := omega) only [up_a, up_e, up_j, e32, e8]); omega
            · rw [fr _ _ (by omega) (by omega) (by omega)]; (try simp (disch := omega) only [up_a, up_e, up_j, e32, e8]); rw [p6]; omega
            · rw [r3, p11]; omega
          · rw [fr b j b0 b1 (by omega)]
            (repeat rw [up_ne (by omega)])
            exact congrFun (e1 b b0 b1 (by omega)) j
        · exact L_need0 R8 t3 (fun b h' z => R_need0 R8 (by decide) t3 (fun b' h'' z' => y_some (Or.inr (ss_thr ha hl R8 ⟨by omega, by omega⟩ z z'))))
      · refine L_kind0 S6 t4 (fun b h' z => yr_ie (fun y => t4 ((kTe (by decide) (by decide)).mp y)) (R_brk hl S6 (fun b' h'' z' => y_some (Or.inr (ss_thr ha hl S6 ⟨by omega, by omega⟩ z z')))))
    · rw [if_neg t2]
      refine L_take0 R4 t2 (yl_it rfl (yr_it rfl (L_ask ha R4 (by rw [pa1]; exact pa11) na0 n1 (fun hc3 S5 => ?_))))
      by_cases t3 : (tk B i1).1 = 4 ∧ (tk B i1).2.2.2 = 93
      · refine L_need1 ha S5 t3 (fun hc4 S6 => R_need1 S6 (by decide) t3 (fun ht3 S7 => y_some (Or.inl ⟨_, _, N1, s1, nx B i1, rfl, rfl, by omega, S7, ?_, q5 (q' := q), ?_, N1a, s1a, fun b j b0 b1 nb => ?_, fun b j b0 nb => by (repeat rw [up_ne (by omega)])⟩)))
        · refine Y1.ask (fun b j b0 b1 nb => ?_) ?_ (fun b j b0 nb => ?_) ?_ ?_ ?_
          · (repeat rw [up_ne (by omega)])
          · (try simp (disch := omega) only [up_a, up_e, up_j, e32, e8]); exact ⟨by omega, Y1.1.2.2⟩
          · (repeat rw [up_ne (by omega)])
          · (try simp (disch := omega) only [up_a, up_e, up_j, e32, e8])
          · (try simp (disch := omega) only [up_a, up_e, up_j, e32, e8])
          · (try simp (disch := omega) only [up_a, up_e, up_j, e32, e8])
            exact ⟨by omega, by omega, by omega, fun _ => nv, fun y => by omega, fun y => by omega⟩
        · refine ⟨?_, ?_, ?_, ?_⟩ <;> (try simp (disch := omega) only [up_a, up_e, up_j, e32, e8])
          · omega
          · omega
          · rw [p6]; omega
          · rw [p11]; omega
        · (repeat rw [up_ne (by omega)])
          exact congrFun (e1 b b0 b1 (by omega)) j
      · exact L_need0 S5 t3 (fun b h' z => R_need0 S5 (by decide) t3 (fun b' h'' z' => y_some (Or.inr (ss_thr ha hl S5 ⟨by omega, by omega⟩ z z'))))
  · refine L_kind0 S1 t1 (fun b h' z => ?_)
    refine yr_ie (fun y => t1 ((kTe (by decide) (by decide)).mp y)) (R_brk hl S1 (fun b' h'' z' => y_some (Or.inr (ss_thr ha hl S1 ⟨by omega, by omega⟩ z z'))))
