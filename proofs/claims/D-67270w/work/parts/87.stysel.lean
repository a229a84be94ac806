set_option maxRecDepth 100000
/-! STYLES: a selector -/
theorem tk_lt4 {B : Int → Int} {i : Int} (h : (tk B i).1 = 4) : (tk B i).2.1 < nx B i := by
  unfold nx
  unfold tk at h ⊢
  grind
theorem y_step {h1 h2 hc ht : Hp} {n : Int} {B T : Int → Int} {a l : Int} {p q : Hp} {i N C ns na nf nsel nb nt jn lk bg : Int} {s : Int → List Int} (ha : a ∈ in_aX3) (hl : l ∈ in_aX22) (S : SS h1 h2 n B T a l p q i i hc ht) (tt : (tk B i).1 = 1 ∨ ((tk B i).1 = 4 ∧ (tk B i).2.2.2 = 42)) (Y : SY T n N s C ns na nf nsel nb nt p q a l) (hj : joinO jn lk) (hb : q (l + 4) nsel = bg) (hb0 : 0 ≤ bg) (hb1 : bg ≤ ns) (hb2 : ns - bg < 8) (e9 : q (l + 9) ns = na) (n1 : na ≤ 4 * ns) (ns1 : ns < 960) (ub : UB p a i) :
    Pr (m_X3_step a 3 jn hc) (m_X22_step l lk bg ht) (fun rc rt => SO h1 h2 n B T a l p q C ns na nf nsel nb nt i rc rt ∨ BO h1 h2 n a l rc rt) := by
  have h3 := aX3 ha
  have h22 := aX22 hl
  have g0 := S.ge
  have pa6 : hc a 6 = ns := by rw [S.pL (by omega) (by omega)]; exact Y.2.2.1.1
  have l4 : ht l 4 = ns := by rw [S.pR (Or.inl rfl)]; exact Y.2.2.1.2.1
  have ns0 := Y.2.2.1.2.2.1
  obtain ⟨u1, u2, u3, u4⟩ := id ub
  unfold m_X3_step m_X22_step
  rw [l4]
  simp only [g_X3_3 S.1.1 ha, pa6, g_X22_1 S.2.1.1 hl, e32 (x := ns - bg) (by omega) (by omega)]
  refine yr_it (by omega) (yr_gd trivial ?_)
  rw [R_byte S (by decide), Option.bind_some, S.tR.1]
  refine yl_lt (yl_gd (by omega) (yl_pt ?_))
  have S1 := S.putL (b := a + 13) (j := ns) (v := -1) ha (by omega) (by unfold scW; omega)
  have k3 : up hc (a + 13) ns (-1) 3 3 = (tk B i).1 := S1.1.2.2.2.2.1.1
  simp only [g_X2 S1.1.1, k3]
  refine yl_gd trivial ?_
  -- other rows stay
  have Y0 : ∀ {v : Int} {p1 : Hp} {N1 : Int} {s1 : Int → List Int} {x y : Int}, SY T n N1 s1 C ns na nf nsel nb nt p1 q a l → SY T n N1 s1 C ns na nf nsel nb nt (up p1 (a + 13) ns v) (up (up q (l + 6) ns x) (l + 7) ns y) a l := by
    intro v p1 N1 s1 x y Y1
    obtain ⟨y1, y2, y3, y4, y5, y6, y7⟩ := Y1
    have rp : ∀ k : Int, 0 ≤ k → k ≤ 27 → k ≠ 13 → up p1 (a + 13) ns v (a + k) = p1 (a + k) := fun k k0 k1 k2 => up_row (by omega)
    have ra : up p1 (a + 13) ns v a = p1 a := up_row (by omega)
    have rq : ∀ k : Int, 3 ≤ k → k ≤ 22 → k ≠ 6 → k ≠ 7 → up (up q (l + 6) ns x) (l + 7) ns y (l + k) = q (l + k) := fun k k0 k1 k2 k3 => by rw [up_row (by omega), up_row (by omega)]
    have rl : up (up q (l + 6) ns x) (l + 7) ns y l = q l := by rw [up_row (by omega), up_row (by omega)]
    have mo := y5.mono
    refine ⟨?_, ?_, ?_, ?_, ?_, ?_, ?_⟩
    · unfold syN at *
      rw [rp 11 (by decide) (by decide) (by decide)]
      exact ⟨y1.1.kept (fun b b0 b1 => up_row (by omega)), y1.2⟩
    · unfold syC at *
      rw [rl, rq 21 (by decide) (by decide) (by decide) (by decide), rq 22 (by decide) (by decide) (by decide) (by decide)]
      obtain ⟨c1, c2, s, c3, c4⟩ := y2
      exact ⟨c1, c2, s, c3.kept (fun b b0 b1 => up_row (by omega)), c4⟩
    · unfold syS at *
      rw [ra, rl, rp 14 (by decide) (by decide) (by decide), rp 15 (by decide) (by decide) (by decide), rq 8 (by decide) (by decide) (by decide) (by decide), rq 9 (by decide) (by decide) (by decide) (by decide)]
      obtain ⟨c1, c2, c3, c4, c5⟩ := y3
      refine ⟨c1, c2, c3, c4, fun k k0 k1 => ?_⟩
      (try simp (disch := omega) only [up_a, up_e, up_j, e32, e8])
      exact c5 k k0 k1
    · unfold syA at *
      rw [ra, rl, rp 11 (by decide) (by decide) (by decide), rp 12 (by decide) (by decide) (by decide), rp 16 (by decide) (by decide) (by decide), rp 17 (by decide) (by decide) (by decide), rp 18 (by decide) (by decide) (by decide), rp 19 (by decide) (by decide) (by decide), rq 10 (by decide) (by decide) (by decide) (by decide), rq 11 (by decide) (by decide) (by decide) (by decide), rq 12 (by decide) (by decide) (by decide) (by decide), rq 13 (by decide) (by decide) (by decide) (by decide), rq 14 (by decide) (by decide) (by decide) (by decide), rq 15 (by decide) (by decide) (by decide) (by decide)]
      exact y4
    · unfold syL at *
      rw [ra, rl, rp 20 (by decide) (by decide) (by decide), rp 21 (by decide) (by decide) (by decide), rp 22 (by decide) (by decide) (by decide), rq 4 (by decide) (by decide) (by decide) (by decide), rq 5 (by decide) (by decide) (by decide) (by decide), rq 9 (by decide) (by decide) (by decide) (by decide)]
      obtain ⟨c1, c2, c3, c4, c5, c6⟩ := y5
      refine ⟨c1, c2, c3, c4, c5, fun k k0 k1 => ?_⟩
      obtain ⟨d1, d2, d3, d4, d5, d6⟩ := c6 k k0 k1
      have m1 := mo (nsel - (k + 1)).toNat (k + 1) (by omega) (by omega)
      refine ⟨d1, d2, d3, d4, ?_, d6⟩
      rw [d5]
      exact (wsm_congr _ (fun x x0 x1 => rfl) (fun x x0 x1 => by (try simp (disch := omega) only [up_a, up_e, up_j, e32, e8]))).symm
    · unfold syD at *
      rw [ra, rl, rp 11 (by decide) (by decide) (by decide), rp 12 (by decide) (by decide) (by decide), rp 27 (by decide) (by decide) (by decide), rp 23 (by decide) (by decide) (by decide), rp 24 (by decide) (by decide) (by decide), rp 25 (by decide) (by decide) (by decide), rp 26 (by decide) (by decide) (by decide), rq 16 (by decide) (by decide) (by decide) (by decide), rq 17 (by decide) (by decide) (by decide) (by decide), rq 18 (by decide) (by decide) (by decide) (by decide), rq 19 (by decide) (by decide) (by decide) (by decide), rq 20 (by decide) (by decide) (by decide) (by decide)]
      exact y6
    · unfold pgO at *
      rw [ra, rq 3 (by decide) (by decide) (by decide) (by decide)]
      exact y7
  by_cases t1 : (tk B i).1 = 1
  · have tl := S.tl t1
    refine yl_ie (fun z => z t1) ?_
    have n4 : ¬ ((tk B i).1 = 4 ∧ (tk B i).2.2.2 = 42) := fun z => by omega
    rw [if_neg n4]
    refine yr_it rfl (yr_ie (fun z => z (kT1 t1)) ?_)
    -- the left one's name
    have M0 : NM (up p (a + 13) ns (-1)) (a + 1) N s := Y.1.1.kept (fun b b0 b1 => up_row (by omega))
    have ubN0 : p (a + 1) 3 = N := Y.1.1.1.1
    simp only [g_X3_0 S1.1.1 ha, g_X2_0 S1.1.1]
    refine yl_gd trivial (L_add ha S1 t1 M0 ⟨by rw [up_a (by omega)]; exact u1, by omega⟩ (fun v p1 hc1 N1 s1 S2 M1 e1 N1a N1b s1a nv u1' => ?_))
    have e1' : ∀ b, a ≤ b → b ≤ a + 27 → (b < a + 1 ∨ a + 5 < b) → b ≠ a + 13 → p1 b = p b := fun b b0 b1 b2 b3 => (e1 b b0 b1 b2).trans (up_row b3)
    have k13 := g_X3_3 S2.1.1 ha
    have pa6' : up hc (a + 13) ns (-1) a 6 = ns := by rw [up_a (by omega)]; exact pa6
    simp only [g_X3_3 S1.1.1 ha, pa6', k13.2.1, k13.2.2]
    refine yl_gd (by omega) (yl_pt (yl_lt ?_))
    have S3 := S2.putL (b := a + 13) (j := ns) (v := v) ha (by omega) (by unfold scW; omega)
    simp only [g_X22_11 S.2.1.1 hl, S.tR.2.1]
    refine yr_gd (by omega) (yr_pt ?_)
    have S4 := S3.putR (b := l + 6) (j := ns) (v := (tk B i).2.1) hl (Or.inr ⟨by omega, by omega⟩) (by unfold stW2; omega)
    simp only [g_X22_1 S4.2.1.1 hl, g_X22_12 S4.2.1.1 hl, S4.tR.2.2, up_a (show l ≠ l + 6 by omega), l4]
    refine yr_gd trivial (yr_gd (by omega) (yr_pt ?_))
    have S5 := S4.putR (b := l + 7) (j := ns) (v := nx B i) hl (Or.inr ⟨by omega, by omega⟩) (by unfold stW2; omega)
    -- the names' table grew
    have Y1 : SY T n N1 s1 C ns na nf nsel nb nt (up p1 (a + 13) ns v) (up (up q (l + 6) ns (tk B i).2.1) (l + 7) ns (nx B i)) a l := by
      have e2 : ∀ b, a ≤ b → b ≤ a + 27 → (b < a + 1 ∨ a + 5 < b) → (up p1 (a + 13) ns (p (a + 13) ns)) b = p b := fun b b0 b1 b2 => by
        by_cases hb3 : b = a + 13
        · subst hb3
          funext j
          by_cases hj : j = ns
          · rw [up_e rfl hj, hj]
          · rw [up_j hj, e1 (a + 13) (by omega) (by omega) (by omega), up_j hj]
        · rw [up_row hb3]; exact e1' b b0 b1 b2 hb3
      have Y2 := Y.names (p' := up p1 (a + 13) ns (p (a + 13) ns)) (M1.kept (fun b b0 b1 => up_row (by omega))) N1a s1a e2
      have := Y0 (v := v) (x := (tk B i).2.1) (y := nx B i) Y2
      rwa [up_up] at this
    have M1N : p1 (a + 1) 3 = N1 := M1.1.1
    refine y_step2 ha hl S5 (by omega) (by omega) Y1 hj (by (try simp (disch := omega) only [up_a, up_e, up_j, e32, e8]); omega) (by (try simp (disch := omega) only [up_a, up_e, up_j, e32, e8]); exact e9) n1 ns1 ?_ ?_ ?_ ?_
    · right
      (try simp (disch := omega) only [up_a, up_e, up_j, e32, e8])
      exact ⟨nv, trivial⟩
    · have w6 : p1 (a + 6) = p (a + 6) := e1' _ (by omega) (by omega) (by omega) (by omega)
      have w11 : p1 (a + 11) = p (a + 11) := e1' _ (by omega) (by omega) (by omega) (by omega)
      rw [up_a (by omega)] at u1'
      refine ⟨?_, ?_, ?_, ?_⟩ <;> (try simp (disch := omega) only [up_a, up_e, up_j, e32, e8, w6, w11]) <;> omega
    · intro b j b0 b1 nb
      rw [up_ne (by omega)]
      exact congrFun (e1' b b0 b1 (by omega) (by omega)) j
    · exact ⟨fun b j b0 nb => by (repeat rw [up_ne (by omega)]), fun j hj => by (try simp (disch := omega) only [up_a, up_e, up_j, e32, e8]), fun j hj => by (try simp (disch := omega) only [up_a, up_e, up_j, e32, e8])⟩
  · have t4 : (tk B i).1 = 4 ∧ (tk B i).2.2.2 = 42 := by
      rcases tt with z | z
      · exact absurd z t1
      · exact z
    have tl := tk_lt4 t4.1
    rw [if_pos t4]
    refine yl_it t1 (yr_ie (by decide) ?_)
    simp only [g_X22_11 S.2.1.1 hl]
    refine yr_gd (by omega) (yr_pt ?_)
    have S4 := S1.putR (b := l + 6) (j := ns) (v := -1) hl (Or.inr ⟨by omega, by omega⟩) (by unfold stW2; omega)
    simp only [g_X22_12 S4.2.1.1 hl, up_a (show l ≠ l + 6 by omega), l4]
    refine yr_gd (by omega) (yr_pt ?_)
    have S5 := S4.putR (b := l + 7) (j := ns) (v := -1) hl (Or.inr ⟨by omega, by omega⟩) (by unfold stW2; omega)
    refine y_step2 ha hl S5 (by omega) (by omega) (Y0 Y) hj (by (try simp (disch := omega) only [up_a, up_e, up_j, e32, e8]); omega) (by (try simp (disch := omega) only [up_a, up_e, up_j, e32, e8]); exact e9) n1 ns1 ?_ ?_ ?_ ?_
    · left
      (try simp (disch := omega) only [up_a, up_e, up_j, e32, e8])
      exact ⟨trivial, trivial, trivial⟩
    · refine ⟨?_, ?_, ?_, ?_⟩ <;> (try simp (disch := omega) only [up_a, up_e, up_j, e32, e8]) <;> omega
    · exact fun b j b0 b1 nb => by (repeat rw [up_ne (by omega)])
    · exact ⟨fun b j b0 nb => by (repeat rw [up_ne (by omega)]), fun j hj => by (try simp (disch := omega) only [up_a, up_e, up_j, e32, e8]), fun j hj => by (try simp (disch := omega) only [up_a, up_e, up_j, e32, e8])⟩
