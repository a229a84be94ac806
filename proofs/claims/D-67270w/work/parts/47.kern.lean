set_option maxRecDepth 100000
/-! FONTS: pairs -/
theorem brk1 {h : Hp} {K p : Int} (rm : RM h 1 7) : Pz (al h K 7 fun a h1 => (x_broken a p h1).bind fun h2 => some ((1, a), h2)) (fun r => Thr K p h r) := by
  obtain ⟨r1, r2, r3, r4⟩ := rm
  refine z_al ⟨by omega, by omega, by omega, by omega⟩ ?_
  obtain ⟨n1, n2⟩ := nw_new (h := h) (K := K) (n := 7)
  unfold x_broken
  rw [if_pos (n2 1 (by omega)), Option.bind_some]
  obtain ⟨n3, n4⟩ := nwCnt (h := h) (K := K) (n := 7) (by omega)
  refine z_some ⟨rfl, by show 0 < h 0 0 + 1; omega, by show h 0 0 < h 0 0 + 1; omega, ?_, up_s _ _ _ _, nw_F2.put (Or.inr (by omega)), by show up (nw h K 7) (h 0 0 + 1) 0 p 0 0 = _; rw [up_a (by omega)]; exact n3, by show up (nw h K 7) (h 0 0 + 1) 0 p 0 1 = _; rw [up_a (by omega)]; exact n4⟩
  show up (nw h K 7) (h 0 0 + 1) 0 p (h 0 0 + 1) (-2) = K
  rw [up_i (by omega)]; exact n1
/-- a pair is known on both sides or on none -/
theorem pr_known {hc ht : Hp} {A O V n nn off lo hi a b k : Int} (r : PR hc ht A O V n nn off lo hi) (a0 : 0 ≤ a) (a1 : a < 128) (b0 : 0 ≤ b) (b1 : b < 128) (hnn : nn < lo + off ∨ hi + off < nn) (hk : (0 ≤ k ∧ k < n ∧ ht O k = 256 * a + b) ∨ (k = -1 ∧ ∀ j, 0 ≤ j → j < n → ht O j ≠ 256 * a + b)) : hc A (128 * a + b) ≠ nn ↔ 0 ≤ k := by
  rcases hk with ⟨k0, k1, k2⟩ | ⟨k0, k1⟩
  · obtain ⟨g1, g2, g3⟩ := r.at k0 k1 a0 a1 b0 b1 k2
    rw [g1]
    constructor
    · intro _; exact k0
    · intro _ z; omega
  · rw [r.2.2 a b a0 a1 b0 b1 k1, k0]
    exact ⟨fun z => absurd rfl z, fun z => absurd z (by decide)⟩
theorem kern_tail {n : Int} {B : Int → Int} {f l : Int} {hc ht c3 d3 : Hp} {nk nj i i3 a b k : Int} (hf : f ∈ in_aX8) (hl : l ∈ in_aX19) (c : CS c3 n B i3) (d : TS d3 (l + 7) 496 n B i3) (r : RF c3 d3 f l nk nj) (a0 : 0 ≤ a) (a1 : a < 128) (b0 : 0 ≤ b) (b1 : b < 128)
    (hk : (0 ≤ k ∧ k < nk ∧ d3 (l + 3) k = 256 * a + b) ∨ (k = -1 ∧ ∀ j, 0 ≤ j → j < nk → d3 (l + 3) j ≠ 256 * a + b)) (hk2 : k = -1 → nk < 200) (gA : F2 (fcW f) hc c3) (gB : F2 (ftW l) ht d3) (hi : i < i3) :
    Pr (bW (m_X2_take 3 45 c3) fun v144 h144 =>
      bT (m_X2_needNumber 3 0 500 h144) (fun v154 h154 =>
      gd (h154 (h154 f 2) (-2) % 16 = 1 ∧ (0 : Int) ≤ 128 * a + b ∧ 128 * a + b < h154 (h154 f 2) (-1)) (if (h154 (h154 f 2) (128 * a + b)) ≠ 1000 then (m_X8_read_j175 v154 v144 (128 * a + b) f 3 nj nk h154)
      else (lt_ (w32 (nk + 1)) fun x2_172 =>
      m_X8_read_j175 v154 v144 (128 * a + b) f 3 nj x2_172 h154))) (fun a_ h_ => some (.inr ((1, a_), h_)))) (m_X19_one_j132 k (256 * a + b) l d3) (FO n B f l hc ht i) := by
  have hf' := aX8 hf
  have hl' := aX19 hl
  -- behind the sign: the number, the stores
  have tail : ∀ (s : Int) (c4 d4 : Hp) (i4 : Int), (s = 0 ∨ s = 1) → CS c4 n B i4 → TS d4 (l + 7) 496 n B i4 → F2 (nxW 3) c3 c4 → F2 (nxW (l + 7)) d3 d4 → i < i4 →
      Pr (bT (m_X2_needNumber 3 0 500 c4) (fun v154 h154 =>
        gd (h154 (h154 f 2) (-2) % 16 = 1 ∧ (0 : Int) ≤ 128 * a + b ∧ 128 * a + b < h154 (h154 f 2) (-1)) (if (h154 (h154 f 2) (128 * a + b)) ≠ 1000 then (m_X8_read_j175 v154 s (128 * a + b) f 3 nj nk h154)
        else (lt_ (w32 (nk + 1)) fun x2_172 =>
        m_X8_read_j175 v154 s (128 * a + b) f 3 nj x2_172 h154))) (fun a_ h_ => some (.inr ((1, a_), h_)))) (m_X19_one_j155 s k l (256 * a + b) d4) (FO n B f l hc ht i) := by
    intro s c4 d4 i4 hs C4 D4 f1 f2 hi4
    have r4 := r.nx hf hl f1 f2
    unfold m_X19_one_j155
    obtain ⟨-, -, -, -, -, -, -, t8, t9, -⟩ := ly_X19 D4.1 hl
    rw [t8]
    refine yr_gd t9 ?_
    have gA4 := gA.trans (f1.mono (fun b j z => (Or.inr (Or.inr z) : fcW f b j)))
    have gB4 := gB.trans (f2.mono (fun b j z => (Or.inr (Or.inr z) : ftW l b j)))
    have hq := cs_ok C4
    have hge := tk_ge C4
    refine y_num C4 D4 (fun p1 c5 d5 s1 s2 s3 s4 => ?_) (fun rc rt z1 z2 => fo_thr hf hl z1 z2 gA4 gB4)
    have r5 := r4.nx hf hl s1 s3
    have gA5 := gA4.trans (s1.mono (fun b j z => (Or.inr (Or.inr z) : fcW f b j)))
    have gB5 := gB4.trans (s3.mono (fun b j z => (Or.inr (Or.inr z) : ftW l b j)))
    have hi5 : i < (tk B i4).2.2.1 := by have := hq.2.2.1; omega
    generalize (tk B i4).2.2.1 = i5 at *
    generalize (tk B i4).2.2.2 = v at *
    have rowO : d5 (l + 3) = d3 (l + 3) := (s3.row (fun j z => by have := z.1; omega)).trans (f2.row (fun j z => by have := z.1; omega))
    have hk5 : (0 ≤ k ∧ k < nk ∧ d5 (l + 3) k = 256 * a + b) ∨ (k = -1 ∧ ∀ j, 0 ≤ j → j < nk → d5 (l + 3) j ≠ 256 * a + b) := by rw [rowO]; exact hk
    obtain ⟨u0, -, -, ⟨u1, u2, u3⟩, -⟩ := ly_X8 s2.1 hf
    obtain ⟨w0, -, -, ⟨w1, w2, w3⟩, ⟨w4, w5, w6⟩, -, -, w8_, w9, -⟩ := ly_X19 s4.1 hl
    have kn := pr_known r5.2.2.2.2.2.1 a0 a1 b0 b1 (Or.inr (by decide)) hk5
    rw [u1]
    refine yl_gd ⟨by rw [u2]; decide, by omega, by rw [u3]; omega⟩ ?_
    -- the value
    have vv : ∃ x, (s = 0 → x = v) ∧ (s = 1 → x = -v) ∧ -500 ≤ x ∧ x ≤ 500 := by
      rcases hs with hs | hs
      · exact ⟨v, fun _ => rfl, fun z => by omega, by omega, by omega⟩
      · exact ⟨-v, fun z => by omega, fun _ => rfl, by omega, by omega⟩
    obtain ⟨x, x0, x1, x2, x3⟩ := vv
    have left : ∀ nk' : Int, m_X8_read_j175 v s (128 * a + b) f 3 nj nk' c5 = m_X8_read_j293 3 nk' nj (up c5 (f + 3) (128 * a + b) x) := by
      intro nk'
      unfold m_X8_read_j175
      rcases hs with hs | hs
      · rw [if_pos hs]
        unfold m_X8_read_j194 gd pt
        rw [u1, if_pos ⟨by rw [u2]; decide, by omega, by rw [u3]; omega⟩, x0 hs]
      · rw [if_neg (by omega)]
        unfold m_X8_read_j194 gd pt
        rw [u1, if_pos ⟨by rw [u2]; decide, by omega, by rw [u3]; omega⟩, x1 hs, e32 (x := -v) (by omega) (by omega)]
    have C6 := cs_put (v := x) s2 (b := f + 3) (j := 128 * a + b) (by omega) (by omega) (by rw [u2]; exact fx_a (by decide) (by decide))
    have gA6 : F2 (fcW f) hc (up c5 (f + 3) (128 * a + b) x) := gA5.put (Or.inr (Or.inl ⟨by omega, by omega, by omega⟩))
    -- the reference's stores at place kk of a heap d6
    have right : ∀ (d6 : Hp) (kk nk' : Int), TS d6 (l + 7) 496 n B i5 → F2 (ftW l) ht d6 → 0 ≤ kk → kk < 200 → RF (up c5 (f + 3) (128 * a + b) x) (up (up d6 (l + 3) kk (256 * a + b)) (l + 4) kk x) f l nk' nj →
        Pr (m_X8_read_j293 3 nk' nj (up c5 (f + 3) (128 * a + b) x)) (m_X19_one_j189 v s l (256 * a + b) kk d6) (FO n B f l hc ht i) := by
      intro d6 kk nk' D6 G6 k0 k1 R6
      obtain ⟨-, -, -, ⟨y1, y2, y3⟩, ⟨y4, y5, y6⟩, -, -, -, -, -⟩ := ly_X19 D6.1 hl
      unfold m_X19_one_j189
      rw [y1]
      refine yr_gd ⟨by rw [y2]; decide, by omega, by rw [y3]; omega⟩ (yr_pt ?_)
      have D7 := ts_put (v := 256 * a + b) D6 (b := l + 3) (j := kk) (by omega) (by omega) (by omega) (by omega) (by rw [y2]; exact fx_a (by decide) (by decide))
      obtain ⟨-, -, -, -, ⟨z4, z5, z6⟩, -, -, -, -, -⟩ := ly_X19 D7.1 hl
      have D8 := ts_put (v := x) D7 (b := l + 4) (j := kk) (by omega) (by omega) (by omega) (by omega) (by rw [z5]; exact fx_a (by decide) (by decide))
      obtain ⟨-, -, -, -, -, -, -, q8, q9, -⟩ := ly_X19 D8.1 hl
      have G8 : F2 (ftW l) ht (up (up d6 (l + 3) kk (256 * a + b)) (l + 4) kk x) := (G6.put (Or.inr (Or.inl ⟨by omega, by omega, by omega⟩))).put (Or.inr (Or.inl ⟨by omega, by omega, by omega⟩))
      rw [z4]
      have fin := fo_semi hf hl C6 D8 R6 hi5 gA6 G8
      rcases hs with hs | hs
      · have ex := x0 hs
        refine yr_it hs (yr_gd ⟨by rw [z5]; decide, by omega, by rw [z6]; omega⟩ (yr_pt ?_))
        rw [← ex, q8]
        exact yr_gd q9 fin
      · have ex := x1 hs
        refine yr_ie (by omega) (yr_gd ⟨by rw [z5]; decide, by omega, by rw [z6]; omega⟩ (yr_pt ?_))
        rw [e32 (x := -v) (by omega) (by omega), ← ex, q8]
        exact yr_gd q9 fin
    obtain ⟨g1, g2, g3, ⟨g4, g4a, g4b⟩, g5, g6, g7⟩ := r5
    have rowC : ∀ bb, bb ≠ f + 3 → up c5 (f + 3) (128 * a + b) x bb = c5 bb := fun bb hb => up_row hb
    by_cases hk0 : 0 ≤ k
    · rw [if_pos (kn.mpr hk0), left]
      refine yr_it hk0 (right d5 k nk s4 gB5 hk0 (by rcases hk5 with z | z <;> omega) ?_)
      obtain ⟨m0, m1, m2⟩ : 0 ≤ k ∧ k < nk ∧ d5 (l + 3) k = 256 * a + b := by
        rcases hk5 with z | z
        · exact z
        · omega
      have rowT : ∀ bb, bb ≠ l + 3 → bb ≠ l + 4 → up (up d5 (l + 3) k (256 * a + b)) (l + 4) k x bb = d5 bb := fun bb b1 b2 => by rw [up_row b2, up_row b1]
      have eO : up (up d5 (l + 3) k (256 * a + b)) (l + 4) k x (l + 3) = d5 (l + 3) := by
        rw [up_row (by omega)]
        funext j
        by_cases hj : j = k
        · rw [hj, up_s, m2]
        · rw [up_i hj]
      refine ⟨?_, ?_, ?_, ?_, ?_, ?_, ?_⟩
      · rw [rowC _ (by omega), rowC _ (by omega), rowT _ (by omega) (by omega), rowT _ (by omega) (by omega)]; exact g1
      · rw [rowT _ (by omega) (by omega)]; exact g2
      · rw [rowC _ (by omega), rowC _ (by omega)]; exact g3
      · rw [rowT _ (by omega) (by omega)]; exact ⟨g4, g4a, g4b⟩
      · rw [rowT _ (by omega) (by omega)]; exact g5
      · exact g6.again m0 m1 a0 a1 b0 b1 m2 x2 x3 (by rw [up_s]; omega) (fun j hj => up_i hj) eO (up_s _ _ _ _) (fun j hj => by rw [up_i hj, up_a (by omega)])
      · exact g7.kept (rowC _ (by omega)) (rowT _ (by omega) (by omega)) (rowT _ (by omega) (by omega))
    · have hkm : k = -1 ∧ ∀ j, 0 ≤ j → j < nk → d5 (l + 3) j ≠ 256 * a + b := by
        rcases hk5 with z | z
        · omega
        · exact z
      have hn := hk2 hkm.1
      rw [if_neg (fun z => hk0 (kn.mp z))]
      refine yl_lt ?_
      rw [e32 (x := nk + 1) (by omega) (by omega), left]
      refine yr_ie hk0 (yr_lt (yr_pt ?_))
      rw [g4, e32 (x := nk + 1) (by omega) (by omega)]
      have D6 := ts_put (v := nk + 1) s4 (b := l) (j := 2) (by omega) (by omega) (by omega) (by omega) (by rw [w0]; decide)
      have G6 : F2 (ftW l) ht (up d5 l 2 (nk + 1)) := gB5.put (Or.inl ⟨rfl, Or.inl rfl⟩)
      refine right (up d5 l 2 (nk + 1)) nk (nk + 1) D6 G6 g4a hn ?_
      have rowT : ∀ bb, bb ≠ l → bb ≠ l + 3 → bb ≠ l + 4 → up (up (up d5 l 2 (nk + 1)) (l + 3) nk (256 * a + b)) (l + 4) nk x bb = d5 bb := fun bb b0 b1 b2 => by rw [up_row b2, up_row b1, up_row b0]
      refine ⟨?_, ?_, ?_, ?_, ?_, ?_, ?_⟩
      · rw [rowC _ (by omega), rowC _ (by omega), rowT _ (by omega) (by omega) (by omega), rowT _ (by omega) (by omega) (by omega)]; exact g1
      · rw [rowT _ (by omega) (by omega) (by omega)]; exact g2
      · rw [rowC _ (by omega), rowC _ (by omega)]; exact g3
      · refine ⟨?_, by omega, by omega⟩
        rw [up_a (by omega), up_a (by omega), up_s]
      · rw [up_a (by omega), up_a (by omega), up_i (by omega)]; exact g5
      · refine g6.more g4a a0 a1 b0 b1 hkm.2 x2 x3 (by rw [up_s]; omega) (fun j hj => up_i hj) ?_ (fun j hj => ?_) (up_s _ _ _ _) (fun j hj => ?_)
        · rw [up_a (by omega), up_s]
        · rw [up_a (by omega), up_i hj, up_a (by omega)]
        · rw [up_i hj, up_a (by omega), up_a (by omega)]
      · exact g7.kept (rowC _ (by omega)) (rowT _ (by omega) (by omega) (by omega)) (rowT _ (by omega) (by omega) (by omega))
  unfold m_X19_one_j132
  obtain ⟨-, -, -, -, -, -, -, t8, t9, -⟩ := ly_X19 d.1 hl
  rw [t8]
  refine yr_gd t9 ?_
  rw [q_X20_isByte d.2.2.2.1 (by decide), Option.bind_some]
  have hq := cs_ok c
  have hge := tk_ge c
  refine yl_bW (z_mono (cs_take c) (fun rc hr => ?_))
  rcases hr with ⟨r1, r2, r3, r4⟩ | ⟨r1, r2, r3⟩
  · rw [r1, if_pos r2]
    refine yr_ie (by decide) (yr_bind (z_mono (ts_next d (by omega)) (fun d4 hd => ?_)))
    exact tail 1 rc.2 d4 _ (Or.inr rfl) r4 hd.2 r3 hd.1 (by have := hq.2.2.1; omega)
  · rw [r1, if_neg r2, r3]
    refine yr_it rfl ?_
    exact tail 0 c3 d3 i3 (Or.inl rfl) c d F2.refl F2.refl hi
