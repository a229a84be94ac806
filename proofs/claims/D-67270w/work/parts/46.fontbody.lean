set_option maxRecDepth 100000
/-! FONTS: one line of the table, both sides -/
def cntW (g : Int → Int) : Nat → Int
  | 0 => 0
  | k + 1 => cntW g k + (if g (k : Int) = 0 then 0 else 1)
theorem cntW_same {g g' : Int → Int} : ∀ k : Nat, (∀ j : Int, 0 ≤ j → j < k → (g' j = 0 ↔ g j = 0)) → cntW g' k = cntW g k := by
  intro k
  induction k with
  | zero => intro _; rfl
  | succ k ih =>
    intro h
    show cntW g' k + _ = cntW g k + _
    rw [ih (fun j h1 h2 => h j h1 (by omega))]
    have := h k (by omega) (by omega)
    by_cases hc : g k = 0
    · rw [if_pos hc, if_pos (this.mpr hc)]
    · rw [if_neg hc, if_neg (fun z => hc (this.mp z))]
theorem cntW_one {g g' : Int → Int} {c : Int} (c0 : 0 ≤ c) (h0 : g c = 0) (h1 : g' c ≠ 0) (hs : ∀ j, j ≠ c → g' j = g j) : ∀ k : Nat, c < k → cntW g' k = cntW g k + 1 := by
  intro k
  induction k with
  | zero => intro h; omega
  | succ k ih =>
    intro hk
    show cntW g' k + _ = cntW g k + _ + 1
    by_cases hc : c = k
    · subst hc
      rw [cntW_same k (fun j h1 h2 => by rw [hs j (by omega)]), if_pos h0, if_neg h1]
      omega
    · rw [ih (by omega), hs k (by omega)]
      omega
theorem cntW_r {g : Int → Int} : ∀ k : Nat, 0 ≤ cntW g k ∧ cntW g k ≤ k := by
  intro k
  induction k with
  | zero => exact (by decide : (0 : Int) ≤ 0 ∧ (0 : Int) ≤ 0)
  | succ k ih =>
    show 0 ≤ cntW g k + _ ∧ cntW g k + _ ≤ _
    split <;> omega
/-- the component's font f and the reference's letters l are the same; nk pairs to draw together, nj to join -/
def RF (hc ht : Hp) (f l nk nj : Int) : Prop :=
  (∀ c, 0 ≤ c → c < 128 → hc (f + 1) c = ht (l + 1) c ∧ 0 ≤ hc (f + 1) c ∧ hc (f + 1) c ≤ 5000 ∧ hc (f + 2) c = ht (l + 2) c ∧ (hc (f + 2) c = 0 ∨ hc (f + 2) c = 1)) ∧ (∀ c, 128 ≤ c → c < 256 → ht (l + 2) c = 0) ∧ hc f 4 = cntW (hc (f + 2)) 128 ∧
  (ht l 2 = nk ∧ 0 ≤ nk ∧ nk ≤ 200) ∧ (ht l 3 = nj ∧ 0 ≤ nj ∧ nj ≤ 60) ∧ PR hc ht (f + 3) (l + 3) (l + 4) nk 1000 0 (-500) 500 ∧ PR hc ht (f + 4) (l + 5) (l + 6) nj 0 1 0 5000
theorem RF.kept {hc ht hc' ht' : Hp} {f l nk nj : Int} (r : RF hc ht f l nk nj) (e1 : ∀ b, f + 1 ≤ b → b ≤ f + 4 → hc' b = hc b) (e2 : hc' f 4 = hc f 4) (e3 : ∀ b, l + 1 ≤ b → b ≤ l + 6 → ht' b = ht b) (e4 : ht' l 2 = ht l 2) (e5 : ht' l 3 = ht l 3) : RF hc' ht' f l nk nj := by
  obtain ⟨r1, r2, r3, r4, r5, r6, r7⟩ := r
  refine ⟨?_, ?_, ?_, ?_, ?_, r6.kept (e1 _ (by omega) (by omega)) (e3 _ (by omega) (by omega)) (e3 _ (by omega) (by omega)), r7.kept (e1 _ (by omega) (by omega)) (e3 _ (by omega) (by omega)) (e3 _ (by omega) (by omega))⟩
  · rw [e1 (f + 1) (by omega) (by omega), e1 (f + 2) (by omega) (by omega), e3 (l + 1) (by omega) (by omega), e3 (l + 2) (by omega) (by omega)]; exact r1
  · rw [e3 (l + 2) (by omega) (by omega)]; exact r2
  · rw [e2, e1 (f + 2) (by omega) (by omega)]; exact r3
  · rw [e4]; exact r4
  · rw [e5]; exact r5
def fcW (f : Int) : Int → Int → Prop := fun b j => (b = f ∧ j = 4) ∨ (f + 1 ≤ b ∧ b ≤ f + 4 ∧ 0 ≤ j) ∨ nxW 3 b j
def ftW (l : Int) : Int → Int → Prop := fun b j => (b = l ∧ (j = 2 ∨ j = 3)) ∨ (l + 1 ≤ b ∧ b ≤ l + 6 ∧ 0 ≤ j) ∨ nxW (l + 7) b j
theorem aX8 {f : Int} (h : f ∈ in_aX8) : f = 218 ∨ f = 223 := by
  simp only [in_aX8, List.mem_cons, List.not_mem_nil, or_false] at h
  exact h
theorem aX19 {l : Int} (h : l ∈ in_aX19) : l = 497 ∨ l = 505 := by
  simp only [in_aX19, List.mem_cons, List.not_mem_nil, or_false] at h
  exact h
theorem RF.nx {hc ht hc' ht' : Hp} {f l nk nj : Int} (hf : f ∈ in_aX8) (hl : l ∈ in_aX19) (r : RF hc ht f l nk nj) (g1 : F2 (nxW 3) hc hc') (g2 : F2 (nxW (l + 7)) ht ht') : RF hc' ht' f l nk nj := by
  have hf := aX8 hf
  have hl := aX19 hl
  exact r.kept (fun b b1 b2 => g1.row (fun j z => by have := z.1; omega)) (g1 _ _ (fun z => by have := z.1; omega)) (fun b b1 b2 => g2.row (fun j z => by have := z.1; omega)) (g2 _ _ (fun z => by have := z.1; omega)) (g2 _ _ (fun z => by have := z.1; omega))
/-- how a line ends -/
def FO (n : Int) (B : Int → Int) (f l : Int) (hc ht : Hp) (i : Int) (rc : (Int × Int × Hp) ⊕ ((Int × Int) × Hp)) (rt : (Int × Int) × Hp) : Prop :=
  (∃ nk' nj' hc' ht' i', rc = .inl (nk', nj', hc') ∧ rt = ((0, 0), ht') ∧ i < i' ∧ CS hc' n B i' ∧ TS ht' (l + 7) 496 n B i' ∧ RF hc' ht' f l nk' nj' ∧ F2 (fcW f) hc hc' ∧ F2 (ftW l) ht ht') ∨
  (∃ p xc, rc = .inr xc ∧ ThF 432 p (fcW f) hc xc ∧ ThF 448 p (ftW l) ht rt)
theorem fo_thr {n : Int} {B : Int → Int} {f l : Int} {hc ht h1 h2 : Hp} {i p : Int} {rc rt : (Int × Int) × Hp} (hf : f ∈ in_aX8) (hl : l ∈ in_aX19) (z1 : Thr 432 p h1 rc) (z2 : Thr 448 p h2 rt) (g1 : F2 (fcW f) hc h1) (g2 : F2 (ftW l) ht h2) : Pr (some (.inr ((1, rc.1.2), rc.2))) (some ((1, rt.1.2), rt.2)) (FO n B f l hc ht i) := by
  have hf := aX8 hf
  have hl := aX19 hl
  refine y_some (Or.inr ⟨p, _, rfl, ?_, ?_⟩)
  · have := z1.F g1 (fun j z => by rcases z with z | z | z <;> have := z.1 <;> omega)
    exact ⟨rfl, this.2⟩
  · have := z2.F g2 (fun j z => by rcases z with z | z | z <;> have := z.1 <;> omega)
    exact ⟨rfl, this.2⟩
/-- the end of a line: what stands behind it, the next one -/
theorem fo_semi {n : Int} {B : Int → Int} {f l : Int} {hc ht h1 h2 : Hp} {nk' nj' i i' : Int} (hf : f ∈ in_aX8) (hl : l ∈ in_aX19) (c : CS h1 n B i') (d : TS h2 (l + 7) 496 n B i') (r : RF h1 h2 f l nk' nj') (hi : i < i') (g1 : F2 (fcW f) hc h1) (g2 : F2 (ftW l) ht h2) :
    Pr (m_X8_read_j293 3 nk' nj' h1) (bT (m_X20_need (l + 7) 59 h2) (fun _ h368 => some ((0, 0), h368)) (fun a_ h_ => some ((1, a_), h_))) (FO n B f l hc ht i) := by
  have hq := cs_ok c
  have hge := tk_ge c
  unfold m_X8_read_j293
  refine y_need c d (by decide) (fun p1 hc' ht' k1 k2 k3 k4 => ?_) (fun rc rt z1 z2 => fo_thr hf hl z1 z2 g1 g2)
  refine y_some (Or.inl ⟨nk', nj', hc', ht', _, rfl, rfl, ?_, k2, k4, r.nx hf hl k1 k3, g1.trans (k1.mono (fun b j z => Or.inr (Or.inr z))), g2.trans (k3.mono (fun b j z => Or.inr (Or.inr z)))⟩)
  have := hq.2.2.1
  omega
theorem fo_width {n : Int} {B : Int → Int} {f l : Int} {hc ht : Hp} {nk nj i : Int} (hf : f ∈ in_aX8) (hl : l ∈ in_aX19) (c : CS hc n B i) (d : TS ht (l + 7) 496 n B i) (r : RF hc ht f l nk nj) (h5 : (tk B i).1 = 1) :
    Pr ((m_X2_next 3 hc).bind fun h25 =>
      bT (m_X8_one 3 h25) (fun v29 h29 =>
      bT (m_X2_needNumber 3 0 5000 h29) (fun v45 h45 =>
      gd (h45 (h29 f 0) (-2) % 16 = 1 ∧ (0 : Int) ≤ v29 ∧ v29 < h45 (h29 f 0) (-1)) (pt h45 (h29 f 0) v29 v45 fun h48 =>
      gd (h48 (h48 f 1) (-2) % 16 = 3 ∧ (0 : Int) ≤ v29 ∧ v29 < h48 (h48 f 1) (-1)) (if (h48 (h48 f 1) v29) ≠ 0 then (m_X8_read_j69 v29 nj f 3 nk h48)
      else (pt h48 f 4 (w32 ((h48 f 4) + 1)) fun h66 =>
      m_X8_read_j69 v29 nj f 3 nk h66)))) (fun a_ h_ => some (.inr ((1, a_), h_)))) (fun a_ h_ => some (.inr ((1, a_), h_))))
    ((m_X20_next (l + 7) ht).bind fun h16 =>
      bT (m_X19_single l h16) (fun v20 h20 =>
      gd (h20 (h20 l 8) (-2) = 336) (bT (m_X20_needNumber (h20 l 8) 0 5000 h20) (fun v37 h37 =>
      gd (h37 (h20 l 0) (-2) % 16 = 1 ∧ (0 : Int) ≤ v20 ∧ v20 < h37 (h20 l 0) (-1)) (pt h37 (h20 l 0) v20 v37 fun h40 =>
      gd (h40 (h40 l 1) (-2) % 16 = 3 ∧ (0 : Int) ≤ v20 ∧ v20 < h40 (h40 l 1) (-1)) (pt h40 (h40 l 1) v20 1 fun h47 =>
      gd (h47 (h47 l 8) (-2) = 336) (bT (m_X20_need (h47 l 8) 59 h47) (fun _ h368_3 =>
      some ((0, 0), h368_3)) (fun a_ h_ => some ((1, a_), h_)))))) (fun a_ h_ => some ((1, a_), h_)))) (fun a_ h_ => some ((1, a_), h_))) (FO n B f l hc ht (tk B i).2.1) := by
  have hq0 := cs_ok c
  have hge0 := tk_ge c
  have hn0 := hq0.2.2.2.2.2.2.1 h5
  have hf' := aX8 hf
  have hl' := aX19 hl
  refine y_next c d (by omega) (fun c1 d1 k1 k2 k3 k4 => ?_)
  have r1 := r.nx hf hl k1 k3
  have hge1 := tk_ge k2
  have hq1 := cs_ok k2
  refine y_one hl k2 k4 (fun o1 c2 d2 m1 m2 m3 m4 => ?_) (fun rc rt z1 z2 => fo_thr hf hl z1 z2 (k1.mono (fun b j z => Or.inr (Or.inr z))) (k3.mono (fun b j z => Or.inr (Or.inr z))))
  have r2 := r1.nx hf hl m1 m3
  have hch := cs_ch k2 o1
  have hge2 := tk_ge m2
  have hq2 := cs_ok m2
  have L2 := m4.1
  obtain ⟨t0, ⟨t1, t2, t3⟩, ⟨t4, t5, t6⟩, -, -, -, -, t8, t9, -⟩ := ly_X19 L2 hl
  rw [t8]
  refine yr_gd t9 ?_
  have gA : F2 (fcW f) hc c2 := (k1.trans m1).mono (fun b j z => Or.inr (Or.inr z))
  have gB : F2 (ftW l) ht d2 := (k3.trans m3).mono (fun b j z => Or.inr (Or.inr z))
  refine y_num m2 m4 (fun p1 c3 d3 s1 s2 s3 s4 => ?_) (fun rc rt z1 z2 => fo_thr hf hl z1 z2 gA gB)
  have r3 := r2.nx hf hl s1 s3
  have gA3 : F2 (fcW f) hc c3 := gA.trans (s1.mono (fun b j z => Or.inr (Or.inr z)))
  have gB3 : F2 (ftW l) ht d3 := gB.trans (s3.mono (fun b j z => Or.inr (Or.inr z)))
  have hq3 := hq2.2.2.1
  have hq1e := hq1.2.2.1
  have hge3 := tk_ge s2
  generalize hcc : B ((tk B (tk B i).2.2.1).2.1 + 1) = ch at *
  generalize hv : (tk B (tk B (tk B i).2.2.1).2.2.1).2.2.2 = v at *
  generalize hi' : (tk B (tk B (tk B i).2.2.1).2.2.1).2.2.1 = i3 at *
  have hi3 : (tk B i).2.1 < i3 := by omega
  obtain ⟨u0, ⟨u1, u2, u3⟩, ⟨u4, u5, u6⟩, -⟩ := ly_X8 m2.1 hf
  obtain ⟨v0, ⟨v1, v2, v3⟩, ⟨v4, v5, v6⟩, -⟩ := ly_X8 s2.1 hf
  obtain ⟨w0, ⟨w1, w2, w3⟩, ⟨w4, w5, w6⟩, -, -, -, -, w8_, w9, -⟩ := ly_X19 s4.1 hl
  rw [u1, t1]
  refine yl_gd ⟨by rw [v2]; decide, by omega, by rw [v3]; omega⟩ (yl_pt ?_)
  have C1 := cs_put (v := v) s2 (b := f + 1) (j := ch) (by omega) (by omega) (by rw [v2]; exact fx_a (by decide) (by decide))
  have q1 : up c3 (f + 1) ch v f 1 = f + 2 := by rw [up_a (by omega)]; exact v4
  have q2 : up c3 (f + 1) ch v (f + 2) (-2) = 899 := by rw [up_a (by omega)]; exact v5
  have q3 : up c3 (f + 1) ch v (f + 2) (-1) = 128 := by rw [up_a (by omega)]; exact v6
  rw [q1]
  refine yl_gd ⟨by rw [q2]; decide, by omega, by rw [q3]; omega⟩ ?_
  refine yr_gd ⟨by rw [w2]; decide, by omega, by rw [w3]; omega⟩ (yr_pt ?_)
  have D1 := ts_put (v := v) s4 (b := l + 1) (j := ch) (by omega) (by omega) (by omega) (by omega) (by rw [w2]; exact fx_a (by decide) (by decide))
  have p1' : up d3 (l + 1) ch v l 1 = l + 2 := by rw [up_a (by omega)]; exact w4
  have p2 : up d3 (l + 1) ch v (l + 2) (-2) = 2595 := by rw [up_a (by omega)]; exact w5
  have p3 : up d3 (l + 1) ch v (l + 2) (-1) = 256 := by rw [up_a (by omega)]; exact w6
  rw [p1']
  refine yr_gd ⟨by rw [p2]; decide, by omega, by rw [p3]; omega⟩ (yr_pt ?_)
  have D2 := ts_put (v := 1) D1 (b := l + 2) (j := ch) (by omega) (by omega) (by omega) (by omega) (by rw [p2]; exact fx_a (by decide) (by decide))
  obtain ⟨-, -, -, -, -, -, -, x8, x9, -⟩ := ly_X19 D2.1 hl
  rw [x8]
  refine yr_gd x9 ?_
  have gB4 : F2 (ftW l) ht (up (up d3 (l + 1) ch v) (l + 2) ch 1) := (gB3.put (Or.inr (Or.inl ⟨by omega, by omega, by omega⟩))).put (Or.inr (Or.inl ⟨by omega, by omega, by omega⟩))
  have old := r3.1 ch (by omega) (by omega)
  have ev : up c3 (f + 1) ch v (f + 2) ch = c3 (f + 2) ch := up_a (by omega)
  -- the fonts behind it, whatever told is
  have key : ∀ h66 : Hp, CS h66 n B i3 → F2 (fcW f) hc h66 → (∀ b, b ≠ f → h66 b = up c3 (f + 1) ch v b) → (∀ j, j ≠ 4 → h66 f j = c3 f j) → h66 f 4 = c3 f 4 + (if c3 (f + 2) ch = 0 then 1 else 0) →
      Pr (m_X8_read_j69 ch nj f 3 nk h66) (bT (m_X20_need (l + 7) 59 (up (up d3 (l + 1) ch v) (l + 2) ch 1)) (fun _ h368_3 => some ((0, 0), h368_3)) (fun a_ h_ => some ((1, a_), h_))) (FO n B f l hc ht (tk B i).2.1) := by
    intro h66 C2 G2 e1 e2 e3
    unfold m_X8_read_j69
    obtain ⟨-, -, ⟨y4, y5, y6⟩, -⟩ := ly_X8 C2.1 hf
    rw [y4]
    refine yl_gd ⟨by rw [y5]; decide, by omega, by rw [y6]; omega⟩ (yl_pt ?_)
    have C3 := cs_put (v := 1) C2 (b := f + 2) (j := ch) (by omega) (by omega) (by rw [y5]; exact fx_a (by decide) (by decide))
    refine fo_semi hf hl C3 D2 ?_ hi3 (G2.put (Or.inr (Or.inl ⟨by omega, by omega, by omega⟩))) gB4
    obtain ⟨f1, f2, f3, f4, f5, f6, f7⟩ := r3
    have row : ∀ b, b ≠ f → b ≠ f + 1 → b ≠ f + 2 → up h66 (f + 2) ch 1 b = c3 b := fun b b1 b2 b3 => by rw [up_row b3, e1 b b1, up_row b2]
    have rowT : ∀ b, b ≠ l + 1 → b ≠ l + 2 → up (up d3 (l + 1) ch v) (l + 2) ch 1 b = d3 b := fun b b1 b2 => by rw [up_row b2, up_row b1]
    refine ⟨fun c c0 c1 => ?_, fun c c0 c1 => ?_, ?_, ?_, ?_, f6.kept (row _ (by omega) (by omega) (by omega)) (rowT _ (by omega) (by omega)) (rowT _ (by omega) (by omega)), f7.kept (row _ (by omega) (by omega) (by omega)) (rowT _ (by omega) (by omega)) (rowT _ (by omega) (by omega))⟩
    · obtain ⟨g1, g2, g3, g4, g5⟩ := f1 c c0 c1
      have a1 : up h66 (f + 2) ch 1 (f + 1) c = up c3 (f + 1) ch v (f + 1) c := by rw [up_a (by omega), e1 _ (by omega)]
      have a2 : up (up d3 (l + 1) ch v) (l + 2) ch 1 (l + 1) c = up d3 (l + 1) ch v (l + 1) c := up_a (by omega)
      have a3 : up (up d3 (l + 1) ch v) (l + 2) ch 1 (l + 2) c = up d3 (l + 2) ch 1 (l + 2) c := by
        by_cases hcc : c = ch
        · rw [hcc, up_s, up_s]
        · rw [up_i hcc, up_i hcc, up_i hcc]
      have a4 : up h66 (f + 2) ch 1 (f + 2) c = up c3 (f + 2) ch 1 (f + 2) c := by
        by_cases hcc : c = ch
        · rw [hcc, up_s, up_s]
        · rw [up_i hcc, up_i hcc, e1 _ (by omega), up_a (by omega)]
      rw [a1, a2, a3, a4]
      by_cases hcc : c = ch
      · rw [hcc, up_s, up_s, up_s, up_s]
        exact ⟨rfl, by omega, by omega, rfl, Or.inr rfl⟩
      · rw [up_i hcc, up_i hcc, up_i hcc, up_i hcc]
        exact ⟨g1, g2, g3, g4, g5⟩
    · rw [up_i (by omega), up_a (by omega)]
      exact f2 c c0 c1
    · rw [up_a (by omega), e3, f3]
      have hz : up h66 (f + 2) ch 1 (f + 2) ch ≠ 0 := by rw [up_s]; decide
      have hs : ∀ j, j ≠ ch → up h66 (f + 2) ch 1 (f + 2) j = c3 (f + 2) j := fun j hj => by rw [up_i hj, e1 _ (by omega), up_a (by omega)]
      by_cases h0 : c3 (f + 2) ch = 0
      · rw [if_pos h0, cntW_one (c := ch) (by omega) h0 hz hs 128 (by omega)]
      · have e9 := cntW_same (g := c3 (f + 2)) (g' := up h66 (f + 2) ch 1 (f + 2)) 128 (fun j h1 h2 => by
          by_cases hj : j = ch
          · rw [hj]; exact ⟨fun z => absurd z hz, fun z => absurd z h0⟩
          · rw [hs j hj])
        rw [if_neg h0, e9]
        omega
    · rw [up_a (by omega), up_a (by omega)]; exact f4
    · rw [up_a (by omega), up_a (by omega)]; exact f5
  have gA4 : F2 (fcW f) hc (up c3 (f + 1) ch v) := gA3.put (Or.inr (Or.inl ⟨by omega, by omega, by omega⟩))
  refine yl_if (fun hz => ?_) (fun hz => ?_)
  · rw [ev] at hz
    exact key _ C1 gA4 (fun b hb => rfl) (fun j hj => by rw [up_a (by omega)]) (by rw [up_a (by omega), if_neg hz]; omega)
  · rw [ev] at hz
    have hz : c3 (f + 2) ch = 0 := Classical.not_not.mp hz
    refine yl_pt ?_
    have b1 : up c3 (f + 1) ch v f 4 = c3 f 4 := up_a (by omega)
    have cr := cntW_r (g := c3 (f + 2)) 128
    have b2 := r3.2.2.1
    rw [b1, e32 (by omega) (by omega)]
    have C1' := cs_put (v := c3 f 4 + 1) C1 (b := f) (j := 4) (by omega) (by omega) (by rw [(ly_X8 C1.1 hf).1]; decide)
    exact key _ C1' (gA4.put (Or.inl ⟨rfl, rfl⟩)) (fun b hb => by rw [up_row hb]) (fun j hj => by rw [up_i hj, up_a (by omega)]) (by rw [up_s, if_pos hz])
