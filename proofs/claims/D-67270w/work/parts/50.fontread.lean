set_option maxRecDepth 100000
/-! FONTS: the whole table -/
theorem c_fclear {h : Hp} {f : Int} (hf : f ∈ in_aX8) (hL : LAY h) : Pz (m_X8_clear f h) (fun h' => F2 (fun b j => (b = f ∧ j = 4) ∨ (f + 1 ≤ b ∧ b ≤ f + 4 ∧ 0 ≤ j)) h h' ∧ LAY h' ∧ (∀ c, 0 ≤ c → c < 128 → h' (f + 1) c = 500 ∧ h' (f + 2) c = 0) ∧ (∀ p, 0 ≤ p → p < 16384 → h' (f + 3) p = 1000 ∧ h' (f + 4) p = 0) ∧ h' f 4 = 0) := by
  have hf' := aX8 hf
  unfold m_X8_clear
  refine z_lt (z_bind (z_mono (z_lp (Q := fun q : Hp => F2 (fun b j => (b = f ∧ j = 4) ∨ (f + 1 ≤ b ∧ b ≤ f + 4 ∧ 0 ≤ j)) h q ∧ LAY q ∧ ∀ c, 0 ≤ c → c < 128 → q (f + 1) c = 500 ∧ q (f + 2) c = 0) (I := fun s : Int × Hp => 0 ≤ s.1 ∧ s.1 ≤ 128 ∧ F2 (fun b j => (b = f ∧ j = 4) ∨ (f + 1 ≤ b ∧ b ≤ f + 4 ∧ 0 ≤ j)) h s.2 ∧ LAY s.2 ∧ ∀ c, 0 ≤ c → c < s.1 → s.2 (f + 1) c = 500 ∧ s.2 (f + 2) c = 0) (μ := fun s => (128 - s.1).toNat) ⟨Int.le_refl 0, (by decide : (0 : Int) ≤ 128), F2.refl, hL, fun c h1 h2 => by have : c < 0 := h2; omega⟩ ?_) ?_))
  · rintro ⟨k, q⟩ ⟨k1, k2, e1, e2, e3⟩
    dsimp only at k1 k2 e1 e2 e3
    show Pz (m_X8_clear_l2 f k q) _
    unfold m_X8_clear_l2
    refine z_if (fun hc => z_some ⟨e1, e2, fun c h1 h2 => e3 c h1 (by omega)⟩) (fun hc => ?_)
    obtain ⟨-, ⟨u1, u2, u3⟩, ⟨u4, u5, u6⟩, -⟩ := ly_X8 e2 hf
    rw [u1]
    refine z_gd ⟨by rw [u2]; decide, k1, by rw [u3]; omega⟩ (z_pt ?_)
    have L1 : LAY (up q (f + 1) k 500) := e2.put k1 (by omega) (by rw [u2]; exact fx_a (by decide) (by decide))
    obtain ⟨-, -, ⟨v4, v5, v6⟩, -⟩ := ly_X8 L1 hf
    rw [v4]
    refine z_gd ⟨by rw [v5]; decide, k1, by rw [v6]; omega⟩ (z_pt (z_lt (z_some ?_)))
    rw [e32 (x := k + 1) (by omega) (by omega)]
    refine ⟨⟨by show 0 ≤ k + 1; omega, by show k + 1 ≤ 128; omega, (e1.put (Or.inr ⟨by omega, by omega, k1⟩)).put (Or.inr ⟨by omega, by omega, k1⟩), L1.put k1 (by omega) (by rw [v5]; exact fx_a (by decide) (by decide)), fun c h1 h2 => ?_⟩, by show (128 - (k + 1)).toNat < (128 - k).toNat; omega⟩
    have h2 : c < k + 1 := h2
    show up (up q (f + 1) k 500) (f + 2) k 0 (f + 1) c = 500 ∧ up (up q (f + 1) k 500) (f + 2) k 0 (f + 2) c = 0
    by_cases hck : c = k
    · rw [hck, up_a (by omega), up_s, up_s]; exact ⟨rfl, rfl⟩
    · rw [up_i hck, up_i hck, up_i hck, up_i hck]; exact e3 c h1 (by omega)
  · rintro y ⟨y1, y2, y3⟩
    refine z_lt (z_bind (z_mono (z_lp (Q := fun q : Hp => F2 (fun b j => (b = f ∧ j = 4) ∨ (f + 1 ≤ b ∧ b ≤ f + 4 ∧ 0 ≤ j)) h q ∧ LAY q ∧ (∀ c, 0 ≤ c → c < 128 → q (f + 1) c = 500 ∧ q (f + 2) c = 0) ∧ (∀ p, 0 ≤ p → p < 16384 → q (f + 3) p = 1000 ∧ q (f + 4) p = 0) ∧ q f 4 = 0) (I := fun s : Int × Hp => 0 ≤ s.1 ∧ s.1 ≤ 16384 ∧ F2 (fun b j => (b = f ∧ j = 4) ∨ (f + 1 ≤ b ∧ b ≤ f + 4 ∧ 0 ≤ j)) h s.2 ∧ LAY s.2 ∧ (∀ c, 0 ≤ c → c < 128 → s.2 (f + 1) c = 500 ∧ s.2 (f + 2) c = 0) ∧ ∀ c, 0 ≤ c → c < s.1 → s.2 (f + 3) c = 1000 ∧ s.2 (f + 4) c = 0) (μ := fun s => (16384 - s.1).toNat) ⟨Int.le_refl 0, (by decide : (0 : Int) ≤ 16384), y1, y2, y3, fun c h1 h2 => by have : c < 0 := h2; omega⟩ ?_) (fun q hq => z_some hq)))
    rintro ⟨k, q⟩ ⟨k1, k2, e1, e2, e4, e3⟩
    dsimp only at k1 k2 e1 e2 e3 e4
    show Pz (m_X8_clear_l33 f k q) _
    unfold m_X8_clear_l33
    obtain ⟨u0, -, -, ⟨u1, u2, u3⟩, -⟩ := ly_X8 e2 hf
    rw [u1]
    refine z_gd ⟨by rw [u2]; decide, by rw [u2]; decide⟩ ?_
    rw [u3]
    refine z_if (fun hc => z_pt (z_some ⟨e1.put (Or.inl ⟨rfl, rfl⟩), e2.put (by decide) (by omega) (by rw [u0]; decide), fun c h1 h2 => ?_, fun p h1 h2 => ?_, up_s _ _ _ _⟩)) (fun hc => ?_)
    · rw [up_a (by omega), up_a (by omega)]; exact e4 c h1 h2
    · rw [up_a (by omega), up_a (by omega)]; exact e3 p h1 (by omega)
    · refine z_gd ⟨by rw [u2]; decide, k1, by omega⟩ (z_pt ?_)
      have L1 : LAY (up q (f + 3) k 1000) := e2.put k1 (by omega) (by rw [u2]; exact fx_a (by decide) (by decide))
      obtain ⟨-, -, -, -, ⟨v4, v5, v6⟩⟩ := ly_X8 L1 hf
      rw [v4]
      refine z_gd ⟨by rw [v5]; decide, k1, by rw [v6]; omega⟩ (z_pt (z_lt (z_some ?_)))
      rw [e32 (x := k + 1) (by omega) (by omega)]
      refine ⟨⟨by show 0 ≤ k + 1; omega, by show k + 1 ≤ 16384; omega, (e1.put (Or.inr ⟨by omega, by omega, k1⟩)).put (Or.inr ⟨by omega, by omega, k1⟩), L1.put k1 (by omega) (by rw [v5]; exact fx_a (by decide) (by decide)), fun c h1 h2 => ?_, fun c h1 h2 => ?_⟩, by show (16384 - (k + 1)).toNat < (16384 - k).toNat; omega⟩
      · show up (up q (f + 3) k 1000) (f + 4) k 0 (f + 1) c = 500 ∧ up (up q (f + 3) k 1000) (f + 4) k 0 (f + 2) c = 0
        rw [up_a (by omega), up_a (by omega), up_a (by omega), up_a (by omega)]; exact e4 c h1 h2
      · have h2 : c < k + 1 := h2
        show up (up q (f + 3) k 1000) (f + 4) k 0 (f + 3) c = 1000 ∧ up (up q (f + 3) k 1000) (f + 4) k 0 (f + 4) c = 0
        by_cases hck : c = k
        · rw [hck, up_a (by omega), up_s, up_s]; exact ⟨rfl, rfl⟩
        · rw [up_i hck, up_i hck, up_i hck, up_i hck]; exact e3 c h1 (by omega)
theorem t_fclear {h : Hp} {l : Int} (hl : l ∈ in_aX19) (hL : LAY h) : Pz (m_X19_clear l h) (fun h' => F2 (fun b j => (b = l ∧ (j = 2 ∨ j = 3)) ∨ (l + 1 ≤ b ∧ b ≤ l + 2 ∧ 0 ≤ j)) h h' ∧ LAY h' ∧ (∀ c, 0 ≤ c → c < 256 → h' (l + 1) c = 500 ∧ h' (l + 2) c = 0) ∧ h' l 2 = 0 ∧ h' l 3 = 0) := by
  have hl' := aX19 hl
  unfold m_X19_clear
  refine z_lt (z_bind (z_mono (z_lp (Q := fun q : Hp => F2 (fun b j => (b = l ∧ (j = 2 ∨ j = 3)) ∨ (l + 1 ≤ b ∧ b ≤ l + 2 ∧ 0 ≤ j)) h q ∧ LAY q ∧ (∀ c, 0 ≤ c → c < 256 → q (l + 1) c = 500 ∧ q (l + 2) c = 0) ∧ q l 2 = 0 ∧ q l 3 = 0) (I := fun s : Int × Hp => 0 ≤ s.1 ∧ s.1 ≤ 256 ∧ F2 (fun b j => (b = l ∧ (j = 2 ∨ j = 3)) ∨ (l + 1 ≤ b ∧ b ≤ l + 2 ∧ 0 ≤ j)) h s.2 ∧ LAY s.2 ∧ ∀ c, 0 ≤ c → c < s.1 → s.2 (l + 1) c = 500 ∧ s.2 (l + 2) c = 0) (μ := fun s => (256 - s.1).toNat) ⟨Int.le_refl 0, (by decide : (0 : Int) ≤ 256), F2.refl, hL, fun c h1 h2 => by have : c < 0 := h2; omega⟩ ?_) (fun q hq => z_some hq)))
  rintro ⟨k, q⟩ ⟨k1, k2, e1, e2, e3⟩
  dsimp only at k1 k2 e1 e2 e3
  show Pz (m_X19_clear_l2 l k q) _
  unfold m_X19_clear_l2
  obtain ⟨u0, ⟨u1, u2, u3⟩, ⟨u4, u5, u6⟩, -⟩ := ly_X19 e2 hl
  refine z_if (fun hc => z_pt (z_pt (z_some ⟨(e1.put (Or.inl ⟨rfl, Or.inl rfl⟩)).put (Or.inl ⟨rfl, Or.inr rfl⟩), ?_, fun c h1 h2 => ?_, ?_, up_s _ _ _ _⟩))) (fun hc => ?_)
  · have L1 : LAY (up q l 2 0) := e2.put (by decide) (by omega) (by rw [u0]; decide)
    exact L1.put (by decide) (by omega) (by rw [(ly_X19 L1 hl).1]; decide)
  · rw [up_a (by omega), up_a (by omega), up_a (by omega), up_a (by omega)]; exact e3 c h1 (by omega)
  · rw [up_i (by omega), up_s]
  · rw [u1]
    refine z_gd ⟨by rw [u2]; decide, k1, by rw [u3]; omega⟩ (z_pt ?_)
    have L1 : LAY (up q (l + 1) k 500) := e2.put k1 (by omega) (by rw [u2]; exact fx_a (by decide) (by decide))
    obtain ⟨-, -, ⟨v4, v5, v6⟩, -⟩ := ly_X19 L1 hl
    rw [v4]
    refine z_gd ⟨by rw [v5]; decide, k1, by rw [v6]; omega⟩ (z_pt (z_lt (z_some ?_)))
    rw [e32 (x := k + 1) (by omega) (by omega)]
    refine ⟨⟨by show 0 ≤ k + 1; omega, by show k + 1 ≤ 256; omega, (e1.put (Or.inr ⟨by omega, by omega, k1⟩)).put (Or.inr ⟨by omega, by omega, k1⟩), L1.put k1 (by omega) (by rw [v5]; exact fx_a (by decide) (by decide)), fun c h1 h2 => ?_⟩, by show (256 - (k + 1)).toNat < (256 - k).toNat; omega⟩
    have h2 : c < k + 1 := h2
    show up (up q (l + 1) k 500) (l + 2) k 0 (l + 1) c = 500 ∧ up (up q (l + 1) k 500) (l + 2) k 0 (l + 2) c = 0
    by_cases hck : c = k
    · rw [hck, up_a (by omega), up_s, up_s]; exact ⟨rfl, rfl⟩
    · rw [up_i hck, up_i hck, up_i hck, up_i hck]; exact e3 c h1 (by omega)
theorem cntW_0 {g : Int → Int} : ∀ k : Nat, (∀ j : Int, 0 ≤ j → j < k → g j = 0) → cntW g k = 0 := by
  intro k
  induction k with
  | zero => intro _; rfl
  | succ k ih =>
    intro h
    show cntW g k + _ = 0
    rw [ih (fun j h1 h2 => h j h1 (by omega)), if_pos (h k (by omega) (by omega))]
    decide
/-- the loops of both sides -/
theorem font_loop {n : Int} {B : Int → Int} {f l : Int} {hc ht : Hp} {i : Int} (hf : f ∈ in_aX8) (hl : l ∈ in_aX19) (c : CS hc n B i) (d : TS ht (l + 7) 496 n B i) (r : RF hc ht f l 0 0) (e : ∀ j, 0 ≤ j → j < n → hc 2 j = ht 496 j) :
    Pr (lp (fun (q : Int × Int × Hp) => m_X8_read_l8 f 3 q.1 q.2.1 q.2.2) (0, 0, hc)) (lp (fun (q : Hp) => m_X19_read_l13 l q) ht) (fun rc rt =>
      (∃ nk nj h1, rc = ((0, 0), up h1 f 4 (h1 f 4 + (nk + nj))) ∧ rt.1 = (0, 0) ∧ LAY h1 ∧ LAY rt.2 ∧ RF h1 rt.2 f l nk nj ∧ F2 (fcW f) hc h1 ∧ F2 (ftW l) ht rt.2) ∨ (∃ p, ThF 432 p (fcW f) hc rc ∧ ThF 448 p (ftW l) ht rt)) := by
  have hf' := aX8 hf
  have hl' := aX19 hl
  refine y_lp (I := fun (s : Int × Int × Hp) (t : Hp) => ∃ i, CS s.2.2 n B i ∧ TS t (l + 7) 496 n B i ∧ RF s.2.2 t f l s.1 s.2.1 ∧ F2 (fcW f) hc s.2.2 ∧ F2 (ftW l) ht t) (μ := fun s => (n + 1 - s.2.2 3 4).toNat) ⟨i, c, d, r, F2.refl, F2.refl⟩ ?_
  rintro ⟨nk, nj, h1⟩ h2 ⟨j, C, D, R, G1, G2⟩
  dsimp only at C D R G1 G2
  have e' : ∀ x, 0 ≤ x → x < n → h1 2 x = h2 496 x := by
    intro x x0 x1
    rw [G1 2 x (fun z => by rcases z with z | z | z <;> have := z.1 <;> omega), G2 496 x (fun z => by rcases z with z | z | z <;> have := z.1 <;> omega)]
    exact e x x0 x1
  have hq := cs_ok C
  show Pr (m_X8_read_l8 f 3 nk nj h1) (m_X19_read_l13 l h2) _
  unfold m_X19_read_l13
  obtain ⟨-, -, -, -, -, -, -, t8, t9, -⟩ := ly_X19 D.1 hl
  rw [t8]
  refine yr_gd t9 ?_
  by_cases h0 : (tk B j).1 = 0
  · rw [if_pos (show h2 (l + 7) 3 = 5 by rw [D.2.2.2.1.1, h0]; rfl)]
    unfold m_X8_read_l8
    refine yl_gd (ly_X2 C.1).1 ?_
    rw [q_X2_isEnd C.2.2.2.2.1, Option.bind_some, if_pos h0]
    refine yl_it (by decide) (yl_pt (y_some (Or.inr ⟨_, _, rfl, rfl, Or.inl ⟨nk, nj, h1, ?_, rfl, C.1, D.1, R, G1, G2⟩⟩)))
    have cr := cntW_r (g := h1 (f + 2)) 128
    obtain ⟨-, -, r3, ⟨-, r4, r5⟩, ⟨-, r6, r7⟩, -⟩ := R
    rw [e32 (x := nk + nj) (by omega) (by omega), e32 (by omega) (by omega)]
  · rw [if_neg (fun z => h0 ((kT5 hq.2.2.2.2.2.1).mp (by rw [← D.2.2.2.1.1]; exact z)))]
    obtain ⟨rc, rt, e1, e2, e3⟩ := fo_line hf hl C D R e' h0
    rcases e3 with ⟨nk', nj', hc', ht', i', rfl, rfl, q1, q2, q3, q4, q5, q6⟩ | ⟨p, xc, rfl, q1, q2⟩
    · refine ⟨_, _, e1, bT_0 e2 rfl, Or.inl ⟨_, _, rfl, rfl, ⟨i', q2, q3, q4, G1.trans q5, G2.trans q6⟩, ?_⟩⟩
      show (n + 1 - hc' 3 4).toNat < (n + 1 - h1 3 4).toNat
      have a1 := q2.2.2.2.2.1.2.1
      have a2 := C.2.2.2.2.1.2.1
      have a3 := tk_ge q2
      have a4 := hq.2.1
      omega
    · refine ⟨_, _, e1, bT_1 e2 (by rw [q2.1]; decide), Or.inr ⟨_, _, rfl, rfl, Or.inr ⟨p, ?_, ?_⟩⟩⟩
      · obtain ⟨z1, z2, z3, z4, z5, z6, z7, z8⟩ := q1
        have e0 : h1 0 0 = hc 0 0 := G1 0 0 (fun z => by rcases z with z | z | z <;> have := z.1 <;> omega)
        have e9 : h1 0 1 = hc 0 1 := G1 0 1 (fun z => by rcases z with z | z | z <;> have := z.1 <;> omega)
        refine ⟨z1, z2, by rw [← e0]; exact z3, z4, z5, (G1.mono (fun b j y => Or.inl y)).trans (z6.mono (fun b j y => ?_)), by rw [z7, e0], by rw [z8, e9]⟩
        unfold nwW at y ⊢
        rw [e0] at y
        exact y
      · obtain ⟨z1, z2, z3, z4, z5, z6, z7, z8⟩ := q2
        have e0 : h2 0 0 = ht 0 0 := G2 0 0 (fun z => by rcases z with z | z | z <;> have := z.1 <;> omega)
        have e9 : h2 0 1 = ht 0 1 := G2 0 1 (fun z => by rcases z with z | z | z <;> have := z.1 <;> omega)
        refine ⟨rfl, z2, by rw [← e0]; exact z3, z4, z5, (G2.mono (fun b j y => Or.inl y)).trans (z6.mono (fun b j y => ?_)), by show rt.2 0 0 = _; rw [z7, e0], by show rt.2 0 1 = _; rw [z8, e9]⟩
        unfold nwW at y ⊢
        rw [e0] at y
        exact y
