set_option maxRecDepth 100000
/-! FONTS: strings of one byte, pairs -/
theorem iand_b {x : Int} (h1 : -128 ≤ x) (h2 : x < 128) : iand_ x 255 = if 0 ≤ x then x else x + 256 := by
  have key : ∀ n : Nat, n < 256 → iand_ ((n : Int) - 128) 255 = if 0 ≤ (n : Int) - 128 then (n : Int) - 128 else (n : Int) - 128 + 256 := by decide +kernel
  have := key (x + 128).toNat (by omega)
  rw [show (((x + 128).toNat : Nat) : Int) - 128 = x by omega] at this
  exact this
/-- the bytes of a text are bytes -/
def BY (h : Hp) (t n : Int) : Prop := ∀ j, 0 ≤ j → j < n → -128 ≤ h t j ∧ h t j < 128
theorem Bt_b {h : Hp} {t n i : Int} (hb : BY h t n) (h0 : 0 ≤ i) (h1 : i < n) (h2 : Bt h t n i < 128) : h t i = Bt h t n i := by
  unfold Bt at h2 ⊢
  rw [if_neg (by omega), if_neg (show ¬ i < 0 by omega)] at h2 ⊢
  obtain ⟨b1, b2⟩ := hb i h0 h1
  rw [iand_b b1 b2] at h2 ⊢
  split at h2 <;> split <;> omega
/-- in a string stand plain bytes -/
theorem tk_st {h : Hp} {t n i x : Int} (h0 : 0 ≤ i) (hi : i ≤ n) (hk : (tk (Bt h t n) i).1 = 3) (h1 : (tk (Bt h t n) i).2.1 < x) (h2 : x < (tk (Bt h t n) i).2.2.1 - 1) : isSt (Bt h t n x) = true ∧ x < n := by
  have s0 := sc_spec (B := Bt h t n) (p := isBl) (i := i) (fun x hx => bt_end (by decide) hx) hi
  unfold tk at hk h1 h2
  generalize hj : sc (Bt h t n) isBl i = j at *
  obtain ⟨g1, g2, g3⟩ := s0
  by_cases c0 : Bt h t n j < 0
  · rw [if_pos c0] at hk; exact absurd hk (show ¬ (0 : Int) = 3 by decide)
  · rw [if_neg c0] at hk h1 h2
    have hjn : j < n := Bt_n (h := h) (t := t) (by omega)
    by_cases c1 : isSm (Bt h t n j) = true
    · rw [if_pos c1] at hk
      have hk : (if sc (Bt h t n) isNm j - j ≤ 12 then (1 : Int) else 5) = 3 := hk
      split at hk <;> omega
    · rw [if_neg c1] at hk h1 h2
      by_cases c2 : isDg (Bt h t n j) = true
      · rw [if_pos c2] at hk
        have hk : (if sc (Bt h t n) isDg j - j ≤ 7 then (2 : Int) else 5) = 3 := hk
        split at hk <;> omega
      · rw [if_neg c2] at hk h1 h2
        by_cases c3 : Bt h t n j = 34
        · rw [if_pos c3] at h1 h2
          obtain ⟨k1, k2, k3⟩ := sc_spec (B := Bt h t n) (p := isSt) (i := j + 1) (fun x hx => bt_end (by decide) hx) (by omega)
          dsimp only at h1 h2
          exact ⟨k1.2.1 x (by omega) (by omega), by omega⟩
        · rw [if_neg c3] at hk
          have hk : (if isPl (Bt h t n j) = true then (4 : Int) else 5) = 3 := hk
          split at hk <;> omega
theorem isSt_c {c : Int} (h : isSt c = true) : 32 ≤ c ∧ c ≤ 126 ∧ c ≠ 34 := by unfold isSt at h; have := of_decide_eq_true h; exact ⟨this.1.1, this.1.2, this.2⟩
/-- a sign that is a string of one byte -/
def is1 (q : Int × Int × Int × Int) : Prop := q.1 = 3 ∧ q.2.2.1 = q.2.1 + 3
theorem c_two {h : Hp} {t n i : Int} (x : TX h 3 t n) (A : AtC h 3 (tk (Bt h t n) i)) (h0 : 0 ≤ i) (hi : i ≤ n) (hb : BY h t n) (hL : LAY h) (rm : RM h 1 7) : Pz (m_X8_two 3 h) (fun r => (is1 (tk (Bt h t n) i) ∧ r = ((0, Bt h t n ((tk (Bt h t n) i).2.1 + 1)), h)) ∨ (¬ is1 (tk (Bt h t n) i) ∧ Thr 432 (tk (Bt h t n) i).2.1 h r)) := by
  have hq := tk_r (h := h) (t := t) h0 hi
  have hst := tk_st (h := h) (t := t) (x := (tk (Bt h t n) i).2.1 + 1) h0 hi
  generalize tk (Bt h t n) i = q at *
  unfold m_X8_two
  refine z_gd (ly_X2 hL).1 ?_
  rw [A.1]
  refine z_if (fun h1 => brkT rfl rfl rm (by decide) (by decide) A.2.1 (fun r hr => Or.inr ⟨fun z => h1 z.1, hr⟩)) (fun h1 => ?_)
  have h1 : q.1 = 3 := Classical.not_not.mp h1
  obtain ⟨g5, g6⟩ := A.2.2.2.2.1 h1
  have h3 := hq.2.2.2.2.2.2.2.1 h1
  have hp := hq.1
  have he := hq.2.2.2.1 (by omega)
  rw [g6]
  refine z_if (fun h2 => ?_) (fun h2 => brkT rfl rfl rm (by decide) (by decide) A.2.1 (fun r hr => Or.inr ⟨fun z => h2 (by have := z.2; omega), hr⟩))
  obtain ⟨s1, s2⟩ := hst h1 (by omega) (by omega)
  have sc := isSt_c s1
  rw [x.1, g5]
  have hle := x.2.2.2.1
  refine z_gd ⟨x.2.2.1, by omega, by omega⟩ (z_some (Or.inl ⟨⟨h1, by omega⟩, ?_⟩))
  rw [Bt_b hb (by omega) s2 (by omega)]
theorem c_one {h : Hp} {t n i : Int} (x : TX h 3 t n) (A : AtC h 3 (tk (Bt h t n) i)) (h0 : 0 ≤ i) (hi : i ≤ n) (hb : BY h t n) (hL : LAY h) (rm : RM h 1 7) : Pz (m_X8_one 3 h) (fun r => (is1 (tk (Bt h t n) i) ∧ r.1 = (0, Bt h t n ((tk (Bt h t n) i).2.1 + 1)) ∧ F2 (nxW 3) h r.2 ∧ AtC r.2 3 (tk (Bt h t n) (tk (Bt h t n) i).2.2.1)) ∨ (¬ is1 (tk (Bt h t n) i) ∧ Thr 432 (tk (Bt h t n) i).2.1 h r)) := by
  have hq := tk_r (h := h) (t := t) h0 hi
  unfold m_X8_one
  refine z_bT (z_mono (c_two x A h0 hi hb hL rm) (fun r hr => ?_))
  rcases hr with ⟨r1, rfl⟩ | ⟨r1, r2⟩
  · refine Or.inl ⟨rfl, z_gd (ly_X2 hL).1 (z_bind (z_mono (c_next x A.2.2.1 (Int.le_trans hq.1 hq.2.2.1) (hq.2.2.2.1 (by rw [r1.1]; decide))) (fun h' hh => z_some (Or.inl ⟨r1, rfl, hh.1, hh.2⟩))))⟩
  · exact Or.inr ⟨by rw [r2.1]; decide, z_some (Or.inr ⟨r1, rfl, r2.2⟩)⟩
theorem t_single {h : Hp} {l a t n i : Int} (ha : h l 8 = a) (hka : h a (-2) = 336) (a1 : 1 ≤ a) (a2 : a ≤ 982) (x : TX h a t n) (A : AtT h a (tk (Bt h t n) i)) (h0 : 0 ≤ i) (hi : i ≤ n) (rm : RM h 1 7) : Pz (m_X19_single l h) (fun r => (is1 (tk (Bt h t n) i) ∧ r.1 = (0, Bt h t n ((tk (Bt h t n) i).2.1 + 1)) ∧ F2 (nxW a) h r.2 ∧ AtT r.2 a (tk (Bt h t n) (tk (Bt h t n) i).2.2.1)) ∨ (¬ is1 (tk (Bt h t n) i) ∧ Thr 448 (tk (Bt h t n) i).2.1 h r)) := by
  have hq := tk_r (h := h) (t := t) h0 hi
  unfold m_X19_single
  rw [ha]
  refine z_gd hka ?_
  rw [A.1]
  refine z_if (fun h1 => brkT rfl rfl rm a1 a2 A.2.1 (fun r hr => Or.inr ⟨fun z => h1 ((kTe (by omega) (by omega)).mpr z.1), hr⟩)) (fun h1 => ?_)
  have h1 : (tk (Bt h t n) i).1 = 3 := (kTe (by omega) (by omega)).mp (Classical.not_not.mp h1)
  have h3 := hq.2.2.2.2.2.2.2.1 h1
  have hp := hq.1
  have he := hq.2.2.2.1 (by omega)
  have h6 := x.2.2.2.2.2
  unfold m_X20_innerEnd m_X20_inner
  rw [Option.bind_some, Option.bind_some, Option.bind_some, A.2.1, A.2.2.1, e32 (x := (tk (Bt h t n) i).2.1 + 1) (by omega) (by omega), e32 (x := (tk (Bt h t n) i).2.2.1 - 1) (by omega) (by omega), e32 (x := (tk (Bt h t n) i).2.2.1 - 1 - ((tk (Bt h t n) i).2.1 + 1)) (by omega) (by omega)]
  refine z_if (fun h2 => ?_) (fun h2 => brkT rfl rfl rm a1 a2 A.2.1 (fun r hr => Or.inr ⟨fun z => h2 (by have := z.2; omega), hr⟩))
  rw [q_X20_byteAt x (by omega), Option.bind_some]
  exact z_bind (z_mono (t_next x A.2.2.2.1 (by omega) he) (fun h' hh => z_some (Or.inl ⟨⟨h1, by omega⟩, rfl, hh.1, hh.2⟩)))
/-- the list of pairs: where one is, -1 without -/
theorem q_find {h : Hp} {o n v : Int} (hk : h o (-2) % 16 = 1) (hn : n ≤ h o (-1)) (h0 : 0 ≤ n) (hb : n ≤ 100000) : Pz (m_X19_find o n v h) (fun k => (0 ≤ k ∧ k < n ∧ h o k = v) ∨ (k = -1 ∧ ∀ j, 0 ≤ j → j < n → h o j ≠ v)) := by
  unfold m_X19_find
  refine z_lt (z_bind (z_mono (z_lp (Q := fun k => (0 ≤ k ∧ k < n ∧ h o k = v) ∨ (k = -1 ∧ ∀ j, 0 ≤ j → j < n → h o j ≠ v)) (I := fun k => 0 ≤ k ∧ k ≤ n ∧ ∀ j, 0 ≤ j → j < k → h o j ≠ v) (μ := fun k => (n - k).toNat) ⟨by decide, h0, fun j h1 h2 => by omega⟩ ?_) (fun k hk => z_some hk)))
  rintro k ⟨k1, k2, k3⟩
  show Pz (m_X19_find_l2 o n v k h) _
  unfold m_X19_find_l2
  refine z_if (fun hc => z_some (Or.inr ⟨rfl, fun j h1 h2 => k3 j h1 (by omega)⟩)) (fun hc => ?_)
  refine z_gd ⟨hk, k1, by omega⟩ (z_if (fun hd => z_lt (z_some ?_)) (fun hd => z_some (Or.inl ⟨k1, by omega, Classical.not_not.mp hd⟩)))
  rw [e32 (x := k + 1) (by omega) (by omega)]
  refine ⟨⟨by omega, by omega, fun j h1 h2 => ?_⟩, by omega⟩
  rcases Int.lt_or_eq_of_le (show j ≤ k by omega) with hj | hj
  · exact k3 j h1 hj
  · rw [hj]; exact hd
/-- a table of pairs (A, 128 by 128; nn for none; off is added) and a list of n of them (their keys O, their values V) -/
def PR (hc ht : Hp) (A O V n nn off lo hi : Int) : Prop :=
  (∀ k, 0 ≤ k → k < n → ∃ a b, 0 ≤ a ∧ a < 128 ∧ 0 ≤ b ∧ b < 128 ∧ ht O k = 256 * a + b ∧ lo ≤ ht V k ∧ ht V k ≤ hi ∧ hc A (128 * a + b) = ht V k + off) ∧
  (∀ k j, 0 ≤ k → k < n → 0 ≤ j → j < n → ht O k = ht O j → k = j) ∧
  (∀ a b, 0 ≤ a → a < 128 → 0 ≤ b → b < 128 → (∀ k, 0 ≤ k → k < n → ht O k ≠ 256 * a + b) → hc A (128 * a + b) = nn)
theorem PR.at {hc ht : Hp} {A O V n nn off lo hi a b k : Int} (r : PR hc ht A O V n nn off lo hi) (k0 : 0 ≤ k) (k1 : k < n) (a0 : 0 ≤ a) (a1 : a < 128) (b0 : 0 ≤ b) (b1 : b < 128) (e : ht O k = 256 * a + b) : hc A (128 * a + b) = ht V k + off ∧ lo ≤ ht V k ∧ ht V k ≤ hi := by
  obtain ⟨a', b', g1, g2, g3, g4, g5, g6, g7, g8⟩ := r.1 k k0 k1
  have : a' = a := by omega
  have : b' = b := by omega
  subst_vars
  exact ⟨g8, g6, g7⟩
/-- frames -/
theorem PR.kept {hc ht hc' ht' : Hp} {A O V n nn off lo hi : Int} (r : PR hc ht A O V n nn off lo hi) (e1 : hc' A = hc A) (e2 : ht' O = ht O) (e3 : ht' V = ht V) : PR hc' ht' A O V n nn off lo hi := by
  unfold PR
  rw [e1, e2, e3]
  exact r
/-- a pair told again -/
theorem PR.again {hc ht hc' ht' : Hp} {A O V n nn off lo hi a b k v : Int} (r : PR hc ht A O V n nn off lo hi) (k0 : 0 ≤ k) (k1 : k < n) (a0 : 0 ≤ a) (a1 : a < 128) (b0 : 0 ≤ b) (b1 : b < 128) (e : ht O k = 256 * a + b) (v0 : lo ≤ v) (v1 : v ≤ hi)
    (c1 : hc' A (128 * a + b) = v + off) (c2 : ∀ j, j ≠ 128 * a + b → hc' A j = hc A j) (d1 : ht' O = ht O) (d2 : ht' V k = v) (d3 : ∀ j, j ≠ k → ht' V j = ht V j) : PR hc' ht' A O V n nn off lo hi := by
  refine ⟨fun j j0 j1 => ?_, ?_, fun a' b' g1 g2 g3 g4 g5 => ?_⟩
  · obtain ⟨a', b', g1, g2, g3, g4, g5, g6, g7, g8⟩ := r.1 j j0 j1
    by_cases hj : j = k
    · subst hj
      exact ⟨a, b, a0, a1, b0, b1, by rw [d1]; exact e, by rw [d2]; exact v0, by rw [d2]; exact v1, by rw [d2]; exact c1⟩
    · refine ⟨a', b', g1, g2, g3, g4, by rw [d1]; exact g5, by rw [d3 j hj]; exact g6, by rw [d3 j hj]; exact g7, ?_⟩
      rw [c2 _ (fun z => hj (r.2.1 j k j0 j1 k0 k1 (by omega))), d3 j hj]; exact g8
  · rw [d1]; exact r.2.1
  · rw [d1] at g5
    rw [c2 _ (fun z => g5 k k0 k1 (by omega))]
    exact r.2.2 a' b' g1 g2 g3 g4 g5
/-- a pair told for the first time -/
theorem PR.more {hc ht hc' ht' : Hp} {A O V n nn off lo hi a b v : Int} (r : PR hc ht A O V n nn off lo hi) (n0 : 0 ≤ n) (a0 : 0 ≤ a) (a1 : a < 128) (b0 : 0 ≤ b) (b1 : b < 128) (e : ∀ k, 0 ≤ k → k < n → ht O k ≠ 256 * a + b) (v0 : lo ≤ v) (v1 : v ≤ hi)
    (c1 : hc' A (128 * a + b) = v + off) (c2 : ∀ j, j ≠ 128 * a + b → hc' A j = hc A j) (d1 : ht' O n = 256 * a + b) (d2 : ∀ j, j ≠ n → ht' O j = ht O j) (d3 : ht' V n = v) (d4 : ∀ j, j ≠ n → ht' V j = ht V j) : PR hc' ht' A O V (n + 1) nn off lo hi := by
  refine ⟨fun j j0 j1 => ?_, fun k j k0 k1 j0 j1 h1 => ?_, fun a' b' g1 g2 g3 g4 g5 => ?_⟩
  · by_cases hj : j = n
    · subst hj
      exact ⟨a, b, a0, a1, b0, b1, d1, by rw [d3]; exact v0, by rw [d3]; exact v1, by rw [d3]; exact c1⟩
    · obtain ⟨a', b', g1, g2, g3, g4, g5, g6, g7, g8⟩ := r.1 j j0 (by omega)
      refine ⟨a', b', g1, g2, g3, g4, by rw [d2 j hj]; exact g5, by rw [d4 j hj]; exact g6, by rw [d4 j hj]; exact g7, ?_⟩
      rw [c2 _ (fun z => e j j0 (by omega) (by omega)), d4 j hj]; exact g8
  · by_cases hk : k = n
    · by_cases hj : j = n
      · omega
      · rw [hk, d1, d2 j hj] at h1
        exact absurd h1.symm (e j j0 (by omega))
    · by_cases hj : j = n
      · rw [hj, d1, d2 k hk] at h1
        exact absurd h1 (e k k0 (by omega))
      · rw [d2 k hk, d2 j hj] at h1
        exact r.2.1 k j k0 (by omega) j0 (by omega) h1
  · have hne : ¬ (a' = a ∧ b' = b) := fun z => g5 n n0 (by omega) (by rw [d1, z.1, z.2])
    rw [c2 _ (fun z => hne ⟨by omega, by omega⟩)]
    refine r.2.2 a' b' g1 g2 g3 g4 (fun k k0 k1 => ?_)
    have := g5 k k0 (by omega)
    rw [d2 k (by omega)] at this
    exact this
