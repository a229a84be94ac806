set_option maxRecDepth 100000
/-! STYLES: names and strings that come to them -/
theorem ly_X3n {h : Hp} {a : Int} (hL : LAY h) (ha : a ∈ in_aX3) : h (a + 4) (-1) = 4800 ∧ h (a + 5) (-1) = 4800 ∧ h (a + 9) (-1) = 12 ∧ h (a + 10) (-1) = 12 ∧ h (a + 12) (-1) = 16384 ∧ h (a + 11) (-2) = 80 ∧ h (a + 12) (-2) = 82 ∧ h (a + 11) 0 = a + 12 := by
  have n3 := (aX3n ha).2.2
  have k := ly_X5 hL n3
  have e : a + 11 + 1 = a + 12 := by omega
  rw [e] at k
  rcases aX3 ha with rfl | rfl | rfl
  · exact ⟨(hL.2.1 8 _ rfl).2, (hL.2.1 9 _ rfl).2, (hL.2.1 13 _ rfl).2, (hL.2.1 14 _ rfl).2, (hL.2.1 16 _ rfl).2, k.1, k.2.2, k.2.1⟩
  · exact ⟨(hL.2.1 36 _ rfl).2, (hL.2.1 37 _ rfl).2, (hL.2.1 41 _ rfl).2, (hL.2.1 42 _ rfl).2, (hL.2.1 44 _ rfl).2, k.1, k.2.2, k.2.1⟩
  · exact ⟨(hL.2.1 64 _ rfl).2, (hL.2.1 65 _ rfl).2, (hL.2.1 69 _ rfl).2, (hL.2.1 70 _ rfl).2, (hL.2.1 72 _ rfl).2, k.1, k.2.2, k.2.1⟩
/-- a new state of the left one's rows -/
theorem SS.newL {h1 h2 hc ht hc' : Hp} {n : Int} {B T : Int → Int} {a l : Int} {p q : Hp} {i k : Int} (ha : a ∈ in_aX3) (S : SS h1 h2 n B T a l p q i k hc ht) {W : Int → Int → Prop} (f : F2 W hc hc') (hw : ∀ b j, W b j → scW a b j ∧ a ≤ b) : SS h1 h2 n B T a l hc' q i k hc' ht := by
  have h3 := aX3 ha
  obtain ⟨s1, s2, s3, s4, s5, s6, s8⟩ := S
  have L := scW_l s1.1 ha (f.mono (fun x y z => (hw x y z).1))
  refine ⟨s1.kept f L (fun y z => by have := (hw _ _ z).2; omega) (fun y z => by have := (hw _ _ z).2; omega) (fun y z => by have := (hw _ _ z).2; omega), s2, s3.trans (f.mono (fun b j z => (hw b j z).1)), s4, ⟨s5.1, fun y y0 y1 => ?_⟩, ⟨fun x x0 x1 => rfl, s6.2⟩, s8⟩
  rw [f 2 y (fun z => by have := (hw _ _ z).2; omega)]; exact s5.2 y y0 y1
theorem wr_len {T : Int → Int} {p e : Int} : (wr T p e).length = (e - p).toNat := by unfold wr; simp
theorem c_addN {h : Hp} {n : Int} {B T : Int → Int} {i m N : Int} {s : Int → List Int} (c : CS h n B i) (tx : ∀ j, 0 ≤ j → j < n → h 2 j = T j) (h1 : (tk B i).1 = 1) (hm : m ∈ in_aX4) (M : NM h m N s) (cap : N < h (m + 3) (-1) ∧ N < h (m + 4) (-1) ∧ N < 10000) (cap2 : h m 1 + (nx B i - (tk B i).2.1) ≤ 16384) :
    Pz (m_X4_add m 2 (h 3 5) (h 3 6) h) (fun r => ∃ N' s', NM r.2 m N' s' ∧ F2 (nmW m) h r.2 ∧ N ≤ N' ∧ N' ≤ N + 1 ∧ (∀ x, 0 ≤ x → x < N → s' x = s x) ∧ nmO N' s' T n r.1 (tk B i).2.1 (nx B i) ∧ r.2 m 1 ≤ h m 1 + (nx B i - (tk B i).2.1) ∧ (r.2 = h ∧ N' = N ∧ s' = s ∨ N' = N + 1 ∧ r.1 = N ∧ ∀ k, 0 ≤ k → k < N → s k ≠ wr T (tk B i).2.1 (nx B i))) := by
  have hq := cs_ok c
  have A := c.2.2.2.2.1
  have x := c.2.1
  obtain ⟨a5, a6⟩ := A.2.2.2.1 h1
  have l3 := hq.2.2.2.2.2.2.1 h1
  have l2 := hq.2.2.2.1 (by omega)
  have l0 := hq.1
  have h4 := aX4 hm
  have h16 := x.2.2.2.2.2
  have h17 := x.2.2.2.1
  have en : (tk B i).2.2.1 - (tk B i).2.1 = (((nx B i - (tk B i).2.1).toNat : Nat) : Int) := by unfold nx; omega
  have ew : wd h 2 (tk B i).2.1 (nx B i - (tk B i).2.1).toNat = wr T (tk B i).2.1 (nx B i) := by
    rw [wr_wd]
    exact wr_congr (fun x x0 x1 => tx x (by omega) (by unfold nx at x1; omega))
  rw [a5, a6, en]
  refine z_mono (c_add4 c.1 hm M (by omega) x.2.2.1 l0 (by unfold nx; omega) (by unfold nx; omega) cap (by omega)) (fun r hr => ?_)
  rw [ew] at hr
  have nz : (tk B i).2.1 ≤ nx B i ∧ nx B i ≤ n := by unfold nx; omega
  rcases hr with ⟨r1, r2, r3, r4⟩ | ⟨r1, r2, r3, r4, r5⟩
  · refine ⟨N, s, by rw [r1]; exact M, by rw [r1]; exact F2.refl, by omega, by omega, fun _ _ _ => rfl, ⟨r2, r3, l0, nz.1, nz.2, r4⟩, by rw [r1]; omega, Or.inl ⟨r1, rfl, rfl⟩⟩
  · have N0 := M.1.2.1
    exact ⟨N + 1, _, r3, r2, by omega, by omega, fun x x0 x1 => upF_n (by omega), ⟨by omega, by omega, l0, nz.1, nz.2, by rw [r1]; exact upF_s⟩, by omega, Or.inr ⟨rfl, r1, r5⟩⟩
/-- the left one gives a name its number -/
theorem L_add {α β : Type} {h1 h2 hc ht : Hp} {n : Int} {B T : Int → Int} {a l : Int} {p q : Hp} {i k : Int} {f : Int → Hp → Option α} {u : Option β} {Q : α → β → Prop} {N : Int} {s : Int → List Int} (ha : a ∈ in_aX3) (S : SS h1 h2 n B T a l p q i k hc ht) (ht1 : (tk B i).1 = 1) (M : NM p (a + 1) N s) (ub : p (a + 1) 1 ≤ i ∧ N ≤ i)
    (K : ∀ v p' hc' N' s', SS h1 h2 n B T a l p' q i k hc' ht → NM p' (a + 1) N' s' → (∀ b, a ≤ b → b ≤ a + 27 → (b < a + 1 ∨ a + 5 < b) → p' b = p b) → N ≤ N' → N' ≤ N + 1 → (∀ x, 0 ≤ x → x < N → s' x = s x) → nmO N' s' T n v (tk B i).2.1 (nx B i) → p' (a + 1) 1 ≤ p (a + 1) 1 + (nx B i - (tk B i).2.1) → Pr (f v hc') u Q) :
    Pr (bW (m_X4_add (a + 1) 2 (hc 3 5) (hc 3 6) hc) f) u Q := by
  have g := S.ge
  have n4 := S.2.2.2.2.2.2
  have ec := S.2.2.2.2.2.1.1
  have L := S.1.1
  have kk := ly_X3n L ha
  have e1 : a + 1 + 3 = a + 4 := by omega
  have e2 : a + 1 + 4 = a + 5 := by omega
  have M' : NM hc (a + 1) N s := M.kept (fun b b0 b1 => ec b (by omega) (by omega))
  have u1 : hc (a + 1) 1 = p (a + 1) 1 := by rw [ec (a + 1) (by omega) (by omega)]
  have nn := g.2.2.2.2.2.2 (by omega)
  refine yl_bW (z_mono (c_addN (T := T) S.1 S.2.2.2.2.1.2 ht1 (aX3n ha).1 M' (by rw [e1, e2, kk.1, kk.2.1]; omega) (by omega)) (fun r hr => ?_))
  obtain ⟨N', s', m1, m2, m3, m4, m5, m6, m7, -⟩ := hr
  refine K r.1 r.2 r.2 N' s' (S.newL ha m2 (fun b j z => by unfold nmW at z; unfold scW; omega)) m1 (fun b b0 b1 b2 => ?_) m3 m4 m5 m6 (by rw [← u1]; exact m7)
  rw [m2.row (fun j z => by unfold nmW at z; omega)]; exact ec b b0 b1
/-- what is told of names that come to the table -/
theorem nmO.mono {N N' : Int} {s s' : Int → List Int} {T : Int → Int} {n c x e : Int} (h : nmO N s T n c x e) (hN : N ≤ N') (hs : ∀ x, 0 ≤ x → x < N → s' x = s x) : nmO N' s' T n c x e := by
  obtain ⟨a1, a2, a3, a4, a5, a6⟩ := h
  exact ⟨a1, by omega, a3, a4, a5, by rw [hs c a1 a2]; exact a6⟩
theorem SY.names {T : Int → Int} {n N N' : Int} {s s' : Int → List Int} {C ns na nf nsel nb nt : Int} {p q p' : Hp} {a l : Int} (Y : SY T n N s C ns na nf nsel nb nt p q a l) (M : NM p' (a + 1) N' s') (hN : N ≤ N') (hs : ∀ x, 0 ≤ x → x < N → s' x = s x) (e : ∀ b, a ≤ b → b ≤ a + 27 → (b < a + 1 ∨ a + 5 < b) → p' b = p b) : SY T n N' s' C ns na nf nsel nb nt p' q a l := by
  obtain ⟨y1, y2, y3, y4, y5, y6, y7⟩ := Y
  have ea := e a (by omega) (by omega) (by omega)
  have E : ∀ k : Int, 6 ≤ k → k ≤ 27 → p' (a + k) = p (a + k) := fun k k0 k1 => e _ (by omega) (by omega) (by omega)
  have e11 := E 11 (by decide) (by decide)
  have e12 := E 12 (by decide) (by decide)
  refine ⟨?_, ?_, ?_, ?_, ?_, ?_, ?_⟩
  · unfold syN at *
    rw [e11]
    exact ⟨M, y1.2⟩
  · unfold syC at *
    obtain ⟨c1, c2, s, c3, c4⟩ := y2
    exact ⟨c1, c2, s, c3.kept (fun b b0 b1 => e b (by omega) (by omega) (by omega)), c4⟩
  · unfold syS at *
    rw [ea, E 13 (by decide) (by decide), E 14 (by decide) (by decide), E 15 (by decide) (by decide)]
    obtain ⟨c1, c2, c3, c4, c5⟩ := y3
    refine ⟨c1, c2, c3, c4, fun k k0 k1 => ?_⟩
    obtain ⟨d1, d2⟩ := c5 k k0 k1
    exact ⟨⟨d1.1.imp id (fun z => z.mono hN hs), d1.2⟩, d2⟩
  · unfold syA at *
    rw [ea, e11, e12, E 16 (by decide) (by decide), E 17 (by decide) (by decide), E 18 (by decide) (by decide), E 19 (by decide) (by decide)]
    obtain ⟨c1, c2, c3, c5⟩ := y4
    refine ⟨c1, c2, c3, fun k k0 k1 => ?_⟩
    obtain ⟨d1, d2, d3, d4, d5⟩ := c5 k k0 k1
    exact ⟨d1, d2, d3, fun z => (d4 z).mono hN hs, d5⟩
  · unfold syL at *
    rw [ea, E 20 (by decide) (by decide), E 21 (by decide) (by decide), E 22 (by decide) (by decide)]
    exact y5
  · unfold syD at *
    rw [ea, e11, e12, E 27 (by decide) (by decide), E 23 (by decide) (by decide), E 24 (by decide) (by decide), E 25 (by decide) (by decide), E 26 (by decide) (by decide)]
    exact y6
  · unfold pgO at *
    rw [ea]
    exact y7
theorem aX5 {b : Int} (h : b ∈ in_aX5) : 16 ≤ b ∧ b ≤ 492 := by
  simp only [in_aX5, List.mem_cons, List.not_mem_nil, or_false] at h
  omega
theorem q_X5_add {h : Hp} {b c m len : Int} (hL : LAY h) (hb : b ∈ in_aX5) (em : h b 1 = m) (el : h (b + 1) (-1) = len) (m0 : 0 ≤ m) (m1 : m < len) (l1 : len ≤ 1000000) : m_X5_add b c h = some (((0 : Int), (0 : Int)), up (up h (b + 1) m (w8 c)) b 1 (m + 1)) := by
  have h5 := aX5 hb
  have k := ly_X5 hL hb
  obtain ⟨k0, k1, k2⟩ := k
  unfold m_X5_add m_X5_add_j17 m_X1_room gd
  rw [k1, k2, el, em, if_pos (by decide), if_neg (by omega), if_pos (by decide)]
  rw [bT_0 (x := ((0, 0), h)) rfl rfl]
  dsimp only
  simp only [k1, k2, el, em]
  rw [if_pos (by omega)]
  unfold pt
  dsimp only
  rw [up_a (by omega), em, e32 (by omega) (by omega)]
/-- a string comes to the left one's strings -/
theorem c_addAll {h : Hp} {n : Int} {B T : Int → Int} {i a m : Int} (ha : a ∈ in_aX3) (c : CS h n B i) (tx : ∀ j, 0 ≤ j → j < n → h 2 j = T j) (h3 : (tk B i).1 = 3) (em : h (a + 11) 1 = m) (m0 : 0 ≤ m) (m1 : m + n ≤ 16384) :
    Pz (m_X5_addAll (a + 11) 2 (h 3 5) (h 3 6) h) (fun r => r.1 = (0, 0) ∧ F2 (fun b j => (b = a + 11 ∧ j = 1) ∨ (b = a + 12 ∧ m ≤ j ∧ j < m + (nx B i - (tk B i).2.1 - 2))) h r.2 ∧ r.2 (a + 11) 1 = m + (nx B i - (tk B i).2.1 - 2) ∧ ∀ x, 0 ≤ x → x < nx B i - (tk B i).2.1 - 2 → r.2 (a + 12) (m + x) = T ((tk B i).2.1 + 1 + x)) := by
  have h9 := aX3 ha
  have hq := cs_ok c
  have A := c.2.2.2.2.1
  have x := c.2.1
  have by_ := c.2.2.1
  have hL := c.1
  have kk := (ly_X3n c.1 ha).2.2.2.2
  obtain ⟨a5, a6⟩ := A.2.2.2.2.1 h3
  have l3 := hq.2.2.2.2.2.2.2.1 h3
  have l2 := hq.2.2.2.1 (by omega)
  have l0 := hq.1
  rw [a5, a6]
  unfold nx
  generalize hz : (tk B i).2.2.1 - (tk B i).2.1 - 2 = z at *
  generalize hp : (tk B i).2.1 + 1 = p at *
  have nn := x.2.2.2.2.2
  have h17 := x.2.2.2.1
  have kt := x.2.2.1
  unfold m_X5_addAll
  refine z_bind (z_mono (z_lp (Q := fun r : (Int × Int) × Hp => r.1 = (0, 0) ∧ F2 (fun b j => (b = a + 11 ∧ j = 1) ∨ (b = a + 12 ∧ m ≤ j ∧ j < m + z)) h r.2 ∧ r.2 (a + 11) 1 = m + z ∧ ∀ x, 0 ≤ x → x < z → r.2 (a + 12) (m + x) = T (p + x)) (fun y : Int × Hp => p ≤ y.1 ∧ y.1 ≤ p + z ∧ F2 (fun b j => (b = a + 11 ∧ j = 1) ∨ (b = a + 12 ∧ m ≤ j ∧ j < m + z)) h y.2 ∧ y.2 (a + 11) 1 = m + (y.1 - p) ∧ ∀ x, 0 ≤ x → x < y.1 - p → y.2 (a + 12) (m + x) = T (p + x)) (fun y => (p + z - y.1).toNat) ⟨by dsimp only; omega, by dsimp only; omega, F2.refl, by dsimp only; omega, fun x x0 x1 => by dsimp only at x1; omega⟩ ?_) (fun r hr => z_some hr))
  rintro ⟨y, r⟩ ⟨y0, y1, F, E, C⟩
  dsimp only at y0 y1 E C ⊢
  replace F : F2 (fun b j => (b = a + 11 ∧ j = 1) ∨ (b = a + 12 ∧ m ≤ j ∧ j < m + z)) h r := F
  have r2 : r 2 = h 2 := F.row (fun j z => by omega)
  have Lr := scW_l hL ha (F.mono (fun b j z => by unfold scW; omega))
  have k1 : r (a + 11 + 1) (-1) = 16384 := by rw [show a + 11 + 1 = a + 12 by omega, F _ _ (fun z => by omega)]; exact kk.1
  unfold m_X5_addAll_l3
  rw [r2]
  (try simp (disch := omega) only [up_a, up_e, up_j, e32, e8])
  refine z_if (fun hc => z_some ⟨rfl, F, by dsimp only; omega, fun x x0 x1 => C x x0 (by omega)⟩) (fun hc => ?_)
  have tv := tx y (by omega) (by omega)
  have bv := by_ y (by omega) (by omega)
  refine z_gd (by omega) ?_
  have ad := q_X5_add (c := h 2 y) Lr (aX3n ha).2.2 E k1 (by omega) (by omega) (by decide)
  rw [e8 (by omega) (by omega), show a + 11 + 1 = a + 12 by omega] at ad
  rw [bT_0 ad rfl]
  refine z_lt (z_some ⟨⟨?_, ?_, ?_, ?_, fun x x0 x1 => ?_⟩, ?_⟩) <;> dsimp only at *
  · omega
  · omega
  · exact (F.put (by omega)).put (by omega)
  · (try simp (disch := omega) only [up_a, up_e, up_j, e32, e8]); omega
  · by_cases hx : x = y - p
    · subst hx
      (try simp (disch := omega) only [up_a, up_e, up_j, e32, e8])
      rw [tv]; congr 1; omega
    · (try simp (disch := omega) only [up_a, up_e, up_j, e32, e8])
      exact C x x0 (by omega)
  · omega
