set_option maxRecDepth 100000
/-! NAMES: rows of bytes with a number each -/
theorem iand127 (x : Int) : 0 ≤ iand_ x 127 ∧ iand_ x 127 ≤ 127 := by
  unfold iand_
  have key : ∀ y : Int32, 0 ≤ (y &&& 127).toInt ∧ (y &&& 127).toInt ≤ 127 := by
    intro y
    have h1 : (y &&& 127).toBitVec = y.toBitVec &&& 127#32 := rfl
    have h2 : (y.toBitVec &&& 127#32).toNat ≤ 127 := by
      rw [BitVec.toNat_and]
      exact Nat.and_le_right
    have h3 : (y &&& 127).toInt = ((y.toBitVec &&& 127#32).toNat : Int) := by
      show (y.toBitVec &&& 127#32).toInt = _
      rw [BitVec.toInt_eq_toNat_of_lt (by omega)]
    rw [h3]
    omega
  exact key _
def hsF (x : Int) : Int := iand_ (ixor_ x (iushr_ x 15)) 127
def hsh (L : List Int) : Int := hsF (L.foldl (fun x c => w32 (w32 (31 * x) + c)) L.length)
theorem hsh_r (L : List Int) : 0 ≤ hsh L ∧ hsh L ≤ 127 := iand127 _
theorem wd_succ {h : Hp} {t i : Int} {k : Nat} : wd h t i (k + 1) = wd h t i k ++ [h t (i + k)] := by
  unfold wd
  rw [List.range_succ, List.map_append]
  rfl
theorem q_X4_slot {h : Hp} {t s : Int} {k : Nat} (t1 : h t (-2) % 16 = 2) (s0 : 0 ≤ s) (s1 : s + k ≤ h t (-1)) (s2 : s + k ≤ 100000) : m_X4_slot t s k h = some (hsh (wd h t s k)) := by
  unfold m_X4_slot
  have L : Pz (lp (fun (q : Int × Int) => m_X4_slot_l5 t s k q.1 q.2 h) ((k : Int), s)) (fun r => r = hsh (wd h t s k)) := by
    refine z_lp (fun q : Int × Int => ∃ y : Nat, y ≤ k ∧ q.2 = s + y ∧ q.1 = (wd h t s y).foldl (fun x c => w32 (w32 (31 * x) + c)) (k : Int)) (fun q => (s + k - q.2).toNat) ⟨0, Nat.zero_le _, by dsimp only; omega, rfl⟩ ?_
    rintro ⟨x, y⟩ ⟨n, n1, e1, e2⟩
    dsimp only at e1 e2 ⊢
    subst e1
    unfold m_X4_slot_l5
    (try simp (disch := omega) only [up_a, up_e, up_j, e32, e8])
    refine z_if (fun hc => z_some ?_) (fun hc => z_gd (by omega) (z_lt (z_lt (z_some ⟨⟨n + 1, by omega, ?_, ?_⟩, ?_⟩))))
    · have : n = k := by omega
      subst this
      show hsF x = _
      unfold hsh
      rw [wd_len, e2]
    · dsimp only; omega
    · dsimp only
      rw [wd_succ, List.foldl_append, ← e2]
      rfl
    · dsimp only; omega
  obtain ⟨r, e1, e2⟩ := L
  rw [e1, Option.bind_some, e2]
/-- names as they are kept: N of them, the strings s -/
def NM (h : Hp) (a N : Int) (s : Int → List Int) : Prop :=
  (h a 3 = N ∧ 0 ≤ N ∧ N ≤ h (a + 3) (-1) ∧ N ≤ h (a + 4) (-1) ∧ 0 ≤ h a 1 ∧ h a 1 ≤ 16384 ∧ N ≤ 10000) ∧
  (∀ i, 0 ≤ i → i < N → 0 ≤ h (a + 3) i ∧ h (a + 3) i + (s i).length ≤ h a 1 ∧ (if i + 1 < N then h (a + 3) (i + 1) else h a 1) = h (a + 3) i + (s i).length ∧ wd h (a + 1) (h (a + 3) i) (s i).length = s i) ∧
  (∀ i j, 0 ≤ i → i < j → j < N → s i ≠ s j) ∧
  (∀ x, 0 ≤ x → x < 128 → -1 ≤ h (a + 2) x ∧ h (a + 2) x < N ∧ (0 ≤ h (a + 2) x → hsh (s (h (a + 2) x)) = x) ∧ ∀ i, 0 ≤ i → i < N → hsh (s i) = x → i ≤ h (a + 2) x) ∧
  (∀ i, 0 ≤ i → i < N → -1 ≤ h (a + 4) i ∧ h (a + 4) i < i ∧ (0 ≤ h (a + 4) i → hsh (s (h (a + 4) i)) = hsh (s i)) ∧ ∀ j, 0 ≤ j → j < i → hsh (s j) = hsh (s i) → j ≤ h (a + 4) i)
theorem NM.kept {h h' : Hp} {a N : Int} {s : Int → List Int} (M : NM h a N s) (e : ∀ b, a ≤ b → b ≤ a + 4 → h' b = h b) : NM h' a N s := by
  unfold NM at *
  rw [e a (by omega) (by omega), e (a + 2) (by omega) (by omega), e (a + 3) (by omega) (by omega), e (a + 4) (by omega) (by omega)]
  simp only [wd_h (e (a + 1) (by omega) (by omega))]
  exact M
theorem q_X4_length {h : Hp} {a N i : Int} {s : Int → List Int} (hL : LAY h) (ha : a ∈ in_aX4) (M : NM h a N s) (i0 : 0 ≤ i) (i1 : i < N) : m_X4_length a i h = some ((s i).length : Int) := by
  obtain ⟨⟨m1, m2, m3, m4, m5, m6, m7⟩, M2, -⟩ := M
  have b := M2 i i0 i1
  unfold m_X4_length gd
  by_cases hc : N ≤ i + 1
  · rw [if_neg (show ¬ i + 1 < N by omega)] at b
    (try simp (disch := omega) only [up_a, up_e, up_j, e32, e8, ly_X4 hL ha, m1])
    rw [if_pos hc, if_pos (by omega)]
    congr 1; omega
  · rw [if_pos (show i + 1 < N by omega)] at b
    (try simp (disch := omega) only [up_a, up_e, up_j, e32, e8, ly_X4 hL ha, m1])
    rw [if_neg hc, if_pos (by omega), if_pos (by omega)]
    congr 1; omega
theorem q_X4_is {h : Hp} {a N i t f : Int} {n : Nat} {s : Int → List Int} (hL : LAY h) (ha : a ∈ in_aX4) (M : NM h a N s) (i0 : 0 ≤ i) (i1 : i < N) (t1 : h t (-2) % 16 = 2) (f0 : 0 ≤ f) (f1 : f + n ≤ h t (-1)) (f2 : f + n ≤ 100000) : m_X4_is a i t f n h = some (eqW (s i) (wd h t f n)) := by
  have hlen := q_X4_length hL ha M i0 i1
  obtain ⟨⟨m1, m2, m3, m4, m5, m6, m7⟩, M2, -⟩ := M
  obtain ⟨b1, b2, b3, b4⟩ := M2 i i0 i1
  unfold m_X4_is
  rw [hlen, Option.bind_some]
  by_cases hc : ((s i).length : Int) = n
  · rw [if_pos hc]
    have hn : (s i).length = n := by omega
    have L := cmp_loop (F := fun (q : Int) => m_X4_is_l15 a i t f n q h) (E := fun x => h (a + 1) (h (a + 3) i + (x : Int)) = h t (f + (x : Int))) (k := n) (by omega) (fun x hx => by
      unfold m_X4_is_l15 gd
      by_cases hx2 : n ≤ x
      · rw [if_pos (by omega), if_pos hx2]
      · rw [if_neg (by omega), if_neg hx2]
        (try simp (disch := omega) only [up_a, up_e, up_j, e32, e8, ly_X4 hL ha])
        rw [if_pos (by omega), if_pos (by omega), if_pos (by omega)]
        by_cases hE : h (a + 1) (h (a + 3) i + (x : Int)) = h t (f + (x : Int))
        · rw [if_pos hE, if_pos hE]; rfl
        · rw [if_neg hE, if_neg hE])
    obtain ⟨r, e1, e2⟩ := L
    show (lp (fun (q : Int) => m_X4_is_l15 a i t f n q h) 0).bind (fun x => some x) = _
    rw [e1, Option.bind_some]
    congr 1
    have hw : s i = wd h t f n ↔ ∀ x : Nat, x < n → h (a + 1) (h (a + 3) i + (x : Int)) = h t (f + (x : Int)) := by
      rw [← b4, hn, wd_same]
      constructor
      · rintro ⟨-, z⟩ x hx
        exact z x (by omega) (by omega)
      · intro z
        refine ⟨rfl, fun x x0 x1 => ?_⟩
        have := z x.toNat (by omega)
        rw [Int.toNat_of_nonneg x0] at this
        exact this
    unfold eqW
    rcases e2 with ⟨e2, e3⟩ | ⟨e2, e3⟩
    · rw [if_pos (hw.mpr e3)]; exact e2
    · rw [if_neg (fun z => e3 (hw.mp z))]; exact e2
  · rw [if_neg hc]
    congr 1
    unfold eqW
    rw [if_neg]
    intro z
    have := congrArg List.length z
    rw [wd_len] at this
    omega
/-- which name a string is, -1 for none -/
def nmF (N : Int) (s : Int → List Int) (w : List Int) (i : Int) : Prop := (i = -1 ∧ ∀ k, 0 ≤ k → k < N → s k ≠ w) ∨ (0 ≤ i ∧ i < N ∧ s i = w)
theorem c_find4 {h : Hp} {a N t f : Int} {n : Nat} {s : Int → List Int} (hL : LAY h) (ha : a ∈ in_aX4) (M : NM h a N s) (t1 : h t (-2) % 16 = 2) (f0 : 0 ≤ f) (f1 : f + n ≤ h t (-1)) (f2 : f + n ≤ 100000) : Pz (m_X4_find a t f n h) (nmF N s (wd h t f n)) := by
  have isq := fun i i0 i1 => q_X4_is (i := i) (t := t) (f := f) (n := n) hL ha M i0 i1 t1 f0 f1 f2
  obtain ⟨⟨m1, m2, m3, m4, m5, m6, m7⟩, M2, M3, M4, M5⟩ := M
  have r := hsh_r (wd h t f n)
  have b := M4 (hsh (wd h t f n)) r.1 (by omega)
  unfold m_X4_find
  rw [q_X4_slot t1 f0 f1 f2, Option.bind_some]
  (try simp (disch := omega) only [up_a, up_e, up_j, e32, e8, ly_X4 hL ha])
  refine z_gd (by omega) (z_lt (z_bind (z_mono (z_lp (Q := nmF N s (wd h t f n)) (fun x : Int => -1 ≤ x ∧ x < N ∧ (0 ≤ x → hsh (s x) = hsh (wd h t f n)) ∧ ∀ k, 0 ≤ k → k < N → s k = wd h t f n → k ≤ x) (fun x => (x + 1).toNat) ⟨b.1, b.2.1, b.2.2.1, fun k k0 k1 e => b.2.2.2 k k0 k1 (by rw [e])⟩ ?_) (fun r hr => z_some hr))))
  rintro x ⟨x0, x1, x2, x3⟩
  unfold m_X4_find_l13
  refine z_if (fun hc => z_some (Or.inl ⟨by omega, fun k k0 k1 e => by have := x3 k k0 k1 e; omega⟩)) (fun hc => ?_)
  refine z_eqW (isq x (by omega) x1) (fun e => z_it (by decide) (z_some (Or.inr ⟨by omega, x1, e⟩))) (fun e => z_ie (by decide) ?_)
  have c := M5 x (by omega) x1
  (try simp (disch := omega) only [up_a, up_e, up_j, e32, e8, ly_X4 hL ha])
  refine z_gd (by omega) (z_lt (z_some ⟨⟨c.1, by omega, fun z => by rw [c.2.2.1 z]; exact x2 (by omega), fun k k0 k1 ek => ?_⟩, by omega⟩))
  have h1 := x3 k k0 k1 ek
  have h2 : k ≠ x := fun z => e (by rw [← z]; exact ek)
  exact c.2.2.2 k k0 (by omega) (by rw [ek, x2 (by omega)])
/-- where names are written -/
def nmW (a : Int) : Int → Int → Prop := fun b j => (b = a ∧ (j = 1 ∨ j = 3)) ∨ (a + 1 ≤ b ∧ b ≤ a + 4 ∧ 0 ≤ j)
def nm4 (a N u n x : Int) : Int → Int → Prop := fun b j => (b = a ∧ (j = 1 ∨ j = 3)) ∨ (b = a + 1 ∧ u ≤ j ∧ j < u + n) ∨ (b = a + 2 ∧ j = x) ∨ (b = a + 3 ∧ j = N) ∨ (b = a + 4 ∧ j = N)
theorem aX4 {a : Int} (h : a ∈ in_aX4) : 6 ≤ a ∧ a ≤ 175 := by
  simp only [in_aX4, List.mem_cons, List.not_mem_nil, or_false] at h
  omega
theorem nmW_l {h h' : Hp} {a : Int} (hL : LAY h) (ha : a ∈ in_aX4) (f : F2 (nmW a) h h') : LAY h' := by
  have h9 := aX4 ha
  obtain ⟨k0, ⟨-, k1, -⟩, ⟨-, k2⟩, ⟨-, k3, -⟩, ⟨-, k4⟩⟩ := ly_X4 hL ha
  refine hL.F2 f (fun b j z => ?_)
  have : (b = a ∧ (j = 1 ∨ j = 3)) ∨ ((b = a + 1 ∨ b = a + 2 ∨ b = a + 3 ∨ b = a + 4) ∧ 0 ≤ j) := by unfold nmW at z; omega
  rcases this with ⟨rfl, rfl | rfl⟩ | ⟨rfl | rfl | rfl | rfl, j0⟩
  · exact ⟨by omega, by omega, by rw [k0]; decide⟩
  · exact ⟨by omega, by omega, by rw [k0]; decide⟩
  · exact ⟨by omega, by omega, by rw [k1]; exact fx_a (by decide) (by decide)⟩
  · exact ⟨by omega, by omega, by rw [k3]; exact fx_a (by decide) (by decide)⟩
  · exact ⟨by omega, by omega, by rw [k2]; exact fx_a (by decide) (by decide)⟩
  · exact ⟨by omega, by omega, by rw [k4]; exact fx_a (by decide) (by decide)⟩
theorem NM.new {h r : Hp} {a N : Int} {s : Int → List Int} {w : List Int} (M : NM h a N s) (hn : ∀ k, 0 ≤ k → k < N → s k ≠ w) (cap : N < h (a + 3) (-1) ∧ N < h (a + 4) (-1) ∧ N < 10000) (cap2 : h a 1 + w.length ≤ 16384)
    (f : F2 (nm4 a N (h a 1) w.length (hsh w)) h r) (e1 : r a 3 = N + 1) (e2 : r a 1 = h a 1 + w.length) (e3 : r (a + 3) N = h a 1) (e4 : r (a + 4) N = h (a + 2) (hsh w)) (e5 : r (a + 2) (hsh w) = N) (e6 : wd r (a + 1) (h a 1) w.length = w) : NM r a (N + 1) (upF s N w) := by
  have hr := hsh_r w
  obtain ⟨⟨m1, m2, m3, m4, m5, m6, m7⟩, M2, M3, M4, M5⟩ := M
  have f3 : r (a + 3) (-1) = h (a + 3) (-1) := f _ _ (fun z => by unfold nm4 at z; omega)
  have f4 : r (a + 4) (-1) = h (a + 4) (-1) := f _ _ (fun z => by unfold nm4 at z; omega)
  have g3 : ∀ k, k ≠ N → r (a + 3) k = h (a + 3) k := fun k hk => f _ _ (fun z => by unfold nm4 at z; omega)
  have g4 : ∀ k, k ≠ N → r (a + 4) k = h (a + 4) k := fun k hk => f _ _ (fun z => by unfold nm4 at z; omega)
  have g2 : ∀ k, k ≠ hsh w → r (a + 2) k = h (a + 2) k := fun k hk => f _ _ (fun z => by unfold nm4 at z; omega)
  have bw := M4 (hsh w) hr.1 (by omega)
  refine ⟨⟨e1, by omega, by omega, by omega, by omega, by omega, by omega⟩, fun i i0 i1 => ?_, fun i j i0 ij j1 => ?_, fun x x0 x1 => ?_, fun i i0 i1 => ?_⟩
  · by_cases hi : i = N
    · subst hi
      rw [upF_s, e3, e2, if_neg (by omega)]
      exact ⟨by omega, by omega, rfl, e6⟩
    · rw [upF_n hi, g3 i hi, e2]
      obtain ⟨b1, b2, b3, b4⟩ := M2 i i0 (by omega)
      refine ⟨b1, by omega, ?_, ?_⟩
      · rw [if_pos (by omega)]
        by_cases hj : i + 1 = N
        · rw [hj, e3]; rw [if_neg (by omega)] at b3; exact b3
        · rw [g3 _ hj]; rw [if_pos (by omega)] at b3; exact b3
      · refine Eq.trans ?_ b4
        refine (wd_eq wd_len).mpr (fun x hx => ?_)
        rw [wd_at hx, f _ _ (fun z => by unfold nm4 at z; omega)]
  · by_cases hj : j = N
    · subst hj
      rw [upF_s, upF_n (by omega)]
      exact hn i i0 (by omega)
    · rw [upF_n hj, upF_n (by omega)]
      exact M3 i j i0 ij (by omega)
  · by_cases hx : x = hsh w
    · subst hx
      rw [e5]
      refine ⟨by omega, by omega, fun _ => by rw [upF_s], fun i i0 i1 _ => by omega⟩
    · rw [g2 x hx]
      obtain ⟨b1, b2, b3, b4⟩ := M4 x x0 x1
      refine ⟨b1, by omega, fun z => by rw [upF_n (by omega)]; exact b3 z, fun i i0 i1 hi => ?_⟩
      by_cases hN : i = N
      · subst hN
        rw [upF_s] at hi
        exact absurd hi.symm hx
      · rw [upF_n hN] at hi
        exact b4 i i0 (by omega) hi
  · by_cases hi : i = N
    · subst hi
      rw [e4, upF_s]
      obtain ⟨b1, b2, b3, b4⟩ := bw
      refine ⟨b1, b2, fun z => by rw [upF_n (by omega)]; exact b3 z, fun j j0 j1 hj => ?_⟩
      rw [upF_n (by omega)] at hj
      exact b4 j j0 j1 hj
    · rw [g4 i hi, upF_n hi]
      obtain ⟨b1, b2, b3, b4⟩ := M5 i i0 (by omega)
      refine ⟨b1, b2, fun z => by rw [upF_n (by omega)]; exact b3 z, fun j j0 j1 hj => ?_⟩
      rw [upF_n (by omega)] at hj
      exact b4 j j0 j1 hj
theorem c_add4 {h : Hp} {a N t f : Int} {n : Nat} {s : Int → List Int} (hL : LAY h) (ha : a ∈ in_aX4) (M : NM h a N s) (hta : t < a ∨ a + 4 < t) (t1 : h t (-2) % 16 = 2) (f0 : 0 ≤ f) (f1 : f + n ≤ h t (-1)) (f2 : f + n ≤ 100000) (cap : N < h (a + 3) (-1) ∧ N < h (a + 4) (-1) ∧ N < 10000) (cap2 : h a 1 + n ≤ 16384) :
    Pz (m_X4_add a t f n h) (fun r => (r.2 = h ∧ 0 ≤ r.1 ∧ r.1 < N ∧ s r.1 = wd h t f n) ∨ (r.1 = N ∧ F2 (nmW a) h r.2 ∧ NM r.2 a (N + 1) (upF s N (wd h t f n)) ∧ r.2 a 1 = h a 1 + n ∧ ∀ k, 0 ≤ k → k < N → s k ≠ wd h t f n)) := by
  have h9 := aX4 ha
  have hr := hsh_r (wd h t f n)
  unfold m_X4_add
  refine z_bind (z_mono (c_find4 hL ha M t1 f0 f1 f2) (fun v hv => ?_))
  rcases hv with ⟨rfl, hn⟩ | ⟨v0, v1, v2⟩
  · refine z_it (by decide) ?_
    obtain ⟨⟨m1, m2, m3, m4, m5, m6, m7⟩, -, -, M4, -⟩ := id M
    have b4 := M4 _ hr.1 (by omega)
    (try simp (disch := omega) only [up_a, up_e, up_j, e32, e8, ly_X4 hL ha, m1])
    refine z_gd (by omega) (z_pt ?_)
    have w1 : wd (up h (a + 3) N (h a 1)) t f n = wd h t f n := wd_h (up_row (by omega))
    rw [q_X4_slot (by rw [up_a (by omega)]; exact t1) f0 (by rw [up_a (by omega)]; exact f1) f2, Option.bind_some, w1]
    try simp (disch := omega) only [up_a, up_e, up_j, e32, e8, ly_X4 hL ha, m1]
    repeat' first
      | with_reducible refine z_lt ?_
      | (with_reducible refine z_pt ?_; try simp (disch := omega) only [up_a, up_e, up_j, e32, e8, ly_X4 hL ha, m1])
      | with_reducible refine z_some ?_
      | with_reducible refine z_gd (by (try simp (disch := omega) only [up_a, up_e, up_j, e32, e8, ly_X4 hL ha, m1]) <;> omega) ?_
      | with_reducible refine z_brk (by assumption) (fun b h1 z => ?_)
      | with_reducible refine z_it (by first | decide | omega) ?_
      | with_reducible refine z_ie (by first | decide | omega) ?_
      | with_reducible refine z_if (fun hq => ?_) (fun hq => ?_)
      | with_reducible refine zc_sm (fun hq => ?_) (fun hq => ?_)
      | with_reducible refine zc_dg (fun hq => ?_) (fun hq => ?_)
      | with_reducible refine zc_bl (fun hq => ?_) (fun hq => ?_)
      | with_reducible refine zt_sm (fun hq => ?_) (fun hq => ?_)
      | with_reducible refine zt_dg (fun hq => ?_) (fun hq => ?_)
      | with_reducible refine zt_bl (fun hq => ?_) (fun hq => ?_)
    generalize hG : up (up (up h (a + 3) N (h a 1)) (a + 4) N (h (a + 2) (hsh (wd h t f n)))) (a + 2) (hsh (wd h t f n)) N = g
    have F0 : F2 (nm4 a N (h a 1) n (hsh (wd h t f n))) h g := by
      rw [← hG]
      exact ((F2.refl.put (by unfold nm4; omega)).put (by unfold nm4; omega)).put (by unfold nm4; omega)
    have g3 : g (a + 3) N = h a 1 := by rw [← hG]; (try simp (disch := omega) only [up_a, up_e, up_j, e32, e8])
    have g4 : g (a + 4) N = h (a + 2) (hsh (wd h t f n)) := by rw [← hG]; (try simp (disch := omega) only [up_a, up_e, up_j, e32, e8])
    have g2 : g (a + 2) (hsh (wd h t f n)) = N := by rw [← hG]; (try simp (disch := omega) only [up_a, up_e, up_j, e32, e8])
    have ga : g a = h a := by rw [← hG, up_row (by omega), up_row (by omega), up_row (by omega)]
    refine z_bind (z_mono (z_lp (Q := fun r : Hp => F2 (fun b j => (b = a ∧ j = 1) ∨ (b = a + 1 ∧ h a 1 ≤ j ∧ j < h a 1 + n)) g r ∧ r a 1 = h a 1 + n ∧ ∀ y : Int, 0 ≤ y → y < n → r (a + 1) (h a 1 + y) = h t (f + y)) (fun q : Int × Hp => f ≤ q.1 ∧ q.1 ≤ f + n ∧ F2 (fun b j => (b = a ∧ j = 1) ∨ (b = a + 1 ∧ h a 1 ≤ j ∧ j < h a 1 + n)) g q.2 ∧ q.2 a 1 = h a 1 + (q.1 - f) ∧ ∀ y, 0 ≤ y → y < q.1 - f → q.2 (a + 1) (h a 1 + y) = h t (f + y)) (fun q => (f + n - q.1).toNat) ⟨by dsimp only; omega, by dsimp only; omega, F2.refl, by dsimp only; rw [ga]; omega, fun y y0 y1 => by dsimp only at y1; omega⟩ ?_) (fun r hr => ?_))
    · rintro ⟨x, q⟩ ⟨x0, x1, F, E, C⟩
      dsimp only at x0 x1 E C ⊢
      replace F : F2 (fun b j => (b = a ∧ j = 1) ∨ (b = a + 1 ∧ h a 1 ≤ j ∧ j < h a 1 + n)) g q := F
      have L := nmW_l hL ha ((F0.mono (fun b j z => by unfold nm4 at z; unfold nmW; omega)).trans (F.mono (fun b j z => by unfold nmW; omega)))
      have et : q t = h t := (F.row (fun j z => by omega)).trans (F0.row (fun j z => by unfold nm4 at z; omega))
      unfold m_X4_add_l68
      refine z_if (fun hc => z_some ⟨F, ?_, fun y y0 y1 => C y y0 ?_⟩) (fun hc => ?_)
      · rw [e32 (by omega) (by omega)] at hc
        omega
      · rw [e32 (by omega) (by omega)] at hc
        omega
      · rw [e32 (by omega) (by omega)] at hc
        have q0 : up q (a + 1) (h a 1 + (x - f)) (h t x) a = q a := up_row (by omega)
        try simp (disch := omega) only [up_a, up_e, up_j, e32, e8, ly_X4 L ha, et, E, q0]
        repeat' first
          | with_reducible refine z_lt ?_
          | (with_reducible refine z_pt ?_; try simp (disch := omega) only [up_a, up_e, up_j, e32, e8, ly_X4 L ha, et, E, q0])
          | with_reducible refine z_some ?_
          | with_reducible refine z_gd (by (try simp (disch := omega) only [up_a, up_e, up_j, e32, e8, ly_X4 L ha, et, E, q0]) <;> omega) ?_
          | with_reducible refine z_brk (by assumption) (fun b h1 z => ?_)
          | with_reducible refine z_it (by first | decide | omega) ?_
          | with_reducible refine z_ie (by first | decide | omega) ?_
          | with_reducible refine z_if (fun hq => ?_) (fun hq => ?_)
          | with_reducible refine zc_sm (fun hq => ?_) (fun hq => ?_)
          | with_reducible refine zc_dg (fun hq => ?_) (fun hq => ?_)
          | with_reducible refine zc_bl (fun hq => ?_) (fun hq => ?_)
          | with_reducible refine zt_sm (fun hq => ?_) (fun hq => ?_)
          | with_reducible refine zt_dg (fun hq => ?_) (fun hq => ?_)
          | with_reducible refine zt_bl (fun hq => ?_) (fun hq => ?_)
        refine ⟨⟨by dsimp only; omega, by dsimp only; omega, (F.put (by omega)).put (by omega), ?_, fun y y0 y1 => ?_⟩, by dsimp only; omega⟩ <;> dsimp only at *
        · (try simp (disch := omega) only [up_a, up_e, up_j, e32, e8]); omega
        · by_cases hy : y = x - f
          · subst hy
            (try simp (disch := omega) only [up_a, up_e, up_j, e32, e8])
            congr 1; omega
          · (try simp (disch := omega) only [up_a, up_e, up_j, e32, e8])
            exact C y y0 (by omega)
    · obtain ⟨F, E, C⟩ := hr
      have rr : ∀ b j, b ≠ a → b ≠ a + 1 → r b j = g b j := fun b j h1 h2 => F _ _ (fun z => by omega)
      have ra3 : r a 3 = N := by rw [F _ _ (fun z => by omega), ga]; exact m1
      (try simp (disch := omega) only [up_a, up_e, up_j, e32, e8, ra3])
      refine z_pt (z_some ?_)
      (try simp (disch := omega) only [up_a, up_e, up_j, e32, e8])
      refine Or.inr ⟨by omega, ?_, ?_, by (try simp (disch := omega) only [up_a, up_e, up_j, e32, e8]); exact E, hn⟩
      · exact ((F0.mono (fun b j z => by unfold nm4 at z; unfold nmW; omega)).trans (F.mono (fun b j z => by unfold nmW; omega))).put (by unfold nmW; omega)
      · refine M.new hn cap (by rw [wd_len]; omega) ?_ (by (try simp (disch := omega) only [up_a, up_e, up_j, e32, e8]) <;> omega) ?_ ?_ ?_ ?_ ?_ <;> (try rw [wd_len])
        · exact (F0.trans (F.mono (fun b j z => by unfold nm4; omega))).put (by unfold nm4; omega)
        · (try simp (disch := omega) only [up_a, up_e, up_j, e32, e8]); exact E
        · (try simp (disch := omega) only [up_a, up_e, up_j, e32, e8]); rw [rr _ _ (by omega) (by omega)]; exact g3
        · (try simp (disch := omega) only [up_a, up_e, up_j, e32, e8]); rw [rr _ _ (by omega) (by omega)]; exact g4
        · (try simp (disch := omega) only [up_a, up_e, up_j, e32, e8]); rw [rr _ _ (by omega) (by omega)]; exact g2
        · refine (wd_eq wd_len).mpr (fun x hx => ?_)
          rw [wd_at hx, up_a (by omega), C x (by omega) (by omega)]
  · exact z_ie (by omega) (z_some (Or.inl ⟨rfl, v0, v1, v2⟩))
