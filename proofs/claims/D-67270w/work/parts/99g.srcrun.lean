set_option maxRecDepth 100000
/-! SOURCES: a run of text -/
def rnW (l M : Int) : Int → Int → Prop := fun b x => (l + 2 ≤ b ∧ b ≤ l + 4 ∧ x = M) ∨ (b = l ∧ (x = 2 ∨ x = 25))
theorem rn_sr {l M b x : Int} (m0 : 0 ≤ M) (z : rnW l M b x) : srQ l b x := by unfold rnW at z; unfold srQ; omega
theorem t_turn23 {h : Hp} {l n x : Int} (t : TX h l (l + 1) n) (ex : h l 25 = x) (x0 : 0 ≤ x) (x1 : x < n) (hp : isPc (Bt h (l + 1) n x) = true) : m_X23_read_l62 l n h = (m_X23_plain l h).bind fun h' => some (.inl h') := by
  have hp' := of_decide_eq_true hp
  unfold m_X23_read_l62 m_X23_read_j123
  rw [ex, if_neg (by omega), q_X23_byteAt t x0, Option.bind_some, if_pos (by omega), if_pos (by omega)]
  by_cases h10 : Bt h (l + 1) n x = 10
  · rw [if_pos h10]
  · rw [if_neg h10, if_neg (by omega), if_neg (by omega)]
theorem t_plain1 {h : Hp} {l M i : Int} (hL : LAY h) (hl : l ∈ in_aX23) (eM : h l 2 = M) (ei : h l 25 = i) (m0 : 0 ≤ M) (m1 : M < 16392) (i0 : 0 ≤ i) (i1 : i < 16384) (edge : 0 < M → h (l + 2) (M - 1) = 0 → h (l + 4) (M - 1) ≠ i) :
    ∃ h', m_X23_plain l h = some h' ∧ F2 (rnW l M) h h' ∧ h' (l + 2) M = 0 ∧ h' (l + 3) M = i ∧ h' (l + 4) M = i + 1 ∧ h' l 2 = M + 1 ∧ h' l 25 = i + 1 := by
  have h6 := aX23 hl
  have k6 := g_X23_6 hL hl
  have k8 := g_X23_8 hL hl
  have fin : ∃ h', m_X23_plain_j57 l h = some h' ∧ F2 (rnW l M) h h' ∧ h' (l + 2) M = 0 ∧ h' (l + 3) M = i ∧ h' (l + 4) M = i + 1 ∧ h' l 2 = M + 1 ∧ h' l 25 = i + 1 := by
    unfold m_X23_plain_j57
    rw [q_add23 hL hl eM m0 m1, Option.bind_some, ei, e32 (x := i + 1) (by omega) (by omega)]
    have e25 : up (up (up (up h (l + 2) M 0) (l + 3) M i) (l + 4) M (i + 1)) l 2 (M + 1) l 25 = i := by (try simp (disch := omega) only [up_a, up_e, up_j, e32, e8]); exact ei
    refine ⟨_, rfl, ?_, ?_, ?_, ?_, ?_, ?_⟩
    · rw [e25, e32 (by omega) (by omega)]
      repeat' first
        | exact F2.refl
        | refine F2.put ?_ (by unfold rnW; omega)
    · (try simp (disch := omega) only [up_a, up_e, up_j, e32, e8])
    · (try simp (disch := omega) only [up_a, up_e, up_j, e32, e8])
    · (try simp (disch := omega) only [up_a, up_e, up_j, e32, e8])
    · (try simp (disch := omega) only [up_a, up_e, up_j, e32, e8])
    · rw [up_s, e25, e32 (by omega) (by omega)]
  unfold m_X23_plain
  rw [eM]
  by_cases hM : M ≤ 0
  · rw [if_pos hM]; exact fin
  · rw [if_neg hM, e32 (x := M - 1) (by omega) (by omega)]
    simp only [k6, k8, ei]
    unfold gd
    rw [if_pos ⟨by decide, by omega, by omega⟩]
    by_cases c1 : h (l + 2) (M - 1) ≠ 0
    · rw [if_pos c1]; exact fin
    · rw [if_neg c1, if_pos ⟨by decide, by omega, by omega⟩, if_pos (edge (by omega) (Classical.not_not.mp c1))]; exact fin
theorem t_plain2 {h : Hp} {l M x : Int} (hL : LAY h) (hl : l ∈ in_aX23) (eM : h l 2 = M + 1) (ex : h l 25 = x) (m0 : 0 ≤ M) (m1 : M + 1 < 16392) (x0 : 0 ≤ x) (x1 : x < 16384) (e2 : h (l + 2) M = 0) (e4 : h (l + 4) M = x) :
    ∃ h', m_X23_plain l h = some h' ∧ F2 (rnW l M) h h' ∧ h' (l + 2) M = 0 ∧ h' (l + 3) M = h (l + 3) M ∧ h' (l + 4) M = x + 1 ∧ h' l 2 = M + 1 ∧ h' l 25 = x + 1 := by
  have h6 := aX23 hl
  have k6 := g_X23_6 hL hl
  have k8 := g_X23_8 hL hl
  unfold m_X23_plain
  rw [eM, if_neg (by omega), e32 (x := M + 1 - 1) (by omega) (by omega), show M + 1 - 1 = M by omega]
  simp only [k6, k8, ex, e2, e4]
  unfold gd
  rw [if_pos ⟨by decide, by omega, by omega⟩, if_neg (fun z => z rfl), if_pos ⟨by decide, by omega, by omega⟩, if_neg (fun z => z rfl), e32 (x := x + 1) (by omega) (by omega)]
  unfold pt
  have e25 : up h (l + 4) M (x + 1) l 25 = x := by (try simp (disch := omega) only [up_a, up_e, up_j, e32, e8]); exact ex
  dsimp only
  rw [e25, e32 (by omega) (by omega)]
  refine ⟨_, rfl, ?_, ?_, ?_, ?_, ?_, ?_⟩
  · repeat' first
      | exact F2.refl
      | refine F2.put ?_ (by unfold rnW; omega)
  · (try simp (disch := omega) only [up_a, up_e, up_j, e32, e8]); exact e2
  · (try simp (disch := omega) only [up_a, up_e, up_j, e32, e8])
  · (try simp (disch := omega) only [up_a, up_e, up_j, e32, e8])
  · (try simp (disch := omega) only [up_a, up_e, up_j, e32, e8]); exact eM
  · (try simp (disch := omega) only [up_a, up_e, up_j, e32, e8])
theorem t_run23 {h1 h2 hc ht : Hp} {n : Int} {B T : Int → Int} {a l i M : Int} (hl : l ∈ in_aX23) (S : SZ h1 h2 n B T a l hc ht) (eM : ht l 2 = M) (ei : ht l 25 = i) (m0 : 0 ≤ M) (m1 : M ≤ i) (i0 : 0 ≤ i) (i1 : i < n) (hp : isPc (B i) = true) (edge : 0 < M → ht (l + 2) (M - 1) = 0 → ht (l + 4) (M - 1) ≠ i) :
    ∃ ht', lp (fun (q : Hp) => m_X23_read_l62 l n q) ht = lp (fun (q : Hp) => m_X23_read_l62 l n q) ht' ∧ F2 (rnW l M) ht ht' ∧ ht' (l + 2) M = 0 ∧ ht' (l + 3) M = i ∧ ht' (l + 4) M = sc B isPc i ∧ ht' l 2 = M + 1 ∧ ht' l 25 = sc B isPc i := by
  have h6 := aX23 hl
  have hn := S.2.2.2
  have eB := S.2.1.2.2.2.1
  obtain ⟨⟨s1, s2, s3⟩, s4, s5⟩ := sc_spec (B := B) (p := isPc) (n := n) (i := i) (fun x hx => by rw [← eB]; exact pcEnd hx) (by omega)
  have lt : i < sc B isPc i := by
    rcases Int.lt_or_eq_of_le s4 with z | z
    · exact z
    · rw [← z, hp] at s3; exact absurd s3 (by decide)
  obtain ⟨g1, a1, a2, a3, a4, a5, a6, a7⟩ := t_plain1 S.2.1.1 hl eM ei m0 (by omega) i0 (by omega) edge
  have key : ∀ (k : Nat) (g : Hp) (x : Int), i < x → x ≤ sc B isPc i → (sc B isPc i - x).toNat = k → F2 (rnW l M) ht g → g (l + 2) M = 0 → g (l + 3) M = i → g (l + 4) M = x → g l 2 = M + 1 → g l 25 = x → ∃ ht', lp (fun (q : Hp) => m_X23_read_l62 l n q) g = lp (fun (q : Hp) => m_X23_read_l62 l n q) ht' ∧ F2 (rnW l M) ht ht' ∧ ht' (l + 2) M = 0 ∧ ht' (l + 3) M = i ∧ ht' (l + 4) M = sc B isPc i ∧ ht' l 2 = M + 1 ∧ ht' l 25 = sc B isPc i := by
    intro k
    induction k with
    | zero =>
      intro g x x0 x1 xk f b2 b3 b4 b5 b6
      have e : x = sc B isPc i := by omega
      subst e
      exact ⟨g, rfl, f, b2, b3, b4, b5, b6⟩
    | succ k ih =>
      intro g x x0 x1 xk f b2 b3 b4 b5 b6
      have S' := S.goR hl (f.mono (fun b y z => rn_sr m0 z))
      obtain ⟨g', c1, c2, c3, c4, c5, c6, c7⟩ := t_plain2 S'.2.1.1 hl b5 b6 m0 (by omega) (by omega) (by omega) b2 b4
      obtain ⟨ht', r1, r2⟩ := ih g' (x + 1) (by omega) (by omega) (by omega) (f.trans c2) c3 (by rw [c4]; exact b3) c5 c6 c7
      refine ⟨ht', ?_, r2⟩
      rw [lp_eq]
      rw [t_turn23 S'.2.1.2.2.1 b6 (by omega) (by omega) (by rw [S'.2.1.2.2.2.1]; exact s2 x (by omega) (by omega)), c1, Option.bind_some]
      exact r1
  obtain ⟨ht', r1, r2⟩ := key _ g1 (i + 1) (by omega) (by omega) rfl a2 a3 a4 a5 a6 a7
  refine ⟨ht', ?_, r2⟩
  rw [lp_eq]
  rw [t_turn23 S.2.1.2.2.1 ei i0 i1 (by rw [eB]; exact hp), a1, Option.bind_some]
  exact r1
theorem q_top6 {h : Hp} {a D : Int} (hL : LAY h) (ha : a ∈ in_aX6) (eD : h a 29 = D) (d0 : 0 ≤ D) (d1 : D ≤ 20) : m_X6_top a h = some (if D ≠ 0 then h (a + 30) (D - 1) else -1) := by
  have k := g_X6_28 hL ha
  unfold m_X6_top gd
  rw [eD]
  by_cases h0 : D ≠ 0
  · simp only [k]
    rw [if_pos h0, if_pos h0, e32 (by omega) (by omega), if_pos ⟨by decide, by omega, by omega⟩]
  · rw [if_neg h0, if_neg h0]
/-- the component's stand: what is in the element that is open -/
theorem c_stand6 {h : Hp} {a f z D M o : Int} (hL : LAY h) (ha : a ∈ in_aX6) (z0 : z ≠ 0) (eD : h a 29 = D) (d0 : 0 ≤ D) (d1 : D ≤ 20) (eM : h a 24 = M) (m0 : 0 ≤ M) (m1 : M < 16385) (eo : 0 < D → h (a + 30) (D - 1) = o) (o0 : 0 < D → 0 ≤ o ∧ o < 500) :
    ∃ h', m_X6_stand a f z h = some h' ∧ F2 (fun b x => (a + 20 ≤ b ∧ b ≤ a + 22 ∧ x = M) ∨ (b = a ∧ x = 24) ∨ (0 < D ∧ b = a + 15 ∧ x = o)) h h' ∧ h' (a + 20) M = 2 ∧ h' (a + 21) M = f ∧ h' (a + 22) M = z ∧ h' a 24 = M + 1 ∧ (0 < D → h' (a + 15) o = 1) := by
  have h6 := aX6 ha
  unfold m_X6_stand
  rw [if_pos z0, eD]
  by_cases hD : D ≤ 0
  · rw [if_pos hD, q_event6 hL ha eM m0 m1, Option.bind_some]
    refine ⟨_, rfl, ?_, ?_, ?_, ?_, ?_, fun z => by omega⟩
    · repeat' first
        | exact F2.refl
        | refine F2.put ?_ (by omega)
    · (try simp (disch := omega) only [up_a, up_e, up_j, e32, e8])
    · (try simp (disch := omega) only [up_a, up_e, up_j, e32, e8])
    · (try simp (disch := omega) only [up_a, up_e, up_j, e32, e8])
    · (try simp (disch := omega) only [up_a, up_e, up_j, e32, e8])
  · have oo := o0 (by omega)
    have k := g_X6_13 hL ha
    rw [if_neg hD, q_top6 hL ha eD d0 d1, if_pos (by omega), Option.bind_some, eo (by omega)]
    simp only [k]
    unfold gd
    rw [if_pos ⟨by decide, oo.1, oo.2⟩]
    unfold pt
    dsimp only
    have L1 : LAY (up h (a + 15) o 1) := srP_l hL ha (F2.refl.put (by unfold srP; omega))
    rw [q_event6 L1 ha (by rw [up_a (by omega)]; exact eM) m0 m1, Option.bind_some]
    refine ⟨_, rfl, ?_, ?_, ?_, ?_, ?_, fun _ => ?_⟩
    · repeat' first
        | exact F2.refl
        | refine F2.put ?_ (by omega)
    · (try simp (disch := omega) only [up_a, up_e, up_j, e32, e8])
    · (try simp (disch := omega) only [up_a, up_e, up_j, e32, e8])
    · (try simp (disch := omega) only [up_a, up_e, up_j, e32, e8])
    · (try simp (disch := omega) only [up_a, up_e, up_j, e32, e8])
    · (try simp (disch := omega) only [up_a, up_e, up_j, e32, e8])
