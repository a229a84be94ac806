set_option maxRecDepth 100000
/-! SOURCES: a run of text on both sides; between pieces -/
/-- between pieces: both at i -/
def ZI (h1 h2 : Hp) (n : Int) (B T : Int → Int) (a l i : Int) (hc ht : Hp) : Prop :=
  SZ h1 h2 n B T a l hc ht ∧ hc a 2 = i ∧ ht l 25 = i ∧ 0 ≤ i ∧ i ≤ n ∧ ∃ N s E F M D, RS T n N s E F M D i hc ht a l ∧ ∀ m, 0 ≤ m → m < M → ht (l + 2) m = 0 → ht (l + 4) m = i → isPc (B i) = false
/-- what comes of a piece -/
def ZP (h1 h2 : Hp) (n : Int) (B T : Int → Int) (a l i : Int) (rc rt : (Int × Int) × Hp) : Prop :=
  (rc.1 = (0, 0) ∧ rt.1 = (0, 0) ∧ ∃ i', i < i' ∧ ZI h1 h2 n B T a l i' rc.2 rt.2) ∨ ZO h1 h2 n a l rc rt
theorem y_run {h1 h2 hc ht : Hp} {n : Int} {B T : Int → Int} {a l i : Int} (ha : a ∈ in_aX6) (hl : l ∈ in_aX23) (I : ZI h1 h2 n B T a l i hc ht) (i1 : i < n) (hp : isPc (B i) = true) :
    ∃ hc' ht', m_X6_piece a hc = some ((0, 0), hc') ∧ lp (fun (q : Hp) => m_X23_read_l62 l n q) ht = lp (fun (q : Hp) => m_X23_read_l62 l n q) ht' ∧ ∃ i', i < i' ∧ ZI h1 h2 n B T a l i' hc' ht' := by
  have h6 := aX6 ha
  have h23 := aX23 hl
  obtain ⟨S, ec, et, i0, -, N, s, E, F, M, D, R, edge⟩ := I
  have hn := S.2.2.2
  have eB := S.1.2.2.2.1
  have tx := S.1.2.2.1
  have rV := R.2.2.1
  have rS := R.2.2.2.1
  have eM : hc a 24 = M := rV.1
  have fM : ht l 2 = M := rV.2.1
  have m0 : 0 ≤ M := rV.2.2.1
  have m1 : M ≤ i := rV.2.2.2.1
  obtain ⟨d1, d2, d3, d4, d5, d6, d7, d8, d9⟩ := rS
  have hp' := of_decide_eq_true hp
  obtain ⟨⟨s1, s2, s3⟩, s4, s5⟩ := sc_spec (B := B) (p := isPc) (n := n) (i := i) (fun x hx => by rw [← eB]; exact pcEnd hx) (by omega)
  have lt : i < sc B isPc i := by
    rcases Int.lt_or_eq_of_le s4 with z | z
    · exact z
    · rw [← z, hp] at s3; exact absurd s3 (by decide)
  obtain ⟨ht', r1, r2, r3, r4, r5, r6, r7⟩ := t_run23 hl S fM et m0 m1 i0 i1 hp (fun z1 z2 z3 => by
    have := edge (M - 1) (by omega) (by omega) z2 z3
    rw [hp] at this; exact absurd this (by decide))
  have S1 := S.goL ha (hc' := up hc a 2 (sc B isPc i)) (F2.refl.put (by unfold srP; omega))
  have od : 0 < D → 0 ≤ ht l 26 ∧ ht l 26 < 500 := fun z => by
    have x := d8 (D - 1) (by omega) (by omega)
    rw [d7 z] at x
    have := R.2.1.2.2.2.1
    omega
  obtain ⟨hc', q1, q2, q3, q4, q5, q6, q7⟩ := c_stand6 (f := i) (z := sc B isPc i - i) (D := D) (M := M) (o := ht l 26) S1.1.1 ha (by omega) (by rw [up_i (by decide)]; exact d1) d3 d4 (by rw [up_i (by decide)]; exact eM) m0 (by omega) (fun z => by rw [up_a (by omega)]; exact d7 z) od
  refine ⟨hc', ht', ?_, r1, sc B isPc i, lt, ?_⟩
  · unfold m_X6_piece
    rw [ec, q_X6_byteAt tx i0, Option.bind_some, eB, if_pos (by omega), if_pos (by omega)]
    unfold lt_
    dsimp only
    rw [q_run6 tx i0 (by omega) ec, Option.bind_some, eB, up_s, if_pos (by omega), e32 (by omega) (by omega), q1, Option.bind_some]
  · have S2 := (S1.goL ha (q2.mono (fun b x z => by
      rcases z with z | z | z
      · unfold srP; omega
      · unfold srP; omega
      · have := od z.1; unfold srP; omega))).goR hl (r2.mono (fun b x z => rn_sr m0 z))
    refine ⟨S2, ?_, r7, by omega, s5, N, s, E, F, M + 1, D, R.text s4 (by omega) (fun b x b0 b1 nb => ?_) (fun b x b0 b1 b2 nb => ?_) q6 r6 q7 ?_ (Or.inl r3) (fun _ => ⟨by omega, by rw [r4, r5]; exact S.bok pc_r i0⟩), fun m mm0 mm1 k0 k1 => s3⟩
    · rw [q2 _ _ (by omega), up_s]
    · rw [q2 _ _ (by omega), up_ne (by omega)]
    · exact r2 _ _ (fun z => by unfold rnW at z; omega)
    · refine Or.inr (Or.inr (Or.inl ⟨q3, r3, by rw [q4, r4], by omega, by rw [q5, r5, r4], by omega, by omega⟩))
