-- needs: 99zzzzzk
set_option maxRecDepth 100000
/-! GATHERING: blocks that are open, insets, widths (component) -/
def blB (V : Hp) (P : Int → Int) : Nat → Int → List Int
  | 0, _ => []
  | k + 1, e => if e < 0 then [] else blB V P k (P e) ++ (if V 33 e = 0 then [] else [e])
/-- the blocks around e -/
def blS (S V : Hp) (e : Int) : List Int := blB V (S 7) (e.toNat + 1) e
theorem blB_neg {V : Hp} {P : Int → Int} {x : Int} (h : x < 0) : ∀ k, blB V P k x = []
  | 0 => rfl
  | k + 1 => by unfold blB; rw [if_pos h]
theorem blB_fuel {V : Hp} {P : Int → Int} {E : Int} (par : ∀ e, 0 ≤ e → e < E → P e < e) : ∀ (k j : Nat) (x : Int), x < E → x < k → x < j → blB V P k x = blB V P j x
  | 0, j, x, _, h1, _ => by rw [blB_neg (by omega), blB_neg (by omega)]
  | k + 1, 0, x, _, _, h2 => by rw [blB_neg (by omega), blB_neg (by omega)]
  | k + 1, j + 1, x, hE, h1, h2 => by
    unfold blB
    by_cases h : x < 0
    · rw [if_pos h, if_pos h]
    · have := par x (by omega) hE
      rw [if_neg h, if_neg h, blB_fuel par k j (P x) (by omega) (by omega) (by omega)]
theorem blS_neg {S V : Hp} {e : Int} (h : e < 0) : blS S V e = [] := blB_neg h _
theorem blS_step {S V : Hp} {E M e : Int} (B : SB S E M) (e0 : 0 ≤ e) (e1 : e < E) : blS S V e = blS S V (S 7 e) ++ (if V 33 e = 0 then [] else [e]) := by
  have := B.par e e0 e1
  unfold blS
  rw [show blB V (S 7) (e.toNat + 1) e = (if e < 0 then [] else blB V (S 7) e.toNat (S 7 e) ++ (if V 33 e = 0 then [] else [e])) from rfl, if_neg (by omega), blB_fuel (fun x x0 x1 => (B.par x x0 x1).2) e.toNat ((S 7 e).toNat + 1) (S 7 e) (by omega) (by omega) (by omega)]
theorem dpt_step {S : Hp} {E M e : Int} (B : SB S E M) (e0 : 0 ≤ e) (e1 : e < E) : dptF (S 7) (e.toNat + 1) e = dptF (S 7) ((S 7 e).toNat + 1) (S 7 e) + 1 := by
  have := B.par e e0 e1
  rw [show dptF (S 7) (e.toNat + 1) e = (if e < 0 then 0 else dptF (S 7) e.toNat (S 7 e) + 1) from rfl, if_neg (by omega), dptF_fuel (fun x x0 x1 => (B.par x x0 x1).2) e.toNat ((S 7 e).toNat + 1) (S 7 e) (by omega) (by omega) (by omega)]
theorem blS_len {S V : Hp} {E M : Int} (B : SB S E M) : ∀ (k : Nat) (e : Int), e < k → e < E → ((blS S V e).length : Int) ≤ dptF (S 7) (e.toNat + 1) e
  | 0, e, h, _ => by rw [blS_neg (by omega), dptF_neg (by omega)]; decide
  | k + 1, e, h, h1 => by
    by_cases h0 : e < 0
    · rw [blS_neg h0, dptF_neg h0]; decide
    · have := B.par e (by omega) h1
      have ih := blS_len (V := V) B k (S 7 e) (by omega) (by omega)
      rw [blS_step B (by omega) h1, dpt_step B (by omega) h1, List.length_append]
      split <;> simp <;> omega
theorem blS_20 {S V : Hp} {E M e : Int} (B : SB S E M) (h : e < E) : ((blS S V e).length : Int) ≤ 20 := by
  have a := blS_len (V := V) B (e.toNat + 1) e (by omega) h
  by_cases h0 : e < 0
  · rw [blS_neg h0]; decide
  · have := (B.ex e (by omega) h).1
    omega
/-- sums of the first ones -/
def sumV (V : Hp) (p : Int) (L : List Int) : Int := (L.map (fun e => V 24 (22 * e + p))).sum
theorem sumV_app {V : Hp} {p : Int} {L M : List Int} : sumV V p (L ++ M) = sumV V p L + sumV V p M := by unfold sumV; rw [List.map_append, List.sum_append]
theorem blS_sum {S V : Hp} {E M p : Int} (B : SB S E M) : ∀ (k : Nat) (e : Int), e < k → e < E → sumV V p (blS S V e) = anF S V p e
  | 0, e, h, _ => by rw [blS_neg (by omega), anF_neg (by omega)]; rfl
  | k + 1, e, h, h1 => by
    by_cases h0 : e < 0
    · rw [blS_neg h0, anF_neg h0]; rfl
    · have := B.par e (by omega) h1
      rw [blS_step B (by omega) h1, anF_step B (by omega) h1, sumV_app, blS_sum B k (S 7 e) (by omega) (by omega)]
      by_cases hv : V 33 e = 0
      · rw [if_pos hv, if_pos hv]
        show _ + (0 : Int) = _
        omega
      · rw [if_neg hv, if_neg hv]
        show anF S V p (S 7 e) + ([V 24 (22 * e + p)].sum) = _
        simp
        omega
theorem blS_last {S V : Hp} {E M : Int} (B : SB S E M) : ∀ (k : Nat) (e : Int), e < k → e < E → (blS S V e).getLast?.getD (-1) = nr S (V 33) e
  | 0, e, h, _ => by rw [blS_neg (by omega), nr_neg (by omega)]; rfl
  | k + 1, e, h, h1 => by
    by_cases h0 : e < 0
    · rw [blS_neg h0, nr_neg h0]; rfl
    · have := B.par e (by omega) h1
      rw [blS_step B (by omega) h1]
      by_cases hv : V 33 e = 0
      · rw [if_pos hv, List.append_nil, nr_0 B (by omega) h1 hv]; exact blS_last B k (S 7 e) (by omega) (by omega)
      · rw [if_neg hv, nr_1 B (by omega) h1 hv]; simp
theorem blS_mem {S V : Hp} {E M : Int} (B : SB S E M) : ∀ (k : Nat) (e : Int), e < k → e < E → ∀ x ∈ blS S V e, 0 ≤ x ∧ x < E ∧ V 33 x ≠ 0
  | 0, e, h, _ => fun x hx => by rw [blS_neg (by omega)] at hx; cases hx
  | k + 1, e, h, h1 => fun x hx => by
    by_cases h0 : e < 0
    · rw [blS_neg h0] at hx; cases hx
    · have := B.par e (by omega) h1
      rw [blS_step B (by omega) h1] at hx
      rcases List.mem_append.mp hx with hx | hx
      · exact blS_mem B k (S 7 e) (by omega) (by omega) x hx
      · by_cases hv : V 33 e = 0
        · rw [if_pos hv] at hx; cases hx
        · rw [if_neg hv] at hx
          rw [List.mem_singleton.mp hx]
          exact ⟨by omega, h1, hv⟩
/-- the blocks as the component keeps them -/
def GBl (h : Hp) (b : Int) (L : List Int) : Prop := h b 44 = 1 + (L.length : Int) ∧ (L.length : Int) ≤ 20 ∧ h 279 0 = -1 ∧ ∀ i : Nat, i < L.length → h 279 ((i : Int) + 1) = L[i]?.getD 0
theorem GBl.kept {h h' : Hp} {b : Int} {L : List Int} (G : GBl h b L) (e : h' b 44 = h b 44) (e2 : h' 279 = h 279) : GBl h' b L := by
  unfold GBl at *
  rw [e, e2]; exact G
theorem q_block14 {h : Hp} {b : Int} {L : List Int} (hL : LAY h) (hb : b ∈ in_aX14) (G : GBl h b L) : m_X14_block b h = some (L.getLast?.getD (-1)) := by
  obtain ⟨g1, g2, g3, g4⟩ := G
  have b0 : h b 0 = 256 := (ly_X14 hL hb).2.1.1
  obtain ⟨d1, d2, d3⟩ := g_X10_6 hL
  unfold m_X14_block
  simp only [b0, g_X10 hL, d1, d2, d3, g1]
  rw [gd_t trivial, e32 (by omega) (by omega), gd_t ⟨by decide, by omega, by omega⟩]
  congr 1
  cases h' : L with
  | nil => exact g3
  | cons x M =>
    have hl : L.length = M.length + 1 := by rw [h']; rfl
    have := g4 M.length (by omega)
    rw [show (1 + (((x :: M).length : Nat) : Int) - 1) = (M.length : Int) + 1 by simp; omega, this, h', List.getLast?_eq_getElem?]
    simp
theorem c_inset {S Y V h : Hp} {b a sa ya E M p : Int} {L : List Int} (K : KTR S Y V h a sa ya E M) (hb : b ∈ in_aX14) (B : bkX h b a sa ya) (G : GBl h b L) (hm : ∀ x ∈ L, 0 ≤ x ∧ x < E) (p0 : 4 ≤ p) (p1 : p ≤ 5) : Pz (m_X14_inset b p h) (fun v => v = sumV V p L ∧ 0 ≤ v ∧ v ≤ 500000 * L.length) := by
  obtain ⟨hL, ha, hs, hy⟩ := K.lay
  have hb' := rX14 hb
  obtain ⟨g1, g2, g3, g4⟩ := G
  have b0 : h b 0 = 256 := (ly_X14 hL hb).2.1.1
  obtain ⟨d1, d2, d3⟩ := g_X10_6 hL
  have vr := K.vr.1
  unfold m_X14_inset
  refine z_lt (z_lt (z_bind (z_mono (z_lp (Q := fun v => v = sumV V p L ∧ 0 ≤ v ∧ v ≤ 500000 * L.length) (fun (q : Int × Int) => ∃ k : Nat, q.2 = (k : Int) + 1 ∧ k ≤ L.length ∧ q.1 = sumV V p (L.take k) ∧ 0 ≤ q.1 ∧ q.1 ≤ 500000 * k) (fun q => ((L.length : Int) + 1 - q.2).toNat) ⟨0, rfl, Nat.zero_le _, rfl, Int.le_refl _, by show (0 : Int) ≤ 500000 * 0; decide⟩ ?_) (fun r hr => z_some hr))))
  rintro ⟨v, i⟩ ⟨k, ei, k1, ev, v0, v1⟩
  dsimp only at ei ev v0 v1
  show Pz (m_X14_inset_l4 b p v i h) _
  unfold m_X14_inset_l4
  rw [g1, ei]
  by_cases hk : 1 + (L.length : Int) ≤ (k : Int) + 1
  · rw [if_pos hk]
    have : k = L.length := by omega
    rw [this, List.take_length] at ev
    exact z_some ⟨ev, v0, by omega⟩
  · rw [if_neg hk]
    simp only [b0, g_X10 hL, d1, d2, d3]
    refine z_gd trivial (z_gd ⟨by decide, by omega, by omega⟩ ?_)
    rw [g4 k (by omega)]
    have hx : (L[k]?.getD 0) ∈ L := by rw [List.getElem?_eq_getElem (by omega)]; exact List.getElem_mem _
    have mx := hm _ hx
    rw [q_prop14 K B (by omega) mx.2 (by omega) (by omega) (by omega), Option.bind_some]
    have rr := vr _ p mx.2 (by omega) (by omega) (by omega) (by omega)
    have r2 := rr.2.2.2.2.1 ⟨by omega, by omega⟩
    have r0 := rr.1
    have eo : ofV (V 24) (L[k]?.getD 0) p = V 24 (22 * (L[k]?.getD 0) + p) := by unfold ofV; rw [if_pos mx.1]
    rw [eo] at r2 r0 ⊢
    rw [e32 (x := v + _) (by omega) (by omega), e32 (x := (k : Int) + 1 + 1) (by omega) (by omega)]
    refine z_lt (z_lt (z_some ⟨⟨k + 1, by show (k : Int) + 1 + 1 = ((k + 1 : Nat) : Int) + 1; omega, by omega, ?_, by show 0 ≤ v + _; omega, by show v + _ ≤ 500000 * ((k + 1 : Nat) : Int); omega⟩, ?_⟩))
    · show v + V 24 (22 * (L[k]?.getD 0) + p) = sumV V p (L.take (k + 1))
      rw [List.take_add_one, sumV_app, ev, List.getElem?_eq_getElem (by omega)]
      show _ = _ + [V 24 (22 * L[k] + p)].sum
      simp
    · show ((L.length : Int) + 1 - ((k : Int) + 1 + 1)).toNat < ((L.length : Int) + 1 - ((k : Int) + 1)).toNat
      omega
theorem c_full {S Y V h : Hp} {b a sa ya E M lf x : Int} (K : KTR S Y V h a sa ya E M) (hb : b ∈ in_aX14) (B : bkX h b a sa ya) (G : GBl h b (blS S V x)) (x1 : x < E) (l0 : 0 ≤ lf) (l1 : lf ≤ 100000000) : Pz (m_X14_fullWidth b lf h) (fun v => v = wdF S V lf x ∧ 1000 ≤ v ∧ v ≤ 1000000) := by
  obtain ⟨hL, ha, hs, hy⟩ := K.lay
  have T := K.tb
  have pg := K.pg.1
  have g2 := G.2.1
  unfold m_X14_fullWidth
  rw [B.2.1]
  refine z_gd (g_X3 hL hy) (z_bind (z_mono (c_inset K hb B G (fun z hz => by have := blS_mem T.1 (x.toNat + 1) x (by omega) x1 z hz; omega) (by decide) (by decide)) (fun v hv => ?_)))
  obtain ⟨v1, v2, v3⟩ := hv
  rw [blS_sum T.1 (x.toNat + 1) x (by omega) x1] at v1
  rw [pg.1, e32 (x := V 23 0 - lf) (by omega) (by omega), e32 (by omega) (by omega)]
  refine z_lt ?_
  unfold wdF max_
  rw [← v1]
  by_cases h1 : 1000 ≤ V 23 0 - lf - v
  · rw [if_pos h1]
    refine z_some ⟨?_, h1, by omega⟩
    split <;> omega
  · rw [if_neg h1]
    refine z_some ⟨?_, by decide, by decide⟩
    rw [if_neg (by omega)]
