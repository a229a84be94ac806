/-! SIGNS: the next sign of a text -/
theorem TX.F2 {W : Int → Int → Prop} {h h' : Hp} {a t n : Int} (x : TX h a t n) (r : F2 W h h') (n0 : ¬ W a 0) (n1 : ¬ W a 1) (n2 : ¬ W t (-1)) (n3 : ¬ W t (-2)) : TX h' a t n := by
  obtain ⟨h1, h2, h3, h4, h5, h6⟩ := x
  exact ⟨by rw [r a 0 n0]; exact h1, by rw [r a 1 n1]; exact h2, by rw [r t (-2) n3]; exact h3, by rw [r t (-1) n2]; exact h4, h5, h6⟩
/-- the number of k digits from i on -/
def nv (B : Int → Int) (i : Int) : Nat → Int
  | 0 => 0
  | k + 1 => 10 * nv B i k + (B (i + k) - 48)
/-- the sign that comes: its kind (0 end, 1 name, 2 number, 3 string, 4 a byte, 5 bad), its place, its end, its value -/
noncomputable def tk (B : Int → Int) (at_ : Int) : Int × Int × Int × Int :=
  if B (sc B isBl at_) < 0 then (0, sc B isBl at_, sc B isBl at_, 0)
  else if isSm (B (sc B isBl at_)) = true then (if sc B isNm (sc B isBl at_) - sc B isBl at_ ≤ 12 then 1 else 5, sc B isBl at_, sc B isNm (sc B isBl at_), 0)
  else if isDg (B (sc B isBl at_)) = true then (if sc B isDg (sc B isBl at_) - sc B isBl at_ ≤ 7 then 2 else 5, sc B isBl at_, sc B isDg (sc B isBl at_), nv B (sc B isBl at_) (min 7 (sc B isDg (sc B isBl at_) - sc B isBl at_).toNat))
  else if B (sc B isBl at_) = 34 then (if B (sc B isSt (sc B isBl at_ + 1)) = 34 then 3 else 5, sc B isBl at_, sc B isSt (sc B isBl at_ + 1) + 1, 0)
  else (if isPl (B (sc B isBl at_)) = true then 4 else 5, sc B isBl at_, sc B isBl at_ + 1, B (sc B isBl at_))
/-- the component's reader a stands at the sign q -/
def AtC (h : Hp) (a : Int) (q : Int × Int × Int × Int) : Prop :=
  h a 3 = q.1 ∧ h a 4 = q.2.1 ∧ h a 2 = q.2.2.1 ∧ (q.1 = 1 → h a 5 = q.2.1 ∧ h a 6 = q.2.2.1 - q.2.1) ∧ (q.1 = 3 → h a 5 = q.2.1 + 1 ∧ h a 6 = q.2.2.1 - q.2.1 - 2) ∧ ((q.1 = 2 ∨ q.1 = 4) → h a 7 = q.2.2.2)
def nxW (a : Int) : Int → Int → Prop := fun b j => b = a ∧ 2 ≤ j ∧ j ≤ 7
theorem nv_r {B : Int → Int} {i : Int} : ∀ k : Nat, (∀ x, i ≤ x → x < i + k → isDg (B x) = true) → k ≤ 7 → 0 ≤ nv B i k ∧ nv B i k < 10 ^ k := by
  intro k
  induction k with
  | zero => intro _ _; exact (by decide : (0 : Int) ≤ 0 ∧ (0 : Int) < 10 ^ 0)
  | succ k ih =>
    intro h hk
    obtain ⟨a, b⟩ := ih (fun x h1 h2 => h x h1 (by omega)) (by omega)
    have hd := h (i + k) (by omega) (by omega)
    unfold isDg at hd
    have hd := of_decide_eq_true hd
    show 0 ≤ 10 * nv B i k + (B (i + k) - 48) ∧ 10 * nv B i k + (B (i + k) - 48) < 10 ^ (k + 1)
    rw [Int.pow_succ]
    omega
theorem c_name {h : Hp} {a t n i : Int} (x : TX h a t n) (hi : h a 2 = i) (h0 : 0 ≤ i) (hin : i ≤ n) : Pz (m_X2_name a h) (fun h' => F2 (nxW a) h h' ∧ h' a 2 = sc (Bt h t n) isNm i ∧ h' a 3 = (if sc (Bt h t n) isNm i - i ≤ 12 then 1 else 5) ∧ h' a 4 = h a 4 ∧ h' a 5 = i ∧ h' a 6 = sc (Bt h t n) isNm i - i ∧ i ≤ sc (Bt h t n) isNm i ∧ sc (Bt h t n) isNm i ≤ n) := by
  unfold m_X2_name
  refine z_pt ?_
  have x5 : TX (up h a 5 (h a 2)) a t n := x.put (by omega)
  have hB : Bt (up h a 5 (h a 2)) t n = Bt h t n := Bt_h (up_row x.2.2.2.2.1)
  refine z_bind (z_mono (scan_loop (f := 2) (i := i) (p := isNm) x5 (by omega) (by rw [up_i (by omega)]; exact hi) h0 (by omega) (by decide) ?_) ?_)
  · intro j j1 j2
    unfold m_X2_name_l8 m_X2_name_j36
    have xj := x5.put (i := 2) (v := j) (by omega)
    rw [up_s, q_X2_byteAt xj (by omega), Option.bind_some, q_X1_isSmall, Option.bind_some, Option.bind_some, q_X1_isDigit, Option.bind_some, Bt_h (up_row x.2.2.2.2.1)]
    generalize Bt (up h a 5 (h a 2)) t n j = c
    unfold isNm
    by_cases c1 : isSm c = true
    · rw [if_pos (bI1.mpr c1), if_pos]
      · rfl
      · unfold isSm at c1
        exact decide_eq_true (Or.inl (of_decide_eq_true c1))
    · rw [if_neg (fun z => c1 (bI1.mp z))]
      by_cases c2 : isDg c = true
      · rw [if_neg (fun z => by rw [bI0.mp z] at c2; cases c2), if_pos]
        · rfl
        · unfold isDg at c2
          exact decide_eq_true (Or.inr (of_decide_eq_true c2))
      · rw [if_pos (bI0.mpr (by cases hz : isDg c with | true => exact absurd hz c2 | false => rfl)), if_neg]
        intro z
        rcases of_decide_eq_true z with z | z
        · exact c1 (decide_eq_true z)
        · exact c2 (decide_eq_true z)
  · rintro q ⟨j, hj, hjn, rfl⟩
    rw [hB] at hj
    have e1 := sc_of hj
    have hj1 := hj.1
    have hjn2 : j ≤ n := by
      rcases Int.lt_or_le i j with hh | hh
      · have := hj.2.1 (j - 1) (by omega) (by omega)
        have hlt : j - 1 < n := by
          rcases Int.lt_or_le (j - 1) n with h9 | h9
          · exact h9
          · rw [Bt_e h9] at this; cases this
        omega
      · omega
    have h6 := x.2.2.2.2.2
    refine z_pt ?_
    have e5 : up (up h a 5 (h a 2)) a 2 j a 5 = i := by rw [up_i (by omega), up_s]; exact hi
    have e2 : up (up h a 5 (h a 2)) a 2 j a 2 = j := up_s _ _ _ _
    rw [e5, e2, e32 (by omega) (by omega), e1]
    have fr : F2 (nxW a) h (up (up (up h a 5 (h a 2)) a 2 j) a 6 (j - i)) := ((F2.refl.put ⟨rfl, by omega, by omega⟩).put ⟨rfl, by omega, by omega⟩).put ⟨rfl, by omega, by omega⟩
    rw [up_s]
    refine z_if (fun hc => ?_) (fun hc => ?_)
    · refine z_pt (z_some ⟨fr.put ⟨rfl, by omega, by omega⟩, ?_, ?_, ?_, ?_, ?_, hj1, hjn2⟩)
      · rw [up_i (by omega), up_i (by omega)]; exact e2
      · rw [up_s, if_pos hc]
      · rw [up_i (by omega), up_i (by omega), up_i (by omega), up_i (by omega)]
      · rw [up_i (by omega), up_i (by omega)]; exact e5
      · rw [up_i (by omega), up_s]
    · refine z_pt (z_some ⟨fr.put ⟨rfl, by omega, by omega⟩, ?_, ?_, ?_, ?_, ?_, hj1, hjn2⟩)
      · rw [up_i (by omega), up_i (by omega)]; exact e2
      · rw [up_s, if_neg hc]
      · rw [up_i (by omega), up_i (by omega), up_i (by omega), up_i (by omega)]
      · rw [up_i (by omega), up_i (by omega)]; exact e5
      · rw [up_i (by omega), up_s]
theorem up_swap {h : Hp} {a i j v w : Int} (n : i ≠ j) : up (up h a i v) a j w = up (up h a j w) a i v := by
  funext b k
  unfold up
  by_cases h1 : b = a ∧ k = j
  · rw [if_pos h1, if_neg (fun z => n (z.2.symm.trans h1.2)), if_pos h1]
  · by_cases h2 : b = a ∧ k = i
    · rw [if_neg h1, if_pos h2, if_pos h2]
    · rw [if_neg h1, if_neg h2, if_neg h2, if_neg h1]
theorem isDg_c {c : Int} (h : isDg c = true) : 48 ≤ c ∧ c ≤ 57 := by unfold isDg at h; exact of_decide_eq_true h
theorem bF {b : Bool} (h : ¬ b = true) : b = false := by cases b with | true => exact absurd rfl h | false => rfl
theorem c_number {h : Hp} {a t n i : Int} (x : TX h a t n) (hi : h a 2 = i) (h0 : 0 ≤ i) (hin : i ≤ n) : Pz (m_X2_number a h) (fun h' => F2 (nxW a) h h' ∧ h' a 2 = sc (Bt h t n) isDg i ∧ h' a 3 = (if sc (Bt h t n) isDg i - i ≤ 7 then 2 else 5) ∧ h' a 4 = h a 4 ∧ h' a 7 = nv (Bt h t n) i (min 7 (sc (Bt h t n) isDg i - i).toNat) ∧ i ≤ sc (Bt h t n) isDg i ∧ sc (Bt h t n) isDg i ≤ n) := by
  unfold m_X2_number
  refine z_pt (z_lt ?_)
  have h6 := x.2.2.2.2.2
  have hne := x.2.2.2.2.1
  refine z_bind (z_mono (z_lp (Q := fun (r : Int × Hp) => ∃ j v, r.1 = j - i ∧ r.2 = up (up h a 7 v) a 2 j ∧ Sc (Bt h t n) isDg i j ∧ j ≤ n ∧ v = nv (Bt h t n) i (min 7 (j - i).toNat)) (I := fun (q : Int × Hp) => ∃ j v, q.1 = j - i ∧ q.2 = up (up h a 7 v) a 2 j ∧ i ≤ j ∧ j ≤ n ∧ (∀ x, i ≤ x → x < j → isDg (Bt h t n x) = true) ∧ v = nv (Bt h t n) i (min 7 (j - i).toNat)) (μ := fun q => (n - q.2 a 2).toNat) ⟨i, 0, by show (0 : Int) = i - i; omega, ?_, by omega, hin, fun x h1 h2 => by omega, ?_⟩ ?_) ?_)
  · show up h a 7 0 = up (up h a 7 0) a 2 i
    rw [up_swap (by omega), ← hi, up_same]
  · rw [show (i - i).toNat = 0 by omega]; rfl
  · rintro ⟨m, q⟩ ⟨j, v, e1, e2, j1, j2, j3, ev⟩
    dsimp only at e1 e2
    subst e1 e2
    show Pz (m_X2_number_l7 a (j - i) (up (up h a 7 v) a 2 j)) _
    unfold m_X2_number_l7 m_X2_number_j50
    have xj := (x.put (i := 7) (v := v) (by omega)).put (i := 2) (v := j) (by omega)
    have hB : Bt (up (up h a 7 v) a 2 j) t n = Bt h t n := by rw [Bt_h (up_row hne), Bt_h (up_row hne)]
    have hnv := nv_r (B := Bt h t n) (i := i) (min 7 (j - i).toNat) (fun x h1 h2 => j3 x h1 (by omega)) (by omega)
    rw [up_s, q_X2_byteAt xj (by omega), Option.bind_some, q_X1_isDigit, Option.bind_some, hB]
    by_cases hc : isDg (Bt h t n j) = true
    · refine z_ie (fun z => by rw [bI0.mp z] at hc; cases hc) ?_
      have hd := isDg_c hc
      have hjn : j < n := Bt_n (h := h) (t := t) (by omega)
      have j3' : ∀ x, i ≤ x → x < j + 1 → isDg (Bt h t n x) = true := fun y y1 y2 => by
        rcases Int.lt_or_eq_of_le (show y ≤ j by omega) with hy | hy
        · exact j3 y y1 hy
        · rw [hy]; exact hc
      refine z_if (fun h7 => ?_) (fun h7 => ?_)
      · refine z_lt (z_pt (z_some ?_))
        refine ⟨⟨j + 1, v, ?_, ?_, by omega, by omega, j3', ?_⟩, ?_⟩
        · show w32 (j - i + 1) = j + 1 - i
          rw [e32 (by omega) (by omega)]; omega
        · show up (up (up h a 7 v) a 2 j) a 2 (w32 (j + 1)) = _
          rw [up_up, e32 (by omega) (by omega)]
        · rw [ev]
          congr 1
          omega
        · show (n - up (up (up h a 7 v) a 2 j) a 2 (w32 (j + 1)) a 2).toNat < (n - up (up h a 7 v) a 2 j a 2).toNat
          rw [up_s, up_s, e32 (by omega) (by omega)]
          omega
      · rw [Option.bind_some]
        have e7 : up (up h a 7 v) a 2 j a 7 = v := by rw [up_i (by omega), up_s]
        rw [e7]
        have p7 : (10 : Int) ^ (min 7 (j - i).toNat) ≤ 1000000 := by
          have hk : min 7 (j - i).toNat ≤ 6 := by omega
          have : ∀ k : Nat, k ≤ 6 → (10 : Int) ^ k ≤ 1000000 := by decide
          exact this _ hk
        have hv : 0 ≤ v ∧ v < 1000000 := by rw [ev]; omega
        refine z_pt (z_lt (z_pt (z_some ?_)))
        have ew : w32 (w32 (w32 (10 * v) + Bt h t n j) - 48) = 10 * v + (Bt h t n j - 48) := by
          rw [e32 (x := 10 * v) (by omega) (by omega), e32 (x := 10 * v + Bt h t n j) (by omega) (by omega), e32 (by omega) (by omega)]
          omega
        rw [ew]
        have e8 : up (up (up h a 7 v) a 2 j) a 7 (10 * v + (Bt h t n j - 48)) a 2 = j := by rw [up_i (by omega), up_s]
        rw [e8, e32 (x := j + 1) (by omega) (by omega)]
        refine ⟨⟨j + 1, 10 * v + (Bt h t n j - 48), ?_, ?_, by omega, by omega, j3', ?_⟩, ?_⟩
        · show w32 (j - i + 1) = j + 1 - i
          rw [e32 (by omega) (by omega)]; omega
        · show up (up (up (up h a 7 v) a 2 j) a 7 (10 * v + (Bt h t n j - 48))) a 2 (j + 1) = up (up h a 7 (10 * v + (Bt h t n j - 48))) a 2 (j + 1)
          rw [up_swap (i := 2) (j := 7) (by omega), up_up, up_up]
        · rw [show min 7 (j + 1 - i).toNat = min 7 (j - i).toNat + 1 by omega]
          show _ = 10 * nv (Bt h t n) i (min 7 (j - i).toNat) + (Bt h t n (i + (min 7 (j - i).toNat : Nat)) - 48)
          rw [← ev, show i + ((min 7 (j - i).toNat : Nat) : Int) = j by omega]
        · show (n - up (up (up (up h a 7 v) a 2 j) a 7 (10 * v + (Bt h t n j - 48))) a 2 (j + 1) a 2).toNat < (n - up (up h a 7 v) a 2 j a 2).toNat
          rw [up_s, up_s]
          omega
    · refine z_it (bI0.mpr (bF hc)) (z_some ⟨j, v, rfl, rfl, ⟨j1, j3, bF hc⟩, j2, ev⟩)
  · rintro ⟨m, q⟩ ⟨j, v, e1, e2, hj, hjn, ev⟩
    dsimp only at e1 e2
    subst e1 e2
    have es := sc_of hj
    have hj1 := hj.1
    rw [es]
    dsimp only
    have fr : F2 (nxW a) h (up (up h a 7 v) a 2 j) := (F2.refl.put ⟨rfl, by omega, by omega⟩).put ⟨rfl, by omega, by omega⟩
    refine z_if (fun hc => ?_) (fun hc => ?_)
    · refine z_pt (z_some ⟨fr.put ⟨rfl, by omega, by omega⟩, ?_, ?_, ?_, ?_, hj1, hjn⟩)
      · rw [up_i (by omega), up_s]
      · rw [up_s, if_pos hc]
      · rw [up_i (by omega), up_i (by omega), up_i (by omega)]
      · rw [up_i (by omega), up_i (by omega), up_s]; exact ev
    · refine z_pt (z_some ⟨fr.put ⟨rfl, by omega, by omega⟩, ?_, ?_, ?_, ?_, hj1, hjn⟩)
      · rw [up_i (by omega), up_s]
      · rw [up_s, if_neg hc]
      · rw [up_i (by omega), up_i (by omega), up_i (by omega)]
      · rw [up_i (by omega), up_i (by omega), up_s]; exact ev
