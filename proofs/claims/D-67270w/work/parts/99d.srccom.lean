set_option maxRecDepth 100000
/-! SOURCES: comments, runs of text -/
def cmE (B : Int → Int) (n : Int) : Int → Int := fun j => if n ≤ j ∨ (B j = 45 ∧ B (j + 1) = 45 ∧ B (j + 2) = 62) then 0 else 1
def isOne (c : Int) : Bool := decide (c = 1)
noncomputable def cmEnd (B : Int → Int) (n i : Int) : Int := sc (cmE B n) isOne i
theorem cmE_e {B : Int → Int} {n x : Int} (h : n ≤ x) : isOne (cmE B n x) = false := by
  unfold cmE
  rw [if_pos (Or.inl h)]; rfl
theorem cmEnd_r {B : Int → Int} {n i : Int} (hi : i ≤ n) : i ≤ cmEnd B n i ∧ cmEnd B n i ≤ n ∧ (cmEnd B n i < n → B (cmEnd B n i) = 45 ∧ B (cmEnd B n i + 1) = 45 ∧ B (cmEnd B n i + 2) = 62) := by
  obtain ⟨⟨s1, s2, s3⟩, s4, s5⟩ := sc_spec (B := cmE B n) (p := isOne) (fun x hx => cmE_e hx) hi
  refine ⟨s4, s5, fun h => ?_⟩
  have s3' : isOne (cmE B n (cmEnd B n i)) = false := s3
  unfold cmE at s3'
  by_cases c : n ≤ cmEnd B n i ∨ (B (cmEnd B n i) = 45 ∧ B (cmEnd B n i + 1) = 45 ∧ B (cmEnd B n i + 2) = 62)
  · rcases c with c | c
    · omega
    · exact c
  · rw [if_neg c] at s3'
    exact absurd s3' (by decide)
theorem raw45 {h : Hp} {t n j c : Int} (hb : BY h t n) (j0 : 0 ≤ j) (j1 : j < n) (c0 : 0 ≤ c) (c1 : c < 128) : h t j = c ↔ Bt h t n j = c := by
  obtain ⟨b1, b2⟩ := hb j j0 j1
  unfold Bt
  rw [if_neg (by omega), if_neg (show ¬ j < 0 by omega), iand_b b1 b2]
  split <;> omega
theorem q_cm6 {h : Hp} {a t n i : Int} (x : TX h a t n) (hb : BY h t n) (h0 : 0 ≤ i) (hi : i ≤ n) : lp (fun (q : Int) => m_X6_comment_l35 a q h) i = some (cmEnd (Bt h t n) n i) := by
  have h6 := x.2.2.2.2.2
  refine scan_i (fun x hx => cmE_e hx) hi (fun j j0 j1 => ?_)
  unfold m_X6_comment_l35 m_X6_comment_j78 lt_
  rw [x.2.1]
  by_cases hj : n ≤ j
  · rw [if_pos hj, cmE_e hj, if_neg (by decide)]
  · rw [if_neg hj, x.1]
    unfold gd
    rw [if_pos ⟨x.2.2.1, by omega, by have := x.2.2.2.1; omega⟩, e32 (x := j + 1) (by omega) (by omega), e32 (x := j + 2) (by omega) (by omega), q_X6_byteAt x (by omega), q_X6_byteAt x (by omega), Option.bind_some]
    have r := raw45 hb (show 0 ≤ j by omega) (show j < n by omega) (c := 45) (by decide) (by decide)
    have e : isOne (cmE (Bt h t n) n j) = true ↔ ¬ (Bt h t n j = 45 ∧ Bt h t n (j + 1) = 45 ∧ Bt h t n (j + 2) = 62) := by
      unfold cmE
      by_cases c : Bt h t n j = 45 ∧ Bt h t n (j + 1) = 45 ∧ Bt h t n (j + 2) = 62
      · rw [if_pos (Or.inr c)]
        exact ⟨fun z => absurd z (by decide), fun z => absurd c z⟩
      · rw [if_neg (fun z => z.elim hj c)]
        exact ⟨fun _ => c, fun _ => rfl⟩
    by_cases c1 : h t j = 45
    · rw [if_neg (fun z => z c1)]
      by_cases c2 : Bt h t n (j + 1) = 45
      · rw [if_neg (fun z => z c2), Option.bind_some]
        by_cases c3 : Bt h t n (j + 2) = 62
        · rw [if_pos c3, if_neg (fun z => e.mp z ⟨r.mp c1, c2, c3⟩)]
        · rw [if_neg c3, if_pos (e.mpr (fun z => c3 z.2.2))]
      · rw [if_pos c2, if_pos (e.mpr (fun z => c2 z.2.1))]
    · rw [if_pos c1, if_pos (e.mpr (fun z => c1 (r.mpr z.1)))]
theorem q_cm23 {h : Hp} {a t n i : Int} (x : TX h a t n) (h0 : 0 ≤ i) (hi : i ≤ n) : lp (fun (q : Int) => m_X23_comment_l11 a q h) i = some (cmEnd (Bt h t n) n i) := by
  have h6 := x.2.2.2.2.2
  refine scan_i (fun x hx => cmE_e hx) hi (fun j j0 j1 => ?_)
  unfold m_X23_comment_l11 m_X23_comment_j53 lt_
  rw [x.2.1]
  by_cases hj : n ≤ j
  · rw [if_pos hj, cmE_e hj, if_neg (by decide)]
  · rw [if_neg hj, e32 (x := j + 1) (by omega) (by omega), e32 (x := j + 2) (by omega) (by omega), q_X23_byteAt x (by omega), q_X23_byteAt x (by omega), q_X23_byteAt x (by omega), Option.bind_some]
    have e : isOne (cmE (Bt h t n) n j) = true ↔ ¬ (Bt h t n j = 45 ∧ Bt h t n (j + 1) = 45 ∧ Bt h t n (j + 2) = 62) := by
      unfold cmE
      by_cases c : Bt h t n j = 45 ∧ Bt h t n (j + 1) = 45 ∧ Bt h t n (j + 2) = 62
      · rw [if_pos (Or.inr c)]
        exact ⟨fun z => absurd z (by decide), fun z => absurd c z⟩
      · rw [if_neg (fun z => z.elim hj c)]
        exact ⟨fun _ => c, fun _ => rfl⟩
    by_cases c1 : Bt h t n j = 45
    · rw [if_neg (fun z => z c1), Option.bind_some]
      by_cases c2 : Bt h t n (j + 1) = 45
      · rw [if_neg (fun z => z c2), Option.bind_some]
        by_cases c3 : Bt h t n (j + 2) = 62
        · rw [if_pos c3, if_neg (fun z => e.mp z ⟨c1, c2, c3⟩)]
        · rw [if_neg c3, if_pos (e.mpr (fun z => c3 z.2.2))]
      · rw [if_pos c2, if_pos (e.mpr (fun z => c2 z.2.1))]
    · rw [if_pos c1, if_pos (e.mpr (fun z => c1 z.1))]
/-- a comment: i is the first dash behind the mark -/
def cmA (B : Int → Int) (n i : Int) : Prop := B (i + 1) = 45 ∧ cmEnd B n (i + 2) < n
noncomputable def cmP (B : Int → Int) (n i : Int) : Int := @ite _ (B (i + 1) = 45) (Classical.propDecidable _) n (i + 1)
theorem c_comment6 {h : Hp} {a t n i : Int} (x : TX h a t n) (hb : BY h t n) (rm : RM h 1 7) (a1 : 1 ≤ a) (a2 : a ≤ 982) (h0 : 0 ≤ i) (hi : i < n) (ei : h a 2 = i) : Pz (m_X6_comment a h) (fun r => (cmA (Bt h t n) n i ∧ r = ((0, 0), up h a 2 (cmEnd (Bt h t n) n (i + 2) + 3))) ∨ (¬ cmA (Bt h t n) n i ∧ ThF 432 (cmP (Bt h t n) n i) (fun b j => b = a ∧ j = 2) h r)) := by
  have h6 := x.2.2.2.2.2
  have x1 : TX (up h a 2 (i + 1)) a t n := x.put (by decide)
  have B1 : Bt (up h a 2 (i + 1)) t n = Bt h t n := Bt_h (up_row x.2.2.2.2.1)
  have f1 : F2 (fun b j => b = a ∧ j = 2) h (up h a 2 (i + 1)) := F2.refl.put ⟨rfl, rfl⟩
  have w0 : ∀ j : Int, ¬ ((0 : Int) = a ∧ j = 2) := fun j z => by have := z.1; omega
  unfold m_X6_comment
  rw [ei, e32 (x := i + 1) (by omega) (by omega)]
  refine z_pt ?_
  rw [up_s, q_X6_byteAt x1 (by omega), Option.bind_some, B1]
  by_cases c : Bt h t n (i + 1) = 45
  · have hn : i + 1 < n := Bt_n (h := h) (t := t) (by omega)
    obtain ⟨r1, r2, r3⟩ := cmEnd_r (B := Bt h t n) (n := n) (i := i + 2) (by omega)
    have hb1 : BY (up h a 2 (i + 1)) t n := fun j j0 j1 => by rw [up_row x.2.2.2.2.1]; exact hb j j0 j1
    refine z_it c (z_lt ?_)
    rw [e32 (by omega) (by omega), show i + 1 + 1 = i + 2 by omega, q_cm6 x1 hb1 (by omega) (by omega), Option.bind_some, B1]
    refine z_pt ?_
    rw [up_up, up_s, up_i (show (1 : Int) ≠ 2 by decide), x.2.1]
    by_cases c2 : cmEnd (Bt h t n) n (i + 2) < n
    · refine z_it c2 ?_
      rw [e32 (by omega) (by omega)]
      refine z_pt (z_some (Or.inl ⟨⟨c, c2⟩, ?_⟩))
      rw [up_up]
    · refine z_ie c2 (c_brk6 (rm_of rm (F2.refl.put (W := fun b j => b = a ∧ j = 2) ⟨rfl, rfl⟩) w0) a1 a2 (by rw [up_i (by decide)]; exact x.2.1) (up_s _ _ _ _) r2 (fun b h' z => z_some (Or.inr ⟨fun y => c2 y.2, ?_⟩)))
      have e : cmP (Bt h t n) n i = cmEnd (Bt h t n) n (i + 2) := by
        unfold cmP
        rw [if_pos c]; omega
      rw [e]
      exact z.F (F2.refl.put ⟨rfl, rfl⟩) w0
  · refine z_ie c (c_brk6 (n := n) (i := i + 1) (rm_of rm f1 w0) a1 a2 (by rw [up_i (by decide)]; exact x.2.1) (up_s _ _ _ _) (by omega) (fun b h' z => z_some (Or.inr ⟨fun y => c y.1, ?_⟩)))
    have e : cmP (Bt h t n) n i = i + 1 := by
      unfold cmP
      rw [if_neg c]
    rw [e]
    exact z.F f1 w0
theorem t_comment23 {h : Hp} {a t n i : Int} (x : TX h a t n) (rm : RM h 1 7) (a1 : 1 ≤ a) (a2 : a ≤ 982) (h0 : 0 ≤ i) (hi : i < n) : Pz (m_X23_comment a (i + 1) h) (fun r => (cmA (Bt h t n) n i ∧ r = ((0, 0), up h a 25 (cmEnd (Bt h t n) n (i + 2) + 3))) ∨ (¬ cmA (Bt h t n) n i ∧ Thr 448 (cmP (Bt h t n) n i) h r)) := by
  have h6 := x.2.2.2.2.2
  unfold m_X23_comment
  refine z_bT (z_mono (t_need23 x rm (show 0 ≤ i + 1 by omega)) (fun r hr => ?_))
  rcases hr with ⟨c, rfl⟩ | ⟨c, z⟩
  · have hn : i + 1 < n := Bt_n (h := h) (t := t) (by omega)
    obtain ⟨r1, r2, r3⟩ := cmEnd_r (B := Bt h t n) (n := n) (i := i + 2) (by omega)
    refine Or.inl ⟨rfl, z_lt ?_⟩
    dsimp only
    rw [e32 (by omega) (by omega), show i + 1 + 1 = i + 2 by omega, q_cm23 x (by omega) (by omega), Option.bind_some]
    by_cases c2 : cmEnd (Bt h t n) n (i + 2) < n
    · refine z_it (by rw [x.2.1]; exact c2) ?_
      rw [e32 (by omega) (by omega)]
      exact z_pt (z_some (Or.inl ⟨⟨c, c2⟩, rfl⟩))
    · refine z_ie (by rw [x.2.1]; exact c2) ?_
      have e : cmP (Bt h t n) n i = n := by
        unfold cmP
        rw [if_pos c]
      have w : nw h 448 7 a 1 = n := by
        have := rm.2.2.1
        rw [nw_F2 a 1 (fun z => by rcases z with z | z <;> omega)]; exact x.2.1
      have key : (al h 448 7 fun a67 h67 => (x_broken a67 (h67 a 1) h67).bind fun h75 => some (((1 : Int), a67), h75)) = al h 448 7 fun a67 h67 => (x_broken a67 n h67).bind fun h75 => some ((1, a67), h75) := by
        unfold al
        dsimp only
        rw [w]
      rw [key, e]
      exact z_brk rm (fun b h' z => z_some (Or.inr ⟨fun y => c2 y.2, z⟩))
  · refine Or.inr ⟨by rw [z.1]; decide, z_some (Or.inr ⟨fun y => c y.1, ?_⟩)⟩
    have e : cmP (Bt h t n) n i = i + 1 := by
      unfold cmP
      rw [if_neg c]
    rw [e]
    have e1 := z.1
    obtain ⟨⟨q1, q2⟩, q3⟩ := r
    dsimp only at e1 ⊢
    subst e1; exact z
/-- bytes of text -/
def isPc (c : Int) : Bool := decide ((c = 10 ∨ (32 ≤ c ∧ c ≤ 126)) ∧ c ≠ 60 ∧ c ≠ 38)
theorem q_isPlace (c : Int) : m_X6_isPlace c = some (bI (isPc c)) := by
  unfold m_X6_isPlace isPc
  rw [q_X1_isPlain, Option.bind_some]
  by_cases h1 : c = 60
  · rw [if_pos h1]; exact congrArg some (bI_d (Or.inr ⟨by omega, rfl⟩))
  · rw [if_neg h1]
    by_cases h2 : c = 38
    · rw [if_pos h2]; exact congrArg some (bI_d (Or.inr ⟨by omega, rfl⟩))
    · rw [if_neg h2]
      by_cases h3 : c = 10
      · rw [if_pos h3]; exact congrArg some (bI_d (Or.inl ⟨by omega, rfl⟩))
      · rw [if_neg h3]
        unfold isPl
        by_cases h4 : 32 ≤ c ∧ c ≤ 126
        · rw [decide_eq_true h4, if_neg (by decide)]; exact congrArg some (bI_d (Or.inl ⟨by omega, rfl⟩))
        · rw [decide_eq_false h4, if_pos (by decide)]; exact congrArg some (bI_d (Or.inr ⟨by omega, rfl⟩))
theorem pcEnd {h : Hp} {t n x : Int} (hx : n ≤ x) : isPc (Bt h t n x) = false := by rw [Bt_e hx]; rfl
theorem q_run6 {h : Hp} {a t n i : Int} (x : TX h a t n) (h0 : 0 ≤ i) (hi : i ≤ n) (ha : h a 2 = i) : lp (fun (q : Hp) => m_X6_piece_l50 a q) h = some (up h a 2 (sc (Bt h t n) isPc i)) := by
  have h6 := x.2.2.2.2.2
  have L := scan_loop (F := fun q => m_X6_piece_l50 a q) (f := 2) (p := isPc) x (by decide) ha h0 (by omega) rfl (fun j j0 j1 => ?_)
  · obtain ⟨h', e, j, s, -, rfl⟩ := L
    rw [e, sc_of s]
  · show m_X6_piece_l50 a (up h a 2 j) = _
    have x' : TX (up h a 2 j) a t n := x.put (by decide)
    unfold m_X6_piece_l50
    rw [up_s, q_X6_byteAt x' (by omega), Option.bind_some, q_isPlace, Option.bind_some, Bt_h (up_row x.2.2.2.2.1)]
    cases isPc (Bt h t n j) <;> rfl
