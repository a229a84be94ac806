set_option maxRecDepth 100000
/-! SOURCES: bytes, blanks, names, strings, comments of both readers -/
theorem q_X6_byteAt {h : Hp} {a t n i : Int} (x : TX h a t n) (hi : 0 ≤ i) : m_X6_byteAt a i h = some (Bt h t n i) := by
  obtain ⟨h1, h2, h3, h4, h5, h6⟩ := x
  unfold m_X6_byteAt Bt
  rw [h1, h2, if_neg (show ¬ i < 0 by omega)]
  split
  · rfl
  · unfold gd
    rw [if_pos ⟨h3, hi, by omega⟩]
theorem q_X23_byteAt {h : Hp} {a t n i : Int} (x : TX h a t n) (hi : 0 ≤ i) : m_X23_byteAt a i h = some (Bt h t n i) := by
  obtain ⟨h1, h2, h3, h4, h5, h6⟩ := x
  unfold m_X23_byteAt Bt
  rw [h1, h2, if_neg (show ¬ i < 0 by omega)]
  split
  · rfl
  · unfold gd
    rw [if_pos ⟨h3, hi, by omega⟩]
/-- a loop that goes on over bytes of one kind -/
theorem scan_i {F : Int → Option (Int ⊕ Int)} {B : Int → Int} {p : Int → Bool} {n i : Int} (hB : ∀ x, n ≤ x → p (B x) = false) (hi : i ≤ n) (body : ∀ j, i ≤ j → j ≤ n → F j = if p (B j) = true then some (.inl (j + 1)) else some (.inr j)) : lp F i = some (sc B p i) := by
  obtain ⟨⟨s1, s2, s3⟩, -, s5⟩ := sc_spec hB hi
  have key : ∀ (m : Nat) (j : Int), i ≤ j → j ≤ sc B p i → (sc B p i - j).toNat = m → lp F j = some (sc B p i) := by
    intro m
    induction m with
    | zero =>
      intro j j0 j1 jm
      have : j = sc B p i := by omega
      rw [lp_eq, body j j0 (by omega), this, s3, if_neg (by decide)]
    | succ m ih =>
      intro j j0 j1 jm
      rw [lp_eq, body j j0 (by omega), s2 j j0 (by omega), if_pos rfl]
      exact ih (j + 1) (by omega) (by omega) (by omega)
  exact key _ i (Int.le_refl i) s1 rfl
theorem blEnd {h : Hp} {t n x : Int} (hx : n ≤ x) : isBl (Bt h t n x) = false := by rw [Bt_e hx]; rfl
theorem nmEnd {h : Hp} {t n x : Int} (hx : n ≤ x) : isNm (Bt h t n x) = false := by rw [Bt_e hx]; rfl
theorem stEnd {h : Hp} {t n x : Int} (hx : n ≤ x) : isSt (Bt h t n x) = false := by rw [Bt_e hx]; rfl
theorem nmOr {c : Int} : isNm c = (isSm c || isDg c) := by
  unfold isNm isSm isDg
  rw [Bool.decide_or]
theorem stAnd {c : Int} : isSt c = true ↔ isPl c = true ∧ c ≠ 34 := by
  unfold isSt isPl
  rw [decide_eq_true_iff, decide_eq_true_iff]
theorem q_X23_skip {h : Hp} {a t n i : Int} (x : TX h a t n) (h0 : 0 ≤ i) (hi : i ≤ n) : m_X23_skip a i h = some (sc (Bt h t n) isBl i) := by
  have h6 := x.2.2.2.2.2
  unfold m_X23_skip
  rw [scan_i (fun x hx => blEnd hx) hi (fun j j0 j1 => ?_), Option.bind_some]
  unfold m_X23_skip_l2
  rw [x.2.1, q_X23_byteAt x (by omega), Option.bind_some, q_X18_isBlank, Option.bind_some]
  by_cases hj : n ≤ j
  · rw [if_pos hj, blEnd hj, if_neg (by decide)]
  · rw [if_neg hj]
    cases isBl (Bt h t n j) with
    | false => rfl
    | true =>
      rw [if_neg (by decide), if_pos rfl]
      unfold lt_
      rw [e32 (by omega) (by omega)]
theorem z_X6_blanks {h : Hp} {a t n i : Int} (x : TX h a t n) (h0 : 0 ≤ i) (hi : i ≤ n) (ha : h a 2 = i) : m_X6_blanks a h = some (up h a 2 (sc (Bt h t n) isBl i)) := by
  have h6 := x.2.2.2.2.2
  have L := scan_loop (F := fun q => m_X6_blanks_l0 a q) (f := 2) (p := isBl) x (by decide) ha h0 (by omega) rfl (fun j j0 j1 => ?_)
  · obtain ⟨h', e, j, s, -, rfl⟩ := L
    unfold m_X6_blanks
    rw [e, Option.bind_some, sc_of s]
  · show m_X6_blanks_l0 a (up h a 2 j) = _
    have x' : TX (up h a 2 j) a t n := x.put (by decide)
    unfold m_X6_blanks_l0
    rw [up_s, q_X6_byteAt x' (by omega), Option.bind_some, q_X1_isBlank, Option.bind_some, Bt_h (up_row x.2.2.2.2.1)]
    cases isBl (Bt h t n j) <;> rfl
theorem q_nm6 {h : Hp} {a t n i : Int} (x : TX h a t n) (h0 : 0 ≤ i) (hi : i ≤ n) : lp (fun (q : Int) => m_X6_nameEnd_l21 a q h) i = some (sc (Bt h t n) isNm i) := by
  have h6 := x.2.2.2.2.2
  refine scan_i (fun x hx => nmEnd hx) hi (fun j j0 j1 => ?_)
  unfold m_X6_nameEnd_l21 m_X6_nameEnd_j43 lt_
  rw [q_X6_byteAt x (by omega), Option.bind_some, q_X1_isSmall, Option.bind_some, Option.bind_some, q_X1_isDigit, Option.bind_some, e32 (by omega) (by omega), nmOr]
  cases isSm (Bt h t n j) <;> cases isDg (Bt h t n j) <;> rfl
theorem q_nm23 {h : Hp} {a t n i : Int} (x : TX h a t n) (h0 : 0 ≤ i) (hi : i ≤ n) : lp (fun (q : Int) => m_X23_nameAt_l22 a q h) i = some (sc (Bt h t n) isNm i) := by
  have h6 := x.2.2.2.2.2
  refine scan_i (fun x hx => nmEnd hx) hi (fun j j0 j1 => ?_)
  unfold m_X23_nameAt_l22 m_X23_nameAt_j44 lt_
  rw [q_X23_byteAt x (by omega), Option.bind_some, q_X18_isSmall, Option.bind_some, Option.bind_some, q_X18_isDigit, Option.bind_some, e32 (by omega) (by omega), nmOr]
  cases isSm (Bt h t n j) <;> cases isDg (Bt h t n j) <;> rfl
theorem q_st6 {h : Hp} {a t n i : Int} (x : TX h a t n) (h0 : 0 ≤ i) (hi : i ≤ n) : lp (fun (q : Int) => m_X6_string_l25 a q h) i = some (sc (Bt h t n) isSt i) := by
  have h6 := x.2.2.2.2.2
  refine scan_i (fun x hx => stEnd hx) hi (fun j j0 j1 => ?_)
  unfold m_X6_string_l25 lt_
  rw [q_X6_byteAt x (by omega), Option.bind_some, q_X1_isPlain, Option.bind_some, Option.bind_some, e32 (by omega) (by omega)]
  by_cases h1 : isPl (Bt h t n j) = true
  · rw [h1, if_neg (by decide)]
    by_cases h2 : Bt h t n j = 34
    · rw [if_pos h2, if_neg (fun z => (stAnd.mp z).2 h2)]
    · rw [if_neg h2, if_pos (stAnd.mpr ⟨h1, h2⟩)]
  · rw [bF h1, if_pos (show bI false = 0 from rfl), if_neg (fun z => h1 (stAnd.mp z).1)]
theorem q_st23 {h : Hp} {a t n i : Int} (x : TX h a t n) (h0 : 0 ≤ i) (hi : i ≤ n) : lp (fun (q : Int) => m_X23_stringAt_l23 a q h) i = some (sc (Bt h t n) isSt i) := by
  have h6 := x.2.2.2.2.2
  refine scan_i (fun x hx => stEnd hx) hi (fun j j0 j1 => ?_)
  unfold m_X23_stringAt_l23 lt_
  rw [q_X23_byteAt x (by omega), Option.bind_some, Option.bind_some, Option.bind_some, e32 (by omega) (by omega)]
  have e : isSt (Bt h t n j) = true ↔ ¬ Bt h t n j < 32 ∧ ¬ 126 < Bt h t n j ∧ ¬ Bt h t n j = 34 := by
    unfold isSt
    rw [decide_eq_true_iff]
    omega
  by_cases h1 : Bt h t n j < 32
  · rw [if_pos h1, if_neg (fun z => (e.mp z).1 h1)]
  · rw [if_neg h1]
    by_cases h2 : 126 < Bt h t n j
    · rw [if_pos h2, if_neg (fun z => (e.mp z).2.1 h2)]
    · rw [if_neg h2]
      by_cases h3 : Bt h t n j = 34
      · rw [if_pos h3, if_neg (fun z => (e.mp z).2.2 h3)]
      · rw [if_neg h3, if_pos (e.mpr ⟨h1, h2, h3⟩)]
/-- the component's reader of sources is broken off -/
theorem c_brk6 {α : Type} {h : Hp} {a n i : Int} {f : Int → Hp → Option α} {Q : α → Prop} (rm : RM h 1 7) (a1 : 1 ≤ a) (a2 : a ≤ 982) (en : h a 1 = n) (ei : h a 2 = i) (hi : i ≤ n) (k : ∀ b h', Thr 432 i h ((1, b), h') → Pz (f b h') Q) : Pz (bW (m_X6_broken a h) fun v h9 => gd (0 < v) (f v h9)) Q := by
  have e : m_X6_broken a h = al h 432 7 fun b h0 => (x_broken b i h0).bind fun h8 => some (b, h8) := by
    unfold m_X6_broken al
    by_cases c : 0 ≤ (7 : Int) ∧ (7 : Int) ≤ 16777216 ∧ h 0 0 < 130538 ∧ h 0 1 + 7 ≤ 8696812
    · rw [if_pos c, if_pos c]
      have z := rm.2.2.1
      have w : ∀ j, nw h 432 7 a j = h a j := fun j => nw_F2 a j (fun z => by rcases z with z | z <;> omega)
      dsimp only
      rw [w, w, en, ei]
      by_cases hh : n ≤ i
      · rw [if_pos hh, show n = i by omega]
      · rw [if_neg hh]
    · rw [if_neg c, if_neg c]
  rw [e]
  refine z_bW (z_brk rm (fun b h' z => z_some ?_))
  exact z_gd z.2.1 (k b h' z)
/-- is there a name -/
def nmA (B : Int → Int) (i : Int) : Prop := isSm (B i) = true ∧ sc B isNm i - i ≤ 12
theorem c_nameEnd6 {h : Hp} {a t n i : Int} (x : TX h a t n) (rm : RM h 1 7) (a1 : 1 ≤ a) (a2 : a ≤ 982) (h0 : 0 ≤ i) (hi : i ≤ n) (ei : h a 2 = i) : Pz (m_X6_nameEnd a h) (fun r => (nmA (Bt h t n) i ∧ r = ((0, sc (Bt h t n) isNm i), h)) ∨ (¬ nmA (Bt h t n) i ∧ Thr 432 i h r)) := by
  have h6 := x.2.2.2.2.2
  obtain ⟨-, s4, s5⟩ := sc_spec (B := Bt h t n) (p := isNm) (fun x hx => nmEnd hx) hi
  unfold m_X6_nameEnd
  refine z_lt ?_
  rw [ei, q_X6_byteAt x h0, Option.bind_some, q_X1_isSmall, Option.bind_some]
  by_cases h1 : isSm (Bt h t n i) = true
  · rw [h1]
    refine z_it (by decide) ?_
    rw [q_nm6 x h0 hi, Option.bind_some, e32 (by omega) (by omega)]
    by_cases h2 : sc (Bt h t n) isNm i - i ≤ 12
    · exact z_it h2 (z_some (Or.inl ⟨⟨h1, h2⟩, rfl⟩))
    · exact z_ie h2 (c_brk6 rm a1 a2 x.2.1 ei hi (fun b h' z => z_some (Or.inr ⟨fun y => h2 y.2, z⟩)))
  · rw [bF h1]
    exact z_ie (by decide) (c_brk6 rm a1 a2 x.2.1 ei hi (fun b h' z => z_some (Or.inr ⟨fun y => h1 y.1, z⟩)))
theorem t_nameAt23 {h : Hp} {a t n i : Int} (x : TX h a t n) (rm : RM h 1 7) (h0 : 0 ≤ i) (hi : i ≤ n) : Pz (m_X23_nameAt a i h) (fun r => (nmA (Bt h t n) i ∧ r = ((0, sc (Bt h t n) isNm i), h)) ∨ (¬ nmA (Bt h t n) i ∧ Thr 448 i h r)) := by
  have h6 := x.2.2.2.2.2
  obtain ⟨-, s4, s5⟩ := sc_spec (B := Bt h t n) (p := isNm) (fun x hx => nmEnd hx) hi
  unfold m_X23_nameAt
  rw [q_X23_byteAt x h0, Option.bind_some, q_X18_isSmall, Option.bind_some]
  by_cases h1 : isSm (Bt h t n i) = true
  · rw [h1]
    refine z_it (by decide) ?_
    rw [q_nm23 x h0 hi, Option.bind_some, e32 (by omega) (by omega)]
    by_cases h2 : sc (Bt h t n) isNm i - i ≤ 12
    · exact z_it h2 (z_some (Or.inl ⟨⟨h1, h2⟩, rfl⟩))
    · exact z_ie h2 (z_brk rm (fun b h' z => z_some (Or.inr ⟨fun y => h2 y.2, z⟩)))
  · rw [bF h1]
    exact z_ie (by decide) (z_brk rm (fun b h' z => z_some (Or.inr ⟨fun y => h1 y.1, z⟩)))
/-- is there a string -/
def stA (B : Int → Int) (i : Int) : Prop := B i = 34 ∧ B (sc B isSt (i + 1)) = 34
theorem c_string6 {h : Hp} {a t n i : Int} (x : TX h a t n) (rm : RM h 1 7) (a1 : 1 ≤ a) (a2 : a ≤ 982) (h0 : 0 ≤ i) (hi : i ≤ n) (ei : h a 2 = i) : Pz (m_X6_string a h) (fun r => (stA (Bt h t n) i ∧ r = ((0, sc (Bt h t n) isSt (i + 1) - i - 1), h)) ∨ (¬ stA (Bt h t n) i ∧ Thr 432 i h r)) := by
  have h6 := x.2.2.2.2.2
  unfold m_X6_string
  rw [ei, q_X6_byteAt x h0, Option.bind_some]
  by_cases h1 : Bt h t n i = 34
  · have hn : i < n := Bt_n (h := h) (t := t) (by omega)
    obtain ⟨-, s4, s5⟩ := sc_spec (B := Bt h t n) (p := isSt) (i := i + 1) (fun x hx => stEnd hx) (by omega)
    refine z_it h1 (z_lt ?_)
    rw [e32 (by omega) (by omega), q_st6 x (by omega) (by omega), Option.bind_some, q_X6_byteAt x (by omega), Option.bind_some]
    by_cases h2 : Bt h t n (sc (Bt h t n) isSt (i + 1)) = 34
    · refine z_it h2 (z_some (Or.inl ⟨⟨h1, h2⟩, ?_⟩))
      rw [e32 (x := sc (Bt h t n) isSt (i + 1) - i) (by omega) (by omega), e32 (by omega) (by omega)]
    · exact z_ie h2 (c_brk6 rm a1 a2 x.2.1 ei hi (fun b h' z => z_some (Or.inr ⟨fun y => h2 y.2, z⟩)))
  · exact z_ie h1 (c_brk6 rm a1 a2 x.2.1 ei hi (fun b h' z => z_some (Or.inr ⟨fun y => h1 y.1, z⟩)))
theorem t_stringAt23 {h : Hp} {a t n i : Int} (x : TX h a t n) (rm : RM h 1 7) (h0 : 0 ≤ i) (hi : i ≤ n) : Pz (m_X23_stringAt a i h) (fun r => (stA (Bt h t n) i ∧ r = ((0, sc (Bt h t n) isSt (i + 1) + 1), h)) ∨ (¬ stA (Bt h t n) i ∧ Thr 448 i h r)) := by
  have h6 := x.2.2.2.2.2
  unfold m_X23_stringAt
  rw [q_X23_byteAt x h0, Option.bind_some]
  by_cases h1 : Bt h t n i = 34
  · have hn : i < n := Bt_n (h := h) (t := t) (by omega)
    obtain ⟨-, s4, s5⟩ := sc_spec (B := Bt h t n) (p := isSt) (i := i + 1) (fun x hx => stEnd hx) (by omega)
    refine z_it h1 (z_lt ?_)
    rw [e32 (by omega) (by omega), q_st23 x (by omega) (by omega), Option.bind_some, q_X23_byteAt x (by omega), Option.bind_some]
    by_cases h2 : Bt h t n (sc (Bt h t n) isSt (i + 1)) = 34
    · refine z_it h2 (z_some (Or.inl ⟨⟨h1, h2⟩, ?_⟩))
      rw [e32 (by omega) (by omega)]
    · exact z_ie h2 (z_brk rm (fun b h' z => z_some (Or.inr ⟨fun y => h2 y.2, z⟩)))
  · exact z_ie h1 (z_brk rm (fun b h' z => z_some (Or.inr ⟨fun y => h1 y.1, z⟩)))
theorem t_need23 {h : Hp} {a t n i c : Int} (x : TX h a t n) (rm : RM h 1 7) (h0 : 0 ≤ i) : Pz (m_X23_need a i c h) (fun r => (Bt h t n i = c ∧ r = ((0, 0), h)) ∨ (Bt h t n i ≠ c ∧ Thr 448 i h r)) := by
  unfold m_X23_need
  rw [q_X23_byteAt x h0, Option.bind_some]
  by_cases h1 : Bt h t n i = c
  · exact z_it h1 (z_some (Or.inl ⟨h1, rfl⟩))
  · exact z_ie h1 (z_brk rm (fun b h' z => z_some (Or.inr ⟨h1, z⟩)))
