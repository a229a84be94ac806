set_option maxRecDepth 100000
/-! NUMBERS IN THEIR FORMS; rows of bytes of the component -/
/-- the digits of a number -/
def decL (n : Nat) : List Int := if h : n < 10 then [48 + (n : Int)] else decL (n / 10) ++ [48 + ((n % 10 : Nat) : Int)]
termination_by n
decreasing_by omega
theorem decL_1 {n : Nat} (h : n < 10) : decL n = [48 + (n : Int)] := by rw [decL]; rw [dif_pos h]
theorem decL_2 {n : Nat} (h : ¬ n < 10) : decL n = decL (n / 10) ++ [48 + ((n % 10 : Nat) : Int)] := by rw [decL]; rw [dif_neg h]
/-- letters as a number -/
def letL (n : Nat) : List Int := if h : (n - 1) / 26 = 0 then [97 + (((n - 1) % 26 : Nat) : Int)] else letL ((n - 1) / 26) ++ [97 + (((n - 1) % 26 : Nat) : Int)]
termination_by n
decreasing_by omega
theorem letL_1 {n : Nat} (h : (n - 1) / 26 = 0) : letL n = [97 + (((n - 1) % 26 : Nat) : Int)] := by rw [letL]; rw [dif_pos h]
theorem letL_2 {n : Nat} (h : ¬ (n - 1) / 26 = 0) : letL n = letL ((n - 1) / 26) ++ [97 + (((n - 1) % 26 : Nat) : Int)] := by rw [letL]; rw [dif_neg h]
/-- one place of a Roman number -/
def dgL (d : Nat) (o f t : Int) : List Int := if d = 9 then [o, t] else if d = 4 then [o, f] else (if 5 ≤ d then [f] else []) ++ List.replicate (d % 5) o
def romL (n : Nat) : List Int := List.replicate (n / 1000) 109 ++ (dgL (n / 100 % 10) 99 100 109 ++ (dgL (n / 10 % 10) 120 108 99 ++ dgL (n % 10) 105 118 120))
/-- a number in its form -/
def fmL (how : Int) (v : Nat) : List Int := if how = 1 ∧ 1 ≤ v ∧ v ≤ 3999 then romL v else if how = 2 ∧ 1 ≤ v then letL v else decL v
theorem decL_len : ∀ (k n : Nat), n < 10 ^ (k + 1) → (decL n).length ≤ k + 1 := by
  intro k
  induction k with
  | zero => intro n h; rw [decL_1 (by omega)]; exact Nat.le_refl _
  | succ k ih =>
    intro n h
    by_cases hn : n < 10
    · rw [decL_1 hn]; show 1 ≤ _; omega
    · rw [decL_2 hn, List.length_append]
      have := ih (n / 10) (by rw [Nat.pow_succ] at h; omega)
      show _ + 1 ≤ _
      omega
theorem letL_len : ∀ (k n : Nat), n < 26 ^ (k + 1) → (letL n).length ≤ k + 1 := by
  intro k
  induction k with
  | zero => intro n h; rw [letL_1 (by omega)]; exact Nat.le_refl _
  | succ k ih =>
    intro n h
    by_cases hn : (n - 1) / 26 = 0
    · rw [letL_1 hn]; show 1 ≤ _; omega
    · rw [letL_2 hn, List.length_append]
      have := ih ((n - 1) / 26) (by rw [Nat.pow_succ] at h; omega)
      show _ + 1 ≤ _
      omega
theorem dgL_len {d : Nat} {o f t : Int} : (dgL d o f t).length ≤ 5 := by
  unfold dgL
  split
  · show 2 ≤ 5; decide
  · split
    · show 2 ≤ 5; decide
    · rw [List.length_append, List.length_replicate]
      split
      · show 1 + _ ≤ 5; omega
      · show 0 + _ ≤ 5; omega
theorem romL_len {n : Nat} (h : n ≤ 3999) : (romL n).length ≤ 18 := by
  unfold romL
  rw [List.length_append, List.length_append, List.length_append, List.length_replicate]
  have := dgL_len (d := n / 100 % 10) (o := 99) (f := 100) (t := 109)
  have := dgL_len (d := n / 10 % 10) (o := 120) (f := 108) (t := 99)
  have := dgL_len (d := n % 10) (o := 105) (f := 118) (t := 120)
  omega
theorem fmL_len {how : Int} {v : Nat} (h : v ≤ 1000000) : (fmL how v).length ≤ 18 := by
  unfold fmL
  split
  · exact romL_len (by omega)
  · split
    · have := letL_len 5 v (by omega); omega
    · have := decL_len 6 v (by omega); omega
/-! rows of bytes -/
def bsL (p : Hp) (b : Int) (L : List Int) : Prop := p b 1 = L.length ∧ wd p (b + 1) 0 L.length = L
def b5W (b : Int) : Int → Int → Prop := fun x j => (x = b ∧ j = 1) ∨ (x = b + 1 ∧ 0 ≤ j)
theorem b5W_l {h h' : Hp} {b : Int} (hL : LAY h) (hb : b ∈ in_aX5) (f : F2 (b5W b) h h') : LAY h' := by
  have key : ∀ x j, b5W b x j → 0 ≤ j ∧ ((∃ r ∈ [(b + 1, b + 1)], r.1 ≤ x ∧ x ≤ r.2) ∨ ∃ e ∈ [(b, [1])], x = e.1 ∧ j ∈ e.2) := by
    intro x j z
    have j0 : 0 ≤ j := by unfold b5W at z; omega
    refine ⟨j0, ?_⟩
    rcases z with ⟨rfl, z⟩ | ⟨rfl, -⟩
    · exact Or.inr ⟨(x, [1]), by simp, rfl, by simp; omega⟩
    · exact Or.inl ⟨(b + 1, b + 1), by simp, by dsimp only; omega, by dsimp only; omega⟩
  simp only [in_aX5, List.mem_cons, List.not_mem_nil, or_false] at hb
  refine lay_W hL f _ _ ?_ ?_ key
  · rcases hb with rfl | rfl | rfl | rfl | rfl | rfl | rfl | rfl | rfl | rfl | rfl <;> decide +kernel
  · rcases hb with rfl | rfl | rfl | rfl | rfl | rfl | rfl | rfl | rfl | rfl | rfl <;> decide +kernel
/-- bytes are put behind what is there -/
def puts (b : Int) (p : Hp) (L A : List Int) (r : (Int × Int) × Hp) : Prop := r.1 = (0, 0) ∧ F2 (b5W b) p r.2 ∧ bsL r.2 b (L ++ A)
theorem puts_bT {α : Type} {b : Int} {p : Hp} {L A : List Int} {o : Option ((Int × Int) × Hp)} {f g : Int → Hp → Option α} {Q : α → Prop} (h : Pz o (puts b p L A)) (k : ∀ p', F2 (b5W b) p p' → bsL p' b (L ++ A) → Pz (f 0 p') Q) : Pz (bT o f g) Q := by
  obtain ⟨r, e, r1, r2, r3⟩ := h
  rw [bT_0 e (by rw [r1])]
  have : r.1.2 = 0 := by rw [r1]
  rw [this]
  exact k _ r2 r3
theorem puts_ok {b : Int} {p p' : Hp} {L A : List Int} (f : F2 (b5W b) p p') (h : bsL p' b (L ++ A)) : Pz (some (((0 : Int), (0 : Int)), p')) (puts b p L A) := z_some ⟨rfl, f, h⟩
theorem c_add5 {p : Hp} {b c : Int} {L : List Int} (hL : LAY p) (hb : b ∈ in_aX5) (B : bsL p b L) (cap : (L.length : Int) < p (b + 1) (-1)) (cap2 : p (b + 1) (-1) ≤ 100000) (c0 : -128 ≤ c) (c1 : c ≤ 127) : Pz (m_X5_add b c p) (puts b p L [c]) := by
  obtain ⟨k0, k1, k2⟩ := ly_X5 hL hb
  unfold m_X5_add
  simp only [k1, k2, B.1]
  refine z_gd ⟨by decide, by decide⟩ (z_ie (by omega) ?_)
  unfold m_X5_add_j17
  have r1 : m_X1_room 1 p = some ((0, 0), p) := by unfold m_X1_room; rw [if_pos (by decide)]
  rw [bT_0 r1 rfl]
  dsimp only
  simp only [k1, k2, B.1]
  rw [e8 c0 (by omega)]
  refine z_gd ⟨by decide, by omega, by omega⟩ (z_pt (z_pt (z_some ⟨rfl, (F2.refl.put (Or.inr ⟨rfl, by omega⟩)).put (Or.inl ⟨rfl, rfl⟩), ?_, ?_⟩)))
  · show up (up p (b + 1) L.length c) b 1 _ b 1 = _
    rw [up_s, up_a (by omega), B.1, e32 (by omega) (by omega), List.length_append]
    rfl
  · show wd (up (up p (b + 1) L.length c) b 1 _) (b + 1) 0 (L ++ [c]).length = L ++ [c]
    rw [List.length_append]
    show wd _ (b + 1) 0 (L.length + 1) = L ++ [c]
    rw [wd_succ]
    congr 1
    · refine Eq.trans ?_ B.2
      refine (wd_eq wd_len).mpr (fun x hx => ?_)
      rw [wd_at hx, up_a (by omega), up_j (by omega)]
    · rw [up_a (by omega), Int.zero_add, up_s]
