/-! SCANNING -/
theorem up_up {h : Hp} {a i v w : Int} : up (up h a i v) a i w = up h a i w := by
  funext b j
  unfold up
  by_cases hc : b = a ∧ j = i
  · rw [if_pos hc, if_pos hc]
  · rw [if_neg hc, if_neg hc, if_neg hc]
theorem up_same {h : Hp} {a i : Int} : up h a i (h a i) = h := by
  funext b j
  unfold up
  by_cases hc : b = a ∧ j = i
  · rw [if_pos hc, hc.1, hc.2]
  · rw [if_neg hc]
def bI (b : Bool) : Int := if b then 1 else 0
theorem bI0 {b : Bool} : bI b = 0 ↔ b = false := by cases b <;> decide
theorem bI1 {b : Bool} : bI b ≠ 0 ↔ b = true := by cases b <;> decide
def isBl (c : Int) : Bool := decide (c = 10 ∨ c = 32)
def isSm (c : Int) : Bool := decide (97 ≤ c ∧ c ≤ 122)
def isDg (c : Int) : Bool := decide (48 ≤ c ∧ c ≤ 57)
def isPl (c : Int) : Bool := decide (32 ≤ c ∧ c ≤ 126)
def isNm (c : Int) : Bool := decide ((97 ≤ c ∧ c ≤ 122) ∨ (48 ≤ c ∧ c ≤ 57))
def isSt (c : Int) : Bool := decide ((32 ≤ c ∧ c ≤ 126) ∧ c ≠ 34)
theorem bI_d {p : Prop} [Decidable p] {x : Int} (h : (p ∧ x = 1) ∨ (¬ p ∧ x = 0)) : x = bI (decide p) := by
  rcases h with ⟨a, b⟩ | ⟨a, b⟩
  · rw [b, decide_eq_true a]; rfl
  · rw [b, decide_eq_false a]; rfl
theorem q_X1_isBlank (c : Int) : m_X1_isBlank c = some (bI (isBl c)) := by
  unfold m_X1_isBlank isBl
  split
  · exact congrArg some (bI_d (Or.inl ⟨by omega, rfl⟩))
  · split
    · exact congrArg some (bI_d (Or.inr ⟨by omega, rfl⟩))
    · exact congrArg some (bI_d (Or.inl ⟨by omega, rfl⟩))
theorem q_X18_isBlank (c : Int) : m_X18_isBlank c = some (bI (isBl c)) := by
  unfold m_X18_isBlank isBl
  split
  · exact congrArg some (bI_d (Or.inl ⟨by omega, rfl⟩))
  · split
    · exact congrArg some (bI_d (Or.inr ⟨by omega, rfl⟩))
    · exact congrArg some (bI_d (Or.inl ⟨by omega, rfl⟩))
theorem q_X1_isSmall (c : Int) : m_X1_isSmall c = some (bI (isSm c)) := by
  unfold m_X1_isSmall isSm
  split
  · exact congrArg some (bI_d (Or.inr ⟨by omega, rfl⟩))
  · split
    · exact congrArg some (bI_d (Or.inr ⟨by omega, rfl⟩))
    · exact congrArg some (bI_d (Or.inl ⟨by omega, rfl⟩))
theorem q_X18_isSmall (c : Int) : m_X18_isSmall c = some (bI (isSm c)) := by
  unfold m_X18_isSmall isSm
  split
  · exact congrArg some (bI_d (Or.inr ⟨by omega, rfl⟩))
  · split
    · exact congrArg some (bI_d (Or.inr ⟨by omega, rfl⟩))
    · exact congrArg some (bI_d (Or.inl ⟨by omega, rfl⟩))
theorem q_X1_isDigit (c : Int) : m_X1_isDigit c = some (bI (isDg c)) := by
  unfold m_X1_isDigit isDg
  split
  · exact congrArg some (bI_d (Or.inr ⟨by omega, rfl⟩))
  · split
    · exact congrArg some (bI_d (Or.inr ⟨by omega, rfl⟩))
    · exact congrArg some (bI_d (Or.inl ⟨by omega, rfl⟩))
theorem q_X18_isDigit (c : Int) : m_X18_isDigit c = some (bI (isDg c)) := by
  unfold m_X18_isDigit isDg
  split
  · exact congrArg some (bI_d (Or.inr ⟨by omega, rfl⟩))
  · split
    · exact congrArg some (bI_d (Or.inr ⟨by omega, rfl⟩))
    · exact congrArg some (bI_d (Or.inl ⟨by omega, rfl⟩))
theorem q_X1_isPlain (c : Int) : m_X1_isPlain c = some (bI (isPl c)) := by
  unfold m_X1_isPlain isPl
  split
  · exact congrArg some (bI_d (Or.inr ⟨by omega, rfl⟩))
  · split
    · exact congrArg some (bI_d (Or.inr ⟨by omega, rfl⟩))
    · exact congrArg some (bI_d (Or.inl ⟨by omega, rfl⟩))
/-- byte i of a text of n bytes, -1 behind it -/
def Bt (h : Hp) (t n i : Int) : Int := if n ≤ i then -1 else if i < 0 then 0 else iand_ (h t i) 255
theorem iand_r (x : Int) : 0 ≤ iand_ x 255 ∧ iand_ x 255 ≤ 255 := by
  unfold iand_
  have key : ∀ y : Int32, 0 ≤ (y &&& 255).toInt ∧ (y &&& 255).toInt ≤ 255 := by
    intro y
    have h1 : (y &&& 255).toBitVec = y.toBitVec &&& 255#32 := rfl
    have h2 : (y.toBitVec &&& 255#32).toNat ≤ 255 := by
      rw [BitVec.toNat_and]
      exact Nat.and_le_right
    have h3 : (y &&& 255).toInt = ((y.toBitVec &&& 255#32).toNat : Int) := by
      show (y.toBitVec &&& 255#32).toInt = _
      rw [BitVec.toInt_eq_toNat_of_lt (by omega)]
    rw [h3]
    omega
  exact key _
theorem Bt_r {h : Hp} {t n i : Int} : -1 ≤ Bt h t n i ∧ Bt h t n i ≤ 255 := by
  unfold Bt
  have := iand_r (h t i)
  split
  · omega
  · split <;> omega
theorem Bt_n {h : Hp} {t n i : Int} (c : 0 ≤ Bt h t n i) : i < n := by
  unfold Bt at c
  rcases Int.lt_or_le i n with hh | hh
  · exact hh
  · rw [if_pos hh] at c; omega
theorem Bt_e {h : Hp} {t n i : Int} (c : n ≤ i) : Bt h t n i = -1 := if_pos c
theorem Bt_0 {h : Hp} {t n i : Int} (c : i < n) : 0 ≤ Bt h t n i := by
  unfold Bt
  rw [if_neg (by omega)]
  split
  · decide
  · exact (iand_r _).1
theorem Bt_h {h h' : Hp} {t n : Int} (e : h' t = h t) : Bt h' t n = Bt h t n := by
  funext i
  unfold Bt
  rw [e]
def Sc (B : Int → Int) (p : Int → Bool) (i j : Int) : Prop := i ≤ j ∧ (∀ x, i ≤ x → x < j → p (B x) = true) ∧ p (B j) = false
theorem Sc.uniq {B : Int → Int} {p : Int → Bool} {i j k : Int} (a : Sc B p i j) (b : Sc B p i k) : j = k := by
  have h1 : ¬ j < k := fun h => by have := b.2.1 j a.1 h; rw [a.2.2] at this; cases this
  have h2 : ¬ k < j := fun h => by have := a.2.1 k b.1 h; rw [b.2.2] at this; cases this
  omega
noncomputable def sc (B : Int → Int) (p : Int → Bool) (i : Int) : Int := @dite _ (∃ j, Sc B p i j) (Classical.propDecidable _) (fun h => Classical.choose h) (fun _ => i)
theorem sc_of {B : Int → Int} {p : Int → Bool} {i j : Int} (a : Sc B p i j) : sc B p i = j := by
  unfold sc
  rw [dif_pos ⟨j, a⟩]
  exact Sc.uniq (Classical.choose_spec (⟨j, a⟩ : ∃ j, Sc B p i j)) a
/-- a text that a reader has: its cell t, its length n -/
def TX (h : Hp) (a t n : Int) : Prop := h a 0 = t ∧ h a 1 = n ∧ h t (-2) % 16 = 2 ∧ n ≤ h t (-1) ∧ t ≠ a ∧ n ≤ 16384
theorem TX.put {h : Hp} {a t n i v : Int} (x : TX h a t n) (hi : 2 ≤ i) : TX (up h a i v) a t n := by
  obtain ⟨h1, h2, h3, h4, h5, h6⟩ := x
  exact ⟨by rw [up_i (by omega)]; exact h1, by rw [up_i (by omega)]; exact h2, by rw [up_a h5]; exact h3, by rw [up_a h5]; exact h4, h5, h6⟩
theorem q_X2_byteAt {h : Hp} {a t n i : Int} (x : TX h a t n) (hi : 0 ≤ i) : m_X2_byteAt a i h = some (Bt h t n i) := by
  obtain ⟨h1, h2, h3, h4, h5, h6⟩ := x
  unfold m_X2_byteAt Bt
  rw [h1, h2, if_neg (show ¬ i < 0 by omega)]
  split
  · rfl
  · unfold gd
    rw [if_pos ⟨h3, hi, by omega⟩]
theorem q_X20_byteAt {h : Hp} {a t n i : Int} (x : TX h a t n) (hi : 0 ≤ i) : m_X20_byteAt a i h = some (Bt h t n i) := by
  obtain ⟨h1, h2, h3, h4, h5, h6⟩ := x
  unfold m_X20_byteAt Bt
  rw [h1, h2, if_neg (show ¬ i < 0 by omega)]
  split
  · rfl
  · unfold gd
    rw [if_pos ⟨h3, hi, by omega⟩]
theorem Bt_same {h h' : Hp} {t t' n : Int} (e : ∀ j, 0 ≤ j → j < n → h' t' j = h t j) : Bt h' t' n = Bt h t n := by
  funext i
  unfold Bt
  by_cases h1 : n ≤ i
  · rw [if_pos h1, if_pos h1]
  · rw [if_neg h1, if_neg h1]
    by_cases h2 : i < 0
    · rw [if_pos h2, if_pos h2]
    · rw [if_neg h2, if_neg h2, e i (by omega) (by omega)]
/-- a loop that moves field f of the reader over a row of bytes -/
theorem scan_loop {h : Hp} {a t n f i : Int} {p : Int → Bool} {F : Hp → Option (Hp ⊕ Hp)} (x : TX h a t n) (hf : 2 ≤ f) (hi : h a f = i) (h0 : 0 ≤ i) (hin : i ≤ n + 1) (hp : p (-1) = false)
    (body : ∀ j, i ≤ j → j ≤ n + 1 → F (up h a f j) = if p (Bt h t n j) = true then some (.inl (up (up h a f j) a f (w32 (j + 1)))) else some (.inr (up h a f j))) :
    Pz (lp F h) (fun h' => ∃ j, Sc (Bt h t n) p i j ∧ j ≤ n + 1 ∧ h' = up h a f j) := by
  refine z_lp (I := fun q => ∃ j, q = up h a f j ∧ i ≤ j ∧ j ≤ n + 1 ∧ ∀ x, i ≤ x → x < j → p (Bt h t n x) = true) (μ := fun q => (n + 1 - q a f).toNat) ⟨i, by rw [← hi, up_same], by omega, hin, fun x h1 h2 => by omega⟩ ?_
  rintro q ⟨j, rfl, h1, h2, h3⟩
  rw [body j h1 h2]
  have h6 := x.2.2.2.2.2
  by_cases hc : p (Bt h t n j) = true
  · rw [if_pos hc]
    have hjn : j < n := by
      rcases Int.lt_or_le j n with hh | hh
      · exact hh
      · rw [Bt_e hh, hp] at hc; cases hc
    refine z_some ⟨⟨j + 1, ?_, by omega, by omega, fun y y1 y2 => ?_⟩, ?_⟩
    · rw [up_up, e32 (by omega) (by omega)]
    · rcases Int.lt_or_eq_of_le (show y ≤ j by omega) with hy | hy
      · exact h3 y y1 hy
      · rw [hy]; exact hc
    · show (n + 1 - up (up h a f j) a f (w32 (j + 1)) a f).toNat < (n + 1 - up h a f j a f).toNat
      rw [up_s, up_s, e32 (by omega) (by omega)]
      omega
  · rw [if_neg hc]
    exact z_some ⟨j, ⟨h1, h3, by cases hz : p (Bt h t n j) with | true => exact absurd hz hc | false => rfl⟩, h2, rfl⟩
