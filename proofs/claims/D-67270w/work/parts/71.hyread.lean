set_option maxRecDepth 100000
/-! HYPHENS: the texts are read -/
def Bn (b : Int → Int) (n x : Int) : Int := if x < n then b x else 1000
def isNb (c : Int) : Bool := decide (c ≠ 10 ∧ c ≠ 32 ∧ c ≠ 1000)
theorem bn_bl {b : Int → Int} {n x : Int} (h : n ≤ x) : isBl (Bn b n x) = false := by unfold Bn; rw [if_neg (by omega)]; decide
theorem bn_nb {b : Int → Int} {n x : Int} (h : n ≤ x) : isNb (Bn b n x) = false := by unfold Bn; rw [if_neg (by omega)]; decide
/-- the next word, its end -/
noncomputable def wb (b : Int → Int) (n i : Int) : Int := sc (Bn b n) isBl i
noncomputable def we (b : Int → Int) (n i : Int) : Int := sc (Bn b n) isNb i
theorem wb_s {b : Int → Int} {n i : Int} (hi : i ≤ n) : Sc (Bn b n) isBl i (wb b n i) ∧ i ≤ wb b n i ∧ wb b n i ≤ n := sc_spec (fun x hx => bn_bl hx) hi
theorem we_s {b : Int → Int} {n i : Int} (hi : i ≤ n) : Sc (Bn b n) isNb i (we b n i) ∧ i ≤ we b n i ∧ we b n i ≤ n := sc_spec (fun x hx => bn_nb hx) hi
theorem wb_nb {b : Int → Int} {n i : Int} (hi : i ≤ n) (h : wb b n i < n) : ¬ (b (wb b n i) = 10 ∨ b (wb b n i) = 32) := by
  have := (wb_s (b := b) hi).1.2.2
  unfold Bn isBl at this
  rw [if_pos h] at this
  exact of_decide_eq_false this
theorem we_nb {b : Int → Int} {n i x : Int} (hi : i ≤ n) (h1 : i ≤ x) (h2 : x < we b n i) : ¬ (b x = 10 ∨ b x = 32) := by
  have s := we_s (b := b) hi
  have := s.1.2.1 x h1 h2
  unfold Bn isNb at this
  rw [if_pos (by omega)] at this
  have := of_decide_eq_true this
  omega
theorem we_lt {b : Int → Int} {n i : Int} (hi : i < n) (h : ¬ (b i = 10 ∨ b i = 32)) (r : b i ≤ 127) : i < we b n i := by
  have s := we_s (b := b) (Int.le_of_lt hi)
  rcases Int.lt_or_eq_of_le s.2.1 with z | z
  · exact z
  · have := s.1.2.2
    rw [← z] at this
    unfold Bn isNb at this
    rw [if_pos hi] at this
    have := of_decide_eq_false this
    omega
theorem wb_self {b : Int → Int} {n i : Int} (hi : i < n) (h : ¬ (b i = 10 ∨ b i = 32)) : wb b n i = i := by
  refine sc_of ⟨Int.le_refl i, fun x h1 h2 => by omega, ?_⟩
  unfold Bn isBl
  rw [if_pos hi]
  exact decide_eq_false h
theorem wb_n {b : Int → Int} {n : Int} : wb b n n = n := sc_of ⟨Int.le_refl n, fun x h1 h2 => by omega, bn_bl (Int.le_refl n)⟩
theorem wb_step {b : Int → Int} {n i : Int} (hi : i < n) (h : b i = 10 ∨ b i = 32) : wb b n i = wb b n (i + 1) := by
  have s := wb_s (b := b) (n := n) (i := i + 1) (by omega)
  refine sc_of ⟨by omega, fun x h1 h2 => ?_, s.1.2.2⟩
  by_cases z : x = i
  · unfold Bn isBl
    rw [z, if_pos hi]
    exact decide_eq_true h
  · exact s.1.2.1 x (by omega) h2
theorem q_X9_skip {h : Hp} {a t i n : Int} (t1 : h t (-2) % 16 = 2) (t2 : n ≤ h t (-1)) (i0 : 0 ≤ i) (i1 : i ≤ n) (n1 : n ≤ 16384) : m_X9_skip a t i n h = some (wb (h t) n i) := by
  unfold m_X9_skip
  obtain ⟨j, e1, e2, -⟩ := scan_pure (B := Bn (h t) n) (p := isBl) (F := fun (q : Int) => m_X9_skip_l3 t n q h) (fun x hx => bn_bl hx) i0 i1 n1 (fun j j0 j1 => by
    unfold m_X9_skip_l3 Bn isBl
    by_cases hc : n ≤ j
    · rw [if_pos hc, if_neg (show ¬ j < n by omega), if_neg (by decide)]
    · rw [if_neg hc, if_pos (show j < n by omega)]
      unfold gd
      rw [if_pos ⟨t1, by omega, by omega⟩, q_X1_isBlank, Option.bind_some]
      unfold bI isBl lt_
      grind)
  rw [e1, Option.bind_some, ← sc_of e2]
  rfl
theorem q_X9_wordEnd {h : Hp} {a t i n : Int} (t1 : h t (-2) % 16 = 2) (t2 : n ≤ h t (-1)) (i0 : 0 ≤ i) (i1 : i ≤ n) (n1 : n ≤ 16384) (rb : ∀ j, i ≤ j → j < n → h t j ≤ 127) : m_X9_wordEnd a t i n h = some (we (h t) n i) := by
  unfold m_X9_wordEnd
  obtain ⟨j, e1, e2, -⟩ := scan_pure (B := Bn (h t) n) (p := isNb) (F := fun (q : Int) => m_X9_wordEnd_l3 t n q h) (fun x hx => bn_nb hx) i0 i1 n1 (fun j j0 j1 => by
    unfold m_X9_wordEnd_l3 Bn isNb
    by_cases hc : n ≤ j
    · rw [if_pos hc, if_neg (show ¬ j < n by omega), if_neg (by decide)]
    · rw [if_neg hc, if_pos (show j < n by omega)]
      unfold gd
      rw [if_pos ⟨t1, by omega, by omega⟩, q_X1_isBlank, Option.bind_some]
      have := rb j (by omega) (by omega)
      unfold bI isBl lt_
      grind)
  rw [e1, Option.bind_some, ← sc_of e2]
  rfl
theorem q_X21_wordEnd {h : Hp} {t i n : Int} (t1 : h t (-2) % 16 = 2) (t2 : n ≤ h t (-1)) (i0 : 0 ≤ i) (i1 : i ≤ n) (n1 : n ≤ 16384) (rb : ∀ j, i ≤ j → j < n → h t j ≤ 127) : lp (fun (q : Int) => m_X21_read_l40 t n q h) i = some (we (h t) n i) := by
  obtain ⟨j, e1, e2, -⟩ := scan_pure (B := Bn (h t) n) (p := isNb) (F := fun (q : Int) => m_X21_read_l40 t n q h) (fun x hx => bn_nb hx) i0 i1 n1 (fun j j0 j1 => by
    unfold m_X21_read_l40 Bn isNb
    by_cases hc : n ≤ j
    · rw [if_pos hc, if_neg (show ¬ j < n by omega), if_neg (by decide)]
    · rw [if_neg hc, if_pos (show j < n by omega)]
      unfold gd
      rw [if_pos ⟨t1, by omega, by omega⟩, q_X18_isBlank, Option.bind_some]
      have := rb j (by omega) (by omega)
      unfold bI isBl lt_
      grind)
  rw [e1, ← sc_of e2]
  rfl
/-- the reference goes over blanks one by one -/
theorem t_blanks {h : Hp} {l t n e : Int} (t1 : h t (-2) % 16 = 2) (t2 : n ≤ h t (-1)) (n1 : n ≤ 16384) : ∀ (m : Nat) (i : Int), (n - i).toNat = m → 0 ≤ i → i ≤ n → lp (fun (q : Int × Int × Hp) => m_X21_read_l9 l t n q.1 q.2.1 q.2.2) (i, e, h) = lp (fun (q : Int × Int × Hp) => m_X21_read_l9 l t n q.1 q.2.1 q.2.2) (wb (h t) n i, e, h) := by
  intro m
  induction m with
  | zero =>
    intro i hm i0 i1
    have : i = n := by omega
    rw [this, wb_n]
  | succ m ih =>
    intro i hm i0 i1
    by_cases hb : h t i = 10 ∨ h t i = 32
    · rw [wb_step (by omega) hb, ← ih (i + 1) (by omega) (by omega) (by omega), lp_eq]
      have : m_X21_read_l9 l t n i e h = some (.inl (i + 1, e, h)) := by
        unfold m_X21_read_l9
        rw [if_neg (by omega)]
        unfold gd
        rw [if_pos ⟨t1, by omega, by omega⟩, q_X18_isBlank, Option.bind_some]
        unfold bI isBl lt_
        rw [e32 (by omega) (by omega)]
        grind
      dsimp only
      rw [this]
    · rw [wb_self (by omega) hb]
theorem t_range {h : Hp} {t fr to : Int} (t1 : h t (-2) % 16 = 2) (t2 : to ≤ h t (-1)) (f0 : 0 ≤ fr) (f1 : fr ≤ to) (e1 : to ≤ 16384) (rm : RM h 1 7) :
    Pz (lp (fun (q : Int) => m_X21_read_l65 t fr to q h) fr) (fun r => (r = .inl () ∧ ∀ j, fr ≤ j → j < to → 33 ≤ h t j ∧ h t j ≤ 126) ∨ (∃ rt, r = .inr (.inr (.inr rt)) ∧ Thr 448 fr h rt ∧ ∃ j, fr ≤ j ∧ j < to ∧ ¬ (33 ≤ h t j ∧ h t j ≤ 126))) := by
  refine z_lp (fun x : Int => fr ≤ x ∧ x ≤ to ∧ ∀ j, fr ≤ j → j < x → 33 ≤ h t j ∧ h t j ≤ 126) (fun x => (to - x).toNat) ⟨by omega, f1, fun j j0 j1 => by omega⟩ ?_
  rintro x ⟨x0, x1, x2⟩
  unfold m_X21_read_l65
  try simp (disch := omega) only [up_a, up_e, up_j, e32, e8]
  repeat' first
    | with_reducible refine z_lt ?_
    | (with_reducible refine z_pt ?_; try simp (disch := omega) only [up_a, up_e, up_j, e32, e8])
    | with_reducible refine z_some ?_
    | with_reducible refine z_gd (by (try simp (disch := omega) only [up_a, up_e, up_j, e32, e8]) <;> omega) ?_
    | with_reducible refine z_brk (by assumption) (fun b h1 z => ?_)
    | with_reducible refine z_it (by first | decide | omega) ?_
    | with_reducible refine z_ie (by first | decide | omega) ?_
    | with_reducible refine z_if (fun hq => ?_) (fun hq => ?_)
    | with_reducible refine zc_sm (fun hq => ?_) (fun hq => ?_)
    | with_reducible refine zc_dg (fun hq => ?_) (fun hq => ?_)
    | with_reducible refine zc_bl (fun hq => ?_) (fun hq => ?_)
    | with_reducible refine zt_sm (fun hq => ?_) (fun hq => ?_)
    | with_reducible refine zt_dg (fun hq => ?_) (fun hq => ?_)
    | with_reducible refine zt_bl (fun hq => ?_) (fun hq => ?_)
  · exact Or.inl ⟨rfl, by grind⟩
  · exact Or.inr ⟨_, rfl, z, x, by omega, by omega, by omega⟩
  · exact ⟨⟨by omega, by omega, by grind⟩, by omega⟩
  · exact Or.inr ⟨_, rfl, z, x, by omega, by omega, by omega⟩
