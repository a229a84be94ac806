set_option maxRecDepth 100000
/-! NUMBERS: the component writes them -/
theorem cap_k {p p' : Hp} {b : Int} (f : F2 (b5W b) p p') : p' (b + 1) (-1) = p (b + 1) (-1) := f _ _ (by unfold b5W; omega)
/-- one after the other -/
theorem puts_seq {b : Int} {p p' : Hp} {L A B : List Int} {r : (Int × Int) × Hp} (f : F2 (b5W b) p p') (h : puts b p' (L ++ A) B r) : puts b p L (A ++ B) r := ⟨h.1, f.trans h.2.1, by rw [← List.append_assoc]; exact h.2.2⟩
theorem c_num5 {b cap : Int} (hb : b ∈ in_aX5) : ∀ (k d n : Nat) (p : Hp) (L : List Int), n < 10 ^ (k + 1) → k < d → k ≤ 17 → LAY p → bsL p b L → p (b + 1) (-1) = cap → (L.length : Int) + (k + 1) ≤ cap → cap ≤ 100000 → Pz (m_X5_number d b n p) (puts b p L (decL n)) := by
  intro k
  have dig : ∀ n : Nat, n < 1000000000000000000 → w32 (w64 (48 + Int.tmod (n : Int) 10)) = 48 + ((n % 10 : Nat) : Int) := fun n hn => by
    have : Int.tmod (n : Int) 10 = ((n % 10 : Nat) : Int) := by
      rw [Int.tmod_eq_emod_of_nonneg (by omega)]; omega
    rw [this, e64 (by omega) (by omega), e32 (by omega) (by omega)]
  induction k with
  | zero =>
    intro d n p L hn hd hk hL B hc hl hc2
    obtain ⟨d, rfl⟩ : ∃ d', d = d' + 1 := ⟨d - 1, by omega⟩
    show Pz (b_X5_number (m_X5_number d) b n p) _
    unfold b_X5_number
    refine z_it (lcmp_le.mpr (by omega)) ?_
    rw [dig n (by omega), Nat.mod_eq_of_lt (by omega), decL_1 (by omega)]
    exact puts_bT (c_add5 hL hb B (by omega) (by omega) (by omega) (by omega)) (fun p' f h => puts_ok f h)
  | succ k ih =>
    intro d n p L hn hd hk hL B hc hl hc2
    obtain ⟨d, rfl⟩ : ∃ d', d = d' + 1 := ⟨d - 1, by omega⟩
    have big : n < 1000000000000000000 ∨ k = 17 := by
      by_cases h : k = 17
      · exact Or.inr h
      · left
        have h1 : 10 ^ (k + 1 + 1) ≤ 10 ^ 18 := Nat.pow_le_pow_right (by decide) (by omega)
        have h2 : (10 : Nat) ^ 18 = 1000000000000000000 := by decide
        omega
    have big' : n < 1000000000000000000 := by omega
    show Pz (b_X5_number (m_X5_number d) b n p) _
    unfold b_X5_number
    by_cases h9 : n < 10
    · refine z_it (lcmp_le.mpr (by omega)) ?_
      rw [dig n (by omega), Nat.mod_eq_of_lt (by omega), decL_1 h9]
      exact puts_bT (c_add5 hL hb B (by omega) (by omega) (by omega) (by omega)) (fun p' f h => puts_ok f h)
    · refine z_ie (fun z => by have := lcmp_le.mp z; omega) ?_
      have td : w64 (Int.tdiv (n : Int) 10) = ((n / 10 : Nat) : Int) := by
        rw [Int.tdiv_eq_ediv_of_nonneg (by omega), e64 (by omega) (by omega)]; omega
      rw [td, dig n big', decL_2 h9]
      refine puts_bT (ih d (n / 10) p L (by rw [Nat.pow_succ] at hn; omega) (by omega) (by omega) hL B hc (by omega) hc2) (fun p' f h => ?_)
      have ln := decL_len k (n / 10) (by rw [Nat.pow_succ] at hn; omega)
      refine puts_bT (c_add5 (b5W_l hL hb f) hb h (by rw [cap_k f, List.length_append]; omega) (by rw [cap_k f]; omega) (by omega) (by omega)) (fun p'' f' h' => ?_)
      exact puts_ok (f.trans f') (by rw [← List.append_assoc]; exact h')
theorem c_digit7 {p : Hp} {b cap o f t : Int} {d : Nat} {L : List Int} (hL : LAY p) (hb : b ∈ in_aX5) (B : bsL p b L) (hc : p (b + 1) (-1) = cap) (hl : (L.length : Int) + 5 ≤ cap) (hc2 : cap ≤ 100000) (hd : d ≤ 9) (o0 : 0 ≤ o ∧ o ≤ 127) (f0 : 0 ≤ f ∧ f ≤ 127) (t0 : 0 ≤ t ∧ t ≤ 127) : Pz (m_X7_digit b d o f t p) (puts b p L (dgL d o f t)) := by
  have kd := (ly_X5 hL hb).1
  have two : ∀ x, (x = if d = 9 then t else f) → (d = 9 ∨ d = 4) → Pz (m_X7_digit_j11 b d o f t p) (puts b p L [o, x]) := by
    intro x hx hd2
    unfold m_X7_digit_j11
    refine z_gd kd (puts_bT (c_add5 hL hb B (by omega) (by omega) (by omega) (by omega)) (fun p' f1 h1 => ?_))
    have L1 := b5W_l hL hb f1
    have c1 := cap_k f1
    by_cases h9 : d = 9
    · rw [if_pos h9] at hx
      refine z_ie (fun z => z (by omega)) (puts_bT (c_add5 L1 hb h1 (by rw [c1, List.length_append]; show ((L.length + 1 : Nat) : Int) < _; omega) (by omega) (by omega) (by omega)) (fun p'' f2 h2 => ?_))
      rw [hx]
      exact puts_ok (f1.trans f2) (by rw [List.append_assoc] at h2; exact h2)
    · rw [if_neg h9] at hx
      refine z_it (by omega) (puts_bT (c_add5 L1 hb h1 (by rw [c1, List.length_append]; show ((L.length + 1 : Nat) : Int) < _; omega) (by omega) (by omega) (by omega)) (fun p'' f2 h2 => ?_))
      rw [hx]
      exact puts_ok (f1.trans f2) (by rw [List.append_assoc] at h2; exact h2)
  have many : ∀ (p : Hp) (L : List Int), LAY p → bsL p b L → p (b + 1) (-1) = cap → (L.length : Int) + 4 ≤ cap → Pz (m_X7_digit_j43 b d o p) (puts b p L (List.replicate (d % 5) o)) := by
    intro p L hL B hc hl
    unfold m_X7_digit_j43
    have td : Int.tmod (d : Int) 5 = ((d % 5 : Nat) : Int) := by
      rw [Int.tmod_eq_emod_of_nonneg (by omega)]; omega
    refine z_lt (z_bind (z_mono (z_lp (Q := puts b p L (List.replicate (d % 5) o)) (fun (s : Int × Hp) => ∃ k : Nat, s.1 = k ∧ k ≤ d % 5 ∧ F2 (b5W b) p s.2 ∧ bsL s.2 b (L ++ List.replicate k o)) (fun s => (((d % 5 : Nat) : Int) - s.1).toNat) ⟨0, rfl, Nat.zero_le _, F2.refl, by show bsL p b (L ++ []); rw [List.append_nil]; exact B⟩ ?_) (fun r hr => z_some hr)))
    rintro ⟨x, q⟩ ⟨k, ex, k1, Fq, Bq⟩
    dsimp only at ex
    subst ex
    replace Fq : F2 (b5W b) p q := Fq
    show Pz (m_X7_digit_l46 b d o k q) _
    unfold m_X7_digit_l46
    rw [td]
    by_cases hk : ((d % 5 : Nat) : Int) ≤ k
    · have : k = d % 5 := by omega
      subst this
      exact z_it hk (z_some ⟨rfl, Fq, Bq⟩)
    · have Lq := b5W_l hL hb Fq
      have cq := cap_k Fq
      refine z_ie hk (z_gd (ly_X5 Lq hb).1 (puts_bT (c_add5 Lq hb Bq (by rw [cq, List.length_append, List.length_replicate]; omega) (by omega) (by omega) (by omega)) (fun p' f1 h1 => z_lt (z_some ?_))))
      rw [e32 (by omega) (by omega)]
      refine ⟨⟨k + 1, by dsimp only; omega, by omega, Fq.trans f1, ?_⟩, by dsimp only; omega⟩
      dsimp only
      rw [List.replicate_succ', ← List.append_assoc]; exact h1
  unfold m_X7_digit dgL
  by_cases h9 : d = 9
  · rw [if_pos h9]
    exact z_it (by omega) (two t (by rw [if_pos h9]) (Or.inl h9))
  · rw [if_neg h9]
    refine z_ie (by omega) ?_
    by_cases h4 : d = 4
    · rw [if_pos h4]
      exact z_ie (fun z => z (by omega)) (two f (by rw [if_neg h9]) (Or.inr h4))
    · rw [if_neg h4]
      refine z_it (by omega) ?_
      by_cases h5 : 5 ≤ d
      · rw [if_pos h5]
        refine z_ie (by omega) (z_gd kd (puts_bT (c_add5 hL hb B (by omega) (by omega) (by omega) (by omega)) (fun p' f1 h1 => ?_)))
        have L1 := b5W_l hL hb f1
        have c1 := cap_k f1
        exact z_mono (many p' (L ++ [f]) L1 h1 (by omega) (by rw [List.length_append]; show ((L.length + 1 : Nat) : Int) + 4 ≤ _; omega)) (fun r hr => puts_seq f1 hr)
      · rw [if_neg h5]
        refine z_it (by omega) ?_
        show Pz _ (puts b p L ([] ++ List.replicate (d % 5) o))
        rw [List.nil_append]
        exact many p L hL B hc (by omega)
theorem c_rom1 {p : Hp} {b cap r : Int} {m : Nat} {L : List Int} (hL : LAY p) (hb : b ∈ in_aX5) (B : bsL p b L) (hc : p (b + 1) (-1) = cap) (hl : (L.length : Int) + 3 ≤ cap) (hc2 : cap ≤ 100000) (hm : m ≤ 3) (r0 : 0 ≤ r) (r1 : r < 1000) :
    Pz (lp (fun (q : Int × Hp) => m_X7_roman_l2 b q.1 q.2) (1000 * m + r, p)) (fun x => ∃ q, x = .inl (r, q) ∧ F2 (b5W b) p q ∧ bsL q b (L ++ List.replicate m 109)) := by
  refine z_lp (fun (s : Int × Hp) => ∃ k : Nat, k ≤ m ∧ s.1 = 1000 * ((m : Int) - k) + r ∧ F2 (b5W b) p s.2 ∧ bsL s.2 b (L ++ List.replicate k 109)) (fun s => s.1.toNat) ⟨0, Nat.zero_le _, by dsimp only; omega, F2.refl, by show bsL p b (L ++ []); rw [List.append_nil]; exact B⟩ ?_
  rintro ⟨x, q⟩ ⟨k, k1, ex, Fq, Bq⟩
  dsimp only at ex
  replace Fq : F2 (b5W b) p q := Fq
  show Pz (m_X7_roman_l2 b x q) _
  unfold m_X7_roman_l2
  by_cases hx : x < 1000
  · have : k = m := by omega
    subst this
    have xr : x = r := by omega
    subst xr
    exact z_it hx (z_some ⟨q, rfl, Fq, Bq⟩)
  · have Lq := b5W_l hL hb Fq
    have cq := cap_k Fq
    refine z_ie hx (z_gd (ly_X5 Lq hb).1 (puts_bT (c_add5 Lq hb Bq (by rw [cq, List.length_append, List.length_replicate]; omega) (by omega) (by decide) (by decide)) (fun p' f1 h1 => z_lt (z_some ?_))))
    rw [e32 (by omega) (by omega)]
    refine ⟨⟨k + 1, by omega, by dsimp only; omega, Fq.trans f1, ?_⟩, by dsimp only; omega⟩
    dsimp only
    rw [List.replicate_succ', ← List.append_assoc]; exact h1
theorem c_rom2 {q : Hp} {b cap : Int} {d1 d2 d3 : Nat} {L : List Int} (Lq : LAY q) (hb : b ∈ in_aX5) (Bq : bsL q b L) (hc : q (b + 1) (-1) = cap) (hl : (L.length : Int) + 15 ≤ cap) (hc2 : cap ≤ 100000) (h1 : d1 ≤ 9) (h2 : d2 ≤ 9) (h3 : d3 ≤ 9) :
    Pz (bT (m_X7_digit b d1 99 100 109 q) (fun _ h35 => bT (m_X7_digit b d2 120 108 99 h35) (fun _ h52 => bT (m_X7_digit b d3 105 118 120 h52) (fun _ h66 => some (((0 : Int), (0 : Int)), h66)) (fun a_ h_ => some ((1, a_), h_))) (fun a_ h_ => some ((1, a_), h_))) (fun a_ h_ => some ((1, a_), h_))) (puts b q L (dgL d1 99 100 109 ++ (dgL d2 120 108 99 ++ dgL d3 105 118 120))) := by
  have e1 := dgL_len (d := d1) (o := 99) (f := 100) (t := 109)
  have e2 := dgL_len (d := d2) (o := 120) (f := 108) (t := 99)
  refine puts_bT (c_digit7 Lq hb Bq hc (by omega) hc2 h1 (by decide) (by decide) (by decide)) (fun p1 f1 g1 => ?_)
  have L1 := b5W_l Lq hb f1
  have c1 : p1 (b + 1) (-1) = cap := (cap_k f1).trans hc
  have l1 : ((L ++ dgL d1 99 100 109).length : Int) ≤ L.length + 5 := by rw [List.length_append]; omega
  generalize dgL d1 99 100 109 = A1 at *
  refine puts_bT (c_digit7 L1 hb g1 c1 (by omega) hc2 h2 (by decide) (by decide) (by decide)) (fun p2 f2 g2 => ?_)
  have L2 := b5W_l L1 hb f2
  have c2 : p2 (b + 1) (-1) = cap := (cap_k f2).trans c1
  have l2 : ((L ++ A1 ++ dgL d2 120 108 99).length : Int) ≤ L.length + 10 := by rw [List.length_append]; omega
  generalize dgL d2 120 108 99 = A2 at *
  refine puts_bT (c_digit7 L2 hb g2 c2 (by omega) hc2 h3 (by decide) (by decide) (by decide)) (fun p3 f3 g3 => ?_)
  refine puts_ok ((f1.trans f2).trans f3) ?_
  rw [← List.append_assoc, ← List.append_assoc]; exact g3
theorem c_rom3a {p : Hp} {b cap r : Int} {m x1 x2 x3 : Nat} {L : List Int} (hL : LAY p) (hb : b ∈ in_aX5) (B : bsL p b L) (hc : p (b + 1) (-1) = cap) (hl : (L.length : Int) + 18 ≤ cap) (hc2 : cap ≤ 100000) (m3 : m ≤ 3) (r0 : 0 ≤ r) (r1 : r < 1000) (A : List Int) 
   (K : ∀ q, LAY q → bsL q b (L ++ List.replicate m 109) → q (b + 1) (-1) = cap → Pz (bT (m_X7_digit b (w32 (Int.tdiv r 100)) 99 100 109 q) (fun _ h35 =>
  bT (m_X7_digit b (Int.tmod (w32 (Int.tdiv r 10)) 10) 120 108 99 h35) (fun _ h52 =>
  bT (m_X7_digit b (Int.tmod r 10) 105 118 120 h52) (fun _ h66 =>
  some (((0 : Int), (0 : Int)), h66)) (fun a_ h_ => some ((1, a_), h_))) (fun a_ h_ => some ((1, a_), h_))) (fun a_ h_ => some ((1, a_), h_))) (puts b q (L ++ List.replicate m 109) A)) : Pz (m_X7_roman b (1000 * m + r) p) (puts b p L (List.replicate m 109 ++ A)) := by
  unfold m_X7_roman
  obtain ⟨x, ex, q, rfl, Fq, Bq⟩ := c_rom1 (r := r) (m := m) hL hb B hc (by omega) hc2 m3 r0 r1
  rw [ex, Option.bind_some]
  have Lq := b5W_l hL hb Fq
  have cq : q (b + 1) (-1) = cap := (cap_k Fq).trans hc
  exact z_mono (K q Lq Bq cq) (fun r hr => puts_seq Fq hr)
theorem c_rom3 {p : Hp} {b cap : Int} {m x1 x2 x3 : Nat} {L : List Int} (hL : LAY p) (hb : b ∈ in_aX5) (B : bsL p b L) (hc : p (b + 1) (-1) = cap) (hl : (L.length : Int) + 18 ≤ cap) (hc2 : cap ≤ 100000) (m3 : m ≤ 3) (d1 : x1 ≤ 9) (d2 : x2 ≤ 9) (d3 : x3 ≤ 9) : Pz (m_X7_roman b (1000 * m + (100 * x1 + 10 * x2 + x3)) p) (puts b p L (List.replicate m 109 ++ (dgL x1 99 100 109 ++ (dgL x2 120 108 99 ++ dgL x3 105 118 120)))) := by
  have r0 : (0 : Int) ≤ 100 * x1 + 10 * x2 + x3 := by omega
  have r1 : (100 * x1 + 10 * x2 + x3 : Int) < 1000 := by omega
  have t1 : w32 (Int.tdiv (100 * x1 + 10 * x2 + x3 : Int) 100) = x1 := by
    rw [Int.tdiv_eq_ediv_of_nonneg r0, e32 (by omega) (by omega)]; omega
  have t2 : Int.tmod (w32 (Int.tdiv (100 * x1 + 10 * x2 + x3 : Int) 10)) 10 = x2 := by
    rw [Int.tdiv_eq_ediv_of_nonneg r0, e32 (by omega) (by omega), Int.tmod_eq_emod_of_nonneg (by omega)]; omega
  have t3 : Int.tmod (100 * x1 + 10 * x2 + x3 : Int) 10 = x3 := by
    rw [Int.tmod_eq_emod_of_nonneg r0]; omega
  refine c_rom3a (x1 := x1) (x2 := x2) (x3 := x3) hL hb B hc hl hc2 m3 r0 r1 _ (fun q Lq Bq cq => ?_)
  rw [t1, t2, t3]
  exact c_rom2 Lq hb Bq cq (by rw [List.length_append, List.length_replicate]; omega) hc2 d1 d2 d3
theorem c_roman7 {p : Hp} {b cap : Int} {n : Nat} {L : List Int} (hL : LAY p) (hb : b ∈ in_aX5) (B : bsL p b L) (hc : p (b + 1) (-1) = cap) (hl : (L.length : Int) + 18 ≤ cap) (hc2 : cap ≤ 100000) (hn : n ≤ 3999) : Pz (m_X7_roman b n p) (puts b p L (romL n)) := by
  have key := c_rom3 (m := n / 1000) (x1 := n / 100 % 10) (x2 := n / 10 % 10) (x3 := n % 10) hL hb B hc hl hc2 (by omega) (by omega) (by omega) (by omega)
  have en : (1000 * ((n / 1000 : Nat) : Int) + (100 * ((n / 100 % 10 : Nat) : Int) + 10 * ((n / 10 % 10 : Nat) : Int) + ((n % 10 : Nat) : Int))) = n := by omega
  rw [en] at key
  unfold romL
  exact key
theorem c_let7 {b cap : Int} (hb : b ∈ in_aX5) : ∀ (k d n : Nat) (p : Hp) (L : List Int), n < 26 ^ (k + 1) → 1 ≤ n → k < d → k ≤ 5 → LAY p → bsL p b L → p (b + 1) (-1) = cap → (L.length : Int) + (k + 1) ≤ cap → cap ≤ 100000 → Pz (m_X7_letters d b n p) (puts b p L (letL n)) := by
  intro k
  have last : ∀ (n : Nat) (p : Hp) (L : List Int), 1 ≤ n → n < 400000000 → LAY p → bsL p b L → p (b + 1) (-1) = cap → (L.length : Int) + 1 ≤ cap → cap ≤ 100000 → Pz (m_X7_letters_j16 n b p) (puts b p L [97 + (((n - 1) % 26 : Nat) : Int)]) := by
    intro n p L n1 n2 hL B hc hl hc2
    unfold m_X7_letters_j16
    have : w32 (97 + Int.tmod (w32 ((n : Int) - 1)) 26) = 97 + (((n - 1) % 26 : Nat) : Int) := by
      rw [e32 (x := (n : Int) - 1) (by omega) (by omega), Int.tmod_eq_emod_of_nonneg (by omega), e32 (by omega) (by omega)]; omega
    rw [this]
    exact z_gd (ly_X5 hL hb).1 (puts_bT (c_add5 hL hb B (by omega) (by omega) (by omega) (by omega)) (fun p' f h => puts_ok f h))
  have hn_ : ∀ j : Nat, j ≤ 5 → 26 ^ (j + 1) ≤ 308915776 := fun j hj => by
    have h1 : 26 ^ (j + 1) ≤ 26 ^ 6 := Nat.pow_le_pow_right (by decide) (by omega)
    have h2 : (26 : Nat) ^ 6 = 308915776 := by decide
    omega
  induction k with
  | zero =>
    intro d n p L hn n1 hd hk hL B hc hl hc2
    obtain ⟨d, rfl⟩ : ∃ d', d = d' + 1 := ⟨d - 1, by omega⟩
    show Pz (b_X7_letters (m_X7_letters d) b n p) _
    unfold b_X7_letters
    have z0 : w32 (Int.tdiv (w32 ((n : Int) - 1)) 26) = 0 := by
      rw [e32 (x := (n : Int) - 1) (by omega) (by omega), Int.tdiv_eq_ediv_of_nonneg (by omega), e32 (by omega) (by omega)]; omega
    rw [z0, letL_1 (by omega)]
    exact z_lt (z_it (by decide) (last n p L n1 (by omega) hL B hc (by omega) hc2))
  | succ k ih =>
    intro d n p L hn n1 hd hk hL B hc hl hc2
    obtain ⟨d, rfl⟩ : ∃ d', d = d' + 1 := ⟨d - 1, by omega⟩
    have hb2 := hn_ (k + 1) hk
    show Pz (b_X7_letters (m_X7_letters d) b n p) _
    unfold b_X7_letters
    have z0 : w32 (Int.tdiv (w32 ((n : Int) - 1)) 26) = (((n - 1) / 26 : Nat) : Int) := by
      rw [e32 (x := (n : Int) - 1) (by omega) (by omega), Int.tdiv_eq_ediv_of_nonneg (by omega), e32 (by omega) (by omega)]; omega
    rw [z0]
    refine z_lt ?_
    by_cases h0 : (n - 1) / 26 = 0
    · rw [letL_1 h0]
      exact z_it (by omega) (last n p L n1 (by omega) hL B hc (by omega) hc2)
    · rw [letL_2 h0]
      refine z_ie (by omega) (puts_bT (ih d ((n - 1) / 26) p L (by rw [Nat.pow_succ] at hn; omega) (by omega) (by omega) (by omega) hL B hc (by omega) hc2) (fun p' f h => ?_))
      have ln := letL_len k ((n - 1) / 26) (by rw [Nat.pow_succ] at hn; omega)
      exact z_mono (last n p' _ n1 (by omega) (b5W_l hL hb f) h (by rw [cap_k f]; exact hc) (by rw [List.length_append]; omega) hc2) (fun r hr => puts_seq f hr)
/-- a number in its form -/
theorem c_write7 {p : Hp} {b cap how : Int} {v : Nat} {L : List Int} (hL : LAY p) (hb : b ∈ in_aX5) (B : bsL p b L) (hc : p (b + 1) (-1) = cap) (hl : (L.length : Int) + 18 ≤ cap) (hc2 : cap ≤ 100000) (hv : v ≤ 1000000) : Pz (m_X7_write b how v p) (puts b p L (fmL how v)) := by
  have kd := (ly_X5 hL hb).1
  have dec : Pz (gd (p b (-2) = 80) (bT (m_X5_number 24 b v p) (fun _ h46 => some (((0 : Int), (0 : Int)), h46)) (fun a_ h_ => some ((1, a_), h_)))) (puts b p L (decL v)) :=
    z_gd kd (puts_bT (c_num5 hb 6 24 v p L (by omega) (by decide) (by decide) hL B hc (by omega) hc2) (fun p' f h => puts_ok f h))
  have j25 : (fmL how v = if how = 2 ∧ 1 ≤ v then letL v else decL v) → Pz (m_X7_write_j25 b how v p) (puts b p L (fmL how v)) := by
    intro hf
    by_cases h2 : how = 2
    · by_cases h1 : (v : Int) < 1
      · have e : fmL how v = decL v := by rw [hf, if_neg (by omega)]
        rw [e]
        unfold m_X7_write_j25
        exact z_ie (fun z => z h2) (z_it h1 dec)
      · have e : fmL how v = letL v := by rw [hf, if_pos ⟨h2, by omega⟩]
        rw [e]
        unfold m_X7_write_j25
        exact z_ie (fun z => z h2) (z_ie h1 (puts_bT (c_let7 hb 5 12 v p L (by omega) (by omega) (by decide) (by decide) hL B hc (by omega) hc2) (fun p' f h => puts_ok f h)))
    · have e : fmL how v = decL v := by rw [hf, if_neg (fun z => h2 z.1)]
      rw [e]
      unfold m_X7_write_j25
      exact z_it h2 dec
  unfold m_X7_write
  by_cases h1 : how = 1
  · refine z_ie (fun z => z h1) ?_
    by_cases hv1 : (v : Int) < 1
    · exact z_it hv1 (j25 (by unfold fmL; rw [if_neg (by omega)]))
    · refine z_ie hv1 ?_
      by_cases hv2 : (3999 : Int) < v
      · exact z_it hv2 (j25 (by unfold fmL; rw [if_neg (by omega)]))
      · have : fmL how v = romL v := by unfold fmL; rw [if_pos ⟨h1, by omega, by omega⟩]
        rw [this]
        exact z_ie hv2 (puts_bT (c_roman7 hL hb B hc hl hc2 (by omega)) (fun p' f h => puts_ok f h))
  · exact z_it h1 (j25 (by unfold fmL; rw [if_neg (fun z => h1 z.1)]))
