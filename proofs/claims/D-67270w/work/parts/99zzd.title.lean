set_option maxRecDepth 100000
/-! TITLES: blanks are taken together, 40 bytes at most -/
def ttS (s : List Int × Bool) (c : Int) : List Int × Bool := if c = 10 ∨ c = 32 then (s.1, decide (0 < s.1.length)) else if s.2 = true then (s.1 ++ [32, c], false) else (s.1 ++ [c], false)
def ttL (s : List Int × Bool) (b : List Int) : List Int × Bool := b.foldl ttS s
/-- what is kept in the end -/
def ttF (L : List Int) : List Int := if (L.take 40).getLast? = some 32 then (L.take 40).dropLast else L.take 40
theorem ttL_nil {s : List Int × Bool} : ttL s [] = s := rfl
theorem ttL_app {s : List Int × Bool} {a b : List Int} : ttL s (a ++ b) = ttL (ttL s a) b := List.foldl_append
theorem ttL_one {s : List Int × Bool} {c : Int} : ttL s [c] = ttS s c := rfl
theorem ttS_pre (s : List Int × Bool) (c : Int) : ∃ A, (ttS s c).1 = s.1 ++ A := by
  unfold ttS
  split
  · exact ⟨[], by rw [List.append_nil]⟩
  · split
    · exact ⟨_, rfl⟩
    · exact ⟨_, rfl⟩
theorem ttL_pre : ∀ (b : List Int) (s : List Int × Bool), ∃ A, (ttL s b).1 = s.1 ++ A
  | [], s => ⟨[], by rw [List.append_nil]; rfl⟩
  | c :: b, s => by
    obtain ⟨A, hA⟩ := ttS_pre s c
    obtain ⟨B, hB⟩ := ttL_pre b (ttS s c)
    refine ⟨A ++ B, ?_⟩
    show (ttL (ttS s c) b).1 = _
    rw [hB, hA, List.append_assoc]
theorem ttF_full {L A : List Int} (h : 40 ≤ L.length) : ttF (L ++ A) = ttF L := by
  unfold ttF
  rw [List.take_append_of_le_length h]
/-- once it is full, what follows doesn't matter -/
theorem ttF_end {s : List Int × Bool} {b : List Int} (h : 40 ≤ s.1.length) : ttF (ttL s b).1 = ttF s.1 := by
  obtain ⟨A, hA⟩ := ttL_pre b s
  rw [hA, ttF_full h]
theorem ttL_len {s : List Int × Bool} {b : List Int} : s.1.length ≤ (ttL s b).1.length := by
  obtain ⟨A, hA⟩ := ttL_pre b s
  rw [hA, List.length_append]; omega
theorem ttF_last {L : List Int} {c : Int} (h : (L ++ [c]).length ≤ 40) (hc : c ≠ 32) : ttF (L ++ [c]) = L ++ [c] := by
  unfold ttF
  rw [List.take_of_length_le h, List.getLast?_append, List.getLast?_singleton, Option.some_or, if_neg (fun z => hc (Option.some.inj z))]
theorem ttF_cut {L : List Int} {c : Int} (h : L.length = 39) : ttF (L ++ [32, c]) = L := by
  have e : (L ++ [32, c]).take 40 = L ++ [32] := by
    rw [show L ++ [32, c] = (L ++ [32]) ++ [c] by rw [List.append_assoc]; rfl, List.take_append_of_le_length (by rw [List.length_append, List.length_singleton]; omega), List.take_of_length_le (by rw [List.length_append, List.length_singleton]; omega)]
  unfold ttF
  rw [e, List.getLast?_append, List.getLast?_singleton, Option.some_or, if_pos rfl, List.dropLast_concat]
theorem ttF_len {L : List Int} : (ttF L).length ≤ 40 := by
  unfold ttF
  split
  · rw [List.length_dropLast, List.length_take]; omega
  · rw [List.length_take]; omega
/-! the component -/
def ttP (p : Hp) (a : Int) (C : List Int) (s : List Int × Bool) : Prop := (s.1.length < 40 ∧ p a 19 = s.1.length ∧ C = s.1 ∧ p a 20 = bI s.2) ∨ (40 ≤ s.1.length ∧ p a 19 = 40 ∧ C = ttF s.1)
def ttC (p : Hp) (a b : Int) (L : List Int) (s : List Int × Bool) : Prop := ∃ C, bsL p b (L ++ C) ∧ ttP p a C s
def ttW (a b : Int) : Int → Int → Prop := fun x j => b5W b x j ∨ (x = a ∧ (j = 19 ∨ j = 20))
theorem ttP.end_ {p : Hp} {a : Int} {C : List Int} {s : List Int × Bool} (h : ttP p a C s) : (p a 19 = 40 ↔ 40 ≤ s.1.length) := by
  rcases h with ⟨h1, h2, -⟩ | ⟨h1, h2, -⟩ <;> omega
theorem aX5' {a b : Int} (ha : a ∈ in_aX7) (hb : b ∈ in_aX5) : b + 1 < a ∨ a + 14 < b := by
  simp only [in_aX5, List.mem_cons, List.not_mem_nil, or_false] at hb
  rcases aX7 ha with rfl | rfl <;> omega
theorem ttW_l {h h' : Hp} {a b : Int} (hL : LAY h) (ha : a ∈ in_aX7) (hb : b ∈ in_aX5) (f : F2 (ttW a b) h h') : LAY h' := by
  have key : ∀ x j, ttW a b x j → 0 ≤ j ∧ ((∃ r ∈ [(b + 1, b + 1)], r.1 ≤ x ∧ x ≤ r.2) ∨ ∃ e ∈ [(b, [1]), (a, [19, 20])], x = e.1 ∧ j ∈ e.2) := by
    intro x j z
    have j0 : 0 ≤ j := by unfold ttW b5W at z; omega
    refine ⟨j0, ?_⟩
    rcases z with (⟨rfl, z⟩ | ⟨rfl, -⟩) | ⟨rfl, z⟩
    · exact Or.inr ⟨(x, [1]), by simp, rfl, by simp; omega⟩
    · exact Or.inl ⟨(b + 1, b + 1), by simp, by dsimp only; omega, by dsimp only; omega⟩
    · exact Or.inr ⟨(x, [19, 20]), by simp, rfl, by simp; omega⟩
  simp only [in_aX5, List.mem_cons, List.not_mem_nil, or_false] at hb
  refine lay_W hL f _ _ ?_ ?_ key
  · rcases aX7 ha with rfl | rfl <;> rcases hb with rfl | rfl | rfl | rfl | rfl | rfl | rfl | rfl | rfl | rfl | rfl <;> decide +kernel
  · rcases aX7 ha with rfl | rfl <;> rcases hb with rfl | rfl | rfl | rfl | rfl | rfl | rfl | rfl | rfl | rfl | rfl <;> decide +kernel
theorem bsL.kept {p p' : Hp} {b : Int} {L : List Int} (B : bsL p b L) (e0 : p' b 1 = p b 1) (e1 : p' (b + 1) = p (b + 1)) : bsL p' b L := by
  unfold bsL at *
  rw [e0, wd_h e1]; exact B
def ttQ (a b : Int) (p : Hp) (L : List Int) (s : List Int × Bool) (r : (Int × Int) × Hp) : Prop := r.1 = (0, 0) ∧ F2 (ttW a b) p r.2 ∧ ttC r.2 a b L s
theorem ttOk {a b : Int} {p g : Hp} {L C : List Int} {s : List Int × Bool} (f : F2 (ttW a b) p g) (h : bsL g b (L ++ C)) (k : ttP g a C s) : Pz (some (((0 : Int), (0 : Int)), g)) (ttQ a b p L s) := z_some ⟨rfl, f, C, h, k⟩
/-- a byte of a title, the component -/
theorem c_put7 {p : Hp} {a b cap c : Int} {L : List Int} {s : List Int × Bool} (hL : LAY p) (ha : a ∈ in_aX7) (hb : b ∈ in_aX5) (B : ttC p a b L s) (hc : p (b + 1) (-1) = cap) (hl : (L.length : Int) + 40 ≤ cap) (hc2 : cap ≤ 100000) (c0 : -128 ≤ c) (c1 : c ≤ 127) :
    Pz (m_X7_putTitle a b c p) (ttQ a b p L (ttS s c)) := by
  have dj := aX5' ha hb
  obtain ⟨C, B1, B2⟩ := B
  unfold m_X7_putTitle m_X7_isFull
  by_cases hf : p a 19 = 40
  · refine z_bind (z_ie (fun z => z hf) (z_some (z_ie (by decide) (ttOk F2.refl B1 ?_))))
    have h40 := B2.end_.mp hf
    obtain ⟨A, hA⟩ := ttS_pre s c
    refine Or.inr ⟨by rw [hA, List.length_append]; omega, hf, ?_⟩
    rcases B2 with z | z
    · omega
    · rw [hA, ttF_full h40]; exact z.2.2
  · have hz : s.1.length < 40 ∧ p a 19 = s.1.length ∧ C = s.1 ∧ p a 20 = bI s.2 := by
      rcases B2 with z | z
      · exact z
      · exact absurd z.2.1 hf
    obtain ⟨s1, s2, rfl, s4⟩ := hz
    refine z_bind (z_it hf (z_some (z_it rfl ?_)))
    have nl : ((L ++ s.1).length : Int) = L.length + s.1.length := by rw [List.length_append]; omega
    refine zc_bl (fun bl => ?_) (fun bl => ?_)
    · refine z_ie (by decide) ?_
      have eS : ttS s c = (s.1, decide (0 < s.1.length)) := by unfold ttS; rw [if_pos bl]
      rw [eS]
      by_cases h0 : p a 19 ≤ 0
      · refine z_it h0 (z_pt (ttOk (F2.refl.put (Or.inr ⟨rfl, Or.inr rfl⟩)) (B1.kept (up_a (by omega)) (up_row (by omega))) (Or.inl ⟨s1, by rw [up_j (by decide)]; exact s2, rfl, ?_⟩)))
        rw [up_s]
        have : decide (0 < s.1.length) = false := decide_eq_false (by omega)
        dsimp only
        rw [this]; rfl
      · refine z_ie h0 (z_pt (ttOk (F2.refl.put (Or.inr ⟨rfl, Or.inr rfl⟩)) (B1.kept (up_a (by omega)) (up_row (by omega))) (Or.inl ⟨s1, by rw [up_j (by decide)]; exact s2, rfl, ?_⟩)))
        rw [up_s]
        have : decide (0 < s.1.length) = true := decide_eq_true (by omega)
        dsimp only
        rw [this]; rfl
    · refine z_it rfl ?_
      -- the byte itself
      have j83 : ∀ (g : Hp) (A : List Int), F2 (ttW a b) p g → bsL g b (L ++ (s.1 ++ A)) → g a 19 = (s.1 ++ A).length → (s.1 ++ A).length < 40 → ttS s c = (s.1 ++ (A ++ [c]), false) → Pz (m_X7_putTitle_j83 a b c g) (ttQ a b p L (ttS s c)) := by
        intro g A Fg Bg g19 lA eS
        have Lg := ttW_l hL ha hb Fg
        have capg : g (b + 1) (-1) = cap := by rw [Fg _ _ (by unfold ttW b5W; omega)]; exact hc
        unfold m_X7_putTitle_j83
        refine z_pt ?_
        have f1 : F2 (ttW a b) p (up g a 20 0) := Fg.put (Or.inr ⟨rfl, Or.inr rfl⟩)
        have L1 := ttW_l hL ha hb f1
        have nl2 : ((L ++ (s.1 ++ A)).length : Int) = L.length + (s.1 ++ A).length := by rw [List.length_append]; omega
        refine z_gd (ly_X5 L1 hb).1 (puts_bT (c_add5 L1 hb (Bg.kept (up_a (by omega)) (up_row (by omega))) (by rw [up_row (by omega), capg]; omega) (by rw [up_row (by omega), capg]; omega) c0 c1) (fun p' f h => z_pt (ttOk (C := s.1 ++ (A ++ [c])) ((f1.trans (f.mono (fun x j z => Or.inl z))).put (Or.inr ⟨rfl, Or.inl rfl⟩)) ?_ ?_)))
        · have : bsL p' b (L ++ (s.1 ++ (A ++ [c]))) := by
            rw [← List.append_assoc s.1, ← List.append_assoc]; exact h
          exact this.kept (up_a (by omega)) (up_row (by omega))
        · have t19 : p' a 19 = (s.1 ++ A).length := by rw [f _ _ (by unfold b5W; omega), up_j (by decide)]; exact g19
          have t20 : p' a 20 = 0 := by rw [f _ _ (by unfold b5W; omega), up_s]
          have l1 : (s.1 ++ (A ++ [c])).length = (s.1 ++ A).length + 1 := by rw [← List.append_assoc, List.length_append, List.length_singleton]
          rw [eS]
          have v19 : up p' a 19 (w32 (p' a 19 + 1)) a 19 = (s.1 ++ (A ++ [c])).length := by
            rw [up_s, t19, e32 (by omega) (by omega), l1]; omega
          by_cases h40 : (s.1 ++ (A ++ [c])).length < 40
          · exact Or.inl ⟨h40, v19, rfl, by rw [up_j (by decide)]; exact t20⟩
          · refine Or.inr ⟨by dsimp only; omega, by rw [v19]; omega, ?_⟩
            dsimp only
            rw [← List.append_assoc, ttF_last (by rw [List.append_assoc]; omega) (by omega)]
      by_cases hd : p a 20 = 0
      · have s20 : s.2 = false := by
          cases h : s.2
          · rfl
          · rw [h] at s4; rw [hd] at s4; exact absurd s4 (by decide)
        have eS : ttS s c = (s.1 ++ [c], false) := by unfold ttS; rw [if_neg bl, s20]; rfl
        refine z_it hd ?_
        unfold m_X7_putTitle_j69
        exact z_it hd (j83 p [] F2.refl (by rw [List.append_nil]; exact B1) (by rw [List.append_nil]; exact s2) (by rw [List.append_nil]; exact s1) eS)
      · have s20 : s.2 = true := by
          cases h : s.2
          · rw [h] at s4; exact absurd s4 hd
          · rfl
        have eS : ttS s c = (s.1 ++ [32, c], false) := by unfold ttS; rw [if_neg bl, s20]; rfl
        refine z_ie hd ?_
        rw [s2, e32 (by omega) (by omega)]
        by_cases h39 : 40 ≤ (s.1.length : Int) + 1
        · refine z_it h39 ?_
          unfold m_X7_putTitle_j69
          refine z_ie hd (z_pt (ttOk (F2.refl.put (Or.inr ⟨rfl, Or.inl rfl⟩)) (B1.kept (up_a (by omega)) (up_row (by omega))) (Or.inr ⟨?_, by rw [up_s], ?_⟩)))
          · rw [eS]; dsimp only; rw [List.length_append]; show 40 ≤ s.1.length + 2; omega
          · rw [eS]; dsimp only; rw [ttF_cut (by omega)]
        · refine z_ie h39 (z_gd (ly_X5 hL hb).1 (puts_bT (c_add5 hL hb B1 (by rw [hc]; omega) (by rw [hc]; omega) (by decide) (by decide)) (fun p' f h => z_pt (j83 _ [32] ((f.mono (fun x j z => Or.inl z)).put (Or.inr ⟨rfl, Or.inl rfl⟩)) ?_ ?_ ?_ eS))))
          · have : bsL p' b (L ++ (s.1 ++ [32])) := by rw [← List.append_assoc]; exact h
            exact this.kept (up_a (by omega)) (up_row (by omega))
          · rw [up_s, f _ _ (by unfold b5W; omega), s2, e32 (by omega) (by omega), List.length_append, List.length_singleton]; omega
          · rw [List.length_append, List.length_singleton]; omega
