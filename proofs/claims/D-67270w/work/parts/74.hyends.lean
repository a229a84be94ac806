set_option maxRecDepth 100000
/-! HYPHENS: the word 'ends' and the one behind it -/
/-- the two digits, on the reference's side -/
theorem t_two {h : Hp} {l u n i : Int} {Q : (Int × Int × Hp) ⊕ ((Int × Hp) ⊕ ((Int × Int) × Hp)) → Prop} (rm : RM h 1 7) (u1 : h u (-2) % 16 = 2) (u2 : n ≤ h u (-1)) (n1 : n ≤ 16384) (i0 : 0 ≤ i) (i1 : i < n) (nb : ¬ (h u i = 10 ∨ h u i = 32)) (rb : ∀ j, 0 ≤ j → j < n → h u j ≤ 127) (hlu : u ≠ l)
    (k1 : (we (h u) n i - i = 2 ∧ (49 ≤ h u i ∧ h u i ≤ 57) ∧ 49 ≤ h u (i + 1) ∧ h u (i + 1) ≤ 57) → Q (.inl (we (h u) n i, 0, up (up h l 0 (h u i - 48)) l 1 (h u (i + 1) - 48))))
    (k2 : ¬ (we (h u) n i - i = 2 ∧ (49 ≤ h u i ∧ h u i ≤ 57) ∧ 49 ≤ h u (i + 1) ∧ h u (i + 1) ≤ 57) → ∀ rt, Thr 448 i h rt → Q (.inr (.inr rt))) : Pz (m_X21_read_l9 l u n i 1 h) Q := by
  have s := we_s (b := h u) (n := n) (i := i) (by omega)
  refine t_word rm u1 u2 n1 i0 i1 nb rb (fun rt z w => ?_) (fun _ => ?_)
  · obtain ⟨j, j0, j1, jw⟩ := w
    refine k2 (fun y => ?_) rt z
    have : j = i ∨ j = i + 1 := by omega
    rcases this with rfl | rfl <;> omega
  · refine z_ie (by decide) ?_
    by_cases hP : we (h u) n i - i = 2
    · (try simp (disch := omega) only [up_a, up_e, up_j, e32, e8, up_row hlu])
      unfold m_X21_read_j236
      try simp (disch := omega) only [up_a, up_e, up_j, e32, e8, up_row hlu]
      repeat' first
        | with_reducible refine z_lt ?_
        | (with_reducible refine z_pt ?_; try simp (disch := omega) only [up_a, up_e, up_j, e32, e8, up_row hlu])
        | with_reducible refine z_some ?_
        | with_reducible refine z_gd (by (try simp (disch := omega) only [up_a, up_e, up_j, e32, e8, up_row hlu]) <;> omega) ?_
        | with_reducible refine z_brk (by assumption) (fun b h1 z => ?_)
        | with_reducible refine z_it (by first | decide | omega) ?_
        | with_reducible refine z_ie (by first | decide | omega) ?_
        | with_reducible refine z_if (fun hq => ?_) (fun hq => ?_)
        | with_reducible refine zc_sm (fun hq => ?_) (fun hq => ?_)
        | with_reducible refine zc_dg (fun hq => ?_) (fun hq => ?_)
        | with_reducible refine zc_bl (fun hq => ?_) (fun hq => ?_)
        | with_reducible refine zt_sm (fun hq => ?_) (fun hq => ?_)
        | with_reducible refine zt_dg (fun hq => ?_) (fun hq => ?_)
        | with_reducible refine zt_bl (fun hq => ?_) (fun hq => ?_)
      · exact k2 (by omega) _ ‹_›
      · exact k2 (by omega) _ ‹_›
      · exact k2 (by omega) _ ‹_›
      · exact k1 (by omega)
      · exact k2 (by omega) _ ‹_›
    · (try simp (disch := omega) only [up_a, up_e, up_j, e32, e8])
      exact z_it hP (z_brk rm (fun b h1 z => z_some (k2 (fun y => hP y.1) _ z)))
/-- the same on the component's side -/
theorem c_cnt {h : Hp} {a t n i e : Int} {Q : (Int × Hp) ⊕ ((Int × Int) × Hp) → Prop} (rm : RM h 1 7) (t1 : h t (-2) % 16 = 2) (t2 : n ≤ h t (-1)) (n1 : n ≤ 16384) (i0 : 0 ≤ i) (i1 : i < n) (i2 : i ≤ e) (i3 : e ≤ n) (rb : ∀ j, 0 ≤ j → j < n → -128 ≤ h t j ∧ h t j ≤ 127) (hta : t ≠ a)
    (k1 : (e - i = 2 ∧ (49 ≤ h t i ∧ h t i ≤ 57) ∧ 49 ≤ h t (i + 1) ∧ h t (i + 1) ≤ 57) → Q (.inl (wb (h t) n e, up (up h a 0 (h t i - 48)) a 1 (h t (i + 1) - 48))))
    (k2 : ¬ (e - i = 2 ∧ (49 ≤ h t i ∧ h t i ≤ 57) ∧ 49 ≤ h t (i + 1) ∧ h t (i + 1) ≤ 57) → ∀ rt, Thr 432 i h rt → Q (.inr rt)) : Pz (if i = n then (al h 432 7 fun a88 h88 =>
  (x_broken a88 i h88).bind fun h93 =>
  some (.inr ((1, a88), h93)))
  else (if (w32 (e - i)) ≠ 2 then (al h 432 7 fun a88_1 h88_1 =>
  (x_broken a88_1 i h88_1).bind fun h93_1 =>
  some (.inr ((1, a88_1), h93_1)))
  else (gd (h t (-2) % 16 = 2 ∧ (0 : Int) ≤ i ∧ i < h t (-1)) ((m_X9_isCount (h t i)).bind fun v71 =>
  if v71 = 0 then (al h 432 7 fun a88_2 h88_2 =>
  (x_broken a88_2 i h88_2).bind fun h93_2 =>
  some (.inr ((1, a88_2), h93_2)))
  else (gd (h t (-2) % 16 = 2 ∧ (0 : Int) ≤ (w32 (i + 1)) ∧ (w32 (i + 1)) < h t (-1)) ((m_X9_isCount (h t (w32 (i + 1)))).bind fun v82 =>
  if v82 ≠ 0 then (pt h a 0 (w32 ((h t i) - 48)) fun h104 =>
  pt h104 a 1 (w32 ((h104 t (w32 (i + 1))) - 48)) fun h116 =>
  m_X9_read_j149 a t n e h116)
  else (al h 432 7 fun a88_3 h88_3 =>
  (x_broken a88_3 i h88_3).bind fun h93_3 =>
  some (.inr ((1, a88_3), h93_3)))))))))  Q := by
  refine z_ie (by omega) ?_
  by_cases hP : e - i = 2
  · have b0 := rb i i0 i1
    have b1 := rb (i + 1) (by omega) (by omega)
    (try simp (disch := omega) only [up_a, up_e, up_j, e32, e8, up_row hta])
    refine z_ie (by omega) (z_gd ⟨t1, by omega, by omega⟩ ?_)
    rw [q_isCount, q_isCount, Option.bind_some]
    by_cases z : 49 ≤ h t i ∧ h t i ≤ 57
    · rw [if_pos z]
      refine z_ie (by decide) (z_gd ⟨t1, by omega, by omega⟩ ?_)
      rw [Option.bind_some]
      by_cases y : 49 ≤ h t (i + 1) ∧ h t (i + 1) ≤ 57
      · rw [if_pos y]
        refine z_it (by decide) (z_pt (z_pt ?_))
        (try simp (disch := omega) only [up_a, up_e, up_j, e32, e8, up_row hta])
        have q1 : up (up h a 0 (h t i - 48)) a 1 (h t (i + 1) - 48) t = h t := by rw [up_row hta, up_row hta]
        unfold m_X9_read_j149
        rw [q_X9_skip (by rw [q1]; exact t1) (by rw [q1]; exact t2) (by omega) (by omega) (by omega), Option.bind_some, q1]
        exact z_some (k1 ⟨hP, z, y⟩)
      · rw [if_neg y]
        exact z_ie (by decide) (z_brk rm (fun b h1 z => z_some (k2 (fun w => y w.2.2) _ z)))
    · rw [if_neg z]
      exact z_it rfl (z_brk rm (fun b h1 y => z_some (k2 (fun w => z w.2.1) _ y)))
  · (try simp (disch := omega) only [up_a, up_e, up_j, e32, e8])
    exact z_it hP (z_brk rm (fun b h1 z => z_some (k2 (fun y => hP y.1) _ z)))
theorem y_ends {hc0 ht0 hc ht : Hp} {a l t u n i : Int} (ha : a ∈ in_aX9) (hl : l ∈ in_aX21) (htc : t < a ∨ a + 13 < t) (htt : u < l ∨ l + 9 < u) (n1 : n ≤ 4000) (S : HS hc0 ht0 a l t u n hc ht) (i0 : 0 ≤ i) (i1 : i < n) (hN : hc a 6 ≤ 1 + i) (nb : ¬ (hc t i = 10 ∨ hc t i = 32))
    (hE : we (hc t) n i - i = 4 ∧ hc t i = 101 ∧ hc t (i + 1) = 110 ∧ hc t (i + 2) = 100 ∧ hc t (i + 3) = 115)
    (IH : ∀ i' hc' ht', i < i' → i' ≤ n → wb (hc' t) n i' = i' → HS hc0 ht0 a l t u n hc' ht' → hc' a 6 ≤ 1 + i' → Pr (lp (LC a t n) (i', hc')) (lp (LT l u n) (i', 0, ht')) (HRq hc0 ht0 a l n)) :
    Pr (lp (LC a t n) (i, hc)) (lp (LT l u n) (i, 0, ht)) (HRq hc0 ht0 a l n) := by
  have h9 := aX9 ha
  have h21 := aX21 hl
  have S' := S
  obtain ⟨s1, s2, rm, rm2, ⟨t1, t2⟩, ⟨u1, u2, u3⟩, hb, rb, F, G, H⟩ := S
  have rbu : ∀ j, 0 ≤ j → j < n → ht u j ≤ 127 := fun j j0 j1 => by rw [← hb j j0 j1]; exact (rb j j0 j1).2
  have w1 := we_s (b := hc t) (Int.le_of_lt i1)
  have eq1 := (S'.sameB i0 (Int.le_of_lt i1)).2
  generalize ew : we (hc t) n i = to at *
  have w2 := wb_s (b := hc t) w1.2.2
  have wj : wb (hc t) n (wb (hc t) n to) = wb (hc t) n to := wb_wb w1.2.2
  generalize eb : wb (hc t) n to = j2 at *
  have eq3 := (S'.sameB (x := j2) (by omega) w2.2.2).2
  have hEu : to - i = 4 ∧ ht u i = 101 ∧ ht u (i + 1) = 110 ∧ ht u (i + 2) = 100 ∧ ht u (i + 3) = 115 := by
    rw [← hb i (by omega) (by omega), ← hb (i + 1) (by omega) (by omega), ← hb (i + 2) (by omega) (by omega), ← hb (i + 3) (by omega) (by omega)]; exact hE
  have nbu : ¬ (ht u i = 10 ∨ ht u i = 32) := by omega
  refine yl_turn ?_
  show Pz (m_X9_read_l12 a t n i hc) _
  unfold m_X9_read_l12
  refine z_ie (by omega) ?_
  rw [q_X9_wordEnd t1 t2 i0 (by omega) (by omega) (fun j j0 j1 => (rb j (by omega) j1).2), Option.bind_some, ew, q_isEnds t1 i0 (by omega) (by omega) (by omega), Option.bind_some, if_pos hE]
  refine z_ie (by decide) ?_
  rw [q_X9_skip t1 t2 (by omega) (by omega) (by omega), Option.bind_some, eb, q_X9_wordEnd t1 t2 (by omega) (by omega) (by omega) (fun j j0 j1 => (rb j (by omega) j1).2), Option.bind_some]
  have hr : ∀ {α : Type} {o : Option α} {Q : α → _ → Prop}, Pr o (lp (LT l u n) (j2, 1, ht)) Q → Pr o (lp (LT l u n) (i, 0, ht)) Q := by
    intro α o Q k
    refine yr_turn (t_word rm2 u1 u2 (by omega) i0 i1 nbu rbu (fun rt z w => ?_) (fun _ => ?_))
    · exfalso
      obtain ⟨j, j0, j1, jw⟩ := w
      dsimp only at j0 j1 jw
      rw [eq1] at j1
      have : j = i ∨ j = i + 1 ∨ j = i + 2 ∨ j = i + 3 := by omega
      rcases this with rfl | rfl | rfl | rfl <;> omega
    · rw [eq1, q_is_ends u1 i0 (by omega) (by omega) u3, Option.bind_some, if_pos hEu]
      refine z_it rfl (z_ie (by decide) (z_lt (z_some ?_)))
      show Pr o (lp _ (to, 1, ht)) Q
      rw [t_skip S' n1 rfl (by omega) (by omega), eb]
      exact k
  rcases Int.lt_or_eq_of_le w2.2.2 with hj | hj
  · have nb2 : ¬ (hc t j2 = 10 ∨ hc t j2 = 32) := by
      have := wb_nb (b := hc t) (n := n) (i := j2) (by omega)
      rw [wj] at this
      exact this hj
    have cc := hb j2 (by omega) hj
    have nbu2 : ¬ (ht u j2 = 10 ∨ ht u j2 = 32) := by omega
    have w3 := we_s (b := hc t) (n := n) (i := j2) (by omega)
    have w4 := wb_s (b := hc t) w3.2.2
    have w5 := we_lt hj nb2 (rb j2 (by omega) hj).2
    refine c_cnt rm t1 t2 (by omega) (by omega) hj w3.2.1 w3.2.2 rb (by omega) (fun hP => hr (yr_turn (t_two rm2 u1 u2 (by omega) (by omega) hj nbu2 rbu (by omega) (fun hP' => ?_) (fun hP' => ?_)))) (fun hP rc z => hr (yr_turn (t_two rm2 u1 u2 (by omega) (by omega) hj nbu2 rbu (by omega) (fun hP' => ?_) (fun hP' rt z' => y_some (HR_thr ha hl S' (by omega) (by omega) (z.hy ha) (z'.tp hl))))))
    · have cc1 := hb (j2 + 1) (by omega) (by omega)
      dsimp only at hP'
      rw [eq3]
      show Pr _ (lp (LT l u n) (_, 0, up (up ht l 0 (ht u j2 - 48)) l 1 (ht u (j2 + 1) - 48))) _
      have p1 : up (up ht l 0 (ht u j2 - 48)) l 1 (ht u (j2 + 1) - 48) u = ht u := by rw [up_row (by omega), up_row (by omega)]
      have p2 : up (up hc a 0 (hc t j2 - 48)) a 1 (hc t (j2 + 1) - 48) t = hc t := by rw [up_row (by omega), up_row (by omega)]
      rw [t_skip S' n1 p1 (by omega) (by omega)]
      obtain ⟨⟨np, sg, dt, Hc, Ht⟩, E, d0, d1⟩ := H
      refine IH _ _ _ (by omega) (by omega) (by rw [p2]; exact wb_wb (by omega)) (S'.go ha hl htc htt ((F2.refl.put (by unfold hyW; omega)).put (by unfold hyW; omega)) ((F2.refl.put (by unfold tpW; omega)).put (by unfold tpW; omega)) ⟨⟨np, sg, dt, Hc.kept (fun b b0 b1 => by rw [up_row (by omega), up_row (by omega)]) (by (try simp (disch := omega) only [up_a, up_e, up_j, e32, e8]) <;> omega) (by (try simp (disch := omega) only [up_a, up_e, up_j, e32, e8]) <;> omega) (by (try simp (disch := omega) only [up_a, up_e, up_j, e32, e8]) <;> omega), Ht.kept (fun b b0 b1 => by rw [up_row (by omega), up_row (by omega)]) (by (try simp (disch := omega) only [up_a, up_e, up_j, e32, e8]) <;> omega)⟩, E.kept (by (try simp (disch := omega) only [up_a, up_e, up_j, e32, e8]) <;> omega) (fun b b0 b1 => by rw [up_row (by omega), up_row (by omega)]) (by (try simp (disch := omega) only [up_a, up_e, up_j, e32, e8]) <;> omega) (fun b b0 b1 => by rw [up_row (by omega), up_row (by omega)]), ?_, ?_⟩) (by (try simp (disch := omega) only [up_a, up_e, up_j, e32, e8]) <;> omega)
      · (try simp (disch := omega) only [up_a, up_e, up_j, e32, e8]); omega
      · (try simp (disch := omega) only [up_a, up_e, up_j, e32, e8]); omega
    · exfalso
      dsimp only at hP'
      rw [eq3] at hP'
      have cc1 := hb (j2 + 1) (by omega) (by omega)
      omega
    · exfalso
      dsimp only at hP'
      rw [eq3] at hP'
      have cc1 := hb (j2 + 1) (by omega) (by omega)
      omega
  · refine z_it hj (z_brk rm (fun b h1 z => z_some (hr (yr_turn ?_))))
    show Pz (m_X21_read_l9 l u n j2 1 ht) _
    unfold m_X21_read_l9 m_X21_read_j29
    refine z_it (by omega) (z_ie (fun y => y hj) (z_some (y_some (Or.inr (Or.inl ⟨ht, rfl, ?_, G⟩)))))
    rw [hj] at z
    exact ThF.trans F (z.hy ha) (fun j z => by unfold hyW at z; omega)
