set_option maxRecDepth 100000
/-! HYPHENS: any other word; the loop; all of the text -/
theorem ThF.one {z : (Int × Int) × Hp} {K p : Int} {W : Int → Int → Prop} {h : Hp} (y : ThF K p W h z) : ((1, z.1.2), z.2) = z := by
  have := y.1
  obtain ⟨⟨z1, z2⟩, z3⟩ := z
  dsimp only at this ⊢
  rw [this]
theorem y_word {hc0 ht0 hc ht : Hp} {a l t u n i to : Int} (ha : a ∈ in_aX9) (hl : l ∈ in_aX21) (htc : t < a ∨ a + 13 < t) (htt : u < l ∨ l + 9 < u) (n1 : n ≤ 4000) (S : HS hc0 ht0 a l t u n hc ht) (i0 : 0 ≤ i) (i1 : i < n) (hN : hc a 6 ≤ 1 + i) (nb : ¬ (hc t i = 10 ∨ hc t i = 32)) (ew : we (hc t) n i = to)
    (hE : ¬ (to - i = 4 ∧ hc t i = 101 ∧ hc t (i + 1) = 110 ∧ hc t (i + 2) = 100 ∧ hc t (i + 3) = 115)) {oc ot : Option ((Int × Int) × Hp)} (hp : Pr oc ot (fun rc rt => WDo hc ht a l t i to rc rt ∧ (rc.1 = (0, 0) → 33 ≤ hc t i ∧ hc t i ≤ 126)))
    (het : (if ht u i ≠ 61 then m_X21_pattern l u i to ht else m_X21_exception l u i to ht) = ot)
    (IH : ∀ i' hc' ht', i < i' → i' ≤ n → wb (hc' t) n i' = i' → HS hc0 ht0 a l t u n hc' ht' → hc' a 6 ≤ 1 + i' → Pr (lp (LC a t n) (i', hc')) (lp (LT l u n) (i', 0, ht')) (HRq hc0 ht0 a l n)) :
    Pz (bT oc (fun _ h146 => m_X9_read_j149 a t n to h146) (fun a_ h_ => some (.inr ((1, a_), h_)))) (sE (fun s' => Pr (lp (LC a t n) s') (lp (LT l u n) (i, 0, ht)) (HRq hc0 ht0 a l n)) (fun r => Pr (some r) (lp (LT l u n) (i, 0, ht)) (HRq hc0 ht0 a l n))) := by
  have S' := S
  obtain ⟨s1, s2, rm, rm2, ⟨t1, t2⟩, ⟨u1, u2, u3⟩, hb, rb, F, G, H⟩ := S
  have rbu : ∀ j, 0 ≤ j → j < n → ht u j ≤ 127 := fun j j0 j1 => by rw [← hb j j0 j1]; exact (rb j j0 j1).2
  have w1 := we_s (b := hc t) (Int.le_of_lt i1)
  have w0 := we_lt i1 nb (rb i i0 i1).2
  have eq1 := (S'.sameB i0 (Int.le_of_lt i1)).2
  rw [ew] at w1 w0 eq1
  have w2 := wb_s (b := hc t) w1.2.2
  have wj : wb (hc t) n (wb (hc t) n to) = wb (hc t) n to := wb_wb w1.2.2
  have nbu : ¬ (ht u i = 10 ∨ ht u i = 32) := by rw [← hb i i0 i1]; exact nb
  have hEu : ¬ (to - i = 4 ∧ ht u i = 101 ∧ ht u (i + 1) = 110 ∧ ht u (i + 2) = 100 ∧ ht u (i + 3) = 115) := fun z => hE (by
    have z1 := z.1
    rw [← hb i (by omega) (by omega), ← hb (i + 1) (by omega) (by omega), ← hb (i + 2) (by omega) (by omega), ← hb (i + 3) (by omega) (by omega)] at z
    exact z)
  obtain ⟨rc, rt, e2, e3, hw, hw2⟩ := hp
  clear hE nb
  have turn : ∀ {α : Type} {o : Option α} {Q : α → _ → Prop}, (∀ r, Thr 448 i ht r → (∃ j, i ≤ j ∧ j < to ∧ ¬ (33 ≤ ht u j ∧ ht u j ≤ 126)) → Pr o (some (.inr r)) Q) → (rt.1.1 = 0 → Pr o (lp (LT l u n) (to, 0, rt.2)) Q) → (rt.1.1 ≠ 0 → Pr o (some (.inr ((1, rt.1.2), rt.2))) Q) → Pr o (lp (LT l u n) (i, 0, ht)) Q := by
    intro α o Q k1 k2 k3
    refine yr_turn (t_word rm2 u1 u2 (by omega) i0 i1 nbu rbu (fun r z w => k1 r z ?_) (fun _ => ?_))
    · obtain ⟨j, j0, j1, jw⟩ := w
      dsimp only at j0 j1 jw
      rw [eq1] at j1
      exact ⟨j, j0, j1, jw⟩
    · rw [eq1, q_is_ends u1 i0 (by omega) (by omega) u3, Option.bind_some, if_neg hEu]
      refine z_it rfl (z_it rfl (z_gd (by dsimp only; omega) ?_))
      dsimp only
      have fin : Pz (bT ot (fun _ h233 => m_X21_read_j236 to 0 h233) (fun a_ h_ => some (.inr (.inr ((1, a_), h_))))) (sE (fun s' => Pr o (lp (LT l u n) s') Q) (fun r => Pr o (some r) Q)) := by
        refine z_bT ⟨rt, e3, ?_⟩
        by_cases z : rt.1.1 = 0
        · exact Or.inl ⟨z, z_some (k2 z)⟩
        · exact Or.inr ⟨z, z_some (k3 z)⟩
      rw [← het] at fin
      by_cases z : ht u i = 61
      · rw [if_neg (fun y => y z)] at fin
        exact z_ie (fun y => y z) fin
      · rw [if_pos z] at fin
        exact z_it z fin
  refine z_bT ⟨rc, e2, ?_⟩
  rcases hw with ⟨g1, g2, g3, g4, g5, g6, g7⟩ | ⟨v1, v2⟩
  · have nobad : ∀ {P : Prop}, (∃ j, i ≤ j ∧ j < to ∧ ¬ (33 ≤ ht u j ∧ ht u j ≤ 126)) → P := by
      rintro P ⟨j, j0, j1, jw⟩
      exfalso
      rw [← hb j (by omega) (by omega)] at jw
      by_cases z : j = i
      · subst z; exact jw (hw2 g1)
      · exact jw (g7 j (by omega) j1)
    have S2 := S'.go ha hl htc htt g3 g4 g5
    have q1 : rc.2 t = hc t := hy_row g3 htc
    have q2 : rt.2 u = ht u := tp_row g4 htt
    refine Or.inl ⟨by rw [g1], ?_⟩
    unfold m_X9_read_j149
    rw [q_X9_skip (by rw [q1]; exact t1) (by rw [q1]; exact t2) (by omega) (by omega) (by omega), Option.bind_some, q1]
    refine z_some (turn (fun r _ z => nobad z) (fun _ => ?_) (fun z => absurd (by rw [g2]) z))
    show Pr (lp (LC a t n) (wb (hc t) n to, rc.2)) _ _
    rw [t_skip S' n1 q2 (by omega) (by omega)]
    exact IH _ _ _ (by omega) (by omega) (by rw [q1]; exact wj) S2 (by omega)
  · refine Or.inr ⟨by rw [v1.1]; decide, z_some ?_⟩
    show Pr (some ((1, rc.1.2), rc.2)) _ _
    rw [v1.one]
    refine turn (fun r z _ => y_some (HR_thr ha hl S' i0 (by omega) v1 (z.tp hl))) (fun z => absurd z (by rw [v2.1]; decide)) (fun _ => ?_)
    rw [v2.one]
    exact y_some (HR_thr ha hl S' i0 (by omega) v1 v2)
theorem y_hloop {hc0 ht0 : Hp} {a l t u n : Int} (ha : a ∈ in_aX9) (hl : l ∈ in_aX21) (htc : t < a ∨ a + 13 < t) (htt : u < l ∨ l + 9 < u) (n1 : n ≤ 4000) : ∀ (m : Nat) (i : Int) (hc ht : Hp), (n - i).toNat < m → 0 ≤ i → i ≤ n → wb (hc t) n i = i → HS hc0 ht0 a l t u n hc ht → hc a 6 ≤ 1 + i →
    Pr (lp (LC a t n) (i, hc)) (lp (LT l u n) (i, 0, ht)) (HRq hc0 ht0 a l n) := by
  intro m
  induction m with
  | zero => intro i hc ht hm; omega
  | succ m ih =>
    intro i hc ht hm i0 i1 iw S hN
    have IH : ∀ i' hc' ht', i < i' → i' ≤ n → wb (hc' t) n i' = i' → HS hc0 ht0 a l t u n hc' ht' → hc' a 6 ≤ 1 + i' → Pr (lp (LC a t n) (i', hc')) (lp (LT l u n) (i', 0, ht')) (HRq hc0 ht0 a l n) := fun i' hc' ht' e1 e2 e3 e4 e5 => ih i' hc' ht' (by omega) (by omega) e2 e3 e4 e5
    have S' := S
    obtain ⟨s1, s2, rm, rm2, ⟨t1, t2⟩, ⟨u1, u2, u3⟩, hb, rb, F, G, H⟩ := S
    rcases Int.lt_or_eq_of_le i1 with hi | hi
    · have nb : ¬ (hc t i = 10 ∨ hc t i = 32) := by
        have := wb_nb (b := hc t) (n := n) (i := i) i1
        rw [iw] at this
        exact this hi
      by_cases hE : we (hc t) n i - i = 4 ∧ hc t i = 101 ∧ hc t (i + 1) = 110 ∧ hc t (i + 2) = 100 ∧ hc t (i + 3) = 115
      · exact y_ends ha hl htc htt n1 S' i0 hi hN nb hE IH
      · have w1 := we_s (b := hc t) i1
        have w2 := we_lt hi nb (rb i i0 hi).2
        refine yl_turn ?_
        show Pz (m_X9_read_l12 a t n i hc) _
        unfold m_X9_read_l12
        refine z_ie (by omega) ?_
        rw [q_X9_wordEnd t1 t2 i0 (by omega) (by omega) (fun j j0 j1 => (rb j (by omega) j1).2), Option.bind_some, q_isEnds t1 i0 (by omega) (by omega) (by omega), Option.bind_some, if_neg hE]
        refine z_it rfl (z_gd ⟨t1, i0, by omega⟩ ?_)
        have c := hb i i0 hi
        by_cases h61 : hc t i = 61
        · refine z_ie (fun z => z h61) (y_word ha hl htc htt n1 S' i0 hi hN nb rfl hE (y_mono (y_exw s1 s2 ha hl rm rm2 htc htt t1 (by omega) u1 (by omega) i0 w2 (by omega) (fun j j0 j1 => hb j (by omega) (by omega)) H) (fun rc rt hr => ⟨hr, fun _ => by omega⟩)) (if_neg (by omega)) IH)
        · refine z_it h61 (y_word ha hl htc htt n1 S' i0 hi hN nb rfl hE (y_pat s1 s2 ha hl rm rm2 htc htt t1 (by omega) u1 (by omega) i0 w2 (by omega) (fun j j0 j1 => hb j (by omega) (by omega)) (by omega) H) (if_pos (by omega)) IH)
    · subst hi
      refine yl_turn ?_
      show Pz (m_X9_read_l12 a t i i hc) _
      unfold m_X9_read_l12
      refine z_it (Int.le_refl i) (z_some (yr_turn ?_))
      show Pz (m_X21_read_l9 l u i i 0 ht) _
      unfold m_X21_read_l9 m_X21_read_j29
      exact z_it (Int.le_refl i) (z_ie (fun z => z rfl) (z_some (y_some (Or.inl ⟨ht, rfl, Or.inl ⟨rfl, rfl, F, G, H⟩, rfl⟩))))
theorem y_hyread {hc ht : Hp} {a l t u n : Int} (hL : LAY hc) (hL2 : LAY ht) (ha : a ∈ in_aX9) (hl : l ∈ in_aX21) (rm : RM hc 1 7) (rm2 : RM ht 1 7) (htc : t < a ∨ a + 13 < t) (htt : u < l ∨ l + 9 < u) (t1 : hc t (-2) % 16 = 2) (t2 : n ≤ hc t (-1)) (u1 : ht u (-2) % 16 = 2) (u2 : n ≤ ht u (-1)) (u3 : ht u (-1) ≤ 65536) (n0 : 0 ≤ n) (n1 : n ≤ 4000)
    (hb : ∀ j, 0 ≤ j → j < n → hc t j = ht u j) (rb : ∀ j, 0 ≤ j → j < n → -128 ≤ hc t j ∧ hc t j ≤ 127) :
    Pr (m_X9_read a t n hc) (m_X21_read l u n ht) (HRo hc ht a l n) := by
  have h9 := aX9 ha
  have h21 := aX21 hl
  unfold m_X9_read m_X21_read
  have C : Pz (m_X9_clear a hc) (fun h => F2 (hyW a) hc h ∧ h a 0 = 2 ∧ h a 1 = 3 ∧ h a 6 = 1 ∧ h a 9 = 0 ∧ h a 10 = 0 ∧ h a 14 = 0 ∧ h (a + 2) 0 = -1 ∧ h (a + 3) 0 = -1 ∧ h (a + 4) 0 = -1) := by
    unfold m_X9_clear
    try simp (disch := omega) only [up_a, up_e, up_j, e32, e8, ly_X9 hL ha]
    repeat' first
      | with_reducible refine z_lt ?_
      | (with_reducible refine z_pt ?_; try simp (disch := omega) only [up_a, up_e, up_j, e32, e8, ly_X9 hL ha])
      | with_reducible refine z_some ?_
      | with_reducible refine z_gd (by (try simp (disch := omega) only [up_a, up_e, up_j, e32, e8, ly_X9 hL ha]) <;> omega) ?_
      | with_reducible refine z_brk (by assumption) (fun b h1 z => ?_)
      | with_reducible refine z_it (by first | decide | omega) ?_
      | with_reducible refine z_ie (by first | decide | omega) ?_
      | with_reducible refine z_if (fun hq => ?_) (fun hq => ?_)
      | with_reducible refine zc_sm (fun hq => ?_) (fun hq => ?_)
      | with_reducible refine zc_dg (fun hq => ?_) (fun hq => ?_)
      | with_reducible refine zc_bl (fun hq => ?_) (fun hq => ?_)
      | with_reducible refine zt_sm (fun hq => ?_) (fun hq => ?_)
      | with_reducible refine zt_dg (fun hq => ?_) (fun hq => ?_)
      | with_reducible refine zt_bl (fun hq => ?_) (fun hq => ?_)
    refine ⟨?_, ?_⟩
    · repeat' first
        | exact F2.refl
        | refine F2.put ?_ (by unfold hyW; omega)
    · (try simp (disch := omega) only [up_a, up_e, up_j, e32, e8])
      grind
  have D : Pz (m_X21_clear l ht) (fun h => F2 (tpW l) ht h ∧ h l 0 = 2 ∧ h l 1 = 3 ∧ h l 2 = 0 ∧ h l 3 = 0) := by
    unfold m_X21_clear
    try simp (disch := omega) only [up_a, up_e, up_j, e32, e8]
    repeat' first
      | with_reducible refine z_lt ?_
      | (with_reducible refine z_pt ?_; try simp (disch := omega) only [up_a, up_e, up_j, e32, e8])
      | with_reducible refine z_some ?_
      | with_reducible refine z_gd (by (try simp (disch := omega) only [up_a, up_e, up_j, e32, e8]) <;> omega) ?_
      | with_reducible refine z_brk (by assumption) (fun b h1 z => ?_)
      | with_reducible refine z_it (by first | decide | omega) ?_
      | with_reducible refine z_ie (by first | decide | omega) ?_
      | with_reducible refine z_if (fun hq => ?_) (fun hq => ?_)
      | with_reducible refine zc_sm (fun hq => ?_) (fun hq => ?_)
      | with_reducible refine zc_dg (fun hq => ?_) (fun hq => ?_)
      | with_reducible refine zc_bl (fun hq => ?_) (fun hq => ?_)
      | with_reducible refine zt_sm (fun hq => ?_) (fun hq => ?_)
      | with_reducible refine zt_dg (fun hq => ?_) (fun hq => ?_)
      | with_reducible refine zt_bl (fun hq => ?_) (fun hq => ?_)
    refine ⟨?_, ?_⟩
    · repeat' first
        | exact F2.refl
        | refine F2.put ?_ (by unfold tpW; omega)
    · (try simp (disch := omega) only [up_a, up_e, up_j, e32, e8])
      grind
  refine yl_bind (z_mono C (fun h1 k1 => yr_bind (z_mono D (fun h2 k2 => ?_))))
  obtain ⟨F, c0, c1, c6, c9, c10, c14, c2, c3, c4⟩ := k1
  obtain ⟨G, d0, d1, d2, d3⟩ := k2
  have et : h1 t = hc t := hy_row F htc
  have eu : h2 u = ht u := tp_row G htt
  have H : HYr h1 h2 a l := by
    refine ⟨⟨0, fun _ => [], fun _ _ => 0, ⟨c10, by omega, by omega, ⟨fun _ => [], ⟨fun _ => 0, ⟨by omega, fun w w1 w2 => by omega, fun v v1 v2 => ?_, fun k k1 k2 => by omega, fun w w1 w2 => by omega, fun k w w1 w2 w3 => by omega, fun k w w1 w2 w3 => by omega⟩, rfl, fun w w1 w2 => by omega⟩, fun v v0 v1 => ?_, fun p p0 p1 => by omega⟩, by omega, fun p p0 p1 => by omega, fun p p' p0 p1 p2 => by omega, by omega, by omega⟩, ⟨d2, by omega, by omega, fun p p0 p1 => by omega, fun p q p0 p1 p2 => by omega⟩⟩, ⟨by rw [c14, d3], by omega, by omega, fun e e0 e1 => by omega⟩, by omega, by omega⟩
    · have : v = 0 := by omega
      rw [this]; exact Or.inl c2
    · have : v = 0 := by omega
      rw [this]; exact Or.inl c4
  have S : HS hc ht a l t u n h1 h2 := by
    unfold HS
    rw [et, eu]
    exact ⟨hyW_l hL ha F, tpW_l hL2 hl G, rm_of rm F (hy_0 ha), rm_of rm2 G (tp_0 hl), ⟨t1, t2⟩, ⟨u1, u2, u3⟩, hb, rb, F, G, H⟩
  have w := wb_s (b := hc t) n0
  rw [q_X9_skip (by rw [et]; exact t1) (by rw [et]; exact t2) (by omega) n0 (by omega), Option.bind_some, et]
  refine yr_lt (yr_lt ?_)
  show Pr ((lp (LC a t n) (wb (hc t) n 0, h1)).bind _) ((lp (LT l u n) (0, 0, h2)).bind _) _
  rw [t_skip S n1 rfl (by omega) n0, et]
  refine y_bind (y_mono (y_hloop ha hl htc htt n1 _ _ _ _ (Nat.lt_succ_self _) (by omega) (by omega) (by rw [et]; exact wb_wb n0) S (by omega)) (fun rc y hy => ?_))
  rcases hy with ⟨h', rfl, y1, y2⟩ | ⟨h', rfl, y1, y2⟩ | ⟨rt, rfl, y1⟩
  · simp only [sE]
    exact y_some y1
  · simp only [sE]
    exact y_z (z_some (z_ie (by decide) (z_brk (rm_of rm2 y2 (tp_0 hl)) (fun b h8 z => z_some (Or.inr ⟨n, n0, by omega, y1, z.F y2 (tp_0 hl)⟩)))))
  · exact y_some y1
