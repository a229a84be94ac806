set_option maxRecDepth 100000
/-! HYPHENS: the whole text -/
theorem q_isEnds {h : Hp} {a t i e : Int} (t1 : h t (-2) % 16 = 2) (i0 : 0 ≤ i) (i1 : i ≤ e) (t2 : e ≤ h t (-1)) (e1 : e ≤ 16384) : m_X9_isEnds a t i e h = some (if e - i = 4 ∧ h t i = 101 ∧ h t (i + 1) = 110 ∧ h t (i + 2) = 100 ∧ h t (i + 3) = 115 then 1 else 0) := by
  unfold m_X9_isEnds gd
  by_cases hc : e - i = 4
  · (try simp (disch := omega) only [up_a, up_e, up_j, e32, e8, hc])
    grind
  · (try simp (disch := omega) only [up_a, up_e, up_j, e32, e8])
    rw [if_pos hc, if_neg (fun z => hc z.1)]
theorem q_is_ends {h : Hp} {t i e : Int} (t1 : h t (-2) % 16 = 2) (i0 : 0 ≤ i) (i1 : i ≤ e) (t2 : e ≤ h t (-1)) (t3 : h t (-1) ≤ 65536) : m_X18_is t i e (-74) h = some (if e - i = 4 ∧ h t i = 101 ∧ h t (i + 1) = 110 ∧ h t (i + 2) = 100 ∧ h t (i + 3) = 115 then 1 else 0) := by
  rw [q_X18_is (s := -74) (b := [101, 110, 100, 115]) (by decide) t1 i0 i1 t2 t3]
  congr 1
  unfold eqW
  by_cases hc : e - i = 4
  · have e4 : (e - i).toNat = 4 := by omega
    rw [e4]
    have ew : wd h t i 4 = [h t (i + 0), h t (i + 1), h t (i + 2), h t (i + 3)] := rfl
    rw [ew]
    simp only [List.cons.injEq, and_true, Int.add_zero]
    grind
  · rw [if_neg (c := e - i = 4 ∧ _) (fun z => hc z.1), if_neg]
    intro z
    have := congrArg List.length z
    rw [wd_len] at this
    simp at this
    omega
theorem q_isCount (c : Int) : m_X9_isCount c = some (if 49 ≤ c ∧ c ≤ 57 then 1 else 0) := by
  unfold m_X9_isCount; grind
def HRo (hc ht : Hp) (a l n : Int) (rc rt : (Int × Int) × Hp) : Prop :=
  (rc.1 = (0, 0) ∧ rt.1 = (0, 0) ∧ F2 (hyW a) hc rc.2 ∧ F2 (tpW l) ht rt.2 ∧ HYr rc.2 rt.2 a l) ∨ (∃ p, 0 ≤ p ∧ p ≤ n ∧ ThF 432 p (hyW a) hc rc ∧ ThF 448 p (tpW l) ht rt)
/-- behind the reference's loop -/
def HRq (hc ht : Hp) (a l n : Int) (rc : (Int × Int) × Hp) (y : (Int × Hp) ⊕ ((Int × Int) × Hp)) : Prop :=
  (∃ h', y = .inl (0, h') ∧ HRo hc ht a l n rc ((0, 0), h') ∧ rc.1 = (0, 0)) ∨ (∃ h', y = .inl (1, h') ∧ ThF 432 n (hyW a) hc rc ∧ F2 (tpW l) ht h') ∨ (∃ rt, y = .inr rt ∧ HRo hc ht a l n rc rt)
theorem ThF.trans {K p : Int} {W : Int → Int → Prop} {h h1 : Hp} {r : (Int × Int) × Hp} (f : F2 W h h1) (z : ThF K p W h1 r) (w0 : ∀ j, ¬ W 0 j) : ThF K p W h r := by
  obtain ⟨z1, z2, z3, z4, z5, z6, z7, z8⟩ := z
  have e := f 0 0 (w0 0)
  have e1 := f 0 1 (w0 1)
  refine ⟨z1, z2, by rw [← e]; exact z3, z4, z5, (f.mono (fun b j y => Or.inl y)).trans (z6.mono (fun b j y => ?_)), by rw [z7, e], by rw [z8, e1]⟩
  rcases y with y | y
  · exact Or.inl y
  · right; unfold nwW at y ⊢; rw [e] at y; exact y
theorem yl_turn {σ ρ β : Type} {f : σ → Option (σ ⊕ ρ)} {s : σ} {u : Option β} {Q : ρ → β → Prop} (h : Pz (f s) (sE (fun s' => Pr (lp f s') u Q) (fun r => Pr (some r) u Q))) : Pr (lp f s) u Q := by
  obtain ⟨q, a, b⟩ := h
  rw [lp_eq, a]
  cases q with
  | inl t => exact b
  | inr r => exact b
theorem yr_turn {σ ρ β : Type} {f : σ → Option (σ ⊕ ρ)} {s : σ} {u : Option β} {Q : β → ρ → Prop} (h : Pz (f s) (sE (fun s' => Pr u (lp f s') Q) (fun r => Pr u (some r) Q))) : Pr u (lp f s) Q := by
  obtain ⟨q, a, b⟩ := h
  rw [lp_eq, a]
  cases q with
  | inl t => exact b
  | inr r => exact b
theorem wb_congr {b c : Int → Int} {n i : Int} (hi : i ≤ n) (h : ∀ j, i ≤ j → j < n → b j = c j) : wb b n i = wb c n i := by
  have s := wb_s (b := c) hi
  have e : ∀ x, i ≤ x → Bn b n x = Bn c n x := fun x hx => by
    unfold Bn
    by_cases z : x < n
    · rw [if_pos z, if_pos z, h x hx z]
    · rw [if_neg z, if_neg z]
  exact sc_of ⟨s.1.1, fun x h1 h2 => by rw [e x h1]; exact s.1.2.1 x h1 h2, by rw [e _ s.2.1]; exact s.1.2.2⟩
theorem we_congr {b c : Int → Int} {n i : Int} (hi : i ≤ n) (h : ∀ j, i ≤ j → j < n → b j = c j) : we b n i = we c n i := by
  have s := we_s (b := c) hi
  have e : ∀ x, i ≤ x → Bn b n x = Bn c n x := fun x hx => by
    unfold Bn
    by_cases z : x < n
    · rw [if_pos z, if_pos z, h x hx z]
    · rw [if_neg z, if_neg z]
  exact sc_of ⟨s.1.1, fun x h1 h2 => by rw [e x h1]; exact s.1.2.1 x h1 h2, by rw [e _ s.2.1]; exact s.1.2.2⟩
theorem wb_wb {b : Int → Int} {n i : Int} (hi : i ≤ n) : wb b n (wb b n i) = wb b n i := by
  have s := wb_s (b := b) hi
  by_cases z : wb b n i < n
  · exact wb_self z (wb_nb hi z)
  · have : wb b n i = n := by omega
    rw [this, wb_n]
/-- a turn of the reference at a word -/
theorem t_word {h : Hp} {l u n i e : Int} {Q : (Int × Int × Hp) ⊕ ((Int × Hp) ⊕ ((Int × Int) × Hp)) → Prop} (rm : RM h 1 7) (u1 : h u (-2) % 16 = 2) (u2 : n ≤ h u (-1)) (n1 : n ≤ 16384) (i0 : 0 ≤ i) (i1 : i < n) (nb : ¬ (h u i = 10 ∨ h u i = 32)) (rb : ∀ j, 0 ≤ j → j < n → h u j ≤ 127)
    (bad : ∀ rt, Thr 448 i h rt → (∃ j, i ≤ j ∧ j < we (h u) n i ∧ ¬ (33 ≤ h u j ∧ h u j ≤ 126)) → Q (.inr (.inr rt)))
    (k : (∀ j, i ≤ j → j < we (h u) n i → 33 ≤ h u j ∧ h u j ≤ 126) → Pz (if e = 0 then ((m_X18_is u i (we (h u) n i) (-74) h).bind fun v197 =>
  if v197 = 0 then (gd (h u (-2) % 16 = 2 ∧ (0 : Int) ≤ i ∧ i < h u (-1)) (if (h u i) ≠ 61 then (bT (m_X21_pattern l u i (we (h u) n i) h) (fun _ h233 =>
  m_X21_read_j236 (we (h u) n i) e h233) (fun a_ h_ => some (.inr (.inr ((1, a_), h_)))))
  else (bT (m_X21_exception l u i (we (h u) n i) h) (fun _ h222 =>
  m_X21_read_j236 (we (h u) n i) e h222) (fun a_ h_ => some (.inr (.inr ((1, a_), h_)))))))
  else (lt_ 1 fun x4_204 =>
  m_X21_read_j236 (we (h u) n i) x4_204 h))
  else (if (w32 ((we (h u) n i) - i)) ≠ 2 then (al h 448 7 fun a154 h154 =>
  (x_broken a154 i h154).bind fun h159 =>
  some (.inr (.inr ((1, a154), h159))))
  else (gd (h u (-2) % 16 = 2 ∧ (0 : Int) ≤ i ∧ i < h u (-1)) (if (h u i) < 49 then (al h 448 7 fun a154_1 h154_1 =>
  (x_broken a154_1 i h154_1).bind fun h159_1 =>
  some (.inr (.inr ((1, a154_1), h159_1))))
  else (if 57 < (h u i) then (al h 448 7 fun a154_2 h154_2 =>
  (x_broken a154_2 i h154_2).bind fun h159_2 =>
  some (.inr (.inr ((1, a154_2), h159_2))))
  else (gd (h u (-2) % 16 = 2 ∧ (0 : Int) ≤ (w32 (i + 1)) ∧ (w32 (i + 1)) < h u (-1)) (if (h u (w32 (i + 1))) < 49 then (al h 448 7 fun a154_3 h154_3 =>
  (x_broken a154_3 i h154_3).bind fun h159_3 =>
  some (.inr (.inr ((1, a154_3), h159_3))))
  else (if (h u (w32 (i + 1))) ≤ 57 then (pt h l 0 (w32 ((h u i) - 48)) fun h170 =>
  pt h170 l 1 (w32 ((h170 u (w32 (i + 1))) - 48)) fun h182 =>
  lt_ 0 fun x4_186 =>
  m_X21_read_j236 (we (h u) n i) x4_186 h182)
  else (al h 448 7 fun a154_4 h154_4 =>
  (x_broken a154_4 i h154_4).bind fun h159_4 =>
  some (.inr (.inr ((1, a154_4), h159_4)))))))))))) Q) : Pz (m_X21_read_l9 l u n i e h) Q := by
  have s := we_s (b := h u) (n := n) (i := i) (by omega)
  unfold m_X21_read_l9 m_X21_read_j29
  refine z_ie (by omega) (z_gd ⟨u1, i0, by omega⟩ ?_)
  rw [q_X18_isBlank, Option.bind_some]
  have e0 : bI (isBl (h u i)) = 0 := bI0.mpr (decide_eq_false nb)
  refine z_it e0 (z_it (by omega) ?_)
  rw [q_X21_wordEnd u1 u2 i0 (by omega) n1 (fun j j0 j1 => rb j (by omega) j1), Option.bind_some]
  refine z_bind (z_mono (t_range u1 (by omega) i0 (by omega) (by omega) rm) (fun r hr => ?_))
  rcases hr with ⟨rfl, hr⟩ | ⟨rt, rfl, hr, hx⟩
  · exact k hr
  · exact z_some (bad rt hr hx)
theorem hy_row {h h' : Hp} {a t : Int} (f : F2 (hyW a) h h') (ht : t < a ∨ a + 13 < t) : h' t = h t := f.row (fun j z => by unfold hyW at z; omega)
theorem tp_row {h h' : Hp} {l t : Int} (f : F2 (tpW l) h h') (ht : t < l ∨ l + 9 < t) : h' t = h t := f.row (fun j z => by unfold tpW at z; omega)
theorem hy_0 {a : Int} (ha : a ∈ in_aX9) : ∀ j, ¬ hyW a 0 j := fun j z => by have := aX9 ha; unfold hyW at z; omega
theorem tp_0 {l : Int} (hl : l ∈ in_aX21) : ∀ j, ¬ tpW l 0 j := fun j z => by have := aX21 hl; unfold tpW at z; omega
/-- both readers of hyphens, on their way -/
def HS (hc0 ht0 : Hp) (a l t u n : Int) (hc ht : Hp) : Prop := LAY hc ∧ LAY ht ∧ RM hc 1 7 ∧ RM ht 1 7 ∧ (hc t (-2) % 16 = 2 ∧ n ≤ hc t (-1)) ∧ (ht u (-2) % 16 = 2 ∧ n ≤ ht u (-1) ∧ ht u (-1) ≤ 65536) ∧ (∀ j, 0 ≤ j → j < n → hc t j = ht u j) ∧ (∀ j, 0 ≤ j → j < n → -128 ≤ hc t j ∧ hc t j ≤ 127) ∧ F2 (hyW a) hc0 hc ∧ F2 (tpW l) ht0 ht ∧ HYr hc ht a l
theorem HS.go {hc0 ht0 hc ht hc' ht' : Hp} {a l t u n : Int} (ha : a ∈ in_aX9) (hl : l ∈ in_aX21) (htc : t < a ∨ a + 13 < t) (htt : u < l ∨ l + 9 < u) (S : HS hc0 ht0 a l t u n hc ht) (f1 : F2 (hyW a) hc hc') (f2 : F2 (tpW l) ht ht') (H : HYr hc' ht' a l) : HS hc0 ht0 a l t u n hc' ht' := by
  have h9 := aX9 ha
  have h21 := aX21 hl
  obtain ⟨s1, s2, s3, s4, s5, s6, s7, s8, s9, s10, s11⟩ := S
  have et : hc' t = hc t := f1.row (fun j z => by unfold hyW at z; omega)
  have eu : ht' u = ht u := f2.row (fun j z => by unfold tpW at z; omega)
  unfold HS
  rw [et, eu]
  exact ⟨hyW_l s1 ha f1, tpW_l s2 hl f2, rm_of s3 f1 (fun j z => by unfold hyW at z; omega), rm_of s4 f2 (fun j z => by unfold tpW at z; omega), s5, s6, s7, s8, s9.trans f1, s10.trans f2, H⟩
theorem HS.sameB {hc0 ht0 hc ht : Hp} {a l t u n x : Int} (S : HS hc0 ht0 a l t u n hc ht) (x0 : 0 ≤ x) (x1 : x ≤ n) : wb (ht u) n x = wb (hc t) n x ∧ we (ht u) n x = we (hc t) n x :=
  ⟨wb_congr x1 (fun j j0 j1 => (S.2.2.2.2.2.2.1 j (by omega) j1).symm), we_congr x1 (fun j j0 j1 => (S.2.2.2.2.2.2.1 j (by omega) j1).symm)⟩
noncomputable abbrev LC (a t n : Int) : Int × Hp → Option ((Int × Hp) ⊕ ((Int × Int) × Hp)) := fun q => m_X9_read_l12 a t n q.1 q.2
noncomputable abbrev LT (l u n : Int) : Int × Int × Hp → Option ((Int × Int × Hp) ⊕ ((Int × Hp) ⊕ ((Int × Int) × Hp))) := fun q => m_X21_read_l9 l u n q.1 q.2.1 q.2.2
theorem t_skip {hc0 ht0 hc ht q : Hp} {a l t u n e x : Int} (S : HS hc0 ht0 a l t u n hc ht) (n1 : n ≤ 4000) (eq : q u = ht u) (x0 : 0 ≤ x) (x1 : x ≤ n) : lp (LT l u n) (x, e, q) = lp (LT l u n) (wb (hc t) n x, e, q) := by
  have sb := (S.sameB x0 x1).1
  obtain ⟨s1, s2, s3, s4, s5, s6, s7, s8, s9, s10, s11⟩ := S
  rw [t_blanks (h := q) (by rw [eq]; exact s6.1) (by rw [eq]; exact s6.2.1) (by omega) (n - x).toNat x rfl x0 x1, eq, sb]
theorem HR_thr {hc0 ht0 hc ht : Hp} {a l t u n p : Int} {rc rt : (Int × Int) × Hp} (ha : a ∈ in_aX9) (hl : l ∈ in_aX21) (S : HS hc0 ht0 a l t u n hc ht) (p0 : 0 ≤ p) (p1 : p ≤ n) (z1 : ThF 432 p (hyW a) hc rc) (z2 : ThF 448 p (tpW l) ht rt) : HRq hc0 ht0 a l n rc (.inr rt) := by
  have h9 := aX9 ha
  have h21 := aX21 hl
  obtain ⟨s1, s2, s3, s4, s5, s6, s7, s8, s9, s10, s11⟩ := S
  exact Or.inr (Or.inr ⟨_, rfl, Or.inr ⟨p, p0, p1, ThF.trans s9 z1 (fun j z => by unfold hyW at z; omega), ThF.trans s10 z2 (fun j z => by unfold tpW at z; omega)⟩⟩)
theorem Thr.hy {h : Hp} {a p : Int} {r : (Int × Int) × Hp} (ha : a ∈ in_aX9) (z : Thr 432 p h r) : ThF 432 p (hyW a) h r := by
  have h9 := aX9 ha
  exact z.F F2.refl (fun j z => by unfold hyW at z; omega)
theorem Thr.tp {h : Hp} {l p : Int} {r : (Int × Int) × Hp} (hl : l ∈ in_aX21) (z : Thr 448 p h r) : ThF 448 p (tpW l) h r := by
  have h9 := aX21 hl
  exact z.F F2.refl (fun j z => by unfold tpW at z; omega)
