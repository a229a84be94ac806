set_option maxRecDepth 100000
/-! A PATTERN, kept by the reference -/
theorem enc_inj {a b : Int} (a0 : 0 ≤ a) (b0 : 0 ≤ b) (a1 : a ≤ 26) (b1 : b ≤ 26) (e : enc a = enc b) : a = b := by
  unfold enc at e
  split at e <;> split at e <;> omega
theorem encs_inj : ∀ (L M : List Int), (∀ c ∈ L, 0 ≤ c ∧ c ≤ 26) → (∀ c ∈ M, 0 ≤ c ∧ c ≤ 26) → L.map enc = M.map enc → L = M := by
  intro L
  induction L with
  | nil =>
    intro M _ _ e
    cases M with
    | nil => rfl
    | cons b M => simp at e
  | cons a L ih =>
    intro M hL hM e
    cases M with
    | nil => simp at e
    | cons b M =>
      simp only [List.map_cons, List.cons.injEq] at e
      have ha := hL a (List.mem_cons_self ..)
      have hb := hM b (List.mem_cons_self ..)
      rw [enc_inj ha.1 hb.1 ha.2 hb.2 e.1, ih M (fun c hc => hL c (List.mem_cons_of_mem _ hc)) (fun c hc => hM c (List.mem_cons_of_mem _ hc)) e.2]
theorem t_psearch {h : Hp} {l np n : Int} {sg : Int → List Int} {dt : Int → Int → Int} {L : List Int} (hL : LAY h) (hl : l ∈ in_aX21) (H : HYt h l np sg dt) (en : n = L.length) (n1 : n ≤ 64) (eL : wd h (l + 7) 0 L.length = L.map enc) (rL : ∀ c ∈ L, 0 ≤ c ∧ c ≤ 26) :
    Pz (lp (fun (q : Int) => m_X21_pattern_l216 l n q h) 0) (fun p => PIX np sg L p ∧ 0 ≤ p ∧ p ≤ np) := by
  have h9 := aX21 hl
  obtain ⟨H1, H2, H3, H4, -⟩ := H
  obtain ⟨-, ⟨k1, k2, k3⟩, ⟨k4, k5, k6⟩, -, -, -, -, ⟨k7, k8, k9⟩, -⟩ := ly_X21 hL hl
  refine z_lp (fun p : Int => 0 ≤ p ∧ p ≤ np ∧ ∀ k, 0 ≤ k → k < p → sg k ≠ L) (fun p => (np - p).toNat) ⟨Int.le_refl 0, H2, fun k k0 k1 => by omega⟩ ?_
  rintro p ⟨p0, p1, p2⟩
  show Pz (m_X21_pattern_l216 l n p h) _
  unfold m_X21_pattern_l216
  rw [H1]
  refine z_if (fun hc => z_some ⟨Or.inr ⟨by omega, fun k k0 kk => p2 k k0 (by omega)⟩, p0, p1⟩) (fun hc => ?_)
  obtain ⟨b1, b2, b3, b4, b5, -⟩ := H4 p p0 (by omega)
  (try simp (disch := omega) only [up_a, up_e, up_j, e32, e8, k1, k2, k3, k4, k5, k6, k7, k8, k9, b2])
  refine z_gd (by (try simp (disch := omega) only [up_a, up_e, up_j, e32, e8]) <;> omega) (z_eqW (q_X18_same (by rw [k2]; decide) (by omega) (by omega) (by rw [k3]; omega) (by rw [k3]; decide) (by rw [k8]; decide) (by decide) (by omega) (by rw [k9]; omega) (by rw [k9]; decide)) (fun e => ?_) (fun e => ?_))
  · refine z_it (by decide) (z_some ⟨Or.inl ⟨p0, by omega, ?_⟩, p0, p1⟩)
    have e1 : (14 * p + ((sg p).length : Int) - 14 * p).toNat = (sg p).length := by omega
    have e2 : (n - 0).toNat = L.length := by omega
    rw [e1, e2, b1, eL] at e
    exact encs_inj _ _ b5 rL e
  · refine z_ie (by decide) (z_lt (z_some ⟨⟨by omega, by omega, fun k k0 kk => ?_⟩, by omega⟩))
    by_cases hk : k = p
    · rw [hk]
      intro z
      apply e
      have e1 : (14 * p + ((sg p).length : Int) - 14 * p).toNat = (sg p).length := by omega
      have e2 : (n - 0).toNat = L.length := by omega
      rw [e1, e2, b1, eL, z]
    · exact p2 k k0 (by omega)
def kpW (l p n : Int) : Int → Int → Prop := fun b j => (b = l ∧ j = 2) ∨ (b = l + 2 ∧ j = p) ∨ (b = l + 1 ∧ 14 * p ≤ j ∧ j < 14 * p + n) ∨ (b = l + 3 ∧ 16 * p ≤ j ∧ j < 16 * p + 16)
theorem t_p304 {h : Hp} {l p n m : Int} (hL : LAY h) (hl : l ∈ in_aX21) (p0 : 0 ≤ p) (p1 : p < 300) (n0 : 0 ≤ n) (n1 : n ≤ 14) :
    Pz (m_X21_pattern_j304 l n p m h) (fun r => r.1 = (0, 0) ∧ F2 (kpW l p n) h r.2 ∧ r.2 l 2 = m ∧ r.2 (l + 2) p = n ∧ (∀ j, 0 ≤ j → j < n → r.2 (l + 1) (14 * p + j) = h (l + 7) j) ∧ ∀ i, 0 ≤ i → i < 16 → r.2 (l + 3) (16 * p + i) = h (l + 8) i) := by
  have h9 := aX21 hl
  obtain ⟨k0, ⟨k1, k2, k3⟩, ⟨k4, k5, k6⟩, ⟨k7, k8, k9⟩, -, -, -, ⟨k10, k11, k12⟩, ⟨k13, k14, k15⟩, -⟩ := ly_X21 hL hl
  unfold m_X21_pattern_j304
  repeat' first
    | with_reducible refine z_lt ?_
    | with_reducible refine z_pt ?_
    | with_reducible refine z_gd (by (try simp (disch := omega) only [up_a, up_e, up_j, e32, e8, k0, k1, k2, k3, k4, k5, k6, k7, k8, k9, k10, k11, k12, k13, k14, k15]) <;> omega) ?_
    | with_reducible refine z_it (by decide) ?_
    | with_reducible refine z_ie (by decide) ?_
    | with_reducible refine z_if (fun hc => ?_) (fun hc => ?_)
    | with_reducible refine zc_sm (fun hc => ?_) (fun hc => ?_)
    | with_reducible refine zc_dg (fun hc => ?_) (fun hc => ?_)
    | with_reducible refine zc_bl (fun hc => ?_) (fun hc => ?_)
    | with_reducible refine zt_sm (fun hc => ?_) (fun hc => ?_)
    | with_reducible refine zt_dg (fun hc => ?_) (fun hc => ?_)
    | with_reducible refine zt_bl (fun hc => ?_) (fun hc => ?_)
  (try simp (disch := omega) only [up_a, up_e, up_j, e32, e8, k0, k1, k2, k3, k4, k5, k6, k7, k8, k9, k10, k11, k12, k13, k14, k15])
  have G : F2 (kpW l p n) h (up (up h l 2 m) (l + 2) p n) := (F2.refl.put (by unfold kpW; omega)).put (by unfold kpW; omega)
  refine z_bind (z_mono (cp_loop (F := fun (q : Int × Hp) => m_X21_pattern_l319 l n p q.1 q.2) (fin := fun q => q) (n := n) (d := l + 1) (s := 14 * p) (g := fun x => h (l + 7) x) n0 (fun x q x0 x1 F => ?_)) (fun y hy => ?_))
  · have f1 : ∀ j, j < 0 → q (l + 1) j = h (l + 1) j := fun j hj => by rw [F _ _ (fun z => by omega)]; (try simp (disch := omega) only [up_a, up_e, up_j, e32, e8])
    have f2 : ∀ j, j ≠ 2 → q l j = h l j := fun j hj => by rw [F _ _ (fun z => by omega)]; (try simp (disch := omega) only [up_a, up_e, up_j, e32, e8])
    have f3 : ∀ j, q (l + 7) j = h (l + 7) j := fun j => by rw [F _ _ (fun z => by omega)]; (try simp (disch := omega) only [up_a, up_e, up_j, e32, e8])
    have a1 := f1 (-1) (by decide)
    have a2 := f1 (-2) (by decide)
    have a3 := f2 4 (by decide)
    have a4 := f2 10 (by decide)
    show m_X21_pattern_l319 l n p x q = _
    unfold m_X21_pattern_l319
    (try simp (disch := omega) only [up_a, up_e, up_j, e32, e8, a1, a2, a3, a4, f3, k0, k1, k2, k3, k4, k5, k6, k7, k8, k9, k10, k11, k12, k13, k14, k15])
    by_cases hc : n ≤ x
    · rw [if_pos hc, if_pos hc]
    · rw [if_neg hc, if_neg hc]
      unfold gd pt lt_
      rw [if_pos (by omega), if_pos (by omega)]
  · obtain ⟨q, rfl, F, E⟩ := hy
    have G2 : F2 (kpW l p n) h y := G.trans (F.mono (fun b j z => by unfold kpW; omega))
    refine z_lt (z_bind (z_mono (cp_loop (F := fun (q : Int × Hp) => m_X21_pattern_l355 l p q.1 q.2) (fin := fun q => ((0, 0), q)) (n := 16) (d := l + 3) (s := 16 * p) (g := fun x => h (l + 8) x) (by decide) (fun x q x0 x1 F' => ?_)) (fun z hz => ?_)))
    · have f1 : ∀ j, j < 0 → q (l + 3) j = h (l + 3) j := fun j hj => by rw [F' _ _ (fun z => by omega), F _ _ (fun z => by omega)]; (try simp (disch := omega) only [up_a, up_e, up_j, e32, e8])
      have f2 : ∀ j, j ≠ 2 → q l j = h l j := fun j hj => by rw [F' _ _ (fun z => by omega), F _ _ (fun z => by omega)]; (try simp (disch := omega) only [up_a, up_e, up_j, e32, e8])
      have f3 : ∀ j, q (l + 8) j = h (l + 8) j := fun j => by rw [F' _ _ (fun z => by omega), F _ _ (fun z => by omega)]; (try simp (disch := omega) only [up_a, up_e, up_j, e32, e8])
      have a1 := f1 (-1) (by decide)
      have a2 := f1 (-2) (by decide)
      have a3 := f2 6 (by decide)
      have a4 := f2 11 (by decide)
      show m_X21_pattern_l355 l p x q = _
      unfold m_X21_pattern_l355
      (try simp (disch := omega) only [up_a, up_e, up_j, e32, e8, a1, a2, a3, a4, f3, k0, k1, k2, k3, k4, k5, k6, k7, k8, k9, k10, k11, k12, k13, k14, k15])
      by_cases hc : 16 ≤ x
      · rw [if_pos hc, if_pos hc]
      · rw [if_neg hc, if_neg hc]
        unfold gd pt lt_
        rw [if_pos (by omega), if_pos (by omega)]
    · obtain ⟨q, rfl, F', E'⟩ := hz
      refine z_some ⟨rfl, G2.trans (F'.mono (fun b j z => by unfold kpW; omega)), ?_, ?_, fun j j0 j1 => ?_, E'⟩ <;> dsimp only
      · rw [F' _ _ (fun z => by omega), F _ _ (fun z => by omega)]; (try simp (disch := omega) only [up_a, up_e, up_j, e32, e8])
      · rw [F' _ _ (fun z => by omega), F _ _ (fun z => by omega)]; (try simp (disch := omega) only [up_a, up_e, up_j, e32, e8])
      · rw [F' _ _ (fun z => by omega)]; exact E j j0 j1
