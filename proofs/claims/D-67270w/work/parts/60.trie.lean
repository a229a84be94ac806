set_option maxRecDepth 100000
/-! WHERE WORDS MAY BE PARTED: the component's tree of letters -/
theorem aX9 {a : Int} (h : a ∈ in_aX9) : a = 228 ∨ a = 242 := by
  simp only [in_aX9, List.mem_cons, List.not_mem_nil, or_false] at h
  exact h
theorem aX21 {a : Int} (h : a ∈ in_aX21) : a = 513 ∨ a = 523 := by
  simp only [in_aX21, List.mem_cons, List.not_mem_nil, or_false] at h
  exact h
/-- a tree of N nodes: c first children, s siblings, t letters; p (ghost) parents -/
def TRI (c s t p : Int → Int) (N : Int) : Prop :=
  1 ≤ N ∧ (∀ w, 1 ≤ w → w < N → 0 ≤ p w ∧ p w < w) ∧ (∀ v, 0 ≤ v → v < N → c v = -1 ∨ (v < c v ∧ c v < N ∧ p (c v) = v)) ∧
  (∀ k, 1 ≤ k → k < N → s k = -1 ∨ (1 ≤ s k ∧ s k < k ∧ p (s k) = p k)) ∧ (∀ w, 1 ≤ w → w < N → w ≤ c (p w)) ∧
  (∀ k w, 1 ≤ w → w < k → k < N → p w = p k → w ≤ s k) ∧ (∀ k w, 1 ≤ w → w < N → 1 ≤ k → k < N → p w = p k → t w = t k → w = k)
theorem c_find {h : Hp} {a v c : Int} {p : Int → Int} (hL : LAY h) (ha : a ∈ in_aX9) (T : TRI (h (a + 2)) (h (a + 3)) (h (a + 1)) p (h a 6)) (N1 : h a 6 ≤ 4216) (v0 : 0 ≤ v) (v1 : v < h a 6) :
    Pz (m_X9_find a v c h) (fun w => (w = -1 ∧ ∀ k, 1 ≤ k → k < h a 6 → p k = v → h (a + 1) k ≠ c) ∨ (1 ≤ w ∧ w < h a 6 ∧ p w = v ∧ h (a + 1) w = c)) := by
  obtain ⟨k0, ⟨k1, k2, k3⟩, ⟨k4, k5, k6⟩, ⟨k7, k8, k9⟩, -⟩ := ly_X9 hL ha
  obtain ⟨-, T1, T2, T3, T4, T5, -⟩ := T
  unfold m_X9_find
  repeat' first
    | with_reducible refine z_lt ?_
    | with_reducible refine z_pt ?_
    | with_reducible refine z_gd (by (try simp (disch := omega) only [up_a, up_e, up_j, e32, e8, k0, k1, k2, k3, k4, k5, k6, k7, k8, k9]) <;> omega) ?_
    | with_reducible refine z_it (by decide) ?_
    | with_reducible refine z_ie (by decide) ?_
    | with_reducible refine z_if (fun hc => ?_) (fun hc => ?_)
    | with_reducible refine zc_sm (fun hc => ?_) (fun hc => ?_)
    | with_reducible refine zc_dg (fun hc => ?_) (fun hc => ?_)
    | with_reducible refine zc_bl (fun hc => ?_) (fun hc => ?_)
    | with_reducible refine zt_sm (fun hc => ?_) (fun hc => ?_)
    | with_reducible refine zt_dg (fun hc => ?_) (fun hc => ?_)
    | with_reducible refine zt_bl (fun hc => ?_) (fun hc => ?_)
  refine z_bind (z_mono (z_lp (Q := fun w => (w = -1 ∧ ∀ k, 1 ≤ k → k < h a 6 → p k = v → h (a + 1) k ≠ c) ∨ (1 ≤ w ∧ w < h a 6 ∧ p w = v ∧ h (a + 1) w = c)) (fun x : Int => (x = -1 ∨ (1 ≤ x ∧ x < h a 6 ∧ p x = v)) ∧ ∀ k, 1 ≤ k → k < h a 6 → p k = v → h (a + 1) k = c → k ≤ x) (fun x => (x + 1).toNat) ?_ ?_) (fun w hw => z_some hw))
  · (try simp (disch := omega) only [up_a, up_e, up_j, e32, e8, k0, k1, k2, k3, k4, k5, k6, k7, k8, k9])
    refine ⟨?_, fun k h1 h2 h3 _ => by rw [← h3]; exact T4 k h1 h2⟩
    have := T2 v v0 v1
    omega
  · rintro x ⟨i1, i2⟩
    unfold m_X9_find_l7
    refine z_if (fun hc => z_some (Or.inl ⟨by omega, fun k h1 h2 h3 h4 => by have := i2 k h1 h2 h3 h4; omega⟩)) (fun hc => ?_)
    have i3 : 1 ≤ x ∧ x < h a 6 ∧ p x = v := by omega
    refine z_gd (by (try simp (disch := omega) only [up_a, up_e, up_j, e32, e8, k0, k1, k2, k3, k4, k5, k6, k7, k8, k9]) <;> omega) ?_
    rw [k1]
    refine z_if (fun hd => z_some (Or.inr ⟨i3.1, i3.2.1, i3.2.2, hd⟩)) (fun hd => ?_)
    refine z_gd (by (try simp (disch := omega) only [up_a, up_e, up_j, e32, e8, k0, k1, k2, k3, k4, k5, k6, k7, k8, k9]) <;> omega) ?_
    rw [k7]
    refine z_lt (z_some ⟨⟨?_, fun k h1 h2 h3 h4 => ?_⟩, ?_⟩)
    · have := T3 x i3.1 i3.2.1
      omega
    · have a1 := i2 k h1 h2 h3 h4
      have a2 : k ≠ x := fun z => hd (by rw [← z]; exact h4)
      exact T5 x k h1 (by omega) i3.2.1 (by omega)
    · have := T3 x i3.1 i3.2.1
      show (h (a + 3) x + 1).toNat < (x + 1).toNat
      omega
theorem TRI.grow {c s t p c' s' t' : Int → Int} {N v x : Int} (T : TRI c s t p N) (v0 : 0 ≤ v) (v1 : v < N) (hn : ∀ k, 1 ≤ k → k < N → p k = v → t k ≠ x) (c1 : c' v = N) (c2 : c' N = -1) (c3 : ∀ k, k ≠ v → k ≠ N → c' k = c k)
    (s1 : s' N = c v) (s2 : ∀ k, k ≠ N → s' k = s k) (t1 : t' N = x) (t2 : ∀ k, k ≠ N → t' k = t k) : TRI c' s' t' (fun k => if k = N then v else p k) (N + 1) := by
  obtain ⟨T0, T1, T2, T3, T4, T5, T6⟩ := T
  have e1 : ∀ k, k ≠ N → (if k = N then v else p k) = p k := fun k hk => if_neg hk
  have e2 : (if N = N then v else p N) = v := if_pos rfl
  refine ⟨by omega, fun w h1 h2 => ?_, fun u h1 h2 => ?_, fun k h1 h2 => ?_, fun w h1 h2 => ?_, fun k w h1 h2 h3 h4 => ?_, fun k w h1 h2 h3 h4 h5 h6 => ?_⟩
  · dsimp only
    by_cases hw : w = N
    · subst hw; rw [e2]; omega
    · rw [e1 w hw]; exact T1 w h1 (by omega)
  · by_cases hu : u = v
    · subst hu; rw [c1]; exact Or.inr ⟨v1, by omega, e2⟩
    · by_cases hN : u = N
      · subst hN; exact Or.inl c2
      · rw [c3 u hu hN]
        have := T2 u h1 (by omega)
        by_cases hz : c u = N
        · omega
        · dsimp only; rw [e1 _ hz]; omega
  · dsimp only
    by_cases hk : k = N
    · subst hk
      rw [s1, e2]
      have := T2 v v0 v1
      by_cases hz : c v = k
      · omega
      · rw [e1 _ hz]; omega
    · rw [s2 k hk, e1 k hk]
      have := T3 k h1 (by omega)
      by_cases hz : s k = N
      · omega
      · rw [e1 _ hz]; exact this
  · dsimp only
    by_cases hw : w = N
    · subst hw; rw [e2, c1]; omega
    · rw [e1 w hw]
      have a1 := T1 w h1 (by omega)
      have a2 := T4 w h1 (by omega)
      by_cases hv : p w = v
      · rw [hv, c1]; omega
      · rw [c3 _ hv (by omega)]; exact a2
  · dsimp only at h4
    rw [e1 w (by omega)] at h4
    by_cases hk : k = N
    · subst hk
      rw [e2] at h4
      rw [s1, ← h4]
      exact T4 w h1 h2
    · rw [e1 k hk] at h4
      rw [s2 k hk]
      exact T5 k w h1 h2 (by omega) h4
  · dsimp only at h5
    by_cases hw : w = N
    · by_cases hk : k = N
      · omega
      · subst hw
        rw [e2, e1 k hk] at h5
        rw [t1, t2 k hk] at h6
        exact absurd h6.symm (hn k h3 (by omega) h5.symm)
    · by_cases hk : k = N
      · subst hk
        rw [e2, e1 w hw] at h5
        rw [t1, t2 w hw] at h6
        exact absurd h6 (hn w h1 (by omega) h5)
      · rw [e1 w hw, e1 k hk] at h5
        rw [t2 w hw, t2 k hk] at h6
        exact T6 k w h1 (by omega) h3 (by omega) h5 h6
/-- what a step writes -/
def stW (a : Int) : Int → Int → Prop := fun b j => (b = a ∧ j = 6) ∨ (a + 1 ≤ b ∧ b ≤ a + 4 ∧ 0 ≤ j)
theorem stp_l {h h' : Hp} {a : Int} (hL : LAY h) (ha : a ∈ in_aX9) (f : F2 (stW a) h h') : LAY h' := by
  obtain ⟨k0, ⟨k1, k2, k3⟩, ⟨k4, k5, k6⟩, ⟨k7, k8, k9⟩, ⟨k10, k11, k12⟩, -⟩ := ly_X9 hL ha
  have h9 := aX9 ha
  refine hL.F2 f (fun b j z => ?_)
  rcases z with ⟨rfl, rfl⟩ | ⟨z1, z2, z3⟩
  · rw [k0]; exact ⟨by decide, by omega, by decide⟩
  · refine ⟨z3, by omega, ?_⟩
    have : b = a + 1 ∨ b = a + 2 ∨ b = a + 3 ∨ b = a + 4 := by omega
    rcases this with rfl | rfl | rfl | rfl
    · rw [k2]; exact fx_a (by decide) (by decide)
    · rw [k5]; exact fx_a (by decide) (by decide)
    · rw [k8]; exact fx_a (by decide) (by decide)
    · rw [k11]; exact fx_a (by decide) (by decide)
theorem c_step {h : Hp} {a v c : Int} {p : Int → Int} (hL : LAY h) (ha : a ∈ in_aX9) (T : TRI (h (a + 2)) (h (a + 3)) (h (a + 1)) p (h a 6)) (N1 : h a 6 < 4216) (v0 : 0 ≤ v) (v1 : v < h a 6) :
    Pz (m_X9_step a v c h) (fun r => F2 (stW a) h r.2 ∧ ∃ p', TRI (r.2 (a + 2)) (r.2 (a + 3)) (r.2 (a + 1)) p' (r.2 a 6) ∧ (∀ k, k < h a 6 → p' k = p k ∧ r.2 (a + 1) k = h (a + 1) k ∧ r.2 (a + 4) k = h (a + 4) k) ∧
      1 ≤ r.1 ∧ r.1 < r.2 a 6 ∧ p' r.1 = v ∧ r.2 (a + 1) r.1 = c ∧ ((r.2 = h ∧ p' = p) ∨ (r.1 = h a 6 ∧ r.2 a 6 = h a 6 + 1 ∧ r.2 (a + 4) r.1 = -1))) := by
  obtain ⟨k0, ⟨k1, k2, k3⟩, ⟨k4, k5, k6⟩, ⟨k7, k8, k9⟩, ⟨k10, k11, k12⟩, -⟩ := ly_X9 hL ha
  have h9 := aX9 ha
  have T' := T
  obtain ⟨T0, T1, T2, T3, T4, T5, T6⟩ := T
  unfold m_X9_step
  refine z_bind (z_mono (c_find hL ha T' (by omega) v0 v1) (fun w hw => ?_))
  refine z_if (fun hc => ?_) (fun hc => z_some ⟨F2.refl, p, T', fun k _ => ⟨rfl, rfl, rfl⟩, by dsimp only; omega, by dsimp only; omega, by dsimp only; omega, by dsimp only; omega, Or.inl ⟨rfl, rfl⟩⟩)
  have hn : ∀ k, 1 ≤ k → k < h a 6 → p k = v → h (a + 1) k ≠ c := by
    rcases hw with hw | hw
    · exact hw.2
    · omega
  repeat' first
    | with_reducible refine z_lt ?_
    | with_reducible refine z_pt ?_
    | with_reducible refine z_gd (by (try simp (disch := omega) only [up_a, up_e, up_j, e32, e8, k0, k1, k2, k3, k4, k5, k6, k7, k8, k9, k10, k11, k12]) <;> omega) ?_
    | with_reducible refine z_it (by decide) ?_
    | with_reducible refine z_ie (by decide) ?_
    | with_reducible refine z_if (fun hc => ?_) (fun hc => ?_)
    | with_reducible refine zc_sm (fun hc => ?_) (fun hc => ?_)
    | with_reducible refine zc_dg (fun hc => ?_) (fun hc => ?_)
    | with_reducible refine zc_bl (fun hc => ?_) (fun hc => ?_)
    | with_reducible refine zt_sm (fun hc => ?_) (fun hc => ?_)
    | with_reducible refine zt_dg (fun hc => ?_) (fun hc => ?_)
    | with_reducible refine zt_bl (fun hc => ?_) (fun hc => ?_)
  refine z_some ⟨?_, ?_⟩
  · dsimp only
    (try simp (disch := omega) only [up_a, up_e, up_j, e32, e8, k0, k1, k2, k3, k4, k5, k6, k7, k8, k9, k10, k11, k12])
    repeat (refine F2.put ?_ (by unfold stW; omega))
    exact F2.refl
  · dsimp only
    (try simp (disch := omega) only [up_a, up_e, up_j, e32, e8, k0, k1, k2, k3, k4, k5, k6, k7, k8, k9, k10, k11, k12])
    refine ⟨fun k => if k = h a 6 then v else p k, T'.grow v0 v1 hn ?_ ?_ (fun k z1 z2 => ?_) ?_ (fun k z => ?_) ?_ (fun k z => ?_), fun k hk => ⟨if_neg (by omega), ?_, ?_⟩, by omega, by omega, ?_, ?_, Or.inr ⟨?_, ?_, ?_⟩⟩ <;> (try (try simp (disch := omega) only [up_a, up_e, up_j, e32, e8])) <;> (try omega)
