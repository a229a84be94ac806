set_option maxRecDepth 100000
/-! A PATTERN, read by the reference: from its first byte on -/
theorem t_p57 {h g : Hp} {l t fr to np ah s : Int} {sg : Int → List Int} {dt : Int → Int → Int} {M : Nat} (hL : LAY h) (hl : l ∈ in_aX21) (rm : RM h 1 7) (ht : t < l ∨ l + 9 < t) (ht1 : h t (-2) % 16 = 2) (ht2 : to ≤ h t (-1)) (s0 : 0 ≤ s) (he : to = s + M) (e1 : to ≤ 4000) (hah : ah = 0 ∨ ah = 1) (H : HYt h l np sg dt) (P : PTt h g l (h t) s ah 0) :
    Pz (m_X21_pattern_j57 l t fr to 0 s ah g) (fun r => ∃ be, ∃ K : Nat, (be = if s < to ∧ h t (to - 1) = 46 then 1 else 0) ∧ s + K + be = to ∧ PRt h l fr np sg dt (h t) ah be s K r) := by
  have h9 := aX21 hl
  unfold m_X21_pattern_j57
  refine z_lt (z_bind (z_mono (t_ploop (fr := fr) hL hl rm ht ht1 ht2 s0 he e1 hah P) (fun y hy => ?_)))
  have hbe : ∃ be, ∃ K : Nat, (be = if s < to ∧ h t (to - 1) = 46 then (1 : Int) else 0) ∧ s + K + be = to := by
    by_cases z : s < to ∧ h t (to - 1) = 46
    · exact ⟨1, M - 1, by rw [if_pos z], by omega⟩
    · exact ⟨0, M, by rw [if_neg z], by omega⟩
  cases y with
  | inr r =>
    obtain ⟨be, K, b1, b2⟩ := hbe
    replace hy : (∃ x : Nat, x < M ∧ ¬ okA (h t) s x ∧ h t (s + x) ≠ 46) ∧ ThF 448 fr (nowW l) h r := hy
    obtain ⟨⟨x, x1, x2, x3⟩, T⟩ := hy
    refine z_some ⟨be, K, b1, b2, Or.inl ⟨Or.inl (fun ok => x2 (ok x ?_)), ?_⟩⟩
    · by_cases z : s < to ∧ h t (to - 1) = 46
      · rw [if_pos z] at b1
        have : x ≠ M - 1 := fun y => x3 (by
          have e : s + (x : Int) = to - 1 := by omega
          rw [e]; exact z.2)
        omega
      · rw [if_neg z] at b1; omega
    · obtain ⟨z1, z2, z3, z4, z5, z6, z7, z8⟩ := T
      exact ⟨z1, z2, z3, z4, z5, z6.mono (fun b j z => z.imp (now_tw b j) id), z7, z8⟩
  | inl y =>
    obtain ⟨k, n, c, q⟩ := y
    replace hy : ∃ x : Nat, x ≤ M ∧ k = s + x ∧ c = (lets (h t) s x).length ∧ n = ah + (lets (h t) s x).length ∧ PTt h q l (h t) s ah x ∧ (x < M → h t (s + x) = 46) := hy
    obtain ⟨x, x1, rfl, rfl, rfl, ⟨ok, nd, F, S, S0, D⟩, xd⟩ := hy
    have LQ := tpW_l hL hl (F.mono now_tp)
    have l12 := okP_12 x ok
    have rq := rm_of rm F (fun j z => by unfold nowW at z; omega)
    obtain ⟨-, -, -, -, -, -, -, ⟨g1, g2, g3⟩, -⟩ := ly_X21 LQ hl
    show Pz (if to ≤ s + (x : Int) then m_X21_pattern_j193 l fr to (lets (h t) s x).length (s + x) (ah + (lets (h t) s x).length) q else _) _
    refine z_if (fun hc => ?_) (fun hc => ?_)
    · have xM : x = M := by omega
      have hnb : ¬ (s < to ∧ h t (to - 1) = 46) := fun z => nd (M - 1) (by omega) (by
        have e : s + ((M - 1 : Nat) : Int) = to - 1 := by omega
        rw [e]; exact z.2)
      have eto : s + (x : Int) = to := by omega
      rw [eto]
      by_cases z0 : (lets (h t) s x).length = 0
      · unfold m_X21_pattern_j193
        exact z_it (by omega) (z_brk rq (fun b h' z => z_some ⟨0, x, by rw [if_neg hnb], by omega, Or.inl ⟨Or.inr z0, z.F (F.mono now_tw) (fun j y => by unfold twW at y; omega)⟩⟩))
      · obtain ⟨w1, w2⟩ := pth_wd (be := 0) hah (Or.inl rfl) (lets_r (h t) s x) S S0 (fun z => by omega)
        exact z_mono (t_pkeep hL hl rm H hah (Or.inl rfl) F ok (by omega) w1 (by omega) w2 D _ rfl) (fun r hr => ⟨0, x, by rw [if_neg hnb], by omega, hr⟩)
    · have e46 := xd (by omega)
      refine z_gd (by (try simp (disch := omega) only [up_a, up_e, up_j, e32, e8, g1, g2, g3]) <;> omega) (z_pt (z_lt (z_lt ?_)))
      (try simp (disch := omega) only [up_a, up_e, up_j, e32, e8, g1])
      have F2' : F2 (nowW l) h (up q (l + 7) (ah + (lets (h t) s x).length) 46) := F.put (by unfold nowW; omega)
      have rq2 := rm_of rm F2' (fun j z => by unfold nowW at z; omega)
      by_cases hto : s + (x : Int) + 1 = to
      · have hb : s < to ∧ h t (to - 1) = 46 := ⟨by omega, by
          have e : to - 1 = s + (x : Int) := by omega
          rw [e]; exact e46⟩
        rw [hto]
        by_cases z0 : (lets (h t) s x).length = 0
        · unfold m_X21_pattern_j193
          exact z_it (by omega) (z_brk rq2 (fun b h' z => z_some ⟨1, x, by rw [if_pos hb], by omega, Or.inl ⟨Or.inr z0, z.F (F2'.mono now_tw) (fun j y => by unfold twW at y; omega)⟩⟩))
        · obtain ⟨w1, w2⟩ := pth_wd (q := up q (l + 7) (ah + (lets (h t) s x).length) 46) (t := l + 7) (be := 1) hah (Or.inr rfl) (lets_r (h t) s x) (fun y hy => by rw [up_j (by omega)]; exact S y hy) (fun z => by rw [up_j (by omega)]; exact S0 z) (fun z => up_s _ _ _ _)
          exact z_mono (t_pkeep hL hl rm H hah (Or.inr rfl) F2' ok (by omega) w1 (by omega) w2 (fun j j0 j1 => by rw [up_a (by omega)]; exact D j j0 j1) _ rfl) (fun r hr => ⟨1, x, by rw [if_pos hb], by omega, hr⟩)
      · obtain ⟨be, K, b1, b2⟩ := hbe
        have hbe2 : be ≤ 1 := by
          by_cases z : s < to ∧ h t (to - 1) = 46
          · rw [if_pos z] at b1; omega
          · rw [if_neg z] at b1; omega
        have nok : ¬ okP (h t) s K := fun z => by
          have := z x (by omega)
          unfold okA at this
          omega
        unfold m_X21_pattern_j193
        refine z_if (fun hz => z_brk rq2 (fun b h' z => z_some ⟨be, K, b1, b2, Or.inl ⟨Or.inl nok, z.F (F2'.mono now_tw) (fun j y => by unfold twW at y; omega)⟩⟩)) (fun hz => z_ie hto (z_brk rq2 (fun b h' z => z_some ⟨be, K, b1, b2, Or.inl ⟨Or.inl nok, z.F (F2'.mono now_tw) (fun j y => by unfold twW at y; omega)⟩⟩)))
theorem t_pat {h : Hp} {l t fr to np : Int} {sg : Int → List Int} {dt : Int → Int → Int} (hL : LAY h) (hl : l ∈ in_aX21) (rm : RM h 1 7) (ht : t < l ∨ l + 9 < t) (ht1 : h t (-2) % 16 = 2) (ht2 : to ≤ h t (-1)) (f0 : 0 ≤ fr) (f1 : fr < to) (e1 : to ≤ 4000) (H : HYt h l np sg dt) :
    Pz (m_X21_pattern l t fr to h) (fun r => ∃ ah be s, ∃ K : Nat, (ah = if h t fr = 46 then 1 else 0) ∧ s = fr + ah ∧ (be = if s < to ∧ h t (to - 1) = 46 then 1 else 0) ∧ s + K + be = to ∧ PRt h l fr np sg dt (h t) ah be s K r) := by
  have h9 := aX21 hl
  obtain ⟨-, -, -, -, -, -, -, ⟨k1, k2, k3⟩, ⟨k4, k5, k6⟩, -⟩ := ly_X21 hL hl
  unfold m_X21_pattern
  refine z_lt (z_lt (z_lt (z_bind (z_mono (cp_loop (F := fun (q : Int × Hp) => m_X21_pattern_l12 l q.1 q.2) (fin := fun q => q) (n := 64) (d := l + 8) (s := 0) (g := fun _ => 0) (by decide) (fun x q x0 x1 F => ?_)) (fun y hy => ?_)))))
  · have a1 : q l 11 = l + 8 := by rw [F _ _ (fun z => by omega)]; exact k4
    have a2 : q (l + 8) (-1) = 64 := by rw [F _ _ (fun z => by omega)]; exact k6
    have a3 : q (l + 8) (-2) = 2786 := by rw [F _ _ (fun z => by omega)]; exact k5
    show m_X21_pattern_l12 l x q = _
    unfold m_X21_pattern_l12
    (try simp (disch := omega) only [up_a, up_e, up_j, e32, e8, a1, a2, a3])
    by_cases hc : 64 ≤ x
    · rw [if_pos hc, if_pos hc]
    · rw [if_neg hc, if_neg hc, Int.zero_add]
      unfold gd pt lt_
      rw [if_pos (by omega)]
  · obtain ⟨q, rfl, F, E⟩ := hy
    have et : y t = h t := F.row (fun j z => by omega)
    have FN : F2 (nowW l) h y := F.mono (fun b j z => by unfold nowW; omega)
    have LQ := tpW_l hL hl (FN.mono now_tp)
    obtain ⟨-, -, -, -, -, -, -, ⟨g1, g2, g3⟩, -⟩ := ly_X21 LQ hl
    have Z : ∀ j, 0 ≤ j → j < 64 → y (l + 8) j = 0 := fun j j0 j1 => by
      have := E j j0 j1
      rw [Int.zero_add] at this; exact this
    have dz : ∀ ah s j : Int, (if ah ≤ j then dgf (h t) s 0 (j - ah) else 0) = 0 := fun ah s j => by
      split
      · rfl
      · rfl
    rw [et]
    refine z_gd ⟨ht1, f0, by omega⟩ (z_if (fun hc => ?_) (fun hc => ?_))
    · refine z_mono (t_p57 (s := fr) (ah := 0) (M := (to - fr).toNat) hL hl rm ht ht1 ht2 (by omega) (by omega) e1 (Or.inl rfl) H ⟨fun i hi => by omega, fun i hi => by omega, FN, fun i hi => absurd hi (by show ¬ i < 0; omega), fun z => by omega, fun j j0 j1 => by rw [Z j j0 j1, dz]⟩) (fun r hr => ?_)
      obtain ⟨be, K, b1, b2, b3⟩ := hr
      exact ⟨0, be, fr, K, by rw [if_neg hc], by omega, b1, b2, b3⟩
    · refine z_gd (by (try simp (disch := omega) only [up_a, up_e, up_j, e32, e8, g1, g2, g3]) <;> omega) (z_pt (z_lt (z_lt ?_)))
      (try simp (disch := omega) only [up_a, up_e, up_j, e32, e8, g1])
      refine z_mono (t_p57 (s := fr + 1) (ah := 1) (M := (to - fr - 1).toNat) hL hl rm ht ht1 ht2 (by omega) (by omega) e1 (Or.inr rfl) H ⟨fun i hi => by omega, fun i hi => by omega, FN.put (by unfold nowW; omega), fun i hi => absurd hi (by show ¬ i < 0; omega), fun z => up_s _ _ _ _, fun j j0 j1 => by rw [up_a (by omega), Z j j0 j1, dz]⟩) (fun r hr => ?_)
      obtain ⟨be, K, b1, b2, b3⟩ := hr
      exact ⟨1, be, fr + 1, K, by rw [if_pos (by omega)], by omega, b1, b2, b3⟩
