-- needs: 99zzzzs
set_option maxRecDepth 100000
/-! GATHERING: a byte comes to a text of the component -/
def pbW (b t : Int) : Int → Int → Prop := fun q j => txW t q j ∨ (q = b ∧ j = 27)
theorem aX14' {b : Int} (hb : b ∈ in_aX14) : b = 292 ∨ b = 357 ∨ b = 422 := by
  revert hb
  unfold in_aX14
  simp
theorem rg14a : ([(262, 264), (266, 268), (270, 272)] : List (Int × Int)).all rgA = true ∧ ([(261, [3, 4, 5, 6]), (265, [3, 4, 5, 6]), (269, [3, 4, 5, 6]), (292, [27]), (357, [27]), (422, [27])] : List (Int × List Int)).all rgO = true := by decide +kernel
theorem pbW_l {h h' : Hp} {b t : Int} (hL : LAY h) (ht : t ∈ in_aX12) (hb : b ∈ in_aX14) (f : F2 (pbW b t) h h') : LAY h' := by
  have e := aX12 ht
  have e' := aX14' hb
  refine lay_W hL f [(262, 264), (266, 268), (270, 272)] [(261, [3, 4, 5, 6]), (265, [3, 4, 5, 6]), (269, [3, 4, 5, 6]), (292, [27]), (357, [27]), (422, [27])] rg14a.1 rg14a.2 (fun q j z => ?_)
  unfold pbW txW at z
  rcases z with (⟨rfl, z1, z2⟩ | ⟨z1, z2, z3⟩) | ⟨rfl, rfl⟩
  · refine ⟨by omega, Or.inr ?_⟩
    have : j ∈ ([3, 4, 5, 6] : List Int) := by simp; omega
    rcases e with rfl | rfl | rfl
    · exact ⟨(261, [3, 4, 5, 6]), by simp, rfl, this⟩
    · exact ⟨(265, [3, 4, 5, 6]), by simp, rfl, this⟩
    · exact ⟨(269, [3, 4, 5, 6]), by simp, rfl, this⟩
  · refine ⟨z3, Or.inl ?_⟩
    rcases e with rfl | rfl | rfl
    · exact ⟨(262, 264), by simp, by dsimp only; omega, by dsimp only; omega⟩
    · exact ⟨(266, 268), by simp, by dsimp only; omega, by dsimp only; omega⟩
    · exact ⟨(270, 272), by simp, by dsimp only; omega, by dsimp only; omega⟩
  · refine ⟨by decide, Or.inr ?_⟩
    rcases e' with rfl | rfl | rfl
    · exact ⟨(292, [27]), by simp, rfl, by simp⟩
    · exact ⟨(357, [27]), by simp, rfl, by simp⟩
    · exact ⟨(422, [27]), by simp, rfl, by simp⟩
theorem F2.thru {W : Int → Int → Prop} {h h1 h2 : Hp} (a : F2 W h h1) (b : F2 W h1 h2) : F2 W h h2 := a.trans b
/-- what is behind the blank -/
theorem c_put14b {h : Hp} {b t c z n o : Int} {T : List (Int × Int × Int)} (hL : LAY h) (ht : t ∈ in_aX12) (hb : b ∈ in_aX14) (rm : RM h 1 6) (R : txR h t T) (hn : (T.length : Int) ≤ 24000) (c0 : 0 ≤ c) (c1 : c < 128) (z0 : 0 ≤ z) (eo : h b 27 = o) (o0 : 0 ≤ o ∧ o ≤ 1000000000) :
    Pz (m_X14_put_j50 b t c z n h) (fun r => (r.1 = (0, 0) ∧ F2 (pbW b t) h r.2 ∧ txC r.2 t (T ++ [(c, z, if n = 0 then -1 else o)], -1) ∧ r.2 b 27 = (if n = 0 then o else o + 1)) ∨ ((T.length : Int) = 24000 ∧ TH (pbW b t) h r)) := by
  have ht' := aX12 ht
  have hb' := aX14' hb
  obtain ⟨r1, r2⟩ := R
  unfold m_X14_put_j50
  refine z_pt (z_pt ?_)
  have F1 : F2 (pbW b t) h (up (up h t 4 0) t 6 1) := (F2.refl.put (by unfold pbW txW; omega)).put (by unfold pbW txW; omega)
  have R1 : txR (up (up h t 4 0) t 6 1) t T := ⟨by rw [up_j (by decide), up_j (by decide)]; exact r1, fun i i0 i1 => by
    have e : ∀ k, 1 ≤ k → up (up h t 4 0) t 6 1 (t + k) i = h (t + k) i := fun k k0 => (up_a (by omega)).trans (up_a (by omega))
    rw [e 1 (by decide), e 2 (by decide), e 3 (by decide)]; exact r2 i i0 i1⟩
  have v4 : up (up h t 4 0) t 6 1 t 4 = 0 := by rw [up_j (by decide), up_s]
  have v6 : up (up h t 4 0) t 6 1 t 6 = 1 := up_s _ _ _ _
  have vo : up (up h t 4 0) t 6 1 b 27 = o := by rw [up_a (by omega), up_a (by omega)]; exact eo
  have z00 : up (up h t 4 0) t 6 1 0 0 = h 0 0 := by rw [up_a (by omega), up_a (by omega)]
  generalize up (up h t 4 0) t 6 1 = g at F1 R1 v4 v6 vo z00 ⊢
  have L1 := pbW_l hL ht hb F1
  have rm1 : RM g 1 6 := rmF rm F1 (fun j z => by unfold pbW txW at z; omega)
  have go : ∀ q, q = (if n = 0 then -1 else o) → Pz (m_X14_put_j76 b t c z n q g) (fun r => (r.1 = (0, 0) ∧ F2 (pbW b t) h r.2 ∧ txC r.2 t (T ++ [(c, z, if n = 0 then -1 else o)], -1) ∧ r.2 b 27 = (if n = 0 then o else o + 1)) ∨ ((T.length : Int) = 24000 ∧ TH (pbW b t) h r)) := by
    intro q hq
    unfold m_X14_put_j76
    refine z_bT (z_mono (c_put12 (z := z) (q := q) L1 ht rm1 R1 c0 c1 hn) (fun r hr => ?_))
    rcases hr with ⟨e, hl, f, R3⟩ | ⟨hl, x⟩
    · refine Or.inl ⟨by rw [e], ?_⟩
      have f' : F2 (pbW b t) g r.2 := f.mono (fun q j z => by unfold tx3W at z; unfold pbW txW; omega)
      have w4 : r.2 t 4 = 0 := by rw [f _ _ (fun z => by unfold tx3W at z; omega)]; exact v4
      have w6 : r.2 t 6 = 1 := by rw [f _ _ (fun z => by unfold tx3W at z; omega)]; exact v6
      have wo : r.2 b 27 = o := by rw [f _ _ (fun z => by unfold tx3W at z; omega)]; exact vo
      have X : ∀ g', F2 (fun q j => q = b ∧ j = 27) r.2 g' → txC g' t (T ++ [(c, z, if n = 0 then -1 else o)], -1) := fun g' f2 => by
        have e : ∀ k, 0 ≤ k → k ≤ 3 → g' (t + k) = r.2 (t + k) := fun k k0 k1 => f2.row (fun j z => by omega)
        have e0 := e 0 (by decide) (by decide)
        rw [show t + 0 = t by omega] at e0
        have tn : T ++ [(c, z, if n = 0 then -1 else o)] ≠ [] := by simp
        refine ⟨?_, ?_, ?_, ?_, fun _ => ⟨?_, fun z => by dsimp only at z; omega⟩, fun z => absurd z tn⟩
        · rw [e0, R3.1, hq]
        · simp only [List.length_append, List.length_singleton]; omega
        · intro i i0 i1
          rw [e 1 (by decide) (by decide), e 2 (by decide) (by decide), e 3 (by decide) (by decide), ← hq]
          refine R3.2 i i0 ?_
          simp only [List.length_append, List.length_singleton] at i1 ⊢
          omega
        · rw [e0, w6, decide_eq_true tn]; rfl
        · rw [e0, w4]; rfl
      refine z_if (fun h0 => ?_) (fun h0 => ?_)
      · refine z_some (Or.inl ⟨rfl, F1.trans f', X _ F2.refl, ?_⟩)
        dsimp only
        rw [if_pos h0]; exact wo
      · refine z_pt (z_some (Or.inl ⟨rfl, (F1.trans f').put (Or.inr ⟨rfl, rfl⟩), X _ (F2.refl.put ⟨rfl, rfl⟩), ?_⟩))
        dsimp only
        rw [if_neg h0, up_s, wo, e32 (by omega) (by omega)]
    · refine Or.inr ⟨by rw [x.one]; decide, z_some (Or.inr ⟨hl, ?_⟩)⟩
      have x' := TH.after F1 (by omega) (x.mono (fun q j z => by unfold tx3W at z; unfold pbW txW; omega))
      have e1 := x'.one
      rcases r with ⟨⟨r1, r2⟩, r3⟩
      dsimp only at e1 ⊢
      rw [e1] at x'
      exact x'
  refine z_if (fun h0 => go _ (by rw [if_pos h0])) (fun h0 => go _ (by rw [if_neg h0]; exact vo))
theorem c_put14 {h : Hp} {b t c z n o : Int} {s : TXT} (hL : LAY h) (ht : t ∈ in_aX12) (hb : b ∈ in_aX14) (rm : RM h 1 6) (X : txC h t s) (c0 : 0 ≤ c) (c1 : c < 128) (z0 : 0 ≤ z) (eo : h b 27 = o) (o0 : 0 ≤ o ∧ o ≤ 1000000000) :
    Pz (m_X14_put b t c z n h) (fun r => (r.1 = (0, 0) ∧ F2 (pbW b t) h r.2 ∧ txC r.2 t (txP s c z (if n = 0 then -1 else o)) ∧ r.2 b 27 = (if n = 0 ∨ c = 10 ∨ c = 32 then o else o + 1)) ∨ (24000 < ((txP s c z (if n = 0 then -1 else o)).1.length : Int) ∧ TH (pbW b t) h r)) := by
  have ht' := aX12 ht
  have hb' := aX14' hb
  obtain ⟨x1, x2, x3, x4, x5, x6⟩ := X
  unfold m_X14_put
  refine zc_bl (fun hc => ?_) (fun hc => ?_)
  · rw [if_neg (by decide)]
    have eT : txP s c z (if n = 0 then -1 else o) = (s.1, if s.1 = [] then -1 else if 0 ≤ s.2 then s.2 else z) := if_pos hc
    rw [eT]
    have Xn : ∀ {g : Hp}, F2 (fun q j => q = t ∧ (j = 4 ∨ j = 5)) h g → g t 4 = 1 → (s.1 ≠ [] → g t 5 = if 0 ≤ s.2 then s.2 else z) → txC g t (s.1, if s.1 = [] then -1 else if 0 ≤ s.2 then s.2 else z) := fun {g} f g4 g5 => by
      have e : ∀ k, 1 ≤ k → g (t + k) = h (t + k) := fun k k0 => f.row (fun j z => by omega)
      refine ⟨by rw [f _ _ (fun z => by omega)]; exact x1, x2, fun i i0 i1 => by rw [e 1 (by decide), e 2 (by decide), e 3 (by decide)]; exact x3 i i0 i1, by rw [f _ _ (fun z => by omega)]; exact x4, fun hs => ?_, fun hs => if_pos hs⟩
      have hs' : ¬ s.1 = [] := hs
      have p0 : 0 ≤ (if s.1 = [] then -1 else if 0 ≤ s.2 then s.2 else z) := by
        rw [if_neg hs']; split <;> omega
      refine ⟨by rw [g4, decide_eq_true p0]; rfl, fun _ => ?_⟩
      show g t 5 = (if s.1 = [] then -1 else if 0 ≤ s.2 then s.2 else z)
      rw [if_neg hs']; exact g5 hs
    refine z_gd (g_X12 hL ht) (z_if (fun h4 => ?_) (fun h4 => ?_))
    · refine z_pt (z_some (Or.inl ⟨rfl, F2.refl.put (by unfold pbW txW; omega), Xn (F2.refl.put ⟨rfl, Or.inl rfl⟩) (up_s _ _ _ _) (fun hs => ?_), ?_⟩))
      · obtain ⟨y1, y2⟩ := x5 hs
        have p0 : 0 ≤ s.2 := by
          by_cases p0 : 0 ≤ s.2
          · exact p0
          · exact absurd (by rw [y1, decide_eq_false p0]; rfl) h4
        dsimp only
        rw [up_j (by decide), if_pos p0]; exact y2 p0
      · dsimp only
        rw [up_a (by omega), eo, if_pos (Or.inr hc)]
    · refine z_pt (z_pt (z_some (Or.inl ⟨rfl, (F2.refl.put (by unfold pbW txW; omega)).put (by unfold pbW txW; omega), Xn ((F2.refl.put ⟨rfl, Or.inr rfl⟩).put ⟨rfl, Or.inl rfl⟩) (up_s _ _ _ _) (fun hs => ?_), ?_⟩)))
      · obtain ⟨y1, y2⟩ := x5 hs
        have p0 : ¬ 0 ≤ s.2 := fun p0 => by
          rw [y1, decide_eq_true p0] at h4
          exact h4 (by decide)
        dsimp only
        rw [up_j (by decide), up_s, if_neg p0]
      · dsimp only
        rw [up_a (by omega), up_a (by omega), eo, if_pos (Or.inr hc)]
  · rw [if_pos rfl]
    have eT : txP s c z (if n = 0 then -1 else o) = (s.1 ++ (if 0 ≤ s.2 then [(32, s.2, -1)] else []) ++ [(c, z, if n = 0 then -1 else o)], -1) := if_neg hc
    rw [eT]
    have eO : (if n = 0 ∨ c = 10 ∨ c = 32 then o else o + 1) = (if n = 0 then o else o + 1) := by
      by_cases h0 : n = 0
      · rw [if_pos (Or.inl h0), if_pos h0]
      · rw [if_neg (fun z => z.elim h0 hc), if_neg h0]
    rw [eO]
    have no : ∀ {u : List (Int × Int × Int)}, u = [] → Pz (m_X14_put_j50 b t c z n h) (fun r => (r.1 = (0, 0) ∧ F2 (pbW b t) h r.2 ∧ txC r.2 t (s.1 ++ u ++ [(c, z, if n = 0 then -1 else o)], -1) ∧ r.2 b 27 = (if n = 0 then o else o + 1)) ∨ (24000 < ((s.1 ++ u ++ [(c, z, if n = 0 then -1 else o)]).length : Int) ∧ TH (pbW b t) h r)) := fun {u} eu => by
      subst eu
      rw [List.append_nil]
      refine z_mono (c_put14b hL ht hb rm ⟨x1, x3⟩ x2 c0 c1 z0 eo o0) (fun r hr => ?_)
      rcases hr with hr | ⟨hl, x⟩
      · exact Or.inl hr
      · refine Or.inr ⟨?_, x⟩
        rw [List.length_append, List.length_singleton]; omega
    refine z_gd (g_X12 hL ht) (z_if (fun h4 => ?_) (fun h4 => z_if (fun h6 => ?_) (fun h6 => ?_)))
    · refine no (if_neg (fun p0 => ?_))
      by_cases hs : s.1 = []
      · have := x6 hs; omega
      · rw [(x5 hs).1, decide_eq_true p0] at h4
        exact absurd h4 (by decide)
    · refine no (if_neg (fun p0 => ?_))
      by_cases hs : s.1 = []
      · have := x6 hs; omega
      · rw [x4, decide_eq_true hs] at h6
        exact absurd h6 (by decide)
    · have hs : s.1 ≠ [] := fun hs => h6 (by rw [x4, decide_eq_false (fun z => z hs)]; rfl)
      obtain ⟨y1, y2⟩ := x5 hs
      have p0 : 0 ≤ s.2 := by
        by_cases p0 : 0 ≤ s.2
        · exact p0
        · exact absurd (by rw [y1, decide_eq_false p0]; rfl) h4
      rw [if_pos p0, y2 p0]
      refine z_bT (z_mono (c_put12 (z := s.2) (q := -1) hL ht rm ⟨x1, x3⟩ (by decide) (by decide) x2) (fun r hr => ?_))
      rcases hr with ⟨e, hl, f, R3⟩ | ⟨hl, x⟩
      · refine Or.inl ⟨by rw [e], ?_⟩
        have f' : F2 (pbW b t) h r.2 := f.mono (fun q j z => by unfold tx3W at z; unfold pbW txW; omega)
        have L1 := pbW_l hL ht hb f'
        refine z_mono (c_put14b L1 ht hb (rmF rm f' (fun j z => by unfold pbW txW at z; omega)) R3 (by rw [List.length_append, List.length_singleton]; omega) c0 c1 z0 (by rw [f _ _ (fun z => by unfold tx3W at z; omega)]; exact eo) o0) (fun r' hr => ?_)
        rcases hr with ⟨e, f2, X, eo'⟩ | ⟨hl', x⟩
        · exact Or.inl ⟨e, f'.trans f2, X, eo'⟩
        · refine Or.inr ⟨?_, TH.after f' (by rw [f _ _ (fun z => by unfold tx3W at z; omega)]; omega) x⟩
          rw [List.length_append, List.length_singleton]; omega
      · refine Or.inr ⟨by rw [x.one]; decide, z_some (Or.inr ⟨?_, ?_⟩)⟩
        · simp only [List.length_append, List.length_singleton]; omega
        · have x' := x.mono (V := pbW b t) (fun q j z => by unfold tx3W at z; unfold pbW txW; omega)
          have e1 := x'.one
          rcases r with ⟨⟨r1, r2⟩, r3⟩
          dsimp only at e1 ⊢
          rw [e1] at x'
          exact x'
