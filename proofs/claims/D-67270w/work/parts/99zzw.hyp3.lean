-- needs: 99zzv
set_option maxRecDepth 100000
/-! HYPHENS: the component's walk from one place -/
theorem ocX_done {np : Int} {sg : Int → List Int} {q : Int → Int} {n s : Int} {d : Nat} (h1 : ∀ p, 0 ≤ p → p < np → 1 ≤ (sg p).length) (hd : ∀ p, 0 ≤ p → p < np → occ (sg p) q n (s + 1) → (sg p).length ≤ d) : ∀ p i, ocX np sg q n (s + 1) 0 p i ↔ ocX np sg q n s d p i := by
  intro p i
  unfold ocX
  constructor
  · rintro ⟨p0, p1, o, z⟩
    refine ⟨p0, p1, o, ?_⟩
    by_cases hi : i ≤ s
    · exact Or.inl hi
    · rcases z with z | ⟨-, z⟩
      · have : i = s + 1 := by omega
        subst this
        exact Or.inr ⟨rfl, hd p p0 p1 o⟩
      · have := h1 p p0 p1; omega
  · rintro ⟨p0, p1, o, z⟩
    exact ⟨p0, p1, o, Or.inl (by omega)⟩
theorem c_walk9 {h : Hp} {a np n s r f : Int} {sg : Int → List Int} {dt : Int → Int → Int} {q : Int → Int} (hL : LAY h) (ha : a ∈ in_aX9) (C : HYc h a np sg dt) (hlen : ∀ p, 0 ≤ p → p < np → 1 ≤ (sg p).length) (n1 : n ≤ 24000) (s0 : -1 ≤ s) (sn : s < n)
    (kr : h r (-2) % 16 = 2) (lr : f + n ≤ h r (-1)) (f0 : 0 ≤ f) (fn : f + n ≤ 30000) (hr : ¬ (a ≤ r ∧ r ≤ a + 13)) (W : wdQ h r f n q) (G0 : ∀ k, 0 ≤ k → k ≤ n → gdM (ocX np sg q n s 0) sg dt k (h (a + 13) k)) :
    Pz (lp (fun (st : Int × Int × Hp) => m_X9_byPatterns_l39 a r f n s st.1 st.2.1 st.2.2) (0, s, h)) (fun h' => F2 (grW a) h h' ∧ ∀ k, 0 ≤ k → k ≤ n → gdM (ocX np sg q n (s + 1) 0) sg dt k (h' (a + 13) k)) := by
  have h9 := aX9 ha
  obtain ⟨C1, C2, C3, ⟨σ, T, P1, P2⟩, C5, C6, -⟩ := id C
  obtain ⟨pr, I, σ0, σ1⟩ := id T
  have inj := fun v w v0 v1 w0 w1 e => T.inj v.toNat v w (by omega) v0 v1 w0 w1 e
  have pre := fun v v0 v1 => T.pre v.toNat v (by omega) v0 v1
  refine z_lp (fun (st : Int × Int × Hp) => s ≤ st.2.1 ∧ st.2.1 ≤ n + 1 ∧ F2 (grW a) h st.2.2 ∧ ((0 ≤ st.1 ∧ st.1 < h a 6 ∧ σ st.1 = dwL q n (s + 1) (st.2.1 - s).toNat) ∨ (st.1 < 0 ∧ ∀ w, 0 ≤ w → w < h a 6 → σ w ≠ dwL q n (s + 1) (st.2.1 - s).toNat)) ∧ ∀ k, 0 ≤ k → k ≤ n → gdM (ocX np sg q n s (st.2.1 - s).toNat) sg dt k (st.2.2 (a + 13) k)) (fun st => (n + 1 - st.2.1).toNat) ⟨Int.le_refl _, by dsimp only; omega, F2.refl, Or.inl ⟨Int.le_refl _, by have := I.1; dsimp only; omega, by dsimp only; rw [σ0, show (s - s).toNat = 0 by omega]; rfl⟩, by dsimp only; rw [show (s - s).toNat = 0 by omega]; exact G0⟩ ?_
  rintro ⟨v, i, g⟩ ⟨i0, i1, Fg, hv, G⟩
  dsimp only at i0 i1 hv G
  replace Fg : F2 (grW a) h g := Fg
  have Lg := grW_l hL ha Fg
  have Cg := C.gr Fg
  show Pz (m_X9_byPatterns_l39 a r f n s v i g) _
  unfold m_X9_byPatterns_l39
  generalize hd : (i - s).toNat = d at *
  have ed : i = s + d := by omega
  have exitH : (∀ p, 0 ≤ p → p < np → occ (sg p) q n (s + 1) → (sg p).length ≤ d) → F2 (grW a) h g ∧ ∀ k, 0 ≤ k → k ≤ n → gdM (ocX np sg q n (s + 1) 0) sg dt k (g (a + 13) k) := fun hh => ⟨Fg, fun k k0 k1 => (G k k0 k1).congr (ocX_done hlen hh)⟩
  -- the strings of the patterns are in the tree
  have node : ∀ p, 0 ≤ p → p < np → ∃ w, 0 ≤ w ∧ w < h a 6 ∧ h (a + 4) w = p ∧ σ w = sg p := fun p p0 p1 => by
    obtain ⟨w, w0, w1, ew⟩ := P2 p p0 p1
    refine ⟨w, w0, w1, ew, ?_⟩
    rcases P1 w w0 w1 with z | ⟨-, -, z⟩
    · omega
    · rw [z, ew]
  rcases hv with ⟨v0, v1, ev⟩ | ⟨v0, ev⟩
  rotate_left
  · rw [if_pos v0]
    refine z_some (exitH (fun p p0 p1 o => ?_))
    by_cases hl : (sg p).length ≤ d
    · exact hl
    · exfalso
      obtain ⟨w, w0, w1, -, ew⟩ := node p p0 p1
      obtain ⟨w', x0, x1, ew'⟩ := pre w w0 w1 d (by rw [ew]; omega)
      refine ev w' x0 x1 ?_
      rw [ew', ew, o.2.2, dwL_take (by omega)]
  rw [if_neg (by omega)]
  by_cases hi : n < i
  · rw [if_pos hi]
    exact z_some (exitH (fun p p0 p1 o => by have := o.2.1; omega))
  rw [if_neg hi]
  -- one step with the letter c
  have step : ∀ c, c = dwE q n (i + 1) → Pz (m_X9_byPatterns_j82 a n s v i c g) (sE (fun (st : Int × Int × Hp) => (s ≤ st.2.1 ∧ st.2.1 ≤ n + 1 ∧ F2 (grW a) h st.2.2 ∧ ((0 ≤ st.1 ∧ st.1 < h a 6 ∧ σ st.1 = dwL q n (s + 1) (st.2.1 - s).toNat) ∨ (st.1 < 0 ∧ ∀ w, 0 ≤ w → w < h a 6 → σ w ≠ dwL q n (s + 1) (st.2.1 - s).toNat)) ∧ ∀ k, 0 ≤ k → k ≤ n → gdM (ocX np sg q n s (st.2.1 - s).toNat) sg dt k (st.2.2 (a + 13) k)) ∧ (n + 1 - st.2.1).toNat < (n + 1 - i).toNat) (fun h' => F2 (grW a) h h' ∧ ∀ k, 0 ≤ k → k ≤ n → gdM (ocX np sg q n (s + 1) 0) sg dt k (h' (a + 13) k))) := by
    intro c ec
    have g6 : g a 6 = h a 6 := Fg a 6 (fun z => by unfold grW at z; omega)
    have g1 : g (a + 1) = h (a + 1) := Fg.row (fun j z => by unfold grW at z; omega)
    have g2 : g (a + 2) = h (a + 2) := Fg.row (fun j z => by unfold grW at z; omega)
    have g3 : g (a + 3) = h (a + 3) := Fg.row (fun j z => by unfold grW at z; omega)
    have g4 : g (a + 4) = h (a + 4) := Fg.row (fun j z => by unfold grW at z; omega)
    have es : dwL q n (s + 1) (d + 1) = dwL q n (s + 1) d ++ [c] := by rw [dwL_s, ec, show s + 1 + (d : Int) = i + 1 by omega]
    have dd : (i + 1 - s).toNat = d + 1 := by omega
    unfold m_X9_byPatterns_j82
    refine z_bind (z_mono (c_find (p := pr) Lg ha (by rw [g1, g2, g3, g6]; exact I) (by rw [g6]; exact C5) v0 (by rw [g6]; exact v1)) (fun w hw => z_lt ?_))
    rw [e32 (x := i + 1) (by omega) (by omega)]
    rw [g6, g1] at hw
    -- no pattern ends here
    have none_ : (∀ p, 0 ≤ p → p < np → sg p ≠ dwL q n (s + 1) (d + 1)) → ∀ k, 0 ≤ k → k ≤ n → gdM (ocX np sg q n s (d + 1)) sg dt k (g (a + 13) k) := fun hh k k0 k1 => (G k k0 k1).congr (fun p' i' => by
      unfold ocX
      constructor
      · rintro ⟨p0, p1, o, z⟩
        refine ⟨p0, p1, o, z.imp id (fun ⟨z1, z2⟩ => ⟨z1, ?_⟩)⟩
        by_cases e : (sg p').length = d + 1
        · exfalso
          have o2 := o.2.2
          rw [e, z1] at o2
          exact hh p' p0 p1 o2
        · omega
      · rintro ⟨p0, p1, o, z⟩
        exact ⟨p0, p1, o, z.imp id (fun ⟨z1, z2⟩ => ⟨z1, by omega⟩)⟩)
    rcases hw with ⟨rfl, hw⟩ | ⟨w0, w1, w2, w3⟩
    · rw [if_pos (by decide)]
      have no : ∀ w, 0 ≤ w → w < h a 6 → σ w ≠ dwL q n (s + 1) (d + 1) := fun w w0 w1 e => by
        rw [es] at e
        by_cases hw0 : w = 0
        · rw [hw0, σ0] at e
          exact absurd e.symm (by simp)
        · rw [σ1 w (by omega) w1] at e
          obtain ⟨e1, e2⟩ := List.append_inj' e rfl
          have pw := I.2.1 w (by omega) w1
          have := inj (pr w) v pw.1 (by omega) v0 v1 (e1.trans ev.symm)
          exact hw w (by omega) w1 this (by simpa using e2)
      refine z_some ⟨⟨show s ≤ i + 1 by omega, show i + 1 ≤ n + 1 by omega, Fg, Or.inr ⟨show (-1 : Int) < 0 by decide, by rw [dd]; exact no⟩, ?_⟩, by dsimp only; omega⟩
      dsimp only
      rw [dd]
      exact none_ (fun p p0 p1 e => by
        obtain ⟨w, w0, w1, -, ew⟩ := node p p0 p1
        exact no w w0 w1 (ew.trans e))
    · have σw : σ w = dwL q n (s + 1) (d + 1) := by rw [σ1 w w0 w1, w2, w3, ev, es]
      obtain ⟨k0, -, -, -, kk, -⟩ := ly_X9 Lg ha
      have N1 := C5
      rw [if_neg (by omega)]
      simp only [kk]
      refine z_gd ⟨by decide, by omega, by omega⟩ ?_
      rw [g4]
      have uniqP : ∀ p, 0 ≤ p → p < np → sg p = dwL q n (s + 1) (d + 1) → p = h (a + 4) w := fun p p0 p1 e => by
        obtain ⟨w', x0, x1, e1, e2⟩ := node p p0 p1
        rw [← inj w' w x0 x1 (by omega) w1 (e2.trans (e.trans σw.symm)), e1]
      rcases P1 w (by omega) w1 with z | ⟨z0, z1, z2⟩
      · rw [if_pos (by omega)]
        refine z_some ⟨⟨show s ≤ i + 1 by omega, show i + 1 ≤ n + 1 by omega, Fg, Or.inl ⟨show 0 ≤ w by omega, w1, by rw [dd]; exact σw⟩, ?_⟩, by dsimp only; omega⟩
        dsimp only
        rw [dd]
        exact none_ (fun p p0 p1 e => by have := uniqP p p0 p1 e; omega)
      · rw [if_neg (by omega)]
        generalize hp : h (a + 4) w = p at *
        have sp : sg p = dwL q n (s + 1) (d + 1) := by rw [← z2]; exact σw
        have lp_ : (sg p).length = d + 1 := by rw [sp, dwL_len]
        have oc : occ (sg p) q n (s + 1) := ⟨by omega, by omega, by rw [lp_]; exact sp⟩
        have aw : aho (sg p) = if s = -1 then 1 else 0 := by rw [sp]; exact aho_dw s0 sn (fun k k0 k1 => (W k k0 k1).2.2.1)
        have hX : ∀ p' i', ocX np sg q n s (d + 1) p' i' ↔ ocX np sg q n s d p' i' ∨ (p' = p ∧ i' = s + 1) := fun p' i' => by
          unfold ocX
          constructor
          · rintro ⟨p0, p1, o, z⟩
            by_cases hi' : i' ≤ s
            · exact Or.inl ⟨p0, p1, o, Or.inl hi'⟩
            · rcases z with z | ⟨za, zb⟩
              · omega
              · by_cases e : (sg p').length = d + 1
                · have o2 := o.2.2
                  rw [e, za] at o2
                  exact Or.inr ⟨uniqP p' p0 p1 o2, za⟩
                · exact Or.inl ⟨p0, p1, o, Or.inr ⟨za, by omega⟩⟩
          · rintro (⟨p0, p1, o, z⟩ | ⟨rfl, rfl⟩)
            · exact ⟨p0, p1, o, z.imp id (fun ⟨z1, z2⟩ => ⟨z1, by omega⟩)⟩
            · exact ⟨z0, z1, oc, Or.inr ⟨rfl, by omega⟩⟩
        have dr : ∀ j, 0 ≤ j → j ≤ nl (sg p) → 0 ≤ dt p j ∧ dt p j ≤ 9 := fun j j0 j1 => ((C6 p z0 z1).2.2.2.2 j j0 j1).2
        have nl0 := nl_0 (sg p)
        have fin : ∀ st, 0 ≤ st → st ≤ n → (s = -1 ∧ st = 0 ∨ 0 ≤ s ∧ st = s) → Pz (m_X9_byPatterns_j124 (i + 1) w a n p st g) (sE (fun (st : Int × Int × Hp) => (s ≤ st.2.1 ∧ st.2.1 ≤ n + 1 ∧ F2 (grW a) h st.2.2 ∧ ((0 ≤ st.1 ∧ st.1 < h a 6 ∧ σ st.1 = dwL q n (s + 1) (st.2.1 - s).toNat) ∨ (st.1 < 0 ∧ ∀ w, 0 ≤ w → w < h a 6 → σ w ≠ dwL q n (s + 1) (st.2.1 - s).toNat)) ∧ ∀ k, 0 ≤ k → k ≤ n → gdM (ocX np sg q n s (st.2.1 - s).toNat) sg dt k (st.2.2 (a + 13) k)) ∧ (n + 1 - st.2.1).toNat < (n + 1 - i).toNat) (fun h' => F2 (grW a) h h' ∧ ∀ k, 0 ≤ k → k ≤ n → gdM (ocX np sg q n (s + 1) 0) sg dt k (h' (a + 13) k))) := by
          intro st t0 t1 hst
          unfold m_X9_byPatterns_j124
          refine z_bind (z_mono (c_raise Lg ha Cg z0 z1 t0 t1 n1) (fun g' hg' => ?_))
          obtain ⟨f1, f2⟩ := hg'
          refine z_some ⟨⟨show s ≤ i + 1 by omega, show i + 1 ≤ n + 1 by omega, Fg.trans f1, Or.inl ⟨show 0 ≤ w by omega, w1, by rw [dd]; exact σw⟩, ?_⟩, by dsimp only; omega⟩
          dsimp only
          rw [dd]
          intro k k0 k1
          rw [f2 k k0 k1]
          have Gk := G k k0 k1
          have ek : dtT (sg p) (dt p) (k + 1 - (s + 1)) = if st ≤ k ∧ k ≤ st + nl (sg p) then dt p (k - st) else 0 := by
            unfold dtT
            rw [aw]
            rcases hst with ⟨e1, e2⟩ | ⟨e1, e2⟩
            · rw [if_pos e1]
              by_cases hz : st ≤ k ∧ k ≤ st + nl (sg p)
              · rw [if_pos hz, if_pos (by omega), show k + 1 - (s + 1) - 1 = k - st by omega]
              · rw [if_neg hz, if_neg (by omega)]
            · rw [if_neg (show ¬ s = -1 by omega)]
              by_cases hz : st ≤ k ∧ k ≤ st + nl (sg p)
              · rw [if_pos hz, if_pos (by omega), show k + 1 - (s + 1) - 0 = k - st by omega]
              · rw [if_neg hz, if_neg (by omega)]
          by_cases hz : st ≤ k ∧ k ≤ st + nl (sg p)
          · rw [if_pos hz] at ek ⊢
            have d2 := dr (k - st) (by omega) (by omega)
            exact Gk.add hX ek d2.1 d2.2
          · rw [if_neg hz] at ek ⊢
            have := Gk.add hX ek (Int.le_refl _) (by decide)
            rw [mxI_0 Gk.1] at this
            exact this
        by_cases hs : 0 ≤ s
        · rw [if_pos hs]
          exact fin s hs (by omega) (Or.inr ⟨hs, rfl⟩)
        · rw [if_neg hs]
          exact fin 0 (Int.le_refl _) (by omega) (Or.inl ⟨by omega, rfl⟩)
  unfold m_X9_byPatterns_j64
  by_cases h1 : i < 0
  · rw [if_pos h1]
    exact step 0 (by unfold dwE; rw [if_pos (by omega)])
  rw [if_neg h1]
  by_cases h2 : i ≠ n
  · rw [if_pos h2]
    obtain ⟨w1, w2, w3, w4⟩ := W i (by omega) (by omega)
    have rr : g r = h r := Fg.row (fun j z => by unfold grW at z; omega)
    rw [rr, e32 (x := f + i) (by omega) (by omega)]
    refine z_gd ⟨kr, by omega, by omega⟩ ?_
    rw [q_X1_small (by omega), Option.bind_some, w2, e32 (x := q i + 96 - 97) (by omega) (by omega), e32 (x := q i + 96 - 97 + 1) (by omega) (by omega), show q i + 96 - 97 + 1 = q i by omega]
    exact step (q i) (by unfold dwE; rw [if_neg (by omega), show i + 1 - 1 = i by omega])
  · rw [if_neg h2]
    exact step 0 (by unfold dwE; rw [if_pos (by omega)])
