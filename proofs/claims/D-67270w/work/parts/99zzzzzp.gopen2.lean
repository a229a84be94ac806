-- needs: 99zzzzzo
set_option maxRecDepth 100000
/-! GATHERING: blocks open and shut (component) -/
def opW (b y : Int) : Int → Int → Prop := fun q j => fvW b 261 y q j ∨ (q = b ∧ (j = 44 ∨ j = 45)) ∨ (q = 279 ∧ 0 ≤ j)
theorem TOO.gap {BK : TXL → Int → List (Int × Int)} {f : Int → Int} {s : GS} {N : List PAR} {v : Int} : TOO BK f (gGap v s) N ↔ TOO BK f s N := Iff.rfl
theorem FSN.pool {h : Hp} {f W : Int → Int} {K J : Int → Int → Int} {BK : TXL → Int → List (Int × Int)} {w b pn : Int} {S V : Hp} {x : Int} {N : List PAR} {s : GS} (F : FSN h f W K J BK w b pn S V x N s) : GBl h b (blS S V x) ∧ h b 45 = s.2.2.2.1 := by
  obtain ⟨L, l1, l2, -⟩ := F
  exact ⟨l2.2.2.2.2, l2.2.2.2.1⟩
/-- gap and blocks are set anew -/
theorem FSN.reb {h h' : Hp} {f W : Int → Int} {K J : Int → Int → Int} {BK : TXL → Int → List (Int × Int)} {w b pn : Int} {S V : Hp} {x x' v : Int} {N : List PAR} {s : GS} (F : FSN h f W K J BK w b pn S V x N s) (Po : POK h b pn) (hb : b ∈ in_aX14) (g : F2 (fun q j => (q = b ∧ (j = 44 ∨ j = 45)) ∨ (q = 279 ∧ 0 ≤ j)) h h') (e45 : h' b 45 = max_ s.2.2.2.1 v) (B : GBl h' b (blS S V x')) : FSN h' f W K J BK w b pn S V x' N (gGap v s) := by
  have hb' := rX14 hb
  obtain ⟨L, l1, ⟨f1, f2, f3, f4, f5⟩, fn⟩ := F
  have r : ∀ q, q ≠ b → q ≠ 279 → h' q = h q := fun q n1 n2 => g.row (fun j z => by omega)
  have rb : ∀ j, j ≠ 44 → j ≠ 45 → h' b j = h b j := fun j n1 n2 => g _ _ (fun z => by omega)
  exact ⟨L, l1, ⟨f1.kept Po (rb _ (by decide) (by decide)) (r _ (by omega) (by omega)) (fun q q0 q1 => r q (by omega) (by omega)) (fun A a0 _ _ j _ => by rw [r A (by omega) (by omega)]), f2.kept (rb _ (by decide) (by decide)) (r _ (by omega) (by omega)) (fun j _ _ => by rw [r _ (by omega) (by omega)]), f3.kept (rb _ (by decide) (by decide)) (r _ (by omega) (by omega)) (r _ (by omega) (by omega)), e45, B⟩, fn.kept (r _ (by omega) (by omega)) (fun j _ _ => by rw [r _ (by omega) (by omega)])⟩
theorem c_open14 {S Y V Q h T : Hp} {b a sa ya E M f y np pn w e : Int} {W : Int → Int} {K J : Int → Int → Int} {sg : Int → List Int} {dt : Int → Int → Int} {s : GS} {N : List PAR} (X : EV S Y V Q h b a sa ya E M f y W K J T np sg dt) (Xt : txC h 261 s.1.1) (G : txG s.1.1) (e0 : 0 ≤ e) (e1 : e < E) (hv : V 33 e ≠ 0)
    (Po : POK h b pn) (rm : RMP h pn) (F : FSN h (V 24) W K J (BKf T np sg dt) w b pn S V (S 7 e) N s) (iI : (s.2.2.1.length : Int) ≤ s.2.1.length + 500) :
    Pz (m_X14_open b e h) (GOP (opW b y) h (V 24) W K J (BKf T np sg dt) w b a y pn S V e N (gGap (V 24 (22 * e + 6)) (gFlB S V (nr S (V 33) (S 7 e)) s))) := by
  have hb := X.2.1
  have ha := X.1.lay.2.1
  have y2 := X.2.2.2.2.2.2.1
  have hb' := rX14 hb
  have ha' := rX7 ha
  have hy' := aX9 y2
  have T' := X.1.tb
  have par := T'.1.par e e0 e1
  unfold m_X14_open
  refine z_bT (z_mono (c_flush X Xt G (x := S 7 e) (by omega) Po rm F iI) (fun r hr => ?_))
  rcases hr with ⟨pn', h1, h2, h3, h4, h5⟩ | ⟨h1, h2⟩
  · left
    rw [h1]
    refine ⟨rfl, ?_⟩
    have X1 := h2.ev X
    have L1 := X1.1.lay.1
    obtain ⟨bl, e45⟩ := h5.pool
    obtain ⟨g1, g2, g3, g4⟩ := bl
    have eo : ofV (V 24) e 6 = V 24 (22 * e + 6) := by unfold ofV; rw [if_pos e0]
    rw [q_prop14 X1.1 X1.2.2.1 (by omega) e1 (by decide) (by decide) (by decide), Option.bind_some, eo, e45]
    have len := blS_20 (V := V) T'.1 e1
    have st := blS_step (V := V) T'.1 e0 e1
    rw [if_neg hv] at st
    have stl : (blS S V e).length = (blS S V (S 7 e)).length + 1 := by rw [st, List.length_append]; rfl
    generalize es : gFlB S V (nr S (V 33) (S 7 e)) s = s1 at *
    -- pushing
    have push : ∀ g0, F2 (fun q j => q = b ∧ j = 45) r.2 g0 → g0 b 45 = max_ s1.2.2.2.1 (V 24 (22 * e + 6)) → Pz (m_X14_open_j25 e b g0) (GOP (opW b y) h (V 24) W K J (BKf T np sg dt) w b a y pn S V e N (gGap (V 24 (22 * e + 6)) s1)) := fun g0 F0 e450 => by
      have ad0 : ADV h b a y pn g0 pn' := h2.trans hb ha y2 (adv_W h2.2.2.1 F0 (fun q j z => by rw [z.1, z.2]; exact GW_b (by omega)) (fun j z => by omega) (fun j z => by omega) (fun A hA => ⟨fun z => by omega, fun z => by omega⟩))
      have X0 := ad0.ev X
      have L0 := X0.1.lay.1
      have b0 : g0 b 0 = 256 := (ly_X14 L0 hb).2.1.1
      have e44 : g0 b 44 = 1 + ((blS S V (S 7 e)).length : Int) := by rw [F0 _ _ (by omega)]; exact g1
      have r279 : g0 279 = r.2 279 := F0.row (fun j z => by omega)
      unfold m_X14_open_j25
      obtain ⟨d1, d2, d3⟩ := g_X10_6 L0
      simp only [b0, g_X10 L0, d1, d2, d3, e44]
      refine z_gd trivial (z_gd ⟨by decide, by omega, by omega⟩ (z_pt (z_pt (z_some (Or.inl ?_)))))
      rw [up_a (by omega), e44, e32 (by omega) (by omega)]
      have FF : F2 (fun q j => (q = b ∧ (j = 44 ∨ j = 45)) ∨ (q = 279 ∧ 0 ≤ j)) r.2 (up (up g0 279 (1 + ((blS S V (S 7 e)).length : Int)) e) b 44 (1 + ((blS S V (S 7 e)).length : Int) + 1)) := ((F0.mono (V := fun q j => (q = b ∧ (j = 44 ∨ j = 45)) ∨ (q = 279 ∧ 0 ≤ j)) (fun q j z => Or.inl ⟨z.1, Or.inr z.2⟩)).put (Or.inr ⟨rfl, by omega⟩)).put (Or.inl ⟨rfl, Or.inl rfl⟩)
      have v45 : up (up g0 279 (1 + ((blS S V (S 7 e)).length : Int)) e) b 44 (1 + ((blS S V (S 7 e)).length : Int) + 1) b 45 = max_ s1.2.2.2.1 (V 24 (22 * e + 6)) := by rw [up_j (by decide), up_a (by omega)]; exact e450
      have vB : GBl (up (up g0 279 (1 + ((blS S V (S 7 e)).length : Int)) e) b 44 (1 + ((blS S V (S 7 e)).length : Int) + 1)) b (blS S V e) := by
        refine ⟨by rw [up_s, stl]; omega, len, ?_, fun i hi => ?_⟩
        · rw [up_a (by omega), up_j (by omega), r279]; exact g3
        · rw [up_a (by omega)]
          by_cases hi2 : i = (blS S V (S 7 e)).length
          · rw [up_e rfl (by omega), st, hi2, List.getElem?_append_right (Nat.le_refl _), Nat.sub_self]; rfl
          · rw [up_j (by omega), r279, g4 i (by omega), st, List.getElem?_append_left (by omega)]
      generalize up (up g0 279 (1 + ((blS S V (S 7 e)).length : Int)) e) b 44 (1 + ((blS S V (S 7 e)).length : Int) + 1) = gg at FF v45 vB ⊢
      have adF : ADV h b a y pn gg pn' := h2.trans hb ha y2 (adv_W h2.2.2.1 FF (fun q j z => by
        rcases z with z | z
        · rw [z.1]; exact GW_b (by omega)
        · exact GW_d (by omega) (by omega) z.2) (fun j z => by omega) (fun j z => by omega) (fun A hA => ⟨fun z => by omega, fun z => by omega⟩))
      exact ⟨pn', rfl, adF, (h3.mono (V := opW b y) (fun q j z => Or.inl z)).trans (FF.mono (fun q j z => Or.inr z)), h4.kept (fun k k0 k1 => FF.row (fun j z => by omega)), h5.reb h2.2.2.1 hb FF v45 vB⟩
    by_cases hg : V 24 (22 * e + 6) ≤ s1.2.2.2.1
    · rw [if_pos hg]
      exact push r.2 F2.refl (by rw [e45]; unfold max_; rw [if_neg (by omega)])
    · rw [if_neg hg]
      refine z_pt (push _ (F2.refl.put ⟨rfl, rfl⟩) ?_)
      rw [up_s]; unfold max_; rw [if_pos (by omega)]
  · exact Or.inr ⟨h2.ne, z_some (Or.inr ⟨TOO.gap.2 h1, h2.r1⟩)⟩
theorem c_shut14 {S Y V Q h T : Hp} {b a sa ya E M f y np pn w e : Int} {W : Int → Int} {K J : Int → Int → Int} {sg : Int → List Int} {dt : Int → Int → Int} {s : GS} {N : List PAR} (X : EV S Y V Q h b a sa ya E M f y W K J T np sg dt) (Xt : txC h 261 s.1.1) (G : txG s.1.1) (e0 : 0 ≤ e) (e1 : e < E) (hv : V 33 e ≠ 0)
    (Po : POK h b pn) (rm : RMP h pn) (F : FSN h (V 24) W K J (BKf T np sg dt) w b pn S V e N s) (iI : (s.2.2.1.length : Int) ≤ s.2.1.length + 500) :
    Pz (m_X14_shut b e h) (GOP (opW b y) h (V 24) W K J (BKf T np sg dt) w b a y pn S V (S 7 e) N (gGap (V 24 (22 * e + 7)) (gFlB S V e s))) := by
  have hb := X.2.1
  have ha := X.1.lay.2.1
  have y2 := X.2.2.2.2.2.2.1
  have hb' := rX14 hb
  have ha' := rX7 ha
  have hy' := aX9 y2
  have T' := X.1.tb
  have par := T'.1.par e e0 e1
  have en : nr S (V 33) e = e := nr_1 T'.1 e0 e1 hv
  unfold m_X14_shut
  refine z_bT (z_mono (c_flush X Xt G (x := e) e1 Po rm F iI) (fun r hr => ?_))
  rw [en] at hr
  rcases hr with ⟨pn', h1, h2, h3, h4, h5⟩ | ⟨h1, h2⟩
  · left
    rw [h1]
    refine ⟨rfl, ?_⟩
    have X1 := h2.ev X
    obtain ⟨bl, e45⟩ := h5.pool
    obtain ⟨g1, g2, g3, g4⟩ := bl
    have eo : ofV (V 24) e 7 = V 24 (22 * e + 7) := by unfold ofV; rw [if_pos e0]
    rw [q_prop14 X1.1 X1.2.2.1 (by omega) e1 (by decide) (by decide) (by decide), Option.bind_some, eo, e45]
    have st := blS_step (V := V) T'.1 e0 e1
    rw [if_neg hv] at st
    have stl : (blS S V e).length = (blS S V (S 7 e)).length + 1 := by rw [st, List.length_append]; rfl
    generalize es : gFlB S V e s = s1 at *
    have pop : ∀ g0, F2 (fun q j => q = b ∧ j = 45) r.2 g0 → g0 b 45 = max_ s1.2.2.2.1 (V 24 (22 * e + 7)) → GOP (opW b y) h (V 24) W K J (BKf T np sg dt) w b a y pn S V (S 7 e) N (gGap (V 24 (22 * e + 7)) s1) ((0, 0), up g0 b 44 (w32 (g0 b 44 - 1))) := fun g0 F0 e450 => by
      have e44 : g0 b 44 = 1 + ((blS S V e).length : Int) := by rw [F0 _ _ (by omega)]; exact g1
      have r279 : g0 279 = r.2 279 := F0.row (fun j z => by omega)
      rw [e44, e32 (by omega) (by omega)]
      have FF : F2 (fun q j => (q = b ∧ (j = 44 ∨ j = 45)) ∨ (q = 279 ∧ 0 ≤ j)) r.2 (up g0 b 44 (1 + ((blS S V e).length : Int) - 1)) := (F0.mono (V := fun q j => (q = b ∧ (j = 44 ∨ j = 45)) ∨ (q = 279 ∧ 0 ≤ j)) (fun q j z => Or.inl ⟨z.1, Or.inr z.2⟩)).put (Or.inl ⟨rfl, Or.inl rfl⟩)
      have v45 : up g0 b 44 (1 + ((blS S V e).length : Int) - 1) b 45 = max_ s1.2.2.2.1 (V 24 (22 * e + 7)) := by rw [up_j (by decide)]; exact e450
      have vB : GBl (up g0 b 44 (1 + ((blS S V e).length : Int) - 1)) b (blS S V (S 7 e)) := by
        refine ⟨by rw [up_s, stl]; omega, by omega, ?_, fun i hi => ?_⟩
        · rw [up_a (by omega), r279]; exact g3
        · rw [up_a (by omega), r279, g4 i (by omega), st, List.getElem?_append_left (by omega)]
      generalize up g0 b 44 (1 + ((blS S V e).length : Int) - 1) = gg at FF v45 vB ⊢
      have adF : ADV h b a y pn gg pn' := h2.trans hb ha y2 (adv_W h2.2.2.1 FF (fun q j z => by
        rcases z with z | z
        · rw [z.1]; exact GW_b (by omega)
        · exact GW_d (by omega) (by omega) z.2) (fun j z => by omega) (fun j z => by omega) (fun A hA => ⟨fun z => by omega, fun z => by omega⟩))
      exact Or.inl ⟨pn', rfl, adF, (h3.mono (V := opW b y) (fun q j z => Or.inl z)).trans (FF.mono (fun q j z => Or.inr z)), h4.kept (fun k k0 k1 => FF.row (fun j z => by omega)), h5.reb h2.2.2.1 hb FF v45 vB⟩
    by_cases hg : V 24 (22 * e + 7) ≤ s1.2.2.2.1
    · rw [if_pos hg]
      exact z_pt (z_some (pop r.2 F2.refl (by rw [e45]; unfold max_; rw [if_neg (by omega)])))
    · rw [if_neg hg]
      refine z_pt (z_pt (z_some (pop _ (F2.refl.put ⟨rfl, rfl⟩) ?_)))
      rw [up_s]; unfold max_; rw [if_pos (by omega)]
  · exact Or.inr ⟨h2.ne, z_some (Or.inr ⟨TOO.gap.2 h1, h2.r1⟩)⟩
