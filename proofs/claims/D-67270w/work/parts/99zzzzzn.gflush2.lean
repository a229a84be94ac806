-- needs: 99zzzzzm
set_option maxRecDepth 100000
/-! GATHERING: what was gathered becomes a paragraph of the flow (component) -/
/-- the flow with a new paragraph -/
def FLQ (h : Hp) (f W : Int → Int) (K J : Int → Int → Int) (BK : TXL → Int → List (Int × Int)) (w b a y pn : Int) (S V : Hp) (x : Int) (s : TXT) (lf : Int) (L P : List PAR) (I : List (Int × Int × Int)) (g : Int) (r : (Int × Int) × Hp) : Prop :=
  (∃ pn', r.1 = (0, 0) ∧ GUD BK f (nr S (V 33) x) s L ∧ ADV h b a y pn r.2 pn' ∧ F2 (fvW b 261 y) h r.2 ∧ (∀ j, 0 ≤ j → j < (L.length : Int) → r.2 (b + 15) j = h (b + 15) j) ∧ txC r.2 261 ([], -1) ∧ FS r.2 f W K J BK w b pn' S V x (L ++ [(s.1, nr S (V 33) x, 0, lf, wdF S V lf x)]) (P ++ [(s.1, nr S (V 33) x, 0, lf, wdF S V lf x)]) (I ++ [(0, (P.length : Int), g)]) 0) ∨ (BAD BK f (nr S (V 33) x) s L ∧ THG h b a y pn r)
theorem GW_A {h : Hp} {b a y A j : Int} (c : cel h b A) : GW h b a y A j := Or.inr (Or.inl c)
theorem c_flushAs {S Y V Q h T : Hp} {b a sa ya E M f y np pn w x lf g : Int} {W : Int → Int} {K J : Int → Int → Int} {sg : Int → List Int} {dt : Int → Int → Int} {s : TXT} {L P : List PAR} {I : List (Int × Int × Int)} (X : EV S Y V Q h b a sa ya E M f y W K J T np sg dt) (Xt : txC h 261 s) (G : txG s) (ne : s.1 ≠ []) (x1 : x < E)
    (Po : POK h b pn) (rm : RMP h pn) (F : FS h (V 24) W K J (BKf T np sg dt) w b pn S V x L P I g) (l0 : 0 ≤ lf) (l1 : lf ≤ 100000000) (iI : (L.length : Int) < 1200 → (I.length : Int) < 1700) :
    Pz (m_X14_flushAs b lf h) (FLQ h (V 24) W K J (BKf T np sg dt) w b a y pn S V x s lf L P I g) := by
  have hb := X.2.1
  have hL := X.1.lay.1
  have ha := X.1.lay.2.1
  have y2 := X.2.2.2.2.2.2.1
  have hb' := rX14 hb
  have hy' := aX9 y2
  have ha' := rX7 ha
  obtain ⟨C, D, It, eg, Bl⟩ := F
  have T' := X.1.tb
  have b0 : h b 0 = 256 := (ly_X14 hL hb).2.1.1
  have hn := nr_r (F := V 33) T'.1 (x.toNat + 1) x (by omega) x1
  have e0 : -1 ≤ nr S (V 33) x := by omega
  have e1 : nr S (V 33) x < E := by have := X.1.rng.1; omega
  unfold m_X14_flushAs
  rw [q_block14 hL hb Bl, blS_last T'.1 (x.toNat + 1) x (by omega) x1, Option.bind_some, b0, g_X10 hL, (g_X10_1 hL).1]
  refine z_gd rfl (z_bT (z_mono (c_flowPar X (by decide) Xt G ne e0 e1 Po rm C D) (fun r hr => ?_)))
  rcases hr with ⟨A, pn', h1, h2, h3, h4, h5, h6, h7, h8, h9, h10, h11, h12, h13, ⟨h14, h15, h16, h17⟩, h18, h19, h20⟩ | ⟨h1, h2⟩
  · left
    rw [h1]
    refine ⟨rfl, ?_⟩
    dsimp only
    refine z_gd h6 (z_pt ?_)
    have A0 : 983 ≤ A := h5.1
    have ad1 : ADV h b a y pn (up r.2 A 5 lf) pn' := adv_put hb ha y2 h3 (GW_A h5) (by omega) (by omega) (by omega)
    have X1 := ad1.ev X
    have Bl1 : GBl (up r.2 A 5 lf) b (blS S V x) := Bl.kept (by rw [up_a (by omega), h4 _ _ (fun z => by unfold fqW pnW fpW at z; omega)]) (by rw [up_row (by omega)]; exact h4.row (fun j z => by unfold fqW pnW fpW at z; omega))
    refine z_bind (z_mono (c_full X1.1 hb X1.2.2.1 Bl1 x1 l0 l1) (fun v hv => z_pt ?_))
    obtain ⟨v1, v2, v3⟩ := hv
    have cel1 : cel (up r.2 A 5 lf) b A := by
      refine ⟨A0, ?_⟩
      rcases h5.2 with z | z
      · exact Or.inl (by rw [up_j (by decide)]; exact z)
      · exact Or.inr (by rw [up_a (by omega)]; exact z)
    have ad2 : ADV h b a y pn (up (up r.2 A 5 lf) A 4 v) pn' := adv_put hb ha y2 ad1 (GW_A cel1) (by omega) (by omega) (by omega)
    have X2 := ad2.ev X
    rw [q_prop14 X2.1 X2.2.2.1 e0 e1 (by decide) (by decide) (by decide), Option.bind_some]
    refine z_pt ?_
    have cel2 : cel (up (up r.2 A 5 lf) A 4 v) b A := by
      refine ⟨A0, ?_⟩
      rcases cel1.2 with z | z
      · exact Or.inl (by rw [up_j (by decide)]; exact z)
      · exact Or.inr (by rw [up_a (by omega)]; exact z)
    have ad3 : ADV h b a y pn (up (up (up r.2 A 5 lf) A 4 v) A 6 (ofV (V 24) (nr S (V 33) x) 3)) pn' := adv_put hb ha y2 ad2 (GW_A cel2) (by omega) (by omega) (by omega)
    have vA : up (up (up r.2 A 5 lf) A 4 v) A 6 (ofV (V 24) (nr S (V 33) x) 3) A 4 = v ∧ up (up (up r.2 A 5 lf) A 4 v) A 6 (ofV (V 24) (nr S (V 33) x) 3) A 5 = lf ∧ up (up (up r.2 A 5 lf) A 4 v) A 6 (ofV (V 24) (nr S (V 33) x) 3) A 6 = ofV (V 24) (nr S (V 33) x) 3 ∧ ∀ j, j ≠ 4 → j ≠ 5 → j ≠ 6 → up (up (up r.2 A 5 lf) A 4 v) A 6 (ofV (V 24) (nr S (V 33) x) 3) A j = r.2 A j := by
      refine ⟨?_, ?_, up_s _ _ _ _, fun j j4 j5 j6 => ?_⟩
      · rw [up_j (by decide), up_s]
      · rw [up_j (by decide), up_j (by decide), up_s]
      · rw [up_j j6, up_j j4, up_j j5]
    have rw_ : ∀ q, q ≠ A → up (up (up r.2 A 5 lf) A 4 v) A 6 (ofV (V 24) (nr S (V 33) x) 3) q = r.2 q := fun q hq => by rw [up_row hq, up_row hq, up_row hq]
    have F3 : F2 (fqW b 261 y) h (up (up (up r.2 A 5 lf) A 4 v) A 6 (ofV (V 24) (nr S (V 33) x) 3)) := ((h4.put (Or.inl (Or.inr (Or.inl A0)))).put (Or.inl (Or.inr (Or.inl A0)))).put (Or.inl (Or.inr (Or.inl A0)))
    clear ad1 ad2 X1 X2 Bl1 cel1 cel2
    generalize up (up (up r.2 A 5 lf) A 4 v) A 6 (ofV (V 24) (nr S (V 33) x) 3) = g3 at ad3 vA rw_ F3 ⊢
    have X3 := ad3.ev X
    have L3 := X3.1.lay.1
    have rb := rw_ b (by omega)
    rw [rb, h18, e32 (x := (P.length : Int) + 1 - 1) (by omega) (by have := D.2.1; have := h2.1; omega), show (P.length : Int) + 1 - 1 = P.length by omega]
    have It3 : GIt g3 b I := It.kept (by rw [F3 _ _ (fun z => by unfold fqW pnW fpW at z; omega)]) (F3.row (fun j z => by unfold fqW pnW fpW at z; omega)) (F3.row (fun j z => by unfold fqW pnW fpW at z; omega))
    have eg3 : g3 b 45 = g := by rw [F3 _ _ (fun z => by unfold fqW pnW fpW at z; omega)]; exact eg
    refine z_bind (z_mono (c_item14 (k := 0) L3 hb It3 eg3 (iI h2.1) (by unfold itW; rfl)) (fun g4 hg4 => z_some (Or.inl ?_)))
    obtain ⟨i1, i2, i3⟩ := hg4
    dsimp only
    have ad4 : ADV h b a y pn g4 pn' := ad3.trans hb ha y2 (adv_W ad3.2.2.1 i1 (fun q j z => by unfold itV at z; unfold GW; rcases z with z | z; exact Or.inr (Or.inr (Or.inl ⟨z.1, by omega⟩)); exact Or.inr (Or.inr (Or.inr (Or.inr (Or.inr (Or.inl ⟨by omega, by omega, z.2⟩)))))) (fun j z => by unfold itV at z; omega) (fun j z => by unfold itV at z; omega) (fun A hA => ⟨fun z => by unfold itV at z; omega, fun z => by unfold itV at z; omega⟩))
    have F4 : F2 (fvW b 261 y) h g4 := (F3.mono (V := fvW b 261 y) (fun q j z => Or.inl z)).trans (i1.mono (fun q j z => Or.inr z))
    have k4 : ∀ q, (b + 1 ≤ q ∧ q ≤ b + 26) ∨ 983 ≤ q ∨ (261 ≤ q ∧ q ≤ 282) → g4 q = g3 q := fun q hq => i1.row (fun j z => by unfold itV at z; omega)
    have kb : ∀ j, j ≠ 26 → j ≠ 45 → g4 b j = g3 b j := fun j z1 z2 => i1 _ _ (fun z => by unfold itV at z; omega)
    have r4 : ∀ q, (b + 1 ≤ q ∧ q ≤ b + 26) ∨ (261 ≤ q ∧ q ≤ 282) ∨ (983 ≤ q ∧ q ≠ A) → g4 q = r.2 q := fun q hq => by rw [k4 q (by omega), rw_ q (by omega)]
    have e15 := r4 (b + 15) (by omega)
    have e1_ := r4 (b + 1) (by omega)
    refine ⟨pn', rfl, h2, ad4, F4, fun j j0 j1 => by rw [e15]; exact (h9 j j0 j1).1, ?_, ⟨⟨?_, ?_⟩, ?_, ?_, i3, ?_⟩⟩
    · exact h13.kept (fun k k0 k1 => r4 _ (by omega))
    · rw [e1_, ltS_app, List.length_append, List.length_singleton, kb 9 (by decide) (by decide), rb]
      exact ⟨h14, by omega, h15, h2.2.1, h16, by dsimp only; omega⟩
    · intro j j0 j1
      rw [List.length_append, List.length_singleton] at j1
      rw [e15]
      by_cases hj : j < L.length
      · obtain ⟨n1, n2, n3⟩ := h9 j j0 hj
        obtain ⟨c1, c2, c3, c4⟩ := h3.2.2.1.2.2.1 j j0 (by omega)
        rw [pgAt_old j0 hj]
        exact n3.kept (fun i _ => by rw [r4 _ (Or.inr (Or.inr ⟨c1, n2⟩))]) (by rw [e1_]; exact Int.le_refl _) (by rw [e1_]; exact Int.le_refl _) (fun q i z0 z1 _ => by rw [r4 q (by omega)]) (fun q i z0 z1 _ => by rw [r4 q (by omega)])
      · have : j = L.length := by omega
        rw [this, h7, pgAt_new rfl]
        have eA : ∀ j, g4 A j = g3 A j := fun j => by rw [k4 A (by omega)]
        refine ⟨?_, ⟨fun _ => ?_, fun z => absurd z (by show ¬ (0 : Int) = 1; decide), fun z => absurd z (by show ¬ (0 : Int) = 2; decide)⟩, G.1, ne⟩
        · exact h10.kept (fun i hi => by rw [eA]; exact vA.2.2.2 i (by omega) (by omega) (by omega)) (by rw [e1_]; exact Int.le_refl _) (by rw [e1_]; exact Int.le_refl _) (fun q i z0 z1 _ => by rw [r4 q (by omega)]) (fun q i z0 z1 _ => by rw [r4 q (by omega)])
        · rw [eA, eA, eA, vA.1, vA.2.1, vA.2.2.1]
          exact ⟨v1, rfl, rfl⟩
    · refine D.both (by rw [kb _ (by decide) (by decide), rb]; exact h18) (fun i i0 i1 => by rw [r4 (b + 16) (by omega)]; exact h19 i i0 i1) (fun j j0 j1 => by rw [e15]; exact (h9 j j0 j1).1) ?_
      rw [r4 (b + 16) (by omega), e15, h20, h7]
    · rw [if_pos rfl] at i2; exact i2
    · refine Bl.kept ?_ ?_
      · rw [kb 44 (by decide) (by decide), F3 _ _ (fun z => by unfold fqW pnW fpW at z; omega)]
      · rw [k4 279 (by omega)]
        exact F3.row (fun j z => by unfold fqW pnW fpW at z; omega)
  · exact Or.inr ⟨h2.ne, z_some (Or.inr ⟨h1, h2.r1⟩)⟩
