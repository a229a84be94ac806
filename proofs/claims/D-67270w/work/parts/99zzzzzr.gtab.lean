-- needs: 99zzzzzq
set_option maxRecDepth 100000
/-! TABLES: cells and rows (component) -/
def ccF : Nat → List Int → List (Int × Int)
  | _, [] => []
  | k, x :: C => (if 0 ≤ x then [((k : Int), x)] else []) ++ ccF (k + 1) C
/-- cells with text: column, paragraph -/
def ccL (C : List Int) : List (Int × Int) := ccF 0 C
theorem ccF_app : ∀ (C : List Int) (k : Nat) (x : Int), ccF k (C ++ [x]) = ccF k C ++ (if 0 ≤ x then [(((k + C.length : Nat) : Int), x)] else [])
  | [], k, x => by simp [ccF]
  | y :: C, k, x => by
    show (if 0 ≤ y then [((k : Int), y)] else []) ++ ccF (k + 1) (C ++ [x]) = (if 0 ≤ y then [((k : Int), y)] else []) ++ ccF (k + 1) C ++ _
    rw [ccF_app C (k + 1) x, List.append_assoc, show k + 1 + C.length = k + (y :: C).length by simp; omega]
theorem ccL_app {C : List Int} {x : Int} : ccL (C ++ [x]) = ccL C ++ (if 0 ≤ x then [((C.length : Int), x)] else []) := by
  unfold ccL; rw [ccF_app, Nat.zero_add]
theorem ccF_len : ∀ (C : List Int) (k : Nat), (ccF k C).length ≤ C.length
  | [], k => Nat.le_refl _
  | y :: C, k => by
    have := ccF_len C (k + 1)
    show ((if 0 ≤ y then [((k : Int), y)] else []) ++ ccF (k + 1) C).length ≤ C.length + 1
    rw [List.length_append]
    split <;> simp <;> omega
def exL (C : List Int) : List (Int × Int) := (List.range C.length).map (fun (c : Nat) => ((c : Int), (-1 : Int)))
def tcL (RS : List (List Int)) : List (Int × Int) := RS.flatMap ccL
def scL (RS : List (List Int)) : List (Int × Int) := RS.flatMap (fun C => ccL C ++ exL C)
/-- what a cell asks for -/
noncomputable def ckO (f W : Int → Int) (K J : Int → Int → Int) (BK : TXL → Int → List (Int × Int)) (P : List PAR) (x : Int × Int) : Int × Int × Int := if 0 ≤ x.2 then (x.1, pW1 W K J (pgAt P x.2).1 (BK (pgAt P x.2).1 (hyO f (pgAt P x.2).2.1)), pW2 W K J (pgAt P x.2).1 (BK (pgAt P x.2).1 (hyO f (pgAt P x.2).2.1))) else (x.1, 1000, 1000)
/-- rows of tables as the component keeps them -/
def GRw (h : Hp) (b : Int) (R : List (Int × List Int)) : Prop := h b 23 = R.length ∧ ∀ i : Nat, i < R.length → h (b + 26) i = (R[i]?.getD (0, [])).1 ∧ h (b + 23) i = ((R[i]?.getD (0, [])).2.length : Int) ∧ (R[i]?.getD (0, [])).2.length ≤ 8 ∧ ∀ c : Nat, c < (R[i]?.getD (0, [])).2.length → h (b + 24) (8 * i + c) = (R[i]?.getD (0, [])).2[c]?.getD 0
/-- the row that is made -/
def GCu (h : Hp) (b n : Int) (C : List Int) : Prop := h (b + 23) n = C.length ∧ (C.length : Int) ≤ 8 ∧ ∀ c : Nat, c < C.length → h (b + 24) (8 * n + c) = C[c]?.getD 0
/-- the table's cells -/
def TCc (h : Hp) (b : Int) (C : List (Int × Int)) : Prop := h b 48 = C.length ∧ ∀ i : Nat, i < C.length → h 280 i = (C[i]?.getD (0, 0)).2 ∧ h 281 i = (C[i]?.getD (0, 0)).1
theorem GRw.kept {h h' : Hp} {b : Int} {R : List (Int × List Int)} (G : GRw h b R) (e : h' b 23 = h b 23) (e1 : h' (b + 26) = h (b + 26)) (e2 : ∀ i, i < (R.length : Int) → h' (b + 23) i = h (b + 23) i) (e3 : ∀ i, i < 8 * (R.length : Int) → h' (b + 24) i = h (b + 24) i) : GRw h' b R := by
  obtain ⟨g1, g2⟩ := G
  refine ⟨by rw [e]; exact g1, fun i hi => ?_⟩
  obtain ⟨a1, a2, a3, a4⟩ := g2 i hi
  refine ⟨by rw [e1]; exact a1, by rw [e2 _ (by omega)]; exact a2, a3, fun c hc => by rw [e3 _ (by omega)]; exact a4 c hc⟩
theorem GCu.kept {h h' : Hp} {b n : Int} {C : List Int} (G : GCu h b n C) (e1 : h' (b + 23) = h (b + 23)) (e2 : h' (b + 24) = h (b + 24)) : GCu h' b n C := by
  unfold GCu at *; rw [e1, e2]; exact G
theorem TCc.kept {h h' : Hp} {b : Int} {C : List (Int × Int)} (G : TCc h b C) (e : h' b 48 = h b 48) (e1 : h' 280 = h 280) (e2 : h' 281 = h 281) : TCc h' b C := by
  unfold TCc at *; rw [e, e1, e2]; exact G
/-- a table's state: TR rows before it -/
def GTs (h : Hp) (f W : Int → Int) (K J : Int → Int → Int) (BK : TXL → Int → List (Int × Int)) (b : Int) (P : List PAR) (TC SC : List (Int × Int)) : Prop := TCc h b TC ∧ SHc h (SC.map (ckO f W K J BK P))
theorem ckO_old {f W : Int → Int} {K J : Int → Int → Int} {BK : TXL → Int → List (Int × Int)} {P Q : List PAR} {x : Int × Int} (h : x.2 < P.length) : ckO f W K J BK (P ++ Q) x = ckO f W K J BK P x := by
  unfold ckO
  by_cases h0 : 0 ≤ x.2
  · rw [if_pos h0, if_pos h0, pgAt_old h0 h]
  · rw [if_neg h0, if_neg h0]
def ceW (b y : Int) : Int → Int → Prop := fun q j => fqW b 265 y q j ∨ (q = b ∧ (j = 47 ∨ j = 48)) ∨ ((q = b + 23 ∨ q = b + 24) ∧ 0 ≤ j) ∨ ((q = 280 ∨ q = 281) ∧ 0 ≤ j) ∨ shV q j
def CEQ (h : Hp) (f W : Int → Int) (K J : Int → Int → Int) (BK : TXL → Int → List (Int × Int)) (w b a y pn : Int) (S V : Hp) (x : Int) (N : List PAR) (s s' : GS) (TC SC : List (Int × Int)) (r : (Int × Int) × Hp) : Prop :=
  (∃ pn', r.1 = (0, 0) ∧ ADV h b a y pn r.2 pn' ∧ F2 (ceW b y) h r.2 ∧ r.2 b 47 = 0 ∧ txC r.2 265 ([], -1) ∧ FSN r.2 f W K J BK w b pn' S V x N s' ∧ GRw r.2 b s.2.2.2.2.2 ∧ GCu r.2 b s.2.2.2.2.2.length s'.2.2.2.2.1 ∧ GTs r.2 f W K J BK b s'.2.1 (TC ++ (if s.1.1.1 = [] then [] else [((s.2.2.2.2.1.length : Int), (s.2.1.length : Int))])) (SC ++ (if s.1.1.1 = [] then [] else [((s.2.2.2.2.1.length : Int), (s.2.1.length : Int))]))) ∨ (TOO BK f s' N ∧ THG h b a y pn r)
theorem c_endCell {S Y V Q h T : Hp} {b a sa ya E M f y np pn w x e : Int} {W : Int → Int} {K J : Int → Int → Int} {sg : Int → List Int} {dt : Int → Int → Int} {s : GS} {N : List PAR} {TC SC : List (Int × Int)} (X : EV S Y V Q h b a sa ya E M f y W K J T np sg dt) (Xt : txC h 265 s.1.1) (G : txG s.1.1) (e0 : 0 ≤ e) (e1 : e < E)
    (Po : POK h b pn) (rm : RMP h pn) (F : FSN h (V 24) W K J (BKf T np sg dt) w b pn S V x N s) (Rw : GRw h b s.2.2.2.2.2) (Cu : GCu h b s.2.2.2.2.2.length s.2.2.2.2.1) (Ts : GTs h (V 24) W K J (BKf T np sg dt) b s.2.1 TC SC) (hC : (s.2.2.2.2.1.length : Int) < 8) (hR : (s.2.2.2.2.2.length : Int) < 500) (hT : (TC.length : Int) < 500) (hS : ∀ z ∈ SC, z.2 < s.2.1.length) :
    Pz (m_X14_endCell b e h) (CEQ h (V 24) W K J (BKf T np sg dt) w b a y pn S V x N s (gCell e s) TC SC) := by
  have hb := X.2.1
  have hL := X.1.lay.1
  have ha := X.1.lay.2.1
  have y2 := X.2.2.2.2.2.2.1
  have hb' := rX14 hb
  have ha' := rX7 ha
  have hy' := aX9 y2
  obtain ⟨x2, x3, x4, x5, x6, x7⟩ := id Xt
  obtain ⟨r1, r2⟩ := id Rw
  obtain ⟨u1, u2, u3⟩ := id Cu
  generalize hRl : s.2.2.2.2.2.length = nR at *
  generalize hCl : s.2.2.2.2.1.length = nC at *
  unfold m_X14_endCell
  refine z_pt ?_
  obtain ⟨p1, p2, p3⟩ := g_X14_19 hL hb
  obtain ⟨q1, q2, q3⟩ := g_X14_20 hL hb
  have b0 : h b 0 = 256 := (ly_X14 hL hb).2.1.1
  simp (disch := omega) only [up_a, up_j, p1, p2, p3, r1, u1]
  refine z_gd ⟨by decide, Int.natCast_nonneg _, by omega⟩ (z_lt (z_pt ?_))
  simp (disch := omega) only [up_a, up_j, q1, q2, q3, r1]
  rw [e32 (x := 8 * (nR : Int)) (by omega) (by omega), e32 (x := 8 * (nR : Int) + nC) (by omega) (by omega), e32 (x := (nC : Int) + 1) (by omega) (by omega)]
  refine z_gd ⟨by decide, by omega, by omega⟩ (z_pt ?_)
  generalize eg : up (up (up h b 47 0) (b + 23) nR ((nC : Int) + 1)) (b + 24) (8 * (nR : Int) + nC) (-1) = g1
  have F1 : F2 (fun q j => (q = b ∧ j = 47) ∨ (q = b + 23 ∧ j = nR) ∨ (q = b + 24 ∧ j = 8 * (nR : Int) + nC)) h g1 := by
    rw [← eg]
    exact ((F2.refl.put (Or.inl ⟨rfl, rfl⟩)).put (Or.inr (Or.inl ⟨rfl, rfl⟩))).put (Or.inr (Or.inr ⟨rfl, rfl⟩))
  have w1 : g1 b 47 = 0 ∧ g1 (b + 23) nR = (nC : Int) + 1 ∧ g1 (b + 24) (8 * (nR : Int) + nC) = -1 := by
    rw [← eg]
    refine ⟨?_, ?_, up_s _ _ _ _⟩
    · rw [up_a (by omega), up_a (by omega), up_s]
    · rw [up_a (by omega), up_s]
  clear eg
  have ad1 : ADV h b a y pn g1 pn := adv_W Po F1 (fun q j z => by
    rcases z with z | z | z
    · rw [z.1, z.2]; exact GW_b (by omega)
    · exact GW_r (by omega) (by omega) (by omega)
    · exact GW_r (by omega) (by omega) (by omega)) (fun j z => by omega) (fun j z => by omega) (fun A hA => ⟨fun z => by omega, fun z => by omega⟩)
  have X1 := ad1.ev X
  have L1 := X1.1.lay.1
  have b01 : g1 b 0 = 256 := (ly_X14 L1 hb).2.1.1
  have Xt1 : txC g1 265 s.1.1 := Xt.kept (fun k k0 k1 => F1.row (fun j z => by omega))
  have FS1 : FSN g1 (V 24) W K J (BKf T np sg dt) w b pn S V x N s := fs_W F Po F1 (fun q j z => by omega)
  have Rw1 : GRw g1 b s.2.2.2.2.2 := Rw.kept (F1 _ _ (by omega)) (F1.row (fun j z => by omega)) (fun i hi => F1 _ _ (by omega)) (fun i hi => F1 _ _ (by omega))
  have Ts1 : GTs g1 (V 24) W K J (BKf T np sg dt) b s.2.1 TC SC := ⟨Ts.1.kept (F1 _ _ (by omega)) (F1.row (fun j z => by omega)) (F1.row (fun j z => by omega)), Ts.2.kept (fun q q0 q1 => F1.row (fun j z => by omega))⟩
  have Cu1 : GCu g1 b nR (s.2.2.2.2.1 ++ [-1]) := by
    refine ⟨by rw [w1.2.1, List.length_append, hCl]; rfl, by rw [List.length_append, hCl, List.length_singleton]; omega, fun c hc => ?_⟩
    rw [List.length_append, hCl, List.length_singleton] at hc
    by_cases hcc : c = nC
    · rw [hcc, w1.2.2, List.getElem?_append_right (by omega), hCl, Nat.sub_self]; rfl
    · rw [F1 _ _ (by omega), List.getElem?_append_left (by omega)]; exact u3 c (by omega)
  have k265 : g1 256 2 = 265 ∧ g1 265 (-2) = 192 := ⟨(g_X10_2 L1).1, (g_X10_2 L1).2.1⟩
  have x51 : g1 265 6 = bI (decide (s.1.1.1 ≠ [])) := Xt1.2.2.2.1
  simp only [b01, g_X10 L1, k265.1, k265.2, x51]
  refine z_gd trivial (z_gd trivial ?_)
  by_cases ne : s.1.1.1 = []
  · rw [decide_eq_false (fun z => z ne)]
    refine z_ie (fun z => z rfl) ?_
    obtain ⟨g2, c1, c2, c3⟩ := c_clear12 (h := g1) (t := 265) (by decide)
    rw [c1, Option.bind_some]
    have eGC : gCell e s = ((([], -1), s.1.2), s.2.1, s.2.2.1, s.2.2.2.1, s.2.2.2.2.1 ++ [-1], s.2.2.2.2.2) := by unfold gCell; rw [if_pos ne]
    rw [eGC]
    refine z_some (Or.inl ⟨pn, rfl, adv_clr hb ha y2 (by decide) ad1 c2, ?_, ?_, c3, ?_, ?_, ?_, ?_⟩)
    · refine F2.trans (F1.mono (fun q j z => ?_)) (c2.mono (fun q j z => Or.inl (Or.inl (Or.inr (Or.inr (Or.inr (Or.inr (Or.inr (Or.inr z)))))))))
      rcases z with z | z | z
      · exact Or.inr (Or.inl ⟨z.1, Or.inl z.2⟩)
      · exact Or.inr (Or.inr (Or.inl ⟨Or.inl z.1, by omega⟩))
      · exact Or.inr (Or.inr (Or.inl ⟨Or.inr z.1, by omega⟩))
    · dsimp only; rw [c2 _ _ (by omega)]; exact w1.1
    · exact fs_W (s := ((([], -1), s.1.2), s.2.1, s.2.2.1, s.2.2.2.1, s.2.2.2.2.1 ++ [-1], s.2.2.2.2.2)) FS1 ad1.2.2.1 c2 (fun q j z => by omega)
    · exact Rw1.kept (c2 _ _ (by omega)) (c2.row (fun j z => by omega)) (fun i hi => c2 _ _ (by omega)) (fun i hi => c2 _ _ (by omega))
    · rw [hRl]; exact Cu1.kept (c2.row (fun j z => by omega)) (c2.row (fun j z => by omega))
    · rw [if_pos ne, List.append_nil, List.append_nil]
      exact ⟨Ts1.1.kept (c2 _ _ (by omega)) (c2.row (fun j z => by omega)) (c2.row (fun j z => by omega)), Ts1.2.kept (fun q q0 q1 => c2.row (fun j z => by omega))⟩
  · rw [decide_eq_true ne]
    refine z_it (by show (1 : Int) ≠ 0; decide) ?_
    have eGC : gCell e s = ((([], -1), s.1.2), s.2.1 ++ [(s.1.1.1, e, 1, 0, 0)], s.2.2.1, s.2.2.2.1, s.2.2.2.2.1 ++ [(s.2.1.length : Int)], s.2.2.2.2.2) := by unfold gCell; rw [if_neg ne]
    rw [eGC]
    obtain ⟨L, li, FSL, FNL⟩ := FS1
    have rm1 := ad1.rmp rm
    refine z_bT (z_mono (c_flowPar X1 (by decide) Xt1 G ne (by omega) e1 ad1.2.2.1 rm1 FSL.1 FSL.2.1) (fun r hr => ?_))
    rcases hr with hr | ⟨h1, h2⟩
    · left
      obtain ⟨A, pn', h1, h2, h3, h4, h5, h6, h7, h8, h9, h10, h11, h12, h13, ⟨h14, h15, h16, h17⟩, h18, h19, h20⟩ := hr
      rw [h1]
      refine ⟨rfl, ?_⟩
      dsimp only
      have A0 : 983 ≤ A := h5.1
      have ad2 := ad1.trans hb ha y2 h3
      have X2 := ad2.ev X
      have L2 := X2.1.lay.1
      obtain ⟨p1, p2, p3⟩ := g_X14_20 L2 hb
      obtain ⟨d1, d2, d3⟩ := g_X10_7 L2
      obtain ⟨d4, d5, d6⟩ := g_X10_8 L2
      have b02 : r.2 b 0 = 256 := (ly_X14 L2 hb).2.1.1
      have k10 := g_X10 L2
      have lP : (s.2.1.length : Int) < 1200 := by have := li.1; have := h2.1; omega
      have kb : ∀ j, j ≠ 9 → j ≠ 11 → r.2 b j = g1 b j := fun j z1 z2 => h4 _ _ (fun z => by unfold fqW pnW fpW at z; omega)
      have kr : ∀ q, (b + 17 ≤ q ∧ q ≤ b + 64) ∨ (275 ≤ q ∧ q ≤ 290) → r.2 q = g1 q := fun q hq => h4.row (fun j z => by unfold fqW pnW fpW at z; omega)
      have e23 : r.2 b 23 = nR := by rw [kb _ (by decide) (by decide), F1 _ _ (by omega)]; exact r1
      have e48 : r.2 b 48 = TC.length := by rw [kb _ (by decide) (by decide)]; exact Ts1.1.1
      simp only [p1, p2, p3, e23, h18]
      rw [e32 (x := 8 * (nR : Int)) (by omega) (by omega), e32 (x := 8 * (nR : Int) + nC) (by omega) (by omega), e32 (x := (s.2.1.length : Int) + 1 - 1) (by omega) (by omega), show (s.2.1.length : Int) + 1 - 1 = s.2.1.length by omega]
      refine z_gd ⟨by decide, by omega, by omega⟩ (z_pt ?_)
      simp (disch := omega) only [up_a, b02, k10, d1, d2, d3, e48, h18]
      rw [e32 (x := (s.2.1.length : Int) + 1 - 1) (by omega) (by omega), show (s.2.1.length : Int) + 1 - 1 = s.2.1.length by omega]
      refine z_gd trivial (z_gd ⟨by decide, Int.natCast_nonneg _, by omega⟩ (z_pt ?_))
      simp (disch := omega) only [up_a, b02, k10, d4, d5, d6, e48]
      refine z_gd trivial (z_gd ⟨by decide, Int.natCast_nonneg _, by omega⟩ (z_pt (z_pt ?_)))
      simp (disch := omega) only [up_a, e48]
      rw [e32 (x := (TC.length : Int) + 1) (by omega) (by omega)]
      generalize eg : up (up (up (up r.2 (b + 24) (8 * (nR : Int) + nC) s.2.1.length) 280 TC.length s.2.1.length) 281 TC.length nC) b 48 ((TC.length : Int) + 1) = g2
      have F2' : F2 (fun q j => (q = b + 24 ∧ j = 8 * (nR : Int) + nC) ∨ ((q = 280 ∨ q = 281) ∧ j = TC.length) ∨ (q = b ∧ j = 48)) r.2 g2 := by
        rw [← eg]
        exact (((F2.refl.put (Or.inl ⟨rfl, rfl⟩)).put (Or.inr (Or.inl ⟨Or.inl rfl, rfl⟩))).put (Or.inr (Or.inl ⟨Or.inr rfl, rfl⟩))).put (Or.inr (Or.inr ⟨rfl, rfl⟩))
      have w2 : g2 (b + 24) (8 * (nR : Int) + nC) = s.2.1.length ∧ g2 280 TC.length = s.2.1.length ∧ g2 281 TC.length = nC ∧ g2 b 48 = (TC.length : Int) + 1 := by
        rw [← eg]
        refine ⟨?_, ?_, ?_, up_s _ _ _ _⟩
        · rw [up_a (by omega), up_a (by omega), up_a (by omega), up_s]
        · rw [up_a (by omega), up_a (by omega), up_s]
        · rw [up_a (by omega), up_s]
      clear eg
      have ad3 : ADV h b a y pn g2 pn' := ad2.trans hb ha y2 (adv_W ad2.2.2.1 F2' (fun q j z => by
        rcases z with z | z | z
        · exact GW_r (by omega) (by omega) (by omega)
        · exact GW_d (by omega) (by omega) (by omega)
        · rw [z.1]; exact GW_b (by omega)) (fun j z => by omega) (fun j z => by omega) (fun A hA => ⟨fun z => by omega, fun z => by omega⟩))
      have X3 := ad3.ev X
      have L3 := X3.1.lay.1
      have b03 : g2 b 0 = 256 := (ly_X14 L3 hb).2.1.1
      have cA : ∀ q, 983 ≤ q → g2 q = r.2 q := fun q hq => F2'.row (fun j z => by omega)
      have c1r : ∀ q, b + 1 ≤ q → q ≤ b + 16 → g2 q = r.2 q := fun q q0 q1 => F2'.row (fun j z => by omega)
      have e1_ := c1r (b + 1) (by omega) (by omega)
      have pj2 : pjC g2 (V 24) W K J (BKf T np sg dt) b A s.1.1.1 e := h10.kept (fun j _ => by rw [cA A A0]) (by rw [e1_]; exact Int.le_refl _) (by rw [e1_]; exact Int.le_refl _) (fun q j z0 z1 _ => by rw [c1r q (by omega) (by omega)]) (fun q j z0 z1 _ => by rw [c1r q (by omega) (by omega)])
      have Rf := X.2.2.2.2.1.2.2.1
      have l0 := ltS_0 (L := L)
      have cw := c_widest L3 hb Rf G.1 pj2 (by rw [e1_]; have := h2.2.1; have := h2.1; omega)
      have kA : g2 A (-2) = 288 := by rw [cA A A0]; exact h6
      rw [b03, g_X10 L3, h6]
      refine z_gd rfl (z_gd rfl (z_bind (z_mono cw.1 (fun v hv => ?_))))
      rw [cw.2, Option.bind_some, hv, (g_X10_5 L3).1, (g_X10_5 L3).2.1]
      have pr := pW_r (T := T) (np := np) (sg := sg) (dt := dt) (hy := hyO (V 24) e) Rf G.1 x3 h2.2.2
      have Sh2 : SHc g2 (SC.map (ckO (V 24) W K J (BKf T np sg dt) s.2.1)) := Ts1.2.kept (fun q q0 q1 => by rw [F2'.row (fun j z => by omega), kr q (by omega)])
      refine z_gd rfl (z_bind (z_mono (c_cell13 L3 Sh2 (Int.natCast_nonneg nC) (by omega) pr.1.1 pr.1.2 pr.2.1 pr.2.2) (fun g3 hg3 => z_some (Or.inl ?_))))
      obtain ⟨F3, Sh3⟩ := hg3
      dsimp only
      have ad4 : ADV h b a y pn g3 pn' := ad3.trans hb ha y2 (adv_W ad3.2.2.1 F3 (fun q j z => by
        unfold shV at z
        rcases z with z | z
        · rw [z.1, z.2]; exact Or.inr (Or.inr (Or.inr (Or.inr (Or.inr (Or.inr (Or.inr (Or.inr (Or.inr (Or.inr (Or.inl ⟨rfl, rfl⟩))))))))))
        · exact GW_d (by omega) (by omega) z.2) (fun j z => by unfold shV at z; omega) (fun j z => by unfold shV at z; omega) (fun A hA => ⟨fun z => by unfold shV at z; omega, fun z => by unfold shV at z; omega⟩))
      have k3 : ∀ q, q < 275 ∨ 278 ≤ q → g3 q = g2 q := fun q hq => F3.row (fun j z => by unfold shV at z; omega)
      have kq : ∀ q, (b + 1 ≤ q ∧ q ≤ b + 16) ∨ 983 ≤ q → g3 q = r.2 q := fun q hq => by
        rw [k3 q (by omega)]
        rcases hq with z | z
        · exact c1r q z.1 z.2
        · exact cA q z
      have kb3 : ∀ j, j ≠ 48 → g3 b j = r.2 b j := fun j z => by rw [k3 b (by omega), F2' _ _ (by omega)]
      have en : ∀ {α : Type} (a b : α), (if s.1.1.1 = [] then a else b) = b := fun a b => if_neg ne
      refine ⟨pn', rfl, ad4, ?_, ?_, ?_, ⟨L ++ [(s.1.1.1, e, 1, 0, 0)], li.flow, ⟨⟨?_, ?_⟩, ?_, ?_, ?_, ?_⟩, FNL.more (by rw [k3 _ (by omega), F2'.row (fun j z => by omega), kr _ (by omega)]) (fun j j0 j1 => by rw [kq (b + 15) (by omega)]; exact (h9 j j0 j1).1)⟩, ?_, ?_, ?_⟩
      · refine F2.trans (F1.mono (fun q j z => ?_)) (F2.trans (h4.mono (fun q j z => Or.inl z)) (F2.trans (F2'.mono (fun q j z => ?_)) (F3.mono (fun q j z => Or.inr (Or.inr (Or.inr (Or.inr z)))))))
        · rcases z with z | z | z
          · exact Or.inr (Or.inl ⟨z.1, Or.inl z.2⟩)
          · exact Or.inr (Or.inr (Or.inl ⟨Or.inl z.1, by omega⟩))
          · exact Or.inr (Or.inr (Or.inl ⟨Or.inr z.1, by omega⟩))
        · rcases z with z | z | z
          · exact Or.inr (Or.inr (Or.inl ⟨Or.inr z.1, by omega⟩))
          · exact Or.inr (Or.inr (Or.inr (Or.inl ⟨z.1, by omega⟩)))
          · exact Or.inr (Or.inl ⟨z.1, Or.inr z.2⟩)
      · (try dsimp only); rw [kb3 _ (by decide), kb _ (by decide) (by decide)]; exact w1.1
      · exact h13.kept (fun k k0 k1 => by rw [k3 _ (by omega), F2'.row (fun j z => by omega)])
      · (try dsimp only)
        rw [kq (b + 1) (by omega), ltS_app, List.length_append, List.length_singleton, kb3 9 (by decide)]
        exact ⟨h14, by omega, h15, h2.2.1, h16, by (try dsimp only); omega⟩
      · intro j j0 j1
        rw [List.length_append, List.length_singleton] at j1
        (try dsimp only)
        have em := kq (b + 1) (by omega)
        have mm3 : r.2 (b + 1) 3 ≤ g3 (b + 1) 3 := by rw [em]; exact Int.le_refl _
        have mm12 : r.2 (b + 1) 12 ≤ g3 (b + 1) 12 := by rw [em]; exact Int.le_refl _
        rw [kq (b + 15) (by omega)]
        by_cases hj : j < L.length
        · obtain ⟨n1, n2, n3⟩ := h9 j j0 hj
          obtain ⟨c1, c2, c3, c4⟩ := h3.2.2.1.2.2.1 j j0 (by omega)
          rw [pgAt_old j0 hj]
          exact n3.kept (fun i _ => by rw [kq _ (Or.inr c1)]) mm3 mm12 (fun q i z0 z1 _ => by rw [kq q (by omega)]) (fun q i z0 z1 _ => by rw [kq q (by omega)])
        · have : j = L.length := by omega
          rw [this, h7, pgAt_new rfl]
          refine ⟨h10.kept (fun i hi => by rw [kq A (Or.inr A0)]) mm3 mm12 (fun q i z0 z1 _ => by rw [kq q (by omega)]) (fun q i z0 z1 _ => by rw [kq q (by omega)]), ⟨fun z => absurd z (by show ¬ (1 : Int) = 0; decide), fun _ => ?_, fun z => absurd z (by show ¬ (1 : Int) = 2; decide)⟩, G.1, ne⟩
          rw [kq A (Or.inr A0)]; exact h12
      · refine FSL.2.1.both (by (try dsimp only); rw [kb3 11 (by decide)]; exact h18) (fun i i0 i1 => by (try dsimp only); rw [kq (b + 16) (by omega)]; exact h19 i i0 i1) (fun j j0 j1 => by (try dsimp only); rw [kq (b + 15) (by omega)]; exact (h9 j j0 j1).1) ?_
        (try dsimp only)
        rw [kq (b + 16) (by omega), kq (b + 15) (by omega), h20, h7]
      · (try dsimp only)
        exact FSL.2.2.1.kept (by rw [kb3 _ (by decide), kb _ (by decide) (by decide)]) (by rw [k3 _ (by omega), F2'.row (fun j z => by omega), kr _ (by omega)]) (by rw [k3 _ (by omega), F2'.row (fun j z => by omega), kr _ (by omega)])
      · (try dsimp only)
        rw [kb3 _ (by decide), kb _ (by decide) (by decide)]; exact FSL.2.2.2.1
      · (try dsimp only)
        exact FSL.2.2.2.2.kept (by rw [kb3 _ (by decide), kb _ (by decide) (by decide)]) (by rw [k3 _ (by omega), F2'.row (fun j z => by omega), kr _ (by omega)])
      · exact Rw1.kept (by rw [kb3 _ (by decide), kb _ (by decide) (by decide)]) (by rw [k3 _ (by omega), F2'.row (fun j z => by omega), kr _ (by omega)]) (fun i hi => by rw [k3 _ (by omega), F2' _ _ (by omega), kr _ (by omega)]) (fun i hi => by rw [k3 _ (by omega), F2' _ _ (by rw [hRl] at hi; omega), kr _ (by omega)])
      · (try dsimp only)
        rw [hRl]
        obtain ⟨a1, a2, a3⟩ := Cu1
        rw [List.length_append, hCl, List.length_singleton] at a1 a2 a3
        refine ⟨?_, by rw [List.length_append, hCl, List.length_singleton]; exact a2, fun c hc => ?_⟩
        · rw [k3 _ (by omega), F2' _ _ (by omega), kr _ (by omega), a1, List.length_append, hCl, List.length_singleton]
        · rw [List.length_append, hCl, List.length_singleton] at hc
          rw [k3 _ (by omega)]
          by_cases hcc : c = nC
          · rw [hcc, w2.1, List.getElem?_append_right (by omega), hCl, Nat.sub_self]; rfl
          · rw [F2' _ _ (by omega), kr _ (by omega), a3 c hc, List.getElem?_append_left (by omega), List.getElem?_append_left (by omega)]
      · (try dsimp only)
        rw [if_neg ne, hCl]
        refine ⟨⟨?_, fun i hi => ?_⟩, ?_⟩
        · rw [k3 _ (by omega), w2.2.2.2, List.length_append]; rfl
        · rw [List.length_append, List.length_singleton] at hi
          rw [k3 _ (by omega), k3 _ (by omega)]
          by_cases hii : i = TC.length
          · rw [hii, w2.2.1, w2.2.2.1, List.getElem?_append_right (Nat.le_refl _), Nat.sub_self]; exact ⟨rfl, rfl⟩
          · rw [F2' _ _ (by omega), F2' _ _ (by omega), kr _ (by omega), kr _ (by omega), List.getElem?_append_left (by omega)]
            exact Ts1.1.2 i (by omega)
        · rw [List.map_append]
          have m1 : SC.map (ckO (V 24) W K J (BKf T np sg dt) (s.2.1 ++ [(s.1.1.1, e, 1, 0, 0)])) = SC.map (ckO (V 24) W K J (BKf T np sg dt) s.2.1) := List.map_congr_left (fun z hz => ckO_old (hS z hz))
          have m2 : ckO (V 24) W K J (BKf T np sg dt) (s.2.1 ++ [(s.1.1.1, e, 1, 0, 0)]) ((nC : Int), (s.2.1.length : Int)) = ((nC : Int), pW1 W K J s.1.1.1 (BKf T np sg dt s.1.1.1 (hyO (V 24) e)), pW2 W K J s.1.1.1 (BKf T np sg dt s.1.1.1 (hyO (V 24) e))) := by
            unfold ckO
            rw [if_pos (show (0 : Int) ≤ ((nC : Int), (s.2.1.length : Int)).2 from Int.natCast_nonneg _)]
            (try dsimp only)
            rw [pgAt_new rfl]
          rw [m1, List.map_singleton, m2]
          exact Sh3
    · refine Or.inr ⟨h2.ne, z_some (Or.inr ⟨?_, (h2.after hb ha y2 ad1).r1⟩)⟩
      unfold TOO
      dsimp only
      rw [ltS_app, List.length_append, List.length_singleton]
      have l1 := li.1
      have l2 := li.2.1
      rcases h1 with z | z | z
      · exact Or.inl (by omega)
      · refine Or.inr (Or.inl ?_)
        show 24000 < ltS s.2.1 + (s.1.1.1.length : Int) + ltS N + 0
        omega
      · exact Or.inr (Or.inr ⟨_, Or.inl (List.mem_append_right _ (List.mem_singleton.mpr rfl)), z⟩)
