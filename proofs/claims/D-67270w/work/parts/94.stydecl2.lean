set_option maxRecDepth 100000
/-! STYLES: a declaration, all of it -/
/-- the reference's part of a declaration -/
noncomputable def tDecl (l : Int) (h_9 : Hp) : Option ((Hp) ⊕ ((Hp) ⊕ (((Int × Int) × Hp)))) :=
  if (h_9 (h_9 l 1) 3) ≠ 1 then (bW (m_X20_broken (h_9 l 1) h_9) fun v46 h46 =>
  gd (0 < v46) (some (.inr (.inr ((1, v46), h46)))))
  else (if (h_9 l 7) ≠ 600 then ((m_X22_numberOf (h_9 l 1) h_9).bind fun v54 =>
  if 0 ≤ v54 then ((m_X20_next (h_9 l 1) h_9).bind fun h74 =>
  gd (h74 (h74 l 1) (-2) = 336) (bT (m_X20_need (h74 l 1) 58 h74) (fun _ h83 =>
  gd (h83 (h83 l 22) (-2) % 16 = 1 ∧ (0 : Int) ≤ (h83 l 7) ∧ (h83 l 7) < h83 (h83 l 22) (-1)) (pt h83 (h83 l 22) (h83 l 7) v54 fun h95 =>
  gd (h95 (h95 l 24) (-2) % 16 = 1 ∧ (0 : Int) ≤ (h95 l 7) ∧ (h95 l 7) < h95 (h95 l 24) (-1)) (pt h95 (h95 l 24) (h95 l 7) 0 fun h105 =>
  gd (h105 (h105 l 25) (-2) % 16 = 1 ∧ (0 : Int) ≤ (h105 l 7) ∧ (h105 l 7) < h105 (h105 l 25) (-1)) (pt h105 (h105 l 25) (h105 l 7) 0 fun h115 =>
  bT (m_X22_valueOf l v54 h115) (fun v126 h126 =>
  gd (h126 (h115 l 23) (-2) % 16 = 1 ∧ (0 : Int) ≤ (h115 l 7) ∧ (h115 l 7) < h126 (h115 l 23) (-1)) (pt h126 (h115 l 23) (h115 l 7) v126 fun h129 =>
  gd (h129 (h129 l 1) (-2) = 336) (bT (m_X20_need (h129 l 1) 59 h129) (fun _ h136 =>
  pt h136 l 7 (w32 ((h136 l 7) + 1)) fun h146 =>
  some (.inl h146)) (fun a_ h_ => some (.inr (.inr ((1, a_), h_))))))) (fun a_ h_ => some (.inr (.inr ((1, a_), h_)))))))) (fun a_ h_ => some (.inr (.inr ((1, a_), h_))))))
  else (bW (m_X20_broken (h_9 l 1) h_9) fun v66 h66 =>
  gd (0 < v66) (some (.inr (.inr ((1, v66), h66))))))
  else (bW (m_X20_broken (h_9 l 1) h_9) fun v46_1 h46_1 =>
  gd (0 < v46_1) (some (.inr (.inr ((1, v46_1), h46_1))))))
/-- what comes of a declaration -/
def DO (h1 h2 : Hp) (n : Int) (B T : Int → Int) (a l : Int) (p0 q0 : Hp) (N : Int) (s : Int → List Int) (C ns na nf nsel nb nt i : Int) (rc : (Int × Int) × Hp) (y : Hp ⊕ (Hp ⊕ ((Int × Int) × Hp))) : Prop :=
  (∃ p q C' i' ht', rc.1 = (0, 0) ∧ y = .inl ht' ∧ i < i' ∧ C ≤ C' ∧ nt < 600 ∧ SS h1 h2 n B T a l p q i' i' rc.2 ht' ∧ SY T n N s C' ns na nf nsel nb (nt + 1) p q a l ∧ UB p a i' ∧ KD a p0 p ∧ KE l q0 q) ∨ (∃ rt, y = .inr (.inr rt) ∧ BO h1 h2 n a l rc rt)
/-- the reference hands on what it was given -/
theorem y_flat {oc ot : Option ((Int × Int) × Hp)} {P : (Int × Int) × Hp → (Int × Int) × Hp → Prop} {h1 h2 : Hp} {n a l : Int} (h : Pr oc ot (fun rc rt => P rc rt ∨ BO h1 h2 n a l rc rt)) (k0 : ∀ rc rt, P rc rt → rt.1.1 = 0) : Pr oc (bT ot (fun v h => some (((0 : Int), v), h)) (fun a_ h_ => some ((1, a_), h_))) (fun rc rt => P rc rt ∨ BO h1 h2 n a l rc rt) := by
  obtain ⟨rc, rt, e1, e2, h⟩ := h
  refine ⟨rc, rt, e1, ?_, h⟩
  rcases h with h | h
  · have z := k0 rc rt h
    rw [bT_0 e2 z]
    obtain ⟨⟨x, y⟩, w⟩ := rt
    dsimp only at z ⊢
    rw [z]
  · have z := h.r1.2
    rw [bT_1 e2 (by omega)]
    obtain ⟨⟨x, y⟩, w⟩ := rt
    dsimp only at z ⊢
    rw [z]
theorem y_decl {h1 h2 hc ht : Hp} {n : Int} {B T : Int → Int} {a l : Int} {p q : Hp} {i N C ns na nf nsel nb nt : Int} {s : Int → List Int} (ha : a ∈ in_aX3) (hl : l ∈ in_aX22) (S : SS h1 h2 n B T a l p q i i hc ht) (Y : SY T n N s C ns na nf nsel nb nt p q a l) (ub : UB p a i) :
    Pr (m_X3_declaration a 3 hc) (tDecl l ht) (DO h1 h2 n B T a l p q N s C ns na nf nsel nb nt i) := by
  have h3 := aX3 ha
  have h22 := aX22 hl
  have g0 := S.ge
  have e20 := Y.2.2.2.2.2.1.2.2.1
  have e7 := Y.2.2.2.2.2.1.2.2.2.1
  have t0 := Y.2.2.2.2.2.1.2.2.2.2.2.1
  have pa20 : hc a 20 = nt := by rw [S.pL (by omega) (by omega)]; exact e20
  have r7 : ht l 7 = nt := by rw [S.pR (Or.inl rfl)]; exact e7
  unfold m_X3_declaration tDecl
  simp only [g_X2 S.1.1, g_X22_1 S.2.1.1 hl, S.tR.1, r7]
  refine yl_gd trivial ?_
  have brk2 : ∀ {hc' ht' p' q' : Hp} {x : Int}, SS h1 h2 n B T a l p' q' x x hc' ht' → Pr (bW (m_X2_broken 3 hc') fun v25 h25 => gd (0 < v25) (some (((1 : Int), v25), h25))) (bW (m_X20_broken (l + 2) ht') fun v46 h46 => gd (0 < v46) (some (.inr (.inr ((1, v46), h46))))) (DO h1 h2 n B T a l p q N s C ns na nf nsel nb nt i) := by
    intro hc' ht' p' q' x S'
    have := S'.ge
    exact L_brk S' (fun b h' z => R_brk hl S' (fun b' h'' z' => y_some (Or.inr ⟨_, rfl, ss_thr ha hl S' ⟨by omega, by omega⟩ z z'⟩)))
  by_cases t1 : (tk B i).1 = 1
  · have tl := S.tl t1
    refine L_kind1 S t1 (yr_ie (fun z => z (kT1 t1)) ?_)
    rw [q_propertyOf S.1 t1, q_numberOf hl S.2.1 t1, Option.bind_some, Option.bind_some, S.twL t1, S.twR, pa20]
    have rg := ix_r (w := wr T (tk B i).2.1 (nx B i)) wProps 0 (by decide)
    have len : wProps.length = 22 := rfl
    generalize hpr : ix (wr T (tk B i).2.1 (nx B i)) wProps 0 = pr at *
    by_cases hp0 : pr < 0
    · refine yl_it hp0 ?_
      by_cases h6 : nt = 600
      · exact yr_ie (fun z => z h6) (brk2 S)
      · exact yr_it h6 (yr_ie (by omega) (brk2 S))
    · refine yl_ie hp0 ?_
      by_cases h6 : nt = 600
      · exact yl_ie (fun z => z h6) (yr_ie (fun z => z h6) (brk2 S))
      · refine yl_it h6 (yr_it h6 (yr_it (by omega) ?_))
        have t6 := Y.2.2.2.2.2.1.2.2.2.2.2.2.1
        simp only [g_X3_16 S.1.1 ha]
        refine yl_gd (by omega) (yl_pt ?_)
        have S1 := S.putL (b := a + 23) (j := nt) (v := pr) ha (by omega) (by unfold scW; omega)
        refine L_next ha S1 (by omega) (fun hc1 S2 => R_next S2 (by omega) (fun ht1 S3 => ?_))
        simp only [g_X22_1 S3.2.1.1 hl]
        refine yr_gd trivial ?_
        generalize hi1 : nx B i = i1 at *
        have g1 := S3.ge
        by_cases t2 : (tk B i1).1 = 4 ∧ (tk B i1).2.2.2 = 58
        · refine L_need1 ha S3 t2 (fun hc2 S4 => R_need1 S4 (by decide) t2 (fun ht2 S5 => ?_))
          have r7' : ht2 l 7 = nt := by rw [S5.pR (Or.inl rfl)]; exact e7
          simp only [g_X22_22 S5.2.1.1 hl, r7']
          refine yr_gd (by omega) (yr_pt ?_)
          have S6 := S5.putR (b := l + 17) (j := nt) (v := pr) hl (Or.inr ⟨by omega, by omega⟩) (by unfold stW2; omega)
          simp only [g_X22_24 S6.2.1.1 hl, up_a (show l ≠ l + 17 by omega), r7']
          refine yr_gd (by omega) (yr_pt ?_)
          have S7 := S6.putR (b := l + 19) (j := nt) (v := 0) hl (Or.inr ⟨by omega, by omega⟩) (by unfold stW2; omega)
          simp only [g_X22_25 S7.2.1.1 hl, up_a (show l ≠ l + 17 by omega), up_a (show l ≠ l + 19 by omega), r7']
          refine yr_gd (by omega) (yr_pt ?_)
          have S8 := S7.putR (b := l + 20) (j := nt) (v := 0) hl (Or.inr ⟨by omega, by omega⟩) (by unfold stW2; omega)
          have x7 : up (up (up ht2 (l + 17) nt pr) (l + 19) nt 0) (l + 20) nt 0 l 7 = nt := by (try simp (disch := omega) only [up_a, up_e, up_j, e32, e8]); exact r7'
          generalize hi2 : nx B i1 = i2 at *
          generalize hpb : up p (a + 23) nt pr = pb at *
          generalize hqb : up (up (up q (l + 17) nt pr) (l + 19) nt 0) (l + 20) nt 0 = qb at *
          generalize hh : up (up (up ht2 (l + 17) nt pr) (l + 19) nt 0) (l + 20) nt 0 = ht3 at *
          have x23 := g_X22_23 S8.2.1.1 hl
          have VBs : VB h1 h2 n B T a l pb qb C nt i2 hc2 ht3 := by
            refine ⟨S8, ?_, ?_, ?_, ?_, ?_, ?_, t0, by omega, ?_, ?_⟩
            · obtain ⟨u1, u2, u3, u4⟩ := ub
              rw [← hpb]
              refine ⟨?_, ?_, ?_, ?_⟩ <;> (try simp (disch := omega) only [up_a, up_e, up_j, e32, e8]) <;> omega
            · obtain ⟨d1, d2, s', d3, d4⟩ := Y.2.1
              rw [← hqb, ← hpb]
              refine ⟨by (try simp (disch := omega) only [up_a, up_e, up_j, e32, e8]); exact d1, d2, s', d3.kept (fun b b0 b1 => up_row (by omega)), fun x x0 x1 => ?_⟩
              (try simp (disch := omega) only [up_a, up_e, up_j, e32, e8])
              exact d4 x x0 x1
            · rw [← hpb]; (try simp (disch := omega) only [up_a, up_e, up_j, e32, e8]); exact Y.1.2.1
            · rw [← hpb]; (try simp (disch := omega) only [up_a, up_e, up_j, e32, e8]); exact Y.1.2.2
            · rw [← hpb]; (try simp (disch := omega) only [up_a, up_e, up_j, e32, e8]); exact e20
            · rw [← hqb]; (try simp (disch := omega) only [up_a, up_e, up_j, e32, e8]); exact e7
            · rw [← hqb]; (try simp (disch := omega) only [up_a, up_e, up_j, e32, e8])
            · rw [← hqb]; (try simp (disch := omega) only [up_a, up_e, up_j, e32, e8])
          -- behind the value
          have fin : ∀ rc rt : (Int × Int) × Hp, VO h1 h2 n B T a l pb qb C nt pr i2 rc rt → Pr (m_X3_declaration_j329 3 a rc.2) (gd (rt.2 (ht3 l 23) (-2) % 16 = 1 ∧ (0 : Int) ≤ (ht3 l 7) ∧ (ht3 l 7) < rt.2 (ht3 l 23) (-1)) (pt rt.2 (ht3 l 23) (ht3 l 7) rt.1.2 fun h129 =>
  gd (h129 (h129 l 1) (-2) = 336) (bT (m_X20_need (h129 l 1) 59 h129) (fun _ h136 =>
  pt h136 l 7 (w32 ((h136 l 7) + 1)) fun h146 =>
  some (.inl h146)) (fun a_ h_ => some (.inr (.inr ((1, a_), h_))))))) (DO h1 h2 n B T a l p q N s C ns na nf nsel nb nt i) := by
            rintro rc rt ⟨p2, q2, C', i', z1, z2, z3, S9, ub9, zC, sc9, fp, zm, fq, dO⟩
            have k18 := g_X22_23 S9.2.1.1 hl
            simp only [x23.1, x7, k18.2.1, k18.2.2]
            refine yr_gd (by omega) (yr_pt ?_)
            have R1 := S9.putR (b := l + 18) (j := nt) (v := rt.1.2) hl (Or.inr ⟨by omega, by omega⟩) (by unfold stW2; omega)
            simp only [g_X22_1 R1.2.1.1 hl]
            refine yr_gd trivial ?_
            unfold m_X3_declaration_j329
            have g2 := R1.ge
            by_cases t5 : (tk B i').1 = 4 ∧ (tk B i').2.2.2 = 59
            · refine L_need1 ha R1 t5 (fun hc4 R2 => R_need1 R2 (by decide) t5 (fun ht4 R3 => ?_))
              have c20 : hc4 a 20 = nt := by rw [R3.pL (by omega) (by omega), fp _ _ (by omega) (by omega) (by omega), ← hpb]; (try simp (disch := omega) only [up_a, up_e, up_j, e32, e8]); exact e20
              have d7 : ht4 l 7 = nt := by
                rw [R3.pR (Or.inl rfl)]; (try simp (disch := omega) only [up_a, up_e, up_j, e32, e8])
                rw [fq _ _ (Or.inl rfl) (by omega), ← hqb]; (try simp (disch := omega) only [up_a, up_e, up_j, e32, e8]); exact e7
              rw [c20, d7, e32 (by omega) (by omega)]
              refine yl_pt (yr_pt (y_some (Or.inl ⟨_, _, C', nx B i', _, rfl, rfl, by have := tk_lt4 t5.1; omega, zC, by omega, (R3.putL (b := a) (j := 20) (v := nt + 1) ha (by omega) (by unfold scW; omega)).putR (b := l) (j := 7) (v := nt + 1) hl (Or.inl rfl) (by unfold stW2; omega), ?_, ?_, ?_, ?_⟩)))
              · refine Y.decl (by omega) zC (fun b j b0 b1 nb => ?_) ?_ (fun b j b0 nb => ?_) (by (try simp (disch := omega) only [up_a, up_e, up_j, e32, e8]) <;> omega) (by (try simp (disch := omega) only [up_a, up_e, up_j, e32, e8]) <;> omega) ?_ ?_
                · rw [up_ne (by omega), fp b j b0 b1 (by rw [← hpb]; (try simp (disch := omega) only [up_a, up_e, up_j, e32, e8]); omega), ← hpb]
                  (repeat rw [up_ne (by omega)])
                · rw [up_a (by omega)]
                  have : pb (a + 11) 1 = p (a + 11) 1 := by rw [← hpb]; (try simp (disch := omega) only [up_a, up_e, up_j, e32, e8])
                  omega
                · rw [up_ne (by omega), up_ne (by omega), fq b j b0 (by omega), ← hqb]
                  (repeat rw [up_ne (by omega)])
                · obtain ⟨d1, d2, s', d3, d4⟩ := sc9
                  refine ⟨by (try simp (disch := omega) only [up_a, up_e, up_j, e32, e8]); exact d1, d2, s', d3.kept (fun b b0 b1 => up_row (by omega)), fun x x0 x1 => ?_⟩
                  (try simp (disch := omega) only [up_a, up_e, up_j, e32, e8])
                  exact d4 x x0 x1
                · have w23 : p2 (a + 23) nt = pr := by rw [fp _ _ (by omega) (by omega) (by omega), ← hpb]; (try simp (disch := omega) only [up_a, up_e, up_j, e32, e8])
                  have w17 : q2 (l + 17) nt = pr := by rw [fq _ _ (Or.inr ⟨by omega, by omega⟩) (by omega), ← hqb]; (try simp (disch := omega) only [up_a, up_e, up_j, e32, e8])
                  (try simp (disch := omega) only [up_a, up_e, up_j, e32, e8])
                  rw [w23, w17, up_row (show a + 12 ≠ a by omega)]
                  exact dO
              · obtain ⟨u1, u2, u3, u4⟩ := ub9
                refine ⟨?_, ?_, ?_, ?_⟩ <;> (try simp (disch := omega) only [up_a, up_e, up_j, e32, e8]) <;> omega
              · intro b j b0 b1 nb
                rw [up_ne (by omega), fp b j b0 b1 (by omega), ← hpb]
                (repeat rw [up_ne (by omega)])
              · intro b j b0 nb
                rw [up_ne (by omega), up_ne (by omega), fq b j b0 (by omega), ← hqb]
                (repeat rw [up_ne (by omega)])
            · exact L_need0 R1 t5 (fun b h' z => R_need0 R1 (by decide) t5 (fun b' h'' z' => y_some (Or.inr ⟨_, rfl, ss_thr ha hl R1 ⟨by omega, by omega⟩ z z'⟩)))
          have err : ∀ rc rt : (Int × Int) × Hp, BO h1 h2 n a l ((1, rc.1.2), rc.2) ((1, rt.1.2), rt.2) → Pr (some ((1, rc.1.2), rc.2)) (some (.inr (.inr ((1, rt.1.2), rt.2)))) (DO h1 h2 n B T a l p q N s C ns na nf nsel nb nt i) := fun rc rt z => y_some (Or.inr ⟨_, rfl, z⟩)
          have k0 : ∀ rc rt : (Int × Int) × Hp, VO h1 h2 n B T a l pb qb C nt pr i2 rc rt → rc.1.1 = 0 ∧ rt.1.1 = 0 := fun rc rt z => by
            obtain ⟨p', q', C', i', e1, e2, -⟩ := z
            exact ⟨e1, e2⟩
          have prc : pr = 0 ∨ pr = 1 ∨ pr = 2 ∨ pr = 3 ∨ pr = 4 ∨ pr = 5 ∨ pr = 6 ∨ pr = 7 ∨ pr = 8 ∨ pr = 9 ∨ pr = 10 ∨ pr = 11 ∨ pr = 12 ∨ pr = 13 ∨ pr = 14 ∨ pr = 15 ∨ pr = 16 ∨ pr = 17 ∨ pr = 18 ∨ pr = 19 ∨ pr = 20 ∨ pr = 21 := by omega
          clear hpb hqb hh rg hpr x23 x7 S8 S7 S6 S5 S4 S3 S2 S1
          unfold m_X22_valueOf
          rcases prc with rfl | rfl | rfl | rfl | rfl | rfl | rfl | rfl | rfl | rfl | rfl | rfl | rfl | rfl | rfl | rfl | rfl | rfl | rfl | rfl | rfl | rfl
          · simp only [Int.reduceEq, reduceIte, List.mem_cons, List.not_mem_nil, or_false, or_true, true_or, false_or, or_self]
            obtain ⟨Z, hZ, hZ2⟩ := sp_wShow
            have e : wShow.length = 12 := rfl
            exact y_vword ha hl VBs (by decide) (by decide) (by decide) (by decide) hZ hZ2 (by decide) (fun v h1 h2 => by unfold vrO; omega) fin err
          · simp only [Int.reduceEq, reduceIte, List.mem_cons, List.not_mem_nil, or_false, or_true, true_or, false_or, or_self]
            exact y_bT (y_flat (y_vsize ha hl VBs) (fun rc rt z => (k0 rc rt z).2)) k0 fin err
          · simp only [Int.reduceEq, reduceIte, List.mem_cons, List.not_mem_nil, or_false, or_true, true_or, false_or, or_self]
            exact y_vnum ha hl VBs (by decide) (by decide) (by decide) (by decide) (fun v h1 h2 => by unfold vrO; omega) fin err
          · simp only [Int.reduceEq, reduceIte, List.mem_cons, List.not_mem_nil, or_false, or_true, true_or, false_or, or_self]
            exact y_vnum ha hl VBs (by decide) (by decide) (by decide) (by decide) (fun v h1 h2 => by unfold vrO; omega) fin err
          · simp only [Int.reduceEq, reduceIte, List.mem_cons, List.not_mem_nil, or_false, or_true, true_or, false_or, or_self]
            exact y_vnum ha hl VBs (by decide) (by decide) (by decide) (by decide) (fun v h1 h2 => by unfold vrO; omega) fin err
          · simp only [Int.reduceEq, reduceIte, List.mem_cons, List.not_mem_nil, or_false, or_true, true_or, false_or, or_self]
            exact y_vnum ha hl VBs (by decide) (by decide) (by decide) (by decide) (fun v h1 h2 => by unfold vrO; omega) fin err
          · simp only [Int.reduceEq, reduceIte, List.mem_cons, List.not_mem_nil, or_false, or_true, true_or, false_or, or_self]
            exact y_vnum ha hl VBs (by decide) (by decide) (by decide) (by decide) (fun v h1 h2 => by unfold vrO; omega) fin err
          · simp only [Int.reduceEq, reduceIte, List.mem_cons, List.not_mem_nil, or_false, or_true, true_or, false_or, or_self]
            exact y_vnum ha hl VBs (by decide) (by decide) (by decide) (by decide) (fun v h1 h2 => by unfold vrO; omega) fin err
          · simp only [Int.reduceEq, reduceIte, List.mem_cons, List.not_mem_nil, or_false, or_true, true_or, false_or, or_self]
            obtain ⟨Z, hZ, hZ2⟩ := sp_wAlign
            have e : wAlign.length = 4 := rfl
            exact y_vword ha hl VBs (by decide) (by decide) (by decide) (by decide) hZ hZ2 (by decide) (fun v h1 h2 => by unfold vrO; omega) fin err
          · simp only [Int.reduceEq, reduceIte, List.mem_cons, List.not_mem_nil, or_false, or_true, true_or, false_or, or_self]
            obtain ⟨Z, hZ, hZ2⟩ := sp_wYes
            have e : wYes.length = 2 := rfl
            exact y_vword ha hl VBs (by decide) (by decide) (by decide) (by decide) hZ hZ2 (by decide) (fun v h1 h2 => by unfold vrO; omega) fin err
          · simp only [Int.reduceEq, reduceIte, List.mem_cons, List.not_mem_nil, or_false, or_true, true_or, false_or, or_self]
            exact y_vnum ha hl VBs (by decide) (by decide) (by decide) (by decide) (fun v h1 h2 => by unfold vrO; omega) fin err
          · simp only [Int.reduceEq, reduceIte, List.mem_cons, List.not_mem_nil, or_false, or_true, true_or, false_or, or_self]
            exact y_vnum ha hl VBs (by decide) (by decide) (by decide) (by decide) (fun v h1 h2 => by unfold vrO; omega) fin err
          · simp only [Int.reduceEq, reduceIte, List.mem_cons, List.not_mem_nil, or_false, or_true, true_or, false_or, or_self]
            exact y_vnum ha hl VBs (by decide) (by decide) (by decide) (by decide) (fun v h1 h2 => by unfold vrO; omega) fin err
          · simp only [Int.reduceEq, reduceIte, List.mem_cons, List.not_mem_nil, or_false, or_true, true_or, false_or, or_self]
            obtain ⟨Z, hZ, hZ2⟩ := sp_wYes
            have e : wYes.length = 2 := rfl
            exact y_vword ha hl VBs (by decide) (by decide) (by decide) (by decide) hZ hZ2 (by decide) (fun v h1 h2 => by unfold vrO; omega) fin err
          · simp only [Int.reduceEq, reduceIte, List.mem_cons, List.not_mem_nil, or_false, or_true, true_or, false_or, or_self]
            obtain ⟨Z, hZ, hZ2⟩ := sp_wYes
            have e : wYes.length = 2 := rfl
            exact y_vword ha hl VBs (by decide) (by decide) (by decide) (by decide) hZ hZ2 (by decide) (fun v h1 h2 => by unfold vrO; omega) fin err
          · simp only [Int.reduceEq, reduceIte, List.mem_cons, List.not_mem_nil, or_false, or_true, true_or, false_or, or_self]
            exact y_bT (y_flat (y_vcounter ha hl VBs (by decide)) (fun rc rt z => (k0 rc rt z).2)) k0 fin err
          · simp only [Int.reduceEq, reduceIte, List.mem_cons, List.not_mem_nil, or_false, or_true, true_or, false_or, or_self]
            exact y_bT (y_flat (y_vcounter ha hl VBs (by decide)) (fun rc rt z => (k0 rc rt z).2)) k0 fin err
          · simp only [Int.reduceEq, reduceIte, List.mem_cons, List.not_mem_nil, or_false, or_true, true_or, false_or, or_self]
            exact y_bT (y_vlabel ha hl VBs) k0 fin err
          · simp only [Int.reduceEq, reduceIte, List.mem_cons, List.not_mem_nil, or_false, or_true, true_or, false_or, or_self]
            obtain ⟨Z, hZ, hZ2⟩ := sp_wForm
            have e : wForm.length = 3 := rfl
            exact y_vword ha hl VBs (by decide) (by decide) (by decide) (by decide) hZ hZ2 (by decide) (fun v h1 h2 => by unfold vrO; omega) fin err
          · simp only [Int.reduceEq, reduceIte, List.mem_cons, List.not_mem_nil, or_false, or_true, true_or, false_or, or_self]
            exact y_vnum ha hl VBs (by decide) (by decide) (by decide) (by decide) (fun v h1 h2 => by unfold vrO; omega) fin err
          · simp only [Int.reduceEq, reduceIte, List.mem_cons, List.not_mem_nil, or_false, or_true, true_or, false_or, or_self]
            obtain ⟨Z, hZ, hZ2⟩ := sp_wYes
            have e : wYes.length = 2 := rfl
            exact y_vword ha hl VBs (by decide) (by decide) (by decide) (by decide) hZ hZ2 (by decide) (fun v h1 h2 => by unfold vrO; omega) fin err
          · simp only [Int.reduceEq, reduceIte, List.mem_cons, List.not_mem_nil, or_false, or_true, true_or, false_or, or_self]
            exact y_vnum ha hl VBs (by decide) (by decide) (by decide) (by decide) (fun v h1 h2 => by unfold vrO; omega) fin err
        · exact L_need0 S3 t2 (fun b h' z => R_need0 S3 (by decide) t2 (fun b' h'' z' => y_some (Or.inr ⟨_, rfl, ss_thr ha hl S3 ⟨by omega, by omega⟩ z z'⟩)))
  · refine L_kind0 S t1 (fun b h' z => yr_it (fun y => t1 ((kTe (by decide) (by decide)).mp y)) (R_brk hl S (fun b' h'' z' => y_some (Or.inr ⟨_, rfl, ss_thr ha hl S ⟨by omega, by omega⟩ z z'⟩))))
