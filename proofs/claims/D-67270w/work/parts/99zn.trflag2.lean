set_option maxRecDepth 100000
/-! TREES: what is shown, on the reference's side: all elements -/
theorem q_fl58 {h : Hp} {l e c : Int} {P : Int → Int} {o : Bool} (hL : LAY h) (hl : l ∈ in_aX24) (e0 : 0 ≤ e) (e1 : e < 500) (pm : -1 ≤ P e) (p1 : P e < e) (ho : o = ok0 (vw h l) P e) (ec : 0 ≤ P e → h (l + 28) (P e) = c) (ec' : c = cntC (h (l + 36)) P (P e) e.toNat) :
    ∃ G, m_X24_flags_j58 (P e) e l (bI o) h = some (.inl (e + 1, G)) ∧ F2 (flW l e (P e)) h G ∧ FLV (vw G l) P e ∧ G (l + 28) e = 0 ∧ (0 ≤ P e → G (l + 28) (P e) = c + (if G (l + 36) e ≠ 0 then 1 else 0)) := by
  have h24 := aX24 hl
  have cr := cntC_r (c := h (l + 36)) (P := P) (x := P e) e.toNat
  rw [← ec'] at cr
  generalize hp : P e = p at *
  have k14 := g_X24_14 hL hl
  have L1 : LAY (up h (l + 35) e 0) := fl_l hL hl (F2.refl.put ⟨by omega, e0⟩)
  have k15 := g_X24_15 L1 hl
  have L2 : LAY (up (up h (l + 35) e 0) (l + 36) e 0) := fl_l L1 hl (F2.refl.put ⟨by omega, e0⟩)
  have k7 := g_X24_7 L2 hl
  have L3 : LAY (up (up (up h (l + 35) e 0) (l + 36) e 0) (l + 28) e 0) := fl_l L2 hl (F2.refl.put ⟨by omega, e0⟩)
  have k13 := g_X24_13 L3 hl
  have k14' := g_X24_14 L3 hl
  have F3 : F2 (flW l e p) h (up (up (up h (l + 35) e 0) (l + 36) e 0) (l + 28) e 0) := by
    repeat' first
      | exact F2.refl
      | refine F2.put ?_ (by unfold flW; omega)
  have v35 : up (up (up h (l + 35) e 0) (l + 36) e 0) (l + 28) e 0 (l + 35) e = 0 := by (try simp (disch := omega) only [up_a, up_e, up_j, e32, e8])
  have v36 : up (up (up h (l + 35) e 0) (l + 36) e 0) (l + 28) e 0 (l + 36) e = 0 := by (try simp (disch := omega) only [up_a, up_e, up_j, e32, e8])
  have v28 : up (up (up h (l + 35) e 0) (l + 36) e 0) (l + 28) e 0 (l + 28) e = 0 := by (try simp (disch := omega) only [up_a, up_e, up_j, e32, e8])
  have vp : ∀ b j, j ≠ e → up (up (up h (l + 35) e 0) (l + 36) e 0) (l + 28) e 0 b j = h b j := fun b j hj => by
    rw [up_i hj, up_i hj, up_i hj]
  have v24 : up (up (up h (l + 35) e 0) (l + 36) e 0) (l + 28) e 0 (l + 24) = h (l + 24) := by
    rw [up_row (by omega), up_row (by omega), up_row (by omega)]
  unfold m_X24_flags_j58
  simp only [k14.1, k14.2.1, k14.2.2]
  rw [gd_t ⟨by decide, e0, by omega⟩, pt_e]
  simp only [k15.1, k15.2.1, k15.2.2]
  rw [gd_t ⟨by decide, e0, by omega⟩, pt_e]
  simp only [k7.1, k7.2.1, k7.2.2]
  rw [gd_t ⟨by decide, e0, by omega⟩, pt_e]
  generalize up (up (up h (l + 35) e 0) (l + 36) e 0) (l + 28) e 0 = g at *
  -- ok1 is known: s what row[e] is
  have fin : ∀ (g' : Hp) (s : Int) (o1 : Bool), F2 (fun b j => b = l + 35 ∧ j = e) g g' → g' (l + 35) e = s → o1 = ok1 (vw h l) P e → s = bI (isTb (vw h l) P e && o1) → ∃ G, m_X24_flags_j120 p l e (bI o1) g' = some (.inl (e + 1, G)) ∧ F2 (flW l e p) h G ∧ FLV (vw G l) P e ∧ G (l + 28) e = 0 ∧ (0 ≤ p → G (l + 28) p = c + (if G (l + 36) e ≠ 0 then 1 else 0)) := by
    intro g' s o1 Fg es eo esb
    have Lg' : LAY g' := fl_l L3 hl (Fg.mono (fun b j z => by omega))
    obtain ⟨G, g1, g2, g3, o2, w1, w2, w3, w4, w5, w6, w7, w8, w9⟩ := q_fl120 (p := p) (c := c) (o := o1) Lg' hl e0 e1 pm p1 (by rw [Fg _ _ (by omega)]; exact v36) (fun p0 => by rw [Fg _ _ (by omega), vp _ _ (by omega)]; exact ec p0) cr.1 (by omega)
    have gp : ∀ b, g' b p = h b p := fun b => by rw [Fg _ _ (by omega), vp _ _ (by omega)]
    have Gp : ∀ b, 29 ≤ b → b ≤ 36 → G (l + b) p = h (l + b) p := fun b b0 b1 => by rw [g2 _ _ (by unfold flW; omega)]; exact gp _
    have G24 : G (l + 24) = h (l + 24) := by
      have r1 : G (l + 24) = g' (l + 24) := g2.row (fun j z => by unfold flW at z; omega)
      have r2 : g' (l + 24) = g (l + 24) := Fg.row (fun j z => by omega)
      rw [r1, r2, v24]
    have s24 : ∀ j, g' (l + 24) j = h (l + 24) j := fun j => by rw [Fg _ _ (by omega), v24]
    have c36 : ∀ x, cntC (vw G l 36) P x e.toNat = cntC (h (l + 36)) P x e.toNat := fun x => cntC_congr _ (fun j j0 j1 => by
      show G (l + 36) j = h (l + 36) j
      rw [g2 _ _ (by unfold flW; omega), Fg _ _ (by omega), vp _ _ (by omega)])
    have e0' : ok0 (vw G l) P e = ok0 (vw h l) P e := by
      unfold ok0
      simp only [vw_k, hp, G24, Gp 30 (by decide) (by decide)]
      try rfl
    have etb : isTb (vw G l) P e = isTb (vw h l) P e := by
      unfold isTb
      simp only [vw_k, hp, Gp 34 (by decide) (by decide)]
    have erw : isRw (vw G l) P e = (decide (0 ≤ p) && decide (h (l + 35) p ≠ 0)) := by
      unfold isRw
      simp only [vw_k, hp, Gp 35 (by decide) (by decide)]
    have e1' : ok1 (vw G l) P e = o1 := by
      rw [eo]; unfold ok1
      rw [e0', etb]
      simp only [vw_k, G24]
      try rfl
    rw [gp, s24] at w1
    have e2' : ok2 (vw G l) P e = o2 := by
      rw [w1]; unfold ok2
      rw [e1', erw, c36, hp, ← ec']
      simp only [vw_k, G24]
    have eF : okFl (vw G l) P e = (decide (p < 0) || (decide (h (l + 31) p ≠ 0) && decide (h (l + 32) p = 0) && decide (h (l + 36) p = 0))) := by
      unfold okFl
      simp only [vw_k, hp, Gp 31 (by decide) (by decide), Gp 32 (by decide) (by decide), Gp 36 (by decide) (by decide)]
    rw [gp] at w2
    rw [gp, gp, gp] at w6
    rw [s24] at w7 w8 w9
    refine ⟨G, g1, ?_, ?_, ?_, fun p0 => ?_⟩
    · exact (F3.trans (Fg.mono (fun b j z => by unfold flW; omega))).trans g2
    · unfold FLV
      rw [etb, erw, e1', e2', eF, c36, hp, ← ec']
      simp only [vw_k, G24]
      refine ⟨?_, w2, fun z => (w3 z).1, w5, w6, w7, w8, w9⟩
      rw [g3 _ (Or.inl rfl), es]; exact esb
    · rw [g3 _ (Or.inr rfl), Fg _ _ (by omega)]; exact v28
    · by_cases z : G (l + 36) e = 0
      · rw [if_neg (fun y => y z), w4 z p0]; omega
      · rw [if_pos z, (w3 z).2]
  by_cases hq : p < 0
  · rw [if_pos hq]
    refine fin g 0 o F2.refl v35 ?_ ?_
    · rw [ho]; unfold ok1 isTb; rw [hp]; simp; omega
    · unfold isTb; rw [hp]; simp [bI]; omega
  · rw [if_neg hq]
    simp only [k13.1, k13.2.1, k13.2.2]
    rw [gd_t ⟨by decide, by omega, by omega⟩, vp _ _ (show p ≠ e by omega)]
    have p0 : 0 ≤ p := by omega
    by_cases ht : h (l + 34) p = 0
    · rw [if_pos ht]
      refine fin g 0 o F2.refl v35 ?_ ?_
      · rw [ho]; unfold ok1 isTb; simp [vw_k, hp, ht]
      · unfold isTb; simp [vw_k, hp, ht, bI]
    · rw [if_neg ht]
      have it : isTb (vw h l) P e = true := by unfold isTb; simp [vw_k, hp, ht, p0]
      have put : ∀ o1 : Bool, o1 = ok1 (vw h l) P e → ∃ G, m_X24_flags_j112 p l e (bI o1) g = some (.inl (e + 1, G)) ∧ F2 (flW l e p) h G ∧ FLV (vw G l) P e ∧ G (l + 28) e = 0 ∧ (0 ≤ p → G (l + 28) p = c + (if G (l + 36) e ≠ 0 then 1 else 0)) := by
        intro o1 h1
        unfold m_X24_flags_j112
        simp only [k14'.1, k14'.2.1, k14'.2.2]
        rw [gd_t ⟨by decide, e0, by omega⟩, pt_e]
        exact fin _ (bI o1) o1 (F2.refl.put ⟨rfl, rfl⟩) (up_s _ _ _ _) h1 (by rw [it]; rfl)
      unfold m_X24_flags_j111
      by_cases h0 : bI o = 0
      · rw [if_pos h0]
        have of_ : o = false := by
          cases o
          · rfl
          · exact absurd h0 (by decide)
        exact put false (by unfold ok1; rw [← ho, of_]; rfl)
      · rw [if_neg h0, q_show24 L3 hl e0 e1, Option.bind_some, v24]
        have ot : o = true := bI_0.mp h0
        by_cases h6 : h (l + 24) (22 * e) = 6
        · rw [if_neg (fun z => z h6)]
          exact put true (by unfold ok1; rw [← ho, ot]; simp [vw_k, h6])
        · rw [if_pos h6]
          exact put false (by unfold ok1; rw [← ho, ot, it]; simp [vw_k, h6])
theorem t_flags {h S Y p : Hp} {l ly a n N E F M : Int} {s : Int → List Int} (hl : l ∈ in_aX24) (hly : ly ∈ in_aX22) (R : SA S p a n N s E F M) (T : TT S Y h l ly n E M) :
    Pz (m_X24_flags l h) (fun h' => F2 (fun b j => l + 28 ≤ b ∧ b ≤ l + 36 ∧ 0 ≤ j) h h' ∧ (∀ e, 0 ≤ e → e < E → FLV (vw h' l) (S 7) e) ∧ ∀ e, 0 ≤ e → e < E → h' (l + 28) e = cntC (h' (l + 36)) (S 7) e E.toNat) := by
  have h24 := aX24 hl
  have h22 := aX22 hly
  have E0 := R.2.2.1.2.1
  have E5 := R.2.2.1.2.2.1
  have par := fun e e0 e1 => (R.2.2.2.1 e e0 e1).2.2
  unfold m_X24_flags
  refine z_lt (z_bind (z_mono (z_lp (Q := fun h' => F2 (fun b j => l + 28 ≤ b ∧ b ≤ l + 36 ∧ 0 ≤ j) h h' ∧ (∀ e, 0 ≤ e → e < E → FLV (vw h' l) (S 7) e) ∧ ∀ e, 0 ≤ e → e < E → h' (l + 28) e = cntC (h' (l + 36)) (S 7) e E.toNat) (fun (s : Int × Hp) => 0 ≤ s.1 ∧ s.1 ≤ E ∧ F2 (fun b j => l + 28 ≤ b ∧ b ≤ l + 36 ∧ 0 ≤ j) h s.2 ∧ (∀ e, 0 ≤ e → e < s.1 → FLV (vw s.2 l) (S 7) e) ∧ ∀ e, 0 ≤ e → e < s.1 → s.2 (l + 28) e = cntC (s.2 (l + 36)) (S 7) e s.1.toNat) (fun s => (E - s.1).toNat) ⟨Int.le_refl _, E0, F2.refl, fun e z0 z1 => by dsimp only at z1; omega, fun e z0 z1 => by dsimp only at z1; omega⟩ ?_) (fun r hr => z_some hr)))
  rintro ⟨x, q⟩ ⟨x0, x1, Fq, Eq, Gq⟩
  dsimp only at x0 x1 Eq Gq
  replace Fq : F2 (fun b j => l + 28 ≤ b ∧ b ≤ l + 36 ∧ 0 ≤ j) h q := Fq
  have Tq : TT S Y q l ly n E M := T.kept hl hly (Fq.mono (fun b j z => by omega))
  have Lq := Tq.1
  show Pz (m_X24_flags_l2 l x q) _
  unfold m_X24_flags_l2
  simp only [g_X24_0 Lq hl, (ly_X23 Lq h24.2.2).1, Tq.2.1.1.2.2]
  refine z_gd trivial ?_
  by_cases hx : E ≤ x
  · have : x = E := by omega
    subst this
    exact z_it hx (z_some ⟨Fq, Eq, Gq⟩)
  · refine z_ie hx ?_
    have j11 := g_X23_11 Lq h24.2.2
    have qP : q (l + 1 + 7) x = S 7 x := Tq.2.1.2.2.2.1 7 (by decide) (by decide) x x0 (by omega)
    have px := par x x0 (by omega)
    simp only [j11.1, j11.2.1, j11.2.2, qP]
    refine z_gd ⟨by decide, x0, by omega⟩ (z_lt ?_)
    rw [q_show24 Lq hl x0 (by omega), Option.bind_some]
    have go : ∀ o : Bool, o = ok0 (vw q l) (S 7) x → Pz (m_X24_flags_j58 (S 7 x) x l (bI o) q) (sE (fun (s : Int × Hp) => (0 ≤ s.1 ∧ s.1 ≤ E ∧ F2 (fun b j => l + 28 ≤ b ∧ b ≤ l + 36 ∧ 0 ≤ j) h s.2 ∧ (∀ e, 0 ≤ e → e < s.1 → FLV (vw s.2 l) (S 7) e) ∧ ∀ e, 0 ≤ e → e < s.1 → s.2 (l + 28) e = cntC (s.2 (l + 36)) (S 7) e s.1.toNat) ∧ (E - s.1).toNat < (E - x).toNat) (fun h' => F2 (fun b j => l + 28 ≤ b ∧ b ≤ l + 36 ∧ 0 ≤ j) h h' ∧ (∀ e, 0 ≤ e → e < E → FLV (vw h' l) (S 7) e) ∧ ∀ e, 0 ≤ e → e < E → h' (l + 28) e = cntC (h' (l + 36)) (S 7) e E.toNat)) := by
      intro o ho
      obtain ⟨G, g1, g2, g3, g4, g5⟩ := q_fl58 (P := S 7) (c := cntC (q (l + 36)) (S 7) (S 7 x) x.toNat) Lq hl x0 (by omega) px.1 px.2.1 ho (fun p0 => Gq (S 7 x) p0 (by omega)) rfl
      rw [g1]
      have tx : (x + 1).toNat = x.toNat + 1 := by omega
      have ex : ((x.toNat : Nat) : Int) = x := by omega
      have cc : ∀ y, cntC (G (l + 36)) (S 7) y (x + 1).toNat = cntC (q (l + 36)) (S 7) y x.toNat + (if S 7 x = y ∧ G (l + 36) x ≠ 0 then 1 else 0) := fun y => by
        rw [tx]
        show cntC (G (l + 36)) (S 7) y x.toNat + (if S 7 (x.toNat : Int) = y ∧ G (l + 36) (x.toNat : Int) ≠ 0 then 1 else 0) = _
        rw [ex, cntC_congr (c := q (l + 36)) _ (fun j j0 j1 => g2 _ _ (by unfold flW; omega))]
      refine z_some ⟨⟨by dsimp only; omega, by dsimp only; omega, Fq.trans (g2.mono (fun b j z => by unfold flW at z; omega)), fun e e0 e1 => ?_, fun e e0 e1 => ?_⟩, by dsimp only; omega⟩
      · dsimp only at e1 ⊢
        by_cases he : e = x
        · rw [he]; exact g3
        · refine FLV.congr e0 (par e e0 (by omega)).2.1 (Eq e e0 (by omega)) (fun b j b0 b1 j0 j1 => ?_) ?_
          · show G (l + b) j = q (l + b) j
            exact g2 _ _ (by unfold flW; omega)
          · show G (l + 24) = q (l + 24)
            exact g2.row (fun j z => by unfold flW at z; omega)
      · dsimp only at e1 ⊢
        rw [cc]
        by_cases he : e = x
        · rw [he, g4, if_neg (by omega), cntC_0 _ (fun j j0 j1 => by have := par j j0 (by omega); omega)]; rfl
        · by_cases hp : e = S 7 x
          · rw [hp, g5 (by omega)]
            by_cases z : G (l + 36) x ≠ 0
            · rw [if_pos z, if_pos ⟨rfl, z⟩]
            · rw [if_neg z, if_neg (fun y => z y.2)]
          · rw [if_neg (fun z => hp z.1.symm), Int.add_zero, g2 _ _ (by unfold flW; omega)]
            exact Gq e e0 (by omega)
    unfold m_X24_flags_j57 m_X24_flags_j53
    by_cases h2 : q (l + 24) (22 * x) = 2
    · rw [if_pos h2]
      exact go false (by unfold ok0; simp [vw_k, h2])
    · rw [if_neg h2]
      by_cases hp : S 7 x < 0
      · rw [if_pos hp]
        exact go true (by unfold ok0; simp [vw_k, h2, hp])
      · rw [if_neg hp]
        simp only [g_X24_9 Lq hl]
        refine z_gd ⟨by decide, by omega, by omega⟩ ?_
        by_cases h3 : q (l + 30) (S 7 x) = 0
        · rw [if_pos h3]
          exact go false (by unfold ok0; simp [vw_k, hp, h3])
        · rw [if_neg h3, q_mute24 Lq hl (by omega) (by omega), Option.bind_some]
          by_cases h4 : muF (q (l + 24) (22 * S 7 x)) = true
          · rw [if_pos (bI_0.mpr h4)]
            exact go false (by unfold ok0; simp [vw_k, hp, h4])
          · have h4' : muF (q (l + 24) (22 * S 7 x)) = false := by simpa using h4
            rw [if_neg (fun z => h4 (bI_0.mp z))]
            exact go true (by unfold ok0; simp [vw_k, h2, h3, h4'])
