-- needs: 99zzzzzp
set_option maxRecDepth 100000
/-! TABLES: what cells ask for (component) -/
/-- the greatest of f 1 .. f k -/
def mxF (f : Int → Int) : Nat → Int
  | 0 => 0
  | k + 1 => max_ (mxF f k) (f ((k : Int) + 1))
theorem max_r {a b : Int} : a ≤ max_ a b ∧ b ≤ max_ a b ∧ (max_ a b = a ∨ max_ a b = b) := by unfold max_; split <;> omega
theorem mxF_r {f : Int → Int} {m : Int} (m0 : 0 ≤ m) : ∀ k : Nat, (∀ b : Int, 1 ≤ b → b ≤ k → f b ≤ m) → 0 ≤ mxF f k ∧ mxF f k ≤ m
  | 0, _ => ⟨Int.le_refl _, m0⟩
  | k + 1, h => by
    have ih := mxF_r m0 k (fun b b0 b1 => h b b0 (by omega))
    have := h ((k : Int) + 1) (by omega) (by omega)
    have r := max_r (a := mxF f k) (b := f ((k : Int) + 1))
    show 0 ≤ max_ (mxF f k) (f ((k : Int) + 1)) ∧ max_ (mxF f k) (f ((k : Int) + 1)) ≤ m
    omega
/-- least width and wish of a paragraph -/
noncomputable def pW1 (W : Int → Int) (K J : Int → Int → Int) (t : TXL) (L : List (Int × Int)) : Int := mxF (fun b => bkP W K J (tpB t) (tpZ t) L b + bkH W (tpZ t) L b) L.length
noncomputable def pW2 (W : Int → Int) (K J : Int → Int → Int) (t : TXL) (L : List (Int × Int)) : Int := smF (bkP W K J (tpB t) (tpZ t) L) L.length + smF (bkG W (tpZ t) L) L.length
theorem pW_r {W : Int → Int} {K J : Int → Int → Int} {t : TXL} {T : Hp} {np hy : Int} {sg : Int → List Int} {dt : Int → Int → Int} (Rf : foR W K J) (ht : ∀ x ∈ t, xG x) (n1 : (t.length : Int) ≤ 24000) (l6 : ((BKf T np sg dt t hy).length : Int) ≤ 600) : (0 ≤ pW1 W K J t (BKf T np sg dt t hy) ∧ pW1 W K J t (BKf T np sg dt t hy) ≤ 20000000000) ∧ (0 ≤ pW2 W K J t (BKf T np sg dt t hy) ∧ pW2 W K J t (BKf T np sg dt t hy) ≤ 20000000000) := by
  have tx := (txG_o ht).1
  have n0 : (0 : Int) ≤ t.length := Int.natCast_nonneg _
  obtain ⟨O, l1, l2, -⟩ := bkA_o (B := tpB t) (hy := hy) (PL := plP T np sg dt (tpB t) t.length) (n := t.length) (fun i z => plP_1 z) n0
  have O' : bkO (BKf T np sg dt t hy) t.length := O
  generalize BKf T np sg dt t hy = L at *
  have s8 := bkP_sum Rf tx O' n1 n0 L.length (Int.le_refl _)
  have nr := bkN_r O' (b := L.length) (by omega) (Int.le_refl _) n0
  have g := smF_r (f := bkG W (tpZ t) L) (m := 500000) L.length (fun c c0 c1 => (bkG_r Rf tx O' c0 c1).1)
  refine ⟨mxF_r (by decide) L.length (fun b b0 b1 => ?_), ?_⟩
  · have p := bkP_r Rf tx O' b0 b1 n1 n0
    have g := (bkG_r Rf tx O' b0 b1).2.2.2
    obtain ⟨o1, o2, o3, o4, o5, o6, o7⟩ := O' b b0 b1
    have nr := bkN_r O' (b := b - 1) (by omega) (by omega) n0
    omega
  · unfold pW2; omega
theorem q_parts {h : Hp} {A R β b m : Int} (hL : LAY h) (hR : R ∈ in_aX15) (eR : h A 0 = R) (e15 : h A 15 = β) (b0 : 0 ≤ β + b) (b1 : β + b < 26400) : m_X28_parts A b h = some (h (R + 8) (β + b)) ∧ m_X28_glues A b h = some (h (R + 9) (β + b)) := by
  obtain ⟨a1, a2, a3⟩ := g_X15_8 hL hR
  obtain ⟨c1, c2, c3⟩ := g_X15_9 hL hR
  have k := g_X15 hL hR
  unfold m_X28_parts m_X28_glues
  simp only [eR, e15, a1, a2, a3, c1, c2, c3, k]
  rw [e32 (by omega) (by omega), gd_t trivial, gd_t ⟨by decide, b0, b1⟩, gd_t trivial, gd_t ⟨by decide, b0, b1⟩]
  exact ⟨rfl, rfl⟩
theorem c_widest {h T : Hp} {f W : Int → Int} {K J : Int → Int → Int} {b A e np : Int} {t : TXL} {sg : Int → List Int} {dt : Int → Int → Int} (hL : LAY h) (hb : b ∈ in_aX14) (Rf : foR W K J) (ht : ∀ x ∈ t, xG x) (C : pjC h f W K J (BKf T np sg dt) b A t e) (h12 : h (b + 1) 12 ≤ 26400) : Pz (m_X28_widest A h) (fun v => v = pW1 W K J t (BKf T np sg dt t (hyO f e))) ∧ m_X28_whole A h = some (pW2 W K J t (BKf T np sg dt t (hyO f e))) := by
  obtain ⟨-, τ, β, pg, -, -, ⟨d1, d2, d3⟩, ms, β0, β1, l6⟩ := C
  have hR : b + 1 ∈ in_aX15 := pg.2.2.2.2.1
  have eR : h A 0 = b + 1 := pg.1.2.1
  have n1 : (t.length : Int) ≤ 24000 := by have := pg.2.1; omega
  have pr := pW_r (hy := hyO f e) (T := T) (np := np) (sg := sg) (dt := dt) Rf ht n1 l6
  have tx := (txG_o ht).1
  have n0 : (0 : Int) ≤ t.length := Int.natCast_nonneg _
  obtain ⟨O, l1, l2, -⟩ := bkA_o (B := tpB t) (hy := hyO f e) (PL := plP T np sg dt (tpB t) t.length) (n := t.length) (fun i z => plP_1 z) n0
  have O' : bkO (BKf T np sg dt t (hyO f e)) t.length := O
  have l1' : 1 ≤ ((BKf T np sg dt t (hyO f e)).length : Int) := l1
  generalize BKf T np sg dt t (hyO f e) = L at *
  have hm : β + (L.length : Int) < 26400 := by omega
  have part : ∀ x : Int, 0 ≤ x → x ≤ L.length → m_X28_parts A x h = some (smF (bkP W K J (tpB t) (tpZ t) L) x.toNat) ∧ m_X28_glues A x h = some (smF (bkG W (tpZ t) L) x.toNat) := fun x x0 x1 => by
    have q := q_parts (m := 0) hL hR eR d1 (b := x) (by omega) (by omega)
    have m := ms x x0 x1
    rw [q.1, q.2, m.1, m.2.1]
    exact ⟨rfl, rfl⟩
  have prt : ∀ x : Nat, (x : Int) ≤ L.length → 0 ≤ smF (bkP W K J (tpB t) (tpZ t) L) x ∧ smF (bkP W K J (tpB t) (tpZ t) L) x ≤ 13200000000 := fun x hx => by
    have s8 := bkP_sum Rf tx O' n1 n0 x hx
    have nr := bkN_r O' (b := x) (by omega) hx n0
    omega
  constructor
  · unfold m_X28_widest
    refine z_lt (z_lt (z_bind (z_mono (z_lp (Q := fun v => v = pW1 W K J t L) (fun (q : Int × Int) => ∃ k : Nat, q.2 = (k : Int) + 1 ∧ k ≤ L.length ∧ q.1 = mxF (fun b => bkP W K J (tpB t) (tpZ t) L b + bkH W (tpZ t) L b) k) (fun q => ((L.length : Int) + 1 - q.2).toNat) ⟨0, rfl, Nat.zero_le _, rfl⟩ ?_) (fun r hr => z_some hr))))
    rintro ⟨v, i⟩ ⟨k, ei, k1, ev⟩
    dsimp only at ei ev
    show Pz (m_X28_widest_l4 A v i h) _
    unfold m_X28_widest_l4
    rw [d2, ei]
    by_cases hk : (L.length : Int) < (k : Int) + 1
    · rw [if_pos hk]
      have : k = L.length := by omega
      rw [this] at ev
      exact z_some ev
    rw [if_neg hk, (part _ (by omega) (by omega)).1, Option.bind_some, e32 (x := (k : Int) + 1 - 1) (by omega) (by omega), (part _ (by omega) (by omega)).1, Option.bind_some]
    obtain ⟨a1, a2, a3⟩ := g_X15_7 hL hR
    have kk := g_X15 hL hR
    simp only [eR, a1, a2, a3, kk, d1]
    rw [e32 (x := β + ((k : Int) + 1)) (by omega) (by omega), (ms ((k : Int) + 1) (by omega) (by omega)).2.2.2.2 (by omega), show ((k : Int) + 1).toNat = k + 1 by omega, show ((k : Int) + 1 - 1).toNat = k by omega, smF_s, show smF (bkP W K J (tpB t) (tpZ t) L) k + bkP W K J (tpB t) (tpZ t) L ((k : Int) + 1) - smF (bkP W K J (tpB t) (tpZ t) L) k = bkP W K J (tpB t) (tpZ t) L ((k : Int) + 1) by omega]
    have p := bkP_r Rf tx O' (b := (k : Int) + 1) (by omega) (by omega) n1 n0
    have g := (bkG_r Rf tx O' (b := (k : Int) + 1) (by omega) (by omega)).2.2.2
    obtain ⟨o1, o2, o3, o4, o5, o6, o7⟩ := O' ((k : Int) + 1) (by omega) (by omega)
    have nr := bkN_r O' (b := (k : Int) + 1 - 1) (by omega) (by omega) n0
    rw [e64 (x := bkP W K J (tpB t) (tpZ t) L ((k : Int) + 1)) (by omega) (by omega), e64 (by omega) (by omega)]
    refine z_gd trivial (z_gd ⟨by decide, by omega, by omega⟩ (z_lt ?_))
    have fin : ∀ v', v' = mxF (fun b => bkP W K J (tpB t) (tpZ t) L b + bkH W (tpZ t) L b) (k + 1) → Pz (m_X28_widest_j53 ((k : Int) + 1) v') (sE (fun (q : Int × Int) => (∃ k : Nat, q.2 = (k : Int) + 1 ∧ k ≤ L.length ∧ q.1 = mxF (fun b => bkP W K J (tpB t) (tpZ t) L b + bkH W (tpZ t) L b) k) ∧ ((L.length : Int) + 1 - q.2).toNat < ((L.length : Int) + 1 - ((k : Int) + 1)).toNat) (fun v => v = pW1 W K J t L)) := fun v' hv' => by
      unfold m_X28_widest_j53
      rw [e32 (x := (k : Int) + 1 + 1) (by omega) (by omega)]
      refine z_lt (z_some ⟨⟨k + 1, by show (k : Int) + 1 + 1 = ((k + 1 : Nat) : Int) + 1; omega, by omega, hv'⟩, ?_⟩)
      show ((L.length : Int) + 1 - ((k : Int) + 1 + 1)).toNat < ((L.length : Int) + 1 - ((k : Int) + 1)).toNat
      omega
    have mx : mxF (fun b => bkP W K J (tpB t) (tpZ t) L b + bkH W (tpZ t) L b) (k + 1) = max_ v (bkP W K J (tpB t) (tpZ t) L ((k : Int) + 1) + bkH W (tpZ t) L ((k : Int) + 1)) := by rw [ev]; rfl
    unfold max_ at mx
    by_cases hv : v < bkP W K J (tpB t) (tpZ t) L ((k : Int) + 1) + bkH W (tpZ t) L ((k : Int) + 1)
    · rw [if_neg (fun z => by rw [lc_le] at z; omega)]
      exact fin _ (by rw [mx, if_pos hv])
    · rw [if_pos (lc_le.mpr (by omega))]
      exact fin _ (by rw [mx, if_neg hv])
  · unfold m_X28_whole
    rw [d2, (part _ (by omega) (Int.le_refl _)).1, Option.bind_some, (part _ (by omega) (Int.le_refl _)).2, Option.bind_some, show ((L.length : Int)).toNat = L.length by omega]
    have e : smF (bkP W K J (tpB t) (tpZ t) L) L.length + smF (bkG W (tpZ t) L) L.length = pW2 W K J t L := rfl
    rw [e, e64 (by omega) (by omega)]
/-- columns as they were asked for: column, least, wish -/
def shN (C : List (Int × Int × Int)) : Int := C.foldl (fun n x => max_ n (x.1 + 1)) 0
def shL (C : List (Int × Int × Int)) (c : Int) : Int := C.foldl (fun m x => if x.1 = c then max_ m x.2.1 else m) 1000
def shQ (C : List (Int × Int × Int)) (c : Int) : Int := C.foldl (fun m x => if x.1 = c then max_ m x.2.2 else m) 1000
theorem shN_s {C : List (Int × Int × Int)} {x : Int × Int × Int} : shN (C ++ [x]) = max_ (shN C) (x.1 + 1) := by unfold shN; rw [List.foldl_append]; rfl
theorem shL_s {C : List (Int × Int × Int)} {x : Int × Int × Int} {c : Int} : shL (C ++ [x]) c = if x.1 = c then max_ (shL C c) x.2.1 else shL C c := by unfold shL; rw [List.foldl_append]; rfl
theorem shQ_s {C : List (Int × Int × Int)} {x : Int × Int × Int} {c : Int} : shQ (C ++ [x]) c = if x.1 = c then max_ (shQ C c) x.2.2 else shQ C c := by unfold shQ; rw [List.foldl_append]; rfl
/-- the component's shares -/
def SHc (h : Hp) (C : List (Int × Int × Int)) : Prop := h 275 3 = shN C ∧ 0 ≤ shN C ∧ shN C ≤ 8 ∧ (∀ c, 0 ≤ c → c < shN C → h 276 c = shL C c ∧ h 277 c = shQ C c) ∧ (∀ c, shN C ≤ c → shL C c = 1000 ∧ shQ C c = 1000) ∧ ∀ c, (1000 ≤ shL C c ∧ shL C c ≤ 20000000000) ∧ (1000 ≤ shQ C c ∧ shQ C c ≤ 20000000000)
theorem SHc.kept {h h' : Hp} {C : List (Int × Int × Int)} (H : SHc h C) (e : ∀ q, 275 ≤ q → q ≤ 277 → h' q = h q) : SHc h' C := by
  unfold SHc at *
  rw [e 275 (by decide) (by decide), e 276 (by decide) (by decide), e 277 (by decide) (by decide)]
  exact H
def shV : Int → Int → Prop := fun q j => (q = 275 ∧ j = 3) ∨ ((q = 276 ∨ q = 277) ∧ 0 ≤ j)
theorem rgV : ([(276, 277)] : List (Int × Int)).all rgA = true ∧ ([(275, [3])] : List (Int × List Int)).all rgO = true := ⟨by decide +kernel, by decide +kernel⟩
theorem shV_l {h h' : Hp} (hL : LAY h) (f : F2 shV h h') : LAY h' :=
  lay_W hL f _ _ rgV.1 rgV.2 (fun q j z => by
    unfold shV at z
    rcases z with z | z
    · exact ⟨by omega, Or.inr ⟨_, List.mem_cons_self, z.1, by rw [z.2]; exact List.mem_cons_self⟩⟩
    · exact ⟨z.2, Or.inl ⟨_, List.mem_cons_self, by dsimp only; omega, by dsimp only; omega⟩⟩)
theorem c_cell13 {h : Hp} {C : List (Int × Int × Int)} {c l w : Int} (hL : LAY h) (H : SHc h C) (c0 : 0 ≤ c) (c1 : c < 8) (l0 : 0 ≤ l) (l1 : l ≤ 20000000000) (w0 : 0 ≤ w) (w1 : w ≤ 20000000000) : Pz (m_X13_cell 275 c l w h) (fun g => F2 shV h g ∧ SHc g (C ++ [(c, l, w)])) := by
  obtain ⟨s1, s2, s3, s4, s5, s6⟩ := H
  have mr := max_r (a := shN C) (b := c + 1)
  unfold m_X13_cell
  refine z_bind (z_mono (z_lp (Q := fun g => F2 shV h g ∧ g 275 3 = max_ (shN C) (c + 1) ∧ ∀ x, 0 ≤ x → x < max_ (shN C) (c + 1) → g 276 x = shL C x ∧ g 277 x = shQ C x) (fun g => F2 shV h g ∧ shN C ≤ g 275 3 ∧ g 275 3 ≤ max_ (shN C) (c + 1) ∧ ∀ x, 0 ≤ x → x < g 275 3 → g 276 x = shL C x ∧ g 277 x = shQ C x) (fun g => (9 - g 275 3).toNat) ⟨F2.refl, by omega, by omega, fun x x0 x1 => s4 x x0 (by omega)⟩ ?_) (fun g hg => ?_))
  · rintro g ⟨F, n0, n1, G⟩
    show Pz (m_X13_cell_l0 275 c g) _
    unfold m_X13_cell_l0
    by_cases hc : c < g 275 3
    · rw [if_pos hc]
      have : g 275 3 = max_ (shN C) (c + 1) := by unfold max_ at *; split at n1 <;> split <;> omega
      exact z_some ⟨F, this, fun x x0 x1 => G x x0 (by omega)⟩
    rw [if_neg hc]
    have L1 := shV_l hL F
    obtain ⟨-, ⟨m1, m2, m3⟩, ⟨m4, m5, m6⟩, -⟩ := ly_X13 L1
    rw [m1, m2, m3]
    refine z_gd ⟨by decide, by omega, by omega⟩ (z_pt ?_)
    simp (disch := omega) only [up_a, m4, m5, m6]
    refine z_gd ⟨by decide, by omega, by omega⟩ (z_pt (z_pt (z_some ?_)))
    simp (disch := omega) only [up_a]
    rw [e32 (x := g 275 3 + 1) (by omega) (by omega)]
    have v3 : up (up (up g 276 (g 275 3) 1000) 277 (g 275 3) 1000) 275 3 (g 275 3 + 1) 275 3 = g 275 3 + 1 := up_s _ _ _ _
    refine ⟨⟨((F.put (Or.inr ⟨Or.inl rfl, by omega⟩)).put (Or.inr ⟨Or.inr rfl, by omega⟩)).put (Or.inl ⟨rfl, rfl⟩), by omega, by rw [v3]; unfold max_; split <;> omega, fun x x0 x1 => ?_⟩, by rw [v3]; omega⟩
    rw [v3] at x1
    simp (disch := omega) only [up_a]
    by_cases hx : x = g 275 3
    · rw [hx, up_s, up_s, (s5 _ n0).1, (s5 _ n0).2]; exact ⟨rfl, rfl⟩
    · rw [up_j hx, up_j hx]
      rw [up_a (by decide)]
      exact G x x0 (by omega)
  · obtain ⟨F, n, G⟩ := hg
    have L1 := shV_l hL F
    obtain ⟨-, ⟨m1, m2, m3⟩, ⟨m4, m5, m6⟩, -⟩ := ly_X13 L1
    rw [m1, m2, m3]
    refine z_gd ⟨by decide, c0, c1⟩ ?_
    have gc := G c c0 (by omega)
    -- the wish
    have go : ∀ g', F2 shV h g' → g' 275 3 = max_ (shN C) (c + 1) → (∀ x, 0 ≤ x → x < max_ (shN C) (c + 1) → g' 276 x = (if c = x then max_ (shL C x) l else shL C x) ∧ g' 277 x = shQ C x) → Pz (m_X13_cell_j63 275 c w g') (fun g => F2 shV h g ∧ SHc g (C ++ [(c, l, w)])) := fun g' F' n' G' => by
      have L' := shV_l hL F'
      obtain ⟨-, -, ⟨k4, k5, k6⟩, -⟩ := ly_X13 L'
      have fin : ∀ g'', F2 shV h g'' → g'' 275 3 = max_ (shN C) (c + 1) → (∀ x, 0 ≤ x → x < max_ (shN C) (c + 1) → g'' 276 x = (if c = x then max_ (shL C x) l else shL C x) ∧ g'' 277 x = (if c = x then max_ (shQ C x) w else shQ C x)) → F2 shV h g'' ∧ SHc g'' (C ++ [(c, l, w)]) := fun g'' F'' n'' G'' => by
        refine ⟨F'', by rw [shN_s]; exact n'', by rw [shN_s]; dsimp only; omega, by rw [shN_s]; dsimp only; omega, fun x x0 x1 => ?_, fun x hx => ?_, fun x => ?_⟩
        · rw [shN_s] at x1
          rw [shL_s, shQ_s]; exact G'' x x0 x1
        · rw [shN_s] at hx
          dsimp only at hx
          rw [shL_s, shQ_s, if_neg (by dsimp only; omega), if_neg (by dsimp only; omega)]
          exact s5 x (by omega)
        · have h6 := s6 x
          have r1 := max_r (a := shL C x) (b := l)
          have r2 := max_r (a := shQ C x) (b := w)
          rw [shL_s, shQ_s]
          dsimp only
          split <;> omega
      unfold m_X13_cell_j63
      rw [k4, k5, k6]
      refine z_gd ⟨by decide, c0, c1⟩ ?_
      have gc' := G' c c0 (by omega)
      rw [gc'.2]
      by_cases hw : w ≤ shQ C c
      · rw [if_pos (lc_le.mpr hw)]
        refine z_some (fin g' F' n' (fun x x0 x1 => ⟨(G' x x0 x1).1, ?_⟩))
        rw [(G' x x0 x1).2]
        split
        · rename_i e; subst e; unfold max_; rw [if_neg (by omega)]
        · rfl
      · rw [if_neg (fun z => hw (lc_le.mp z))]
        refine z_pt (z_some (fin _ (F'.put (Or.inr ⟨Or.inr rfl, c0⟩)) (by rw [up_a (by decide)]; exact n') (fun x x0 x1 => ⟨by rw [up_a (by decide)]; exact (G' x x0 x1).1, ?_⟩)))
        by_cases e : c = x
        · subst e; rw [up_s, if_pos rfl]; unfold max_; rw [if_pos (by omega)]
        · rw [up_j (by omega), if_neg e]; exact (G' x x0 x1).2
    rw [gc.1]
    by_cases hl : l ≤ shL C c
    · rw [if_pos (lc_le.mpr hl)]
      refine go g F n (fun x x0 x1 => ⟨?_, (G x x0 x1).2⟩)
      rw [(G x x0 x1).1]
      split
      · rename_i e; subst e; unfold max_; rw [if_neg (by omega)]
      · rfl
    · rw [if_neg (fun z => hl (lc_le.mp z))]
      refine z_pt (go _ (F.put (Or.inr ⟨Or.inl rfl, c0⟩)) (by rw [up_a (by decide)]; exact n) (fun x x0 x1 => ⟨?_, by rw [up_a (by decide)]; exact (G x x0 x1).2⟩))
      by_cases e : c = x
      · subst e; rw [up_s, if_pos rfl]; unfold max_; rw [if_pos (by omega)]
      · rw [up_j (by omega), if_neg e]; exact (G x x0 x1).1
