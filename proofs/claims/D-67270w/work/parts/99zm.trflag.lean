set_option maxRecDepth 100000
/-! TREES: what is shown, on the reference's side -/
/-- cells of a row before k -/
def cntC (c P : Int → Int) (x : Int) : Nat → Int
  | 0 => 0
  | k + 1 => cntC c P x k + (if P k = x ∧ c k ≠ 0 then 1 else 0)
theorem cntC_congr {c c' P : Int → Int} {x : Int} : ∀ k : Nat, (∀ j : Int, 0 ≤ j → j < k → c' j = c j) → cntC c' P x k = cntC c P x k := by
  intro k
  induction k with
  | zero => intro _; rfl
  | succ k ih =>
    intro h
    show cntC c' P x k + _ = cntC c P x k + _
    rw [ih (fun j a b => h j a (by omega)), h k (by omega) (by omega)]
theorem cntC_r {c P : Int → Int} {x : Int} : ∀ k : Nat, 0 ≤ cntC c P x k ∧ cntC c P x k ≤ k := by
  intro k
  induction k with
  | zero => exact ⟨Int.le_refl _, Int.le_refl _⟩
  | succ k ih =>
    show 0 ≤ cntC c P x k + _ ∧ cntC c P x k + _ ≤ ((k + 1 : Nat) : Int)
    split <;> omega
theorem cntC_0 {c P : Int → Int} {x : Int} : ∀ k : Nat, (∀ j : Int, 0 ≤ j → j < k → P j ≠ x) → cntC c P x k = 0 := by
  intro k
  induction k with
  | zero => intro _; rfl
  | succ k ih =>
    intro h
    show cntC c P x k + (if P k = x ∧ c k ≠ 0 then 1 else 0) = 0
    rw [ih (fun j a b => h j a (by omega)), if_neg (fun z => h k (by omega) (by omega) z.1)]; rfl
theorem q_show24 {h : Hp} {l e : Int} (hL : LAY h) (hl : l ∈ in_aX24) (e0 : 0 ≤ e) (e1 : e < 500) : m_X24_show l e h = some (h (l + 24) (22 * e)) := by
  unfold m_X24_show
  simp only [g_X24_3 hL hl]
  rw [e32 (x := 22 * e) (by omega) (by omega), e32 (x := 22 * e + 0) (by omega) (by omega), gd_t ⟨by decide, by omega, by omega⟩, Int.add_zero]
/-- nothing directly in it is text -/
def muF (v : Int) : Bool := decide (8 ≤ v ∧ v ≤ 10 ∨ v = 4)
theorem q_mute24 {h : Hp} {l e : Int} (hL : LAY h) (hl : l ∈ in_aX24) (e0 : 0 ≤ e) (e1 : e < 500) : m_X24_isMute l e h = some (bI (muF (h (l + 24) (22 * e)))) := by
  unfold m_X24_isMute m_X24_isMute_j20 muF
  rw [q_show24 hL hl e0 e1, Option.bind_some, Option.bind_some, Option.bind_some]
  generalize h (l + 24) (22 * e) = v
  repeat' split
  all_goals first
    | (have : (8 ≤ v ∧ v ≤ 10 ∨ v = 4) := by omega
       rw [decide_eq_true this]; rfl)
    | (have : ¬ (8 ≤ v ∧ v ≤ 10 ∨ v = 4) := by omega
       rw [decide_eq_false this]; rfl)
/-- rows of flags of an element -/
def flE (l e : Int) : Int → Int → Prop := fun b j => l + 30 ≤ b ∧ b ≤ l + 34 ∧ j = e
def bkF (v : Int) : Bool := decide (v = 1 ∨ v = 5 ∨ v = 8 ∨ v = 9)
theorem fl_l {h h' : Hp} {l : Int} (hL : LAY h) (hl : l ∈ in_aX24) (f : F2 (fun b j => (l + 24 ≤ b ∧ b ≤ l + 46) ∧ 0 ≤ j) h h') : LAY h' := trW_l hL hl (f.mono (fun b j z => by unfold trW crW; omega))
/-- inFlow is known: note, table, block -/
theorem q_fl249 {h : Hp} {l e s : Int} (hL : LAY h) (hl : l ∈ in_aX24) (e0 : 0 ≤ e) (e1 : e < 500) :
    ∃ G, m_X24_flags_j249 l e (l + 31) s h = some (.inl (e + 1, G)) ∧ F2 (fun b j => l + 31 ≤ b ∧ b ≤ l + 34 ∧ j = e) h G ∧ G (l + 31) e = s ∧ G (l + 32) e = bI (decide (s ≠ 0) && decide (h (l + 24) (22 * e) = 3)) ∧ G (l + 34) e = bI (decide (s ≠ 0) && decide (h (l + 24) (22 * e) = 5)) ∧ G (l + 33) e = bI (decide (s ≠ 0) && bkF (h (l + 24) (22 * e))) := by
  have h24 := aX24 hl
  have k10 := g_X24_10 hL hl
  generalize hf : h (l + 24) (22 * e) = f0
  have sh : ∀ q, F2 (fun b j => l + 31 ≤ b ∧ b ≤ l + 34 ∧ j = e) h q → LAY q ∧ m_X24_show l e q = some f0 ∧ q (l + 31) (-2) % 16 = 3 ∧ q (l + 31) (-1) = 500 := fun q Fq => by
    have Lq := fl_l hL hl (Fq.mono (fun b j z => by omega))
    have k := g_X24_10 Lq hl
    refine ⟨Lq, ?_, by rw [k.2.1]; decide, k.2.2⟩
    rw [q_show24 Lq hl e0 e1, Fq _ _ (by omega), hf]
  -- block
  have j365 : ∀ q v, LAY q → m_X24_flags_j365 e (l + 33) v q = some (.inl (e + 1, up q (l + 33) e v)) := fun q v Lq => by
    have k := g_X24_12 Lq hl
    unfold m_X24_flags_j365
    rw [gd_t ⟨by rw [k.2.1]; decide, e0, by rw [k.2.2]; omega⟩, pt_e, lt_e, e32 (x := e + 1) (by omega) (by omega)]
  have j307 : ∀ q v, F2 (fun b j => l + 31 ≤ b ∧ b ≤ l + 34 ∧ j = e) h q → m_X24_flags_j307 l e (l + 34) v q = some (.inl (e + 1, up (up q (l + 34) e v) (l + 33) e (bI (decide (q (l + 31) e ≠ 0) && bkF f0)))) := fun q v Fq => by
    have Lq := (sh q Fq).1
    have k13 := g_X24_13 Lq hl
    obtain ⟨L2, s2, a2, b2⟩ := sh (up q (l + 34) e v) (Fq.put ⟨by omega, by omega, rfl⟩)
    have k := g_X24_10 L2 hl
    have k12 := g_X24_12 L2 hl
    unfold m_X24_flags_j307
    rw [gd_t ⟨by rw [k13.2.1]; decide, e0, by rw [k13.2.2]; omega⟩, pt_e]
    simp only [k.1, k.2.1, k.2.2, k12.1]
    rw [gd_t ⟨by decide, e0, by omega⟩, up_a (show l + 31 ≠ l + 34 by omega)]
    unfold m_X24_flags_j364 m_X24_flags_j360
    simp only [s2, Option.bind_some, j365 _ _ L2]
    unfold bkF
    by_cases h0 : q (l + 31) e = 0
    · rw [if_pos h0, h0]; rfl
    · rw [if_neg h0, decide_eq_true h0, Bool.true_and]
      repeat' split
      all_goals first
        | (have : (f0 = 1 ∨ f0 = 5 ∨ f0 = 8 ∨ f0 = 9) := by omega
           rw [decide_eq_true this]; rfl)
        | (have : ¬ (f0 = 1 ∨ f0 = 5 ∨ f0 = 8 ∨ f0 = 9) := by omega
           rw [decide_eq_false this]; rfl)
  have j278 : ∀ q v, F2 (fun b j => l + 31 ≤ b ∧ b ≤ l + 34 ∧ j = e) h q → m_X24_flags_j278 l e (l + 32) v q = some (.inl (e + 1, up (up (up q (l + 32) e v) (l + 34) e (bI (decide (q (l + 31) e ≠ 0) && decide (f0 = 5)))) (l + 33) e (bI (decide (q (l + 31) e ≠ 0) && bkF f0)))) := fun q v Fq => by
    have Lq := (sh q Fq).1
    have k11 := g_X24_11 Lq hl
    have F2' : F2 (fun b j => l + 31 ≤ b ∧ b ≤ l + 34 ∧ j = e) h (up q (l + 32) e v) := Fq.put ⟨by omega, by omega, rfl⟩
    obtain ⟨L2, s2, a2, b2⟩ := sh (up q (l + 32) e v) F2'
    have k := g_X24_10 L2 hl
    have k13 := g_X24_13 L2 hl
    unfold m_X24_flags_j278
    rw [gd_t ⟨by rw [k11.2.1]; decide, e0, by rw [k11.2.2]; omega⟩, pt_e]
    simp only [k.1, k.2.1, k.2.2, k13.1]
    rw [gd_t ⟨by decide, e0, by omega⟩, up_a (show l + 31 ≠ l + 32 by omega)]
    unfold m_X24_flags_j306
    simp only [s2, Option.bind_some, j307 _ _ F2', up_a (show l + 31 ≠ l + 32 by omega)]
    by_cases h0 : q (l + 31) e = 0
    · rw [if_pos h0, h0]; rfl
    · rw [if_neg h0, decide_eq_true h0, Bool.true_and, Bool.true_and]
      by_cases h5 : f0 = 5
      · rw [if_neg (fun z => z h5), decide_eq_true h5]; rfl
      · rw [if_pos h5, decide_eq_false h5]; rfl
  have F1 : F2 (fun b j => l + 31 ≤ b ∧ b ≤ l + 34 ∧ j = e) h (up h (l + 31) e s) := F2.refl.put ⟨by omega, by omega, rfl⟩
  obtain ⟨L1, s1, a1, b1⟩ := sh _ F1
  have k := g_X24_10 L1 hl
  have k11 := g_X24_11 L1 hl
  have key : m_X24_flags_j249 l e (l + 31) s h = some (.inl (e + 1, up (up (up (up h (l + 31) e s) (l + 32) e (bI (decide (s ≠ 0) && decide (f0 = 3)))) (l + 34) e (bI (decide (s ≠ 0) && decide (f0 = 5)))) (l + 33) e (bI (decide (s ≠ 0) && bkF f0)))) := by
    unfold m_X24_flags_j249
    rw [gd_t ⟨by rw [k10.2.1]; decide, e0, by rw [k10.2.2]; omega⟩, pt_e]
    simp only [k.1, k.2.1, k.2.2, k11.1, up_s]
    rw [gd_t ⟨by decide, e0, by omega⟩]
    unfold m_X24_flags_j277
    simp only [s1, Option.bind_some, j278 _ _ F1, up_s]
    by_cases h0 : s = 0
    · rw [if_pos h0, h0]; rfl
    · rw [if_neg h0, decide_eq_true h0, Bool.true_and, Bool.true_and, Bool.true_and]
      by_cases h3 : f0 = 3
      · rw [if_neg (fun z => z h3), decide_eq_true h3]; rfl
      · rw [if_pos h3, decide_eq_false h3]; rfl
  refine ⟨_, key, ?_, ?_, ?_, ?_, ?_⟩
  · repeat' first
      | exact F2.refl
      | refine F2.put ?_ ⟨by omega, by omega, rfl⟩
  · (try simp (disch := omega) only [up_a, up_e, up_j, e32, e8])
  · (try simp (disch := omega) only [up_a, up_e, up_j, e32, e8])
  · (try simp (disch := omega) only [up_a, up_e, up_j, e32, e8])
  · (try simp (disch := omega) only [up_a, up_e, up_j, e32, e8])
/-- shown is known -/
theorem q_fl197 {h : Hp} {l e p s : Int} (hL : LAY h) (hl : l ∈ in_aX24) (e0 : 0 ≤ e) (e1 : e < 500) (p1 : p < e) :
    ∃ G, m_X24_flags_j197 l e p s h = some (.inl (e + 1, G)) ∧ F2 (flE l e) h G ∧ G (l + 30) e = s ∧ G (l + 31) e = bI (decide (s ≠ 0) && (decide (p < 0) || (decide (h (l + 31) p ≠ 0) && decide (h (l + 32) p = 0) && decide (h (l + 36) p = 0)))) ∧ G (l + 32) e = bI (decide (G (l + 31) e ≠ 0) && decide (h (l + 24) (22 * e) = 3)) ∧ G (l + 34) e = bI (decide (G (l + 31) e ≠ 0) && decide (h (l + 24) (22 * e) = 5)) ∧ G (l + 33) e = bI (decide (G (l + 31) e ≠ 0) && bkF (h (l + 24) (22 * e))) := by
  have h24 := aX24 hl
  have k9 := g_X24_9 hL hl
  have L1 : LAY (up h (l + 30) e s) := fl_l hL hl (F2.refl.put ⟨by omega, e0⟩)
  have k10 := g_X24_10 L1 hl
  have k11 := g_X24_11 L1 hl
  have k15 := g_X24_15 L1 hl
  have fin : ∀ v, (v = bI (decide (s ≠ 0) && (decide (p < 0) || (decide (h (l + 31) p ≠ 0) && decide (h (l + 32) p = 0) && decide (h (l + 36) p = 0))))) → ∃ G, m_X24_flags_j249 l e (l + 31) v (up h (l + 30) e s) = some (.inl (e + 1, G)) ∧ F2 (flE l e) h G ∧ G (l + 30) e = s ∧ G (l + 31) e = bI (decide (s ≠ 0) && (decide (p < 0) || (decide (h (l + 31) p ≠ 0) && decide (h (l + 32) p = 0) && decide (h (l + 36) p = 0)))) ∧ G (l + 32) e = bI (decide (G (l + 31) e ≠ 0) && decide (h (l + 24) (22 * e) = 3)) ∧ G (l + 34) e = bI (decide (G (l + 31) e ≠ 0) && decide (h (l + 24) (22 * e) = 5)) ∧ G (l + 33) e = bI (decide (G (l + 31) e ≠ 0) && bkF (h (l + 24) (22 * e))) := by
    intro v hv
    obtain ⟨G, g1, g2, g3, g4, g5, g6⟩ := q_fl249 (s := v) L1 hl e0 e1
    refine ⟨G, g1, (F2.refl.put (by unfold flE; omega)).trans (g2.mono (fun b j z => by unfold flE; omega)), ?_, by rw [g3]; exact hv, ?_, ?_, ?_⟩
    · rw [g2 _ _ (by omega), up_s]
    · rw [g3, g4, up_a (by omega)]
    · rw [g3, g5, up_a (by omega)]
    · rw [g3, g6, up_a (by omega)]
  unfold m_X24_flags_j197
  simp only [k9.1, k9.2.1, k9.2.2]
  rw [gd_t ⟨by decide, e0, by omega⟩, pt_e]
  unfold m_X24_flags_j248 m_X24_flags_j244
  simp only [k10.1, k10.2.1, k10.2.2, k11.1, k11.2.1, k11.2.2, k15.1, k15.2.1, k15.2.2, up_a (show l + 31 ≠ l + 30 by omega), up_a (show l + 32 ≠ l + 30 by omega), up_a (show l + 36 ≠ l + 30 by omega)]
  by_cases h0 : s = 0
  · rw [if_pos h0]
    exact fin 0 (by rw [h0]; rfl)
  · rw [if_neg h0]
    by_cases hp : p < 0
    · rw [if_pos hp]
      exact fin 1 (by simp [h0, hp, bI])
    · rw [if_neg hp, gd_t ⟨by decide, by omega, by omega⟩]
      by_cases a1 : h (l + 31) p = 0
      · rw [if_pos a1]
        exact fin 0 (by simp [hp, a1, bI])
      · rw [if_neg a1, gd_t ⟨by decide, by omega, by omega⟩]
        by_cases a2 : h (l + 32) p = 0
        · rw [if_neg (fun z => z a2), gd_t ⟨by decide, by omega, by omega⟩]
          by_cases a3 : h (l + 36) p = 0
          · rw [if_neg (fun z => z a3)]
            exact fin 1 (by simp [h0, a1, a2, a3, bI])
          · rw [if_pos a3]
            exact fin 0 (by simp [hp, a3, bI])
        · rw [if_pos a2]
          exact fin 0 (by simp [hp, a2, bI])
/-- what rows are changed by an element e in p -/
def flW (l e p : Int) : Int → Int → Prop := fun b j => (l + 28 ≤ b ∧ b ≤ l + 36 ∧ j = e) ∨ (b = l + 28 ∧ j = p ∧ 0 ≤ p)
/-- the flags at the end of a turn: c how many cells p has so far, o whether shown so far -/
def flG (l e p c : Int) (o : Bool) (h G : Hp) : Prop :=
  ∃ o2 : Bool, o2 = (o && (!(decide (0 ≤ p) && decide (h (l + 35) p ≠ 0)) || (decide (h (l + 24) (22 * e) = 7) && decide (c < 8)))) ∧
  G (l + 36) e = bI (decide (0 ≤ p) && decide (h (l + 35) p ≠ 0) && o2) ∧ (G (l + 36) e ≠ 0 → G (l + 29) e = c ∧ G (l + 28) p = c + 1) ∧ (G (l + 36) e = 0 → 0 ≤ p → G (l + 28) p = c) ∧
  G (l + 30) e = bI o2 ∧ G (l + 31) e = bI (o2 && (decide (p < 0) || (decide (h (l + 31) p ≠ 0) && decide (h (l + 32) p = 0) && decide (h (l + 36) p = 0)))) ∧ G (l + 32) e = bI (decide (G (l + 31) e ≠ 0) && decide (h (l + 24) (22 * e) = 3)) ∧ G (l + 34) e = bI (decide (G (l + 31) e ≠ 0) && decide (h (l + 24) (22 * e) = 5)) ∧ G (l + 33) e = bI (decide (G (l + 31) e ≠ 0) && bkF (h (l + 24) (22 * e)))
theorem bI_0 {b : Bool} : bI b ≠ 0 ↔ b = true := by cases b <;> simp [bI]
theorem bI_dd {b : Bool} : decide (bI b ≠ 0) = b := by cases b <;> simp [bI]
/-- whether it is a row is known -/
theorem q_fl120 {h : Hp} {l e p c : Int} {o : Bool} (hL : LAY h) (hl : l ∈ in_aX24) (e0 : 0 ≤ e) (e1 : e < 500) (pm : -1 ≤ p) (p1 : p < e) (z36 : h (l + 36) e = 0) (ec : 0 ≤ p → h (l + 28) p = c) (c0 : 0 ≤ c) (c1 : c ≤ 500) :
    ∃ G, m_X24_flags_j120 p l e (bI o) h = some (.inl (e + 1, G)) ∧ F2 (flW l e p) h G ∧ (∀ b, (b = l + 35 ∨ b = l + 28) → G b e = h b e) ∧ flG l e p c o h G := by
  have h24 := aX24 hl
  have k14 := g_X24_14 hL hl
  -- no row
  have plain : (¬ (decide (0 ≤ p) && decide (h (l + 35) p ≠ 0)) = true) → ∃ G, m_X24_flags_j197 l e p (bI o) h = some (.inl (e + 1, G)) ∧ F2 (flW l e p) h G ∧ (∀ b, (b = l + 35 ∨ b = l + 28) → G b e = h b e) ∧ flG l e p c o h G := by
    intro nr
    have nr' : (decide (0 ≤ p) && decide (h (l + 35) p ≠ 0)) = false := by simpa using nr
    obtain ⟨G, g1, g2, g3, g4, g5, g6, g7⟩ := q_fl197 (p := p) (s := bI o) hL hl e0 e1 p1
    have G36 : G (l + 36) e = 0 := by rw [g2 _ _ (by unfold flE; omega)]; exact z36
    refine ⟨G, g1, g2.mono (fun b j z => by unfold flE at z; unfold flW; omega), fun b hb => g2 _ _ (by unfold flE; omega), o, by rw [nr']; simp, by rw [G36, nr']; rfl, fun z => absurd G36 z, fun _ p0 => by rw [g2 _ _ (by unfold flE; omega)]; exact ec p0, g3, ?_, g5, g6, g7⟩
    rw [g4, bI_dd]
  unfold m_X24_flags_j120
  by_cases hp : p < 0
  · rw [if_pos hp]
    exact plain (by simp; omega)
  · rw [if_neg hp]
    simp only [k14.1, k14.2.1, k14.2.2]
    rw [gd_t ⟨by decide, by omega, by omega⟩]
    by_cases hr : h (l + 35) p = 0
    · rw [if_pos hr]
      exact plain (by simp [hr])
    · rw [if_neg hr]
      have ir : (decide (0 ≤ p) && decide (h (l + 35) p ≠ 0)) = true := by
        rw [decide_eq_true (show 0 ≤ p by omega), decide_eq_true hr]; rfl
      have k7 := g_X24_7 hL hl
      have cp := ec (by omega)
      have no : ∀ v : Bool, v = false → (o && (decide (h (l + 24) (22 * e) = 7) && decide (c < 8))) = v → ∃ G, m_X24_flags_j163 l e p 0 h = some (.inl (e + 1, G)) ∧ F2 (flW l e p) h G ∧ (∀ b, (b = l + 35 ∨ b = l + 28) → G b e = h b e) ∧ flG l e p c o h G := by
        intro v hv ho
        subst hv
        have k15 := g_X24_15 hL hl
        have L1 : LAY (up h (l + 36) e 0) := fl_l hL hl (F2.refl.put ⟨by omega, e0⟩)
        obtain ⟨G, g1, g2, g3, g4, g5, g6, g7⟩ := q_fl197 (p := p) (s := 0) L1 hl e0 e1 p1
        have G36 : G (l + 36) e = 0 := by rw [g2 _ _ (by unfold flE; omega), up_s]
        refine ⟨G, ?_, (F2.refl.put (by unfold flW; omega)).trans (g2.mono (fun b j z => by unfold flE at z; unfold flW; omega)), fun b hb => by rw [g2 _ _ (by unfold flE; omega), up_a (by omega)], false, by rw [ir]; simpa using ho.symm, by rw [G36]; simp [bI], fun z => absurd G36 z, fun _ p0 => by rw [g2 _ _ (by unfold flE; omega), up_a (by omega)]; exact cp, by rw [g3]; rfl, ?_, ?_, ?_, ?_⟩
        · unfold m_X24_flags_j163
          simp only [k15.1, k15.2.1, k15.2.2]
          rw [gd_t ⟨by decide, e0, by omega⟩, pt_e, if_pos trivial]; exact g1
        · rw [g4]; simp [bI]
        · rw [g5, up_a (by omega)]
        · rw [g6, up_a (by omega)]
        · rw [g7, up_a (by omega)]
      unfold m_X24_flags_j162
      by_cases ho : bI o = 0
      · rw [if_pos ho]
        refine no false rfl ?_
        cases o
        · rfl
        · exact absurd ho (by decide)
      · rw [if_neg ho, q_show24 hL hl e0 e1, Option.bind_some]
        have ot : o = true := bI_0.mp ho
        by_cases h7 : h (l + 24) (22 * e) = 7
        · rw [if_neg (fun z => z h7)]
          simp only [k7.1, k7.2.1, k7.2.2, cp]
          rw [gd_t ⟨by decide, by omega, by omega⟩]
          by_cases h8 : 8 ≤ c
          · rw [if_pos h8]
            exact no false rfl (by simp; omega)
          · rw [if_neg h8]
            -- a cell
            have k15 := g_X24_15 hL hl
            have L1 : LAY (up h (l + 36) e 1) := fl_l hL hl (F2.refl.put ⟨by omega, e0⟩)
            have k7a := g_X24_7 L1 hl
            have k8a := g_X24_8 L1 hl
            have L2 : LAY (up (up h (l + 36) e 1) (l + 29) e c) := fl_l L1 hl (F2.refl.put ⟨by omega, e0⟩)
            have k7b := g_X24_7 L2 hl
            have cpa : up h (l + 36) e 1 (l + 28) p = c := by rw [up_a (by omega)]; exact cp
            have cpb : up (up h (l + 36) e 1) (l + 29) e c (l + 28) p = c := by rw [up_a (by omega)]; exact cpa
            have L3 : LAY (up (up (up h (l + 36) e 1) (l + 29) e c) (l + 28) p (c + 1)) := fl_l L2 hl (F2.refl.put ⟨by omega, by omega⟩)
            have F3 : F2 (flW l e p) h (up (up (up h (l + 36) e 1) (l + 29) e c) (l + 28) p (c + 1)) := by
              repeat' first
                | exact F2.refl
                | refine F2.put ?_ (by unfold flW; omega)
            have v1 : up (up (up h (l + 36) e 1) (l + 29) e c) (l + 28) p (c + 1) (l + 36) e = 1 := by (try simp (disch := omega) only [up_a, up_e, up_j, e32, e8])
            have v2 : up (up (up h (l + 36) e 1) (l + 29) e c) (l + 28) p (c + 1) (l + 29) e = c := by (try simp (disch := omega) only [up_a, up_e, up_j, e32, e8])
            have v3 : up (up (up h (l + 36) e 1) (l + 29) e c) (l + 28) p (c + 1) (l + 28) p = c + 1 := by (try simp (disch := omega) only [up_a, up_e, up_j, e32, e8])
            have v4 : ∀ b, (b = l + 35 ∨ b = l + 28) → up (up (up h (l + 36) e 1) (l + 29) e c) (l + 28) p (c + 1) b e = h b e := fun b hb => by
              rw [up_ne (by omega), up_ne (by omega), up_ne (by omega)]
            have v5 : ∀ b, l + 24 ≤ b → b ≤ l + 36 → b ≠ l + 28 → up (up (up h (l + 36) e 1) (l + 29) e c) (l + 28) p (c + 1) b p = h b p := fun b b0 b1 b2 => by
              rw [up_ne (by omega), up_ne (by omega), up_ne (by omega)]
            have v6 : up (up (up h (l + 36) e 1) (l + 29) e c) (l + 28) p (c + 1) (l + 24) (22 * e) = h (l + 24) (22 * e) := by
              rw [up_ne (by omega), up_ne (by omega), up_ne (by omega)]
            have key : m_X24_flags_j163 l e p 1 h = m_X24_flags_j197 l e p 1 (up (up (up h (l + 36) e 1) (l + 29) e c) (l + 28) p (c + 1)) := by
              unfold m_X24_flags_j163
              simp only [k15.1, k15.2.1, k15.2.2]
              rw [gd_t ⟨by decide, e0, by omega⟩, pt_e, if_neg (by decide)]
              simp only [k7a.1, k7a.2.1, k7a.2.2, k8a.1, k8a.2.1, k8a.2.2, cpa]
              rw [gd_t ⟨by decide, by omega, by omega⟩, gd_t ⟨by decide, e0, by omega⟩, pt_e]
              simp only [k7b.1, k7b.2.1, k7b.2.2, cpb]
              rw [gd_t ⟨by decide, by omega, by omega⟩, e32 (x := c + 1) (by omega) (by omega), pt_e]
            rw [key]
            generalize up (up (up h (l + 36) e 1) (l + 29) e c) (l + 28) p (c + 1) = g at *
            obtain ⟨G, g1, g2, g3, g4, g5, g6, g7⟩ := q_fl197 (p := p) (s := 1) L3 hl e0 e1 p1
            have G36 : G (l + 36) e = 1 := by rw [g2 _ _ (by unfold flE; omega)]; exact v1
            refine ⟨G, g1, F3.trans (g2.mono (fun b j z => by unfold flE at z; unfold flW; omega)), fun b hb => by rw [g2 _ _ (by unfold flE; omega)]; exact v4 b hb, true, by rw [ir, ot]; simp [h7]; omega, by rw [G36, ir]; rfl, fun _ => ⟨by rw [g2 _ _ (by unfold flE; omega)]; exact v2, by rw [g2 _ _ (by unfold flE; omega)]; exact v3⟩, fun z => by omega, g3, ?_, by rw [g5, v6], by rw [g6, v6], by rw [g7, v6]⟩
            rw [g4, v5 _ (by omega) (by omega) (by omega), v5 _ (by omega) (by omega) (by omega), v5 _ (by omega) (by omega) (by omega)]
            rfl
        · rw [if_pos h7]
          exact no false rfl (by simp [h7])
/-- the flags of a tree: rows V (their numbers as in the reference's tree), parents P -/
def ok0 (V : Hp) (P : Int → Int) (e : Int) : Bool := decide (V 24 (22 * e) ≠ 2) && (decide (P e < 0) || (decide (V 30 (P e) ≠ 0) && !muF (V 24 (22 * P e))))
def isTb (V : Hp) (P : Int → Int) (e : Int) : Bool := decide (0 ≤ P e) && decide (V 34 (P e) ≠ 0)
def ok1 (V : Hp) (P : Int → Int) (e : Int) : Bool := ok0 V P e && (!isTb V P e || decide (V 24 (22 * e) = 6))
def isRw (V : Hp) (P : Int → Int) (e : Int) : Bool := decide (0 ≤ P e) && decide (V 35 (P e) ≠ 0)
def ok2 (V : Hp) (P : Int → Int) (e : Int) : Bool := ok1 V P e && (!isRw V P e || (decide (V 24 (22 * e) = 7) && decide (cntC (V 36) P (P e) e.toNat < 8)))
def okFl (V : Hp) (P : Int → Int) (e : Int) : Bool := decide (P e < 0) || (decide (V 31 (P e) ≠ 0) && decide (V 32 (P e) = 0) && decide (V 36 (P e) = 0))
def FLV (V : Hp) (P : Int → Int) (e : Int) : Prop :=
  V 35 e = bI (isTb V P e && ok1 V P e) ∧ V 36 e = bI (isRw V P e && ok2 V P e) ∧ (V 36 e ≠ 0 → V 29 e = cntC (V 36) P (P e) e.toNat) ∧ V 30 e = bI (ok2 V P e) ∧ V 31 e = bI (ok2 V P e && okFl V P e) ∧ V 32 e = bI (decide (V 31 e ≠ 0) && decide (V 24 (22 * e) = 3)) ∧ V 34 e = bI (decide (V 31 e ≠ 0) && decide (V 24 (22 * e) = 5)) ∧ V 33 e = bI (decide (V 31 e ≠ 0) && bkF (V 24 (22 * e)))
theorem FLV.congr {V U : Hp} {P : Int → Int} {e : Int} (e0 : 0 ≤ e) (hP : P e < e) (f : FLV V P e) (k : ∀ b j, 29 ≤ b → b ≤ 36 → 0 ≤ j → j ≤ e → U b j = V b j) (k24 : U 24 = V 24) : FLV U P e := by
  have c : ∀ x, cntC (U 36) P x e.toNat = cntC (V 36) P x e.toNat := fun x => cntC_congr _ (fun j j0 j1 => k 36 j (by decide) (by decide) j0 (by omega))
  have z : ∀ b, 29 ≤ b → b ≤ 36 → 0 ≤ P e → U b (P e) = V b (P e) := fun b b0 b1 p0 => k b (P e) b0 b1 p0 (by omega)
  have o0 : ok0 U P e = ok0 V P e := by
    unfold ok0
    rw [k24]
    by_cases hp : P e < 0
    · simp [hp]
    · rw [z 30 (by decide) (by decide) (by omega)]
  have tb : isTb U P e = isTb V P e := by
    unfold isTb
    by_cases hp : 0 ≤ P e
    · rw [z 34 (by decide) (by decide) hp]
    · simp [hp]
  have rr : isRw U P e = isRw V P e := by
    unfold isRw
    by_cases hp : 0 ≤ P e
    · rw [z 35 (by decide) (by decide) hp]
    · simp [hp]
  have o1 : ok1 U P e = ok1 V P e := by unfold ok1; rw [o0, tb, k24]
  have o2 : ok2 U P e = ok2 V P e := by unfold ok2; rw [o1, rr, k24, c]
  have of_ : okFl U P e = okFl V P e := by
    unfold okFl
    by_cases hp : P e < 0
    · simp [hp]
    · rw [z 31 (by decide) (by decide) (by omega), z 32 (by decide) (by decide) (by omega), z 36 (by decide) (by decide) (by omega)]
  unfold FLV
  rw [tb, rr, o1, o2, of_, k24, c, k 35 e (by decide) (by decide) e0 (Int.le_refl _), k 36 e (by decide) (by decide) e0 (Int.le_refl _), k 29 e (by decide) (by decide) e0 (Int.le_refl _), k 30 e (by decide) (by decide) e0 (Int.le_refl _), k 31 e (by decide) (by decide) e0 (Int.le_refl _), k 32 e (by decide) (by decide) e0 (Int.le_refl _), k 34 e (by decide) (by decide) e0 (Int.le_refl _), k 33 e (by decide) (by decide) e0 (Int.le_refl _)]
  exact f
