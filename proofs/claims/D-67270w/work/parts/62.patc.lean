set_option maxRecDepth 100000
/-! PATTERNS, as the component keeps them -/
def nl (L : List Int) : Int := ((L.filter (fun x => decide (x ≠ 0))).length : Int)
theorem nl_0 (L : List Int) : 0 ≤ nl L := Int.natCast_nonneg _
theorem nl_app (L M : List Int) : nl (L ++ M) = nl L + nl M := by unfold nl; rw [List.filter_append, List.length_append]; omega
theorem nl_lets (B : Int → Int) (s : Int) : ∀ k : Nat, nl (lets B s k) = ((lets B s k).length : Int) := by
  intro k
  induction k with
  | zero => rfl
  | succ k ih =>
    unfold lets
    split
    · rename_i h
      rw [nl_app, ih, List.length_append]
      have : nl [B (s + k) - 96] = 1 := by
        unfold nl
        rw [List.filter_cons_of_pos (by simp; omega)]
        rfl
      rw [this]; simp
    · exact ih
/-- the string of a pattern -/
def pth (ah be : Int) (L : List Int) : List Int := (if ah = 0 then [] else [0]) ++ L ++ (if be = 0 then [] else [0])
theorem nl_pth {ah be : Int} {L : List Int} : nl (pth ah be L) = nl L := by
  have e0 : nl ([] : List Int) = 0 := rfl
  have e1 : nl ([0] : List Int) = 0 := by decide
  unfold pth
  rw [nl_app, nl_app]
  split <;> split <;> simp only [e0, e1] <;> omega
/-- the patterns that the component keeps: np of them, sg their strings, dt their digits -/
def HYc (h : Hp) (a np : Int) (sg : Int → List Int) (dt : Int → Int → Int) : Prop :=
  h a 10 = np ∧ 0 ≤ np ∧ np ≤ 300 ∧ (∃ σ, TRX h a σ ∧ (∀ v, 0 ≤ v → v < h a 6 → h (a + 4) v = -1 ∨ (0 ≤ h (a + 4) v ∧ h (a + 4) v < np ∧ σ v = sg (h (a + 4) v))) ∧
    (∀ p, 0 ≤ p → p < np → ∃ v, 0 ≤ v ∧ v < h a 6 ∧ h (a + 4) v = p)) ∧ h a 6 ≤ 4216 ∧
  (∀ p, 0 ≤ p → p < np → 0 ≤ h (a + 5) p ∧ nl (sg p) ≤ 12 ∧ (if p + 1 < np then h (a + 5) (p + 1) else h a 9) = h (a + 5) p + nl (sg p) + 1 ∧ h (a + 5) p + nl (sg p) + 1 ≤ h a 9 ∧ ∀ j, 0 ≤ j → j ≤ nl (sg p) → h (a + 6) (h (a + 5) p + j) = dt p j ∧ 0 ≤ dt p j ∧ dt p j ≤ 9) ∧
  (∀ p p', 0 ≤ p → p < p' → p' < np → h (a + 5) p + nl (sg p) + 1 ≤ h (a + 5) p') ∧ 0 ≤ h a 9 ∧ h a 9 ≤ 13 * np
/-- which pattern a string is: a known one, or the next -/
def PIX (np : Int) (sg : Int → List Int) (L : List Int) (p : Int) : Prop := (0 ≤ p ∧ p < np ∧ sg p = L) ∨ (p = np ∧ ∀ k, 0 ≤ k → k < np → sg k ≠ L)
def upF {β : Type} (f : Int → β) (p : Int) (v : β) : Int → β := fun k => if k = p then v else f k
theorem upF_s {β : Type} {f : Int → β} {p : Int} {v : β} : upF f p v p = v := if_pos rfl
theorem upF_n {β : Type} {f : Int → β} {p k : Int} {v : β} (h : k ≠ p) : upF f p v k = f k := if_neg h
def paW (a : Int) : Int → Int → Prop := fun b j => (b = a ∧ (j = 6 ∨ j = 9 ∨ j = 10)) ∨ (a + 1 ≤ b ∧ b ≤ a + 6 ∧ 0 ≤ j) ∨ (b = a + 12 ∧ 0 ≤ j)
theorem pa_hy {a : Int} : ∀ b j, paW a b j → hyW a b j := fun b j z => by unfold paW at z; unfold hyW; omega
theorem pt_pa {a : Int} : ∀ b j, ptW a b j → paW a b j := fun b j z => by unfold ptW at z; unfold paW; omega
/-- a pattern is read, and its node found -/
def PTd (h g : Hp) (a : Int) (σ : Int → List Int) (L : List Int) (w n : Int) (D : Int → Int) : Prop :=
  F2 (ptW a) h g ∧ (∃ σ', TRX g a σ' ∧ (∀ v, 0 ≤ v → v < h a 6 → σ' v = σ v ∧ g (a + 4) v = h (a + 4) v) ∧ (∀ v, h a 6 ≤ v → v < g a 6 → g (a + 4) v = -1) ∧ 0 ≤ w ∧ w < g a 6 ∧ σ' w = L) ∧
  h a 6 ≤ g a 6 ∧ g a 6 ≤ 4216 ∧ (∀ j : Int, 0 ≤ j → j ≤ n → g (a + 12) j = D j ∧ 0 ≤ D j ∧ D j ≤ 9) ∧ n = nl L ∧ 0 ≤ n ∧ n ≤ 12
/-- the digits are written -/
theorem c_pdig {h : Hp} {a w n p d : Int} {D : Int → Int} (hL : LAY h) (ha : a ∈ in_aX9) (n0 : 0 ≤ n) (n1 : n ≤ 12) (w0 : 0 ≤ w) (w1 : w < 4216) (ep : h (a + 4) w = p) (p0 : 0 ≤ p) (p1 : p < 300) (ed : h (a + 5) p = d) (d0 : 0 ≤ d) (d1 : d + n < 3900) (hD : ∀ j : Int, 0 ≤ j → j ≤ n → h (a + 12) j = D j) :
    Pz (m_X9_pattern_j322 a w n h) (fun r => r.1 = (0, 0) ∧ F2 (fun b j => b = a + 6 ∧ d ≤ j ∧ j ≤ d + n) h r.2 ∧ ∀ j, 0 ≤ j → j ≤ n → r.2 (a + 6) (d + j) = D j) := by
  have h9 := aX9 ha
  obtain ⟨k0, -, -, -, ⟨k1, k2, k3⟩, ⟨k4, k5, k6⟩, ⟨k7, k8, k9⟩, -, -, -, -, -, ⟨k10, k11, k12⟩, -⟩ := ly_X9 hL ha
  unfold m_X9_pattern_j322
  refine z_lt (z_bind (z_mono (z_lp (Q := fun r => r.1 = (0, 0) ∧ F2 (fun b j => b = a + 6 ∧ d ≤ j ∧ j ≤ d + n) h r.2 ∧ ∀ j, 0 ≤ j → j ≤ n → r.2 (a + 6) (d + j) = D j) (fun y : Int × Hp => 0 ≤ y.1 ∧ y.1 ≤ n + 1 ∧ F2 (fun b j => b = a + 6 ∧ d ≤ j ∧ j ≤ d + n) h y.2 ∧ ∀ j, 0 ≤ j → j < y.1 → y.2 (a + 6) (d + j) = D j) (fun y => (n + 1 - y.1).toNat) ⟨Int.le_refl 0, by dsimp only; omega, F2.refl, fun j j0 j1 => by dsimp only at j1; omega⟩ ?_) (fun r hr => z_some hr)))
  rintro ⟨x, q⟩ ⟨x0, x1, F, E⟩
  dsimp only at x0 x1 F E
  have e12 : q (a + 12) = h (a + 12) := F.row (fun j z => by omega)
  have e4 : q (a + 4) = h (a + 4) := F.row (fun j z => by omega)
  have e5 : q (a + 5) = h (a + 5) := F.row (fun j z => by omega)
  have ea : q a = h a := F.row (fun j z => by omega)
  have e6 : ∀ j, j < 0 → q (a + 6) j = h (a + 6) j := fun j hj => F _ _ (fun z => by omega)
  have f1 := e6 (-1) (by decide)
  have f2 := e6 (-2) (by decide)
  show Pz (m_X9_pattern_l325 a w n x q) _
  unfold m_X9_pattern_l325
  refine z_if (fun hc => z_some ⟨rfl, F, fun j j0 j1 => E j j0 (by omega)⟩) (fun hc => ?_)
  have dx := hD x x0 (by omega)
  (try simp (disch := omega) only [up_a, up_e, up_j, e32, e8, ea, e4, e5, e12, k1, k2, k3, k4, k5, k6, k7, k8, k9, k10, k11, k12, f1, f2, ep, ed, dx])
  repeat' first
    | with_reducible refine z_lt ?_
    | with_reducible refine z_pt ?_
    | with_reducible refine z_gd (by (try simp (disch := omega) only [up_a, up_e, up_j, e32, e8]) <;> omega) ?_
    | with_reducible refine z_it (by decide) ?_
    | with_reducible refine z_ie (by decide) ?_
    | with_reducible refine z_if (fun hc => ?_) (fun hc => ?_)
    | with_reducible refine zc_sm (fun hc => ?_) (fun hc => ?_)
    | with_reducible refine zc_dg (fun hc => ?_) (fun hc => ?_)
    | with_reducible refine zc_bl (fun hc => ?_) (fun hc => ?_)
    | with_reducible refine zt_sm (fun hc => ?_) (fun hc => ?_)
    | with_reducible refine zt_dg (fun hc => ?_) (fun hc => ?_)
    | with_reducible refine zt_bl (fun hc => ?_) (fun hc => ?_)
  refine z_some ⟨⟨by dsimp only; omega, by dsimp only; omega, ?_, fun j j0 j1 => ?_⟩, ?_⟩ <;> dsimp only
  · exact F.put (by omega)
  · dsimp only at j1
    by_cases hj : j = x
    · rw [up_e rfl (by omega), hj]
    · rw [up_j (by omega)]; exact E j j0 (by omega)
  · omega
theorem c_p246 {h g : Hp} {a fr np w n : Int} {sg : Int → List Int} {dt : Int → Int → Int} {σ : Int → List Int} {L : List Int} {D : Int → Int} (hL : LAY h) (ha : a ∈ in_aX9) (rm : RM h 1 7) (H1 : h a 10 = np) (H2 : 0 ≤ np ∧ np ≤ 300)
    (H4 : ∀ v, 0 ≤ v → v < h a 6 → h (a + 4) v = -1 ∨ (0 ≤ h (a + 4) v ∧ h (a + 4) v < np ∧ σ v = sg (h (a + 4) v))) (H5 : ∀ p, 0 ≤ p → p < np → ∃ v, 0 ≤ v ∧ v < h a 6 ∧ h (a + 4) v = p)
    (H6 : ∀ p, 0 ≤ p → p < np → 0 ≤ h (a + 5) p ∧ nl (sg p) ≤ 12 ∧ (if p + 1 < np then h (a + 5) (p + 1) else h a 9) = h (a + 5) p + nl (sg p) + 1 ∧ h (a + 5) p + nl (sg p) + 1 ≤ h a 9 ∧ ∀ j, 0 ≤ j → j ≤ nl (sg p) → h (a + 6) (h (a + 5) p + j) = dt p j ∧ 0 ≤ dt p j ∧ dt p j ≤ 9)
    (H7 : ∀ p p', 0 ≤ p → p < p' → p' < np → h (a + 5) p + nl (sg p) + 1 ≤ h (a + 5) p') (H8 : 0 ≤ h a 9) (H9 : h a 9 ≤ 13 * np) (P : PTd h g a σ L w n D) :
    Pz (m_X9_pattern_j246 a fr n w g) (fun r => ∃ p, PIX np sg L p ∧ ((p = 300 ∧ ThF 432 fr (paW a) h r) ∨ (p < 300 ∧ r.1 = (0, 0) ∧ F2 (paW a) h r.2 ∧ r.2 a 6 = g a 6 ∧ HYc r.2 a (if p = np then np + 1 else np) (upF sg p L) (upF dt p D)))) := by
  have h9 := aX9 ha
  obtain ⟨F, ⟨σ', X, X1, X2, X3, X4, X5⟩, N1, N2, P1, P2, P3, P4⟩ := P
  have LG := hyW_l hL ha (F.mono pt_hy)
  have rg := rm_of rm F (fun j z => by unfold ptW at z; omega)
  have e5 : g (a + 5) = h (a + 5) := F.row (fun j z => by unfold ptW at z; omega)
  have e6 : g (a + 6) = h (a + 6) := F.row (fun j z => by unfold ptW at z; omega)
  have ea : ∀ j, j ≠ 6 → g a j = h a j := fun j hj => F a j (fun z => by unfold ptW at z; omega)
  have e9 := ea 9 (by decide)
  have e10 := ea 10 (by decide)
  obtain ⟨k0, ⟨j1, j2, j3⟩, ⟨j4, j5, j6⟩, ⟨j7, j8, j9⟩, ⟨k1, k2, k3⟩, ⟨k4, k5, k6⟩, ⟨k7, k8, k9⟩, -, -, -, -, -, ⟨k10, k11, k12⟩, -⟩ := ly_X9 LG ha
  have wp : w < h a 6 → g (a + 4) w = h (a + 4) w := fun z => (X1 w X3 z).2
  unfold m_X9_pattern_j246
  rw [k1]
  refine z_gd (by (try simp (disch := omega) only [up_a, up_e, up_j, e32, e8, k2, k3]) <;> omega) (z_if (fun hc => ?_) (fun hc => ?_))
  · -- a known one
    have w1 : w < h a 6 := by
      by_cases z : w < h a 6
      · exact z
      · have := X2 w (by omega) X4; omega
    have b1 := wp w1
    have b2 := H4 w X3 w1
    have b3 : 0 ≤ h (a + 4) w ∧ h (a + 4) w < np ∧ σ w = sg (h (a + 4) w) := by
      rcases b2 with z | z
      · omega
      · exact z
    have bL : sg (h (a + 4) w) = L := by rw [← b3.2.2, ← (X1 w X3 w1).1]; exact X5
    have c1 := H6 _ b3.1 b3.2.1
    rw [bL, ← P2] at c1
    refine z_mono (c_pdig (D := D) LG ha P3 P4 X3 (by omega) b1 b3.1 (by omega) (by rw [e5]) c1.1 (by omega) (fun j j0 jn => (P1 j j0 jn).1)) (fun r hr => ?_)
    obtain ⟨r1, r2, r3⟩ := hr
    have q5 : r.2 (a + 5) = h (a + 5) := (r2.row (fun j z => by omega)).trans e5
    have q4 : r.2 (a + 4) = g (a + 4) := r2.row (fun j z => by omega)
    have qa : r.2 a = g a := r2.row (fun j z => by omega)
    refine ⟨_, Or.inl ⟨b3.1, b3.2.1, bL⟩, Or.inr ⟨by omega, r1, (F.mono pt_pa).trans (r2.mono (fun b j z => by unfold paW; omega)), by rw [qa], ?_⟩⟩
    rw [if_neg (by omega)]
    have eu : ∀ k, upF sg (h (a + 4) w) L k = sg k := fun k => by
      by_cases z : k = h (a + 4) w
      · rw [z, upF_s, bL]
      · exact upF_n z
    refine ⟨by rw [qa, e10, H1], H2.1, H2.2, ⟨σ', X.kept (r2.row (fun j z => by omega)) (r2.row (fun j z => by omega)) (r2.row (fun j z => by omega)) (by rw [qa]), fun v v0 v1 => ?_, fun p p0 p1 => ?_⟩, by rw [qa]; omega, fun p p0 p1 => ?_, fun p p' p0 p1 p2 => ?_, by rw [qa, e9]; exact H8, by rw [qa, e9]; exact H9⟩
    · rw [qa] at v1
      rw [q4, eu]
      by_cases z : v < h a 6
      · rw [(X1 v v0 z).1, (X1 v v0 z).2]; exact H4 v v0 z
      · exact Or.inl (X2 v (by omega) v1)
    · obtain ⟨v, v0, v1, v2⟩ := H5 p p0 p1
      exact ⟨v, v0, by rw [qa]; omega, by rw [q4, (X1 v v0 v1).2]; exact v2⟩
    · rw [q5, qa, e9, eu]
      obtain ⟨d1, d2, d3, d4, d5⟩ := H6 p p0 p1
      refine ⟨d1, d2, d3, d4, fun j j0 jn => ?_⟩
      by_cases z : p = h (a + 4) w
      · rw [z] at jn ⊢
        rw [bL, ← P2] at jn
        rw [upF_s, r3 j j0 jn]; exact ⟨rfl, (P1 j j0 jn).2⟩
      · rw [upF_n z]
        have : r.2 (a + 6) (h (a + 5) p + j) = h (a + 6) (h (a + 5) p + j) := by
          rw [r2 _ _ (fun y => ?_), e6]
          rcases Int.lt_or_le p (h (a + 4) w) with y1 | y1
          · have := H7 p _ p0 y1 b3.2.1; omega
          · have := H7 _ p b3.1 (by omega) p1
            rw [bL, ← P2] at this; omega
        rw [this]; exact d5 j j0 jn
    · rw [q5, eu]; exact H7 p p' p0 p1 p2
  · -- a new one
    have hw : g (a + 4) w = -1 := by
      by_cases z : w < h a 6
      · rw [wp z] at hc ⊢
        have := H4 w X3 z; omega
      · exact X2 w (by omega) X4
    have hnew : ∀ k, 0 ≤ k → k < np → sg k ≠ L := by
      intro k k0 k1 ek
      obtain ⟨v, v0, v1, v2⟩ := H5 k k0 k1
      have b := H4 v v0 v1
      rw [v2] at b
      rcases b with z | ⟨-, -, b2⟩
      · omega
      · have b3 := X1 v v0 v1
        have b4 := X.inj v.toNat v w (by omega) v0 (by omega) X3 X4 (by rw [b3.1, b2, ek, X5])
        rw [b4] at b3 v2
        rw [b3.2, v2] at hw
        omega
    refine z_if (fun hd => ?_) (fun hd => ?_)
    · have n3 : np < 300 := by omega
      repeat' first
        | with_reducible refine z_lt ?_
        | with_reducible refine z_pt ?_
        | with_reducible refine z_gd (by (try simp (disch := omega) only [up_a, up_e, up_j, e32, e8, e10, e9, k0, k1, k2, k3, k4, k5, k6, k7, k8, k9, k10, k11, k12, H1]) <;> omega) ?_
        | with_reducible refine z_it (by decide) ?_
        | with_reducible refine z_ie (by decide) ?_
        | with_reducible refine z_if (fun hc => ?_) (fun hc => ?_)
        | with_reducible refine zc_sm (fun hc => ?_) (fun hc => ?_)
        | with_reducible refine zc_dg (fun hc => ?_) (fun hc => ?_)
        | with_reducible refine zc_bl (fun hc => ?_) (fun hc => ?_)
        | with_reducible refine zt_sm (fun hc => ?_) (fun hc => ?_)
        | with_reducible refine zt_dg (fun hc => ?_) (fun hc => ?_)
        | with_reducible refine zt_bl (fun hc => ?_) (fun hc => ?_)
      (try simp (disch := omega) only [up_a, up_e, up_j, e32, e8, e10, e9, k0, k1, k2, k3, k4, k5, k6, k7, k8, k9, k10, k11, k12, H1])
      have G : F2 (paW a) g (up (up (up (up g (a + 4) w np) (a + 5) np (h a 9)) a 9 (h a 9 + (n + 1))) a 10 (np + 1)) := (((F2.refl.put (by unfold paW; omega)).put (by unfold paW; omega)).put (by unfold paW; omega)).put (by unfold paW; omega)
      have LG2 := hyW_l LG ha (G.mono pa_hy)
      refine z_mono (c_pdig (D := D) (p := np) (d := h a 9) LG2 ha P3 P4 X3 (by omega) (by (try simp (disch := omega) only [up_a, up_e, up_j, e32, e8]) <;> omega) H2.1 n3 (by (try simp (disch := omega) only [up_a, up_e, up_j, e32, e8]) <;> omega) H8 (by omega) (fun j j0 jn => by (try simp (disch := omega) only [up_a, up_e, up_j, e32, e8]); exact (P1 j j0 jn).1)) (fun r hr => ?_)
      obtain ⟨r1, r2, r3⟩ := hr
      have q5 : ∀ k, r.2 (a + 5) k = if k = np then h a 9 else h (a + 5) k := fun k => by
        rw [r2 _ _ (fun z => by omega), ← e5]
        by_cases z : k = np
        · (try simp (disch := omega) only [up_a, up_e, up_j, e32, e8]); rw [if_pos z]
        · (try simp (disch := omega) only [up_a, up_e, up_j, e32, e8]); rw [if_neg z]
      have q4 : ∀ k, r.2 (a + 4) k = if k = w then np else g (a + 4) k := fun k => by
        rw [r2 _ _ (fun z => by omega)]
        by_cases z : k = w
        · (try simp (disch := omega) only [up_a, up_e, up_j, e32, e8]); rw [if_pos z]
        · (try simp (disch := omega) only [up_a, up_e, up_j, e32, e8]); rw [if_neg z]
      have q6 : r.2 a 6 = g a 6 := by rw [r2 _ _ (fun z => by omega)]; (try simp (disch := omega) only [up_a, up_e, up_j, e32, e8])
      have q9 : r.2 a 9 = h a 9 + (n + 1) := by rw [r2 _ _ (fun z => by omega)]; (try simp (disch := omega) only [up_a, up_e, up_j, e32, e8])
      have q10 : r.2 a 10 = np + 1 := by rw [r2 _ _ (fun z => by omega)]; (try simp (disch := omega) only [up_a, up_e, up_j, e32, e8])
      refine ⟨np, Or.inr ⟨rfl, hnew⟩, Or.inr ⟨n3, r1, ((F.mono pt_pa).trans G).trans (r2.mono (fun b j z => by unfold paW; omega)), q6, ?_⟩⟩
      rw [if_pos rfl]
      have f1 : r.2 (a + 1) = g (a + 1) := (r2.row (fun j z => by omega)).trans (by rw [up_row (by omega), up_row (by omega), up_row (by omega), up_row (by omega)])
      have f2 : r.2 (a + 2) = g (a + 2) := (r2.row (fun j z => by omega)).trans (by rw [up_row (by omega), up_row (by omega), up_row (by omega), up_row (by omega)])
      have f3 : r.2 (a + 3) = g (a + 3) := (r2.row (fun j z => by omega)).trans (by rw [up_row (by omega), up_row (by omega), up_row (by omega), up_row (by omega)])
      refine ⟨q10, by omega, by omega, ⟨σ', X.kept f1 f2 f3 q6, fun v v0 v1 => ?_, fun p p0 p1 => ?_⟩, by omega, fun p p0 p1 => ?_, fun p p' p0 p1 p2 => ?_, by omega, by omega⟩
      · rw [q6] at v1
        rw [q4]
        by_cases y : v = w
        · rw [if_pos y, upF_s, y, X5]; exact Or.inr ⟨H2.1, by omega, rfl⟩
        · rw [if_neg y]
          by_cases z : v < h a 6
          · rw [(X1 v v0 z).1, (X1 v v0 z).2]
            rcases H4 v v0 z with u | ⟨u1, u2, u3⟩
            · exact Or.inl u
            · rw [upF_n (by omega)]; exact Or.inr ⟨u1, by omega, u3⟩
          · exact Or.inl (X2 v (by omega) v1)
      · by_cases z : p = np
        · exact ⟨w, X3, by omega, by rw [q4, if_pos rfl, z]⟩
        · obtain ⟨v, v0, v1, v2⟩ := H5 p p0 (by omega)
          have b := (X1 v v0 v1).2
          refine ⟨v, v0, by omega, ?_⟩
          rw [q4, if_neg (fun y => ?_), b, v2]
          rw [y, hw, ← y] at b
          omega
      · rw [q5, q5, q9]
        by_cases z : p = np
        · rw [z, upF_s, upF_s, if_pos rfl, if_neg (by omega), ← P2]
          exact ⟨H8, P4, by omega, by omega, fun j j0 jn => ⟨r3 j j0 jn, (P1 j j0 jn).2⟩⟩
        · rw [upF_n z, upF_n z, if_neg z]
          obtain ⟨d1, d2, d3, d4, d5⟩ := H6 p p0 (by omega)
          refine ⟨d1, d2, ?_, by omega, fun j j0 jn => ?_⟩
          · rw [if_pos (by omega)]
            by_cases y : p + 1 = np
            · rw [if_pos y]; rw [if_neg (by omega)] at d3; exact d3
            · rw [if_neg y]; rw [if_pos (by omega)] at d3; exact d3
          · rw [r2 _ _ (fun y => by omega), up_a (by omega), up_a (by omega), up_a (by omega), up_a (by omega), e6]; exact d5 j j0 jn
      · rw [q5, q5, upF_n (by omega), if_neg (show p ≠ np by omega)]
        by_cases y : p' = np
        · rw [if_pos y]; exact (H6 p p0 (by omega)).2.2.2.1
        · rw [if_neg y]; exact H7 p p' p0 p1 (by omega)
    · have n3 : np = 300 := by omega
      exact z_brk rg (fun b h' z => z_some ⟨np, Or.inr ⟨rfl, hnew⟩, Or.inl ⟨n3, z.F (F.mono pt_pa) (fun j y => by unfold paW at y; omega)⟩⟩)
