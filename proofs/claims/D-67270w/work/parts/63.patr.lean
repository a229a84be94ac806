set_option maxRecDepth 100000
/-! A PATTERN, read by the component -/
/-- what comes of a pattern: fr its place, s .. s + K its letters and digits -/
def PRc (h : Hp) (a fr np : Int) (sg : Int → List Int) (dt : Int → Int → Int) (B : Int → Int) (ah be s : Int) (K : Nat) (r : (Int × Int) × Hp) : Prop :=
  ((¬ okP B s K ∨ (lets B s K).length = 0) ∧ ThF 432 fr (paW a) h r) ∨
  (okP B s K ∧ 0 < (lets B s K).length ∧ ∃ p, PIX np sg (pth ah be (lets B s K)) p ∧ ((p = 300 ∧ ThF 432 fr (paW a) h r) ∨
    (p < 300 ∧ r.1 = (0, 0) ∧ F2 (paW a) h r.2 ∧ r.2 a 6 ≤ h a 6 + K + ah + be ∧ HYc r.2 a (if p = np then np + 1 else np) (upF sg p (pth ah be (lets B s K))) (upF dt p (dgf B s K)))))
theorem TRX.pos {h : Hp} {a : Int} {σ : Int → List Int} (T : TRX h a σ) : 1 ≤ h a 6 := by
  obtain ⟨p, T', -⟩ := T
  exact T'.1
theorem c_p78 {h g : Hp} {a t s e fr v np ah be : Int} {sg : Int → List Int} {dt : Int → Int → Int} {σ : Int → List Int} {K : Nat} (hL : LAY h) (ha : a ∈ in_aX9) (rm : RM h 1 7) (ht : t < a ∨ a + 13 < t) (ht1 : h t (-2) % 16 = 2) (ht2 : e ≤ h t (-1)) (s0 : 0 ≤ s) (he : e = s + K) (e1 : e ≤ 4000)
    (hN : h a 6 + K + 2 ≤ 4200) (hah : ah = 0 ∨ ah = 1) (hbe : be = 0 ∨ be = 1) (H : HYc h a np sg dt) (X0 : TRX h a σ) (H4 : ∀ v, 0 ≤ v → v < h a 6 → h (a + 4) v = -1 ∨ (0 ≤ h (a + 4) v ∧ h (a + 4) v < np ∧ σ v = sg (h (a + 4) v)))
    (F : F2 (ptW a) h g) (G : ∃ σ', TRX g a σ' ∧ (∀ w, 0 ≤ w → w < h a 6 → σ' w = σ w ∧ g (a + 4) w = h (a + 4) w) ∧ (∀ w, h a 6 ≤ w → w < g a 6 → g (a + 4) w = -1) ∧ 0 ≤ v ∧ v < g a 6 ∧ σ' v = (if ah = 0 then [] else [0])) (N1 : h a 6 ≤ g a 6) (N2 : g a 6 ≤ h a 6 + ah) :
    Pz (m_X9_pattern_j78 a t fr s e be v g) (PRc h a fr np sg dt (h t) ah be s K) := by
  have h9 := aX9 ha
  have LG := hyW_l hL ha (F.mono pt_hy)
  obtain ⟨-, -, -, -, -, -, -, -, -, -, -, -, ⟨k1, k2, k3⟩, -⟩ := ly_X9 LG ha
  have hN1 := X0.pos
  obtain ⟨σ', X, X1, X2, X3, X4, X5⟩ := G
  have pl : (((if ah = 0 then [] else [0] : List Int)).length : Int) = ah := by
    rcases hah with z | z
    · rw [if_pos z]; simp; omega
    · rw [if_neg (by omega)]; simp; omega
  unfold m_X9_pattern_j78
  refine z_lt (z_lt (z_gd (by (try simp (disch := omega) only [up_a, up_e, up_j, e32, e8, k1, k2, k3]) <;> omega) (z_pt ?_)))
  rw [k1]
  refine z_bind (z_mono (c_ploop (h := h) (σ := σ) (pre := if ah = 0 then [] else [0]) (K := K) hL ha rm ht ht1 ht2 s0 he e1 (by omega) hN1 ⟨fun i hi => by omega, F.put (by unfold ptW; omega), ⟨σ', X.kept (up_row (by omega)) (up_row (by omega)) (up_row (by omega)) (up_a (by omega)), fun w w0 w1 => by rw [up_a (by omega)]; exact X1 w w0 w1, fun w w0 w1 => by rw [up_a (by omega)] at w1 ⊢; exact X2 w w0 w1, X3, by rw [up_a (by omega)]; exact X4, by rw [X5]; exact (List.append_nil _).symm⟩, by rw [up_a (by omega)]; exact N1, by rw [up_a (by omega), pl]; omega, fun j j0 j1 => by
    have : j = 0 := by
      have : (lets (h t) s 0).length = 0 := rfl
      omega
    rw [up_e rfl this]; exact e8 (by decide) (by decide)⟩) (fun y hy => ?_))
  cases y with
  | inr r => exact z_some (Or.inl ⟨Or.inl hy.1, by
      obtain ⟨z1, z2, z3, z4, z5, z6, z7, z8⟩ := hy.2
      exact ⟨z1, z2, z3, z4, z5, z6.mono (fun b j z => z.imp (pt_pa b j) id), z7, z8⟩⟩)
  | inl y =>
    obtain ⟨w, n, q⟩ := y
    replace hy : PTc h q a (h t) s σ (if ah = 0 then [] else [0]) K w ∧ n = ((lets (h t) s K).length : Int) := hy
    obtain ⟨⟨ok, FQ, ⟨σ2, Y, Y1, Y2, Y3, Y4, Y5⟩, M1, M2, D⟩, en⟩ := hy
    have M3 : q a 6 ≤ h a 6 + ah + K := by rw [← pl]; exact M2
    have LQ := hyW_l hL ha (FQ.mono pt_hy)
    have rq := rm_of rm FQ (fun j z => by unfold ptW at z; omega)
    have l12 := okP_12 K ok
    obtain ⟨H1, H2, H3, -, H10, H6, H7, H8, H9⟩ := id H
    have H5 : ∀ p, 0 ≤ p → p < np → ∃ v, 0 ≤ v ∧ v < h a 6 ∧ h (a + 4) v = p := by
      obtain ⟨-, -, -, ⟨σ3, -, -, z⟩, -⟩ := H
      exact z
    show Pz (if n ≠ 0 then (if be = 0 then m_X9_pattern_j246 a fr n w q else bW (m_X9_step a w 0 q) fun v241 h241 => m_X9_pattern_j246 a fr n v241 h241) else _) _
    refine z_if (fun hc => ?_) (fun hc => z_brk rq (fun b h' z => z_some (Or.inl ⟨Or.inr (by omega), z.F (FQ.mono pt_pa) (fun j y => by unfold paW at y; omega)⟩)))
    have DD : ∀ j : Int, 0 ≤ j → j ≤ n → q (a + 12) j = dgf (h t) s K j ∧ 0 ≤ dgf (h t) s K j ∧ dgf (h t) s K j ≤ 9 := fun j j0 j1 => ⟨D j j0 (by omega), dgf_r _ _ _ _⟩
    have fin : ∀ {w' : Int} {g' : Hp}, PTd h g' a σ (pth ah be (lets (h t) s K)) w' n (dgf (h t) s K) → g' a 6 ≤ h a 6 + K + ah + be → Pz (m_X9_pattern_j246 a fr n w' g') (PRc h a fr np sg dt (h t) ah be s K) := by
      intro w' g' P hg
      refine z_mono (c_p246 (fr := fr) hL ha rm H1 ⟨H2, H3⟩ H4 H5 H6 H7 H8 H9 P) (fun r hr => Or.inr ⟨ok, by omega, ?_⟩)
      obtain ⟨p, p1, p2⟩ := hr
      refine ⟨p, p1, ?_⟩
      rcases p2 with p2 | ⟨p2, p3, p4, p5, p6⟩
      · exact Or.inl p2
      · exact Or.inr ⟨p2, p3, p4, by omega, p6⟩
    refine z_if (fun hb => ?_) (fun hb => ?_)
    · refine fin ⟨FQ, ⟨σ2, Y, Y1, Y2, Y3, Y4, ?_⟩, M1, by omega, DD, by rw [nl_pth, nl_lets]; exact en, by omega, by omega⟩ (by omega)
      rw [Y5]; unfold pth; rw [if_pos hb, List.append_nil]
    · refine z_bW (z_mono (x_step LQ ha Y (by omega) Y3 Y4) (fun r hr => ?_))
      obtain ⟨R0, σ3, R1, R2, R3, R4, R5, R6, R7, R8⟩ := hr
      refine fin ⟨FQ.trans (R0.mono (fun b j z => by unfold stW at z; unfold ptW; omega)), ⟨σ3, R1, fun v v0 v1 => ?_, fun v v0 v1 => ?_, by omega, R4, ?_⟩, by omega, by omega, fun j j0 j1 => ?_, by rw [nl_pth, nl_lets]; exact en, by omega, by omega⟩ (by omega)
      · have b1 := Y1 v v0 v1
        have b2 := R2 v v0 (by omega)
        rw [b2.1, b2.2]; exact b1
      · by_cases z : v < q a 6
        · rw [(R2 v (by omega) z).2]; exact Y2 v v0 z
        · exact R8 v (by omega) v1
      · rw [R5, Y5]; unfold pth; rw [if_neg hb]
      · rw [R0.row (b := a + 12) (fun j z => by unfold stW at z; omega)]; exact DD j j0 j1
theorem c_pat {h : Hp} {a t fr to np : Int} {sg : Int → List Int} {dt : Int → Int → Int} (hL : LAY h) (ha : a ∈ in_aX9) (rm : RM h 1 7) (ht : t < a ∨ a + 13 < t) (ht1 : h t (-2) % 16 = 2) (ht2 : to ≤ h t (-1)) (f0 : 0 ≤ fr) (f1 : fr < to) (e1 : to ≤ 4000)
    (hN : h a 6 + (to - fr) + 2 ≤ 4200) (H : HYc h a np sg dt) :
    Pz (m_X9_pattern a t fr to h) (fun r => ∃ ah be s, ∃ K : Nat, (ah = if h t fr = 46 then 1 else 0) ∧ s = fr + ah ∧ (be = if s < to ∧ h t (to - 1) = 46 then 1 else 0) ∧ s + K + be = to ∧ PRc h a fr np sg dt (h t) ah be s K r) := by
  have h9 := aX9 ha
  obtain ⟨-, -, -, ⟨σ, X, H4, -⟩, -⟩ := id H
  have hp := X.pos
  have e0 : σ 0 = [] := by
    obtain ⟨p, -, z, -⟩ := X
    exact z
  have c63 : ∀ ah be s e : Int, ∀ K : Nat, (ah = 0 ∨ ah = 1) → (be = 0 ∨ be = 1) → 0 ≤ s → e = s + K → e ≤ to → fr ≤ s → Pz (m_X9_pattern_j63 be ah a t fr s e h) (PRc h a fr np sg dt (h t) ah be s K) := by
    intro ah be s e K z1 z2 z3 z4 z5 z6
    unfold m_X9_pattern_j63
    refine z_if (fun hc => ?_) (fun hc => ?_)
    · exact c_p78 hL ha rm ht ht1 (by omega) z3 z4 (by omega) (by omega) z1 z2 H X H4 F2.refl ⟨σ, X, fun w _ _ => ⟨rfl, rfl⟩, fun w w0 w1 => by omega, by decide, by omega, by rw [e0, if_pos hc]⟩ (by omega) (by omega)
    · refine z_bW (z_mono (x_step hL ha X (by omega) (by decide) (by omega)) (fun r hr => ?_))
      obtain ⟨R0, σ3, R1, R2, R3, R4, R5, R6, R7, R8⟩ := hr
      exact c_p78 hL ha rm ht ht1 (by omega) z3 z4 (by omega) (by omega) z1 z2 H X H4 (R0.mono (fun b j z => by unfold stW at z; unfold ptW; omega)) ⟨σ3, R1, R2, R8, by omega, R4, by rw [R5, e0, if_neg hc]; rfl⟩ R6 (by omega)
  have c30 : ∀ ah s : Int, (ah = if h t fr = 46 then 1 else 0) → s = fr + ah → Pz (m_X9_pattern_j30 ah to a t fr s h) (fun r => ∃ ah be s, ∃ K : Nat, (ah = if h t fr = 46 then 1 else 0) ∧ s = fr + ah ∧ (be = if s < to ∧ h t (to - 1) = 46 then 1 else 0) ∧ s + K + be = to ∧ PRc h a fr np sg dt (h t) ah be s K r) := by
    intro ah s z1 z2
    have hah : ah = 0 ∨ ah = 1 := by
      by_cases z : h t fr = 46
      · rw [if_pos z] at z1; omega
      · rw [if_neg z] at z1; omega
    unfold m_X9_pattern_j30
    refine z_if (fun hc => ?_) (fun hc => ?_)
    · unfold m_X9_pattern_j52 m_X9_pattern_j53
      refine z_it rfl (z_mono (c63 ah 0 s to (to - s).toNat hah (Or.inl rfl) (by omega) (by omega) (by omega) (by omega)) (fun r hr => ⟨ah, 0, s, (to - s).toNat, z1, z2, by rw [if_neg (by omega)], by omega, hr⟩))
    · have e2 : w32 (to - 1) = to - 1 := e32 (by omega) (by omega)
      rw [e2]
      refine z_gd ⟨ht1, by omega, by omega⟩ (z_if (fun hd => ?_) (fun hd => ?_))
      · unfold m_X9_pattern_j52 m_X9_pattern_j53
        refine z_it rfl (z_mono (c63 ah 0 s to (to - s).toNat hah (Or.inl rfl) (by omega) (by omega) (by omega) (by omega)) (fun r hr => ⟨ah, 0, s, (to - s).toNat, z1, z2, by rw [if_neg (fun z => hd z.2)], by omega, hr⟩))
      · unfold m_X9_pattern_j53
        have e3 : w32 (to + -1) = to - 1 := by (try simp (disch := omega) only [up_a, up_e, up_j, e32, e8]); omega
        refine z_ie (by decide) (z_lt ?_)
        rw [e3]
        exact z_mono (c63 ah 1 s (to - 1) (to - 1 - s).toNat hah (Or.inr rfl) (by omega) (by omega) (by omega) (by omega)) (fun r hr => ⟨ah, 1, s, (to - 1 - s).toNat, z1, z2, by rw [if_pos ⟨by omega, by omega⟩], by omega, hr⟩)
  unfold m_X9_pattern
  refine z_gd ⟨ht1, f0, by omega⟩ (z_if (fun hc => ?_) (fun hc => ?_))
  · unfold m_X9_pattern_j20
    exact z_it rfl (c30 0 fr (by rw [if_neg hc]) (by omega))
  · unfold m_X9_pattern_j20
    have e2 : w32 (fr + 1) = fr + 1 := e32 (by omega) (by omega)
    refine z_ie (by decide) (z_lt ?_)
    rw [e2]
    exact c30 1 (fr + 1) (by rw [if_pos (by omega)]) rfl
