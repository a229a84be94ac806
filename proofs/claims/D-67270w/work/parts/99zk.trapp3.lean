set_option maxRecDepth 100000
/-! TREES: a selector is applied, on the reference's side -/
theorem FT_step {S Y : Hp} {E M f e : Int} {k : Nat} : FT S Y E M f (k + 1) e ↔ lkP S Y (f + (k + 1 : Nat)) (FT S Y E M f k) e ∧ tsS S Y E M (f + (k + 1 : Nat)) e := Iff.rfl
theorem wsm_step {P Q : Int → Int} {f : Int} {k : Nat} : wsm P Q f (k + 1) = wsm P Q f k + (100 * (P (f + k + 1) - P (f + k)) + (if 0 ≤ Q (f + k) then 1 else 0)) := rfl
/-- rows of one turn -/
def fbW (l : Int) : Int → Int → Prop := fun b j => (b = l + 38 ∨ b = l + 39) ∧ 0 ≤ j
theorem TT.kept {S Y h h' : Hp} {l ly n E M : Int} (hl : l ∈ in_aX24) (hly : ly ∈ in_aX22) (T : TT S Y h l ly n E M) (f : F2 (fun b j => (l + 24 ≤ b ∧ b ≤ l + 39 ∨ b = l + 45) ∧ 0 ≤ j) h h') : TT S Y h' l ly n E M := by
  have h24 := aX24 hl
  have h22 := aX22 hly
  obtain ⟨hL, ⟨⟨x1, x2, x3⟩, x4, x5, x6, x7⟩, eY, r1, r2⟩ := T
  have k : ∀ b, (b ≤ l + 23 ∨ l + 40 ≤ b ∧ b ≤ l + 44) → h' b = h b := fun b hb => f.row (fun j z => by omega)
  refine ⟨trW_l hL hl (f.mono (fun b j z => by unfold trW crW; omega)), ⟨⟨?_, ?_, ?_⟩, fun j j0 j1 => ?_, fun c c0 c1 m m0 m1 => ?_, fun c c0 c1 e e0 e1 => ?_, fun c c0 c1 e x e0 e1 y0 y1 => ?_⟩, fun c c0 c1 => ?_, fun e e0 e1 => ?_, fun c c0 c1 => ?_⟩
  · rw [k _ (by omega)]; exact x1
  · rw [k _ (by omega)]; exact x2
  · rw [k _ (by omega)]; exact x3
  · rw [k _ (by omega)]; exact x4 j j0 j1
  · rw [k _ (by omega)]; exact x5 c c0 c1 m m0 m1
  · rw [k _ (by omega)]; exact x6 c c0 c1 e e0 e1
  · rw [k _ (by omega)]; exact x7 c c0 c1 e x e0 e1 y0 y1
  · rw [k _ (by omega)]; exact eY c c0 c1
  · rw [k _ (by omega), k _ (by omega), k _ (by omega)]; exact r1 e e0 e1
  · rw [k _ (by omega)]; exact r2 c c0 c1
/-- one step of a selector, at all elements -/
theorem t_turn {h S Y p p' : Hp} {l ly a a' n n' N N' E F M C ns na nsel nb nt m w t k : Int} {s s' : Int → List Int} (hl : l ∈ in_aX24) (hly : ly ∈ in_aX22) (R : SA S p a n N s E F M) (R' : YA Y p' a' n' N' s' C ns na nsel nb nt m) (T : TT S Y h l ly n E M) (k0 : 0 ≤ k) (k1 : k < nsel) (t0 : Y 4 k ≤ t) (t1 : t < Y 4 (k + 1)) (w0 : 0 ≤ w) (w1 : w ≤ 100000)
    (fb : Y 4 k < t → ∀ e, 0 ≤ e → e < E → (h (l + 38) e ≠ 0 ↔ FT S Y E M (Y 4 k) (t - 1 - Y 4 k).toNat e)) :
    Pz (m_X24_apply_l10 l ly k w t h) (sE (fun r => r.1 = w + (100 * (Y 9 (t + 1) - Y 9 t) + (if 0 ≤ Y 6 t then 1 else 0)) ∧ r.2.1 = t + 1 ∧ F2 (fbW l) h r.2.2 ∧ ∀ e, 0 ≤ e → e < E → (r.2.2 (l + 38) e ≠ 0 ↔ FT S Y E M (Y 4 k) (t - Y 4 k).toNat e)) (fun _ => False)) := by
  have h24 := aX24 hl
  have h22 := aX22 hly
  obtain ⟨hL, X, eY, rl⟩ := id T
  have E0 := R.2.2.1.2.1
  have E5 := R.2.2.1.2.2.1
  obtain ⟨y1, y2, y3, y4, y5, y6, y7, y8, y9, y10, y11, y12⟩ := R'.2.1
  have s0 := R'.2.2.2.2.2.2.1 k k0 (by omega)
  have s1 := R'.2.2.2.2.2.2.1 (k + 1) (by omega) (by omega)
  have b0 := R'.2.2.2.1 t (by omega) (by omega)
  have b1 := R'.2.2.2.1 (t + 1) (by omega) (by omega)
  have b2 := R'.2.2.2.2.1 t (by omega) (by omega)
  have k9 := g_X22_9 hL hly
  have k14 := g_X22_14 hL hly
  have k11 := g_X22_11 hL hly
  have q4 : h (ly + 4) (k + 1) = Y 4 (k + 1) := by rw [eY 4 (by decide) (by decide)]
  have q9 : h (ly + 9) t = Y 9 t := by rw [eY 9 (by decide) (by decide)]
  have q9' : h (ly + 9) (t + 1) = Y 9 (t + 1) := by rw [eY 9 (by decide) (by decide)]
  have q6 : h (ly + 6) t = Y 6 t := by rw [eY 6 (by decide) (by decide)]
  unfold m_X24_apply_l10
  simp only [k9.1, k9.2.1, k9.2.2]
  rw [e32 (x := k + 1) (by omega) (by omega), e32 (x := t + 1) (by omega) (by omega), q4]
  simp only [k14.1, k14.2.1, k14.2.2, k11.1, k11.2.1, k11.2.2, q9, q9', q6]
  rw [e32 (x := Y 9 (t + 1) - Y 9 t) (by omega) (by omega), e32 (x := 100 * (Y 9 (t + 1) - Y 9 t)) (by omega) (by omega)]
  refine z_gd ⟨by decide, by omega, by omega⟩ (z_ie (by omega) (z_gd ⟨by decide, by omega, by omega⟩ (z_gd ⟨by decide, by omega, by omega⟩ (z_gd ⟨by decide, by omega, by omega⟩ ?_))))
  have main : ∀ v : Int, (v = if 0 ≤ Y 6 t then 1 else 0) → 0 ≤ v → v ≤ 1 → Pz (m_X24_apply_j59 l ly k w t (100 * (Y 9 (t + 1) - Y 9 t)) v h) (sE (fun r => r.1 = w + (100 * (Y 9 (t + 1) - Y 9 t) + (if 0 ≤ Y 6 t then 1 else 0)) ∧ r.2.1 = t + 1 ∧ F2 (fbW l) h r.2.2 ∧ ∀ e, 0 ≤ e → e < E → (r.2.2 (l + 38) e ≠ 0 ↔ FT S Y E M (Y 4 k) (t - Y 4 k).toNat e)) (fun _ => False)) := by
    intro v hv v0 v1
    unfold m_X24_apply_j59
    rw [e32 (x := 100 * (Y 9 (t + 1) - Y 9 t) + v) (by omega) (by omega), e32 (x := w + (100 * (Y 9 (t + 1) - Y 9 t) + v)) (by omega) (by omega)]
    refine z_lt (z_lt ?_)
    -- what fitted is kept
    refine z_bind (z_fill (g := h (l + 38)) (n := E) (d := l + 39) (s := 0) E0 (fun x q x0 x1 Fq => ?_) (fun g Fg Eg => ?_))
    · have Tq : TT S Y q l ly n E M := T.kept hl hly (Fq.mono (fun b j z => by omega))
      have Lq := Tq.1
      show m_X24_apply_l65 l x q = _
      unfold m_X24_apply_l65
      simp only [g_X24_0 Lq hl, (ly_X23 Lq h24.2.2).1, Tq.2.1.1.2.2, g_X24_17 Lq hl, g_X24_18 Lq hl]
      rw [gd_t trivial, if_neg (by omega), gd_t ⟨by decide, x0, by omega⟩, gd_t ⟨by decide, x0, by omega⟩, pt_e, lt_e, e32 (x := x + 1) (by omega) (by omega), Fq (l + 38) x (by omega), Int.zero_add]
    · have Tg : TT S Y g l ly n E M := T.kept hl hly (Fg.mono (fun b j z => by omega))
      have Lg := Tg.1
      show Pz (m_X24_apply_l65 l E g) _
      unfold m_X24_apply_l65
      simp only [g_X24_0 Lg hl, (ly_X23 Lg h24.2.2).1, Tg.2.1.1.2.2]
      refine z_gd trivial (z_it (Int.le_refl _) (z_some (z_lt ?_)))
      have g39 : Y 4 k < t → ∀ e, 0 ≤ e → e < E → (g (l + 39) e ≠ 0 ↔ FT S Y E M (Y 4 k) (t - 1 - Y 4 k).toNat e) := fun ht e e0 e1 => by
        have := Eg e e0 e1
        rw [Int.zero_add] at this
        rw [this]; exact fb ht e e0 e1
      -- all elements
      refine z_bind (z_mono (z_lp (Q := fun g' => F2 (fun b j => b = l + 38 ∧ 0 ≤ j) g g' ∧ ∀ e, 0 ≤ e → e < E → (g' (l + 38) e ≠ 0 ↔ FT S Y E M (Y 4 k) (t - Y 4 k).toNat e)) (fun (s : Int × Hp) => 0 ≤ s.1 ∧ s.1 ≤ E ∧ F2 (fun b j => b = l + 38 ∧ 0 ≤ j) g s.2 ∧ ∀ e, 0 ≤ e → e < s.1 → (s.2 (l + 38) e ≠ 0 ↔ FT S Y E M (Y 4 k) (t - Y 4 k).toNat e)) (fun s => (E - s.1).toNat) ⟨Int.le_refl _, E0, F2.refl, fun e z0 z1 => by dsimp only at z1; omega⟩ ?_) (fun g' hg => z_lt (z_some ⟨by dsimp only; rw [hv], e32 (x := t + 1) (by omega) (by omega), (Fg.mono (fun b j z => ⟨Or.inr z.1, z.2.1⟩)).trans (hg.1.mono (fun b j z => ⟨Or.inl z.1, z.2⟩)), hg.2⟩)))
      rintro ⟨x, q⟩ ⟨x0, x1, Fq, Eq⟩
      dsimp only at x0 x1 Eq
      replace Fq : F2 (fun b j => b = l + 38 ∧ 0 ≤ j) g q := Fq
      have Tq : TT S Y q l ly n E M := Tg.kept hl hly (Fq.mono (fun b j z => by omega))
      have Lq := Tq.1
      show Pz (m_X24_apply_l100 l ly k t x q) _
      unfold m_X24_apply_l100
      simp only [g_X24_0 Lq hl, (ly_X23 Lq h24.2.2).1, Tq.2.1.1.2.2]
      refine z_gd trivial ?_
      by_cases hx : E ≤ x
      · have : x = E := by omega
        subst this
        exact z_it hx (z_some ⟨Fq, Eq⟩)
      · refine z_ie hx ?_
        have k9' := g_X22_9 Lq hly
        have q4' : q (ly + 4) k = Y 4 k := by rw [Tq.2.2.1 4 (by decide) (by decide)]
        simp only [k9'.1, k9'.2.1, k9'.2.2, q4', g_X24_17 Lq hl]
        refine z_gd ⟨by decide, k0, by omega⟩ ?_
        have put : ∀ u : Int, ((u ≠ 0 ↔ FT S Y E M (Y 4 k) (t - Y 4 k).toNat x)) → Pz (m_X24_apply_j163 x (l + 38) u q) (sE (fun s => (0 ≤ s.1 ∧ s.1 ≤ E ∧ F2 (fun b j => b = l + 38 ∧ 0 ≤ j) g s.2 ∧ ∀ e, 0 ≤ e → e < s.1 → (s.2 (l + 38) e ≠ 0 ↔ FT S Y E M (Y 4 k) (t - Y 4 k).toNat e)) ∧ (E - s.1).toNat < (E - x).toNat) (fun g' => F2 (fun b j => b = l + 38 ∧ 0 ≤ j) g g' ∧ ∀ e, 0 ≤ e → e < E → (g' (l + 38) e ≠ 0 ↔ FT S Y E M (Y 4 k) (t - Y 4 k).toNat e))) := by
          intro u hu
          unfold m_X24_apply_j163
          have k17 := g_X24_17 Lq hl
          refine z_gd ⟨by rw [k17.2.1]; decide, x0, by rw [k17.2.2]; omega⟩ (z_pt (z_lt (z_some ?_)))
          rw [e32 (x := x + 1) (by omega) (by omega)]
          refine ⟨⟨by dsimp only; omega, by dsimp only; omega, Fq.put ⟨rfl, x0⟩, fun e e0 e1 => ?_⟩, by dsimp only; omega⟩
          dsimp only at e1 ⊢
          by_cases he : e = x
          · rw [he, up_s]; exact hu
          · rw [up_j he]; exact Eq e e0 (by omega)
        have fs := t_fitsStep (t := t) hl hly R R' Tq x0 (by omega) (by omega) (by omega)
        by_cases ht : t = Y 4 k
        · refine z_ie (fun z => z ht) ?_
          have z0 : (t - Y 4 k).toNat = 0 := by omega
          have ft0 : FT S Y E M (Y 4 k) (t - Y 4 k).toNat x ↔ tsS S Y E M t x := by rw [z0, ht]; exact Iff.rfl
          unfold m_X24_apply_j140
          have lk : m_X24_linked l ly t x 1 q = some 1 := by unfold m_X24_linked; rw [if_neg (by decide)]
          rw [lk, Option.bind_some]
          refine z_ie (by decide) (z_bind (z_mono fs (fun v hv => ?_)))
          unfold m_X24_apply_j162
          rcases hv with ⟨rfl, hv⟩ | ⟨rfl, hv⟩
          · exact z_ie (by decide) (put 1 ⟨fun _ => ft0.mpr hv, fun _ => by decide⟩)
          · exact z_it rfl (put 0 ⟨fun z => absurd rfl z, fun z => absurd (ft0.mp z) hv⟩)
        · refine z_it ht ?_
          have lt : Y 4 k < t := by omega
          have tk : (t - Y 4 k).toNat = (t - 1 - Y 4 k).toNat + 1 := by omega
          have ek : Y 4 k + (((t - 1 - Y 4 k).toNat + 1 : Nat) : Int) = t := by omega
          have ftk : FT S Y E M (Y 4 k) (t - Y 4 k).toNat x ↔ lkP S Y t (FT S Y E M (Y 4 k) (t - 1 - Y 4 k).toNat) x ∧ tsS S Y E M t x := by
            rw [tk, FT_step, ek]
          unfold m_X24_apply_j140
          refine z_bind (z_mono (t_linked (b := FT S Y E M (Y 4 k) (t - 1 - Y 4 k).toNat) hl hly R Tq x0 (by omega) (by omega) (by omega) (fun y z0 z1 => by rw [Fq _ _ (by omega)]; exact g39 lt y z0 z1)) (fun v hv => ?_))
          unfold m_X24_apply_j162
          rcases hv with ⟨rfl, hv⟩ | ⟨rfl, hv⟩
          · refine z_ie (by decide) (z_bind (z_mono fs (fun u hu => ?_)))
            rcases hu with ⟨rfl, hu⟩ | ⟨rfl, hu⟩
            · exact z_ie (by decide) (put 1 ⟨fun _ => ftk.mpr ⟨hv, hu⟩, fun _ => by decide⟩)
            · exact z_it rfl (put 0 ⟨fun z => absurd rfl z, fun z => absurd (ftk.mp z).2 hu⟩)
          · exact z_it rfl (put 0 ⟨fun z => absurd rfl z, fun z => absurd (ftk.mp z).1 hv⟩)
  by_cases h6 : Y 6 t < 0
  · exact z_it h6 (main 0 (by rw [if_neg (by omega)]) (by decide) (by decide))
  · exact z_ie h6 (main 1 (by rw [if_pos (by omega)]) (by decide) (by decide))
/-- a whole selector -/
theorem t_apply {h S Y p p' : Hp} {l ly a a' n n' N N' E F M C ns na nsel nb nt m k : Int} {s s' : Int → List Int} {D : Int → Int → Int × Int} (hl : l ∈ in_aX24) (hly : ly ∈ in_aX22) (R : SA S p a n N s E F M) (R' : YA Y p' a' n' N' s' C ns na nsel nb nt m) (T : TT S Y h l ly n E M) (k0 : 0 ≤ k) (k1 : k < nsel) (d : ∀ e, 0 ≤ e → e < E → prD Y h l e (D e)) :
    Pz (m_X24_apply l ly k h) (fun h' => F2 (fun b j => (l + 24 ≤ b ∧ b ≤ l + 26 ∨ l + 37 ≤ b ∧ b ≤ l + 39) ∧ 0 ≤ j) h h' ∧ ∀ e, 0 ≤ e → e < E → prD Y h' l e (fun q => @ite _ (FT S Y E M (Y 4 k) (Y 4 (k + 1) - Y 4 k - 1).toNat e) (Classical.propDecidable _) (dcF Y q (wsm (Y 9) (Y 6) (Y 4 k) (Y 4 (k + 1) - Y 4 k).toNat) (Y 16 (Y 5 k)) (Y 16 (Y 5 k + 1) - Y 16 (Y 5 k)).toNat (D e q)) (D e q))) := by
  have h24 := aX24 hl
  have h22 := aX22 hly
  obtain ⟨hL, X, eY, rl⟩ := id T
  have E0 := R.2.2.1.2.1
  have E5 := R.2.2.1.2.2.1
  obtain ⟨y1, y2, y3, y4, y5, y6, y7, y8, y9, y10, y11, y12⟩ := R'.2.1
  have s0 := R'.2.2.2.2.2.2.1 k k0 (by omega)
  have s1 := R'.2.2.2.2.2.2.1 (k + 1) (by omega) (by omega)
  have sk := R'.2.2.2.2.2.2.2.1 k k0 k1
  have k9 := g_X22_9 hL hly
  have q4 : h (ly + 4) k = Y 4 k := by rw [eY 4 (by decide) (by decide)]
  unfold m_X24_apply
  simp only [(ly_X22 hL hly).1, k9.1, k9.2.1, k9.2.2, q4]
  refine z_lt (z_gd trivial (z_gd ⟨by decide, k0, by omega⟩ (z_lt ?_)))
  have wb : ∀ c : Nat, (c : Int) ≤ 8 → Y 4 k + c ≤ Y 4 (k + 1) → 0 ≤ wsm (Y 9) (Y 6) (Y 4 k) c ∧ wsm (Y 9) (Y 6) (Y 4 k) c ≤ 401 * c := by
    intro c
    induction c with
    | zero => intro _ _; exact ⟨Int.le_refl _, Int.le_refl _⟩
    | succ c ih =>
      intro c1 c2
      have := ih (by omega) (by omega)
      have b2 := R'.2.2.2.2.1 (Y 4 k + c) (by omega) (by omega)
      rw [wsm_step]
      split <;> omega
  refine z_bind (z_mono (z_lp (Q := fun (r : Int × Hp) => r.1 = wsm (Y 9) (Y 6) (Y 4 k) (Y 4 (k + 1) - Y 4 k).toNat ∧ F2 (fbW l) h r.2 ∧ ∀ e, 0 ≤ e → e < E → (r.2 (l + 38) e ≠ 0 ↔ FT S Y E M (Y 4 k) (Y 4 (k + 1) - Y 4 k - 1).toNat e)) (fun (s : Int × Int × Hp) => s.1 = wsm (Y 9) (Y 6) (Y 4 k) (s.2.1 - Y 4 k).toNat ∧ Y 4 k ≤ s.2.1 ∧ s.2.1 ≤ Y 4 (k + 1) ∧ F2 (fbW l) h s.2.2 ∧ (Y 4 k < s.2.1 → ∀ e, 0 ≤ e → e < E → (s.2.2 (l + 38) e ≠ 0 ↔ FT S Y E M (Y 4 k) (s.2.1 - 1 - Y 4 k).toNat e))) (fun s => (Y 4 (k + 1) - s.2.1).toNat) ⟨by dsimp only; rw [Int.sub_self]; rfl, Int.le_refl _, by dsimp only; omega, F2.refl, fun z => by dsimp only at z; omega⟩ ?_) ?_)
  · rintro ⟨w, t, q⟩ ⟨ew, t0, t1, Fq, fb⟩
    dsimp only at ew t0 t1 fb
    replace Fq : F2 (fbW l) h q := Fq
    have Tq : TT S Y q l ly n E M := T.kept hl hly (Fq.mono (fun b j z => by unfold fbW at z; omega))
    have Lq := Tq.1
    show Pz (m_X24_apply_l10 l ly k w t q) _
    by_cases ht : t = Y 4 (k + 1)
    · have k9' := g_X22_9 Lq hly
      have q4' : q (ly + 4) (k + 1) = Y 4 (k + 1) := by rw [Tq.2.2.1 4 (by decide) (by decide)]
      unfold m_X24_apply_l10
      simp only [k9'.1, k9'.2.1, k9'.2.2]
      rw [e32 (x := k + 1) (by omega) (by omega), q4']
      refine z_gd ⟨by decide, by omega, by omega⟩ (z_it (by omega) (z_some ⟨by rw [← ht]; exact ew, Fq, fun e e0 e1 => ?_⟩))
      have := fb (by omega) e e0 e1
      rw [ht, show Y 4 (k + 1) - 1 - Y 4 k = Y 4 (k + 1) - Y 4 k - 1 by omega] at this
      exact this
    · have w2 := wb (t - Y 4 k).toNat (by omega) (by omega)
      rw [← ew] at w2
      refine z_mono (t_turn hl hly R R' Tq k0 k1 t0 (by omega) w2.1 (by omega) fb) (fun r hr => ?_)
      cases r with
      | inr r => exact absurd hr (fun z => z)
      | inl r =>
        obtain ⟨rw_, rt, rq⟩ := r
        obtain ⟨r1, r2, r3, r4⟩ := hr
        dsimp only at r1 r2 r3 r4
        subst r2
        refine ⟨⟨?_, by dsimp only; omega, by dsimp only; omega, Fq.trans r3, fun _ e e0 e1 => ?_⟩, by dsimp only; omega⟩
        · dsimp only
          rw [r1, ew, show (t + 1 - Y 4 k).toNat = (t - Y 4 k).toNat + 1 by omega, wsm_step, show Y 4 k + (((t - Y 4 k).toNat : Nat) : Int) = t by omega]
        · dsimp only
          rw [show t + 1 - 1 - Y 4 k = t - Y 4 k by omega]; exact r4 e e0 e1
  · rintro ⟨w, g⟩ ⟨ew, Fg, fg⟩
    dsimp only at ew fg ⊢
    replace Fg : F2 (fbW l) h g := Fg
    have Tg : TT S Y g l ly n E M := T.kept hl hly (Fg.mono (fun b j z => by unfold fbW at z; omega))
    have Lg := Tg.1
    have k10 := g_X22_10 Lg hly
    have q5 : g (ly + 5) k = Y 5 k := by rw [Tg.2.2.1 5 (by decide) (by decide)]
    simp only [k10.1, k10.2.1, k10.2.2, q5]
    refine z_gd ⟨by decide, k0, by omega⟩ (z_lt (z_lt ?_))
    have dg : ∀ e, 0 ≤ e → e < E → prD Y g l e (D e) := fun e e0 e1 => (d e e0 e1).kept (fun b j z => Fg _ _ (by unfold fbW; omega))
    refine z_bind (z_mono (z_lp (Q := fun g' => F2 (fun b j => (l + 24 ≤ b ∧ b ≤ l + 26 ∨ b = l + 37) ∧ 0 ≤ j) g g' ∧ ∀ e, 0 ≤ e → e < E → prD Y g' l e (fun q => @ite _ (FT S Y E M (Y 4 k) (Y 4 (k + 1) - Y 4 k - 1).toNat e) (Classical.propDecidable _) (dcF Y q (wsm (Y 9) (Y 6) (Y 4 k) (Y 4 (k + 1) - Y 4 k).toNat) (Y 16 (Y 5 k)) (Y 16 (Y 5 k + 1) - Y 16 (Y 5 k)).toNat (D e q)) (D e q))) (fun (s : Int × Hp) => 0 ≤ s.1 ∧ s.1 ≤ E ∧ F2 (fun b j => (l + 24 ≤ b ∧ b ≤ l + 26 ∨ b = l + 37) ∧ 0 ≤ j) g s.2 ∧ (∀ e, 0 ≤ e → e < s.1 → prD Y s.2 l e (fun q => @ite _ (FT S Y E M (Y 4 k) (Y 4 (k + 1) - Y 4 k - 1).toNat e) (Classical.propDecidable _) (dcF Y q (wsm (Y 9) (Y 6) (Y 4 k) (Y 4 (k + 1) - Y 4 k).toNat) (Y 16 (Y 5 k)) (Y 16 (Y 5 k + 1) - Y 16 (Y 5 k)).toNat (D e q)) (D e q))) ∧ ∀ e, s.1 ≤ e → e < E → prD Y s.2 l e (D e)) (fun s => (E - s.1).toNat) ⟨Int.le_refl _, E0, F2.refl, fun e z0 z1 => by dsimp only at z1; omega, fun e z0 z1 => dg e z0 z1⟩ ?_) (fun g' hg => z_some ⟨(Fg.mono (fun b j z => by unfold fbW at z; omega)).trans (hg.1.mono (fun b j z => by omega)), hg.2⟩))
    rintro ⟨x, q⟩ ⟨x0, x1, Fq, Eq, Gq⟩
    dsimp only at x0 x1 Eq Gq
    replace Fq : F2 (fun b j => (l + 24 ≤ b ∧ b ≤ l + 26 ∨ b = l + 37) ∧ 0 ≤ j) g q := Fq
    have Tq : TT S Y q l ly n E M := Tg.kept hl hly (Fq.mono (fun b j z => by omega))
    have Lq := Tq.1
    show Pz (m_X24_apply_l187 l ly w (Y 5 k) x q) _
    unfold m_X24_apply_l187
    simp only [g_X24_0 Lq hl, (ly_X23 Lq h24.2.2).1, Tq.2.1.1.2.2]
    refine z_gd trivial ?_
    by_cases hx : E ≤ x
    · have : x = E := by omega
      subst this
      exact z_it hx (z_some ⟨Fq, Eq⟩)
    · refine z_ie hx ?_
      have k21 := g_X22_21 Lq hly
      have q16 : q (ly + 16) (Y 5 k) = Y 16 (Y 5 k) := by rw [Tq.2.2.1 16 (by decide) (by decide)]
      simp only [k21.1, k21.2.1, k21.2.2, q16]
      refine z_gd ⟨by decide, by omega, by omega⟩ (z_lt ?_)
      have dx := Gq x (Int.le_refl _) (by omega)
      have fx : q (l + 38) x ≠ 0 ↔ FT S Y E M (Y 4 k) (Y 4 (k + 1) - Y 4 k - 1).toNat x := by rw [Fq _ _ (by omega)]; exact fg x x0 (by omega)
      have end_ : ∀ q', F2 (apE l x) q q' → prD Y q' l x (fun q => @ite _ (FT S Y E M (Y 4 k) (Y 4 (k + 1) - Y 4 k - 1).toNat x) (Classical.propDecidable _) (dcF Y q (wsm (Y 9) (Y 6) (Y 4 k) (Y 4 (k + 1) - Y 4 k).toNat) (Y 16 (Y 5 k)) (Y 16 (Y 5 k + 1) - Y 16 (Y 5 k)).toNat (D x q)) (D x q)) → Pz (lt_ (w32 (x + 1)) fun x5 => some (Sum.inl (x5, q'))) (sE (fun (s : Int × Hp) => (0 ≤ s.1 ∧ s.1 ≤ E ∧ F2 (fun b j => (l + 24 ≤ b ∧ b ≤ l + 26 ∨ b = l + 37) ∧ 0 ≤ j) g s.2 ∧ (∀ e, 0 ≤ e → e < s.1 → prD Y s.2 l e (fun q => @ite _ (FT S Y E M (Y 4 k) (Y 4 (k + 1) - Y 4 k - 1).toNat e) (Classical.propDecidable _) (dcF Y q (wsm (Y 9) (Y 6) (Y 4 k) (Y 4 (k + 1) - Y 4 k).toNat) (Y 16 (Y 5 k)) (Y 16 (Y 5 k + 1) - Y 16 (Y 5 k)).toNat (D e q)) (D e q))) ∧ ∀ e, s.1 ≤ e → e < E → prD Y s.2 l e (D e)) ∧ (E - s.1).toNat < (E - x).toNat) (fun g' => F2 (fun b j => (l + 24 ≤ b ∧ b ≤ l + 26 ∨ b = l + 37) ∧ 0 ≤ j) g g' ∧ ∀ e, 0 ≤ e → e < E → prD Y g' l e (fun q => @ite _ (FT S Y E M (Y 4 k) (Y 4 (k + 1) - Y 4 k - 1).toNat e) (Classical.propDecidable _) (dcF Y q (wsm (Y 9) (Y 6) (Y 4 k) (Y 4 (k + 1) - Y 4 k).toNat) (Y 16 (Y 5 k)) (Y 16 (Y 5 k + 1) - Y 16 (Y 5 k)).toNat (D e q)) (D e q)))) := by
        intro q' f1 f2
        rw [lt_e, e32 (x := x + 1) (by omega) (by omega)]
        refine z_some ⟨⟨by dsimp only; omega, by dsimp only; omega, Fq.trans (f1.mono (fun b j z => by unfold apE at z; omega)), fun e e0 e1 => ?_, fun e e0 e1 => ?_⟩, by dsimp only; omega⟩
        · dsimp only at e1 ⊢
          by_cases he : e = x
          · rw [he]; exact f2
          · exact (Eq e e0 (by omega)).kept (fun b j z => f1 _ _ (by unfold apE; omega))
        · dsimp only at e0 ⊢
          exact (Gq e (by omega) e1).kept (fun b j z => f1 _ _ (by unfold apE; omega))
      by_cases hf : q (l + 38) x = 0
      · have nf : ¬ FT S Y E M (Y 4 k) (Y 4 (k + 1) - Y 4 k - 1).toNat x := fun z => fx.mpr z hf
        have e1 : lp (fun (s : Int × Hp) => m_X24_apply_l208 l ly w (Y 5 k) x s.1 s.2) (Y 16 (Y 5 k), q) = some q := by
          have e2 : m_X24_apply_l208 l ly w (Y 5 k) x (Y 16 (Y 5 k)) q = some (.inr q) := by
            unfold m_X24_apply_l208
            simp only [g_X24_17 Lq hl, hf]
            rw [gd_t ⟨by decide, x0, by omega⟩, if_pos trivial]
          rw [lp_eq]
          dsimp only
          rw [e2]
        rw [e1, Option.bind_some]
        refine end_ q F2.refl ?_
        simp only [if_neg nf]
        exact dx
      · have yf := fx.mp hf
        refine z_bind (z_mono (t_body (w := w) Lq hl hly R' Tq.2.2.1 E5 x0 (by omega) sk.2.2.2.2.1 sk.2.2.2.2.2 hf dx) (fun q' hq => ?_))
        refine end_ q' hq.1 ?_
        simp only [if_pos yf, ← ew]
        exact hq.2
