set_option maxRecDepth 100000
/-! TREES: selectors are applied: what counts -/
/-- declarations of one body, by weight w: (which, weight) of a property -/
def dcF (Y : Hp) (p w lo : Int) : Nat → Int × Int → Int × Int
  | 0, s => s
  | c + 1, s => if Y 17 (lo + c) = p ∧ (dcF Y p w lo c s).2 ≤ w then (lo + c, w) else dcF Y p w lo c s
noncomputable def slF (S Y : Hp) (E M e p : Int) : Nat → Int × Int
  | 0 => (-1, -1)
  | k + 1 => @ite _ (FT S Y E M (Y 4 k) (Y 4 (k + 1) - Y 4 k - 1).toNat e) (Classical.propDecidable _) (dcF Y p (wsm (Y 9) (Y 6) (Y 4 k) (Y 4 (k + 1) - Y 4 k).toNat) (Y 16 (Y 5 k)) (Y 16 (Y 5 k + 1) - Y 16 (Y 5 k)).toNat (slF S Y E M e p k)) (slF S Y E M e p k)
/-- an element's properties so far -/
def prD (Y h : Hp) (l e : Int) (D : Int → Int × Int) : Prop := (∀ p, 0 ≤ p → p ≤ 21 → h (l + 37) (22 * e + p) = (D p).2 ∧ (0 ≤ (D p).1 → h (l + 24) (22 * e + p) = Y 18 (D p).1)) ∧ h (l + 25) e = (if 0 ≤ (D 17).1 then Y 19 (D 17).1 else 0) ∧ h (l + 26) e = (if 0 ≤ (D 17).1 then Y 20 (D 17).1 else 0)
theorem prD.kept {Y h h' : Hp} {l e : Int} {D : Int → Int × Int} (d : prD Y h l e D) (f : ∀ b j, ((b = l + 37 ∨ b = l + 24) ∧ 22 * e ≤ j ∧ j ≤ 22 * e + 21) ∨ ((b = l + 25 ∨ b = l + 26) ∧ j = e) → h' b j = h b j) : prD Y h' l e D := by
  obtain ⟨d1, d2, d3⟩ := d
  refine ⟨fun p p0 p1 => ?_, ?_, ?_⟩
  · rw [f _ _ (Or.inl ⟨Or.inl rfl, by omega, by omega⟩), f _ _ (Or.inl ⟨Or.inr rfl, by omega, by omega⟩)]; exact d1 p p0 p1
  · rw [f _ _ (Or.inr ⟨Or.inl rfl, rfl⟩)]; exact d2
  · rw [f _ _ (Or.inr ⟨Or.inr rfl, rfl⟩)]; exact d3
/-- rows that apply writes of an element -/
def apE (l e : Int) : Int → Int → Prop := fun b j => ((b = l + 37 ∨ b = l + 24) ∧ 22 * e ≤ j ∧ j ≤ 22 * e + 21) ∨ ((b = l + 25 ∨ b = l + 26) ∧ j = e)
theorem t_body {h Y p' : Hp} {l ly a' n' N' E C ns na nsel nb nt m e w b : Int} {s' : Int → List Int} {D : Int → Int × Int} (hL : LAY h) (hl : l ∈ in_aX24) (hly : ly ∈ in_aX22) (R' : YA Y p' a' n' N' s' C ns na nsel nb nt m) (eY : ∀ k, 0 ≤ k → k ≤ 22 → h (ly + k) = Y k) (E5 : E ≤ 500) (e0 : 0 ≤ e) (e1 : e < E) (b0 : 0 ≤ b) (b1 : b < nb) (ft : h (l + 38) e ≠ 0) (d : prD Y h l e D) :
    Pz (lp (fun (q : Int × Hp) => m_X24_apply_l208 l ly w b e q.1 q.2) (Y 16 b, h)) (fun h' => F2 (apE l e) h h' ∧ prD Y h' l e (fun p => dcF Y p w (Y 16 b) (Y 16 (b + 1) - Y 16 b).toNat (D p))) := by
  have h24 := aX24 hl
  have h22 := aX22 hly
  obtain ⟨y1, y2, y3, y4, y5, y6, y7, y8, y9, y10, y11, y12⟩ := R'.2.1
  have c0 := R'.2.2.2.2.2.2.2.2.1 b b0 (by omega)
  have c1 := R'.2.2.2.2.2.2.2.2.1 (b + 1) (by omega) (by omega)
  have c2 := R'.2.2.2.2.2.2.2.2.2.1 b b0 b1
  have dc := R'.2.2.2.2.2.2.2.2.2.2.1
  refine z_lp (fun (s : Int × Hp) => Y 16 b ≤ s.1 ∧ s.1 ≤ Y 16 (b + 1) ∧ F2 (apE l e) h s.2 ∧ prD Y s.2 l e (fun p => dcF Y p w (Y 16 b) (s.1 - Y 16 b).toNat (D p))) (fun s => (Y 16 (b + 1) - s.1).toNat) ⟨Int.le_refl _, c2, F2.refl, by dsimp only; rw [Int.sub_self]; exact d⟩ ?_
  rintro ⟨x, q⟩ ⟨x0, x1, Fq, Dq⟩
  dsimp only at x0 x1 Dq
  replace Fq : F2 (apE l e) h q := Fq
  have Lq : LAY q := trW_l hL hl (Fq.mono (fun b j z => by unfold apE at z; unfold trW crW; omega))
  have qY : ∀ k, 0 ≤ k → k ≤ 22 → q (ly + k) = Y k := fun k k0 k1 => by
    rw [← eY k k0 k1]; exact Fq.row (fun j z => by unfold apE at z; omega)
  have qf : q (l + 38) e ≠ 0 := by rw [Fq _ _ (by unfold apE; omega)]; exact ft
  have q16 : q (ly + 16) (b + 1) = Y 16 (b + 1) := by rw [qY 16 (by decide) (by decide)]
  have k21 := g_X22_21 Lq hly
  show Pz (m_X24_apply_l208 l ly w b e x q) _
  unfold m_X24_apply_l208
  simp only [g_X24_17 Lq hl, k21.1, k21.2.1, k21.2.2]
  rw [e32 (x := b + 1) (by omega) (by omega), q16]
  refine z_gd ⟨by decide, e0, by omega⟩ (z_ie qf (z_gd ⟨by decide, by omega, by omega⟩ ?_))
  by_cases hx : Y 16 (b + 1) ≤ x
  · have : x = Y 16 (b + 1) := by omega
    subst this
    exact z_it hx (z_some ⟨Fq, Dq⟩)
  · refine z_ie hx ?_
    have dx := dc x (by omega) (by omega)
    obtain ⟨dd1, dd2, dd3, -⟩ := dx
    rw [dd1] at dd2 dd3
    have k22 := g_X22_22 Lq hly
    have q17 : q (ly + 17) x = Y 17 x := by rw [qY 17 (by decide) (by decide)]
    simp only [k22.1, k22.2.1, k22.2.2, q17]
    refine z_gd ⟨by decide, by omega, by omega⟩ (z_lt ?_)
    rw [e32 (x := 22 * e) (by omega) (by omega), e32 (x := 22 * e + Y 17 x) (by omega) (by omega)]
    obtain ⟨D1, D2, D3⟩ := Dq
    have W := D1 (Y 17 x) dd2 dd3
    dsimp only at W D2 D3
    have tx : (x + 1 - Y 16 b).toNat = (x - Y 16 b).toNat + 1 := by omega
    have ex : Y 16 b + (((x - Y 16 b).toNat : Nat) : Int) = x := by omega
    have st : ∀ p, dcF Y p w (Y 16 b) (x + 1 - Y 16 b).toNat (D p) = if Y 17 x = p ∧ (dcF Y p w (Y 16 b) (x - Y 16 b).toNat (D p)).2 ≤ w then (x, w) else dcF Y p w (Y 16 b) (x - Y 16 b).toNat (D p) := fun p => by
      rw [tx]
      show (if Y 17 (Y 16 b + (((x - Y 16 b).toNat : Nat) : Int)) = p ∧ _ then (Y 16 b + (((x - Y 16 b).toNat : Nat) : Int), w) else _) = _
      rw [ex]
    have out : ∀ q', F2 (apE l e) q q' → prD Y q' l e (fun p => dcF Y p w (Y 16 b) (x + 1 - Y 16 b).toNat (D p)) → Pz (m_X24_apply_j323 x q') (sE (fun s => (Y 16 b ≤ s.1 ∧ s.1 ≤ Y 16 (b + 1) ∧ F2 (apE l e) h s.2 ∧ prD Y s.2 l e (fun p => dcF Y p w (Y 16 b) (s.1 - Y 16 b).toNat (D p))) ∧ (Y 16 (b + 1) - s.1).toNat < (Y 16 (b + 1) - x).toNat) (fun h' => F2 (apE l e) h h' ∧ prD Y h' l e (fun p => dcF Y p w (Y 16 b) (Y 16 (b + 1) - Y 16 b).toNat (D p)))) := by
      intro q' f1 f2
      unfold m_X24_apply_j323
      rw [lt_e, e32 (x := x + 1) (by omega) (by omega)]
      exact z_some ⟨⟨by dsimp only; omega, by dsimp only; omega, Fq.trans f1, f2⟩, by dsimp only; omega⟩
    simp only [g_X24_16 Lq hl, W.1]
    refine z_gd ⟨by decide, by omega, by omega⟩ ?_
    by_cases hw : (dcF Y (Y 17 x) w (Y 16 b) (x - Y 16 b).toNat (D (Y 17 x))).2 ≤ w
    · refine z_it hw (z_pt ?_)
      have k23 := g_X22_23 Lq hly
      have q18 : q (ly + 18) x = Y 18 x := by rw [qY 18 (by decide) (by decide)]
      have k24 := g_X22_24 Lq hly
      have q19 : q (ly + 19) x = Y 19 x := by rw [qY 19 (by decide) (by decide)]
      have k25 := g_X22_25 Lq hly
      have q20 : q (ly + 20) x = Y 20 x := by rw [qY 20 (by decide) (by decide)]
      (try simp (disch := omega) only [up_a, up_e, up_j, e32, e8, k23.1, k23.2.1, k23.2.2, g_X24_3 Lq hl, q18])
      refine z_gd ⟨by decide, by omega, by omega⟩ (z_gd ⟨by decide, by omega, by omega⟩ (z_pt ?_))
      (try simp (disch := omega) only [up_a, up_e, up_j, e32, e8, k22.1, k22.2.1, k22.2.2, q17])
      refine z_gd ⟨by decide, by omega, by omega⟩ ?_
      have W17 : ∀ p, 0 ≤ p → p ≤ 21 → p ≠ Y 17 x → up (up q (l + 37) (22 * e + Y 17 x) w) (l + 24) (22 * e + Y 17 x) (Y 18 x) (l + 37) (22 * e + p) = q (l + 37) (22 * e + p) ∧ up (up q (l + 37) (22 * e + Y 17 x) w) (l + 24) (22 * e + Y 17 x) (Y 18 x) (l + 24) (22 * e + p) = q (l + 24) (22 * e + p) := fun p p0 p1 hp => by
        rw [up_i (by omega), up_i (by omega), up_i (by omega), up_i (by omega)]; exact ⟨rfl, rfl⟩
      have V37 : up (up q (l + 37) (22 * e + Y 17 x) w) (l + 24) (22 * e + Y 17 x) (Y 18 x) (l + 37) (22 * e + Y 17 x) = w := by (try simp (disch := omega) only [up_a, up_e, up_j, e32, e8])
      have V24 : up (up q (l + 37) (22 * e + Y 17 x) w) (l + 24) (22 * e + Y 17 x) (Y 18 x) (l + 24) (22 * e + Y 17 x) = Y 18 x := up_s _ _ _ _
      have FG : F2 (apE l e) q (up (up q (l + 37) (22 * e + Y 17 x) w) (l + 24) (22 * e + Y 17 x) (Y 18 x)) := (F2.refl.put (by unfold apE; omega)).put (by unfold apE; omega)
      have V25 : up (up q (l + 37) (22 * e + Y 17 x) w) (l + 24) (22 * e + Y 17 x) (Y 18 x) (l + 25) e = q (l + 25) e := by (try simp (disch := omega) only [up_a, up_e, up_j, e32, e8])
      have V26 : up (up q (l + 37) (22 * e + Y 17 x) w) (l + 24) (22 * e + Y 17 x) (Y 18 x) (l + 26) e = q (l + 26) e := by (try simp (disch := omega) only [up_a, up_e, up_j, e32, e8])
      have LG : LAY (up (up q (l + 37) (22 * e + Y 17 x) w) (l + 24) (22 * e + Y 17 x) (Y 18 x)) := trW_l Lq hl (FG.mono (fun b j z => by unfold apE at z; unfold trW crW; omega))
      have VY : ∀ k, 0 ≤ k → k ≤ 22 → up (up q (l + 37) (22 * e + Y 17 x) w) (l + 24) (22 * e + Y 17 x) (Y 18 x) (ly + k) = Y k := fun k k0 k1 => by rw [up_row (by omega), up_row (by omega)]; exact qY k k0 k1
      generalize up (up q (l + 37) (22 * e + Y 17 x) w) (l + 24) (22 * e + Y 17 x) (Y 18 x) = g at *
      have PR : ∀ p, 0 ≤ p → p ≤ 21 → g (l + 37) (22 * e + p) = (dcF Y p w (Y 16 b) (x + 1 - Y 16 b).toNat (D p)).2 ∧ (0 ≤ (dcF Y p w (Y 16 b) (x + 1 - Y 16 b).toNat (D p)).1 → g (l + 24) (22 * e + p) = Y 18 (dcF Y p w (Y 16 b) (x + 1 - Y 16 b).toNat (D p)).1) := fun p p0 p1 => by
        rw [st p]
        by_cases hp : p = Y 17 x
        · subst hp
          rw [if_pos ⟨rfl, hw⟩]
          exact ⟨V37, fun _ => V24⟩
        · rw [if_neg (fun z => hp z.1.symm), (W17 p p0 p1 hp).1, (W17 p p0 p1 hp).2]
          exact D1 p p0 p1
      by_cases h17 : Y 17 x = 17
      · refine z_ie (fun z => z h17) ?_
        have k25 := g_X22_25 LG hly
        have q20 : g (ly + 20) x = Y 20 x := by rw [VY 20 (by decide) (by decide)]
        simp only [k24.1, k24.2.1, k24.2.2, q19, g_X24_4 Lq hl]
        refine z_gd ⟨by decide, by omega, by omega⟩ (z_gd ⟨by decide, e0, by omega⟩ (z_pt ?_))
        (try simp (disch := omega) only [up_a, up_e, up_j, e32, e8, k25.1, k25.2.1, k25.2.2, q20, g_X24_5 LG hl])
        refine z_gd ⟨by decide, by omega, by omega⟩ (z_gd ⟨by decide, e0, by omega⟩ (z_pt (out _ ?_ ⟨fun p p0 p1 => ?_, ?_, ?_⟩)))
        · exact (FG.put (by unfold apE; omega)).put (by unfold apE; omega)
        · rw [up_a (by omega), up_a (by omega), up_a (by omega), up_a (by omega)]; exact PR p p0 p1
        · have e17 := st 17
          rw [if_pos ⟨h17, by rw [← h17]; exact hw⟩] at e17
          simp only [e17]
          rw [if_pos (show 0 ≤ x by omega), up_a (by omega), up_s]
        · have e17 := st 17
          rw [if_pos ⟨h17, by rw [← h17]; exact hw⟩] at e17
          simp only [e17]
          rw [if_pos (show 0 ≤ x by omega), up_s]
      · refine z_it h17 (out _ FG ⟨PR, ?_, ?_⟩)
        · have e17 := st 17
          rw [if_neg (fun z => h17 z.1)] at e17
          simp only [e17]
          rw [V25]; exact D2
        · have e17 := st 17
          rw [if_neg (fun z => h17 z.1)] at e17
          simp only [e17]
          rw [V26]; exact D3
    · refine z_ie hw (out q F2.refl ⟨fun p p0 p1 => ?_, ?_, ?_⟩)
      · dsimp only
        rw [st p]
        by_cases hp : p = Y 17 x
        · subst hp
          rw [if_neg (fun z => hw z.2)]; exact D1 _ p0 p1
        · rw [if_neg (fun z => hp z.1.symm)]; exact D1 p p0 p1
      · have e17 := st 17
        rw [if_neg (fun z => hw (by rw [z.1]; exact z.2))] at e17
        simp only [e17]; exact D2
      · have e17 := st 17
        rw [if_neg (fun z => hw (by rw [z.1]; exact z.2))] at e17
        simp only [e17]; exact D3
