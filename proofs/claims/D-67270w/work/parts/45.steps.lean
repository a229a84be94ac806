/-! both readers take a step -/
theorem y_next {α β : Type} {hc ht : Hp} {a t n : Int} {B : Int → Int} {i : Int} {f : Hp → Option α} {g : Hp → Option β} {Q : α → β → Prop} (c : CS hc n B i) (d : TS ht a t n B i) (h5 : (tk B i).1 ≠ 5)
    (k : ∀ hc' ht', F2 (nxW 3) hc hc' → CS hc' n B (tk B i).2.2.1 → F2 (nxW a) ht ht' → TS ht' a t n B (tk B i).2.2.1 → Pr (f hc') (g ht') Q) : Pr ((m_X2_next 3 hc).bind f) ((m_X20_next a ht).bind g) Q :=
  yl_bind (z_mono (cs_next c h5) (fun hc' h1 => yr_bind (z_mono (ts_next d h5) (fun ht' h2 => k hc' ht' h1.1 h1.2 h2.1 h2.2))))
theorem y_num {α β : Type} {hc ht : Hp} {a t n : Int} {B : Int → Int} {i lo hi : Int} {f fe : Int → Hp → Option α} {g ge : Int → Hp → Option β} {Q : α → β → Prop} (c : CS hc n B i) (d : TS ht a t n B i)
    (k : ((tk B i).1 = 2 ∧ lo ≤ (tk B i).2.2.2 ∧ (tk B i).2.2.2 ≤ hi) → ∀ hc' ht', F2 (nxW 3) hc hc' → CS hc' n B (tk B i).2.2.1 → F2 (nxW a) ht ht' → TS ht' a t n B (tk B i).2.2.1 → Pr (f (tk B i).2.2.2 hc') (g (tk B i).2.2.2 ht') Q)
    (ke : ∀ rc rt, Thr 432 (tk B i).2.1 hc rc → Thr 448 (tk B i).2.1 ht rt → Pr (fe rc.1.2 rc.2) (ge rt.1.2 rt.2) Q) : Pr (bT (m_X2_needNumber 3 lo hi hc) f fe) (bT (m_X20_needNumber a lo hi ht) g ge) Q := by
  refine yl_bT (z_mono (cs_num c) (fun rc h1 => ?_))
  rcases h1 with ⟨p1, p2, p3, p4⟩ | ⟨p1, p2⟩
  · refine Or.inl ⟨by rw [p2], yr_bT (z_mono (ts_num d) (fun rt h2 => ?_))⟩
    rcases h2 with ⟨q1, q2, q3, q4⟩ | ⟨q1, q2⟩
    · refine Or.inl ⟨by rw [q2], ?_⟩
      rw [p2, q2]
      exact k p1 rc.2 rt.2 p3 p4 q3 q4
    · exact absurd p1 q1
  · refine Or.inr ⟨by rw [p2.1]; decide, yr_bT (z_mono (ts_num d) (fun rt h2 => ?_))⟩
    rcases h2 with ⟨q1, q2, q3, q4⟩ | ⟨q1, q2⟩
    · exact absurd q1 p1
    · exact Or.inr ⟨by rw [q2.1]; decide, ke rc rt p2 q2⟩
theorem y_need {α β : Type} {hc ht : Hp} {a t n : Int} {B : Int → Int} {i x : Int} {f fe : Int → Hp → Option α} {g ge : Int → Hp → Option β} {Q : α → β → Prop} (c : CS hc n B i) (d : TS ht a t n B i) (hx : isPl x = true)
    (k : ((tk B i).1 = 4 ∧ (tk B i).2.2.2 = x) → ∀ hc' ht', F2 (nxW 3) hc hc' → CS hc' n B (tk B i).2.2.1 → F2 (nxW a) ht ht' → TS ht' a t n B (tk B i).2.2.1 → Pr (f 0 hc') (g 0 ht') Q)
    (ke : ∀ rc rt, Thr 432 (tk B i).2.1 hc rc → Thr 448 (tk B i).2.1 ht rt → Pr (fe rc.1.2 rc.2) (ge rt.1.2 rt.2) Q) : Pr (bT (m_X2_need 3 x hc) f fe) (bT (m_X20_need a x ht) g ge) Q := by
  refine yl_bT (z_mono (cs_need c) (fun rc h1 => ?_))
  rcases h1 with ⟨p1, p2, p3, p4⟩ | ⟨p1, p2⟩
  · refine Or.inl ⟨by rw [p2], yr_bT (z_mono (ts_need d hx) (fun rt h2 => ?_))⟩
    rcases h2 with ⟨q1, q2, q3, q4⟩ | ⟨q1, q2⟩
    · refine Or.inl ⟨by rw [q2], ?_⟩
      rw [p2, q2]
      exact k p1 rc.2 rt.2 p3 p4 q3 q4
    · exact absurd p1 q1
  · refine Or.inr ⟨by rw [p2.1]; decide, yr_bT (z_mono (ts_need d hx) (fun rt h2 => ?_))⟩
    rcases h2 with ⟨q1, q2, q3, q4⟩ | ⟨q1, q2⟩
    · exact absurd q1 p1
    · exact Or.inr ⟨by rw [q2.1]; decide, ke rc rt p2 q2⟩
theorem y_one {α β : Type} {hc ht : Hp} {l t n : Int} {B : Int → Int} {i : Int} {f fe : Int → Hp → Option α} {g ge : Int → Hp → Option β} {Q : α → β → Prop} (hl : l ∈ in_aX19) (c : CS hc n B i) (d : TS ht (l + 7) t n B i)
    (k : is1 (tk B i) → ∀ hc' ht', F2 (nxW 3) hc hc' → CS hc' n B (tk B i).2.2.1 → F2 (nxW (l + 7)) ht ht' → TS ht' (l + 7) t n B (tk B i).2.2.1 → Pr (f (B ((tk B i).2.1 + 1)) hc') (g (B ((tk B i).2.1 + 1)) ht') Q)
    (ke : ∀ rc rt, Thr 432 (tk B i).2.1 hc rc → Thr 448 (tk B i).2.1 ht rt → Pr (fe rc.1.2 rc.2) (ge rt.1.2 rt.2) Q) : Pr (bT (m_X8_one 3 hc) f fe) (bT (m_X19_single l ht) g ge) Q := by
  refine yl_bT (z_mono (cs_one c) (fun rc h1 => ?_))
  rcases h1 with ⟨p1, p2, p3, p4⟩ | ⟨p1, p2⟩
  · refine Or.inl ⟨by rw [p2], yr_bT (z_mono (ts_single hl d) (fun rt h2 => ?_))⟩
    rcases h2 with ⟨q1, q2, q3, q4⟩ | ⟨q1, q2⟩
    · refine Or.inl ⟨by rw [q2], ?_⟩
      rw [p2, q2]
      exact k p1 rc.2 rt.2 p3 p4 q3 q4
    · exact absurd p1 q1
  · refine Or.inr ⟨by rw [p2.1]; decide, yr_bT (z_mono (ts_single hl d) (fun rt h2 => ?_))⟩
    rcases h2 with ⟨q1, q2, q3, q4⟩ | ⟨q1, q2⟩
    · exact absurd q1 p1
    · exact Or.inr ⟨by rw [q2.1]; decide, ke rc rt p2 q2⟩
/-- the second string of a pair: the component stays before it -/
theorem y_two {α β : Type} {hc ht : Hp} {l t n : Int} {B : Int → Int} {i : Int} {f fe : Int → Hp → Option α} {g ge : Int → Hp → Option β} {Q : α → β → Prop} (hl : l ∈ in_aX19) (c : CS hc n B i) (d : TS ht (l + 7) t n B i)
    (k : is1 (tk B i) → ∀ ht', F2 (nxW (l + 7)) ht ht' → TS ht' (l + 7) t n B (tk B i).2.2.1 → Pr (f (B ((tk B i).2.1 + 1)) hc) (g (B ((tk B i).2.1 + 1)) ht') Q)
    (ke : ∀ rc rt, Thr 432 (tk B i).2.1 hc rc → Thr 448 (tk B i).2.1 ht rt → Pr (fe rc.1.2 rc.2) (ge rt.1.2 rt.2) Q) : Pr (bT (m_X8_two 3 hc) f fe) (bT (m_X19_single l ht) g ge) Q := by
  refine yl_bT (z_mono (cs_two c) (fun rc h1 => ?_))
  rcases h1 with ⟨p1, p2⟩ | ⟨p1, p2⟩
  · refine Or.inl ⟨by rw [p2], yr_bT (z_mono (ts_single hl d) (fun rt h2 => ?_))⟩
    rcases h2 with ⟨q1, q2, q3, q4⟩ | ⟨q1, q2⟩
    · refine Or.inl ⟨by rw [q2], ?_⟩
      rw [p2, q2]
      exact k p1 rt.2 q3 q4
    · exact absurd p1 q1
  · refine Or.inr ⟨by rw [p2.1]; decide, yr_bT (z_mono (ts_single hl d) (fun rt h2 => ?_))⟩
    rcases h2 with ⟨q1, q2, q3, q4⟩ | ⟨q1, q2⟩
    · exact absurd q1 p1
    · exact Or.inr ⟨by rw [q2.1]; decide, ke rc rt p2 q2⟩
/-- thrown, with what was changed before: cells of W, new ones -/
def ThF (K p : Int) (W : Int → Int → Prop) (h : Hp) (r : (Int × Int) × Hp) : Prop := r.1.1 = 1 ∧ 0 < r.1.2 ∧ h 0 0 < r.1.2 ∧ r.2 r.1.2 (-2) = K ∧ r.2 r.1.2 0 = p ∧ F2 (fun b j => W b j ∨ nwW h b j) h r.2 ∧ r.2 0 0 = h 0 0 + 1 ∧ r.2 0 1 = h 0 1 + 7
theorem Thr.F {K p : Int} {W : Int → Int → Prop} {h h1 : Hp} {r : (Int × Int) × Hp} (z : Thr K p h1 r) (f : F2 W h h1) (w0 : ∀ j, ¬ W 0 j) : ThF K p W h r := by
  obtain ⟨z1, z2, z3, z4, z5, z6, z7, z8⟩ := z
  have e := f 0 0 (w0 0)
  have e1 := f 0 1 (w0 1)
  refine ⟨z1, z2, by rw [← e]; exact z3, z4, z5, (f.mono (fun b j y => Or.inl y)).trans (z6.mono (fun b j y => Or.inr ?_)), by rw [z7, e], by rw [z8, e1]⟩
  unfold nwW at y ⊢
  rw [e] at y
  exact y
theorem cs_put {h : Hp} {n : Int} {B : Int → Int} {i b j v : Int} (c : CS h n B i) (hb : 4 ≤ b) (hj : 0 ≤ j) (hf : fx (h b (-2)) j = false) : CS (up h b j v) n B i :=
  c.kept (W := fun x y => x = b ∧ y = j) (F2.refl.put ⟨rfl, rfl⟩) (c.1.put hj (by omega) hf) (fun y z => by have := z.1; omega) (fun y z => by have := z.1; omega) (fun y z => by have := z.1; omega)
theorem ts_put {h : Hp} {a t n : Int} {B : Int → Int} {i b j v : Int} (c : TS h a t n B i) (hb : 1 ≤ b) (ha : a ≠ b) (ht : t ≠ b) (hj : 0 ≤ j) (hf : fx (h b (-2)) j = false) : TS (up h b j v) a t n B i :=
  c.kept (W := fun x y => x = b ∧ y = j) (F2.refl.put ⟨rfl, rfl⟩) (c.1.put hj hb hf) (fun y z => ha z.1) (fun y z => ht z.1) (fun y z => by have := z.1; omega)
theorem tk_ge {h : Hp} {n : Int} {B : Int → Int} {i : Int} (c : CS h n B i) : i ≤ (tk B i).2.1 := by
  obtain ⟨hL, x, hb, rfl, A, j0, j1, rm⟩ := c
  have s0 := sc_spec (B := Bt h 2 n) (p := isBl) (i := i) (fun x hx => bt_end (by decide) hx) j1
  have e : (tk (Bt h 2 n) i).2.1 = sc (Bt h 2 n) isBl i := by
    unfold tk
    split
    · rfl
    · split
      · rfl
      · split
        · rfl
        · split <;> rfl
  rw [e]
  exact s0.2.1
