set_option maxRecDepth 100000
/-! THE LAW OUT OF ITS CALLS -/
/-- a call on both sides: the same is thrown or answered, and J holds behind it -/
def OP (J : Hp → Prop) (C : Option (Int × Hp)) (T : Hp → Option (Int × Hp)) : Prop := Pz C (fun rc => Pz (T rc.2) (fun rt => rt.2 495 0 = rc.1 ∧ (rc.1 = 0 → rt.2 982 0 = rt.1) ∧ LAY rt.2 ∧ J rt.2))
theorem lcmp_self {x : Int} : lcmp_ x x = 0 := by unfold lcmp_; simp
theorem op_fin {J : Hp → Prop} {α : Type} {K : Hp → Option α} {F : Hp → Option α} {Q : α → Prop} {rc rt : Int × Hp} (e1 : rt.2 495 0 = rc.1) (e2 : rc.1 = 0 → rt.2 982 0 = rt.1) (e3 : LAY rt.2) (e4 : J rt.2) (k : ∀ h2, LAY h2 → J h2 → Pz (K h2) Q) :
    Pz ((m_X18_thrown 495 rt.2).bind fun u => if u = rc.1 then (if rc.1 ≠ 0 then K rt.2 else (gd (rt.2 982 (-2) % 16 = 4 ∧ (0 : Int) ≤ 0 ∧ 0 < rt.2 982 (-1)) (if (lcmp_ (rt.2 982 0) rt.1) = 0 then K rt.2 else F rt.2))) else F rt.2) Q := by
  unfold m_X18_thrown
  rw [Option.bind_some, if_pos e1]
  refine z_if (fun _ => k _ e3 e4) (fun hc => ?_)
  have h1 := e3.2.1 981 _ rfl
  refine z_gd ⟨by rw [show rt.2 982 (-2) = 5700 from h1.1]; decide, by decide, by rw [show rt.2 982 (-1) = 1 from h1.2]; decide⟩ ?_
  rw [e2 (Classical.not_not.mp hc), lcmp_self, if_pos rfl]
  exact k _ e3 e4
/-- what is owed of the twenty calls, J being what holds behind k calls -/
def OPS (J : Nat → Hp → Prop) : Prop := ∀ (k : Nat) (h : Hp), k < 64 → LAY h → J k h → (∀ p0 p1 p2 p3 p4 : Int, r32 p0 → r32 p1 → r32 p2 → r32 p3 → r32 p4 → OP (J (k + 1)) (m_X0_feed 1 p0 p1 p2 p3 p4 982 h) (fun h1 => m_X18_feed 495 p0 p1 p2 p3 p4 h1)) ∧ (∀ p0 : Int, r32 p0 → OP (J (k + 1)) (m_X0_end 1 p0 982 h) (fun h1 => m_X18_end 495 p0 h1)) ∧ (OP (J (k + 1)) (m_X0_font 1 982 h) (fun h1 => m_X18_font 495 h1)) ∧ (OP (J (k + 1)) (m_X0_hyphens 1 982 h) (fun h1 => m_X18_hyphens 495 h1)) ∧ (OP (J (k + 1)) (m_X0_style 1 982 h) (fun h1 => m_X18_style 495 h1)) ∧ (OP (J (k + 1)) (m_X0_source 1 982 h) (fun h1 => m_X18_source 495 h1)) ∧ (∀ p0 p1 : Int, r32 p0 → r32 p1 → OP (J (k + 1)) (m_X0_change 1 p0 p1 982 h) (fun h1 => m_X18_change 495 p0 p1 h1)) ∧ (Pz (m_X1_place 1 h) (fun v => Pz (m_X18_place 495 h) (fun rt => v = rt.1 ∧ LAY rt.2 ∧ J (k + 1) rt.2))) ∧ (∀ p0 : Int, r32 p0 → OP (J (k + 1)) (m_X0_set 1 p0 982 h) (fun h1 => m_X18_set 495 p0 h1)) ∧ (∀ p0 p1 : Int, r32 p0 → r32 p1 → OP (J (k + 1)) (m_X0_element 1 p0 p1 982 h) (fun h1 => m_X18_element 495 p0 p1 h1)) ∧ (∀ p0 : Int, r32 p0 → OP (J (k + 1)) (m_X0_count 1 p0 982 h) (fun h1 => m_X18_count 495 p0 h1)) ∧ (∀ p0 p1 : Int, r32 p0 → r32 p1 → OP (J (k + 1)) (m_X0_line 1 p0 p1 982 h) (fun h1 => m_X18_line 495 p0 p1 h1)) ∧ (∀ p0 p1 : Int, r32 p0 → r32 p1 → OP (J (k + 1)) (m_X0_spot 1 p0 p1 982 h) (fun h1 => m_X18_spot 495 p0 p1 h1)) ∧ (∀ p0 p1 : Int, r32 p0 → r32 p1 → OP (J (k + 1)) (m_X0_paragraph 1 p0 p1 982 h) (fun h1 => m_X18_paragraph 495 p0 p1 h1)) ∧ (∀ p0 : Int, r32 p0 → OP (J (k + 1)) (m_X0_judge 1 p0 982 h) (fun h1 => m_X18_judge 495 p0 h1)) ∧ (∀ p0 : Int, r32 p0 → OP (J (k + 1)) (m_X0_where 1 p0 982 h) (fun h1 => m_X18_where 495 p0 h1)) ∧ (∀ p0 p1 : Int, r32 p0 → r32 p1 → OP (J (k + 1)) (m_X0_note 1 p0 p1 982 h) (fun h1 => m_X18_note 495 p0 p1 h1)) ∧ (∀ p0 : Int, r32 p0 → OP (J (k + 1)) (m_X0_wavering 1 p0 982 h) (fun h1 => m_X18_wavering 495 p0 h1)) ∧ (∀ p0 : Int, r32 p0 → OP (J (k + 1)) (m_X0_print 1 p0 982 h) (fun h1 => m_X18_print 495 p0 h1)) ∧ (∀ p0 : Int, r32 p0 → OP (J (k + 1)) (m_X0_word 1 p0 982 h) (fun h1 => m_X18_word 495 p0 h1))
theorem law_step {J : Nat → Hp → Prop} (O : OPS J) (hJ : ∀ k h, J k h → J (k + 1) h) {sn : Int} {sc : Int → Int} {k : Nat} {h : Hp} (h1 : 6 * (k : Int) ≤ sn - 6) (h2 : sn ≤ 384) (hr : ∀ i, r32 (sc i)) (hL : LAY h) (hk : J k h) : Pz (m_L_law_l23 sn sc 1 495 982 (6 * (k : Int)) h) (sE (fun q => q.1 = 6 * ((k + 1 : Nat) : Int) ∧ LAY q.2 ∧ J (k + 1) q.2) (fun _ => False)) := by
  obtain ⟨o0, o1, o2, o3, o4, o5, o6, o7, o8, o9, o10, o11, o12, o13, o14, o15, o16, o17, o18, o19⟩ := O k h (by omega) hL hk
  unfold m_L_law_l23
  rw [e32 (x := sn - 6) (by omega) (by omega)]
  refine z_ie (by omega) (z_gd ⟨by omega, by omega⟩ ?_)
  have e1 : w32 (6 * (k : Int) + 1) = 6 * (k : Int) + 1 := e32 (by omega) (by omega)
  have e2 : w32 (6 * (k : Int) + 2) = 6 * (k : Int) + 2 := e32 (by omega) (by omega)
  have e3 : w32 (6 * (k : Int) + 3) = 6 * (k : Int) + 3 := e32 (by omega) (by omega)
  have e4 : w32 (6 * (k : Int) + 4) = 6 * (k : Int) + 4 := e32 (by omega) (by omega)
  have e5 : w32 (6 * (k : Int) + 5) = 6 * (k : Int) + 5 := e32 (by omega) (by omega)
  have g1 : 0 ≤ 6 * (k : Int) + 1 ∧ 6 * (k : Int) + 1 < sn := ⟨by omega, by omega⟩
  have g2 : 0 ≤ 6 * (k : Int) + 2 ∧ 6 * (k : Int) + 2 < sn := ⟨by omega, by omega⟩
  have g3 : 0 ≤ 6 * (k : Int) + 3 ∧ 6 * (k : Int) + 3 < sn := ⟨by omega, by omega⟩
  have g4 : 0 ≤ 6 * (k : Int) + 4 ∧ 6 * (k : Int) + 4 < sn := ⟨by omega, by omega⟩
  have g5 : 0 ≤ 6 * (k : Int) + 5 ∧ 6 * (k : Int) + 5 < sn := ⟨by omega, by omega⟩
  rw [e1, e2, e3, e4, e5]
  have jj : ∀ h2, LAY h2 → J (k + 1) h2 → Pz (m_L_law_j1281 sn sc (6 * (k : Int)) h2) (sE (fun q => q.1 = 6 * ((k + 1 : Nat) : Int) ∧ LAY q.2 ∧ J (k + 1) q.2) (fun _ => False)) := by
    intro h2 b1 b2
    unfold m_L_law_j1281
    refine z_lt (z_some ⟨?_, b1, b2⟩)
    show w32 (6 * (k : Int) + 6) = _
    rw [e32 (by omega) (by omega)]; omega
  refine z_if (fun _ => ?_) (fun _ => ?_)
  · refine z_gd g1 (z_gd g2 (z_gd g3 (z_gd g4 (z_gd g5 (z_bW (z_mono (o0 _ _ _ _ _ (hr _) (hr _) (hr _) (hr _) (hr _)) (fun rc hrc => z_gd g1 (z_gd g2 (z_gd g3 (z_gd g4 (z_gd g5 (z_bW (z_mono hrc (fun rt hrt => op_fin (F := fun h2 => some (.inr (0, h2))) hrt.1 hrt.2.1 hrt.2.2.1 hrt.2.2.2 jj))))))))))))))
  refine z_if (fun _ => ?_) (fun _ => ?_)
  · refine z_gd g1 (z_bW (z_mono (o1 _ (hr _)) (fun rc hrc => z_gd g1 (z_bW (z_mono hrc (fun rt hrt => op_fin (F := fun h2 => some (.inr (0, h2))) hrt.1 hrt.2.1 hrt.2.2.1 hrt.2.2.2 jj))))))
  refine z_if (fun _ => ?_) (fun _ => ?_)
  · refine z_bW (z_mono (o2) (fun rc hrc => z_bW (z_mono hrc (fun rt hrt => op_fin (F := fun h2 => some (.inr (0, h2))) hrt.1 hrt.2.1 hrt.2.2.1 hrt.2.2.2 jj))))
  refine z_if (fun _ => ?_) (fun _ => ?_)
  · refine z_bW (z_mono (o3) (fun rc hrc => z_bW (z_mono hrc (fun rt hrt => op_fin (F := fun h2 => some (.inr (0, h2))) hrt.1 hrt.2.1 hrt.2.2.1 hrt.2.2.2 jj))))
  refine z_if (fun _ => ?_) (fun _ => ?_)
  · refine z_bW (z_mono (o4) (fun rc hrc => z_bW (z_mono hrc (fun rt hrt => op_fin (F := fun h2 => some (.inr (0, h2))) hrt.1 hrt.2.1 hrt.2.2.1 hrt.2.2.2 jj))))
  refine z_if (fun _ => ?_) (fun _ => ?_)
  · refine z_bW (z_mono (o5) (fun rc hrc => z_bW (z_mono hrc (fun rt hrt => op_fin (F := fun h2 => some (.inr (0, h2))) hrt.1 hrt.2.1 hrt.2.2.1 hrt.2.2.2 jj))))
  refine z_if (fun _ => ?_) (fun _ => ?_)
  · refine z_gd g1 (z_gd g2 (z_bW (z_mono (o6 _ _ (hr _) (hr _)) (fun rc hrc => z_gd g1 (z_gd g2 (z_bW (z_mono hrc (fun rt hrt => op_fin (F := fun h2 => some (.inr (0, h2))) hrt.1 hrt.2.1 hrt.2.2.1 hrt.2.2.2 jj))))))))
  refine z_if (fun _ => ?_) (fun _ => ?_)
  · refine z_bind (z_mono o7 (fun v hv => z_bW (z_mono hv (fun rt hrt => ?_))))
    rw [if_pos hrt.1]
    exact jj _ hrt.2.1 hrt.2.2
  refine z_if (fun _ => ?_) (fun _ => ?_)
  · refine z_gd g1 (z_bW (z_mono (o8 _ (hr _)) (fun rc hrc => z_gd g1 (z_bW (z_mono hrc (fun rt hrt => op_fin (F := fun h2 => some (.inr (0, h2))) hrt.1 hrt.2.1 hrt.2.2.1 hrt.2.2.2 jj))))))
  refine z_if (fun _ => ?_) (fun _ => ?_)
  · refine z_gd g1 (z_gd g2 (z_bW (z_mono (o9 _ _ (hr _) (hr _)) (fun rc hrc => z_gd g1 (z_gd g2 (z_bW (z_mono hrc (fun rt hrt => op_fin (F := fun h2 => some (.inr (0, h2))) hrt.1 hrt.2.1 hrt.2.2.1 hrt.2.2.2 jj))))))))
  refine z_if (fun _ => ?_) (fun _ => ?_)
  · refine z_gd g1 (z_bW (z_mono (o10 _ (hr _)) (fun rc hrc => z_gd g1 (z_bW (z_mono hrc (fun rt hrt => op_fin (F := fun h2 => some (.inr (0, h2))) hrt.1 hrt.2.1 hrt.2.2.1 hrt.2.2.2 jj))))))
  refine z_if (fun _ => ?_) (fun _ => ?_)
  · refine z_gd g1 (z_gd g2 (z_bW (z_mono (o11 _ _ (hr _) (hr _)) (fun rc hrc => z_gd g1 (z_gd g2 (z_bW (z_mono hrc (fun rt hrt => op_fin (F := fun h2 => some (.inr (0, h2))) hrt.1 hrt.2.1 hrt.2.2.1 hrt.2.2.2 jj))))))))
  refine z_if (fun _ => ?_) (fun _ => ?_)
  · refine z_gd g1 (z_gd g2 (z_bW (z_mono (o12 _ _ (hr _) (hr _)) (fun rc hrc => z_gd g1 (z_gd g2 (z_bW (z_mono hrc (fun rt hrt => op_fin (F := fun h2 => some (.inr (0, h2))) hrt.1 hrt.2.1 hrt.2.2.1 hrt.2.2.2 jj))))))))
  refine z_if (fun _ => ?_) (fun _ => ?_)
  · refine z_gd g1 (z_gd g2 (z_bW (z_mono (o13 _ _ (hr _) (hr _)) (fun rc hrc => z_gd g1 (z_gd g2 (z_bW (z_mono hrc (fun rt hrt => op_fin (F := fun h2 => some (.inr (0, h2))) hrt.1 hrt.2.1 hrt.2.2.1 hrt.2.2.2 jj))))))))
  refine z_if (fun _ => ?_) (fun _ => ?_)
  · refine z_gd g1 (z_bW (z_mono (o14 _ (hr _)) (fun rc hrc => z_gd g1 (z_bW (z_mono hrc (fun rt hrt => op_fin (F := fun h2 => some (.inr (0, h2))) hrt.1 hrt.2.1 hrt.2.2.1 hrt.2.2.2 jj))))))
  refine z_if (fun _ => ?_) (fun _ => ?_)
  · refine z_gd g1 (z_bW (z_mono (o15 _ (hr _)) (fun rc hrc => z_gd g1 (z_bW (z_mono hrc (fun rt hrt => op_fin (F := fun h2 => some (.inr (0, h2))) hrt.1 hrt.2.1 hrt.2.2.1 hrt.2.2.2 jj))))))
  refine z_if (fun _ => ?_) (fun _ => ?_)
  · refine z_gd g1 (z_gd g2 (z_bW (z_mono (o16 _ _ (hr _) (hr _)) (fun rc hrc => z_gd g1 (z_gd g2 (z_bW (z_mono hrc (fun rt hrt => op_fin (F := fun h2 => some (.inr (0, h2))) hrt.1 hrt.2.1 hrt.2.2.1 hrt.2.2.2 jj))))))))
  refine z_if (fun _ => ?_) (fun _ => ?_)
  · refine z_gd g1 (z_bW (z_mono (o17 _ (hr _)) (fun rc hrc => z_gd g1 (z_bW (z_mono hrc (fun rt hrt => op_fin (F := fun h2 => some (.inr (0, h2))) hrt.1 hrt.2.1 hrt.2.2.1 hrt.2.2.2 jj))))))
  refine z_if (fun _ => ?_) (fun _ => ?_)
  · refine z_gd g1 (z_bW (z_mono (o18 _ (hr _)) (fun rc hrc => z_gd g1 (z_bW (z_mono hrc (fun rt hrt => op_fin (F := fun h2 => some (.inr (0, h2))) hrt.1 hrt.2.1 hrt.2.2.1 hrt.2.2.2 jj))))))
  refine z_if (fun _ => ?_) (fun _ => ?_)
  · refine z_gd g1 (z_bW (z_mono (o19 _ (hr _)) (fun rc hrc => z_gd g1 (z_bW (z_mono hrc (fun rt hrt => op_fin (F := fun h2 => some (.inr (0, h2))) hrt.1 hrt.2.1 hrt.2.2.1 hrt.2.2.2 jj))))))
  exact jj h hL (hJ k h hk)
theorem al_bind {α β : Type} {h : Hp} {K n : Int} {f : Int → Hp → Option α} {g : α → Option β} : (al h K n f).bind g = al h K n (fun a h1 => (f a h1).bind g) := by
  unfold al
  split <;> rfl
/-- what is left: the constructors, the twenty calls -/
theorem law_of {J : Nat → Hp → Prop} (O : OPS J) (hJ : ∀ k h, J k h → J (k + 1) h) (h0 : Pz (al st0 16 23 fun a0 h0 => (m_X1_init a0 h0).bind fun h4 => al h4 304 23 fun a8 h8 => (m_X18_init a8 h8).bind fun h12 => al h12 5700 1 fun a17 h17 => some (a0, a8, a17, h17)) (fun r => r.1 = 1 ∧ r.2.1 = 495 ∧ r.2.2.1 = 982 ∧ LAY r.2.2.2 ∧ J 0 r.2.2.2)) : LawTrue := by
  intro sn sc s0 s1 hr
  obtain ⟨⟨a0, a8, a17, h⟩, e, r1, r2, r3, r4, r5⟩ := h0
  dsimp only at r1 r2 r3 r4 r5
  subst r1 r2 r3
  have L : Pz (lp (fun (q : Int × Hp) => m_L_law_l23 sn sc 1 495 982 q.1 q.2) (0, h)) (fun r => r.1 = 1) := by
    refine z_lp (I := fun q => ∃ k : Nat, q.1 = 6 * (k : Int) ∧ 6 * (k : Int) ≤ sn ∧ LAY q.2 ∧ J k q.2) (μ := fun q => (sn + 6 - q.1).toNat) ⟨0, rfl, by omega, r4, r5⟩ ?_
    rintro ⟨x, g⟩ ⟨k, e1, e2, e3, e4⟩
    dsimp only at e1 e2 e3 e4
    subst e1
    by_cases hc : sn - 6 < 6 * (k : Int)
    · show Pz (m_L_law_l23 sn sc 1 495 982 (6 * (k : Int)) g) _
      unfold m_L_law_l23
      rw [e32 (x := sn - 6) (by omega) (by omega), if_pos hc]
      exact z_some rfl
    · refine z_mono (law_step O hJ (by omega) s1 hr e3 e4) (fun q hq => ?_)
      cases q with
      | inl t => exact ⟨⟨k + 1, hq.1, by omega, hq.2.1, hq.2.2⟩, by rw [hq.1]; show (sn + 6 - 6 * ((k + 1 : Nat) : Int)).toNat < (sn + 6 - 6 * (k : Int)).toNat; omega⟩
      | inr r => exact absurd hq (fun z => z)
  obtain ⟨⟨v, h'⟩, l1, l2⟩ := L
  dsimp only at l2
  subst l2
  refine ⟨h', ?_⟩
  have key : m_L_law sn sc st0 = (al st0 16 23 fun a0 h0 => (m_X1_init a0 h0).bind fun h4 => al h4 304 23 fun a8 h8 => (m_X18_init a8 h8).bind fun h12 => al h12 5700 1 fun a17 h17 => some (a0, a8, a17, h17)).bind (fun r => lp (fun (q : Int × Hp) => m_L_law_l23 sn sc r.1 r.2.1 r.2.2.1 q.1 q.2) (0, r.2.2.2)) := by
    unfold m_L_law
    rw [al_bind]
    congr 1
    funext a0 h0
    rw [Option.bind_assoc]
    congr 1
    funext h4
    rw [al_bind]
    congr 1
    funext a8 h8
    rw [Option.bind_assoc]
    congr 1
    funext h12
    rw [al_bind]
    congr 1
    funext a17 h17
    rw [Option.bind_some]
    show (lp (fun (q : Int × Hp) => m_L_law_l23 sn sc a0 a8 a17 q.1 q.2) (0, h17)).bind (fun x => some x) = _
    cases lp (fun (q : Int × Hp) => m_L_law_l23 sn sc a0 a8 a17 q.1 q.2) (0, h17) <;> rfl
  rw [key, e, Option.bind_some]
  exact l1
