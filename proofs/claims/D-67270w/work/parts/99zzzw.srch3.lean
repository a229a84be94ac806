-- needs: 99zzzv
set_option maxRecDepth 100000
/-! LINES: the component's search -/
/-- ways from behind A -/
def dnC (D h0 : Hp) (τ b A c : Int) : Int → Int → Prop := fun x y => cnd D τ (cR h0) b c x y ∧ A < x
/-- and those from A with a lesser class before -/
def dnK (D h0 : Hp) (τ b A c k : Int) : Int → Int → Prop := fun x y => cnd D τ (cR h0) b c x y ∧ (A < x ∨ (x = A ∧ y < k))
def rwW (b : Int) : Int → Int → Prop := fun q j => (q = 259 ∨ q = 260) ∧ 4 * b ≤ j ∧ j ≤ 4 * b + 3
theorem rwW_l {h h' : Hp} {b : Int} (hL : LAY h) (b0 : 0 ≤ b) (f : F2 (rwW b) h h') : LAY h' :=
  lay_W hL f _ [] rg59 rfl (fun q j z => ⟨by unfold rwW at z; omega, Or.inl ⟨_, List.mem_cons_self, by unfold rwW at z; dsimp only; omega, by unfold rwW at z; dsimp only; omega⟩⟩)
theorem c_reach {D h0 g : Hp} {P R β τ b A : Int} (hL : LAY g) (C : lnH g P R β D) (O : lnO D) (b1 : b ≤ D 6 0) (A0 : 0 ≤ A) (Ab : A < b) (ag : agR h0 g b) (T : ∀ b', 1 ≤ b' → b' < b → dpR D τ (cR h0) (cB h0) (cF h0) (cG h0) b') (hv : ∀ a c, 1 ≤ a → a < b → 0 ≤ c → c ≤ 3 → cR h0 a c → 0 ≤ cB h0 a c ∧ cB h0 a c ≤ 50000000000 * a) (al : lnA D τ A b) (E : ∀ c, 0 ≤ c → c ≤ 3 → enC D h0 g b c (dnC D h0 τ b A c)) :
    Pz (m_X28_reach P 257 A b (lnR D A b) g) (fun g' => F2 (rwW b) g g' ∧ ∀ c, 0 ≤ c → c ≤ 3 → enC D h0 g' b c (dnC D h0 τ b (A - 1) c)) := by
  have m6 := O.1
  have hR : 293 ≤ R ∧ R ≤ 423 := by have := aX15 C.2.1.1; omega
  have hP := C.2.1.2.1
  have cr : 0 ≤ lnC D A b ∧ lnC D A b ≤ 3 := clsI_r
  unfold m_X28_reach
  rw [q_class28, Option.bind_some]
  refine z_lt ?_
  rw [show clsI (lnR D A b) = lnC D A b from rfl, e32 (x := 4 * b) (by omega) (by omega), e32 (x := 4 * b + lnC D A b) (by omega) (by omega)]
  by_cases hA : A = 0
  · subst hA
    rw [if_neg (fun z => z rfl), q_cost28 hL C O (Int.le_refl _) Ab b1 (by decide) (by decide), Option.bind_some]
    have new : cnd D τ (cR h0) b (lnC D 0 b) 0 1 := ⟨Int.le_refl _, Ab, al, rfl, Or.inl ⟨rfl, rfl⟩⟩
    have ev : lnX D 0 b 1 = vlS D (cB h0) b 0 1 := by unfold vlS; rw [if_pos rfl, Int.zero_add]
    have es : (0 : Int) = sgm 0 1 := by unfold sgm; rw [if_pos rfl]
    rw [ev]
    have tk := c_take28 (P := P) (X' := dnC D h0 τ b (0 - 1) (lnC D 0 b)) hL (by omega) (by omega) cr.1 cr.2 ag T (E _ cr.1 cr.2) (fun x y z => z.1) new (fun z => by have := z.2; omega) (fun x y => by
      unfold dnC
      constructor
      · rintro ⟨z1, z2⟩
        by_cases hx : 0 < x
        · exact Or.inl ⟨z1, hx⟩
        · have x0 : x = 0 := by omega
          subst x0
          rcases z1.2.2.2.2 with z | z
          · exact Or.inr z
          · omega
      · rintro (⟨z1, z2⟩ | ⟨rfl, rfl⟩)
        · exact ⟨z1, by omega⟩
        · exact ⟨new, by decide⟩)
    rw [← es] at tk
    refine z_bind (z_mono tk (fun g' hg' => z_some ⟨hg'.1.mono (fun q j z => by unfold zkW at z; unfold rwW; omega), fun c c0 c3 => ?_⟩))
    by_cases hc : c = lnC D 0 b
    · rw [hc]; exact hg'.2
    · refine (E c c0 c3).kept (hg'.1 _ _ (fun z => by unfold zkW at z; omega)) (hg'.1 _ _ (fun z => by unfold zkW at z; omega)) (fun x y => ?_)
      unfold dnC
      constructor
      · rintro ⟨z1, z2⟩
        refine ⟨z1, ?_⟩
        by_cases hx : 0 < x
        · exact hx
        · exfalso
          have x0 : x = 0 := by omega
          subst x0
          exact hc z1.2.2.2.1.symm
      · rintro ⟨z1, z2⟩
        exact ⟨z1, by omega⟩
  rw [if_pos hA]
  refine z_lt (z_bind (z_mono (z_lp (Q := fun g' => F2 (rwW b) g g' ∧ ∀ c, 0 ≤ c → c ≤ 3 → enC D h0 g' b c (dnK D h0 τ b A c 4)) (fun (s : Int × Hp) => 0 ≤ s.1 ∧ s.1 ≤ 4 ∧ F2 (rwW b) g s.2 ∧ ∀ c, 0 ≤ c → c ≤ 3 → enC D h0 s.2 b c (dnK D h0 τ b A c s.1)) (fun s => (4 - s.1).toNat) ⟨Int.le_refl _, show (0 : Int) ≤ 4 by decide, F2.refl, fun c c0 c3 => ?_⟩ ?_) (fun g' hg' => z_some ⟨hg'.1, fun c c0 c3 => ?_⟩)))
  · refine (E c c0 c3).kept rfl rfl (fun x y => ?_)
    unfold dnK dnC
    constructor
    · rintro ⟨z1, z2⟩
      refine ⟨z1, ?_⟩
      have := z1.2.2.2.2
      dsimp only at z2
      omega
    · rintro ⟨z1, z2⟩
      exact ⟨z1, Or.inl z2⟩
  · rintro ⟨k, q⟩ ⟨x0, x1, Fq, G⟩
    dsimp only at x0 x1 G
    replace Fq : F2 (rwW b) g q := Fq
    show Pz (m_X28_reach_l36 P 257 A b (lnR D A b) (4 * b + lnC D A b) k q) _
    unfold m_X28_reach_l36
    by_cases hk : 4 ≤ k
    · rw [if_pos hk]
      have : k = 4 := by omega
      subst this
      exact z_some ⟨Fq, G⟩
    have Lq := rwW_l hL (by omega) Fq
    obtain ⟨k0, -, ⟨k4, k5, k6⟩, ⟨k7, k8, k9⟩⟩ := ly_X11 Lq
    have Cq := C.kept (h' := q) (fun j hj => Fq P j (fun z => by unfold rwW at z; omega)) (fun r r0 r1 => Fq.row (fun j z => by unfold rwW at z; omega))
    have agq : agR h0 q b := fun j hj => by rw [Fq _ _ (fun z => by unfold rwW at z; omega), Fq _ _ (fun z => by unfold rwW at z; omega)]; exact ag j hj
    rw [if_neg hk, e32 (x := 4 * A) (by omega) (by omega), e32 (x := 4 * A + k) (by omega) (by omega), lt_e, k0, k7]
    refine z_gd rfl (z_gd ⟨by rw [k8]; decide, by omega, by rw [k9]; omega⟩ ?_)
    rw [(agq (4 * A + k) (by omega)).2]
    have skip : (¬ cnd D τ (cR h0) b (lnC D A b) A k) → ∀ c, 0 ≤ c → c ≤ 3 → enC D h0 q b c (dnK D h0 τ b A c (k + 1)) := fun no c c0 c3 => (G c c0 c3).kept rfl rfl (fun x y => by
      unfold dnK
      constructor
      · rintro ⟨z1, z2⟩
        refine ⟨z1, ?_⟩
        by_cases hxy : x = A ∧ y = k
        · exfalso
          obtain ⟨rfl, rfl⟩ := hxy
          have hc := z1.2.2.2.1
          subst hc
          exact no z1
        · omega
      · rintro ⟨z1, z2⟩
        exact ⟨z1, by omega⟩)
    have next : ∀ q', F2 (rwW b) g q' → (∀ c, 0 ≤ c → c ≤ 3 → enC D h0 q' b c (dnK D h0 τ b A c (k + 1))) → Pz (m_X28_reach_j87 k q') (sE (fun (s : Int × Hp) => (0 ≤ s.1 ∧ s.1 ≤ 4 ∧ F2 (rwW b) g s.2 ∧ ∀ c, 0 ≤ c → c ≤ 3 → enC D h0 s.2 b c (dnK D h0 τ b A c s.1)) ∧ (4 - s.1).toNat < (4 - k).toNat) (fun g' => F2 (rwW b) g g' ∧ ∀ c, 0 ≤ c → c ≤ 3 → enC D h0 g' b c (dnK D h0 τ b A c 4))) := by
      intro q' F' G'
      unfold m_X28_reach_j87
      refine z_lt ?_
      rw [e32 (x := k + 1) (by omega) (by omega)]
      exact z_some ⟨⟨show 0 ≤ k + 1 by omega, show k + 1 ≤ 4 by omega, F', G'⟩, by dsimp only; omega⟩
    by_cases hr : h0 260 (4 * A + k) < 0
    · rw [if_pos hr]
      exact next q Fq (skip (fun z => by
        rcases z.2.2.2.2 with w | w
        · omega
        · have := w.2.2.2; unfold cR at this; omega))
    · rw [if_neg hr, k4]
      refine z_gd ⟨by rw [k5]; decide, by omega, by rw [k6]; omega⟩ ?_
      have rk : cR h0 A k := by unfold cR; omega
      have new : cnd D τ (cR h0) b (lnC D A b) A k := ⟨A0, Ab, al, rfl, Or.inr ⟨by omega, x0, by omega, rk⟩⟩
      have xr := lnX_r (c := k) O A0 Ab b1
      have vr := hv A k (by omega) Ab x0 (by omega) rk
      have v0 : q 259 (4 * A + k) = cB h0 A k := (agq (4 * A + k) (by omega)).1
      have ev : cB h0 A k + lnX D A b k = vlS D (cB h0) b A k := by unfold vlS; rw [if_neg hA]
      have es : 4 * A + k = sgm A k := by unfold sgm; rw [if_neg hA]
      rw [q_cost28 Lq Cq O A0 Ab b1 x0 (by omega), Option.bind_some, v0, e64 (by omega) (by omega), ev, es]
      refine z_bind (z_mono (c_take28 (P := P) (X' := dnK D h0 τ b A (lnC D A b) (k + 1)) Lq (by omega) (by omega) cr.1 cr.2 agq T (G _ cr.1 cr.2) (fun x y z => z.1) new (fun z => by have := z.2; omega) (fun x y => ?_)) (fun q' hq' => ?_))
      · unfold dnK
        constructor
        · rintro ⟨z1, z2⟩
          by_cases hxy : x = A ∧ y = k
          · exact Or.inr hxy
          · exact Or.inl ⟨z1, by omega⟩
        · rintro (⟨z1, z2⟩ | ⟨rfl, rfl⟩)
          · exact ⟨z1, by omega⟩
          · exact ⟨new, Or.inr ⟨rfl, by omega⟩⟩
      · refine next q' (Fq.trans (hq'.1.mono (fun w j z => by unfold zkW at z; unfold rwW; omega))) (fun c c0 c3 => ?_)
        by_cases hc : c = lnC D A b
        · rw [hc]; exact hq'.2
        · refine (G c c0 c3).kept (hq'.1 _ _ (fun z => by unfold zkW at z; omega)) (hq'.1 _ _ (fun z => by unfold zkW at z; omega)) (fun x y => ?_)
          unfold dnK
          constructor
          · rintro ⟨z1, z2⟩
            refine ⟨z1, ?_⟩
            by_cases hxy : x = A ∧ y = k
            · exfalso
              obtain ⟨rfl, rfl⟩ := hxy
              exact hc z1.2.2.2.1.symm
            · omega
          · rintro ⟨z1, z2⟩
            exact ⟨z1, by omega⟩
  · refine (hg'.2 c c0 c3).kept rfl rfl (fun x y => ?_)
    unfold dnK dnC
    constructor
    · rintro ⟨z1, z2⟩
      refine ⟨z1, ?_⟩
      by_cases hx : A < x
      · exact Or.inl hx
      · have := z1.2.2.2.2; omega
    · rintro ⟨z1, z2⟩
      exact ⟨z1, by omega⟩
