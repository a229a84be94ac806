-- needs: 99zzzzg
set_option maxRecDepth 100000
/-! LINES: the reference tries all -/
def upT (D h0 : Hp) (s τ b A c : Int) : Int → Int → Prop := fun x y => cnd D τ (tR h0 s) b c x y ∧ x < A
def upK (D h0 : Hp) (s τ b A c k : Int) : Int → Int → Prop := fun x y => cnd D τ (tR h0 s) b c x y ∧ (x < A ∨ (x = A ∧ y < k))
def rwT (s b : Int) : Int → Int → Prop := fun q j => (s + 136 ≤ q ∧ q ≤ s + 139 ∧ 4 * b ≤ j ∧ j ≤ 4 * b + 3) ∨ mfW s q j
theorem rwT_l {h h' : Hp} {s b : Int} (hL : LAY h) (hs : s ∈ in_aX25) (b0 : 0 ≤ b) (f : F2 (rwT s b) h h') : LAY h' :=
  lay_W hL f _ _ (rgS hs) (rgM hs) (fun q j z => by
    have hs' : 671 ≤ s ∧ s ≤ 825 := by have := aX25 hs; omega
    rcases z with z | z
    · exact ⟨by omega, Or.inl ⟨_, List.mem_cons_self, by dsimp only; omega, by dsimp only; omega⟩⟩
    · unfold mfW at z
      refine ⟨by omega, Or.inr ⟨_, List.mem_cons_self, z.1, ?_⟩⟩
      have : j = 112 ∨ j = 113 ∨ j = 114 ∨ j = 115 ∨ j = 116 ∨ j = 117 ∨ j = 118 ∨ j = 119 ∨ j = 120 := by omega
      rcases this with rfl | rfl | rfl | rfl | rfl | rfl | rfl | rfl | rfl <;> (dsimp only; decide))
theorem t_classes {D h0 g : Hp} {s τ b A : Int} (hL : LAY g) (hs : s ∈ in_aX25) (O : lnO D) (b1 : b ≤ D 6 0) (A0 : 0 ≤ A) (Ab : A < b) (ag : agT h0 g s b) (T : ∀ b', 1 ≤ b' → b' < b → dpR D τ (tR h0 s) (tB h0 s) (tF h0 s) (tG h0 s) b') (hv : ∀ a c, 1 ≤ a → a < b → 0 ≤ c → c ≤ 3 → tR h0 s a c → 0 ≤ tB h0 s a c ∧ tB h0 s a c ≤ 50000000000 * a) (al : lnA D τ A b) (m1 : g s 119 = lnC D A b) (m2 : g s 116 = lnQ D A b) (E : ∀ c, 0 ≤ c → c ≤ 3 → enT D h0 g s b c (upT D h0 s τ b A c)) :
    Pz (lp (fun (q : Int × Hp) => m_X25_tryAll_l76 s b A q.1 q.2) (0, g)) (fun g' => F2 (fun q j => s + 136 ≤ q ∧ q ≤ s + 139 ∧ 4 * b ≤ j ∧ j ≤ 4 * b + 3) g g' ∧ ∀ c, 0 ≤ c → c ≤ 3 → enT D h0 g' s b c (upT D h0 s τ b (A + 1) c)) := by
  have hs' : 671 ≤ s ∧ s ≤ 825 := by have := aX25 hs; omega
  have m6 := O.1
  have cr : 0 ≤ lnC D A b ∧ lnC D A b ≤ 3 := clsI_r
  have qr := lnQ_r O A0 Ab b1
  refine z_mono (z_lp (Q := fun g' => F2 (fun q j => s + 136 ≤ q ∧ q ≤ s + 139 ∧ 4 * b ≤ j ∧ j ≤ 4 * b + 3) g g' ∧ ∀ c, 0 ≤ c → c ≤ 3 → enT D h0 g' s b c (upK D h0 s τ b A c 4)) (fun (q : Int × Hp) => 0 ≤ q.1 ∧ q.1 ≤ 4 ∧ F2 (fun q j => s + 136 ≤ q ∧ q ≤ s + 139 ∧ 4 * b ≤ j ∧ j ≤ 4 * b + 3) g q.2 ∧ ∀ c, 0 ≤ c → c ≤ 3 → enT D h0 q.2 s b c (upK D h0 s τ b A c q.1)) (fun q => (4 - q.1).toNat) ⟨Int.le_refl _, show (0 : Int) ≤ 4 by decide, F2.refl, fun c c0 c3 => ?_⟩ ?_) (fun g' hg' => ⟨hg'.1, fun c c0 c3 => ?_⟩)
  · refine (E c c0 c3).kept (fun _ _ _ => rfl) (fun x y => ?_)
    unfold upK upT
    constructor
    · rintro ⟨z1, z2⟩
      refine ⟨z1, ?_⟩
      have := z1.2.2.2.2
      dsimp only at z2
      omega
    · rintro ⟨z1, z2⟩
      exact ⟨z1, Or.inl z2⟩
  · rintro ⟨k, q⟩ ⟨x0, x1, Fq, H⟩
    dsimp only at x0 x1 H
    replace Fq : F2 (fun q j => s + 136 ≤ q ∧ q ≤ s + 139 ∧ 4 * b ≤ j ∧ j ≤ 4 * b + 3) g q := Fq
    show Pz (m_X25_tryAll_l76 s b A k q) _
    unfold m_X25_tryAll_l76
    by_cases hk : 4 ≤ k
    · rw [if_pos hk]
      have : k = 4 := by omega
      subst this
      exact z_some ⟨Fq, H⟩
    have Lq : LAY q := seW_l hL hs Fq (fun b j z => by omega)
    have agq : agT h0 q s b := fun j hj r r0 r1 => by rw [Fq _ _ (fun z => by omega)]; exact ag j hj r r0 r1
    have q119 : q s 119 = lnC D A b := by rw [Fq _ _ (fun z => by omega)]; exact m1
    have q116 : q s 116 = lnQ D A b := by rw [Fq _ _ (fun z => by omega)]; exact m2
    have c108 := g_X25_108 Lq hs
    have c109 := g_X25_109 Lq hs
    rw [if_neg hk]
    -- not there
    have skip : (¬ cnd D τ (tR h0 s) b (lnC D A b) A k) → Pz (m_X25_tryAll_j113 s b A k 0 q) (sE (fun (w : Int × Hp) => (0 ≤ w.1 ∧ w.1 ≤ 4 ∧ F2 (fun q j => s + 136 ≤ q ∧ q ≤ s + 139 ∧ 4 * b ≤ j ∧ j ≤ 4 * b + 3) g w.2 ∧ ∀ c, 0 ≤ c → c ≤ 3 → enT D h0 w.2 s b c (upK D h0 s τ b A c w.1)) ∧ (4 - w.1).toNat < (4 - k).toNat) (fun g' => F2 (fun q j => s + 136 ≤ q ∧ q ≤ s + 139 ∧ 4 * b ≤ j ∧ j ≤ 4 * b + 3) g g' ∧ ∀ c, 0 ≤ c → c ≤ 3 → enT D h0 g' s b c (upK D h0 s τ b A c 4))) := by
      intro no
      unfold m_X25_tryAll_j113 m_X25_tryAll_j316
      rw [if_neg (fun z => z rfl)]
      refine z_lt ?_
      rw [e32 (x := k + 1) (by omega) (by omega)]
      refine z_some ⟨⟨show 0 ≤ k + 1 by omega, show k + 1 ≤ 4 by omega, Fq, fun c c0 c3 => (H c c0 c3).kept (fun _ _ _ => rfl) (fun x y => ?_)⟩, by dsimp only; omega⟩
      unfold upK
      constructor
      · rintro ⟨z1, z2⟩
        refine ⟨z1, ?_⟩
        by_cases hxy : x = A ∧ y = k
        · exfalso
          obtain ⟨rfl, rfl⟩ := hxy
          have hc := z1.2.2.2.1
          subst hc
          exact no z1
        · dsimp only at z2; omega
      · rintro ⟨z1, z2⟩
        exact ⟨z1, by dsimp only; omega⟩
    -- there
    have there : ∀ f, f ≠ 0 → cnd D τ (tR h0 s) b (lnC D A b) A k → Pz (m_X25_tryAll_j113 s b A k f q) (sE (fun (w : Int × Hp) => (0 ≤ w.1 ∧ w.1 ≤ 4 ∧ F2 (fun q j => s + 136 ≤ q ∧ q ≤ s + 139 ∧ 4 * b ≤ j ∧ j ≤ 4 * b + 3) g w.2 ∧ ∀ c, 0 ≤ c → c ≤ 3 → enT D h0 w.2 s b c (upK D h0 s τ b A c w.1)) ∧ (4 - w.1).toNat < (4 - k).toNat) (fun g' => F2 (fun q j => s + 136 ≤ q ∧ q ≤ s + 139 ∧ 4 * b ≤ j ∧ j ≤ 4 * b + 3) g g' ∧ ∀ c, 0 ≤ c → c ≤ 3 → enT D h0 g' s b c (upK D h0 s τ b A c 4))) := by
      intro f hf new
      unfold m_X25_tryAll_j113
      rw [if_pos hf]
      have go : ∀ v, v = (if A = 0 then 0 else tB h0 s A k) → 0 ≤ v → v ≤ 50000000000 * 600 → Pz (m_X25_tryAll_j144 k s b A v q) (sE (fun (w : Int × Hp) => (0 ≤ w.1 ∧ w.1 ≤ 4 ∧ F2 (fun q j => s + 136 ≤ q ∧ q ≤ s + 139 ∧ 4 * b ≤ j ∧ j ≤ 4 * b + 3) g w.2 ∧ ∀ c, 0 ≤ c → c ≤ 3 → enT D h0 w.2 s b c (upK D h0 s τ b A c w.1)) ∧ (4 - w.1).toNat < (4 - k).toNat) (fun g' => F2 (fun q j => s + 136 ≤ q ∧ q ≤ s + 139 ∧ 4 * b ≤ j ∧ j ≤ 4 * b + 3) g g' ∧ ∀ c, 0 ≤ c → c ≤ 3 → enT D h0 g' s b c (upK D h0 s τ b A c 4))) := by
        intro v hv' v0 v1
        unfold m_X25_tryAll_j144
        rw [q119, q116, e64 (x := v + lnQ D A b) (by omega) (by omega), e32 (x := k - lnC D A b) (by omega) (by omega)]
        have fin : ∀ y, 0 ≤ y → y ≤ 10000 → v + lnQ D A b + y = vlS D (tB h0 s) b A k → Pz (m_X25_tryAll_j170 s b A k (v + lnQ D A b) y q) (sE (fun (w : Int × Hp) => (0 ≤ w.1 ∧ w.1 ≤ 4 ∧ F2 (fun q j => s + 136 ≤ q ∧ q ≤ s + 139 ∧ 4 * b ≤ j ∧ j ≤ 4 * b + 3) g w.2 ∧ ∀ c, 0 ≤ c → c ≤ 3 → enT D h0 w.2 s b c (upK D h0 s τ b A c w.1)) ∧ (4 - w.1).toNat < (4 - k).toNat) (fun g' => F2 (fun q j => s + 136 ≤ q ∧ q ≤ s + 139 ∧ 4 * b ≤ j ∧ j ≤ 4 * b + 3) g g' ∧ ∀ c, 0 ≤ c → c ≤ 3 → enT D h0 g' s b c (upK D h0 s τ b A c 4))) := by
          intro y y0 y1 ey
          refine z_mono (t_try (X' := upK D h0 s τ b A (lnC D A b) (k + 1)) Lq hs (by omega) (by omega) q119 cr.1 cr.2 agq T (H _ cr.1 cr.2) (fun x y z => z.1) new (fun z => by have := z.2; omega) (fun x' y' => ?_) _ y ey (by omega)) (fun r hr => ?_)
          · unfold upK
            constructor
            · rintro ⟨z1, z2⟩
              by_cases hxy : x' = A ∧ y' = k
              · exact Or.inr hxy
              · exact Or.inl ⟨z1, by omega⟩
            · rintro (⟨z1, z2⟩ | ⟨rfl, rfl⟩)
              · exact ⟨z1, by omega⟩
              · exact ⟨new, Or.inr ⟨rfl, by omega⟩⟩
          · obtain ⟨g', rfl, F', E'⟩ := hr
            refine ⟨⟨show 0 ≤ k + 1 by omega, show k + 1 ≤ 4 by omega, Fq.trans (F'.mono (fun w j z => by unfold trW2 at z; omega)), fun c c0 c3 => ?_⟩, by dsimp only; omega⟩
            dsimp only
            by_cases hc : c = lnC D A b
            · rw [hc]; exact E'
            · refine (H c c0 c3).kept (fun r r0 r1 => F' _ _ (fun z => by unfold trW2 at z; omega)) (fun x' y' => ?_)
              unfold upK
              constructor
              · rintro ⟨z1, z2⟩
                refine ⟨z1, ?_⟩
                by_cases hxy : x' = A ∧ y' = k
                · exfalso
                  obtain ⟨rfl, rfl⟩ := hxy
                  exact hc z1.2.2.2.1.symm
                · omega
              · rintro ⟨z1, z2⟩
                exact ⟨z1, by omega⟩
        have ab : abs_ (k - lnC D A b) ≤ 1 ↔ ¬ (1 < lnC D A b - k ∨ 1 < k - lnC D A b) := by
          unfold abs_
          split
          · omega
          · rw [e32 (by omega) (by omega)]; omega
        by_cases hab : abs_ (k - lnC D A b) ≤ 1
        · rw [if_pos hab]
          refine fin 0 (Int.le_refl _) (by decide) ?_
          unfold vlS lnX
          rw [if_neg (ab.mp hab), ← hv']; omega
        · rw [if_neg hab]
          refine fin 10000 (by decide) (Int.le_refl _) ?_
          have : 1 < lnC D A b - k ∨ 1 < k - lnC D A b := by
            by_cases z : 1 < lnC D A b - k ∨ 1 < k - lnC D A b
            · exact z
            · exact absurd (ab.mpr z) hab
          unfold vlS lnX
          rw [if_pos this, ← hv']; omega
      by_cases hA : A = 0
      · rw [if_neg (fun z => z hA)]
        exact go 0 (by rw [if_pos hA]) (Int.le_refl _) (by decide)
      · rw [if_pos hA]
        have rk : tR h0 s A k := by
          rcases new.2.2.2.2 with z | z
          · omega
          · exact z.2.2.2
        have vr := hv A k (by omega) Ab x0 (by omega) rk
        have v0 : q (s + 136) (4 * A + k) = tB h0 s A k := agq _ (by omega) 136 (by decide) (by decide)
        simp only [c108]
        rw [e32 (x := 4 * A) (by omega) (by omega), e32 (x := 4 * A + k) (by omega) (by omega), v0]
        refine z_gd ⟨by decide, by omega, by omega⟩ ?_
        exact go _ (by rw [if_neg hA]) vr.1 (by omega)
    by_cases hA : A = 0
    · rw [if_neg (fun z => z hA)]
      by_cases hk1 : k = 1
      · rw [if_neg (fun z => z hk1)]
        exact there 1 (by decide) ⟨A0, Ab, al, rfl, Or.inl ⟨hA, hk1⟩⟩
      · rw [if_pos hk1]
        exact skip (fun z => by have := z.2.2.2.2; omega)
    · rw [if_pos hA]
      simp only [c109]
      rw [e32 (x := 4 * A) (by omega) (by omega), e32 (x := 4 * A + k) (by omega) (by omega), show q (s + 137) (4 * A + k) = h0 (s + 137) (4 * A + k) from agq _ (by omega) 137 (by decide) (by decide)]
      refine z_gd ⟨by decide, by omega, by omega⟩ ?_
      by_cases hr : h0 (s + 137) (4 * A + k) = 0
      · rw [hr]
        exact skip (fun z => by
          rcases z.2.2.2.2 with w | w
          · omega
          · exact w.2.2.2 hr)
      · exact there _ hr ⟨A0, Ab, al, rfl, Or.inr ⟨by omega, x0, by omega, hr⟩⟩
  · refine (hg'.2 c c0 c3).kept (fun _ _ _ => rfl) (fun x y => ?_)
    unfold upK upT
    constructor
    · rintro ⟨z1, z2⟩
      refine ⟨z1, ?_⟩
      have := z1.2.2.2.2
      omega
    · rintro ⟨z1, z2⟩
      exact ⟨z1, by omega⟩
