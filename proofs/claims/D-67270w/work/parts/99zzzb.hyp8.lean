-- needs: 99zzza
set_option maxRecDepth 100000
/-! HYPHENS: the reference's places, all of it -/
def hyB (h : Hp) (l np : Int) (sg : Int → List Int) (dt : Int → Int → Int) : Prop := HYt h l np sg dt ∧ (∀ p, 0 ≤ p → p < np → ∀ i, 0 ≤ dtT (sg p) (dt p) i ∧ dtT (sg p) (dt p) i ≤ 9) ∧ (0 ≤ h l 3 ∧ h l 3 ≤ 60 ∧ ∀ e, 0 ≤ e → e < h l 3 → (1 ≤ h (l + 5) e ∧ h (l + 5) e ≤ 30) ∧ ∀ j, 0 ≤ j → j < h (l + 5) e → h (l + 6) (31 * e + j) = 0 ∨ h (l + 6) (31 * e + j) = 1) ∧ (1 ≤ h l 0 ∧ h l 0 ≤ 9 ∧ 1 ≤ h l 1 ∧ h l 1 ≤ 9)
theorem HYt.kept2 {h h' : Hp} {l np : Int} {sg : Int → List Int} {dt : Int → Int → Int} (H : HYt h l np sg dt) (e : ∀ b, l ≤ b → b ≤ l + 6 → h' b = h b) : HYt h' l np sg dt := by
  unfold HYt wd at *
  rw [e l (by omega) (by omega), e (l + 1) (by omega) (by omega), e (l + 2) (by omega) (by omega), e (l + 3) (by omega) (by omega)]
  exact H
theorem hyB.kept {h h' : Hp} {l np : Int} {sg : Int → List Int} {dt : Int → Int → Int} (H : hyB h l np sg dt) (e : ∀ b, l ≤ b → b ≤ l + 6 → h' b = h b) : hyB h' l np sg dt := by
  obtain ⟨a, b, c, d⟩ := H
  refine ⟨a.kept2 e, b, ?_, ?_⟩
  · rw [e l (by omega) (by omega), e (l + 5) (by omega) (by omega), e (l + 6) (by omega) (by omega)]; exact c
  · rw [e l (by omega) (by omega)]; exact d
/-- is a word an exception? -/
theorem t_exc {h : Hp} {l np n e r f : Int} {sg : Int → List Int} {dt : Int → Int → Int} {q : Int → Int} (hL : LAY h) (hl : l ∈ in_aX21) (H : hyB h l np sg dt) (n0 : 0 ≤ n) (n1 : n ≤ 24000)
    (kr : h r (-2) % 16 = 2) (lr : f + n ≤ h r (-1)) (f0 : 0 ≤ f) (fn : f + n ≤ 30000) (W : wdQ h r f n q) (e0 : 0 ≤ e) (e1 : e < h l 3) (en : h (l + 5) e = n) :
    Pz (lp (fun (z : Int × Int) => m_X21_places_l62 l r f n e z.1 z.2 h) (1, 0)) (fun y => is01 y (exM (vw h l) q n e)) := by
  have h21 := aX21 hl
  obtain ⟨-, -, ⟨x0, x1, x2⟩, -⟩ := H
  obtain ⟨⟨x3, x4⟩, x5⟩ := x2 e e0 e1
  obtain ⟨-, -, -, -, k7, -⟩ := ly_X21 hL hl
  refine z_lp (fun (z : Int × Int) => 0 ≤ z.2 ∧ z.2 ≤ n ∧ is01 z.1 (∀ j, 0 ≤ j → j < z.2 → h (l + 4) (30 * e + j) = q j + 96)) (fun z => (n - z.2).toNat) ⟨Int.le_refl _, n0, Or.inl ⟨rfl, fun j j0 j1 => by dsimp only at j1; omega⟩⟩ ?_
  rintro ⟨y, x⟩ ⟨v0, v1, hy⟩
  dsimp only at v0 v1 hy
  show Pz (m_X21_places_l62 l r f n e y x h) _
  unfold m_X21_places_l62
  by_cases hx : n ≤ x
  · rw [if_pos hx]
    have : x = n := by omega
    subst this
    refine z_some ?_
    rcases hy with ⟨y1, y2⟩ | ⟨y1, y2⟩
    · exact Or.inl ⟨y1, en, y2⟩
    · exact Or.inr ⟨y1, fun z => y2 z.2⟩
  rw [if_neg hx]
  unfold m_X21_places_j103 m_X21_places_j104
  rcases hy with ⟨y1, y2⟩ | ⟨y1, y2⟩
  rotate_left
  · rw [if_pos y1]
    refine z_lt ?_
    rw [e32 (x := x + 1) (by omega) (by omega)]
    exact z_some ⟨⟨show 0 ≤ x + 1 by omega, show x + 1 ≤ n by omega, Or.inr ⟨rfl, fun z => y2 (fun j j0 j1 => z j j0 (by dsimp only; omega))⟩⟩, by dsimp only; omega⟩
  obtain ⟨w1, w2, w3, w4⟩ := W x v0 (by omega)
  simp only [k7]
  rw [if_neg (by omega), e32 (x := f + x) (by omega) (by omega), e32 (x := 30 * e) (by omega) (by omega), e32 (x := 30 * e + x) (by omega) (by omega)]
  refine z_gd ⟨kr, by omega, by omega⟩ ?_
  rw [q_X18_small (by omega), Option.bind_some, w2]
  refine z_gd ⟨by decide, by omega, by omega⟩ ?_
  refine z_if (fun hc => z_lt ?_) (fun hc => z_lt ?_) <;> rw [e32 (x := x + 1) (by omega) (by omega)]
  · exact z_some ⟨⟨show 0 ≤ x + 1 by omega, show x + 1 ≤ n by omega, Or.inr ⟨rfl, fun z => hc (z x v0 (by dsimp only; omega)).symm⟩⟩, by dsimp only; omega⟩
  · refine z_some ⟨⟨show 0 ≤ x + 1 by omega, show x + 1 ≤ n by omega, Or.inl ⟨rfl, fun j j0 j1 => ?_⟩⟩, by dsimp only; omega⟩
    dsimp only at j1
    by_cases hj : j = x
    · rw [hj]; omega
    · exact y2 j j0 (by omega)
theorem t_places {h : Hp} {l np n r f d : Int} {sg : Int → List Int} {dt : Int → Int → Int} {q : Int → Int} (hL : LAY h) (hl : l ∈ in_aX21) (H : hyB h l np sg dt) (n0 : 1 ≤ n) (n1 : n ≤ 24000)
    (kr : h r (-2) % 16 = 2) (lr : f + n ≤ h r (-1)) (f0 : 0 ≤ f) (fn : f + n ≤ 30000) (W : wdQ h r f n q) (hd : d = 802 ∨ d = 956) (hr : r ≠ d) (ld : f + n < 24016) :
    Pz (m_X21_places l r f (f + n) d h) (fun h' => F2 (fun b j => b = d ∧ f ≤ j ∧ j ≤ f + n) h h' ∧ ∀ k, 0 ≤ k → k ≤ n → is01 (h' d (f + k)) (hyP (vw h l) np sg dt q n k)) := by
  have h21 := aX21 hl
  have hkd : ∀ {g : Hp}, LAY g → g d (-2) % 16 = 3 ∧ g d (-1) = 24016 := fun Lg => by
    rcases hd with rfl | rfl
    · have := g_X25_102 Lg (show (671 : Int) ∈ in_aX25 by decide)
      rw [show (671 : Int) + 131 = 802 from rfl] at this
      exact ⟨by rw [this.2.1]; decide, this.2.2⟩
    · have := g_X25_102 Lg (show (825 : Int) ∈ in_aX25 by decide)
      rw [show (825 : Int) + 131 = 956 from rfl] at this
      exact ⟨by rw [this.2.1]; decide, this.2.2⟩
  have hlay : ∀ {g g' : Hp}, LAY g → F2 (fun b j => b = d ∧ f ≤ j ∧ j ≤ f + n) g g' → LAY g' := fun Lg F => lay_W Lg F [(d, d)] [] (by rcases hd with rfl | rfl <;> decide) rfl (fun b j z => ⟨by omega, Or.inl ⟨_, List.mem_cons_self, by dsimp only; omega, by dsimp only; omega⟩⟩)
  unfold m_X21_places
  refine z_lt ?_
  rw [e32 (x := f + n - f) (by omega) (by omega), show f + n - f = n by omega]
  refine z_lt (z_bind (z_mono (z_lp (Q := fun g => F2 (fun b j => b = d ∧ f ≤ j ∧ j ≤ f + n) h g ∧ ∀ k, 0 ≤ k → k ≤ n → g d (f + k) = 0) (fun (s : Int × Hp) => 0 ≤ s.1 ∧ s.1 ≤ n + 1 ∧ F2 (fun b j => b = d ∧ f ≤ j ∧ j ≤ f + n) h s.2 ∧ ∀ k, 0 ≤ k → k < s.1 → s.2 d (f + k) = 0) (fun s => (n + 1 - s.1).toNat) ⟨Int.le_refl _, by dsimp only; omega, F2.refl, fun k k0 k1 => by dsimp only at k1; omega⟩ ?_) (fun h1 hh1 => ?_)))
  · rintro ⟨x, g⟩ ⟨x0, x1, Fg, G⟩
    dsimp only at x0 x1 G
    replace Fg : F2 (fun b j => b = d ∧ f ≤ j ∧ j ≤ f + n) h g := Fg
    show Pz (m_X21_places_l8 f d n x g) _
    unfold m_X21_places_l8
    by_cases hx : n < x
    · rw [if_pos hx]
      exact z_some ⟨Fg, fun k k0 k1 => G k k0 (by omega)⟩
    have kg := hkd (hlay hL Fg)
    rw [if_neg hx, e32 (x := f + x) (by omega) (by omega)]
    refine z_gd ⟨kg.1, by omega, by omega⟩ (z_pt (z_lt ?_))
    rw [e32 (x := x + 1) (by omega) (by omega)]
    refine z_some ⟨⟨show 0 ≤ x + 1 by omega, show x + 1 ≤ n + 1 by omega, Fg.put ⟨rfl, by omega, by omega⟩, fun k k0 k1 => ?_⟩, by dsimp only; omega⟩
    dsimp only at k1 ⊢
    by_cases hk : k = x
    · rw [hk, up_s]
    · rw [up_j (by omega)]; exact G k k0 (by omega)
  obtain ⟨F1, Z1⟩ := hh1
  have L1 := hlay hL F1
  have row1 : ∀ b, b ≠ d → h1 b = h b := fun b hb => F1.row (fun j z => hb z.1)
  have H1 : hyB h1 l np sg dt := H.kept (fun b b0 b1 => row1 b (by omega))
  have V1 : ∀ b, 0 ≤ b → b ≤ 6 → vw h1 l b = vw h l b := fun b b0 b1 => row1 _ (by omega)
  have W1 : wdQ h1 r f n q := by unfold wdQ; rw [row1 r hr]; exact W
  have eM : ∀ e, exM (vw h1 l) q n e ↔ exM (vw h l) q n e := fun e => by unfold exM; rw [V1 5 (by decide) (by decide), V1 4 (by decide) (by decide)]
  obtain ⟨b1, b2, ⟨x0, x1, x2⟩, y0, y1, y2, y3⟩ := id H1
  have v0 : vw h l 0 = h1 l := by rw [← V1 0 (by decide) (by decide)]; exact vw_0
  have v6 : vw h l 6 = h1 (l + 6) := by rw [← V1 6 (by decide) (by decide)]; rfl
  refine z_lt (z_bind (z_mono (z_lp (Q := sE (fun (_ : Unit) => ∀ e, 0 ≤ e → e < h1 l 3 → ¬ exM (vw h l) q n e) (fun e => 0 ≤ e ∧ e < h1 l 3 ∧ exM (vw h l) q n e ∧ ∀ e', 0 ≤ e' → e' < e → ¬ exM (vw h l) q n e')) (fun (e : Int) => 0 ≤ e ∧ e ≤ h1 l 3 ∧ ∀ e', 0 ≤ e' → e' < e → ¬ exM (vw h l) q n e') (fun e => (h1 l 3 - e).toNat) ⟨Int.le_refl _, x0, fun e' z0 z1 => by omega⟩ ?_) (fun r0 hr0 => ?_)))
  · rintro e ⟨e0, e1, E⟩
    show Pz (m_X21_places_l32 l r f n e h1) _
    unfold m_X21_places_l32
    by_cases he : h1 l 3 ≤ e
    · rw [if_pos he]
      exact z_some (fun e' z0 z1 => E e' z0 (by omega))
    obtain ⟨-, -, -, -, -, k8, -⟩ := ly_X21 L1 hl
    rw [if_neg he]
    simp only [k8]
    refine z_gd ⟨by decide, e0, by omega⟩ ?_
    have next : ¬ exM (vw h l) q n e → Pz (m_X21_places_j183 e) (sE (fun (e' : Int) => (0 ≤ e' ∧ e' ≤ h1 l 3 ∧ ∀ e'', 0 ≤ e'' → e'' < e' → ¬ exM (vw h l) q n e'') ∧ (h1 l 3 - e').toNat < (h1 l 3 - e).toNat) (sE (fun (_ : Unit) => ∀ e, 0 ≤ e → e < h1 l 3 → ¬ exM (vw h l) q n e) (fun e => 0 ≤ e ∧ e < h1 l 3 ∧ exM (vw h l) q n e ∧ ∀ e', 0 ≤ e' → e' < e → ¬ exM (vw h l) q n e'))) := by
      intro no
      unfold m_X21_places_j183
      refine z_lt ?_
      rw [e32 (x := e + 1) (by omega) (by omega)]
      refine z_some ⟨⟨by omega, by omega, fun e' z0 z1 => ?_⟩, by omega⟩
      by_cases h' : e' = e
      · rw [h']; exact no
      · exact E e' z0 (by omega)
    by_cases hn : h1 (l + 5) e = n
    · rw [if_pos hn]
      refine z_lt (z_lt (z_bind (z_mono (t_exc L1 hl H1 (by omega) n1 (by rw [row1 r hr]; exact kr) (by rw [row1 r hr]; exact lr) f0 fn W1 e0 (by omega) hn) (fun y hy => ?_))))
      rw [eM] at hy
      rcases hy with ⟨z1, z2⟩ | ⟨z1, z2⟩
      · rw [if_neg (by omega)]
        exact z_some ⟨e0, by omega, z2, E⟩
      · rw [if_pos z1]
        exact next z2
    · rw [if_neg hn]
      refine next (fun z => hn ?_)
      have := z.1
      rw [← V1 5 (by decide) (by decide)] at this
      exact this
  -- the two ends
  have ends : ∀ (F : Int × Hp → Option ((Int × Hp) ⊕ Hp)), (∀ x g, 1 ≤ x → x < n → F2 (fun b j => b = d ∧ f ≤ j ∧ j ≤ f + n) h1 g → g d (f + x) = 0 → ∃ g', F (x, g) = some (.inl (x + 1, g')) ∧ F2 (fun b j => b = d ∧ j = f + x) g g' ∧ is01 (g' d (f + x)) (hyP (vw h l) np sg dt q n x)) → (∀ g, F (n, g) = some (.inr g)) → Pz (lp F (1, h1)) (fun h' => F2 (fun b j => b = d ∧ f ≤ j ∧ j ≤ f + n) h h' ∧ ∀ k, 0 ≤ k → k ≤ n → is01 (h' d (f + k)) (hyP (vw h l) np sg dt q n k)) := by
    intro F body fin
    refine z_lp (fun (s : Int × Hp) => 1 ≤ s.1 ∧ s.1 ≤ n ∧ F2 (fun b j => b = d ∧ f ≤ j ∧ j ≤ f + n) h1 s.2 ∧ (∀ k, 0 ≤ k → k < s.1 → is01 (s.2 d (f + k)) (hyP (vw h l) np sg dt q n k)) ∧ ∀ k, s.1 ≤ k → k ≤ n → s.2 d (f + k) = 0) (fun s => (n - s.1).toNat) ⟨Int.le_refl _, n0, F2.refl, fun k k0 k1 => ?_, fun k k0 k1 => Z1 k (by dsimp only at k0; omega) k1⟩ ?_
    · dsimp only at k1 ⊢
      exact Or.inr ⟨Z1 k k0 (by omega), fun z => by have := z.1; omega⟩
    · rintro ⟨x, g⟩ ⟨v0, v1, Fg, G, G2⟩
      dsimp only at v0 v1 G G2
      replace Fg : F2 (fun b j => b = d ∧ f ≤ j ∧ j ≤ f + n) h1 g := Fg
      by_cases hx : x = n
      · subst hx
        rw [fin g]
        refine z_some ⟨F1.trans Fg, fun k k0 k1 => ?_⟩
        by_cases hk : k = x
        · rw [hk]; exact Or.inr ⟨G2 x (Int.le_refl _) (Int.le_refl _), fun z => by have := z.2.1; omega⟩
        · exact G k k0 (by omega)
      · obtain ⟨g', e1, e2, e3⟩ := body x g v0 (by omega) Fg (G2 x (Int.le_refl _) v1)
        rw [e1]
        refine z_some ⟨⟨show 1 ≤ x + 1 by omega, show x + 1 ≤ n by omega, Fg.trans (e2.mono (fun b j z => ⟨z.1, by omega, by omega⟩)), fun k k0 k1 => ?_, fun k k0 k1 => ?_⟩, by dsimp only; omega⟩
        · dsimp only at k1 ⊢
          by_cases hk : k = x
          · rw [hk]; exact e3
          · rw [e2 _ _ (fun z => by omega)]; exact G k k0 (by omega)
        · dsimp only at k0 ⊢
          rw [e2 _ _ (fun z => by omega)]; exact G2 k (by omega) k1
  cases r0 with
  | inl u =>
    replace hr0 : ∀ e, 0 ≤ e → e < h1 l 3 → ¬ exM (vw h l) q n e := hr0
    simp only [sE]
    refine z_lt (z_bind (z_mono (ends _ (fun x g v0' v1' Fg e0 => ?_) (fun g => ?_)) (fun h' hh => z_some hh)))
    · show ∃ g', m_X21_places_l192 l r f d n x g = _ ∧ _
      have Lg := hlay L1 Fg
      have rg : ∀ b, b ≠ d → g b = h1 b := fun b hb => Fg.row (fun j z => hb z.1)
      have Hg : hyB g l np sg dt := H1.kept (fun b b0 b1 => rg b (by omega))
      have kg := hkd Lg
      obtain ⟨M, eM', hM⟩ := t_greatest (n := n) (k := x) (r := r) (f := f) (q := q) Lg hl Hg.1 Hg.2.1 n1 (by rw [rg r hr, row1 r hr]; exact kr) (by rw [rg r hr, row1 r hr]; exact lr) f0 fn (by unfold wdQ; rw [rg r hr]; exact W1) v0' v1'
      unfold m_X21_places_l192 m_X21_places_j248 m_X21_places_j247 m_X21_places_j248
      rw [if_neg (by omega), rg l (by omega), e32 (x := n - x) (by omega) (by omega), lt_e, e32 (x := x + 1) (by omega) (by omega)]
      by_cases c1 : x < h1 l 0
      · rw [if_pos c1]
        exact ⟨g, rfl, F2.refl, Or.inr ⟨e0, fun z => by have := z.2.2.1; rw [v0] at this; omega⟩⟩
      rw [if_neg c1]
      by_cases c2 : n - x < h1 l 1
      · rw [if_pos c2]
        exact ⟨g, rfl, F2.refl, Or.inr ⟨e0, fun z => by have := z.2.2.2.1; rw [v0] at this; omega⟩⟩
      rw [if_neg c2, eM', Option.bind_some, Int.tmod_eq_emod_of_nonneg hM.1, e32 (x := f + x) (by omega) (by omega)]
      by_cases c3 : M % 2 = 1
      · rw [if_neg (fun z => z c3), gd_t ⟨kg.1, by omega, by omega⟩, pt_e]
        exact ⟨_, rfl, F2.refl.put ⟨rfl, rfl⟩, Or.inl ⟨up_s _ _ _ _, by omega, by omega, by rw [v0]; omega, by rw [v0]; omega, Or.inr ⟨fun e e0 e1 => hr0 e e0 (by rw [v0] at e1; exact e1), M, hM, c3⟩⟩⟩
      · rw [if_pos c3, gd_t ⟨kg.1, by omega, by omega⟩, pt_e]
        refine ⟨_, rfl, F2.refl.put ⟨rfl, rfl⟩, Or.inr ⟨up_s _ _ _ _, ?_⟩⟩
        rintro ⟨-, -, -, -, (⟨e, z1, z2, z3, -⟩ | ⟨-, M', z1, z2⟩)⟩
        · exact hr0 e z1 (by rw [v0] at z2; exact z2) z3
        · rw [hM.uniq z1] at c3; exact c3 z2
    · show m_X21_places_l192 l r f d n n g = _
      unfold m_X21_places_l192
      rw [if_pos (Int.le_refl _)]
  | inr e =>
    obtain ⟨e0, e1, e2, e3⟩ : 0 ≤ e ∧ e < h1 l 3 ∧ exM (vw h l) q n e ∧ ∀ e', 0 ≤ e' → e' < e → ¬ exM (vw h l) q n e' := hr0
    have en : h1 (l + 5) e = n := by have := e2.1; rw [← V1 5 (by decide) (by decide)] at this; exact this
    obtain ⟨x3, x4⟩ := x2 e e0 e1
    simp only [sE]
    refine z_lt (z_bind (z_mono (ends _ (fun x g v0' v1' Fg z0 => ?_) (fun g => ?_)) (fun h' hh => z_some hh)))
    · show ∃ g', m_X21_places_l120 l f d n e x g = _ ∧ _
      have Lg := hlay L1 Fg
      have rg : ∀ b, b ≠ d → g b = h1 b := fun b hb => Fg.row (fun j z => hb z.1)
      have kg := hkd Lg
      obtain ⟨-, -, -, -, -, -, k9, -⟩ := ly_X21 Lg hl
      have xm := x4 x (by omega) (by omega)
      unfold m_X21_places_l120 m_X21_places_j174 m_X21_places_j175
      simp only [k9, rg (l + 6) (by omega)]
      rw [if_neg (by omega), e32 (x := 31 * e) (by omega) (by omega), e32 (x := 31 * e + x) (by omega) (by omega), gd_t ⟨by decide, by omega, by omega⟩, rg l (by omega), e32 (x := n - x) (by omega) (by omega), e32 (x := f + x) (by omega) (by omega), gd_t ⟨kg.1, by omega, by omega⟩, gd_t ⟨kg.1, by omega, by omega⟩, pt_e, pt_e, lt_e, lt_e, e32 (x := x + 1) (by omega) (by omega)]
      have uq : ∀ {P : Prop}, (T : (∃ e', 0 ≤ e' ∧ e' < vw h l 0 3 ∧ exM (vw h l) q n e' ∧ (∀ e'', 0 ≤ e'' → e'' < e' → ¬ exM (vw h l) q n e'') ∧ vw h l 6 (31 * e' + x) = 1) ∨ ((∀ e', 0 ≤ e' → e' < vw h l 0 3 → ¬ exM (vw h l) q n e') ∧ P)) → h1 (l + 6) (31 * e + x) = 1 := by
        rintro P (⟨e', z1, z2, z3, z4, z5⟩ | ⟨z, -⟩)
        · have : e' = e := by
            rcases Int.lt_trichotomy e' e with w | w | w
            · exact absurd z3 (e3 e' z1 w)
            · exact w
            · exact absurd e2 (z4 e e0 w)
          rw [this, v6] at z5; exact z5
        · exact absurd e2 (z e e0 (by rw [v0]; exact e1))
      by_cases c0 : h1 (l + 6) (31 * e + x) = 0
      · rw [if_pos c0]
        refine ⟨_, rfl, F2.refl.put ⟨rfl, rfl⟩, Or.inr ⟨up_s _ _ _ _, fun z => ?_⟩⟩
        have := uq z.2.2.2.2
        omega
      rw [if_neg c0]
      by_cases c1 : x < h1 l 0
      · rw [if_pos c1]
        exact ⟨_, rfl, F2.refl.put ⟨rfl, rfl⟩, Or.inr ⟨up_s _ _ _ _, fun z => by have := z.2.2.1; rw [v0] at this; omega⟩⟩
      rw [if_neg c1]
      by_cases c2 : n - x < h1 l 1
      · rw [if_pos c2]
        exact ⟨_, rfl, F2.refl.put ⟨rfl, rfl⟩, Or.inr ⟨up_s _ _ _ _, fun z => by have := z.2.2.2.1; rw [v0] at this; omega⟩⟩
      rw [if_neg c2]
      exact ⟨_, rfl, F2.refl.put ⟨rfl, rfl⟩, Or.inl ⟨up_s _ _ _ _, by omega, by omega, by rw [v0]; omega, by rw [v0]; omega, Or.inl ⟨e, e0, by rw [v0]; exact e1, e2, e3, by rw [v6]; omega⟩⟩⟩
    · show m_X21_places_l120 l f d n e n g = _
      unfold m_X21_places_l120
      rw [if_pos (Int.le_refl _)]
theorem HYr.ab {hc ht : Hp} {a l : Int} (R : HYr hc ht a l) : ∃ np sg dt, hyC (vw ht l) hc a np sg dt ∧ hyB ht l np sg dt := by
  obtain ⟨⟨np, sg, dt, C, H⟩, ⟨x1, x2, x3, x4⟩, ⟨y1, y2, y3⟩, z1, z2, z3⟩ := R
  have v0 : vw ht l 0 = ht l := vw_0
  refine ⟨np, sg, dt, ⟨C, fun p p0 p1 => (H.2.2.2.1 p p0 p1).2.2.1, ?_, ?_⟩, H, fun p p0 p1 i => ?_, ⟨x2, x3, fun e e0 e1 => ?_⟩, y2, y3, z2, z3⟩
  · rw [v0]
    refine ⟨x1, x2, x3, fun e e0 e1 => ?_⟩
    obtain ⟨⟨w1, w2, w3⟩, w4⟩ := x4 e e0 e1
    exact ⟨⟨w1, w2, w3⟩, fun j j0 j1 => ⟨(w4 j j0 j1).1, (w4 j j0 j1).2.2.1, (w4 j j0 j1).2.2.2⟩⟩
  · rw [v0]; exact ⟨y1, z1, y2, z2, y3, z3⟩
  · have d := (C.2.2.2.2.2.1 p p0 p1).2.2.2.2
    unfold dtT
    split
    · exact (d _ (by omega) (by omega)).2
    · omega
  · obtain ⟨⟨w1, w2, w3⟩, w4⟩ := x4 e e0 e1
    exact ⟨⟨w2, w3⟩, fun j j0 j1 => (w4 j j0 j1).2.2.2⟩
