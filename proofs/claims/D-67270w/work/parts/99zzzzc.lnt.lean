-- needs: 99zzzzb
set_option maxRecDepth 100000
/-! LINES: the reference's sums -/
def lnG (h : Hp) (s p β : Int) (D : Hp) : Prop := (h (s + 58) p = D 6 0 ∧ h (s + 59) p = β ∧ h (s + 64) p = D 6 1 ∧ 1000 ≤ D 6 1 ∧ ((h (s + 56) p = 0 ∧ h (s + 63) p = D 6 2) ∨ (h (s + 56) p ≠ 0 ∧ D 6 2 = 0))) ∧ (0 ≤ p ∧ p < 1200 ∧ 0 ≤ β ∧ β + D 6 0 ≤ 25208) ∧ (D 0 0 = 0 ∧ D 1 0 = 0 ∧ D 2 0 = 0 ∧ D 3 0 = 0) ∧ ∀ b, 1 ≤ b → b ≤ D 6 0 → h (s + 66) (β + b - 1) = D 5 b ∧ h (s + 68) (β + b - 1) = D 0 b - D 0 (b - 1) ∧ h (s + 69) (β + b - 1) = D 1 b - D 1 (b - 1) ∧ Int.tdiv (D 1 b - D 1 (b - 1)) 2 = D 2 b - D 2 (b - 1) ∧ Int.tdiv (D 1 b - D 1 (b - 1)) 3 = D 3 b - D 3 (b - 1) ∧ h (s + 70) (β + b - 1) = D 4 b
theorem lnG.kept {h h' : Hp} {s p β : Int} {D : Hp} (G : lnG h s p β D) (e : ∀ b, s + 53 ≤ b → b ≤ s + 70 → h' b = h b) : lnG h' s p β D := by
  unfold lnG at *
  rw [e (s + 58) (by omega) (by omega), e (s + 59) (by omega) (by omega), e (s + 64) (by omega) (by omega), e (s + 56) (by omega) (by omega), e (s + 63) (by omega) (by omega), e (s + 66) (by omega) (by omega), e (s + 68) (by omega) (by omega), e (s + 69) (by omega) (by omega), e (s + 70) (by omega) (by omega)]
  exact G
def lnM (g : Hp) (s : Int) (D : Hp) (m : Int) : Prop := ∀ b, 0 ≤ b → b ≤ m → g (s + 132) b = D 0 b ∧ g (s + 133) b = D 1 b ∧ g (s + 134) b = D 2 b ∧ g (s + 135) b = D 3 b
def smW (s : Int) : Int → Int → Prop := fun b j => s + 132 ≤ b ∧ b ≤ s + 135 ∧ 0 ≤ j
/-- one turn -/
theorem t_sumTurn {g : Hp} {s p β m x p1 p2 p3 p4 d1 d2 : Int} (hL : LAY g) (hs : s ∈ in_aX25) (hs' : 671 ≤ s ∧ s ≤ 825) (p0 : 0 ≤ p) (pp : p < 1200) (e58 : g (s + 58) p = m) (e59 : g (s + 59) p = β) (β0 : 0 ≤ β) (βm : β + m ≤ 25208) (m6 : m ≤ 600) (x0 : 1 ≤ x) (x1 : x ≤ m)
    (q1 : g (s + 132) (x - 1) = p1) (q2 : g (s + 133) (x - 1) = p2) (q3 : g (s + 134) (x - 1) = p3) (q4 : g (s + 135) (x - 1) = p4) (q5 : g (s + 68) (β + x - 1) = d1) (q6 : g (s + 69) (β + x - 1) = d2) (r1 : 0 ≤ p1 + d1 ∧ p1 + d1 ≤ 100000000000) (r2 : 0 ≤ p2 ∧ p2 ≤ 10000000000) (r3 : 0 ≤ p3 ∧ p3 ≤ 10000000000) (r4 : 0 ≤ p4 ∧ p4 ≤ 10000000000) (r5 : 0 ≤ d2 ∧ d2 ≤ 10000000000) :
    Pz (m_X25_sums_l30 s p x g) (fun r => ∃ g', r = .inl (x + 1, g') ∧ F2 (fun b j => s + 132 ≤ b ∧ b ≤ s + 135 ∧ j = x) g g' ∧ g' (s + 132) x = p1 + d1 ∧ g' (s + 133) x = p2 + d2 ∧ g' (s + 134) x = p3 + Int.tdiv d2 2 ∧ g' (s + 135) x = p4 + Int.tdiv d2 3) := by
  have lay : ∀ {g' : Hp}, F2 (fun b j => s + 132 ≤ b ∧ b ≤ s + 135 ∧ j = x) g g' → LAY g' := fun F => seW_l hL hs F (fun b j z => by omega)
  have d := td_r2 r5.1 r5.2
  unfold m_X25_sums_l30
  have c15 := g_X25_15 hL hs
  have c16 := g_X25_16 hL hs
  have c104 := g_X25_104 hL hs
  have c25 := g_X25_25 hL hs
  simp only [c15, c16, c104, c25, e58, e59]
  refine z_gd ⟨by decide, p0, by omega⟩ ?_
  rw [if_neg (by omega)]
  refine z_gd ⟨by decide, p0, by omega⟩ (z_lt ?_)
  rw [e32 (x := β + x) (by omega) (by omega), e32 (x := β + x - 1) (by omega) (by omega), e32 (x := x - 1) (by omega) (by omega), q1, q5, e64 (x := p1 + d1) (by omega) (by omega)]
  refine z_gd ⟨by decide, by omega, by omega⟩ (z_gd ⟨by decide, by omega, by omega⟩ (z_gd ⟨by decide, by omega, by omega⟩ (z_pt ?_)))
  have F1 : F2 (fun b j => s + 132 ≤ b ∧ b ≤ s + 135 ∧ j = x) g (up g (s + 132) x (p1 + d1)) := F2.refl.put ⟨by omega, by omega, rfl⟩
  have v1 : up g (s + 132) x (p1 + d1) (s + 132) x = p1 + d1 := up_s _ _ _ _
  generalize up g (s + 132) x (p1 + d1) = g1 at F1 v1 ⊢
  have L1 := lay F1
  have c105 := g_X25_105 L1 hs
  have c26 := g_X25_26 L1 hs
  have w2 : g1 (s + 133) (x - 1) = p2 := by rw [F1 _ _ (fun z => by omega)]; exact q2
  have w6 : g1 (s + 69) (β + x - 1) = d2 := by rw [F1 _ _ (fun z => by omega)]; exact q6
  simp only [c105, c26, w2, w6]
  rw [e64 (x := p2 + d2) (by omega) (by omega)]
  refine z_gd ⟨by decide, by omega, by omega⟩ (z_gd ⟨by decide, by omega, by omega⟩ (z_gd ⟨by decide, by omega, by omega⟩ (z_pt ?_)))
  have F2_ : F2 (fun b j => s + 132 ≤ b ∧ b ≤ s + 135 ∧ j = x) g (up g1 (s + 133) x (p2 + d2)) := F1.put ⟨by omega, by omega, rfl⟩
  have v1' : up g1 (s + 133) x (p2 + d2) (s + 132) x = p1 + d1 := by rw [up_a (by omega)]; exact v1
  have v2 : up g1 (s + 133) x (p2 + d2) (s + 133) x = p2 + d2 := up_s _ _ _ _
  generalize up g1 (s + 133) x (p2 + d2) = g2 at F2_ v1' v2 ⊢
  have L2 := lay F2_
  have c106 := g_X25_106 L2 hs
  have c26' := g_X25_26 L2 hs
  have w3 : g2 (s + 134) (x - 1) = p3 := by rw [F2_ _ _ (fun z => by omega)]; exact q3
  have w6' : g2 (s + 69) (β + x - 1) = d2 := by rw [F2_ _ _ (fun z => by omega)]; exact q6
  simp only [c106, c26', w3, w6']
  rw [e64 (x := Int.tdiv d2 2) (by omega) (by omega), e64 (x := p3 + Int.tdiv d2 2) (by omega) (by omega)]
  refine z_gd ⟨by decide, by omega, by omega⟩ (z_gd ⟨by decide, by omega, by omega⟩ (z_gd ⟨by decide, by omega, by omega⟩ (z_pt ?_)))
  have F3 : F2 (fun b j => s + 132 ≤ b ∧ b ≤ s + 135 ∧ j = x) g (up g2 (s + 134) x (p3 + Int.tdiv d2 2)) := F2_.put ⟨by omega, by omega, rfl⟩
  have v1 : up g2 (s + 134) x (p3 + Int.tdiv d2 2) (s + 132) x = p1 + d1 := by rw [up_a (by omega)]; exact v1'
  have v2' : up g2 (s + 134) x (p3 + Int.tdiv d2 2) (s + 133) x = p2 + d2 := by rw [up_a (by omega)]; exact v2
  have v3 : up g2 (s + 134) x (p3 + Int.tdiv d2 2) (s + 134) x = p3 + Int.tdiv d2 2 := up_s _ _ _ _
  generalize up g2 (s + 134) x (p3 + Int.tdiv d2 2) = g3 at F3 v1 v2' v3 ⊢
  have L3 := lay F3
  have c107 := g_X25_107 L3 hs
  have c26'' := g_X25_26 L3 hs
  have w4 : g3 (s + 135) (x - 1) = p4 := by rw [F3 _ _ (fun z => by omega)]; exact q4
  have w6'' : g3 (s + 69) (β + x - 1) = d2 := by rw [F3 _ _ (fun z => by omega)]; exact q6
  simp only [c107, c26'', w4, w6'']
  rw [e64 (x := Int.tdiv d2 3) (by omega) (by omega), e64 (x := p4 + Int.tdiv d2 3) (by omega) (by omega)]
  refine z_gd ⟨by decide, by omega, by omega⟩ (z_gd ⟨by decide, by omega, by omega⟩ (z_gd ⟨by decide, by omega, by omega⟩ (z_pt (z_lt ?_))))
  rw [e32 (x := x + 1) (by omega) (by omega)]
  refine z_some ⟨_, rfl, F3.put ⟨by omega, by omega, rfl⟩, ?_, ?_, ?_, up_s _ _ _ _⟩
  · rw [up_a (by omega)]; exact v1
  · rw [up_a (by omega)]; exact v2'
  · rw [up_a (by omega)]; exact v3
theorem t_sums {h : Hp} {s p β : Int} {D : Hp} (hL : LAY h) (hs : s ∈ in_aX25) (G : lnG h s p β D) (O : lnO D) : Pz (m_X25_sums s p h) (fun g => F2 (smW s) h g ∧ lnM g s D (D 6 0)) := by
  have hs' : 671 ≤ s ∧ s ≤ 825 := by have := aX25 hs; omega
  obtain ⟨⟨e1, e2, e3, e4, e5⟩, ⟨e6, e7, e8, e9⟩, ⟨z0, z1, z2, z3⟩, e10⟩ := id G
  have m6 := O.1
  have lay : ∀ {g : Hp}, F2 (smW s) h g → LAY g := fun F => seW_l hL hs F (fun b j z => by unfold smW at z; omega)
  unfold m_X25_sums
  have c104 := g_X25_104 hL hs
  simp only [c104]
  refine z_gd ⟨by decide, Int.le_refl _, by decide⟩ (z_pt ?_)
  have F1 : F2 (smW s) h (up h (s + 132) 0 0) := F2.refl.put ⟨by omega, by omega, Int.le_refl _⟩
  have c105 := g_X25_105 (lay F1) hs
  simp only [c105]
  refine z_gd ⟨by decide, Int.le_refl _, by decide⟩ (z_pt ?_)
  have F2_ : F2 (smW s) h (up (up h (s + 132) 0 0) (s + 133) 0 0) := F1.put ⟨by omega, by omega, Int.le_refl _⟩
  have c106 := g_X25_106 (lay F2_) hs
  simp only [c106]
  refine z_gd ⟨by decide, Int.le_refl _, by decide⟩ (z_pt ?_)
  have F3 : F2 (smW s) h (up (up (up h (s + 132) 0 0) (s + 133) 0 0) (s + 134) 0 0) := F2_.put ⟨by omega, by omega, Int.le_refl _⟩
  have c107 := g_X25_107 (lay F3) hs
  simp only [c107]
  refine z_gd ⟨by decide, Int.le_refl _, by decide⟩ (z_pt (z_lt ?_))
  have F4 : F2 (smW s) h (up (up (up (up h (s + 132) 0 0) (s + 133) 0 0) (s + 134) 0 0) (s + 135) 0 0) := F3.put ⟨by omega, by omega, Int.le_refl _⟩
  refine z_bind (z_mono (z_lp (Q := fun g => F2 (smW s) h g ∧ lnM g s D (D 6 0)) (fun (q : Int × Hp) => 1 ≤ q.1 ∧ q.1 ≤ D 6 0 + 1 ∧ F2 (smW s) h q.2 ∧ lnM q.2 s D (q.1 - 1)) (fun q => (D 6 0 + 1 - q.1).toNat) ⟨Int.le_refl _, by dsimp only; omega, F4, fun b b0 b1 => ?_⟩ ?_) (fun r hr => z_some hr))
  · have : b = 0 := by dsimp only at b1; omega
    subst this
    dsimp only
    refine ⟨?_, ?_, ?_, ?_⟩
    · rw [up_a (by omega), up_a (by omega), up_a (by omega), up_s, z0]
    · rw [up_a (by omega), up_a (by omega), up_s, z1]
    · rw [up_a (by omega), up_s, z2]
    · rw [up_s, z3]
  rintro ⟨x, g⟩ ⟨x0, x1, Fg, M⟩
  dsimp only at x0 x1 M
  replace Fg : F2 (smW s) h g := Fg
  have Lg := lay Fg
  have Gg := G.kept (h' := g) (fun b b0 b1 => Fg.row (fun j z => by unfold smW at z; omega))
  show Pz (m_X25_sums_l30 s p x g) _
  by_cases hx : D 6 0 < x
  · unfold m_X25_sums_l30
    have c15 := g_X25_15 Lg hs
    simp only [c15, Gg.1.1]
    refine z_gd ⟨by decide, e6, by omega⟩ ?_
    rw [if_pos hx]
    have : x - 1 = D 6 0 := by omega
    rw [this] at M
    exact z_some ⟨Fg, M⟩
  obtain ⟨q1, q2, q3, q4⟩ := M (x - 1) (by omega) (Int.le_refl _)
  obtain ⟨y1, y2, y3, y4, y5, y6⟩ := Gg.2.2.2 x x0 (by omega)
  obtain ⟨o1, o2, o3, o4⟩ := O.2.2.1 (x - 1) (by omega) (by omega)
  obtain ⟨o5, o6, o7, o8⟩ := O.2.2.1 x (by omega) (by omega)
  have om := (O.2.2.2 x x0 (by omega)).1
  refine z_mono (t_sumTurn Lg hs hs' e6 e7 Gg.1.1 Gg.1.2.1 e8 e9 (by omega) x0 (by omega) q1 q2 q3 q4 y2 y3 (by omega) (by omega) (by omega) (by omega) (by omega)) (fun r hr => ?_)
  obtain ⟨g', rfl, F', w1, w2, w3, w4⟩ := hr
  refine ⟨⟨show 1 ≤ x + 1 by omega, show x + 1 ≤ D 6 0 + 1 by omega, Fg.trans (F'.mono (fun b j z => ⟨z.1, z.2.1, by omega⟩)), fun b b0 b1 => ?_⟩, by dsimp only; omega⟩
  dsimp only at b1 ⊢
  by_cases hb : b = x
  · rw [hb, w1, w2, w3, w4, y4, y5]
    exact ⟨by omega, by omega, by omega, by omega⟩
  · rw [F' _ _ (fun z => by omega), F' _ _ (fun z => by omega), F' _ _ (fun z => by omega), F' _ _ (fun z => by omega)]
    exact M b b0 (by omega)
