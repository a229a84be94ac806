set_option maxRecDepth 100000
/-! SOURCES: an entity is told -/
theorem ly_X6n {h : Hp} {a : Int} (hL : LAY h) (ha : a ∈ in_aX6) : h (a + 5) (-1) = 3500 ∧ h (a + 6) (-1) = 3500 ∧ h (a + 26) (-1) = 40 ∧ h (a + 27) (-1) = 40 := by
  rcases aX6 ha with rfl | rfl | rfl
  · exact ⟨(hL.2.1 94 _ rfl).2, (hL.2.1 95 _ rfl).2, (hL.2.1 115 _ rfl).2, (hL.2.1 116 _ rfl).2⟩
  · exact ⟨(hL.2.1 125 _ rfl).2, (hL.2.1 126 _ rfl).2, (hL.2.1 146 _ rfl).2, (hL.2.1 147 _ rfl).2⟩
  · exact ⟨(hL.2.1 156 _ rfl).2, (hL.2.1 157 _ rfl).2, (hL.2.1 177 _ rfl).2, (hL.2.1 178 _ rfl).2⟩
/-- the bytes of an entity's text are looked at -/
theorem y_defloop {h1 h2 hc ht : Hp} {n : Int} {B T : Int → Int} {a l x z : Int} (ha : a ∈ in_aX6) (hl : l ∈ in_aX23) (S : SZ h1 h2 n B T a l hc ht) (ec : hc a 2 = x) (x0 : 0 ≤ x) (xz : x + 1 ≤ z) (zn : z < n) :
    Pr (lp (fun (q : Int) => m_X6_define_l100 a (z - x - 1) q hc) (x + 1)) (lp (fun (q : Int) => m_X23_tell_l79 l x (z + 1) q ht) (x + 1)) (fun u v => (u = .inl () ∧ v = .inl ()) ∨ ∃ rc rt, u = .inr rc ∧ v = .inr rt ∧ ZO h1 h2 n a l rc rt) := by
  have h6 := aX6 ha
  have hn := S.2.2.2
  have kc := g_X6_0 S.1.1 ha
  have kt := g_X23_0 S.2.1.1 hl
  refine y_lpm (fun m y y' => y = y' ∧ x + 1 ≤ y ∧ y ≤ z ∧ m = (z - y).toNat) ⟨_, rfl, Int.le_refl _, xz, rfl⟩ ?_
  rintro m y y' ⟨rfl, y0, y1, rfl⟩
  unfold m_X6_define_l100 m_X23_tell_l79
  simp only [kc.1, kc.2.1, kc.2.2, kt.1, kt.2.1, kt.2.2, ec, S.2.1.2.2.2.2.2]
  rw [e32 (x := x + 1) (by omega) (by omega), show x + 1 + (z - x - 1) = z by omega, e32 (x := z) (by omega) (by omega), show z + 1 - 1 = z by omega, e32 (x := z) (by omega) (by omega)]
  by_cases hz : z ≤ y
  · exact yl_it hz (yr_it hz (y_some (Or.inr ⟨_, _, rfl, rfl, Or.inl ⟨rfl, rfl⟩⟩)))
  · refine yl_ie hz (yr_ie hz (yl_gd ⟨by decide, by omega, by omega⟩ (yr_gd ⟨by decide, by omega, by omega⟩ ?_)))
    rw [S.2.2.1 y (by omega) (by omega)]
    by_cases c1 : T y = 60
    · refine yl_it c1 (yr_it c1 ?_)
      exact y_brk ha hl S ec x0 (by omega) (fun b h' b' h'' w => y_some (Or.inr ⟨_, _, rfl, rfl, Or.inr ⟨_, _, rfl, rfl, w⟩⟩))
    · refine yl_ie c1 (yr_ie c1 ?_)
      by_cases c2 : T y ≠ 38
      · refine yl_it c2 (yr_it c2 (yl_lt (yr_lt ?_)))
        rw [e32 (by omega) (by omega)]
        exact y_some (Or.inl ⟨_, _, _, rfl, rfl, by omega, rfl, by omega, by omega, rfl⟩)
      · refine yl_ie c2 (yr_ie c2 ?_)
        exact y_brk ha hl S ec x0 (by omega) (fun b h' b' h'' w => y_some (Or.inr ⟨_, _, rfl, rfl, Or.inr ⟨_, _, rfl, rfl, w⟩⟩))
