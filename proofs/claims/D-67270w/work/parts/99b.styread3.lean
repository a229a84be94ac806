set_option maxRecDepth 100000
/-! STYLES: from a text to a style -/
theorem t_copy22 {h : Hp} {l u n : Int} (hL : LAY h) (hl : l ∈ in_aX22) (u1 : h u (-2) % 16 = 2) (u2 : n ≤ h u (-1)) (hu : u ≠ l + 1) (n0 : 0 ≤ n) (n1 : n ≤ 4000) : Pz (lp (fun (q : Int × Hp) => m_X22_read_l2 l u n q.1 q.2) (0, h)) (fun h' => F2 (fun b j => b = l + 1 ∧ 0 ≤ j) h h' ∧ ∀ j, 0 ≤ j → j < n → h' (l + 1) j = h u j) := by
  have h22 := aX22 hl
  have lay : ∀ q, F2 (fun b j => b = l + 1 ∧ 0 ≤ j) h q → LAY q := fun q F => by
    refine lay_W hL F [(l + 1, l + 1)] [] ?_ (by decide) (fun b j z => ⟨z.2, Or.inl ⟨_, List.mem_singleton.mpr rfl, by dsimp only; omega, by dsimp only; omega⟩⟩)
    rcases h22 with rfl | rfl <;> decide +kernel
  refine z_fill (g := h u) (n := n) (d := l + 1) (s := 0) n0 (fun x q x0 x1 F => ?_) (fun q F E => ?_)
  · have F' : F2 (fun b j => b = l + 1 ∧ 0 ≤ j) h q := F.mono (fun b j z => ⟨z.1, z.2.1⟩)
    have k := g_X22_0 (lay q F') hl
    have ru : q u = h u := F'.row (fun j z => hu z.1)
    show m_X22_read_l2 l u n x q = _
    unfold m_X22_read_l2 gd pt lt_
    simp only [k.1, k.2.1, k.2.2, ru]
    rw [if_neg (by omega), if_pos ⟨u1, x0, by omega⟩, if_pos ⟨by decide, x0, by omega⟩, e32 (by omega) (by omega), Int.zero_add]
  · show Pz (m_X22_read_l2 l u n n q) _
    unfold m_X22_read_l2
    exact z_it (Int.le_refl n) (z_some ⟨F.mono (fun b j z => ⟨z.1, z.2.1⟩), fun j j0 j1 => by
      have := E j j0 j1
      rwa [Int.zero_add] at this⟩)
/-- nothing read yet -/
theorem SY_0 {T : Int → Int} {n : Int} {p q : Hp} {a l : Int} (hL : LAY p) (ha : a ∈ in_aX3) (c : clC a p) (d : clTt l q) : SY T n 0 (fun _ => []) 0 0 0 0 0 0 0 p q a l := by
  have ln := ly_X3n hL ha
  obtain ⟨⟨a1, a2, a3⟩, ⟨b1, b2, b3⟩, c11, c6, c11', c15, c20, c22, c23, c24, c25, c26, c27, c28⟩ := c
  obtain ⟨⟨p0, p1, p2, p3, p4, p5⟩, l3, l4, l5, l6, l7, l8, l16, l9, l04⟩ := d
  refine ⟨⟨NM_0 a1 a2 (fun x x0 x1 => by rw [show a + 1 + 2 = a + 3 by omega]; exact a3 x x0 x1) (by rw [show a + 1 + 3 = a + 4 by omega]; omega) (by rw [show a + 1 + 4 = a + 5 by omega]; omega), by omega, by omega⟩, ⟨l8, by decide, _, NM_0 b1 b2 (fun x x0 x1 => by rw [show a + 6 + 2 = a + 8 by omega]; exact b3 x x0 x1) (by rw [show a + 6 + 3 = a + 9 by omega]; omega) (by rw [show a + 6 + 4 = a + 10 by omega]; omega), fun k k0 k1 => by omega⟩, ⟨c6, l4, by decide, l9, fun k k0 k1 => by omega⟩, ⟨c11', l5, by decide, fun k k0 k1 => by omega⟩, ⟨c15, l3, by decide, by decide, l04, fun k k0 k1 => by omega⟩, ⟨c22, l6, c20, l7, by decide, by decide, by decide, fun k k0 k1 => by omega, fun k k0 k1 => by omega, l16, fun k k0 k1 => by omega⟩, ?_⟩
  unfold pgO
  omega
theorem sty_0 {l : Int} (hl : l ∈ in_aX22) (j : Int) : ¬ styW l 0 j := by
  have := aX22 hl
  unfold styW stW2
  omega
theorem y_styread {hc ht : Hp} {a l u n : Int} {B : Int → Int} (ha : a ∈ in_aX3) (hl : l ∈ in_aX22) (c : CS hc n B 0) (hL2 : LAY ht) (rm2 : RM ht 1 7) (n1 : n ≤ 4000) (u1 : ht u (-2) % 16 = 2) (u2 : n ≤ ht u (-1)) (hu : u < l ∨ l + 22 < u)
    (hb : ∀ j, 0 ≤ j → j < n → hc 2 j = ht u j) : Pr (m_X3_read a 3 hc) (m_X22_read l u n ht) (STo hc ht n a l) := by
  have h3 := aX3 ha
  have h22 := aX22 hl
  have n0 : 0 ≤ n := c.2.2.2.2.2.2.1
  unfold m_X3_read m_X22_read
  refine yl_bind (z_mono (c_clr3 c.1 ha) (fun h1 k1 => yr_lt (yr_bind (z_mono (t_copy22 hL2 hl u1 u2 (by omega) n0 n1) (fun g1 k2 => ?_)))))
  obtain ⟨f1, cl1⟩ := k1
  obtain ⟨f2, tx⟩ := k2
  have L1 := scW_l c.1 ha (f1.mono (fun b j z => z.1))
  have M1 : LAY g1 := by
    refine lay_W hL2 f2 [(l + 1, l + 1)] [] ?_ (by decide) (fun b j z => ⟨z.2, Or.inl ⟨_, List.mem_singleton.mpr rfl, by dsimp only; omega, by dsimp only; omega⟩⟩)
    rcases h22 with rfl | rfl <;> decide +kernel
  refine yr_bind (z_mono (t_clr22 M1 hl) (fun g2 k3 => ?_))
  obtain ⟨f3, cl2⟩ := k3
  have M2 := stW2_l M1 hl (f3.mono (fun b j z => z.1))
  have kt := g_X22_0 M2 hl
  simp only [g_X22_1 M2 hl, kt.1]
  refine yr_gd trivial ?_
  have rm3 : RM g2 1 7 := by
    refine (rm2.F2 f2 (by omega) (by omega)).F2 f3 ?_ ?_ <;> unfold stW2 <;> omega
  refine yr_bind (z_mono (t_open M2 (aX22n hl) (by rw [kt.2.1]; decide) (by rw [kt.2.2]; omega) (by rw [kt.2.2]; decide) (by omega) n0 (by omega) rm3) (fun g3 k4 => ?_))
  obtain ⟨f4, ts⟩ := k4
  have c1 : CS h1 n B 0 := c.kept f1 L1 (fun j z => by unfold clW at z; omega) (fun j z => by unfold clW scW at z; omega) (fun j z => by unfold clW scW at z; omega)
  have t1 : g2 (l + 1) = g1 (l + 1) := f3.row (fun j z => by unfold stW2 at z; omega)
  have t2 : g3 (l + 1) = g2 (l + 1) := f4.row (fun j z => by unfold bgW at z; omega)
  have r2 : h1 2 = hc 2 := f1.row (fun j z => by unfold clW scW at z; omega)
  have eB : Bt g2 (l + 1) n = B := by
    rw [← c.2.2.2.1]
    exact Bt_same (fun j j0 j1 => by rw [t1, tx j j0 j1, hb j j0 j1])
  rw [eB] at ts
  have F0 : F2 (styW l) ht g3 := ((f2.mono (fun b j z => Or.inr (Or.inl z))).trans (f3.mono (fun b j z => Or.inl z.1))).trans (f4.mono (fun b j z => Or.inr (Or.inr z)))
  have cl3 : clTt l g3 := by
    have r : ∀ b, b ≠ l + 2 → g3 b = g2 b := fun b hb => f4.row (fun j z => hb z.1)
    unfold clTt at *
    rw [r l (by omega), r (l + 3) (by omega), r (l + 16) (by omega), r (l + 9) (by omega), r (l + 4) (by omega)]
    exact cl2
  have I0 : TI hc g3 n B (g3 (l + 1)) a l 0 h1 g3 := by
    refine ⟨h1, g3, 0, fun _ => [], 0, 0, 0, 0, 0, 0, ⟨c1, ts, f1.mono (fun b j z => z.1), F2.refl, ⟨rfl, fun j j0 j1 => ?_⟩, ⟨fun b _ _ => rfl, rfl, fun b _ _ => rfl⟩, n1⟩, SY_0 L1 ha cl1 cl3, ?_, ?_, ?_, Int.le_refl _⟩
    · rw [t2, t1, tx j j0 j1, r2]; exact hb j j0 j1
    · obtain ⟨⟨a1, a2, -⟩, ⟨b1, b2, -⟩, c11, -⟩ := cl1
      exact ⟨by omega, by omega, by omega, by omega⟩
    · obtain ⟨-, -, -, -, -, -, -, -, l9, l04⟩ := cl3
      exact ⟨l04, l9, by decide, by decide⟩
    · exact cl3.2.2.2.2.2.2.2.1
  refine y_bind (y_mono (y_stloop ha hl I0) (fun x y hxy => ?_))
  rcases hxy with ⟨i', hc', rfl, hy, I'⟩ | ⟨rc, rfl, z⟩
  · simp only [sE]
    obtain ⟨rc, e1, e2, e3, e4⟩ := c_stend ha hl I'
    obtain ⟨p, q, S⟩ := I'.ss
    exact ⟨rc, y, e1, rfl, Or.inl ⟨e2, hy, e3, F0.trans (S.2.2.2.1.mono (fun b j z => Or.inl z)), e4⟩⟩
  · simp only [sE]
    obtain ⟨p, p0, p1, z1, z2⟩ := z
    exact y_some (Or.inr ⟨p, p0, p1, z1, ThF.pre F0 (sty_0 hl) (fun b j z => z) (z2.mono (fun b j z => Or.inl z))⟩)
