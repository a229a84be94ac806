-- needs: 99zzzzc
set_option maxRecDepth 100000
/-! LINES: the reference measures a line -/
def mfW (s : Int) : Int → Int → Prop := fun b j => b = s ∧ 112 ≤ j ∧ j ≤ 120
theorem rgM {s : Int} (hs : s ∈ in_aX25) : ([(s, [112, 113, 114, 115, 116, 117, 118, 119, 120])] : List (Int × List Int)).all rgO = true := by
  rcases aX25 hs with rfl | rfl <;> decide +kernel
theorem mfW_l {h h' : Hp} {s : Int} (hL : LAY h) (hs : s ∈ in_aX25) (f : F2 (mfW s) h h') : LAY h' :=
  lay_W hL f [] _ rfl (rgM hs) (fun b j z => ⟨by unfold mfW at z; omega, Or.inr ⟨_, List.mem_cons_self, z.1, by
    unfold mfW at z
    have : j = 112 ∨ j = 113 ∨ j = 114 ∨ j = 115 ∨ j = 116 ∨ j = 117 ∨ j = 118 ∨ j = 119 ∨ j = 120 := by omega
    rcases this with rfl | rfl | rfl | rfl | rfl | rfl | rfl | rfl | rfl <;> (dsimp only; decide)⟩⟩)
def msT (g : Hp) (s : Int) (D : Hp) (u v : Int) : Prop := (g s 112 = lnN D u v ∧ g s 113 = lnW D u ∧ g s 114 = lnS D u v ∧ g s 115 = lnZ D u v) ∧ g s 116 = lnQ D u v ∧ g s 117 = @ite _ (lnT D u v) (Classical.propDecidable _) (-1000) (lnR0 D u v) ∧ g s 118 = lnB D u v ∧ g s 119 = lnC D u v ∧ is01 (g s 120) (lnT D u v)
theorem q_typeOf {h : Hp} {s p β v : Int} {D : Hp} (hL : LAY h) (hs : s ∈ in_aX25) (G : lnG h s p β D) (m6 : D 6 0 ≤ 600) (v0 : 1 ≤ v) (v1 : v ≤ D 6 0) : m_X25_typeOf s p v h = some (D 5 v) := by
  obtain ⟨⟨e1, e2, -⟩, ⟨e6, e7, e8, e9⟩, -, e10⟩ := G
  have c16 := g_X25_16 hL hs
  have c23 := g_X25_23 hL hs
  unfold m_X25_typeOf
  simp only [c16, c23, e2]
  rw [gd_t ⟨by decide, e6, by omega⟩, e32 (x := β + v) (by omega) (by omega), e32 (x := β + v - 1) (by omega) (by omega), gd_t ⟨by decide, by omega, by omega⟩, (e10 v v0 v1).1]
theorem q_isParted {h : Hp} {s p β v : Int} {D : Hp} (hL : LAY h) (hs : s ∈ in_aX25) (G : lnG h s p β D) (m6 : D 6 0 ≤ 600) (v0 : 0 ≤ v) (v1 : v ≤ D 6 0) : m_X25_isParted s p v h = some (if 0 < v ∧ (D 5 v = 1 ∨ D 5 v = 2) then 1 else 0) := by
  unfold m_X25_isParted
  by_cases h0 : v ≤ 0
  · rw [if_pos h0, if_neg (by omega)]
  rw [if_neg h0, q_typeOf hL hs G m6 (by omega) v1, Option.bind_some, Option.bind_some]
  by_cases h1 : D 5 v = 1
  · rw [if_pos h1, if_pos ⟨by omega, Or.inl h1⟩]
  · rw [if_neg h1]
    by_cases h2 : D 5 v = 2
    · rw [if_neg (fun z => z h2), if_pos ⟨by omega, Or.inr h2⟩]
    · rw [if_pos h2, if_neg (by omega)]
theorem q_lineWidth {h : Hp} {s p β u f : Int} {D : Hp} (hL : LAY h) (hs : s ∈ in_aX25) (G : lnG h s p β D) (O : lnO D) (hf : (u = 0 ∧ f = 1) ∨ (u ≠ 0 ∧ f = 0)) : m_X25_lineWidth s p f h = some (lnW D u) := by
  obtain ⟨⟨e1, e2, e3, e4, e5⟩, ⟨e6, e7, e8, e9⟩, -, -⟩ := G
  have o := O.2.1
  have c21 := g_X25_21 hL hs
  have c13 := g_X25_13 hL hs
  have c20 := g_X25_20 hL hs
  unfold m_X25_lineWidth
  simp only [c21, c13, c20, e3]
  unfold lnW
  rcases hf with ⟨hu, hf⟩ | ⟨hu, hf⟩
  · rw [if_neg (by omega), gd_t ⟨by decide, e6, by omega⟩, if_pos hu]
    rcases e5 with ⟨k1, k2⟩ | ⟨k1, k2⟩
    · rw [if_pos k1, gd_t ⟨by decide, e6, by omega⟩, gd_t ⟨by decide, e6, by omega⟩, k2, e64 (by omega) (by omega)]
      unfold max_
      by_cases hw : D 6 1 - D 6 2 < 1000
      · rw [if_pos hw]; split <;> congr 1 <;> omega
      · rw [if_neg hw]; split <;> congr 1 <;> omega
    · rw [if_neg k1, gd_t ⟨by decide, e6, by omega⟩, k2, Int.sub_zero, if_neg (by omega)]
  · rw [if_pos hf, gd_t ⟨by decide, e6, by omega⟩, if_neg hu, if_neg (by omega)]
theorem q_bad25 {r : Int} (r0 : -100000 ≤ r) (r1 : r ≤ 100000) : w32 (min_ 10000 (w64 (Int.tdiv (w64 ((w64 ((w64 (100 * abs_ r)) * abs_ r)) * abs_ r)) 1000000000))) = bad0 (absI r) := by
  have ea : abs_ r = absI r := by unfold abs_ absI; split
                                  · rw [if_neg (by omega)]
                                  · rw [if_pos (by omega), e32 (by omega) (by omega)]; omega
  rw [ea]
  have q := absI_r r0 r1
  generalize absI r = y at q
  have m := bad_m q.1 q.2
  have b := bad0_r q.1 q.2
  rw [e64 (x := 100 * y) (by omega) (by omega), e64 (x := 100 * y * y) (by omega) (by omega), e64 (x := 100 * y * y * y) (by omega) (by omega), e64 (x := Int.tdiv (100 * y * y * y) 1000000000) (by omega) (by omega)]
  unfold bad0 min_
  generalize Int.tdiv (100 * y * y * y) 1000000000 = w at *
  split <;> split <;> rw [e32 (by omega) (by omega)] <;> omega
