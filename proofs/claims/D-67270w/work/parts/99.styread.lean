set_option maxRecDepth 100000
/-! STYLES: all of the text -/
theorem ThF.pre {K p : Int} {V W : Int → Int → Prop} {h h1 : Hp} {r : (Int × Int) × Hp} (f : F2 V h h1) (v0 : ∀ j, ¬ V 0 j) (vw : ∀ b j, V b j → W b j) (z : ThF K p W h1 r) : ThF K p W h r := by
  obtain ⟨z1, z2, z3, z4, z5, z6, z7, z8⟩ := z
  have e := f 0 0 (v0 0)
  have e1 := f 0 1 (v0 1)
  refine ⟨z1, z2, by rw [← e]; exact z3, z4, z5, ?_, by rw [z7, e], by rw [z8, e1]⟩
  refine (f.mono (fun b j z => Or.inl (vw b j z))).trans (z6.mono (fun b j z => ?_))
  rcases z with z | z
  · exact Or.inl z
  · refine Or.inr ?_
    unfold nwW at *
    rw [← e]; exact z
theorem c_clr4 {h : Hp} {m : Int} (hL : LAY h) (hm : m ∈ in_aX4) : Pz (m_X4_clear m h) (fun h' => F2 (fun b j => (b = m ∧ (j = 1 ∨ j = 3)) ∨ (b = m + 2 ∧ 0 ≤ j)) h h' ∧ h' m 1 = 0 ∧ h' m 3 = 0 ∧ ∀ x, 0 ≤ x → x < 128 → h' (m + 2) x = -1) := by
  have m1 := aX4 hm
  unfold m_X4_clear
  refine z_pt (z_pt (z_lt ?_))
  have L1 : LAY (up (up h m 1 0) m 3 0) := nmW_l hL hm ((F2.refl.put (Or.inl ⟨rfl, Or.inl rfl⟩)).put (Or.inl ⟨rfl, Or.inr rfl⟩))
  refine z_bind (z_fill (g := fun _ => -1) (n := 128) (d := m + 2) (s := 0) (by decide) (fun x q x0 x1 F => ?_) (fun q F E => ?_))
  · have L2 := nmW_l L1 hm (F.mono (fun b j z => Or.inr ⟨by omega, by omega, by omega⟩))
    have k := g_X4_4 L2 hm
    show m_X4_clear_l12 m x q = _
    unfold m_X4_clear_l12 gd pt lt_
    simp only [k.1, k.2.1, k.2.2]
    rw [if_pos (by decide), if_neg (by omega), if_pos ⟨by decide, x0, x1⟩, e32 (by omega) (by omega), Int.zero_add]
  · have L2 := nmW_l L1 hm (F.mono (fun b j z => Or.inr ⟨by omega, by omega, by omega⟩))
    have k := g_X4_4 L2 hm
    show Pz (m_X4_clear_l12 m 128 q) _
    unfold m_X4_clear_l12
    simp only [k.1, k.2.1, k.2.2]
    refine z_gd (by decide) (z_it (by decide) (z_some (z_some ⟨?_, ?_, ?_, fun x x0 x1 => ?_⟩)))
    · exact ((F2.refl.put (Or.inl ⟨rfl, Or.inl rfl⟩)).put (Or.inl ⟨rfl, Or.inr rfl⟩)).trans (F.mono (fun b j z => Or.inr ⟨z.1, z.2.1⟩))
    · rw [F _ _ (by omega)]; (try simp (disch := omega) only [up_a, up_e, up_j, e32, e8])
    · rw [F _ _ (by omega)]; (try simp (disch := omega) only [up_a, up_e, up_j, e32, e8])
    · have := E x x0 x1
      rwa [Int.zero_add] at this
theorem NM_0 {h : Hp} {m : Int} (e1 : h m 1 = 0) (e3 : h m 3 = 0) (e2 : ∀ x, 0 ≤ x → x < 128 → h (m + 2) x = -1) (l3 : 0 ≤ h (m + 3) (-1)) (l4 : 0 ≤ h (m + 4) (-1)) : NM h m 0 (fun _ => []) := by
  refine ⟨⟨e3, by decide, l3, l4, by omega, by omega, by decide⟩, fun i i0 i1 => by omega, fun i j i0 ij j1 => by omega, fun x x0 x1 => ?_, fun i i0 i1 => by omega⟩
  have := e2 x x0 x1
  exact ⟨by omega, by omega, fun z => by omega, fun i i0 i1 => by omega⟩
/-- what is cleared -/
def clW (a : Int) : Int → Int → Prop := fun b j => scW a b j ∧ b ≠ 3
def clC (a : Int) (h : Hp) : Prop := (h (a + 1) 1 = 0 ∧ h (a + 1) 3 = 0 ∧ ∀ x, 0 ≤ x → x < 128 → h (a + 3) x = -1) ∧ (h (a + 6) 1 = 0 ∧ h (a + 6) 3 = 0 ∧ ∀ x, 0 ≤ x → x < 128 → h (a + 8) x = -1) ∧ h (a + 11) 1 = 0 ∧ h a 6 = 0 ∧ h a 11 = 0 ∧ h a 15 = 0 ∧ h a 20 = 0 ∧ h a 22 = 0 ∧ h a 23 = 300000 ∧ h a 24 = 400000 ∧ h a 25 = 1 ∧ h a 26 = 10000 ∧ h a 27 = 6000 ∧ h a 28 = 0
theorem c_clr3 {h : Hp} {a : Int} (hL : LAY h) (ha : a ∈ in_aX3) : Pz (m_X3_clear a h) (fun h' => F2 (clW a) h h' ∧ clC a h') := by
  have h3 := aX3 ha
  have hn := aX3n ha
  unfold m_X3_clear
  simp only [g_X3_0 hL ha]
  refine z_gd trivial (z_bind (z_mono (c_clr4 hL hn.1) (fun h1 k1 => ?_)))
  obtain ⟨f1, a1, a2, a3⟩ := k1
  have F1 : F2 (clW a) h h1 := f1.mono (fun b j z => ⟨by unfold scW; omega, by omega⟩)
  have L1 := scW_l hL ha (F1.mono (fun b j z => z.1))
  simp only [g_X3_1 L1 ha]
  refine z_gd trivial (z_bind (z_mono (c_clr4 L1 hn.2.1) (fun h2 k2 => ?_)))
  obtain ⟨f2, b1, b2, b3⟩ := k2
  have F2' : F2 (clW a) h h2 := F1.trans (f2.mono (fun b j z => ⟨by unfold scW; omega, by omega⟩))
  have L2 := scW_l hL ha (F2'.mono (fun b j z => z.1))
  simp only [g_X3_2 L2 ha]
  refine z_gd trivial (z_pt (z_pt (z_pt (z_pt (z_pt (z_pt (z_pt (z_pt (z_pt (z_pt (z_pt (z_pt (z_some ⟨?_, ?_⟩)))))))))))))
  · refine F2'.trans ?_
    repeat' first
      | exact F2.refl
      | refine F2.put ?_ ⟨by unfold scW; omega, by omega⟩
  · have e1 : h2 (a + 1) 1 = 0 := by rw [f2 _ _ (by omega)]; exact a1
    have e2 : h2 (a + 1) 3 = 0 := by rw [f2 _ _ (by omega)]; exact a2
    have e3 : ∀ x, 0 ≤ x → x < 128 → h2 (a + 3) x = -1 := fun x x0 x1 => by
      rw [f2 _ _ (by omega)]
      have := a3 x x0 x1
      rwa [show a + 1 + 2 = a + 3 by omega] at this
    have e4 : ∀ x, 0 ≤ x → x < 128 → h2 (a + 8) x = -1 := fun x x0 x1 => by
      have := b3 x x0 x1
      rwa [show a + 6 + 2 = a + 8 by omega] at this
    clear a1 a2 a3 b3 f1 f2 F1 F2' L1 L2 hL
    unfold clC
    refine ⟨⟨(by (try simp (disch := omega) only [up_a, up_e, up_j, e32, e8]) <;> omega), (by (try simp (disch := omega) only [up_a, up_e, up_j, e32, e8]) <;> omega), fun x x0 x1 => ?_⟩, ⟨(by (try simp (disch := omega) only [up_a, up_e, up_j, e32, e8]) <;> omega), (by (try simp (disch := omega) only [up_a, up_e, up_j, e32, e8]) <;> omega), fun x x0 x1 => ?_⟩, ?_⟩
    · rw [← e3 x x0 x1]; (repeat rw [up_ne (by omega)])
    · rw [← e4 x x0 x1]; (repeat rw [up_ne (by omega)])
    · (try simp (disch := omega) only [up_a, up_e, up_j, e32, e8])
      grind
def clTt (l : Int) (h : Hp) : Prop := (h (l + 3) 0 = 300000 ∧ h (l + 3) 1 = 400000 ∧ h (l + 3) 2 = 1 ∧ h (l + 3) 3 = 10000 ∧ h (l + 3) 4 = 6000 ∧ h (l + 3) 5 = 0) ∧ h l 3 = 0 ∧ h l 4 = 0 ∧ h l 5 = 0 ∧ h l 6 = 0 ∧ h l 7 = 0 ∧ h l 8 = 0 ∧ h (l + 16) 0 = 0 ∧ h (l + 9) 0 = 0 ∧ h (l + 4) 0 = 0
theorem t_clr22 {h : Hp} {l : Int} (hL : LAY h) (hl : l ∈ in_aX22) : Pz (m_X22_clear l h) (fun h' => F2 (fun b j => stW2 l b j ∧ b ≠ l + 2) h h' ∧ clTt l h') := by
  have h22 := aX22 hl
  unfold m_X22_clear
  have k0 := g_X22_2 hL hl
  simp only [k0.1, k0.2.1, k0.2.2]
  refine z_gd ⟨by decide, by decide, by decide⟩ (z_pt ?_)
  have F0 := (F2.refl (W := fun b j => stW2 l b j ∧ b ≠ l + 2) (h := h)).put (a := l + 3) (i := 0) (v := 300000) ⟨by unfold stW2; omega, by omega⟩
  have L0 := stW2_l hL hl (F0.mono (fun b j z => z.1))
  have k1 := g_X22_2 L0 hl
  simp only [k1.1, k1.2.1, k1.2.2]
  refine z_gd ⟨by decide, by decide, by decide⟩ (z_pt ?_)
  have F1 := F0.put (a := l + 3) (i := 1) (v := 400000) ⟨by unfold stW2; omega, by omega⟩
  have L1 := stW2_l hL hl (F1.mono (fun b j z => z.1))
  have k2 := g_X22_2 L1 hl
  simp only [k2.1, k2.2.1, k2.2.2]
  refine z_gd ⟨by decide, by decide, by decide⟩ (z_pt ?_)
  have F2 := F1.put (a := l + 3) (i := 2) (v := 1) ⟨by unfold stW2; omega, by omega⟩
  have L2 := stW2_l hL hl (F2.mono (fun b j z => z.1))
  have k3 := g_X22_2 L2 hl
  simp only [k3.1, k3.2.1, k3.2.2]
  refine z_gd ⟨by decide, by decide, by decide⟩ (z_pt ?_)
  have F3 := F2.put (a := l + 3) (i := 3) (v := 10000) ⟨by unfold stW2; omega, by omega⟩
  have L3 := stW2_l hL hl (F3.mono (fun b j z => z.1))
  have k4 := g_X22_2 L3 hl
  simp only [k4.1, k4.2.1, k4.2.2]
  refine z_gd ⟨by decide, by decide, by decide⟩ (z_pt ?_)
  have F4 := F3.put (a := l + 3) (i := 4) (v := 6000) ⟨by unfold stW2; omega, by omega⟩
  have L4 := stW2_l hL hl (F4.mono (fun b j z => z.1))
  have k5 := g_X22_2 L4 hl
  simp only [k5.1, k5.2.1, k5.2.2]
  refine z_gd ⟨by decide, by decide, by decide⟩ (z_pt ?_)
  have F5 := F4.put (a := l + 3) (i := 5) (v := 0) ⟨by unfold stW2; omega, by omega⟩
  have L5 := stW2_l hL hl (F5.mono (fun b j z => z.1))
  refine z_pt ?_
  have F6 := F5.put (a := l) (i := 3) (v := 0) ⟨by unfold stW2; omega, by omega⟩
  have L6 := stW2_l hL hl (F6.mono (fun b j z => z.1))
  refine z_pt ?_
  have F7 := F6.put (a := l) (i := 4) (v := 0) ⟨by unfold stW2; omega, by omega⟩
  have L7 := stW2_l hL hl (F7.mono (fun b j z => z.1))
  refine z_pt ?_
  have F8 := F7.put (a := l) (i := 5) (v := 0) ⟨by unfold stW2; omega, by omega⟩
  have L8 := stW2_l hL hl (F8.mono (fun b j z => z.1))
  refine z_pt ?_
  have F9 := F8.put (a := l) (i := 6) (v := 0) ⟨by unfold stW2; omega, by omega⟩
  have L9 := stW2_l hL hl (F9.mono (fun b j z => z.1))
  refine z_pt ?_
  have F10 := F9.put (a := l) (i := 7) (v := 0) ⟨by unfold stW2; omega, by omega⟩
  have L10 := stW2_l hL hl (F10.mono (fun b j z => z.1))
  refine z_pt ?_
  have F11 := F10.put (a := l) (i := 8) (v := 0) ⟨by unfold stW2; omega, by omega⟩
  have L11 := stW2_l hL hl (F11.mono (fun b j z => z.1))
  have k12 := g_X22_21 L11 hl
  simp only [k12.1, k12.2.1, k12.2.2]
  refine z_gd ⟨by decide, by decide, by decide⟩ (z_pt ?_)
  have F12 := F11.put (a := l + 16) (i := 0) (v := 0) ⟨by unfold stW2; omega, by omega⟩
  have L12 := stW2_l hL hl (F12.mono (fun b j z => z.1))
  have k13 := g_X22_14 L12 hl
  simp only [k13.1, k13.2.1, k13.2.2]
  refine z_gd ⟨by decide, by decide, by decide⟩ (z_pt ?_)
  have F13 := F12.put (a := l + 9) (i := 0) (v := 0) ⟨by unfold stW2; omega, by omega⟩
  have L13 := stW2_l hL hl (F13.mono (fun b j z => z.1))
  have k14 := g_X22_9 L13 hl
  simp only [k14.1, k14.2.1, k14.2.2]
  refine z_gd ⟨by decide, by decide, by decide⟩ (z_pt ?_)
  have F14 := F13.put (a := l + 4) (i := 0) (v := 0) ⟨by unfold stW2; omega, by omega⟩
  have L14 := stW2_l hL hl (F14.mono (fun b j z => z.1))
  refine z_some ⟨F14, ?_⟩
  clear F0 L0 F1 L1 F2 L2 F3 L3 F4 L4 F5 L5 F6 L6 F7 L7 F8 L8 F9 L9 F10 L10 F11 L11 F12 L12 F13 L13 F14 L14 k0 k1 k2 k3 k4 k5 k12 k13 k14 hL
  unfold clTt
  (try simp (disch := omega) only [up_a, up_e, up_j, e32, e8])
  grind
