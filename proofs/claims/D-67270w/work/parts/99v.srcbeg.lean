set_option maxRecDepth 100000
/-! SOURCES: a tag that begins an element: what the component notes before the fields -/
theorem gd_t {α : Type} {c : Prop} [Decidable c] {k : Option α} (h : c) : gd c k = k := if_pos h
theorem pt_e {α : Type} {h : Hp} {a i v : Int} {f : Hp → Option α} : pt h a i v f = f (up h a i v) := rfl
theorem lt_e {α : Type} {v : Int} {f : Int → Option α} : lt_ v f = f v := rfl
noncomputable def bgK (a E : Int) (h259 : Hp) : Option ((Int × Int) × Hp) :=
  (m_X6_byteAt a (h259 a 2) h259).bind fun v267 =>
  if v267 ≠ 47 then ((m_X6_byteAt a (h259 a 2) h259).bind fun v330 =>
  if v330 = 62 then (pt h259 a 2 (w32 ((h259 a 2) + 1)) fun h350 =>
  some ((0, 0), h350))
  else (bW (m_X6_broken a h259) fun v339 h339 =>
  gd (0 < v339) (some ((1, v339), h339))))
  else (pt h259 a 2 (w32 ((h259 a 2) + 1)) fun h282 =>
  (m_X6_blanks a h282).bind fun h286 =>
  (m_X6_byteAt a (h286 a 2) h286).bind fun v294 =>
  if v294 = 62 then (pt h286 a 2 (w32 ((h286 a 2) + 1)) fun h314 =>
  (m_X6_close a E h314).bind fun h319 =>
  some ((0, 0), h319))
  else (bW (m_X6_broken a h286) fun v303 h303 =>
  gd (0 < v303) (some ((1, v303), h303))))
def w205 (a E M D : Int) : Int → Int → Prop := fun b x => (b = a ∧ (x = 4 ∨ x = 2 ∨ x = 24 ∨ x = 29)) ∨ (b = a + 16 ∧ x = E) ∨ (a + 20 ≤ b ∧ b ≤ a + 22 ∧ x = M) ∨ (b = a + 30 ∧ x = D)
theorem c_bg205 {h : Hp} {a e E D M F : Int} (hL : LAY h) (ha : a ∈ in_aX6) (e4 : h a 4 = E) (e18 : h a 18 = F) (e24 : h a 24 = M) (e29 : h a 29 = D) (E0 : 0 ≤ E) (E1 : E < 500) (M0 : 0 ≤ M) (M1 : M < 16000) (D0 : 0 ≤ D) (D1 : D < 20) :
    ∃ G, m_X6_begin_j205 a e E h = bT (m_X6_fields a E G) (fun _ h => bgK a E h) (fun a_ h_ => some ((1, a_), h_)) ∧ F2 (w205 a E M D) h G ∧ G (a + 16) E = F ∧ G a 4 = E + 1 ∧ G a 2 = e ∧ G a 24 = M + 1 ∧ G a 29 = D + 1 ∧ G (a + 20) M = 0 ∧ G (a + 21) M = E ∧ G (a + 30) D = E := by
  have h6 := aX6 ha
  have k14 := g_X6_14 hL ha
  have L1 : LAY (up (up (up h (a + 16) E F) a 4 (E + 1)) a 2 e) := srP_l hL ha (((F2.refl.put (by unfold srP; omega)).put (by unfold srP; omega)).put (by unfold srP; omega))
  have x4 : up h (a + 16) E F a 4 = E := by rw [up_a (by omega)]; exact e4
  have x24 : up (up (up h (a + 16) E F) a 4 (E + 1)) a 2 e a 24 = M := by rw [up_j (by decide), up_j (by decide), up_a (by omega)]; exact e24
  have x29 : up (up (up h (a + 16) E F) a 4 (E + 1)) a 2 e a 29 = D := by rw [up_j (by decide), up_j (by decide), up_a (by omega)]; exact e29
  unfold m_X6_begin_j205
  simp only [k14.1, k14.2.1, k14.2.2, e18]
  rw [gd_t ⟨by decide, E0, by omega⟩, pt_e, x4, e32 (x := E + 1) (by omega) (by omega), pt_e, pt_e, q_event6 L1 ha x24 M0 (by omega), Option.bind_some]
  have L2 : LAY (up (up (up (up (up (up (up h (a + 16) E F) a 4 (E + 1)) a 2 e) (a + 20) M 0) (a + 21) M E) (a + 22) M 0) a 24 (M + 1)) := srP_l L1 ha ((((F2.refl.put (by unfold srP; omega)).put (by unfold srP; omega)).put (by unfold srP; omega)).put (by unfold srP; omega))
  have F0 : F2 (w205 a E M D) h (up (up (up (up (up (up (up h (a + 16) E F) a 4 (E + 1)) a 2 e) (a + 20) M 0) (a + 21) M E) (a + 22) M 0) a 24 (M + 1)) := by
    repeat' first
      | exact F2.refl
      | refine F2.put ?_ (by unfold w205; omega)
  have k28 := g_X6_28 L2 ha
  have y29 : up (up (up (up (up (up (up h (a + 16) E F) a 4 (E + 1)) a 2 e) (a + 20) M 0) (a + 21) M E) (a + 22) M 0) a 24 (M + 1) a 29 = D := by rw [up_j (by decide), up_a (by omega), up_a (by omega), up_a (by omega)]; exact x29
  have v1 : up (up (up (up (up (up (up h (a + 16) E F) a 4 (E + 1)) a 2 e) (a + 20) M 0) (a + 21) M E) (a + 22) M 0) a 24 (M + 1) (a + 16) E = F := by (try simp (disch := omega) only [up_a, up_e, up_j, e32, e8])
  have v2 : up (up (up (up (up (up (up h (a + 16) E F) a 4 (E + 1)) a 2 e) (a + 20) M 0) (a + 21) M E) (a + 22) M 0) a 24 (M + 1) a 4 = E + 1 := by (try simp (disch := omega) only [up_a, up_e, up_j, e32, e8])
  have v3 : up (up (up (up (up (up (up h (a + 16) E F) a 4 (E + 1)) a 2 e) (a + 20) M 0) (a + 21) M E) (a + 22) M 0) a 24 (M + 1) a 2 = e := by (try simp (disch := omega) only [up_a, up_e, up_j, e32, e8])
  have v4 : up (up (up (up (up (up (up h (a + 16) E F) a 4 (E + 1)) a 2 e) (a + 20) M 0) (a + 21) M E) (a + 22) M 0) a 24 (M + 1) a 24 = M + 1 := by (try simp (disch := omega) only [up_a, up_e, up_j, e32, e8])
  have v5 : up (up (up (up (up (up (up h (a + 16) E F) a 4 (E + 1)) a 2 e) (a + 20) M 0) (a + 21) M E) (a + 22) M 0) a 24 (M + 1) (a + 20) M = 0 := by (try simp (disch := omega) only [up_a, up_e, up_j, e32, e8])
  have v6 : up (up (up (up (up (up (up h (a + 16) E F) a 4 (E + 1)) a 2 e) (a + 20) M 0) (a + 21) M E) (a + 22) M 0) a 24 (M + 1) (a + 21) M = E := by (try simp (disch := omega) only [up_a, up_e, up_j, e32, e8])
  generalize up (up (up (up (up (up (up h (a + 16) E F) a 4 (E + 1)) a 2 e) (a + 20) M 0) (a + 21) M E) (a + 22) M 0) a 24 (M + 1) = g at *
  simp only [k28.1, k28.2.1, k28.2.2, y29]
  rw [gd_t ⟨by decide, D0, by omega⟩, pt_e, show up g (a + 30) D E a 29 = D by rw [up_a (by omega)]; exact y29, e32 (x := D + 1) (by omega) (by omega), pt_e]
  refine ⟨up (up g (a + 30) D E) a 29 (D + 1), rfl, (F0.put (by unfold w205; omega)).put (by unfold w205; omega), ?_, ?_, ?_, ?_, up_s _ _ _ _, ?_, ?_, ?_⟩
  · rw [up_ne (by omega), up_ne (by omega)]; exact v1
  · rw [up_ne (by omega), up_ne (by omega)]; exact v2
  · rw [up_ne (by omega), up_ne (by omega)]; exact v3
  · rw [up_ne (by omega), up_ne (by omega)]; exact v4
  · rw [up_ne (by omega), up_ne (by omega)]; exact v5
  · rw [up_ne (by omega), up_ne (by omega)]; exact v6
  · rw [up_ne (by omega), up_s]
def w131 (a E M D o : Int) : Int → Int → Prop := fun b x => w205 a E M D b x ∨ ((b = a + 11 ∨ b = a + 12) ∧ x = E) ∨ (a + 13 ≤ b ∧ b ≤ a + 15 ∧ x = o ∧ 0 ≤ o) ∨ (b = a ∧ (x = 19 ∨ x = 20))
theorem c_bg131 {h : Hp} {a e E D M F o z : Int} (hL : LAY h) (ha : a ∈ in_aX6) (e4 : h a 4 = E) (e18 : h a 18 = F) (e24 : h a 24 = M) (e29 : h a 29 = D) (E0 : 0 ≤ E) (E1 : E < 500) (M0 : 0 ≤ M) (M1 : M < 16000) (D0 : 0 ≤ D) (D1 : D < 20) (oE : o < E) (r1 : 0 ≤ o → 0 ≤ h (a + 13) o ∧ h (a + 13) o ≤ 500) (r2 : 0 ≤ h a 19 ∧ h a 19 ≤ 500) (ez : z = if 0 ≤ o then h (a + 14) o else h a 20) :
    ∃ G, m_X6_begin_j131 o E e a (a + 12) z h = bT (m_X6_fields a E G) (fun _ h => bgK a E h) (fun a_ h_ => some ((1, a_), h_)) ∧ F2 (w131 a E M D o) h G ∧ G (a + 16) E = F ∧ G a 4 = E + 1 ∧ G a 2 = e ∧ G a 24 = M + 1 ∧ G a 29 = D + 1 ∧ G (a + 20) M = 0 ∧ G (a + 21) M = E ∧ G (a + 30) D = E ∧ (0 ≤ o → opO h G a E o) ∧ (o < 0 → opN h G a E) := by
  have h6 := aX6 ha
  have kk := g_X6_10 hL ha
  have L1 : LAY (up h (a + 12) E z) := srP_l hL ha (F2.refl.put (by unfold srP; omega))
  unfold m_X6_begin_j131
  rw [kk.1] at kk
  simp only [kk.2.1, kk.2.2]
  rw [gd_t ⟨by decide, E0, by omega⟩, pt_e]
  by_cases ho : 0 ≤ o
  · rw [if_pos ho] at ez ⊢
    have k11 := g_X6_11 L1 ha
    have k12 := g_X6_12 (h := up (up h (a + 12) E z) (a + 13) o (h (a + 13) o + 1)) (srP_l L1 ha (F2.refl.put (by unfold srP; omega))) ha
    have k13 := g_X6_13 (h := up (up (up h (a + 12) E z) (a + 13) o (h (a + 13) o + 1)) (a + 14) o E) (srP_l L1 ha ((F2.refl.put (by unfold srP; omega)).put (by unfold srP; omega))) ha
    have L4 : LAY (up (up (up (up h (a + 12) E z) (a + 13) o (h (a + 13) o + 1)) (a + 14) o E) (a + 15) o 1) := srP_l L1 ha (((F2.refl.put (by unfold srP; omega)).put (by unfold srP; omega)).put (by unfold srP; omega))
    have k11b := g_X6_11 L4 ha
    have k9 := g_X6_9 L4 ha
    have y0 : up h (a + 12) E z (a + 13) o = h (a + 13) o := up_a (by omega)
    have y1 : up (up (up (up h (a + 12) E z) (a + 13) o (h (a + 13) o + 1)) (a + 14) o E) (a + 15) o 1 (a + 13) o = h (a + 13) o + 1 := by rw [up_a (by omega), up_a (by omega), up_s]
    have r1' := r1 ho
    simp only [k11.1, k11.2.1, k11.2.2, y0]
    rw [gd_t ⟨by decide, ho, by omega⟩, e32 (x := h (a + 13) o + 1) (by omega) (by omega), pt_e]
    simp only [k12.1, k12.2.1, k12.2.2]
    rw [gd_t ⟨by decide, ho, by omega⟩, pt_e]
    simp only [k13.1, k13.2.1, k13.2.2]
    rw [gd_t ⟨by decide, ho, by omega⟩, pt_e]
    simp only [k11b.1, k11b.2.1, k11b.2.2, k9.1, k9.2.1, k9.2.2, y1]
    rw [gd_t ⟨by decide, ho, by omega⟩, gd_t ⟨by decide, E0, by omega⟩, pt_e]
    have F0 : F2 (w131 a E M D o) h (up (up (up (up (up h (a + 12) E z) (a + 13) o (h (a + 13) o + 1)) (a + 14) o E) (a + 15) o 1) (a + 11) E (h (a + 13) o + 1)) := by
      repeat' first
        | exact F2.refl
        | refine F2.put ?_ (by unfold w131; omega)
    have L5 := srP_l hL ha (h' := up (up (up (up (up h (a + 12) E z) (a + 13) o (h (a + 13) o + 1)) (a + 14) o E) (a + 15) o 1) (a + 11) E (h (a + 13) o + 1)) (by
      repeat' first
        | exact F2.refl
        | refine F2.put ?_ (by unfold srP; omega))
    have ag : ∀ j, up (up (up (up (up h (a + 12) E z) (a + 13) o (h (a + 13) o + 1)) (a + 14) o E) (a + 15) o 1) (a + 11) E (h (a + 13) o + 1) a j = h a j := fun j => by
      rw [up_a (by omega), up_a (by omega), up_a (by omega), up_a (by omega), up_a (by omega)]
    have v1 : up (up (up (up (up h (a + 12) E z) (a + 13) o (h (a + 13) o + 1)) (a + 14) o E) (a + 15) o 1) (a + 11) E (h (a + 13) o + 1) (a + 13) o = h (a + 13) o + 1 := by (try simp (disch := omega) only [up_a, up_e, up_j, e32, e8])
    have v2 : up (up (up (up (up h (a + 12) E z) (a + 13) o (h (a + 13) o + 1)) (a + 14) o E) (a + 15) o 1) (a + 11) E (h (a + 13) o + 1) (a + 14) o = E := by (try simp (disch := omega) only [up_a, up_e, up_j, e32, e8])
    have v3 : up (up (up (up (up h (a + 12) E z) (a + 13) o (h (a + 13) o + 1)) (a + 14) o E) (a + 15) o 1) (a + 11) E (h (a + 13) o + 1) (a + 15) o = 1 := by (try simp (disch := omega) only [up_a, up_e, up_j, e32, e8])
    have v4 : up (up (up (up (up h (a + 12) E z) (a + 13) o (h (a + 13) o + 1)) (a + 14) o E) (a + 15) o 1) (a + 11) E (h (a + 13) o + 1) (a + 11) E = h (a + 13) o + 1 := up_s _ _ _ _
    have v5 : up (up (up (up (up h (a + 12) E z) (a + 13) o (h (a + 13) o + 1)) (a + 14) o E) (a + 15) o 1) (a + 11) E (h (a + 13) o + 1) (a + 12) E = h (a + 14) o := by (try simp (disch := omega) only [up_a, up_e, up_j, e32, e8]); exact ez
    generalize up (up (up (up (up h (a + 12) E z) (a + 13) o (h (a + 13) o + 1)) (a + 14) o E) (a + 15) o 1) (a + 11) E (h (a + 13) o + 1) = g at *
    obtain ⟨G, g1, g2, g3, g4, g5, g6, g7, g8, g9, g10⟩ := c_bg205 (e := e) (F := F) (M := M) (D := D) L5 ha ((ag 4).trans e4) ((ag 18).trans e18) ((ag 24).trans e24) ((ag 29).trans e29) E0 E1 M0 M1 D0 D1
    refine ⟨G, g1, F0.trans (g2.mono (fun b x zz => Or.inl zz)), g3, g4, g5, g6, g7, g8, g9, g10, fun _ => ?_, fun q => absurd q (by omega)⟩
    unfold opO
    rw [g2 (a + 13) o (by unfold w205; omega), g2 (a + 14) o (by unfold w205; omega), g2 (a + 15) o (by unfold w205; omega), g2 (a + 11) E (by unfold w205; omega), g2 (a + 12) E (by unfold w205; omega), g2 a 19 (by unfold w205; omega), g2 a 20 (by unfold w205; omega), ag, ag]
    exact ⟨v1, v2, v3, v4, v5, rfl, rfl⟩
  · rw [if_neg ho] at ez ⊢
    have x19 : up h (a + 12) E z a 19 = h a 19 := up_a (by omega)
    rw [x19, e32 (x := h a 19 + 1) (by omega) (by omega), pt_e, pt_e]
    have L3 : LAY (up (up (up h (a + 12) E z) a 19 (h a 19 + 1)) a 20 E) := srP_l L1 ha ((F2.refl.put (by unfold srP; omega)).put (by unfold srP; omega))
    have k9 := g_X6_9 L3 ha
    have y19 : up (up (up h (a + 12) E z) a 19 (h a 19 + 1)) a 20 E a 19 = h a 19 + 1 := by rw [up_j (by decide), up_s]
    simp only [k9.1, k9.2.1, k9.2.2, y19]
    rw [gd_t ⟨by decide, E0, by omega⟩, pt_e]
    have F0 : F2 (w131 a E M D o) h (up (up (up (up h (a + 12) E z) a 19 (h a 19 + 1)) a 20 E) (a + 11) E (h a 19 + 1)) := by
      repeat' first
        | exact F2.refl
        | refine F2.put ?_ (by unfold w131; omega)
    have L5 := srP_l hL ha (h' := up (up (up (up h (a + 12) E z) a 19 (h a 19 + 1)) a 20 E) (a + 11) E (h a 19 + 1)) (by
      repeat' first
        | exact F2.refl
        | refine F2.put ?_ (by unfold srP; omega))
    have ag : ∀ j, j ≠ 19 → j ≠ 20 → up (up (up (up h (a + 12) E z) a 19 (h a 19 + 1)) a 20 E) (a + 11) E (h a 19 + 1) a j = h a j := fun j j1 j2 => by
      rw [up_a (by omega), up_j j2, up_j j1, up_a (by omega)]
    have v1 : up (up (up (up h (a + 12) E z) a 19 (h a 19 + 1)) a 20 E) (a + 11) E (h a 19 + 1) a 19 = h a 19 + 1 := by (try simp (disch := omega) only [up_a, up_e, up_j, e32, e8])
    have v2 : up (up (up (up h (a + 12) E z) a 19 (h a 19 + 1)) a 20 E) (a + 11) E (h a 19 + 1) a 20 = E := by (try simp (disch := omega) only [up_a, up_e, up_j, e32, e8])
    have v3 : up (up (up (up h (a + 12) E z) a 19 (h a 19 + 1)) a 20 E) (a + 11) E (h a 19 + 1) (a + 11) E = h a 19 + 1 := up_s _ _ _ _
    have v4 : up (up (up (up h (a + 12) E z) a 19 (h a 19 + 1)) a 20 E) (a + 11) E (h a 19 + 1) (a + 12) E = h a 20 := by (try simp (disch := omega) only [up_a, up_e, up_j, e32, e8]); exact ez
    generalize up (up (up (up h (a + 12) E z) a 19 (h a 19 + 1)) a 20 E) (a + 11) E (h a 19 + 1) = g at *
    obtain ⟨G, g1, g2, g3, g4, g5, g6, g7, g8, g9, g10⟩ := c_bg205 (e := e) (F := F) (M := M) (D := D) L5 ha ((ag 4 (by decide) (by decide)).trans e4) ((ag 18 (by decide) (by decide)).trans e18) ((ag 24 (by decide) (by decide)).trans e24) ((ag 29 (by decide) (by decide)).trans e29) E0 E1 M0 M1 D0 D1
    refine ⟨G, g1, F0.trans (g2.mono (fun b x zz => Or.inl zz)), g3, g4, g5, g6, g7, g8, g9, g10, fun q => absurd q ho, fun _ => ?_⟩
    unfold opN
    rw [g2 a 19 (by unfold w205; omega), g2 a 20 (by unfold w205; omega), g2 (a + 11) E (by unfold w205; omega), g2 (a + 12) E (by unfold w205; omega)]
    exact ⟨v1, v2, v3, v4⟩
