set_option maxRecDepth 100000
/-! SOURCES: a tag that begins an element: all that the component notes before the fields -/
def wbg (a E M D o : Int) : Int → Int → Prop := fun b x => w131 a E M D o b x ∨ ((a + 7 ≤ b ∧ b ≤ a + 9 ∨ a + 13 ≤ b ∧ b ≤ a + 15) ∧ x = E)
def ogV (a E F M D o i v e : Int) (G : Hp) : Prop := G (a + 7) E = v ∧ G (a + 8) E = o ∧ G (a + 9) E = i ∧ G (a + 13) E = 0 ∧ G (a + 14) E = -1 ∧ G (a + 15) E = 0 ∧ G (a + 16) E = F ∧ G a 4 = E + 1 ∧ G a 2 = e ∧ G a 24 = M + 1 ∧ G a 29 = D + 1 ∧ G (a + 20) M = 0 ∧ G (a + 21) M = E ∧ G (a + 30) D = E
def ogP (a E F M D o i v e : Int) (p G : Hp) : Prop := F2 (wbg a E M D o) p G ∧ ogV a E F M D o i v e G ∧ (0 ≤ o → opO p G a E o) ∧ (o < 0 → opN p G a E)
theorem c_bg {g : Hp} {a i v e E D M F o : Int} (hL : LAY g) (ha : a ∈ in_aX6) (e4 : g a 4 = E) (e18 : g a 18 = F) (e24 : g a 24 = M) (e29 : g a 29 = D) (E0 : 0 ≤ E) (E1 : E < 500) (M0 : 0 ≤ M) (M1 : M < 16000) (D0 : 0 ≤ D) (D1 : D < 20) (oE : o < E) (om : -1 ≤ o) (r1 : 0 ≤ o → 0 ≤ g (a + 13) o ∧ g (a + 13) o ≤ 500) (r2 : 0 ≤ g a 19 ∧ g a 19 ≤ 500) (to : o = if D ≠ 0 then g (a + 30) (D - 1) else -1) :
    ∃ G, (gd (g (a + 7) (-2) % 16 = 1 ∧ (0 : Int) ≤ E ∧ E < g (a + 7) (-1)) (pt g (a + 7) E v fun h60 =>
  (m_X6_top a h60).bind fun v67 =>
  gd (h60 (h60 a 6) (-2) % 16 = 1 ∧ (0 : Int) ≤ E ∧ E < h60 (h60 a 6) (-1)) (pt h60 (h60 a 6) E v67 fun h70 =>
  gd (h70 (h70 a 7) (-2) % 16 = 1 ∧ (0 : Int) ≤ E ∧ E < h70 (h70 a 7) (-1)) (pt h70 (h70 a 7) E i fun h77 =>
  gd (h77 (h77 a 11) (-2) % 16 = 1 ∧ (0 : Int) ≤ E ∧ E < h77 (h77 a 11) (-1)) (pt h77 (h77 a 11) E 0 fun h84 =>
  gd (h84 (h84 a 12) (-2) % 16 = 1 ∧ (0 : Int) ≤ E ∧ E < h84 (h84 a 12) (-1)) (pt h84 (h84 a 12) E (-1) fun h91 =>
  gd (h91 (h91 a 13) (-2) % 16 = 3 ∧ (0 : Int) ≤ E ∧ E < h91 (h91 a 13) (-1)) (pt h91 (h91 a 13) E 0 fun h98 =>
  gd (h98 (h98 a 6) (-2) % 16 = 1 ∧ (0 : Int) ≤ E ∧ E < h98 (h98 a 6) (-1)) (lt_ (h98 (h98 a 6) E) fun x4_105 =>
  if 0 ≤ x4_105 then (gd (h98 (h98 a 12) (-2) % 16 = 1 ∧ (0 : Int) ≤ x4_105 ∧ x4_105 < h98 (h98 a 12) (-1)) (m_X6_begin_j131 x4_105 E e a (h98 a 10) (h98 (h98 a 12) x4_105) h98))
  else (m_X6_begin_j131 x4_105 E e a (h98 a 10) (h98 a 20) h98))))))))) = bT (m_X6_fields a E G) (fun _ h => bgK a E h) (fun a_ h_ => some ((1, a_), h_)) ∧ ogP a E F M D o i v e g G := by
  have h6 := aX6 ha
  have k5 := g_X6_5 hL ha
  have L1 : LAY (up g (a + 7) E v) := srP_l hL ha (F2.refl.put (by unfold srP; omega))
  have k6 := g_X6_6 L1 ha
  have L2 : LAY (up (up g (a + 7) E v) (a + 8) E o) := srP_l L1 ha (F2.refl.put (by unfold srP; omega))
  have k7 := g_X6_7 L2 ha
  have L3 : LAY (up (up (up g (a + 7) E v) (a + 8) E o) (a + 9) E i) := srP_l L2 ha (F2.refl.put (by unfold srP; omega))
  have k11 := g_X6_11 L3 ha
  have L4 : LAY (up (up (up (up g (a + 7) E v) (a + 8) E o) (a + 9) E i) (a + 13) E 0) := srP_l L3 ha (F2.refl.put (by unfold srP; omega))
  have k12 := g_X6_12 L4 ha
  have L5 : LAY (up (up (up (up (up g (a + 7) E v) (a + 8) E o) (a + 9) E i) (a + 13) E 0) (a + 14) E (-1)) := srP_l L4 ha (F2.refl.put (by unfold srP; omega))
  have k13 := g_X6_13 L5 ha
  have L6 : LAY (up (up (up (up (up (up g (a + 7) E v) (a + 8) E o) (a + 9) E i) (a + 13) E 0) (a + 14) E (-1)) (a + 15) E 0) := srP_l L5 ha (F2.refl.put (by unfold srP; omega))
  have k6b := g_X6_6 L6 ha
  have k12b := g_X6_12 L6 ha
  have k10b := g_X6_10 L6 ha
  have tp : m_X6_top a (up g (a + 7) E v) = some o := by
    rw [q_top6 (D := D) L1 ha (by rw [up_a (by omega)]; exact e29) D0 (by omega), up_a (by omega), ← to]
  rw [gd_t ⟨by rw [k5.2.1]; decide, E0, by rw [k5.2.2]; omega⟩, pt_e, tp, Option.bind_some]
  simp only [k6.1, k6.2.1, k6.2.2]
  rw [gd_t ⟨by decide, E0, by omega⟩, pt_e]
  simp only [k7.1, k7.2.1, k7.2.2]
  rw [gd_t ⟨by decide, E0, by omega⟩, pt_e]
  simp only [k11.1, k11.2.1, k11.2.2]
  rw [gd_t ⟨by decide, E0, by omega⟩, pt_e]
  simp only [k12.1, k12.2.1, k12.2.2]
  rw [gd_t ⟨by decide, E0, by omega⟩, pt_e]
  simp only [k13.1, k13.2.1, k13.2.2]
  rw [gd_t ⟨by decide, E0, by omega⟩, pt_e]
  have F0 : F2 (fun b x => (a + 7 ≤ b ∧ b ≤ a + 9 ∨ a + 13 ≤ b ∧ b ≤ a + 15) ∧ x = E) g (up (up (up (up (up (up g (a + 7) E v) (a + 8) E o) (a + 9) E i) (a + 13) E 0) (a + 14) E (-1)) (a + 15) E 0) := by
    repeat' first
      | exact F2.refl
      | refine F2.put ?_ (by omega)
  have v1 : up (up (up (up (up (up g (a + 7) E v) (a + 8) E o) (a + 9) E i) (a + 13) E 0) (a + 14) E (-1)) (a + 15) E 0 (a + 7) E = v := by (try simp (disch := omega) only [up_a, up_e, up_j, e32, e8])
  have v2 : up (up (up (up (up (up g (a + 7) E v) (a + 8) E o) (a + 9) E i) (a + 13) E 0) (a + 14) E (-1)) (a + 15) E 0 (a + 8) E = o := by (try simp (disch := omega) only [up_a, up_e, up_j, e32, e8])
  have v3 : up (up (up (up (up (up g (a + 7) E v) (a + 8) E o) (a + 9) E i) (a + 13) E 0) (a + 14) E (-1)) (a + 15) E 0 (a + 9) E = i := by (try simp (disch := omega) only [up_a, up_e, up_j, e32, e8])
  have v4 : up (up (up (up (up (up g (a + 7) E v) (a + 8) E o) (a + 9) E i) (a + 13) E 0) (a + 14) E (-1)) (a + 15) E 0 (a + 13) E = 0 := by (try simp (disch := omega) only [up_a, up_e, up_j, e32, e8])
  have v5 : up (up (up (up (up (up g (a + 7) E v) (a + 8) E o) (a + 9) E i) (a + 13) E 0) (a + 14) E (-1)) (a + 15) E 0 (a + 14) E = -1 := by (try simp (disch := omega) only [up_a, up_e, up_j, e32, e8])
  have v6 : up (up (up (up (up (up g (a + 7) E v) (a + 8) E o) (a + 9) E i) (a + 13) E 0) (a + 14) E (-1)) (a + 15) E 0 (a + 15) E = 0 := by (try simp (disch := omega) only [up_a, up_e, up_j, e32, e8])
  clear L1 L2 L3 L4 L5 k5 k6 k7 k11 k12 k13 tp
  generalize up (up (up (up (up (up g (a + 7) E v) (a + 8) E o) (a + 9) E i) (a + 13) E 0) (a + 14) E (-1)) (a + 15) E 0 = g1 at *
  have ag : ∀ j, g1 a j = g a j := fun j => F0 _ _ (by omega)
  have g13 : g1 (a + 13) o = g (a + 13) o := F0 _ _ (by omega)
  have g14 : g1 (a + 14) o = g (a + 14) o := F0 _ _ (by omega)
  simp only [k6b.1, k6b.2.1, k6b.2.2, v2, k12b.1, k12b.2.1, k12b.2.2, k10b.1]
  rw [gd_t ⟨by decide, E0, by omega⟩, lt_e]
  obtain ⟨G, q1, q2, q3, q4, q5, q6, q7, q8, q9, q10, q11, q12⟩ := c_bg131 (e := e) (F := F) (M := M) (D := D) (o := o) (z := if 0 ≤ o then g1 (a + 14) o else g1 a 20) L6 ha ((ag 4).trans e4) ((ag 18).trans e18) ((ag 24).trans e24) ((ag 29).trans e29) E0 E1 M0 M1 D0 D1 oE (fun z => by rw [g13]; exact r1 z) (by rw [ag]; exact r2) rfl
  refine ⟨G, ?_, ?_⟩
  · rw [← q1]
    by_cases ho : 0 ≤ o
    · rw [if_pos ho, if_pos ho, gd_t ⟨by decide, ho, by omega⟩]
    · rw [if_neg ho, if_neg ho]
  · have kp : ∀ b, (b = a + 7 ∨ b = a + 8 ∨ b = a + 9 ∨ b = a + 13 ∨ b = a + 14 ∨ b = a + 15) → G b E = g1 b E := fun b hb => q2 _ _ (by unfold w131 w205; omega)
    refine ⟨(F0.mono (fun b x z => Or.inr z)).trans (q2.mono (fun b x z => Or.inl z)), ⟨?_, ?_, ?_, ?_, ?_, ?_, q3, q4, q5, q6, q7, q8, q9, q10⟩, fun ho => ?_, fun ho => ?_⟩
    · rw [kp _ (by omega)]; exact v1
    · rw [kp _ (by omega)]; exact v2
    · rw [kp _ (by omega)]; exact v3
    · rw [kp _ (by omega)]; exact v4
    · rw [kp _ (by omega)]; exact v5
    · rw [kp _ (by omega)]; exact v6
    · have z := q11 ho
      unfold opO at *
      rw [g13, g14, ag, ag] at z
      exact z
    · have z := q12 ho
      unfold opN at *
      rw [ag, ag] at z
      exact z
