set_option maxRecDepth 100000
/-! SOURCES: the end of an element, all of it -/
/-- both note the end; the component's close, the reference's ended with what comes behind it -/
theorem y_closed {h1 h2 hc ht : Hp} {n : Int} {B T : Int → Int} {a l i j o : Int} {N : Int} {s : Int → List Int} {E F M D : Int} (ha : a ∈ in_aX6) (hl : l ∈ in_aX23) (S : SZ h1 h2 n B T a l hc ht) (R : RS T n N s E F M D i hc ht a l) (ec : hc a 2 = j) (et : ht l 25 = j) (i0 : 0 ≤ i) (ij : i < j) (jn : j ≤ n) (hD : 0 < D) (ho : ht l 26 = o) (fo : ht (l + 5) o < j) :
    Pr ((m_X6_close a o hc).bind fun h83 => some (((0 : Int), (0 : Int)), h83)) ((m_X23_ended l o ht).bind fun h96 =>
  gd (h96 (h96 l 11) (-2) % 16 = 1 ∧ (0 : Int) ≤ (h96 l 26) ∧ (h96 l 26) < h96 (h96 l 11) (-1)) (pt h96 l 26 (h96 (h96 l 11) (h96 l 26)) fun h109 =>
  pt h109 l 27 (w32 ((h109 l 27) - 1)) fun h119 =>
  some (((0 : Int), (0 : Int)), h119))) (ZP h1 h2 n B T a l i) := by
  have h6 := aX6 ha
  have h23 := aX23 hl
  have hn := S.2.2.2
  have rV := R.2.2.1
  have eM : hc a 24 = M := rV.1
  have fM : ht l 2 = M := rV.2.1
  have m0 : 0 ≤ M := rV.2.2.1
  have m1 : M ≤ i := rV.2.2.2.1
  have rS := R.2.2.2.1
  have d1 := rS.1
  have d2 := rS.2.1
  have d4 := rS.2.2.2.1
  have so := rS.2.2.2.2.2.2.2.1 (D - 1) (by omega) (by omega)
  rw [rS.2.2.2.2.2.2.1 hD, ho] at so
  have o0 := so.1
  have o1 := so.2.1
  have E5 := R.2.1.2.2.2.1
  have po := (R.2.1.2.2.2.2.2.2.2.1 o o0 o1).1.2.2.1
  -- the component
  have k8 := g_X6_8 S.1.1 ha
  have S1 := S.goL ha (hc' := up (up hc (a + 10) o j) a 29 (D - 1)) ((F2.refl.put (by unfold srP; omega)).put (by unfold srP; omega))
  have left : m_X6_close a o hc = some (up (up (up (up (up (up hc (a + 10) o j) a 29 (D - 1)) (a + 20) M 1) (a + 21) M o) (a + 22) M 0) a 24 (M + 1)) := by
    unfold m_X6_close gd pt
    simp only [k8.1, k8.2.1, k8.2.2, ec]
    rw [if_pos ⟨by decide, o0, by omega⟩, up_a (show a ≠ a + 10 by omega), d1, e32 (x := D - 1) (by omega) (by omega), q_event6 S1.1.1 ha (by rw [up_i (by decide), up_a (by omega)]; exact eM) m0 (by omega), Option.bind_some]
  rw [left, Option.bind_some]
  -- the reference
  have k10 := g_X23_10 S.2.1.1 hl
  have U1 := S.goR hl (ht' := up ht (l + 6) o j) (F2.refl.put (by unfold srQ; omega))
  have k16 := g_X23_16 U1.2.1.1 hl
  have U2 := U1.goR hl (ht' := up (up ht (l + 6) o j) (l + 12) o M) (F2.refl.put (by unfold srQ; omega))
  have right : m_X23_ended l o ht = some (up (up (up (up (up (up ht (l + 6) o j) (l + 12) o M) (l + 2) M 2) (l + 3) M o) (l + 4) M 0) l 2 (M + 1)) := by
    unfold m_X23_ended gd pt
    simp only [k10.1, k10.2.1, k10.2.2, et]
    rw [if_pos ⟨by decide, o0, by omega⟩]
    simp only [k16.1, k16.2.1, k16.2.2, up_a (show l ≠ l + 6 by omega), fM]
    rw [if_pos ⟨by decide, o0, by omega⟩, q_add23 U2.2.1.1 hl (by rw [up_a (by omega), up_a (by omega)]; exact fM) m0 (by omega), Option.bind_some]
  rw [right, Option.bind_some]
  generalize hg : up (up (up (up (up (up ht (l + 6) o j) (l + 12) o M) (l + 2) M 2) (l + 3) M o) (l + 4) M 0) l 2 (M + 1) = g
  have Fg : F2 (srQ l) ht g := by
    rw [← hg]
    repeat' first
      | exact F2.refl
      | refine F2.put ?_ (by unfold srQ; omega)
  have U3 := S.goR hl Fg
  have k11 := g_X23_11 U3.2.1.1 hl
  have g26 : g l 26 = o := by rw [← hg]; (try simp (disch := omega) only [up_a, up_e, up_j, e32, e8]); exact ho
  have g27 : g l 27 = D := by rw [← hg]; (try simp (disch := omega) only [up_a, up_e, up_j, e32, e8]); exact d2
  have g7 : g (l + 7) o = ht (l + 7) o := by rw [← hg]; (repeat rw [up_ne (by omega)])
  have g25 : g l 25 = j := by rw [← hg]; (try simp (disch := omega) only [up_a, up_e, up_j, e32, e8]); exact et
  simp only [k11.1, k11.2.1, k11.2.2, g26, g7]
  refine yr_gd ⟨by decide, o0, by omega⟩ (yr_pt ?_)
  rw [up_j (show (27 : Int) ≠ 26 by decide), g27, e32 (x := D - 1) (by omega) (by omega)]
  refine yr_pt (y_some (Or.inl ⟨rfl, rfl, j, ij, ?_⟩))
  show ZI h1 h2 n B T a l j (up (up (up (up (up (up hc (a + 10) o j) a 29 (D - 1)) (a + 20) M 1) (a + 21) M o) (a + 22) M 0) a 24 (M + 1)) (up (up g l 26 (ht (l + 7) o)) l 27 (D - 1))
  have S3 := (S.goL ha (hc' := up (up (up (up (up (up hc (a + 10) o j) a 29 (D - 1)) (a + 20) M 1) (a + 21) M o) (a + 22) M 0) a 24 (M + 1)) (by
    repeat' first
      | exact F2.refl
      | refine F2.put ?_ (by unfold srP; omega))).goR hl (ht' := up (up g l 26 (ht (l + 7) o)) l 27 (D - 1)) ((Fg.put (by unfold srQ; omega)).put (by unfold srQ; omega))
  have gq : ∀ b x, l ≤ b → b ≤ l + 20 → ¬ (b = l + 1) → ¬ ((l + 2 ≤ b ∧ b ≤ l + 4 ∧ x = M) ∨ (b = l ∧ (x = 2 ∨ x = 25 ∨ x = 26 ∨ x = 27)) ∨ ((b = l + 6 ∨ b = l + 12) ∧ x = o)) → up (up g l 26 (ht (l + 7) o)) l 27 (D - 1) b x = ht b x := fun b x b0 b1 b2 nb => by
    rw [up_ne (by omega), up_ne (by omega), ← hg]
    (repeat rw [up_ne (by omega)])
  have R' := R.close (j := j) (p' := up (up (up (up (up (up hc (a + 10) o j) a 29 (D - 1)) (a + 20) M 1) (a + 21) M o) (a + 22) M 0) a 24 (M + 1)) (q' := up (up g l 26 (ht (l + 7) o)) l 27 (D - 1)) ij jn hD ho (fun b x b0 b1 nb => by (repeat rw [up_ne (by omega)])) gq (by (try simp (disch := omega) only [up_a, up_e, up_j, e32, e8]) <;> omega) (by (try simp (disch := omega) only [up_a, up_e, up_j, e32, e8]); rw [← hg]; (try simp (disch := omega) only [up_a, up_e, up_j, e32, e8])) (by (try simp (disch := omega) only [up_a, up_e, up_j, e32, e8]) <;> omega) (by (try simp (disch := omega) only [up_a, up_e, up_j, e32, e8]) <;> omega) (by (try simp (disch := omega) only [up_a, up_e, up_j, e32, e8]) <;> omega) (by (try simp (disch := omega) only [up_a, up_e, up_j, e32, e8]) <;> omega) (by (try simp (disch := omega) only [up_a, up_e, up_j, e32, e8]) <;> omega) (by (try simp (disch := omega) only [up_a, up_e, up_j, e32, e8]); rw [← hg]; (try simp (disch := omega) only [up_a, up_e, up_j, e32, e8])) (by (try simp (disch := omega) only [up_a, up_e, up_j, e32, e8]); rw [← hg]; (try simp (disch := omega) only [up_a, up_e, up_j, e32, e8])) (by (try simp (disch := omega) only [up_a, up_e, up_j, e32, e8]) <;> omega) (by (try simp (disch := omega) only [up_a, up_e, up_j, e32, e8]); rw [← hg]; (try simp (disch := omega) only [up_a, up_e, up_j, e32, e8])) (by (try simp (disch := omega) only [up_a, up_e, up_j, e32, e8]); rw [← hg]; (try simp (disch := omega) only [up_a, up_e, up_j, e32, e8])) fo
  refine ⟨S3, ?_, ?_, by omega, jn, N, s, E, F, M + 1, D - 1, R', fun m mm0 mm1 k0 k1 => ?_⟩
  · (try simp (disch := omega) only [up_a, up_e, up_j, e32, e8]); exact ec
  · (try simp (disch := omega) only [up_a, up_e, up_j, e32, e8]); exact g25
  · exfalso
    by_cases hm : m = M
    · rw [hm, up_a (by omega), up_a (by omega), ← hg] at k0
      have : up (up (up (up (up (up ht (l + 6) o j) (l + 12) o M) (l + 2) M 2) (l + 3) M o) (l + 4) M 0) l 2 (M + 1) (l + 2) M = 2 := by (try simp (disch := omega) only [up_a, up_e, up_j, e32, e8])
      omega
    · rw [gq _ _ (by omega) (by omega) (by omega) (by omega)] at k0 k1
      have := R.2.2.1.2.2.2.2.2.1 m mm0 (by omega) k0
      omega
