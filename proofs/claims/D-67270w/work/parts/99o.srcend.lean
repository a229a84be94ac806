set_option maxRecDepth 100000
/-! SOURCES: comments; the end of an element -/
theorem y_comm {h1 h2 hc ht : Hp} {n : Int} {B T : Int → Int} {a l i x : Int} {N : Int} {s : Int → List Int} {E F M D : Int} (ha : a ∈ in_aX6) (hl : l ∈ in_aX23) (S : SZ h1 h2 n B T a l hc ht) (R : RS T n N s E F M D i hc ht a l) (ec : hc a 2 = x) (i0 : 0 ≤ i) (ix : i < x) (xn : x < n) :
    Pr (m_X6_comment a hc) (m_X23_comment l (x + 1) ht) (ZP h1 h2 n B T a l i) := by
  have h6 := aX6 ha
  have h23 := aX23 hl
  have hn := S.2.2.2
  have eB := S.1.2.2.2.1
  obtain ⟨rc, e1, c1⟩ := c_comment6 S.1.2.2.1 S.1.2.2.2.2.2 S.1.2.1 (by omega) (by omega) (by omega) xn ec
  obtain ⟨rt, e2, c2⟩ := t_comment23 S.2.1.2.2.1 S.2.1.2.1 (by omega) (by omega) (show 0 ≤ x by omega) xn
  rw [eB] at c1
  rw [S.2.1.2.2.2.1] at c2
  refine ⟨rc, rt, e1, e2, ?_⟩
  rcases c1 with ⟨a1, rfl⟩ | ⟨a1, z1⟩
  · rcases c2 with ⟨b1, rfl⟩ | ⟨b1, z2⟩
    · have hx1 : x + 1 < n := by
        have := a1.1
        rw [← eB] at this
        exact Bt_n (h := hc) (t := a + 1) (by omega)
      obtain ⟨r1, r2, r3⟩ := cmEnd_r (B := B) (n := n) (i := x + 2) (by omega)
      have r4 := (r3 a1.2).2.2
      have hx3 : cmEnd B n (x + 2) + 2 < n := by
        rw [← eB] at r4
        rw [← eB]
        exact Bt_n (h := hc) (t := a + 1) (by omega)
      refine Or.inl ⟨rfl, rfl, cmEnd B n (x + 2) + 3, by omega, ?_⟩
      exact ZI.go ((S.goL ha (F2.refl.put (by unfold srP; omega))).goR hl (F2.refl.put (by unfold srQ; omega))) i0 (by omega) (by omega) (up_s _ _ _ _) (up_s _ _ _ _) R ⟨fun b b0 b1 => up_row (by omega), fun x hx => up_j hx⟩ ⟨fun b b0 b1 => up_row (by omega), fun x hx => up_j hx⟩
    · exact absurd a1 b1
  · rcases c2 with ⟨b1, rfl⟩ | ⟨b1, z2⟩
    · exact absurd b1 a1
    · refine Or.inr ⟨cmP B n x, ?_, ?_, ThF.pre S.1.2.2.2.2.1 (fun j z => by unfold srP at z; omega) (fun b j z => z) (z1.mono (fun b j z => by unfold srP; omega)), z2.F S.2.1.2.2.2.2.1 (fun j z => by unfold srQ at z; omega)⟩
      · unfold cmP; split <;> omega
      · unfold cmP; split <;> omega
/-- the element that is open is closed -/
theorem RS.close {T : Int → Int} {n N : Int} {s : Int → List Int} {E F M D i j o : Int} {p q p' q' : Hp} {a l : Int} (R : RS T n N s E F M D i p q a l) (hij : i < j) (jn : j ≤ n) (hD : 0 < D) (ho : q l 26 = o)
    (hp : ∀ b x, a ≤ b → b ≤ a + 30 → ¬ ((a + 20 ≤ b ∧ b ≤ a + 22 ∧ x = M) ∨ (b = a ∧ (x = 2 ∨ x = 24 ∨ x = 29)) ∨ (b = a + 10 ∧ x = o)) → p' b x = p b x) (hq : ∀ b x, l ≤ b → b ≤ l + 20 → ¬ (b = l + 1) → ¬ ((l + 2 ≤ b ∧ b ≤ l + 4 ∧ x = M) ∨ (b = l ∧ (x = 2 ∨ x = 25 ∨ x = 26 ∨ x = 27)) ∨ ((b = l + 6 ∨ b = l + 12) ∧ x = o)) → q' b x = q b x)
    (e1 : p' a 24 = M + 1) (e2 : q' l 2 = M + 1) (e3 : p' a 29 = D - 1) (e4 : q' l 27 = D - 1) (e5 : q' l 26 = q (l + 7) o) (v1 : p' (a + 20) M = 1) (v2 : p' (a + 21) M = o) (u1 : q' (l + 2) M = 2) (u2 : q' (l + 3) M = o) (w1 : p' (a + 10) o = j) (w2 : q' (l + 6) o = j) (w3 : q' (l + 12) o = M) (fo : q (l + 5) o < j) : RS T n N s E F (M + 1) (D - 1) j p' q' a l := by
  obtain ⟨y1, y2, y3, y4, y5⟩ := R
  have X : ∀ k : Int, 1 ≤ k → k ≤ 30 → k ≠ 10 → k ≠ 20 → k ≠ 21 → k ≠ 22 → p' (a + k) = p (a + k) := fun k k0 k1 k2 k3 k4 k5 => funext fun x => hp _ _ (by omega) (by omega) (by omega)
  have Z : ∀ k : Int, 5 ≤ k → k ≤ 20 → k ≠ 6 → k ≠ 12 → q' (l + k) = q (l + k) := fun k k0 k1 k2 k3 => funext fun x => hq _ _ (by omega) (by omega) (by omega) (by omega)
  have pa : ∀ x, x ≠ 2 → x ≠ 24 → x ≠ 29 → p' a x = p a x := fun x x1 x2 x3 => hp _ _ (by omega) (by omega) (by omega)
  have ql : ∀ x, x ≠ 2 → x ≠ 25 → x ≠ 26 → x ≠ 27 → q' l x = q l x := fun x x1 x2 x3 x4 => hq _ _ (by omega) (by omega) (by omega) (by omega)
  have V2 : ∀ x, x ≠ M → q' (l + 2) x = q (l + 2) x ∧ q' (l + 3) x = q (l + 3) x ∧ q' (l + 4) x = q (l + 4) x := fun x hx => ⟨hq _ _ (by omega) (by omega) (by omega) (by omega), hq _ _ (by omega) (by omega) (by omega) (by omega), hq _ _ (by omega) (by omega) (by omega) (by omega)⟩
  have U2 : ∀ x, x ≠ M → p' (a + 20) x = p (a + 20) x ∧ p' (a + 21) x = p (a + 21) x ∧ p' (a + 22) x = p (a + 22) x := fun x hx => ⟨hp _ _ (by omega) (by omega) (by omega), hp _ _ (by omega) (by omega) (by omega), hp _ _ (by omega) (by omega) (by omega)⟩
  have W6 : ∀ x, x ≠ o → q' (l + 6) x = q (l + 6) x ∧ q' (l + 12) x = q (l + 12) x ∧ p' (a + 10) x = p (a + 10) x := fun x hx => ⟨hq _ _ (by omega) (by omega) (by omega) (by omega), hq _ _ (by omega) (by omega) (by omega) (by omega), hp _ _ (by omega) (by omega) (by omega)⟩
  have M0 : 0 ≤ M := y3.2.2.1
  have y4' := y4
  unfold rsS at y4'
  obtain ⟨d1, d2, d3, d4, d5, d6, d7, d8, d9⟩ := y4'
  have so := d8 (D - 1) (by omega) (by omega)
  rw [d7 hD, ho] at so
  obtain ⟨so1, so2, so3, so4⟩ := so
  have cu : cuP (q' (l + 2)) (q' (l + 3)) (q' (l + 7)) M.toNat = cuP (q (l + 2)) (q (l + 3)) (q (l + 7)) M.toNat := by
    rw [Z 7 (by decide) (by decide) (by decide) (by decide)]
    exact cuP_congr _ (fun x x0 x1 => ⟨(V2 x (by omega)).1, (V2 x (by omega)).2.1⟩) (fun _ _ => rfl)
  have tn : (M + 1).toNat = M.toNat + 1 := by omega
  have tM : ((M.toNat : Nat) : Int) = M := by omega
  have par : ∀ e, 0 ≤ e → e < E → q (l + 7) e < e := fun e x0 x1 => (y2.2.2.2.2.2.2.2.1 e x0 x1).1.2.2.2.1
  -- those further out are other ones
  have inc : ∀ (k : Nat) (d : Int), 0 ≤ d → d + k + 1 < D → p (a + 30) d < p (a + 30) (d + k + 1) := by
    intro k
    induction k with
    | zero =>
      intro d x0 x1
      have z := d8 (d + 1) (by omega) (by omega)
      have z3 := z.2.2.1
      rw [if_neg (by omega), show d + 1 - 1 = d by omega] at z3
      have := par _ z.1 z.2.1
      rw [z3] at this
      show p (a + 30) d < p (a + 30) (d + ((0 : Nat) : Int) + 1)
      rw [show d + ((0 : Nat) : Int) + 1 = d + 1 by omega]; exact this
    | succ k ih =>
      intro d x0 x1
      have z := d8 (d + ((k + 1 : Nat) : Int) + 1) (by omega) (by omega)
      have z3 := z.2.2.1
      rw [if_neg (by omega), show d + ((k + 1 : Nat) : Int) + 1 - 1 = d + k + 1 by omega] at z3
      have := par _ z.1 z.2.1
      rw [z3] at this
      have := ih d x0 (by omega)
      omega
  have oth : ∀ d, 0 ≤ d → d < D - 1 → p (a + 30) d < o := fun d x0 x1 => by
    have := inc (D - 1 - d - 1).toNat d x0 (by omega)
    rw [show d + (((D - 1 - d - 1).toNat : Nat) : Int) + 1 = D - 1 by omega, d7 hD, ho] at this
    exact this
  refine ⟨?_, ?_, ?_, ?_, ?_⟩
  · unfold rsN at *
    rw [X 2 (by decide) (by decide) (by decide) (by decide) (by decide) (by decide)]
    exact ⟨y1.1.kept (fun b b0 b1 => by have := X (b - a) (by omega) (by omega) (by omega) (by omega) (by omega) (by omega); rwa [show a + (b - a) = b by omega] at this), by omega, by omega⟩
  · unfold rsE elO fsO fdO at *
    rw [pa 4 (by decide) (by decide) (by decide), pa 18 (by decide) (by decide) (by decide), pa 19 (by decide) (by decide) (by decide), pa 20 (by decide) (by decide) (by decide), ql 3 (by decide) (by decide) (by decide) (by decide), X 7 (by decide) (by decide) (by decide) (by decide) (by decide) (by decide), X 8 (by decide) (by decide) (by decide) (by decide) (by decide) (by decide), X 9 (by decide) (by decide) (by decide) (by decide) (by decide) (by decide), X 11 (by decide) (by decide) (by decide) (by decide) (by decide) (by decide), X 12 (by decide) (by decide) (by decide) (by decide) (by decide) (by decide), X 13 (by decide) (by decide) (by decide) (by decide) (by decide) (by decide), X 14 (by decide) (by decide) (by decide) (by decide) (by decide) (by decide), X 16 (by decide) (by decide) (by decide) (by decide) (by decide) (by decide), X 17 (by decide) (by decide) (by decide) (by decide) (by decide) (by decide), X 18 (by decide) (by decide) (by decide) (by decide) (by decide) (by decide), X 19 (by decide) (by decide) (by decide) (by decide) (by decide) (by decide), Z 5 (by decide) (by decide) (by decide) (by decide), Z 7 (by decide) (by decide) (by decide) (by decide), Z 8 (by decide) (by decide) (by decide) (by decide), Z 9 (by decide) (by decide) (by decide) (by decide), Z 10 (by decide) (by decide) (by decide) (by decide), Z 11 (by decide) (by decide) (by decide) (by decide), Z 13 (by decide) (by decide) (by decide) (by decide), Z 14 (by decide) (by decide) (by decide) (by decide), Z 15 (by decide) (by decide) (by decide) (by decide), Z 16 (by decide) (by decide) (by decide) (by decide)]
    obtain ⟨c1, c2, c3, c4, c5, c6, c7, c8⟩ := y2
    exact ⟨c1, c2, c3, c4, c5, c6, ⟨by omega, fun e x0 x1 => by have := c7.2 e x0 x1; omega⟩, c8⟩
  · unfold rsV at *
    obtain ⟨c1, c2, c3, c4, c5, c6, c7, c8, c9, c10⟩ := y3
    refine ⟨e1, e2, by omega, by omega, fun m m0 m1 => ?_, fun m m0 m1 mk => ?_, fun e x0 x1 => ?_, fun e x0 x1 => ?_, fun m m1 => ?_, fun m m1 => ?_⟩
    · by_cases hm : m = M
      · rw [hm]
        unfold evO
        rw [v1, v2, u1, u2, w3]
        exact Or.inr (Or.inl ⟨rfl, rfl, rfl, so1, so2, rfl⟩)
      · have k := c5 m m0 (by omega)
        unfold evO at *
        rw [(U2 m hm).1, (U2 m hm).2.1, (U2 m hm).2.2, (V2 m hm).1, (V2 m hm).2.1, (V2 m hm).2.2, Z 11 (by decide) (by decide) (by decide) (by decide)]
        rcases k with k | k | k
        · exact Or.inl k
        · refine Or.inr (Or.inl ⟨k.1, k.2.1, k.2.2.1, k.2.2.2.1, k.2.2.2.2.1, ?_⟩)
          rw [(W6 _ (so4 m m0 (by omega) k.2.1)).2.1]
          exact k.2.2.2.2.2
        · exact Or.inr (Or.inr k)
    · by_cases hm : m = M
      · rw [hm, u1] at mk; exact absurd mk (by decide)
      · rw [(V2 m hm).1] at mk
        rw [(V2 m hm).2.1, (V2 m hm).2.2]
        have := c6 m m0 (by omega) mk
        exact ⟨by omega, this.2⟩
    · obtain ⟨f1, f2, f3, f4⟩ := c7 e x0 x1
      rw [Z 11 (by decide) (by decide) (by decide) (by decide), (V2 _ (show q (l + 11) e ≠ M by omega)).1, (V2 _ (show q (l + 11) e ≠ M by omega)).2.1]
      exact ⟨f1, by omega, f3, f4⟩
    · have fl : flP (q' (l + 2)) (q' (l + 3)) (q' (l + 7)) e M.toNat = flP (q (l + 2)) (q (l + 3)) (q (l + 7)) e M.toNat := by
        rw [Z 7 (by decide) (by decide) (by decide) (by decide)]
        exact flP_congr _ (fun x x0 x1 => ⟨(V2 x (by omega)).1, (V2 x (by omega)).2.1⟩) (fun _ _ => rfl)
      rw [tn]
      show p' (a + 15) e = if cuP (q' (l + 2)) (q' (l + 3)) (q' (l + 7)) M.toNat = e ∧ q' (l + 2) (M.toNat : Int) ≠ 2 then 1 else flP (q' (l + 2)) (q' (l + 3)) (q' (l + 7)) e M.toNat
      rw [tM, if_neg (fun z => z.2 u1), fl, X 15 (by decide) (by decide) (by decide) (by decide) (by decide) (by decide)]
      exact c8 e x0 x1
    · by_cases hm : (m : Int) = M + 1
      · have e : m = M.toNat + 1 := by omega
        rw [e]
        show -1 ≤ (if q' (l + 2) (M.toNat : Int) = 1 then q' (l + 3) (M.toNat : Int) else if q' (l + 2) (M.toNat : Int) = 2 then q' (l + 7) (cuP (q' (l + 2)) (q' (l + 3)) (q' (l + 7)) M.toNat) else cuP (q' (l + 2)) (q' (l + 3)) (q' (l + 7)) M.toNat) ∧ (if q' (l + 2) (M.toNat : Int) = 1 then q' (l + 3) (M.toNat : Int) else if q' (l + 2) (M.toNat : Int) = 2 then q' (l + 7) (cuP (q' (l + 2)) (q' (l + 3)) (q' (l + 7)) M.toNat) else cuP (q' (l + 2)) (q' (l + 3)) (q' (l + 7)) M.toNat) < E
        rw [tM, if_neg (by omega), if_pos u1, cu, ← d5, ho, Z 7 (by decide) (by decide) (by decide) (by decide)]
        have := par o so1 so2
        have := (y2.2.2.2.2.2.2.2.1 o so1 so2).1.2.2.1
        omega
      · have e : cuP (q' (l + 2)) (q' (l + 3)) (q' (l + 7)) m = cuP (q (l + 2)) (q (l + 3)) (q (l + 7)) m := by
          rw [Z 7 (by decide) (by decide) (by decide) (by decide)]
          exact cuP_congr _ (fun x x0 x1 => ⟨(V2 x (by omega)).1, (V2 x (by omega)).2.1⟩) (fun _ _ => rfl)
        rw [e]
        exact c9 m (by omega)
    · by_cases hm : (m : Int) = M
      · have em : m = M.toNat := by omega
        refine ⟨fun z => by rw [hm, u1] at z; exact absurd z (by decide), fun _ => ?_⟩
        rw [hm, u2, em, cu, ← d5, ho]
      · have e : cuP (q' (l + 2)) (q' (l + 3)) (q' (l + 7)) m = cuP (q (l + 2)) (q (l + 3)) (q (l + 7)) m := by
          rw [Z 7 (by decide) (by decide) (by decide) (by decide)]
          exact cuP_congr _ (fun x x0 x1 => ⟨(V2 x (by omega)).1, (V2 x (by omega)).2.1⟩) (fun _ _ => rfl)
        rw [e, Z 7 (by decide) (by decide) (by decide) (by decide), (V2 _ hm).1, (V2 _ hm).2.1]
        exact c10 m (by omega)
  · unfold rsS clO at *
    have cu1 : cuP (q' (l + 2)) (q' (l + 3)) (q' (l + 7)) (M + 1).toNat = q (l + 7) o := by
      rw [tn]
      show (if q' (l + 2) (M.toNat : Int) = 1 then q' (l + 3) (M.toNat : Int) else if q' (l + 2) (M.toNat : Int) = 2 then q' (l + 7) (cuP (q' (l + 2)) (q' (l + 3)) (q' (l + 7)) M.toNat) else cuP (q' (l + 2)) (q' (l + 3)) (q' (l + 7)) M.toNat) = _
      rw [tM, if_neg (by omega), if_pos u1, cu, ← d5, ho, Z 7 (by decide) (by decide) (by decide) (by decide)]
    rw [e3, e4, e5, X 30 (by decide) (by decide) (by decide) (by decide) (by decide) (by decide), cu1, Z 5 (by decide) (by decide) (by decide) (by decide), Z 7 (by decide) (by decide) (by decide) (by decide), Z 11 (by decide) (by decide) (by decide) (by decide)]
    refine ⟨rfl, rfl, by omega, by omega, rfl, fun z => ?_, fun z => ?_, fun d x0 x1 => ?_, fun e x0 x1 => ?_⟩
    · rw [so3, if_pos z]
    · rw [so3, if_neg (by omega)]
    · obtain ⟨g1, g2, g3, g4⟩ := d8 d x0 (by omega)
      refine ⟨g1, g2, g3, fun m m0 m1 k => ?_⟩
      by_cases hm : m = M
      · have := oth d x0 x1
        rw [hm, u2]; omega
      · rw [(V2 m hm).1] at k
        rw [(V2 m hm).2.1]
        exact g4 m m0 (by omega) k
    · by_cases heo : e = o
      · rw [heo, w1, w2, w3, u1, u2]
        have f := y3.2.2.2.2.2.2.1 o so1 so2
        exact Or.inr ⟨rfl, fo, jn, f.2.1, by omega, rfl, rfl⟩
      · rw [(W6 e heo).1, (W6 e heo).2.1, (W6 e heo).2.2]
        rcases d9 e x0 x1 with ⟨d, g1, g2, g3⟩ | ⟨g1, g2, g3, g4, g5, g6, g7⟩
        · refine Or.inl ⟨d, g1, ?_, g3⟩
          rcases Int.lt_or_eq_of_le (show d ≤ D - 1 by omega) with z | z
          · exact z
          · rw [z, d7 hD, ho] at g3; exact absurd g3.symm heo
        · rw [(V2 _ (show q (l + 12) e ≠ M by omega)).1, (V2 _ (show q (l + 12) e ≠ M by omega)).2.1]
          exact Or.inr ⟨g1, g2, g3, g4, by omega, g6, g7⟩
  · unfold rsT enO at *
    rw [ql 4 (by decide) (by decide) (by decide) (by decide), X 23 (by decide) (by decide) (by decide) (by decide) (by decide) (by decide), X 28 (by decide) (by decide) (by decide) (by decide) (by decide) (by decide), X 29 (by decide) (by decide) (by decide) (by decide) (by decide) (by decide), Z 17 (by decide) (by decide) (by decide) (by decide), Z 18 (by decide) (by decide) (by decide) (by decide), Z 19 (by decide) (by decide) (by decide) (by decide), Z 20 (by decide) (by decide) (by decide) (by decide)]
    obtain ⟨K, r, c1, c2, c3, c4, c5⟩ := y5
    refine ⟨K, r, c1.kept (fun b b0 b1 => by have := X (b - a) (by omega) (by omega) (by omega) (by omega) (by omega) (by omega); rwa [show a + (b - a) = b by omega] at this), by omega, c3, c4, fun k k0 k1 => ?_⟩
    obtain ⟨d1, d2, d3, d4, d5, d6, d7, d8, d9, d10⟩ := c5 k k0 k1
    exact ⟨d1, d2, d3, d4, d5, d6, d7, d8, by omega, d10⟩
