set_option maxRecDepth 100000
/-! SOURCES: a new element (events) -/
theorem RS.op_v {T : Int → Int} {n N N' : Int} {s s' : Int → List Int} {E F F' M D i j o x e : Int} {p q p' q' : Hp} {a l : Int} (R : RS T n N s E F M D i p q a l) (i0 : 0 ≤ i) (i1 : i < n) (hij : i < j) (E1 : E < 500) (D1 : D < 20) (ho : q l 26 = o)
    (hp : ∀ b x, a ≤ b → b ≤ a + 30 → ¬ ((a + 2 ≤ b ∧ b ≤ a + 6) ∨ (a + 7 ≤ b ∧ b ≤ a + 16 ∧ b ≠ a + 10 ∧ x = E) ∨ (a + 13 ≤ b ∧ b ≤ a + 15 ∧ x = o) ∨ (a + 17 ≤ b ∧ b ≤ a + 19 ∧ F ≤ x) ∨ (a + 20 ≤ b ∧ b ≤ a + 22 ∧ x = M) ∨ (b = a + 30 ∧ x = D) ∨ (b = a ∧ (x = 2 ∨ x = 4 ∨ x = 18 ∨ x = 19 ∨ x = 20 ∨ x = 24 ∨ x = 29))) → p' b x = p b x)
    (hq : ∀ b x, l ≤ b → b ≤ l + 20 → ¬ (b = l + 1) → ¬ (((b = l + 5 ∨ (l + 7 ≤ b ∧ b ≤ l + 11)) ∧ x = E) ∨ (l + 13 ≤ b ∧ b ≤ l + 16 ∧ 6 * E ≤ x) ∨ (l + 2 ≤ b ∧ b ≤ l + 4 ∧ x = M) ∨ (b = l ∧ (x = 2 ∨ x = 3 ∨ x = 25 ∨ x = 26 ∨ x = 27))) → q' b x = q b x)
    (NM' : NM p' (a + 2) N' s') (ub1 : p' (a + 2) 1 ≤ j) (ub2 : N' ≤ j) (NN : N ≤ N') (ss : ∀ x, 0 ≤ x → x < N → s' x = s x) (kn : nmO N' s' T n (p' (a + 7) E) x e)
    (p8 : p' (a + 8) E = o) (p9 : p' (a + 9) E = i) (p13 : p' (a + 13) E = 0) (p14 : p' (a + 14) E = -1) (p15 : p' (a + 15) E = 0) (p16 : p' (a + 16) E = F)
    (po : 0 ≤ o → opO p p' a E o)
    (pn : o < 0 → opN p p' a E)
    (a4 : p' a 4 = E + 1) (a18 : p' a 18 = F') (a24 : p' a 24 = M + 1) (a29 : p' a 29 = D + 1) (v0 : p' (a + 20) M = 0) (v1 : p' (a + 21) M = E) (v30 : p' (a + 30) D = E)
    (q5 : q' (l + 5) E = i) (q7 : q' (l + 7) E = o) (q8 : q' (l + 8) E = x) (q9 : q' (l + 9) E = e) (q11 : q' (l + 11) E = M) (q3 : q' l 3 = E + 1) (q2 : q' l 2 = M + 1) (u1 : q' (l + 2) M = 1) (u2 : q' (l + 3) M = E) (q26 : q' l 26 = E) (q27 : q' l 27 = D + 1)
    (fs : fsO T n N' s' p' q' a l E F F') (F'j : F' ≤ j) : rsV T n (E + 1) (M + 1) j p' q' a l := by
  have fle := fs_le R.2.1
  obtain ⟨y1, y2, y3, y4, y5⟩ := R
  have y2' := y2
  have y3' := y3
  have y4' := y4
  obtain ⟨b1, b2, b3, b4, b5, b6, b7, b8, b9, b10⟩ := y2'
  obtain ⟨c1, c2, c3, c4, c5, c6, c7, c8, c9, c10⟩ := y3'
  obtain ⟨d1, d2, d3, d4, d5, d6, d7, d8, d9⟩ := y4'
  have oE : -1 ≤ o ∧ o < E := by
    have := c9 M.toNat (by omega)
    rw [← d5, ho] at this; exact this
  obtain ⟨rowP, rowQ, pE, qE, V2, U2, pF, qF, p30, l4⟩ := op_frames (F := F) (o := o) hp hq
  clear hp hq
  have tE : (E + 1).toNat = E.toNat + 1 := by omega
  have eE : ((E.toNat : Nat) : Int) = E := by omega
  have tn : (M + 1).toNat = M.toNat + 1 := by omega
  have tM : ((M.toNat : Nat) : Int) = M := by omega
  have cnt : ∀ z (k : Nat), (k : Int) ≤ E → cntP (q' (l + 7)) z k = cntP (q (l + 7)) z k := fun z k hk => cntP_congr k (fun y y0 y1 => qE 7 y (by decide) (by decide) (by omega))
  have lat : ∀ z (k : Nat), (k : Int) ≤ E → latP (q' (l + 7)) z k = latP (q (l + 7)) z k := fun z k hk => latP_congr k (fun y y0 y1 => qE 7 y (by decide) (by decide) (by omega))
  have cntS : ∀ z, cntP (q' (l + 7)) z (E + 1).toNat = cntP (q (l + 7)) z E.toNat + (if o = z then 1 else 0) := fun z => by
    rw [tE]
    show cntP (q' (l + 7)) z E.toNat + (if q' (l + 7) (E.toNat : Int) = z then 1 else 0) = _
    rw [eE, q7, cnt z E.toNat (by omega)]
  have latS : ∀ z, latP (q' (l + 7)) z (E + 1).toNat = if o = z then E else latP (q (l + 7)) z E.toNat := fun z => by
    rw [tE]
    show (if q' (l + 7) (E.toNat : Int) = z then (E.toNat : Int) else latP (q' (l + 7)) z E.toNat) = _
    rw [eE, q7, lat z E.toNat (by omega)]
  have par : ∀ e, 0 ≤ e → e < E → q (l + 7) e < e := fun e x0 x1 => (b8 e x0 x1).1.2.2.2.1
  have cu : ∀ m : Nat, (m : Int) ≤ M → cuP (q' (l + 2)) (q' (l + 3)) (q' (l + 7)) m = cuP (q (l + 2)) (q (l + 3)) (q (l + 7)) m := fun m hm =>
    cuP_congr m (fun x x0 x1 => ⟨(V2 x (by omega)).1, (V2 x (by omega)).2.1⟩) (fun y hy => qE 7 _ (by decide) (by decide) (by have := c9 y (by omega); omega))
  clear cntS latS cnt lat par fle y1 y2 y3 y4 y5 b1 b2 b5 b6 b7 b8 b9 b10 d1 d2 d3 d4 d6 d7 d8 d9 pF qF p30 l4 rowP tE eE
  clear kn fs NM' ub1 p8 p9 p13 p14 p16 a4 a18 a29 v30 q5 q8 q9 q3 q26 q27 pn ss
  refine ⟨a24, q2, by omega, by omega, fun m m0 m1 => ?_, fun m m0 m1 mk => ?_, fun e' x0 x1 => ?_, fun e' x0 x1 => ?_, fun m m1 => ?_, fun m m1 => ?_⟩
  · by_cases hm : m = M
    · rw [hm]
      unfold evO
      rw [v0, v1, u1, u2, q11]
      exact Or.inl ⟨rfl, rfl, rfl, b3, by omega, rfl⟩
    · have k := c5 m m0 (by omega)
      unfold evO at *
      rw [(U2 m hm).1, (U2 m hm).2.1, (U2 m hm).2.2, (V2 m hm).1, (V2 m hm).2.1, (V2 m hm).2.2, rowQ 12 (by omega)]
      rcases k with k | k | k
      · refine Or.inl ⟨k.1, k.2.1, k.2.2.1, k.2.2.2.1, by omega, ?_⟩
        rw [qE 11 _ (by decide) (by decide) (by omega)]; exact k.2.2.2.2.2
      · exact Or.inr (Or.inl ⟨k.1, k.2.1, k.2.2.1, k.2.2.2.1, by omega, k.2.2.2.2.2⟩)
      · exact Or.inr (Or.inr k)
  · by_cases hm : m = M
    · rw [hm, u1] at mk; exact absurd mk (by decide)
    · rw [(V2 m hm).1] at mk
      rw [(V2 m hm).2.1, (V2 m hm).2.2]
      have := c6 m m0 (by omega) mk
      exact ⟨by omega, this.2⟩
  · by_cases h : e' = E
    · rw [h, q11, u1, u2]; exact ⟨c3, by omega, rfl, rfl⟩
    · obtain ⟨f1, f2, f3, f4⟩ := c7 e' x0 (by omega)
      rw [qE 11 e' (by decide) (by decide) h, (V2 _ (show q (l + 11) e' ≠ M by omega)).1, (V2 _ (show q (l + 11) e' ≠ M by omega)).2.1]
      exact ⟨f1, by omega, f3, f4⟩
  · rw [tn]
    show p' (a + 15) e' = if cuP (q' (l + 2)) (q' (l + 3)) (q' (l + 7)) M.toNat = e' ∧ q' (l + 2) (M.toNat : Int) ≠ 2 then 1 else flP (q' (l + 2)) (q' (l + 3)) (q' (l + 7)) e' M.toNat
    have fl : ∀ e0, flP (q' (l + 2)) (q' (l + 3)) (q' (l + 7)) e0 M.toNat = flP (q (l + 2)) (q (l + 3)) (q (l + 7)) e0 M.toNat := fun e0 =>
      flP_congr _ (fun x x0 x1 => ⟨(V2 x (by omega)).1, (V2 x (by omega)).2.1⟩) (fun y hy => qE 7 _ (by decide) (by decide) (by have := c9 y (by omega); omega))
    rw [tM, cu M.toNat (by omega), fl, ← d5, ho, u1]
    by_cases h : e' = E
    · have key : ∀ k : Nat, (k : Int) ≤ M → flP (q (l + 2)) (q (l + 3)) (q (l + 7)) E k = 0 := by
        intro k
        induction k with
        | zero => intro _; rfl
        | succ k ih =>
          intro hk
          show (if cuP (q (l + 2)) (q (l + 3)) (q (l + 7)) k = E ∧ q (l + 2) (k : Int) ≠ 2 then 1 else flP (q (l + 2)) (q (l + 3)) (q (l + 7)) E k) = 0
          have := c9 k (by omega)
          rw [if_neg (by omega)]
          exact ih (by omega)
      rw [h, p15, if_neg (by omega), key _ (by omega)]
    · by_cases z : o = e'
      · rw [if_pos ⟨z, by decide⟩, ← z]; exact (po (by omega)).2.2.1
      · rw [if_neg (fun w => z w.1), pE 15 e' (by decide) (by decide) h (by omega)]
        exact c8 e' x0 (by omega)
  · by_cases hm : (m : Int) = M + 1
    · have em : m = M.toNat + 1 := by omega
      rw [em]
      show -1 ≤ (if q' (l + 2) (M.toNat : Int) = 1 then q' (l + 3) (M.toNat : Int) else if q' (l + 2) (M.toNat : Int) = 2 then q' (l + 7) (cuP (q' (l + 2)) (q' (l + 3)) (q' (l + 7)) M.toNat) else cuP (q' (l + 2)) (q' (l + 3)) (q' (l + 7)) M.toNat) ∧ (if q' (l + 2) (M.toNat : Int) = 1 then q' (l + 3) (M.toNat : Int) else if q' (l + 2) (M.toNat : Int) = 2 then q' (l + 7) (cuP (q' (l + 2)) (q' (l + 3)) (q' (l + 7)) M.toNat) else cuP (q' (l + 2)) (q' (l + 3)) (q' (l + 7)) M.toNat) < E + 1
      rw [tM, if_pos u1, u2]; omega
    · rw [cu m (by omega)]
      have := c9 m (by omega)
      omega
  · by_cases hm : (m : Int) = M
    · have em : m = M.toNat := by omega
      refine ⟨fun _ => ?_, fun z => by rw [hm, u1] at z; exact absurd z (by decide)⟩
      rw [hm, u2, q7, em, cu _ (by omega), ← d5, ho]
    · have k := c10 m (by omega)
      have ev := c5 m (by omega) (by omega)
      rw [cu m (by omega), (V2 _ hm).1, (V2 _ hm).2.1]
      refine ⟨fun z => ?_, k.2⟩
      have bb : q (l + 3) (m : Int) ≠ E := by
        unfold evO at ev
        rcases ev with ev | ev | ev | ev <;> omega
      rw [qE 7 _ (by decide) (by decide) bb]
      exact k.1 z
