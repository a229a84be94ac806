set_option maxRecDepth 100000
/-! SOURCES: a new element -/
/-- the fields of all elements end before F -/
theorem fs_le {T : Int → Int} {n N : Int} {s : Int → List Int} {E F i : Int} {p q : Hp} {a l : Int} (y : rsE T n N s E F i p q a l) : ∀ e, 0 ≤ e → e < E → (if e + 1 < E then p (a + 16) (e + 1) else F) ≤ F := by
  obtain ⟨-, -, -, -, -, -, -, c, -⟩ := y
  have key : ∀ (k : Nat) (e : Int), 0 ≤ e → e < E → (E - e).toNat = k → (if e + 1 < E then p (a + 16) (e + 1) else F) ≤ F := by
    intro k
    induction k with
    | zero => intro e x0 x1 xk; omega
    | succ k ih =>
      intro e x0 x1 xk
      by_cases h : e + 1 < E
      · rw [if_pos h]
        have f := (c (e + 1) (by omega) h).2
        have g := ih (e + 1) (by omega) h (by omega)
        have f1 := f.2.2.2.1
        have f2 := f.2.1
        omega
      · rw [if_neg h]; exact Int.le_refl _
  exact fun e x0 x1 => key _ e x0 x1 rfl
def opO (p p' : Hp) (a E o : Int) : Prop := p' (a + 13) o = p (a + 13) o + 1 ∧ p' (a + 14) o = E ∧ p' (a + 15) o = 1 ∧ p' (a + 11) E = p (a + 13) o + 1 ∧ p' (a + 12) E = p (a + 14) o ∧ p' a 19 = p a 19 ∧ p' a 20 = p a 20
def opN (p p' : Hp) (a E : Int) : Prop := p' a 19 = p a 19 + 1 ∧ p' a 20 = E ∧ p' (a + 11) E = p a 19 + 1 ∧ p' (a + 12) E = p a 20
theorem op_frames {E F M D o : Int} {p q p' q' : Hp} {a l : Int} (hp : ∀ b x, a ≤ b → b ≤ a + 30 → ¬ ((a + 2 ≤ b ∧ b ≤ a + 6) ∨ (a + 7 ≤ b ∧ b ≤ a + 16 ∧ b ≠ a + 10 ∧ x = E) ∨ (a + 13 ≤ b ∧ b ≤ a + 15 ∧ x = o) ∨ (a + 17 ≤ b ∧ b ≤ a + 19 ∧ F ≤ x) ∨ (a + 20 ≤ b ∧ b ≤ a + 22 ∧ x = M) ∨ (b = a + 30 ∧ x = D) ∨ (b = a ∧ (x = 2 ∨ x = 4 ∨ x = 18 ∨ x = 19 ∨ x = 20 ∨ x = 24 ∨ x = 29))) → p' b x = p b x) (hq : ∀ b x, l ≤ b → b ≤ l + 20 → ¬ (b = l + 1) → ¬ (((b = l + 5 ∨ (l + 7 ≤ b ∧ b ≤ l + 11)) ∧ x = E) ∨ (l + 13 ≤ b ∧ b ≤ l + 16 ∧ 6 * E ≤ x) ∨ (l + 2 ≤ b ∧ b ≤ l + 4 ∧ x = M) ∨ (b = l ∧ (x = 2 ∨ x = 3 ∨ x = 25 ∨ x = 26 ∨ x = 27))) → q' b x = q b x) :
    (∀ k : Int, (k = 10 ∨ 23 ≤ k ∧ k ≤ 29) → p' (a + k) = p (a + k)) ∧ (∀ k : Int, (k = 6 ∨ k = 12 ∨ 17 ≤ k ∧ k ≤ 20) → q' (l + k) = q (l + k)) ∧ (∀ k y : Int, 7 ≤ k → k ≤ 16 → y ≠ E → (13 ≤ k ∧ k ≤ 15 → y ≠ o) → p' (a + k) y = p (a + k) y) ∧ (∀ k y : Int, 5 ≤ k → k ≤ 12 → y ≠ E → q' (l + k) y = q (l + k) y) ∧ (∀ x, x ≠ M → q' (l + 2) x = q (l + 2) x ∧ q' (l + 3) x = q (l + 3) x ∧ q' (l + 4) x = q (l + 4) x) ∧ (∀ x, x ≠ M → p' (a + 20) x = p (a + 20) x ∧ p' (a + 21) x = p (a + 21) x ∧ p' (a + 22) x = p (a + 22) x) ∧ (∀ k y : Int, 17 ≤ k → k ≤ 19 → y < F → p' (a + k) y = p (a + k) y) ∧ (∀ k y : Int, 13 ≤ k → k ≤ 16 → y < 6 * E → q' (l + k) y = q (l + k) y) ∧ (∀ y, y ≠ D → p' (a + 30) y = p (a + 30) y) ∧ q' l 4 = q l 4 := by
  refine ⟨fun k hk => funext fun x => hp _ _ (by omega) (by omega) (by omega), fun k hk => funext fun x => hq _ _ (by omega) (by omega) (by omega) (by omega), fun k y k0 k1 hy h => hp _ _ (by omega) (by omega) (by omega), fun k y k0 k1 hy => hq _ _ (by omega) (by omega) (by omega) (by omega), fun x hx => ⟨hq _ _ (by omega) (by omega) (by omega) (by omega), hq _ _ (by omega) (by omega) (by omega) (by omega), hq _ _ (by omega) (by omega) (by omega) (by omega)⟩, fun x hx => ⟨hp _ _ (by omega) (by omega) (by omega), hp _ _ (by omega) (by omega) (by omega), hp _ _ (by omega) (by omega) (by omega)⟩, fun k y k0 k1 hy => hp _ _ (by omega) (by omega) (by omega), fun k y k0 k1 hy => hq _ _ (by omega) (by omega) (by omega) (by omega), fun y hy => hp _ _ (by omega) (by omega) (by omega), hq _ _ (by omega) (by omega) (by omega) (by omega)⟩
theorem RS.op_t {T : Int → Int} {n i j : Int} {p q p' q' : Hp} {a l : Int} (y5 : rsT T n i p q a l) (hij : i < j) (rowP : ∀ k : Int, (k = 10 ∨ 23 ≤ k ∧ k ≤ 29) → p' (a + k) = p (a + k)) (rowQ : ∀ k : Int, (k = 6 ∨ k = 12 ∨ 17 ≤ k ∧ k ≤ 20) → q' (l + k) = q (l + k)) (l4 : q' l 4 = q l 4) : rsT T n j p' q' a l := by
  unfold rsT enO at *
  rw [l4, rowP 23 (by omega), rowP 28 (by omega), rowP 29 (by omega), rowQ 17 (by omega), rowQ 18 (by omega), rowQ 19 (by omega), rowQ 20 (by omega)]
  obtain ⟨K, r, k1, k2, k3, k4, k5⟩ := y5
  refine ⟨K, r, k1.kept (fun b b0 b1 => by have := rowP (b - a) (by omega); rwa [show a + (b - a) = b by omega] at this), by omega, k3, k4, fun k z0 z1 => ?_⟩
  obtain ⟨d1, d2, d3, d4, d5, d6, d7, d8, d9, d10⟩ := k5 k z0 z1
  exact ⟨d1, d2, d3, d4, d5, d6, d7, d8, by omega, d10⟩
theorem RS.op_e {T : Int → Int} {n N N' : Int} {s s' : Int → List Int} {E F F' M D i j o x e : Int} {p q p' q' : Hp} {a l : Int} (R : RS T n N s E F M D i p q a l) (i0 : 0 ≤ i) (i1 : i < n) (hij : i < j) (E1 : E < 500) (D1 : D < 20) (ho : q l 26 = o)
    (hp : ∀ b x, a ≤ b → b ≤ a + 30 → ¬ ((a + 2 ≤ b ∧ b ≤ a + 6) ∨ (a + 7 ≤ b ∧ b ≤ a + 16 ∧ b ≠ a + 10 ∧ x = E) ∨ (a + 13 ≤ b ∧ b ≤ a + 15 ∧ x = o) ∨ (a + 17 ≤ b ∧ b ≤ a + 19 ∧ F ≤ x) ∨ (a + 20 ≤ b ∧ b ≤ a + 22 ∧ x = M) ∨ (b = a + 30 ∧ x = D) ∨ (b = a ∧ (x = 2 ∨ x = 4 ∨ x = 18 ∨ x = 19 ∨ x = 20 ∨ x = 24 ∨ x = 29))) → p' b x = p b x)
    (hq : ∀ b x, l ≤ b → b ≤ l + 20 → ¬ (b = l + 1) → ¬ (((b = l + 5 ∨ (l + 7 ≤ b ∧ b ≤ l + 11)) ∧ x = E) ∨ (l + 13 ≤ b ∧ b ≤ l + 16 ∧ 6 * E ≤ x) ∨ (l + 2 ≤ b ∧ b ≤ l + 4 ∧ x = M) ∨ (b = l ∧ (x = 2 ∨ x = 3 ∨ x = 25 ∨ x = 26 ∨ x = 27))) → q' b x = q b x)
    (NM' : NM p' (a + 2) N' s') (ub1 : p' (a + 2) 1 ≤ j) (ub2 : N' ≤ j) (NN : N ≤ N') (ss : ∀ x, 0 ≤ x → x < N → s' x = s x) (kn : nmO N' s' T n (p' (a + 7) E) x e)
    (p8 : p' (a + 8) E = o) (p9 : p' (a + 9) E = i) (p13 : p' (a + 13) E = 0) (p14 : p' (a + 14) E = -1) (p15 : p' (a + 15) E = 0) (p16 : p' (a + 16) E = F)
    (po : 0 ≤ o → opO p p' a E o)
    (pn : o < 0 → opN p p' a E)
    (a4 : p' a 4 = E + 1) (a18 : p' a 18 = F') (a24 : p' a 24 = M + 1) (a29 : p' a 29 = D + 1) (v0 : p' (a + 20) M = 0) (v1 : p' (a + 21) M = E) (v30 : p' (a + 30) D = E)
    (q5 : q' (l + 5) E = i) (q7 : q' (l + 7) E = o) (q8 : q' (l + 8) E = x) (q9 : q' (l + 9) E = e) (q11 : q' (l + 11) E = M) (q3 : q' l 3 = E + 1) (q2 : q' l 2 = M + 1) (u1 : q' (l + 2) M = 1) (u2 : q' (l + 3) M = E) (q26 : q' l 26 = E) (q27 : q' l 27 = D + 1)
    (fs : fsO T n N' s' p' q' a l E F F') (F'j : F' ≤ j) : rsE T n N' s' (E + 1) F' j p' q' a l := by
  have fle := fs_le R.2.1
  obtain ⟨y1, y2, y3, y4, y5⟩ := R
  have y2' := y2
  have y3' := y3
  have y4' := y4
  obtain ⟨b1, b2, b3, b4, b5, b6, b7, b8, b9, b10⟩ := y2'
  obtain ⟨c1, c2, c3, c4, c5, c6, c7, c8, c9, c10⟩ := y3'
  obtain ⟨d1, d2, d3, d4, d5, d6, d7, d8, d9⟩ := y4'
  have oE : -1 ≤ o ∧ o < E := by
    have := c9 M.toNat (by omega)
    rw [← d5, ho] at this; exact this
  obtain ⟨rowP, rowQ, pE, qE, V2, U2, pF, qF, p30, l4⟩ := op_frames (F := F) (o := o) hp hq
  clear hp hq
  have tE : (E + 1).toNat = E.toNat + 1 := by omega
  have eE : ((E.toNat : Nat) : Int) = E := by omega
  have tn : (M + 1).toNat = M.toNat + 1 := by omega
  have tM : ((M.toNat : Nat) : Int) = M := by omega
  have cnt : ∀ z (k : Nat), (k : Int) ≤ E → cntP (q' (l + 7)) z k = cntP (q (l + 7)) z k := fun z k hk => cntP_congr k (fun y y0 y1 => qE 7 y (by decide) (by decide) (by omega))
  have lat : ∀ z (k : Nat), (k : Int) ≤ E → latP (q' (l + 7)) z k = latP (q (l + 7)) z k := fun z k hk => latP_congr k (fun y y0 y1 => qE 7 y (by decide) (by decide) (by omega))
  have cntS : ∀ z, cntP (q' (l + 7)) z (E + 1).toNat = cntP (q (l + 7)) z E.toNat + (if o = z then 1 else 0) := fun z => by
    rw [tE]
    show cntP (q' (l + 7)) z E.toNat + (if q' (l + 7) (E.toNat : Int) = z then 1 else 0) = _
    rw [eE, q7, cnt z E.toNat (by omega)]
  have latS : ∀ z, latP (q' (l + 7)) z (E + 1).toNat = if o = z then E else latP (q (l + 7)) z E.toNat := fun z => by
    rw [tE]
    show (if q' (l + 7) (E.toNat : Int) = z then (E.toNat : Int) else latP (q' (l + 7)) z E.toNat) = _
    rw [eE, q7, lat z E.toNat (by omega)]
  have par : ∀ e, 0 ≤ e → e < E → q (l + 7) e < e := fun e x0 x1 => (b8 e x0 x1).1.2.2.2.1
  have cu : ∀ m : Nat, (m : Int) ≤ M → cuP (q' (l + 2)) (q' (l + 3)) (q' (l + 7)) m = cuP (q (l + 2)) (q (l + 3)) (q (l + 7)) m := fun m hm =>
    cuP_congr m (fun x x0 x1 => ⟨(V2 x (by omega)).1, (V2 x (by omega)).2.1⟩) (fun y hy => qE 7 _ (by decide) (by decide) (by have := c9 y (by omega); omega))
  have dpo : dptF (q (l + 7)) (o.toNat + 1) o + 1 ≤ 20 := by
    rcases Int.lt_or_le o 0 with z | z
    · rw [dptF_neg z]; decide
    · have D0 : 0 < D := by
        rcases Int.lt_or_le 0 D with w | w
        · exact w
        · have := d6 (by omega); omega
      have := dpt_stack par (fun d x0 x1 => by obtain ⟨g1, g2, g3, -⟩ := d8 d x0 x1; exact ⟨g1, g2, g3⟩) (D - 1).toNat (by omega)
      rw [show (((D - 1).toNat : Nat) : Int) = D - 1 by omega, d7 D0, ho] at this
      omega
  have bgl : ∀ e, 0 ≤ e → e < E → q (l + 11) e < M := fun e x0 x1 => (c7 e x0 x1).2.1
  clear cu V2 U2 p30 rowP rowQ l4 y1 y2 y3 y4 y5 c1 c2 c5 c6 c7 c8 c9 c10 d1 d2 d3 d4 d5 d6 d7 d8 d9 tn tM
  clear a24 a29 v0 v1 v30 q2 u1 u2 q26 q27 ub1 NM' p15
  refine ⟨a4, q3, by omega, by omega, a18, fun z => by omega, ⟨F'j, fun e x0 x1 => ?_⟩, fun e' x0 x1 => ?_, ?_, ?_⟩
  · by_cases h : e = E
    · rw [h, q5]; exact hij
    · rw [qE 5 e (by decide) (by decide) h]
      have := b7.2 e x0 (by omega)
      omega
  · by_cases h : e' = E
    · subst h
      have n0 := cntP_0 (P := q (l + 7)) (x := e') e'.toNat (fun y y0 y1 => by have := par y y0 (by omega); omega)
      refine ⟨?_, ?_⟩
      · unfold elO
        rw [q8, q9, q7, q5, p8, p9, p13, p14, cntS, latS, cnt _ _ (by omega), lat _ _ (by omega), n0.1, n0.2, if_neg (by omega), if_neg (by omega)]
        have dE : dptF (q' (l + 7)) (e'.toNat + 1) e' ≤ 20 := by
          show (if e' < 0 then 0 else dptF (q' (l + 7)) e'.toNat (q' (l + 7) e') + 1) ≤ 20
          rw [if_neg (by omega), q7, dptF_congr par (fun e x0 x1 => qE 7 e (by decide) (by decide) (by omega)) _ o oE.2, dptF_fuel par _ (o.toNat + 1) _ oE.2 (by omega) (by omega)]
          exact dpo
        refine ⟨kn, rfl, by omega, by omega, rfl, i0, i1, ?_, ?_, rfl, rfl, dE, fun z => by rw [q11, qE 11 _ (by decide) (by decide) (by omega)]; exact bgl _ (by omega) (by omega)⟩
        · rcases Int.lt_or_le o 0 with z | z
          · rw [(pn z).2.2.1, show o = -1 by omega, b9]
          · rw [(po z).2.2.2.1, (b8 o z oE.2).1.2.2.2.2.2.2.2.2.2.1]
        · rcases Int.lt_or_le o 0 with z | z
          · rw [(pn z).2.2.2, show o = -1 by omega, b10]
          · rw [(po z).2.2.2.2.1, (b8 o z oE.2).1.2.2.2.2.2.2.2.2.2.2.1]
      · rw [if_neg (by omega), p16]; exact fs
    · obtain ⟨⟨g1, g2, g3, g4, g5, g6, g7, g8, g9, g10, g11, g12, g13⟩, f1, f2, f3, f4, f5⟩ := b8 e' x0 (by omega)
      have fl := fle e' x0 (by omega)
      refine ⟨?_, ?_⟩
      · unfold elO
        rw [pE 7 e' (by decide) (by decide) h (by omega), pE 8 e' (by decide) (by decide) h (by omega), pE 9 e' (by decide) (by decide) h (by omega), pE 11 e' (by decide) (by decide) h (by omega), pE 12 e' (by decide) (by decide) h (by omega), qE 8 e' (by decide) (by decide) h, qE 9 e' (by decide) (by decide) h, qE 7 e' (by decide) (by decide) h, qE 5 e' (by decide) (by decide) h, cntS, latS, cnt _ _ (by omega), lat _ _ (by omega)]
        refine ⟨g1.mono NN ss, g2, g3, g4, g5, g6, g7, g8, g9, ?_, ?_, by rw [dptF_congr par (fun e y0 y1 => qE 7 e (by decide) (by decide) (by omega)) _ e' (by omega)]; exact g12, fun z => by rw [qE 11 _ (by decide) (by decide) h, qE 11 _ (by decide) (by decide) (by omega)]; exact g13 z⟩
        · by_cases z : o = e'
          · rw [if_pos z, ← z, (po (by omega)).1, z, g10]
          · rw [if_neg z, pE 13 e' (by decide) (by decide) h (by omega), g10]; omega
        · by_cases z : o = e'
          · rw [if_pos z, ← z, (po (by omega)).2.1]
          · rw [if_neg z, pE 14 e' (by decide) (by decide) h (by omega), g11]
      · unfold fsO
        rw [pE 16 e' (by decide) (by decide) h (by omega), qE 10 e' (by decide) (by decide) h]
        have nx' : (if e' + 1 < E + 1 then p' (a + 16) (e' + 1) else F') = if e' + 1 < E then p (a + 16) (e' + 1) else F := by
          rw [if_pos (by omega)]
          by_cases z : e' + 1 < E
          · rw [if_pos z, pE 16 _ (by decide) (by decide) (by omega) (by omega)]
          · rw [if_neg z, show e' + 1 = E by omega, p16]
        rw [nx']
        refine ⟨f1, f2, f3, f4, fun y y0 y1 => ?_⟩
        have f5' := f5 y y0 y1
        unfold fdO at *
        have r : ∀ k : Int, 17 ≤ k → k ≤ 19 → p' (a + k) (p (a + 16) e' + y) = p (a + k) (p (a + 16) e' + y) := fun k k0 k1 => pF k _ k0 k1 (by omega)
        have t : ∀ k : Int, 13 ≤ k → k ≤ 16 → q' (l + k) (6 * e' + y) = q (l + k) (6 * e' + y) := fun k k0 k1 => qF k _ k0 k1 (by omega)
        rw [r 17 (by decide) (by decide), r 18 (by decide) (by decide), r 19 (by decide) (by decide), t 13 (by decide) (by decide), t 14 (by decide) (by decide), t 15 (by decide) (by decide), t 16 (by decide) (by decide)]
        exact ⟨f5'.1.mono NN ss, f5'.2⟩
  · rw [cntS]
    rcases Int.lt_or_le o 0 with z | z
    · rw [(pn z).1, if_pos (by omega), b9]
    · rw [(po z).2.2.2.2.2.1, if_neg (by omega), b9]; omega
  · rw [latS]
    rcases Int.lt_or_le o 0 with z | z
    · rw [(pn z).2.1, if_pos (by omega)]
    · rw [(po z).2.2.2.2.2.2, if_neg (by omega), b10]
