set_option maxRecDepth 100000
/-! SOURCES: a tag that begins an element: its end -/
/-- what the reference notes before the fields -/
def ogQ (l E o i x e : Int) (q t : Hp) : Prop := (∀ b z, l ≤ b → b ≤ l + 20 → ¬ ((b = l + 5 ∨ l + 7 ≤ b ∧ b ≤ l + 10) ∧ z = E) → t b z = q b z) ∧ t (l + 5) E = i ∧ t (l + 7) E = o ∧ t (l + 8) E = x ∧ t (l + 9) E = e
/-- what the reference notes after the fields -/
def oqZ (l E M D : Int) (t q' : Hp) : Prop := (∀ b z, l ≤ b → b ≤ l + 20 → ¬ ((b = l ∧ (z = 2 ∨ z = 3 ∨ z = 25 ∨ z = 26 ∨ z = 27)) ∨ (b = l + 11 ∧ z = E) ∨ (l + 2 ≤ b ∧ b ≤ l + 4 ∧ z = M)) → q' b z = t b z) ∧ q' l 3 = E + 1 ∧ q' l 2 = M + 1 ∧ q' (l + 11) E = M ∧ q' (l + 2) M = 1 ∧ q' (l + 3) M = E ∧ q' l 26 = E ∧ q' l 27 = D + 1
theorem og_hp {a E F M D o i v e : Int} {p g G hc' p' : Hp} (gn : F2 (nmW (a + 2)) p g) (og : F2 (wbg a E M D o) g G) (fP : fzP a F G hc') (pp : ∀ b z, ¬ (b = a ∧ z = 2) → p' b z = hc' b z) : ∀ b x, a ≤ b → b ≤ a + 30 → ¬ ((a + 2 ≤ b ∧ b ≤ a + 6) ∨ (a + 7 ≤ b ∧ b ≤ a + 16 ∧ b ≠ a + 10 ∧ x = E) ∨ (a + 13 ≤ b ∧ b ≤ a + 15 ∧ x = o) ∨ (a + 17 ≤ b ∧ b ≤ a + 19 ∧ F ≤ x) ∨ (a + 20 ≤ b ∧ b ≤ a + 22 ∧ x = M) ∨ (b = a + 30 ∧ x = D) ∨ (b = a ∧ (x = 2 ∨ x = 4 ∨ x = 18 ∨ x = 19 ∨ x = 20 ∨ x = 24 ∨ x = 29))) → p' b x = p b x := by
  intro b x b0 b1 nb
  rw [pp b x (by omega), fP b x b0 b1 (by omega), og b x (by unfold wbg w131 w205; omega), gn b x (by unfold nmW; omega)]
theorem og_hq {l E o i x e M D : Int} {q t ht' q' : Hp} (oq : ogQ l E o i x e q t) (fQ : fzQ l E t ht') (oz : oqZ l E M D ht' q') : ∀ b x, l ≤ b → b ≤ l + 20 → ¬ (b = l + 1) → ¬ (((b = l + 5 ∨ (l + 7 ≤ b ∧ b ≤ l + 11)) ∧ x = E) ∨ (l + 13 ≤ b ∧ b ≤ l + 16 ∧ 6 * E ≤ x) ∨ (l + 2 ≤ b ∧ b ≤ l + 4 ∧ x = M) ∨ (b = l ∧ (x = 2 ∨ x = 3 ∨ x = 25 ∨ x = 26 ∨ x = 27))) → q' b x = q b x := by
  intro b x b0 b1 b2 nb
  rw [oz.1 b x b0 b1 (by omega), fQ b x b0 b1 (by omega), oq.1 b x b0 b1 (by omega)]
theorem og_po {a E F M D o i v e : Int} {p g G hc' p' : Hp} (gn : F2 (nmW (a + 2)) p g) (og : ogP a E F M D o i v e g G) (fP : fzP a F G hc') (pp : ∀ b z, ¬ (b = a ∧ z = 2) → p' b z = hc' b z) : (0 ≤ o → opO p p' a E o) ∧ (o < 0 → opN p p' a E) := by
  have gr : ∀ b z, (b = a ∨ a + 7 ≤ b) → g b z = p b z := fun b z hb => gn b z (by unfold nmW; omega)
  have pr : ∀ b z, (a + 7 ≤ b ∧ b ≤ a + 16 ∨ b = a ∧ (z = 19 ∨ z = 20)) → p' b z = G b z := fun b z hb => by rw [pp b z (by omega), fP b z (by omega) (by omega) (by omega)]
  refine ⟨fun z => ?_, fun z => ?_⟩
  · have q := og.2.2.1 z
    unfold opO at *
    rw [gr _ _ (by omega), gr _ _ (by omega), gr _ _ (by omega), gr _ _ (by omega)] at q
    rw [pr _ _ (by omega), pr _ _ (by omega), pr _ _ (by omega), pr _ _ (by omega), pr _ _ (by omega), pr _ _ (by omega), pr _ _ (by omega)]
    exact q
  · have q := og.2.2.2 z
    unfold opN at *
    rw [gr _ _ (by omega), gr _ _ (by omega)] at q
    rw [pr _ _ (by omega), pr _ _ (by omega), pr _ _ (by omega), pr _ _ (by omega)]
    exact q
theorem og_opened {T : Int → Int} {n N N1 : Int} {s s1 : Int → List Int} {E F M D i o x e v y j : Int} {p q g G t hc' ht' p' q' : Hp} {a l : Int} (R : RS T n N s E F M D i p q a l) (i0 : 0 ≤ i) (i1 : i < n) (iy : i < y) (yj : y ≤ j) (E1 : E < 500) (D1 : D < 20) (ho : q l 26 = o)
    (gn : F2 (nmW (a + 2)) p g) (og : ogP a E F M D o i v e g G) (oq : ogQ l E o i x e q t) (fz : FZ T n N1 s1 E F G t a l y hc' ht') (NN : N ≤ N1) (ss : ∀ z, 0 ≤ z → z < N → s1 z = s z) (kn : nmO N1 s1 T n v x e) (pp : ∀ b z, ¬ (b = a ∧ z = 2) → p' b z = hc' b z) (oz : oqZ l E M D ht' q') : ∃ N' s' F', RS T n N' s' (E + 1) F' (M + 1) (D + 1) j p' q' a l := by
  obtain ⟨N', s', F', ⟨c1, c2, c3, c4, c5⟩, ⟨d1, d2, d3⟩, fP, fQ⟩ := fz
  have E0 : 0 ≤ E := R.2.1.2.2.1
  have hp := og_hp gn og.1 fP pp (i := i) (v := v) (e := e)
  have hq := og_hq oq fQ oz
  have po := og_po gn og fP pp
  have gg : ∀ b z, (a + 7 ≤ b ∧ b ≤ a + 16 ∨ a + 20 ≤ b ∧ b ≤ a + 30 ∨ b = a ∧ z ≠ 2 ∧ z ≠ 18) → p' b z = G b z := fun b z hb => by rw [pp b z (by omega), fP b z (by omega) (by omega) (by omega)]
  have qq : ∀ b, (b = l + 5 ∨ l + 7 ≤ b ∧ b ≤ l + 9) → M ≠ M → q' b E = t b E := fun b hb hm => absurd rfl hm
  have tt : ∀ b, (b = l + 5 ∨ l + 7 ≤ b ∧ b ≤ l + 9) → q' b E = t b E := fun b hb => by rw [oz.1 b E (by omega) (by omega) (by omega), fQ b E (by omega) (by omega) (by omega)]
  obtain ⟨-, ⟨g1, g2, g3, g4, g5, g6, g7, g8, g9, g10, g11, g12, g13, g14⟩, -⟩ := og
  obtain ⟨-, o1, o2, o3, o4⟩ := oq
  obtain ⟨ozf, z1, z2, z3, z4, z5, z6, z7⟩ := oz
  have fs : fsO T n N' s' p' q' a l E F F' := by
    have r : ∀ b z, a + 17 ≤ b → b ≤ a + 19 → p' b z = hc' b z := fun b z b0 b1 => pp b z (by omega)
    have u : ∀ b z, (b = l + 10 ∨ l + 13 ≤ b ∧ b ≤ l + 16) → q' b z = ht' b z := fun b z hb => ozf b z (by omega) (by omega) (by omega)
    unfold fsO fdO at *
    simp only [r (a + 17) _ (by omega) (by omega), r (a + 18) _ (by omega) (by omega), r (a + 19) _ (by omega) (by omega), u (l + 10) _ (by omega), u (l + 13) _ (by omega), u (l + 14) _ (by omega), u (l + 15) _ (by omega), u (l + 16) _ (by omega)]
    exact d3
  clear qq fP fQ ozf
  refine ⟨N', s', F', RS.opened (x := x) (e := e) R i0 i1 (by omega) E1 D1 ho hp hq (c1.kept (fun b b0 b1 => funext fun z => pp b z (by omega))) (by rw [pp _ _ (by omega)]; omega) (by omega) (by omega) (fun z z0 z1 => by rw [c5 z z0 (by omega)]; exact ss z z0 z1) (by rw [gg _ _ (by omega), g1]; exact kn.mono c4 c5) ?_ ?_ ?_ ?_ ?_ ?_ po.1 po.2 ?_ ?_ ?_ ?_ ?_ ?_ ?_ ?_ ?_ ?_ ?_ z3 z1 z2 z4 z5 z6 z7 fs (by omega)⟩
  · rw [gg _ _ (by omega)]; exact g2
  · rw [gg _ _ (by omega)]; exact g3
  · rw [gg _ _ (by omega)]; exact g4
  · rw [gg _ _ (by omega)]; exact g5
  · rw [gg _ _ (by omega)]; exact g6
  · rw [gg _ _ (by omega)]; exact g7
  · rw [gg _ _ (by omega)]; exact g8
  · rw [pp _ _ (by omega)]; exact d1
  · rw [gg _ _ (by omega)]; exact g10
  · rw [gg _ _ (by omega)]; exact g11
  · rw [gg _ _ (by omega)]; exact g12
  · rw [gg _ _ (by omega)]; exact g13
  · rw [gg _ _ (by omega)]; exact g14
  · rw [tt _ (by omega)]; exact o1
  · rw [tt _ (by omega)]; exact o2
  · rw [tt _ (by omega)]; exact o3
  · rw [tt _ (by omega)]; exact o4
