-- needs: 99zzzzzl
set_option maxRecDepth 100000
/-! GATHERING: paragraphs of the flow, items (component) -/
/-- paragraphs P of the flow, by the pool L -/
def GPi (h : Hp) (b : Int) (P L : List PAR) : Prop := h b 11 = P.length ∧ P.length ≤ L.length ∧ ∃ κ : Int → Int, ∀ i : Int, 0 ≤ i → i < P.length → 0 ≤ κ i ∧ κ i < L.length ∧ h (b + 16) i = h (b + 15) (κ i) ∧ pgAt L (κ i) = pgAt P i ∧ ∀ i', 0 ≤ i' → i' < i → κ i' < κ i
theorem GPi.kept {h h' : Hp} {b : Int} {P L : List PAR} (G : GPi h b P L) (e : h' b 11 = h b 11) (e1 : h' (b + 16) = h (b + 16)) (e2 : ∀ j, 0 ≤ j → j < (L.length : Int) → h' (b + 15) j = h (b + 15) j) : GPi h' b P L := by
  obtain ⟨g1, g2, κ, g3⟩ := G
  refine ⟨by rw [e]; exact g1, g2, κ, fun i i0 i1 => ?_⟩
  obtain ⟨k1, k2, k3, k4, k5⟩ := g3 i i0 i1
  rw [e1, e2 _ k1 k2]
  exact ⟨k1, k2, k3, k4, k5⟩
/-- the pool grows, the flow does not -/
theorem GPi.more {h h' : Hp} {b : Int} {P L : List PAR} {p : PAR} (G : GPi h b P L) (e : h' b 11 = h b 11) (e1 : h' (b + 16) = h (b + 16)) (e2 : ∀ j, 0 ≤ j → j < (L.length : Int) → h' (b + 15) j = h (b + 15) j) : GPi h' b P (L ++ [p]) := by
  obtain ⟨g1, g2, κ, g3⟩ := G
  refine ⟨by rw [e]; exact g1, by rw [List.length_append]; omega, κ, fun i i0 i1 => ?_⟩
  obtain ⟨k1, k2, k3, k4, k5⟩ := g3 i i0 i1
  rw [e1, e2 _ k1 k2, pgAt_old k1 k2]
  exact ⟨k1, by rw [List.length_append]; omega, k3, k4, k5⟩
theorem GPi.both {h h' : Hp} {b : Int} {P L : List PAR} {p : PAR} (G : GPi h b P L) (e : h' b 11 = (P.length : Int) + 1) (e1 : ∀ i, 0 ≤ i → i < (P.length : Int) → h' (b + 16) i = h (b + 16) i) (e2 : ∀ j, 0 ≤ j → j < (L.length : Int) → h' (b + 15) j = h (b + 15) j) (e3 : h' (b + 16) P.length = h' (b + 15) L.length) : GPi h' b (P ++ [p]) (L ++ [p]) := by
  obtain ⟨g1, g2, κ, g3⟩ := G
  refine ⟨by rw [e, List.length_append]; rfl, by rw [List.length_append, List.length_append]; omega, fun i => if i < P.length then κ i else L.length, fun i i0 i1 => ?_⟩
  rw [List.length_append, List.length_singleton] at i1
  dsimp only
  by_cases hi : i < P.length
  · obtain ⟨k1, k2, k3, k4, k5⟩ := g3 i i0 hi
    rw [if_pos hi, e1 i i0 hi, e2 _ k1 k2, pgAt_old k1 k2, pgAt_old i0 hi, List.length_append]
    exact ⟨k1, by omega, k3, k4, fun i' j0 j1 => by rw [if_pos (by omega)]; exact k5 i' j0 j1⟩
  · have : i = P.length := by omega
    rw [if_neg hi, this, e3, pgAt_new rfl, pgAt_new rfl, List.length_append, List.length_singleton]
    refine ⟨Int.natCast_nonneg _, by omega, rfl, rfl, fun i' j0 j1 => ?_⟩
    rw [if_pos j1]
    exact (g3 i' j0 j1).2.1
/-- items -/
def itW (x : Int × Int × Int) : Int := if x.1 = 0 then x.2.1 else -1 - x.2.1
def GIt (h : Hp) (b : Int) (I : List (Int × Int × Int)) : Prop := h b 26 = I.length ∧ ∀ i : Nat, i < I.length → h (b + 27) i = itW (I[i]?.getD (0, 0, 0)) ∧ h (b + 28) i = (I[i]?.getD (0, 0, 0)).2.2
theorem GIt.kept {h h' : Hp} {b : Int} {I : List (Int × Int × Int)} (G : GIt h b I) (e : h' b 26 = h b 26) (e1 : h' (b + 27) = h (b + 27)) (e2 : h' (b + 28) = h (b + 28)) : GIt h' b I := by
  unfold GIt at *
  rw [e, e1, e2]; exact G
def itV (b : Int) : Int → Int → Prop := fun q j => (q = b ∧ (j = 26 ∨ j = 45)) ∨ ((q = b + 27 ∨ q = b + 28) ∧ 0 ≤ j)
theorem c_item14 {h : Hp} {b v k g : Int} {I : List (Int × Int × Int)} (hL : LAY h) (hb : b ∈ in_aX14) (G : GIt h b I) (eg : h b 45 = g) (hl : (I.length : Int) < 1700) (ev : v = itW (k, if k = 0 then v else -1 - v, g)) : Pz (m_X14_item b v h) (fun h' => F2 (itV b) h h' ∧ GIt h' b (I ++ [(k, if k = 0 then v else -1 - v, g)]) ∧ h' b 45 = 0) := by
  have hb' := rX14 hb
  obtain ⟨g1, g2⟩ := G
  unfold m_X14_item
  obtain ⟨p1, p2, p3⟩ := g_X14_24 hL hb
  simp only [p1, p2, p3, g1]
  refine z_gd ⟨by decide, Int.natCast_nonneg _, hl⟩ (z_pt ?_)
  obtain ⟨q1, q2, q3⟩ := g_X14_25 hL hb
  simp (disch := omega) only [up_a, q1, q2, q3, g1, eg]
  refine z_gd ⟨by decide, Int.natCast_nonneg _, hl⟩ (z_pt (z_pt (z_pt (z_some ?_))))
  simp (disch := omega) only [up_a, g1]
  rw [e32 (x := (I.length : Int) + 1) (by omega) (by omega)]
  refine ⟨(((F2.refl.put (Or.inr ⟨Or.inl rfl, Int.natCast_nonneg _⟩)).put (Or.inr ⟨Or.inr rfl, Int.natCast_nonneg _⟩)).put (Or.inl ⟨rfl, Or.inl rfl⟩)).put (Or.inl ⟨rfl, Or.inr rfl⟩), ⟨?_, fun i hi => ?_⟩, up_s _ _ _ _⟩
  · rw [up_j (by omega), up_s, List.length_append]; rfl
  · rw [List.length_append, List.length_singleton] at hi
    simp (disch := omega) only [up_a]
    by_cases he : i = I.length
    · rw [he, up_s, up_s, List.getElem?_append_right (Nat.le_refl _), Nat.sub_self]
      exact ⟨ev, rfl⟩
    · rw [up_j (by omega), up_j (by omega), up_a (by omega), List.getElem?_append_left (by omega)]
      exact g2 i (by omega)
/-- the flow as it stands: pool L, paragraphs P, items I, gap g, x what is around -/
def FS (h : Hp) (f W : Int → Int) (K J : Int → Int → Int) (BK : TXL → Int → List (Int × Int)) (w b pn : Int) (S V : Hp) (x : Int) (L P : List PAR) (I : List (Int × Int × Int)) (g : Int) : Prop :=
  GPo h f W K J BK w b pn L ∧ GPi h b P L ∧ GIt h b I ∧ h b 45 = g ∧ GBl h b (blS S V x)
def fqW (b t y : Int) : Int → Int → Prop := fun q j => pnW b t y q j ∨ (q = b ∧ j = 11) ∨ (q = b + 16 ∧ 0 ≤ j)
def fvW (b t y : Int) : Int → Int → Prop := fun q j => fqW b t y q j ∨ itV b q j
/-- too much -/
def BAD (BK : TXL → Int → List (Int × Int)) (f : Int → Int) (e : Int) (s : TXT) (L : List PAR) : Prop := 1200 ≤ (L.length : Int) ∨ 24000 < ltS L + s.1.length ∨ 600 < ((BK s.1 (hyO f e)).length : Int)
def GUD (BK : TXL → Int → List (Int × Int)) (f : Int → Int) (e : Int) (s : TXT) (L : List PAR) : Prop := (L.length : Int) < 1200 ∧ ltS L + s.1.length ≤ 24000 ∧ ((BK s.1 (hyO f e)).length : Int) ≤ 600
theorem adv_put {h h' : Hp} {b a y pn p1 : Int} {q j v : Int} (hb : b ∈ in_aX14) (ha : a ∈ in_aX7) (hy : y ∈ in_aX9) (x : ADV h b a y pn h' p1) (w : GW h' b a y q j) (n0 : q ≠ 0) (n15 : q ≠ b + 15) (nc : 983 ≤ q → j ≠ -2 ∧ j ≠ 0) : ADV h b a y pn (up h' q j v) p1 :=
  x.trans hb ha hy (adv_W (W := fun q' j' => q' = q ∧ j' = j) x.2.2.1 (F2.refl.put ⟨rfl, rfl⟩) (fun q' j' z => by rw [z.1, z.2]; exact w) (fun j' z => n0 z.1.symm) (fun j' z => n15 z.1.symm) (fun A hA => ⟨fun z => (nc (by omega)).1 (by omega), fun z => (nc (by omega)).2 (by omega)⟩))
/-- a text becomes a paragraph of the flow -/
def FPQ (h : Hp) (f W : Int → Int) (K J : Int → Int → Int) (BK : TXL → Int → List (Int × Int)) (w b a t y pn e : Int) (s : TXT) (P L : List PAR) (r : (Int × Int) × Hp) : Prop :=
  (∃ A pn', r.1 = (0, A) ∧ GUD BK f e s L ∧ ADV h b a y pn r.2 pn' ∧ F2 (fqW b t y) h r.2 ∧ cel r.2 b A ∧ r.2 A (-2) = 288 ∧ r.2 (b + 15) L.length = A ∧ (L.length : Int) + 1 ≤ pn' ∧ (∀ j, 0 ≤ j → j < (L.length : Int) → r.2 (b + 15) j = h (b + 15) j ∧ r.2 (b + 15) j ≠ A ∧ PJ r.2 f W K J BK w b (r.2 (b + 15) j) (pgAt L j)) ∧
    pjC r.2 f W K J BK b A s.1 e ∧ r.2 A 5 = 0 ∧ r.2 A 6 = 0 ∧ txC r.2 t ([], -1) ∧ (r.2 b 9 = (L.length : Int) + 1 ∧ r.2 (b + 1) 3 = ltS L + s.1.length ∧ 0 ≤ r.2 (b + 1) 12 ∧ r.2 (b + 1) 12 ≤ ltS L + s.1.length + L.length + 1) ∧ r.2 b 11 = (P.length : Int) + 1 ∧ (∀ i, 0 ≤ i → i < (P.length : Int) → r.2 (b + 16) i = h (b + 16) i) ∧ r.2 (b + 16) P.length = A) ∨
  (BAD BK f e s L ∧ THG h b a y pn r)
theorem c_flowPar {S Y V Q h T : Hp} {b a sa ya E M f y np t e pn w : Int} {W : Int → Int} {K J : Int → Int → Int} {sg : Int → List Int} {dt : Int → Int → Int} {s : TXT} {L P : List PAR} (X : EV S Y V Q h b a sa ya E M f y W K J T np sg dt) (ht : t ∈ in_aX12) (Xt : txC h t s) (G : txG s) (ne : s.1 ≠ []) (e0 : -1 ≤ e) (e1 : e < E)
    (Po : POK h b pn) (rm : RMP h pn) (C : GPo h (V 24) W K J (BKf T np sg dt) w b pn L) (D : GPi h b P L) :
    Pz (m_X14_flowParagraph b t e h) (FPQ h (V 24) W K J (BKf T np sg dt) w b a t y pn e s P L) := by
  have hb := X.2.1
  have hL := X.1.lay.1
  have ha := X.1.lay.2.1
  have y2 := X.2.2.2.2.2.2.1
  have hb' := rX14 hb
  have ht' := rX12 ht
  have hy' := aX9 y2
  have ha' := rX7 ha
  unfold m_X14_flowParagraph
  refine z_bT (z_mono (c_par14 X ht Xt G ne e0 e1 Po rm C) (fun r hr => ?_))
  rcases hr with ⟨A, pn', h1, h2, h3, h4, h5, h6, h7, h8, h9, h10, h11, h12, h13, h14, h15, h16, h17⟩ | ⟨h1, h2⟩
  · left
    rw [h1]
    refine ⟨rfl, ?_⟩
    dsimp only
    have X1 := h5.ev X
    have L1 := X1.1.lay.1
    obtain ⟨d1, d2, -⟩ := D
    obtain ⟨p1, p2, p3⟩ := g_X14_10 L1 hb
    obtain ⟨q1, q2, q3, q4⟩ := h5.2.2.1.2.2.1 L.length (Int.natCast_nonneg _) (by omega)
    rw [h7] at q1 q2 q3 q4
    have e11 : r.2 b 11 = P.length := by rw [h6 _ _ (fun z => by unfold pnW fpW at z; omega)]; exact d1
    simp only [p1, p2, p3, e11, q3]
    refine z_gd trivial (z_gd ⟨by decide, Int.natCast_nonneg _, by omega⟩ (z_pt (z_pt (z_some ?_))))
    rw [up_a (by omega), e11, e32 (x := (P.length : Int) + 1) (by omega) (by omega)]
    have kp : ∀ q j : Int, ¬ (q = b + 16 ∧ j = P.length) → ¬ (q = b ∧ j = 11) → up (up r.2 (b + 16) P.length A) b 11 ((P.length : Int) + 1) q j = r.2 q j := fun q j z1 z2 => by
      by_cases hq : q = b
      · rw [up_j (fun z => z2 ⟨hq, z⟩), up_a (by omega)]
      · rw [up_a hq]
        by_cases hq2 : q = b + 16
        · rw [up_j (fun z => z1 ⟨hq2, z⟩)]
        · rw [up_a hq2]
    have ad2 : ADV h b a y pn (up (up r.2 (b + 16) P.length A) b 11 ((P.length : Int) + 1)) pn' := adv_put hb ha y2 (adv_put hb ha y2 h5 (by unfold GW; exact Or.inr (Or.inr (Or.inr (Or.inr (Or.inr (Or.inl ⟨by omega, by omega, Int.natCast_nonneg _⟩)))))) (by omega) (by omega) (by omega)) (by unfold GW; exact Or.inr (Or.inr (Or.inl ⟨rfl, by omega⟩))) (by omega) (by omega) (by omega)
    have v1 : up (up r.2 (b + 16) P.length A) b 11 ((P.length : Int) + 1) b 11 = (P.length : Int) + 1 := up_s _ _ _ _
    have v2 : up (up r.2 (b + 16) P.length A) b 11 ((P.length : Int) + 1) (b + 16) P.length = A := by rw [up_a (by omega), up_s]
    have F' : F2 (fqW b t y) h (up (up r.2 (b + 16) P.length A) b 11 ((P.length : Int) + 1)) := ((h6.mono (V := fqW b t y) (fun q j z => Or.inl z)).put (Or.inr (Or.inr ⟨rfl, Int.natCast_nonneg _⟩))).put (Or.inr (Or.inl ⟨rfl, rfl⟩))
    generalize up (up r.2 (b + 16) P.length A) b 11 ((P.length : Int) + 1) = g at kp ad2 v1 v2 F' ⊢
    have r1 : ∀ q, b + 1 ≤ q → q ≤ b + 15 → g q = r.2 q := fun q z0 z1 => funext fun j => kp q j (by omega) (by omega)
    have r15 := r1 (b + 15) (by omega) (by omega)
    have rA : ∀ A', 983 ≤ A' → g A' = r.2 A' := fun A' z0 => funext fun j => kp A' j (by omega) (by omega)
    have rr1 := r1 (b + 1) (by omega) (by omega)
    unfold FPQ
    dsimp only
    refine Or.inl ⟨A, pn', rfl, ⟨h2, h3, h4⟩, ad2, F', ⟨q1, Or.inl (by rw [rA A q1]; exact q4)⟩, by rw [rA A q1]; exact q3, by rw [r15]; exact h7, h8, fun j j0 j1 => ⟨by rw [r15]; exact (h9 j j0 j1).1, ?_, ?_⟩, ?_, by rw [rA A q1]; exact h11, by rw [rA A q1]; exact h12, h13.kept (fun k k0 k1 => funext fun j => kp _ j (by omega) (by omega)), ⟨by rw [kp _ _ (by omega) (by omega)]; exact h14, by rw [rr1]; exact h15, by rw [rr1]; exact h16, by rw [rr1]; exact h17⟩, v1, fun i i0 i1 => ?_, v2⟩
    · have dn := h5.2.2.1.2.2.2.2 j L.length j0 j1 (by omega)
      rw [h7] at dn
      rw [r15]; exact dn
    · obtain ⟨c1, c2, c3, c4⟩ := h5.2.2.1.2.2.1 j j0 (by omega)
      rw [r15]
      exact (h9 j j0 j1).2.kept (fun i _ => by rw [rA _ c1]) (by rw [rr1]; exact Int.le_refl _) (by rw [rr1]; exact Int.le_refl _) (fun q i z0 z1 _ => by rw [r1 q (by omega) (by omega)]) (fun q i z0 z1 _ => by rw [r1 q (by omega) (by omega)])
    · exact h10.kept (fun j _ => by rw [rA A q1]) (by rw [rr1]; exact Int.le_refl _) (by rw [rr1]; exact Int.le_refl _) (fun q i z0 z1 _ => by rw [r1 q (by omega) (by omega)]) (fun q i z0 z1 _ => by rw [r1 q (by omega) (by omega)])
    · rw [kp _ _ (by omega) (by omega)]
      exact h6 _ _ (fun z => by unfold pnW fpW at z; omega)
  · exact Or.inr ⟨h2.ne, z_some (Or.inr ⟨h1, h2.r1⟩)⟩
