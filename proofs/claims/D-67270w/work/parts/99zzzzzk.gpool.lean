-- needs: 99zzzzzj
set_option maxRecDepth 100000
/-! GATHERING: the pool of paragraphs (component) -/
/-- on from h to h': pn paragraphs made, then pn' -/
def ADV (h : Hp) (b a y pn : Int) (h' : Hp) (pn' : Int) : Prop := F2 (GW h b a y) h h' ∧ pn ≤ pn' ∧ POK h' b pn' ∧ h' 0 0 = h 0 0 + (pn' - pn) ∧ h' 0 1 = h 0 1 + 21 * (pn' - pn)
theorem ADV.trans {h h1 h2 : Hp} {b a y pn p1 p2 : Int} (hb : b ∈ in_aX14) (ha : a ∈ in_aX7) (hy : y ∈ in_aX9) (x : ADV h b a y pn h1 p1) (z : ADV h1 b a y p1 h2 p2) : ADV h b a y pn h2 p2 :=
  ⟨GW.trans hb ha hy x.1 (by have := x.2.2.2.1; have := x.2.1; omega) z.1, by have := x.2.1; have := z.2.1; omega, z.2.2.1, by have := x.2.2.2.1; have := z.2.2.2.1; omega, by have := x.2.2.2.2; have := z.2.2.2.2; omega⟩
theorem ADV.refl {h : Hp} {b a y pn : Int} (P : POK h b pn) : ADV h b a y pn h pn := ⟨F2.refl, Int.le_refl _, P, by omega, by omega⟩
/-- thrown on the way -/
def THG (h : Hp) (b a y pn : Int) (r : (Int × Int) × Hp) : Prop := ∃ g pn', ADV h b a y pn g pn' ∧ Thy 480 g r
theorem THG.after {h h1 : Hp} {b a y pn p1 : Int} {r : (Int × Int) × Hp} (hb : b ∈ in_aX14) (ha : a ∈ in_aX7) (hy : y ∈ in_aX9) (x : ADV h b a y pn h1 p1) (z : THG h1 b a y p1 r) : THG h b a y pn r := by
  obtain ⟨g, p2, w1, w2⟩ := z
  exact ⟨g, p2, x.trans hb ha hy w1, w2⟩
theorem THG.one {h : Hp} {b a y pn : Int} {r : (Int × Int) × Hp} (x : THG h b a y pn r) : r.1.1 = 1 := by
  obtain ⟨g, p', -, c⟩ := x
  exact c.1
theorem THG.r1 {h : Hp} {b a y pn : Int} {r : (Int × Int) × Hp} (x : THG h b a y pn r) : THG h b a y pn ((1, r.1.2), r.2) := by
  have e := x.one
  rcases r with ⟨⟨r1, r2⟩, r3⟩
  dsimp only at e ⊢
  rw [e] at x
  exact x
theorem THG.ne {h : Hp} {b a y pn : Int} {r : (Int × Int) × Hp} (x : THG h b a y pn r) : r.1.1 ≠ 0 := by rw [x.one]; decide
/-- the pool stays where its row, its cells' kinds and books stay -/
theorem POK.kept {h h' : Hp} {b pn : Int} (P : POK h b pn) (e : h' (b + 15) = h (b + 15)) (m : h 0 0 ≤ h' 0 0) (c : ∀ A, 983 ≤ A → A ≤ h 0 0 → h' A (-2) = h A (-2) ∧ h' A 0 = h A 0) : POK h' b pn := by
  obtain ⟨p0, p1, p2, p3, p4⟩ := P
  unfold POK
  rw [e]
  refine ⟨p0, p1, fun k k0 k1 => ?_, p3, p4⟩
  obtain ⟨a1, a2, a3, a4⟩ := p2 k k0 k1
  rw [(c _ a1 a2).1, (c _ a1 a2).2]
  exact ⟨a1, by omega, a3, a4⟩
/-- where W keeps off the pool -/
theorem adv_W {W : Int → Int → Prop} {h h' : Hp} {b a y pn : Int} (P : POK h b pn) (f : F2 W h h') (s : ∀ q j, W q j → GW h b a y q j) (n0 : ∀ j, ¬ W 0 j) (n15 : ∀ j, ¬ W (b + 15) j) (nc : ∀ A, 983 ≤ A → ¬ W A (-2) ∧ ¬ W A 0) : ADV h b a y pn h' pn := by
  have e0 : h' 0 0 = h 0 0 := f _ _ (n0 _)
  exact ⟨f.mono s, Int.le_refl _, P.kept (f.row n15) (by omega) (fun A a0 _ => ⟨f _ _ (nc A a0).1, f _ _ (nc A a0).2⟩), by omega, by rw [f 0 1 (n0 _)]; omega⟩
theorem thg_W {W : Int → Int → Prop} {h : Hp} {b a y pn : Int} {r : (Int × Int) × Hp} (P : POK h b pn) (x : TH W h r) (s : ∀ q j, W q j → GW h b a y q j) (n0 : ∀ j, ¬ W 0 j) (n15 : ∀ j, ¬ W (b + 15) j) (nc : ∀ A, 983 ≤ A → ¬ W A (-2) ∧ ¬ W A 0) : THG h b a y pn r := by
  obtain ⟨g, f, -, t⟩ := x
  exact ⟨g, pn, adv_W P f s n0 n15 nc, t⟩
/-- room for all paragraphs that may still be made -/
def RMP (h : Hp) (pn : Int) : Prop := RM h (1202 - pn) (21 * (1200 - pn) + 40)
theorem RMP.rm {h : Hp} {pn : Int} (r : RMP h pn) (p : pn ≤ 1200) : RM h 1 6 ∧ (pn < 1200 → RM h 2 27) := by
  obtain ⟨r1, r2, r3, r4⟩ := r
  exact ⟨⟨by omega, by omega, r3, r4⟩, fun _ => ⟨by omega, by omega, r3, r4⟩⟩
theorem ADV.rmp {h h' : Hp} {b a y pn p1 : Int} (x : ADV h b a y pn h' p1) (r : RMP h pn) : RMP h' p1 := by
  obtain ⟨r1, r2, r3, r4⟩ := r
  obtain ⟨-, x1, -, x2, x3⟩ := x
  exact ⟨by omega, by omega, by omega, by omega⟩
theorem ADV.ev {S Y V Q h h' T : Hp} {b a sa ya E M f y np pn p1 : Int} {W : Int → Int} {K J : Int → Int → Int} {sg : Int → List Int} {dt : Int → Int → Int} (x : ADV h b a y pn h' p1) (X : EV S Y V Q h b a sa ya E M f y W K J T np sg dt) : EV S Y V Q h' b a sa ya E M f y W K J T np sg dt :=
  X.kept (by have := X.1.lay.1.1; have := x.2.1; have := x.2.2.2.1; omega) x.1
def pgAt (L : List PAR) (j : Int) : PAR := (L[j.toNat]?).getD ([], 0, 0, 0, 0)
def ltS (L : List PAR) : Int := ((L.map (fun p => p.1.length)).sum : Nat)
/-- of its kind: width, left, indent -/
def prX (h : Hp) (f : Int → Int) (w A : Int) (p : PAR) : Prop := (p.2.2.1 = 0 → h A 4 = p.2.2.2.2 ∧ h A 5 = p.2.2.2.1 ∧ h A 6 = ofV f p.2.1 3) ∧ (p.2.2.1 = 1 → h A 6 = 0) ∧ (p.2.2.1 = 2 → h A 4 = w ∧ h A 5 = 0 ∧ h A 6 = 0)
/-- a paragraph of the pool -/
def PJ (h : Hp) (f W : Int → Int) (K J : Int → Int → Int) (BK : TXL → Int → List (Int × Int)) (w b A : Int) (p : PAR) : Prop := pjC h f W K J BK b A p.1 p.2.1 ∧ prX h f w A p ∧ (∀ x ∈ p.1, xG x) ∧ p.1 ≠ []
/-- the pool holds paragraphs L -/
def GPo (h : Hp) (f W : Int → Int) (K J : Int → Int → Int) (BK : TXL → Int → List (Int × Int)) (w b pn : Int) (L : List PAR) : Prop := (h b 9 = L.length ∧ (L.length : Int) ≤ pn ∧ h (b + 1) 3 = ltS L ∧ ltS L ≤ 24000 ∧ 0 ≤ h (b + 1) 12 ∧ h (b + 1) 12 ≤ ltS L + L.length) ∧ ∀ j : Int, 0 ≤ j → j < L.length → PJ h f W K J BK w b (h (b + 15) j) (pgAt L j)
theorem pgAt_old {L M : List PAR} {j : Int} (h0 : 0 ≤ j) (h1 : j < L.length) : pgAt (L ++ M) j = pgAt L j := by
  unfold pgAt; rw [List.getElem?_append_left (by omega)]
theorem pgAt_new {L : List PAR} {p : PAR} {j : Int} (h : j = L.length) : pgAt (L ++ [p]) j = p := by
  unfold pgAt; rw [List.getElem?_append_right (by omega), show j.toNat - L.length = 0 by omega]; rfl
theorem ltS_app {L : List PAR} {p : PAR} : ltS (L ++ [p]) = ltS L + p.1.length := by
  unfold ltS; simp
theorem ltS_0 {L : List PAR} : 0 ≤ ltS L := Int.natCast_nonneg _
theorem prX.kept {h h' : Hp} {f : Int → Int} {w A : Int} {p : PAR} (x : prX h f w A p) (e : ∀ j, 4 ≤ j → j ≤ 6 → h' A j = h A j) : prX h' f w A p := by
  unfold prX
  rw [e 4 (by decide) (by decide), e 5 (by decide) (by decide), e 6 (by decide) (by decide)]
  exact x
theorem PJ.kept {h h' : Hp} {f W : Int → Int} {K J : Int → Int → Int} {BK : TXL → Int → List (Int × Int)} {w b A : Int} {p : PAR} (C : PJ h f W K J BK w b A p) (eA : ∀ j, j ≤ 16 → h' A j = h A j) (m3 : h (b + 1) 3 ≤ h' (b + 1) 3) (m12 : h (b + 1) 12 ≤ h' (b + 1) 12) (e1 : ∀ q j, b + 2 ≤ q → q ≤ b + 4 → j < h (b + 1) 3 → h' q j = h q j) (e2 : ∀ q j, b + 5 ≤ q → q ≤ b + 12 → j < h (b + 1) 12 → h' q j = h q j) : PJ h' f W K J BK w b A p :=
  ⟨C.1.kept (fun j hj => eA j (by omega)) m3 m12 e1 e2, C.2.1.kept (fun j _ hj => eA j (by omega)), C.2.2⟩
/-- nothing of the pool is written -/
theorem GPo.kept {h h' : Hp} {f W : Int → Int} {K J : Int → Int → Int} {BK : TXL → Int → List (Int × Int)} {w b pn : Int} {L : List PAR} (C : GPo h f W K J BK w b pn L) (P : POK h b pn) (e9 : h' b 9 = h b 9) (e15 : h' (b + 15) = h (b + 15)) (er : ∀ q, b + 1 ≤ q → q ≤ b + 12 → h' q = h q) (eA : ∀ A, 983 ≤ A → A ≤ h 0 0 → h A 0 = b + 1 → ∀ j, j ≤ 16 → h' A j = h A j) : GPo h' f W K J BK w b pn L := by
  obtain ⟨⟨c1, c2, c3, c4, c5, c6⟩, c7⟩ := C
  have r1 := er (b + 1) (by omega) (by omega)
  refine ⟨⟨by rw [e9]; exact c1, c2, by rw [r1]; exact c3, c4, by rw [r1]; exact c5, by rw [r1]; exact c6⟩, fun j j0 j1 => ?_⟩
  rw [e15]
  obtain ⟨a1, a2, a3, a4⟩ := P.2.2.1 j j0 (by omega)
  exact (c7 j j0 j1).kept (eA _ a1 a2 a4) (by rw [r1]; exact Int.le_refl _) (by rw [r1]; exact Int.le_refl _) (fun q j q0 q1 _ => by rw [er q (by omega) (by omega)]) (fun q j q0 q1 _ => by rw [er q (by omega) (by omega)])
/-- what a new paragraph writes, as others see it -/
def pnW (b t y : Int) : Int → Int → Prop := fun q j => q = 0 ∨ 983 ≤ q ∨ (q = b ∧ j = 9) ∨ (b + 1 ≤ q ∧ q ≤ b + 12) ∨ q = b + 15 ∨ fpW y q j ∨ (q = t ∧ 3 ≤ j ∧ j ≤ 6)
def PAQ (h : Hp) (f W : Int → Int) (K J : Int → Int → Int) (BK : TXL → Int → List (Int × Int)) (w b a t y pn e : Int) (s : TXT) (L : List PAR) (r : (Int × Int) × Hp) : Prop :=
  (∃ A pn', r.1 = (0, A) ∧ (L.length : Int) < 1200 ∧ ltS L + s.1.length ≤ 24000 ∧ ((BK s.1 (hyO f e)).length : Int) ≤ 600 ∧ ADV h b a y pn r.2 pn' ∧ F2 (pnW b t y) h r.2 ∧ r.2 (b + 15) L.length = A ∧ (L.length : Int) + 1 ≤ pn' ∧ (∀ j, 0 ≤ j → j < (L.length : Int) → r.2 (b + 15) j = h (b + 15) j ∧ PJ r.2 f W K J BK w b (r.2 (b + 15) j) (pgAt L j)) ∧
    pjC r.2 f W K J BK b A s.1 e ∧ r.2 A 5 = 0 ∧ r.2 A 6 = 0 ∧ txC r.2 t ([], -1) ∧ r.2 b 9 = (L.length : Int) + 1 ∧ r.2 (b + 1) 3 = ltS L + s.1.length ∧ 0 ≤ r.2 (b + 1) 12 ∧ r.2 (b + 1) 12 ≤ ltS L + s.1.length + L.length + 1) ∨
  ((1200 ≤ (L.length : Int) ∨ 24000 < ltS L + s.1.length ∨ 600 < ((BK s.1 (hyO f e)).length : Int)) ∧ THG h b a y pn r)
theorem c_par33 {S Y V Q h T : Hp} {b a sa ya E M f y np t e pn w : Int} {W : Int → Int} {K J : Int → Int → Int} {sg : Int → List Int} {dt : Int → Int → Int} {s : TXT} {L : List PAR} (X : EV S Y V Q h b a sa ya E M f y W K J T np sg dt) (ht : t ∈ in_aX12) (Xt : txC h t s) (G : txG s) (ne : s.1 ≠ []) (e0 : -1 ≤ e) (e1 : e < E)
    (P : POK h b pn) (rm : RMP h pn) (C : GPo h (V 24) W K J (BKf T np sg dt) w b pn L) (u1 : (L.length : Int) < pn) (t1 : ltS L + s.1.length ≤ 24000) :
    Pz (m_X14_paragraph_j68 b t e h) (PAQ h (V 24) W K J (BKf T np sg dt) w b a t y pn e s L) := by
  obtain ⟨⟨c1, c2, c3, c4, c5, c6⟩, c7⟩ := id C
  have hb := X.2.1
  have hb' := rX14 hb
  have ht' := rX12 ht
  have y2 := X.2.2.2.2.2.2.1
  have hy' := aX9 y2
  have pn1 := P.2.1
  obtain ⟨a1, a2, a3, a4⟩ := P.2.2.1 L.length (Int.natCast_nonneg _) u1
  have cA : cel h b (h (b + 15) L.length) := ⟨a1, Or.inl a4⟩
  refine z_mono (c_par68 X ht Xt G ne e0 e1 c1 (Int.natCast_nonneg _) (by omega) rfl a1 a4 a3 c3 ltS_0 t1 rfl c5 c6 (rm.rm P.2.1).1) (fun r hr => ?_)
  have l0 := ltS_0 (L := L)
  have nW : ∀ A j, 983 ≤ A → j = -2 ∨ j = 0 → ¬ pkW b t (h (b + 15) L.length) y (ltS L) (h (b + 1) 12) A j := fun A j hA hj z => by unfold pkW pkV fpW at z; omega
  have n0 : ∀ j, ¬ pkW b t (h (b + 15) L.length) y (ltS L) (h (b + 1) 12) 0 j := fun j z => by unfold pkW pkV fpW at z; omega
  have n15 : ∀ j, ¬ pkW b t (h (b + 15) L.length) y (ltS L) (h (b + 1) 12) (b + 15) j := fun j z => by unfold pkW pkV fpW at z; omega
  rcases hr with ⟨h1, h2, h3, h4, h5, h6, h7, h8, h9, h10⟩ | ⟨h1, h2⟩
  · left
    have ad : ADV h b a y pn r.2 pn := adv_W P h3 (pk_gw ht cA ltS_0 c5) n0 n15 (fun A hA => ⟨nW A _ hA (Or.inl rfl), nW A _ hA (Or.inr rfl)⟩)
    have e15 : r.2 (b + 15) = h (b + 15) := h3.row n15
    refine ⟨h (b + 15) L.length, pn, h1, by omega, t1, h2, ad, h3.mono (fun q j z => ?_), by rw [e15], by omega, fun j j0 j1 => ⟨by rw [e15], ?_⟩, h4, h5, h6, h7, h8, h9, by omega, ?_⟩
    · unfold pkW pkV at z
      unfold pnW
      rcases z with (z | z | z | z | z | z) | z
      · exact Or.inr (Or.inl (by omega))
      · exact Or.inr (Or.inr (Or.inl z))
      · exact Or.inr (Or.inr (Or.inr (Or.inl (by omega))))
      · exact Or.inr (Or.inr (Or.inr (Or.inl (by omega))))
      · exact Or.inr (Or.inr (Or.inr (Or.inl (by omega))))
      · exact Or.inr (Or.inr (Or.inr (Or.inr (Or.inr (Or.inl z)))))
      · exact Or.inr (Or.inr (Or.inr (Or.inr (Or.inr (Or.inr z)))))
    · rw [e15]
      obtain ⟨d1, d2, d3, d4⟩ := P.2.2.1 j j0 (by omega)
      have dn := P.2.2.2.2 j L.length j0 j1 u1
      refine (c7 j j0 j1).kept (fun i hi => h3 _ _ (fun z => by unfold pkW pkV fpW at z; omega)) (by rw [c3, h9]; omega) (by rw [h10]; omega) (fun q i q0 q1 hi => h3 _ _ (fun z => by unfold pkW pkV fpW at z; omega)) (fun q i q0 q1 hi => h3 _ _ (fun z => by unfold pkW pkV fpW at z; omega))
    · have nl : ((BKf T np sg dt s.1 (hyO (V 24) e)).length : Int) ≤ s.1.length := bkA_n (fun i z => plP_1 z) (by have : s.1.length ≠ 0 := fun z => ne (List.eq_nil_of_length_eq_zero z); omega) (txG_h G ne)
      omega
  · exact Or.inr ⟨Or.inr (Or.inr h1), thg_W P h2 (pk_gw ht cA ltS_0 c5) n0 n15 (fun A hA => ⟨nW A _ hA (Or.inl rfl), nW A _ hA (Or.inr rfl)⟩)⟩
theorem c_par14 {S Y V Q h T : Hp} {b a sa ya E M f y np t e pn w : Int} {W : Int → Int} {K J : Int → Int → Int} {sg : Int → List Int} {dt : Int → Int → Int} {s : TXT} {L : List PAR} (X : EV S Y V Q h b a sa ya E M f y W K J T np sg dt) (ht : t ∈ in_aX12) (Xt : txC h t s) (G : txG s) (ne : s.1 ≠ []) (e0 : -1 ≤ e) (e1 : e < E)
    (P : POK h b pn) (rm : RMP h pn) (C : GPo h (V 24) W K J (BKf T np sg dt) w b pn L) :
    Pz (m_X14_paragraph b t e h) (PAQ h (V 24) W K J (BKf T np sg dt) w b a t y pn e s L) := by
  obtain ⟨⟨c1, c2, c3, c4, c5, c6⟩, c7⟩ := id C
  have hb := X.2.1
  have hL := X.1.lay.1
  have ha := X.1.lay.2.1
  have hb' := rX14 hb
  have ht' := rX12 ht
  have ha' := rX7 ha
  have y2 := X.2.2.2.2.2.2.1
  have hy' := aX9 y2
  have n0 : (0 : Int) ≤ s.1.length := Int.natCast_nonneg _
  have l0 := ltS_0 (L := L)
  have pn1 := P.2.1
  have rm1 := rm.rm P.2.1
  obtain ⟨x1, x2, -⟩ := id Xt
  have bad : (1200 ≤ (L.length : Int) ∨ 24000 < ltS L + s.1.length) → Pz (m_X14_paragraph_j32 b t e h) (PAQ h (V 24) W K J (BKf T np sg dt) w b a t y pn e s L) := fun hc => by
    unfold m_X14_paragraph_j32 m_X14_paragraph_j33
    refine z_bT (c_room rm1.1 (fun z => absurd rfl z) (fun _ r r1 r2 r3 r4 r5 r6 r7 => Or.inr ⟨by omega, z_some (Or.inr ⟨?_, ?_⟩)⟩))
    · rcases hc with z | z
      · exact Or.inl z
      · exact Or.inr (Or.inl z)
    · exact ⟨h, pn, ADV.refl P, rfl, r2, r3, r4, r5, r6, r7⟩
  unfold m_X14_paragraph
  rw [c1]
  by_cases hu : 1200 ≤ (L.length : Int)
  · rw [if_pos hu]; exact bad (Or.inl hu)
  rw [if_neg hu, (g_X14_1 hL hb).1, (g_X14_1 hL hb).2.1, g_X12 hL ht, c3, x1, e32 (by omega) (by omega)]
  refine z_gd (by decide) (z_gd (by decide) ?_)
  by_cases ht1 : 24000 < ltS L + s.1.length
  · rw [if_pos ht1]; exact bad (Or.inr ht1)
  rw [if_neg ht1]
  unfold m_X14_paragraph_j33
  refine z_bT (c_room rm1.1 (fun _ => Or.inl ⟨rfl, ?_⟩) (fun z => absurd z (by decide)))
  dsimp only
  obtain ⟨p8, p8k, p8l⟩ := g_X14_8 hL hb
  simp only [p8, p8k, p8l, c1]
  refine z_gd ⟨by decide, Int.natCast_nonneg _, by omega⟩ ?_
  by_cases hp : (L.length : Int) < pn
  · have := (P.2.2.1 L.length (Int.natCast_nonneg _) hp).1
    rw [if_pos (by omega)]
    exact c_par33 X ht Xt G ne e0 e1 P rm C hp (by omega)
  · have hz := P.2.2.2.1 L.length (by omega) (by omega)
    rw [if_neg (fun z => z hz)]
    have rm2 := rm1.2 (by omega)
    obtain ⟨q1, q2, q3, q4⟩ := rm2
    refine z_al ⟨by decide, by decide, by omega, by omega⟩ ?_
    unfold m_X28_init
    refine z_bind (z_pt (z_some (z_pt ?_)))
    have eb1 : nw h 288 21 b 1 = b + 1 := by rw [show nw h 288 21 b 1 = h b 1 from nw_F2 b 1 (by unfold nwW; omega)]; exact (g_X14_1 hL hb).1
    rw [eb1]
    have low : ∀ q j : Int, 1 ≤ q → q ≤ h 0 0 → nw h 288 21 q j = h q j := fun q j q0 q1' => nw_F2 q j (by unfold nwW; omega)
    have new := nw_new (h := h) (K := 288) (n := 21)
    have n00 : nw h 288 21 0 0 = h 0 0 + 1 ∧ nw h 288 21 0 1 = h 0 1 + 21 := by
      unfold nw
      rw [if_neg (by omega), if_pos ⟨rfl, rfl⟩, if_neg (by omega), if_neg (fun z => absurd z.2 (by decide)), if_pos ⟨rfl, rfl⟩]
      exact ⟨rfl, rfl⟩
    obtain ⟨h2, eh2⟩ : ∃ h2, h2 = up (up (nw h 288 21) (h 0 0 + 1) 0 (b + 1)) (b + 15) L.length (h 0 0 + 1) := ⟨_, rfl⟩
    have kp : ∀ q j : Int, 1 ≤ q → q ≤ h 0 0 → ¬ (q = b + 15 ∧ j = L.length) → h2 q j = h q j := fun q j q0 q1' nq => by
      rw [eh2]
      by_cases hq : q = b + 15
      · rw [up_j (fun z => nq ⟨hq, z⟩), up_a (by omega)]; exact low q j q0 q1'
      · rw [up_a hq, up_a (by omega)]; exact low q j q0 q1'
    have k0 : h2 0 0 = h 0 0 + 1 ∧ h2 0 1 = h 0 1 + 21 := by
      rw [eh2, up_a (by omega), up_a (by omega), up_a (by omega), up_a (by omega)]; exact n00
    have kA : h2 (h 0 0 + 1) (-2) = 288 ∧ h2 (h 0 0 + 1) 0 = b + 1 ∧ h2 (b + 15) L.length = h 0 0 + 1 := by
      refine ⟨?_, ?_, ?_⟩
      · rw [eh2, up_a (by omega), up_j (by omega)]; exact new.1
      · rw [eh2, up_a (by omega), up_s]
      · rw [eh2, up_s]
    have F2h : F2 (GW h b a y) h h2 := fun q j nz => by
      have nq : ¬ (q = 0) := fun z => nz (Or.inl z)
      have nc : ¬ cel h b q := fun z => nz (Or.inr (Or.inl z))
      have n15 : ¬ (b + 15 ≤ q ∧ q ≤ b + 37 ∧ 0 ≤ j) := fun z => nz (Or.inr (Or.inr (Or.inr (Or.inr (Or.inr (Or.inl z))))))
      by_cases hq : q ≤ h 0 0
      · by_cases hq0 : 1 ≤ q
        · exact kp q j hq0 hq (by omega)
        · rw [eh2, up_a (by omega), up_a (by omega)]
          exact nw_F2 q j (by unfold nwW; omega)
      · exact absurd ⟨by omega, Or.inr (by omega)⟩ nc
    rw [← eh2]
    clear eh2 low new n00
    have P2 : POK h2 b (pn + 1) := by
      refine ⟨by omega, by omega, fun k k0' k1 => ?_, fun k k0' k1 => ?_, fun k k' k0' k1 k2 => ?_⟩
      · by_cases hk : k = L.length
        · rw [hk, kA.2.2]; exact ⟨by omega, by omega, kA.1, kA.2.1⟩
        · obtain ⟨d1, d2, d3, d4⟩ := P.2.2.1 k k0' (by omega)
          rw [kp (b + 15) k (by omega) (by omega) (by omega), kp _ _ (by omega) d2 (by omega), kp _ _ (by omega) d2 (by omega)]
          exact ⟨d1, by omega, d3, d4⟩
      · rw [kp (b + 15) k (by omega) (by omega) (by omega)]; exact P.2.2.2.1 k (by omega) k1
      · have d := P.2.2.1 k k0' (by omega)
        rw [kp (b + 15) k (by omega) (by omega) (by omega)]
        by_cases hk : k' = L.length
        · rw [hk, kA.2.2]; omega
        · rw [kp (b + 15) k' (by omega) (by omega) (by omega)]; exact P.2.2.2.2 k k' k0' k1 (by omega)
    have ad : ADV h b a y pn h2 (pn + 1) := ⟨F2h, by omega, P2, by omega, by omega⟩
    have X2 := ad.ev X
    have rmp2 := ad.rmp rm
    have Xt2 : txC h2 t s := Xt.kept (fun k k0 k1 => funext fun j => kp (t + k) j (by omega) (by omega) (by omega))
    have C2 : GPo h2 (V 24) W K J (BKf T np sg dt) w b (pn + 1) L := by
      have r1 : h2 (b + 1) = h (b + 1) := funext fun j => kp _ _ (by omega) (by omega) (by omega)
      refine ⟨⟨by rw [kp _ _ (by omega) (by omega) (by omega)]; exact c1, by omega, by rw [r1]; exact c3, c4, by rw [r1]; exact c5, by rw [r1]; exact c6⟩, fun j j0 j1 => ?_⟩
      obtain ⟨d1, d2, d3, d4⟩ := P.2.2.1 j j0 (by omega)
      rw [kp (b + 15) j (by omega) (by omega) (by omega)]
      exact (c7 j j0 j1).kept (fun i _ => kp _ _ (by omega) d2 (by omega)) (by rw [r1]; exact Int.le_refl _) (by rw [r1]; exact Int.le_refl _) (fun q i q0 q1 _ => kp _ _ (by omega) (by omega) (by omega)) (fun q i q0 q1 _ => kp _ _ (by omega) (by omega) (by omega))
    refine z_mono (c_par33 X2 ht Xt2 G ne e0 e1 P2 rmp2 C2 (by omega) (by omega)) (fun r hr => ?_)
    rcases hr with ⟨A, pn', h1, h3, h4, h5, h6, h7, h8, h9, h10, h11⟩ | ⟨h1, h3⟩
    · refine Or.inl ⟨A, pn', h1, h3, h4, h5, ad.trans hb ha y2 h6, ?_, h8, h9, fun j j0 j1 => ⟨?_, (h10 j j0 j1).2⟩, h11⟩
      · refine F2.trans (h2 := h2) (fun q j nz => ?_) h7
        unfold pnW at nz
        by_cases hq0 : 1 ≤ q
        · exact kp q j hq0 (by omega) (by omega)
        · refine F2h q j (fun z => ?_)
          unfold GW cel fpW at z
          omega
      · rw [(h10 j j0 j1).1, kp (b + 15) j (by omega) (by omega) (by omega)]
    · exact Or.inr ⟨h1, h3.after hb ha y2 ad⟩
