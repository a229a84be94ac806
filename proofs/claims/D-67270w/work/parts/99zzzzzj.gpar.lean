-- needs: 99zzzzzi
set_option maxRecDepth 100000
/-! GATHERING: a text becomes a paragraph (component) -/
theorem acp_ok {h : Hp} {s sp d dp n : Int} (k1 : 1 ≤ h s (-2) % 16) (k2 : h s (-2) % 16 ≤ 4) (k3 : h d (-2) % 16 = h s (-2) % 16) (sp0 : 0 ≤ sp) (dp0 : 0 ≤ dp) (n0 : 0 ≤ n) (s1 : sp + n ≤ h s (-1)) (d1 : dp + n ≤ h d (-1)) :
    ∃ g, x_acp s sp d dp n h = some g ∧ F2 (fun q j => q = d ∧ dp ≤ j ∧ j < dp + n) h g ∧ ∀ i, 0 ≤ i → i < n → g d (dp + i) = h s (sp + i) := by
  refine ⟨fun c j => if c = d ∧ dp ≤ j ∧ j < dp + n then h s (sp + (j - dp)) else h c j, if_pos ⟨k1, k2, k3, sp0, dp0, n0, s1, d1⟩, fun q j z => if_neg z, fun i i0 i1 => ?_⟩
  show (if d = d ∧ dp ≤ dp + i ∧ dp + i < dp + n then h s (sp + (dp + i - dp)) else h d (dp + i)) = _
  rw [if_pos ⟨rfl, by omega, by omega⟩, show sp + (dp + i - dp) = sp + i by omega]
/-- the pool of a book: pn paragraphs made -/
def POK (h : Hp) (b pn : Int) : Prop := 0 ≤ pn ∧ pn ≤ 1200 ∧ (∀ k, 0 ≤ k → k < pn → 983 ≤ h (b + 15) k ∧ h (b + 15) k ≤ h 0 0 ∧ h (h (b + 15) k) (-2) = 288 ∧ h (h (b + 15) k) 0 = b + 1) ∧ (∀ k, pn ≤ k → k < 1200 → h (b + 15) k = 0) ∧ ∀ k k', 0 ≤ k → k < k' → k' < pn → h (b + 15) k ≠ h (b + 15) k'
/-- what the making of a paragraph writes -/
def pkV (b A y tb β : Int) : Int → Int → Prop := fun q j => (q = A ∧ 1 ≤ j ∧ j ≤ 16 ∧ j ≠ 4) ∨ (q = b ∧ j = 9) ∨ (q = b + 1 ∧ (j = 3 ∨ j = 12)) ∨ (b + 2 ≤ q ∧ q ≤ b + 4 ∧ tb ≤ j) ∨ (b + 5 ≤ q ∧ q ≤ b + 12 ∧ β ≤ j) ∨ fpW y q j
def pkW (b t A y tb β : Int) : Int → Int → Prop := fun q j => pkV b A y tb β q j ∨ (q = t ∧ 3 ≤ j ∧ j ≤ 6)
theorem pk_gw {h : Hp} {b t A a y tb β : Int} (ht : t ∈ in_aX12) (hA : cel h b A) (t0 : 0 ≤ tb) (β0 : 0 ≤ β) : ∀ q j, pkW b t A y tb β q j → GW h b a y q j := by
  intro q j z
  have ht' := aX12 ht
  unfold pkW pkV at z
  unfold GW
  rcases z with (z | z | z | z | z | z) | z
  · exact Or.inr (Or.inl (by rw [z.1]; exact hA))
  · exact Or.inr (Or.inr (Or.inl ⟨z.1, Or.inl z.2⟩))
  · exact Or.inr (Or.inr (Or.inr (Or.inl z)))
  · exact Or.inr (Or.inr (Or.inr (Or.inr (Or.inl ⟨z.1, by omega, by omega⟩))))
  · exact Or.inr (Or.inr (Or.inr (Or.inr (Or.inl ⟨by omega, z.2.1, by omega⟩))))
  · exact Or.inr (Or.inr (Or.inr (Or.inr (Or.inr (Or.inr (Or.inr (Or.inr (Or.inr (Or.inr (Or.inr (Or.inr (Or.inr (Or.inr (Or.inr z))))))))))))))
  · exact Or.inr (Or.inr (Or.inr (Or.inr (Or.inr (Or.inr (Or.inr (Or.inl ⟨by omega, by omega, by omega, Or.inl z.2.1⟩)))))))
def PAR14 (h : Hp) (f W : Int → Int) (K J : Int → Int → Int) (BK : TXL → Int → List (Int × Int)) (b t A y tb β u e : Int) (s : TXT) (r : (Int × Int) × Hp) : Prop :=
  (r.1 = (0, A) ∧ ((BK s.1 (hyO f e)).length : Int) ≤ 600 ∧ F2 (pkW b t A y tb β) h r.2 ∧ pjC r.2 f W K J BK b A s.1 e ∧ r.2 A 5 = 0 ∧ r.2 A 6 = 0 ∧ txC r.2 t ([], -1) ∧ r.2 b 9 = u + 1 ∧ r.2 (b + 1) 3 = tb + s.1.length ∧ r.2 (b + 1) 12 = β + 1 + (BK s.1 (hyO f e)).length) ∨
  (600 < ((BK s.1 (hyO f e)).length : Int) ∧ TH (pkW b t A y tb β) h r)
theorem c_par327 {h g9 T V : Hp} {b f y np t A tb β u e : Int} {W : Int → Int} {K J : Int → Int → Int} {sg : Int → List Int} {dt : Int → Int → Int} {s : TXT} (hb : b ∈ in_aX14) (ht : t ∈ in_aX12) (y2 : y ∈ in_aX9) (f2 : f ∈ in_aX8) (f3 : foR W K J) (G : txG s) (ne : s.1 ≠ []) (hA : 983 ≤ A) (t0 : 0 ≤ tb) (t1 : tb + s.1.length ≤ 24000) (β0 : 0 ≤ β) (β1 : β ≤ tb + u) (u0 : 0 ≤ u) (u1 : u < 1200) (F15 : F2 (pkV b A y tb β) h g9) (L9 : LAY g9) (rm9 : RM g9 1 6) (kA9 : g9 A (-2) = 288) (A09 : g9 A 0 = b + 1) (tn9 : g9 t 3 = s.1.length) (fo : foC g9 f W K J) (hyc : hyC T g9 y np sg dt)
    (v9 : (g9 b 9 = u + 1 ∧ g9 A 1 = tb ∧ g9 A 2 = s.1.length ∧ g9 A 3 = e ∧ g9 A 5 = 0 ∧ g9 A 6 = 0 ∧ g9 (b + 1) 3 = tb + s.1.length ∧ g9 (b + 1) 12 = β) ∧ (g9 A 7 = ofV (V 24) e 2 ∧ g9 A 8 = ofV (V 24) e 8 ∧ g9 A 9 = ofV (V 24) e 10 ∧ g9 A 10 = ofV (V 24) e 11 ∧ g9 A 11 = ofV (V 24) e 12) ∧ g9 A 12 = (if ofV (V 24) e 13 = 1 then 1 else 0) ∧ g9 A 13 = (if ofV (V 24) e 14 = 1 then 1 else 0) ∧ g9 A 14 = hyO (V 24) e)
    (c9 : ∀ i, 0 ≤ i → i < (s.1.length : Int) → g9 (b + 2) (tb + i) = tpB s.1 i ∧ g9 (b + 3) (tb + i) = tpZ s.1 i ∧ g9 (b + 4) (tb + i) = tpQ s.1 i) :
    Pz (bT (m_X28_prepare A f y 257 g9) (fun _ h346 => (m_X12_clear t h346).bind fun h350 => some ((0, A), h350)) (fun a_ h_ => some ((1, a_), h_))) (PAR14 h (V 24) W K J (BKf T np sg dt) b t A y tb β u e s) := by
  have hb' := rX14 hb
  have hb15 : b + 1 ∈ in_aX15 := by rcases aX14' hb with rfl | rfl | rfl <;> decide
  have ht' := rX12 ht
  have hy' := aX9 y2
  have n0 : (0 : Int) ≤ s.1.length := Int.natCast_nonneg _
  have vw_ : ∀ q j, pkV b A y tb β q j → pkW b t A y tb β q j := fun q j z => Or.inl z
  obtain ⟨⟨p1, p2, p3, p4, p5, p6, p7, p8⟩, q1, q2, q3, q4⟩ := v9
  refine z_bT ?_
  have hx := txG_o G.1
  have pg : pgC g9 A (b + 1) tb s.1.length (tpB s.1) (tpZ s.1) := ⟨⟨kA9, A09, p2, p3⟩, ⟨t0, n0, t1⟩, fun i i0 i1 => ⟨by rw [show b + 1 + 1 = b + 2 by omega]; exact (c9 i i0 i1).1, by rw [show b + 1 + 2 = b + 3 by omega]; exact (c9 i i0 i1).2.1⟩, hx.1, hb15, hA⟩
  have nl : ((BKf T np sg dt s.1 (hyO (V 24) e)).length : Int) ≤ s.1.length := bkA_n (fun i z => plP_1 z) (by have : s.1.length ≠ 0 := fun z => ne (List.eq_nil_of_length_eq_zero z); omega) (txG_h G ne)
  refine z_mono (c_prepare L9 rm9 f2 y2 f3 fo hyc pg p8 β0 (by omega) q4) (fun r hr => ?_)
  have eBK : bkA (tpB s.1) (hyO (V 24) e) (plP T np sg dt (tpB s.1) s.1.length) s.1.length = BKf T np sg dt s.1 (hyO (V 24) e) := rfl
  rw [eBK] at hr
  have sub : ∀ q j, pqW A (b + 1) y β q j → pkV b A y tb β q j := fun q j z => by
    unfold pqW at z
    unfold pkV
    rcases z with z | z | z | z
    · exact Or.inl (by omega)
    · exact Or.inr (Or.inr (Or.inl ⟨z.1, Or.inr z.2⟩))
    · exact Or.inr (Or.inr (Or.inr (Or.inr (Or.inl (by omega)))))
    · exact Or.inr (Or.inr (Or.inr (Or.inr (Or.inr z))))
  rcases hr with ⟨h1, h6, hF, hbk, hms⟩ | ⟨h6, g, hF, hTh⟩
  · left
    refine ⟨by rw [h1], ?_⟩
    have F16 : F2 (pkV b A y tb β) h r.2 := F15.trans (hF.mono sub)
    have kA16 : r.2 A (-2) = 288 := by rw [hF _ _ (fun z => by unfold pqW fpW at z; omega)]; exact kA9
    have A016 : r.2 A 0 = b + 1 := by rw [hF _ _ (fun z => by unfold pqW fpW at z; omega)]; exact A09
    have kp : ∀ j, j ≤ 14 → r.2 A j = g9 A j := fun j hj => hF _ _ (fun z => by unfold pqW fpW at z; omega)
    have kr : ∀ q j, (b + 2 ≤ q ∧ q ≤ b + 4) ∨ (q = b + 1 ∧ j = 3) ∨ (q = b ∧ j = 9) → r.2 q j = g9 q j := fun q j hq => hF _ _ (fun z => by unfold pqW fpW at z; omega)
    obtain ⟨hb1, hb2, hb3, hb4⟩ := hbk
    unfold m_X12_clear
    refine z_bind (z_pt (z_pt (z_pt (z_some (z_some ?_)))))
    have up3 : ∀ q j, q ≠ t → up (up (up r.2 t 3 0) t 4 0) t 6 0 q j = r.2 q j := fun q j hq => by rw [up_a hq, up_a hq, up_a hq]
    generalize eg : up (up (up r.2 t 3 0) t 4 0) t 6 0 = g10 at up3 ⊢
    have v10 : g10 t 3 = 0 ∧ g10 t 4 = 0 ∧ g10 t 6 = 0 := by
      rw [← eg]
      simp (disch := omega) only [up_j, up_e]
      exact ⟨trivial, trivial, trivial⟩
    have F17 : F2 (pkW b t A y tb β) h g10 := by
      rw [← eg]
      exact (((F16.mono vw_).put (Or.inr ⟨rfl, by decide, by decide⟩)).put (Or.inr ⟨rfl, by decide, by decide⟩)).put (Or.inr ⟨rfl, by decide, by decide⟩)
    clear eg
    have r3 : r.2 (b + 1) 3 = tb + s.1.length := by rw [kr _ _ (by omega)]; exact p7
    unfold PAR14
    dsimp only
    refine Or.inl ⟨rfl, h6, F17, ⟨?_, tb, β, ?_, fun i i0 i1 => ?_, ?_, ⟨?_, ?_, fun x x0 x1 => ?_⟩, fun x x0 x1 => ?_, β0, ?_, h6⟩, ?_, ?_, ?_, ?_, ?_, ?_⟩
    · unfold pjF
      simp (disch := omega) only [up3]
      rw [kp 3 (by decide), kp 7 (by decide), kp 8 (by decide), kp 9 (by decide), kp 10 (by decide), kp 11 (by decide), kp 12 (by decide), kp 13 (by decide), kp 14 (by decide)]
      exact ⟨p4, q1.1, q1.2.1, q1.2.2.1, q1.2.2.2.1, q1.2.2.2.2, q2, q3, q4⟩
    · refine ⟨⟨?_, ?_, ?_, ?_⟩, pg.2.1, fun i i0 i1 => ?_, hx.1, hb15, hA⟩
      · rw [up3 _ _ (by omega)]; exact kA16
      · rw [up3 _ _ (by omega)]; exact A016
      · rw [up3 _ _ (by omega), kp 1 (by decide)]; exact p2
      · rw [up3 _ _ (by omega), kp 2 (by decide)]; exact p3
      · rw [up3 _ _ (by omega), up3 _ _ (by omega), kr _ _ (by omega), kr _ _ (by omega)]; exact pg.2.2.1 i i0 i1
    · rw [up3 _ _ (by omega), kr _ _ (by omega)]; exact (c9 i i0 i1).2.2
    · rw [up3 _ _ (by omega), r3]; exact Int.le_refl _
    · rw [up3 _ _ (by omega)]; exact hb1
    · rw [up3 _ _ (by omega)]; exact hb2
    · rw [up3 _ _ (by omega), up3 _ _ (by omega), up3 _ _ (by omega)]; exact hb4 x x0 x1
    · rw [up3 _ _ (by omega), up3 _ _ (by omega), up3 _ _ (by omega), up3 _ _ (by omega), up3 _ _ (by omega)]; exact hms x x0 x1
    · rw [up3 _ _ (by omega), hb3]; exact Int.le_refl _
    · rw [up3 _ _ (by omega), kp 5 (by decide)]; exact p5
    · rw [up3 _ _ (by omega), kp 6 (by decide)]; exact p6
    · exact ⟨v10.1, by decide, fun i i0 i1 => absurd i1 (by show ¬ i < 0; omega), v10.2.2, fun z => absurd rfl z, fun _ => rfl⟩
    · rw [up3 _ _ (by omega), kr _ _ (by omega)]; exact p1
    · rw [up3 _ _ (by omega)]; exact r3
    · rw [up3 _ _ (by omega)]; exact hb3
  · right
    have F16 : F2 (pkV b A y tb β) h g := F15.trans (hF.mono sub)
    refine ⟨by rw [hTh.1]; decide, z_some (Or.inr ⟨h6, ?_⟩)⟩
    have th : TH (pkW b t A y tb β) h r := ⟨g, F16.mono vw_, by rw [F16 0 0 (fun w => by unfold pkV fpW at w; omega)]; exact Int.le_refl _, hTh⟩
    exact th.r1
theorem c_par68 {S Y V Q h T : Hp} {b a sa ya E M f y np t A tb β u e : Int} {W : Int → Int} {K J : Int → Int → Int} {sg : Int → List Int} {dt : Int → Int → Int} {s : TXT} (X : EV S Y V Q h b a sa ya E M f y W K J T np sg dt) (ht : t ∈ in_aX12) (Xt : txC h t s) (G : txG s) (ne : s.1 ≠ []) (e0 : -1 ≤ e) (e1 : e < E)
    (eu : h b 9 = u) (u0 : 0 ≤ u) (u1 : u < 1200) (eA : h (b + 15) u = A) (hA : 983 ≤ A) (hA1 : h A 0 = b + 1) (kA : h A (-2) = 288) (et : h (b + 1) 3 = tb) (t0 : 0 ≤ tb) (t1 : tb + s.1.length ≤ 24000) (eβ : h (b + 1) 12 = β) (β0 : 0 ≤ β) (β1 : β ≤ tb + u) (rm : RM h 1 6) :
    Pz (m_X14_paragraph_j68 b t e h) (PAR14 h (V 24) W K J (BKf T np sg dt) b t A y tb β u e s) := by
  obtain ⟨k, hb, B, q, ⟨f1, f2, f3, f4⟩, y1, y2, y3⟩ := id X
  obtain ⟨hL, ha, hs, hy⟩ := k.lay
  have hb' := rX14 hb
  have hb15 : b + 1 ∈ in_aX15 := by rcases aX14' hb with rfl | rfl | rfl <;> decide
  have ht' := aX12 ht
  have ha' := aX7 ha
  have hy' := aX9 y2
  have hf' := aX8 f2
  have cA : cel h b A := ⟨hA, Or.inl hA1⟩
  obtain ⟨x1, x2, x3, x4, x5, x6⟩ := id Xt
  have n0 : (0 : Int) ≤ s.1.length := Int.natCast_nonneg _
  have vw_ : ∀ q j, pkV b A y tb β q j → pkW b t A y tb β q j := fun q j z => Or.inl z
  -- what stays while the paragraph is made
  have st : ∀ g, F2 (pkV b A y tb β) h g → LAY g ∧ RM g 1 6 ∧ g A (-2) = 288 ∧ g A 0 = b + 1 ∧ g t 3 = s.1.length ∧ (∀ i, 0 ≤ i → i < (s.1.length : Int) → g (t + 1) i = tpB s.1 i ∧ g (t + 2) i = tpZ s.1 i ∧ g (t + 3) i = tpQ s.1 i) ∧ g b 4 = f ∧ g b 5 = y ∧ foC g f W K J ∧ hyC T g y np sg dt ∧ (∀ c, 1 ≤ c → c ≤ 21 → c ≠ 17 → m_X14_property b e c g = some (ofV (V 24) e c)) := fun g F => by
    have z := rmF rm F (fun j z => by unfold pkV fpW at z; omega)
    have z2 := X.kept (h' := g) z.2.2.1 (F.mono (fun q j w => pk_gw ht cA t0 β0 q j (vw_ q j w)))
    refine ⟨z2.1.lay.1, z, ?_, ?_, ?_, fun i i0 i1 => ?_, z2.2.2.2.2.1.1, z2.2.2.2.2.2.1, z2.2.2.2.2.1.2.2.2, z2.2.2.2.2.2.2.2, fun c c0 c1 c2 => q_prop14 z2.1 z2.2.2.1 e0 e1 c0 c1 c2⟩
    · rw [F _ _ (fun w => by unfold pkV fpW at w; omega)]; exact kA
    · rw [F _ _ (fun w => by unfold pkV fpW at w; omega)]; exact hA1
    · rw [F _ _ (fun w => by unfold pkV fpW at w; omega)]; exact x1
    · rw [F (t + 1) _ (fun w => by unfold pkV fpW at w; omega), F (t + 2) _ (fun w => by unfold pkV fpW at w; omega), F (t + 3) _ (fun w => by unfold pkV fpW at w; omega)]; exact x3 i i0 i1
  clear X q hs hy x3 x4 x5 x6 f4 y3 f1 y1
  have hp8 := g_X14_8 hL hb
  unfold m_X14_paragraph_j68
  simp only [hp8.1, hp8.2.1, hp8.2.2, eu, eA]
  refine z_gd ⟨by decide, u0, u1⟩ (z_lt (z_pt ?_))
  have F1 : F2 (pkV b A y tb β) h (up h b 9 (w32 (u + 1))) := F2.refl.put (by unfold pkV; omega)
  have v1 : up h b 9 (w32 (u + 1)) b 9 = u + 1 := by rw [up_s, e32 (by omega) (by omega)]
  have w1 : up h b 9 (w32 (u + 1)) (b + 1) 3 = tb ∧ up h b 9 (w32 (u + 1)) (b + 1) 12 = β := by rw [up_a (by omega), up_a (by omega)]; exact ⟨et, eβ⟩
  generalize up h b 9 (w32 (u + 1)) = g1 at F1 v1 w1 ⊢
  obtain ⟨L1, -, k1, -⟩ := st g1 F1
  rw [(g_X14_1 L1 hb).1, (g_X14_1 L1 hb).2.1, k1, w1.1]
  refine z_gd (by decide) (z_gd (by decide) (z_pt ?_))
  have F2_ : F2 (pkV b A y tb β) h (up g1 A 1 tb) := F1.put (by unfold pkV; omega)
  have v2 : up g1 A 1 tb b 9 = u + 1 ∧ up g1 A 1 tb A 1 = tb := ⟨by rw [up_a (by omega)]; exact v1, up_s _ _ _ _⟩
  have w2 : up g1 A 1 tb (b + 1) 3 = tb ∧ up g1 A 1 tb (b + 1) 12 = β := by rw [up_a (by omega), up_a (by omega)]; exact w1
  generalize up g1 A 1 tb = g2 at F2_ v2 w2 ⊢
  clear F1 v1 w1 L1 k1 g1
  obtain ⟨L2, -, -, -, n2, r2, -⟩ := st g2 F2_
  rw [g_X12 L2 ht, (g_X14_1 L2 hb).1, (g_X14_1 L2 hb).2.1, (g_X12_0 L2 ht).1, (g_X15_0 L2 hb15).1, w2.1, n2]
  refine z_gd (by decide) (z_gd (by decide) ?_)
  obtain ⟨g3, a1, a2, a3⟩ := acp_ok (h := g2) (s := t + 1) (sp := 0) (d := b + 1 + 1) (dp := tb) (n := s.1.length) (by rw [(g_X12_0 L2 ht).2.1]; decide) (by rw [(g_X12_0 L2 ht).2.1]; decide) (by rw [(g_X12_0 L2 ht).2.1, (g_X15_0 L2 hb15).2.1]; decide) (by decide) t0 n0 (by rw [(g_X12_0 L2 ht).2.2]; omega) (by rw [(g_X15_0 L2 hb15).2.2]; omega)
  rw [a1, Option.bind_some]
  have F3 : F2 (pkV b A y tb β) h g3 := F2_.trans (a2.mono (fun q j z => by unfold pkV; omega))
  have v3 : g3 b 9 = u + 1 ∧ g3 A 1 = tb := by rw [a2 _ _ (by omega), a2 _ _ (by omega)]; exact v2
  have w3 : g3 (b + 1) 3 = tb ∧ g3 (b + 1) 12 = β := by rw [a2 _ _ (by omega), a2 _ _ (by omega)]; exact w2
  have c3 : ∀ i, 0 ≤ i → i < (s.1.length : Int) → g3 (b + 2) (tb + i) = tpB s.1 i := fun i i0 i1 => by
    have := a3 i i0 i1
    rw [show b + 1 + 1 = b + 2 by omega, show 0 + i = i by omega] at this
    rw [this]; exact (r2 i i0 i1).1
  clear a1 a2 a3 F2_ v2 w2 L2 n2 r2 g2
  obtain ⟨L3, -, -, -, n3, r3, -⟩ := st g3 F3
  rw [(g_X14_1 L3 hb).1, (g_X14_1 L3 hb).2.1, (g_X12_1 L3 ht).1, (g_X15_1 L3 hb15).1, w3.1, n3]
  refine z_gd (by decide) ?_
  obtain ⟨g4, a1, a2, a3⟩ := acp_ok (h := g3) (s := t + 2) (sp := 0) (d := b + 1 + 2) (dp := tb) (n := s.1.length) (by rw [(g_X12_1 L3 ht).2.1]; decide) (by rw [(g_X12_1 L3 ht).2.1]; decide) (by rw [(g_X12_1 L3 ht).2.1, (g_X15_1 L3 hb15).2.1]; decide) (by decide) t0 n0 (by rw [(g_X12_1 L3 ht).2.2]; omega) (by rw [(g_X15_1 L3 hb15).2.2]; omega)
  rw [a1, Option.bind_some]
  have F4 : F2 (pkV b A y tb β) h g4 := F3.trans (a2.mono (fun q j z => by unfold pkV; omega))
  have v4 : g4 b 9 = u + 1 ∧ g4 A 1 = tb := by rw [a2 _ _ (by omega), a2 _ _ (by omega)]; exact v3
  have w4 : g4 (b + 1) 3 = tb ∧ g4 (b + 1) 12 = β := by rw [a2 _ _ (by omega), a2 _ _ (by omega)]; exact w3
  have c4 : ∀ i, 0 ≤ i → i < (s.1.length : Int) → g4 (b + 2) (tb + i) = tpB s.1 i ∧ g4 (b + 3) (tb + i) = tpZ s.1 i := fun i i0 i1 => by
    have := a3 i i0 i1
    rw [show b + 1 + 2 = b + 3 by omega, show 0 + i = i by omega] at this
    rw [this, a2 _ _ (by omega)]; exact ⟨c3 i i0 i1, (r3 i i0 i1).2.1⟩
  clear a1 a2 a3 F3 v3 w3 L3 n3 r3 c3 g3
  obtain ⟨L4, -, -, -, n4, r4, -⟩ := st g4 F4
  rw [(g_X14_1 L4 hb).1, (g_X14_1 L4 hb).2.1, (g_X12_2 L4 ht).1, (g_X15_2 L4 hb15).1, w4.1, n4]
  refine z_gd (by decide) ?_
  obtain ⟨g5, a1, a2, a3⟩ := acp_ok (h := g4) (s := t + 3) (sp := 0) (d := b + 1 + 3) (dp := tb) (n := s.1.length) (by rw [(g_X12_2 L4 ht).2.1]; decide) (by rw [(g_X12_2 L4 ht).2.1]; decide) (by rw [(g_X12_2 L4 ht).2.1, (g_X15_2 L4 hb15).2.1]; decide) (by decide) t0 n0 (by rw [(g_X12_2 L4 ht).2.2]; omega) (by rw [(g_X15_2 L4 hb15).2.2]; omega)
  rw [a1, Option.bind_some]
  have F5 : F2 (pkV b A y tb β) h g5 := F4.trans (a2.mono (fun q j z => by unfold pkV; omega))
  have v5 : g5 b 9 = u + 1 ∧ g5 A 1 = tb := by rw [a2 _ _ (by omega), a2 _ _ (by omega)]; exact v4
  have w5 : g5 (b + 1) 3 = tb ∧ g5 (b + 1) 12 = β := by rw [a2 _ _ (by omega), a2 _ _ (by omega)]; exact w4
  have c5 : ∀ i, 0 ≤ i → i < (s.1.length : Int) → g5 (b + 2) (tb + i) = tpB s.1 i ∧ g5 (b + 3) (tb + i) = tpZ s.1 i ∧ g5 (b + 4) (tb + i) = tpQ s.1 i := fun i i0 i1 => by
    have := a3 i i0 i1
    rw [show b + 1 + 3 = b + 4 by omega, show 0 + i = i by omega] at this
    rw [this, a2 _ _ (by omega), a2 _ _ (by omega)]; exact ⟨(c4 i i0 i1).1, (c4 i i0 i1).2, (r4 i i0 i1).2.2⟩
  clear a1 a2 a3 F4 v4 w4 L4 n4 r4 c4 g4
  obtain ⟨L5, -, -, -, n5, -⟩ := st g5 F5
  rw [n5]
  refine z_pt ?_
  have F6 : F2 (pkV b A y tb β) h (up g5 A 2 s.1.length) := F5.put (by unfold pkV; omega)
  have v6 : up g5 A 2 s.1.length b 9 = u + 1 ∧ up g5 A 2 s.1.length A 1 = tb ∧ up g5 A 2 s.1.length A 2 = s.1.length := ⟨by rw [up_a (by omega)]; exact v5.1, by rw [up_j (by omega)]; exact v5.2, up_s _ _ _ _⟩
  have w6 : up g5 A 2 s.1.length (b + 1) 3 = tb ∧ up g5 A 2 s.1.length (b + 1) 12 = β := by rw [up_a (by omega), up_a (by omega)]; exact w5
  have c6 : ∀ i, 0 ≤ i → i < (s.1.length : Int) → up g5 A 2 s.1.length (b + 2) (tb + i) = tpB s.1 i ∧ up g5 A 2 s.1.length (b + 3) (tb + i) = tpZ s.1 i ∧ up g5 A 2 s.1.length (b + 4) (tb + i) = tpQ s.1 i := fun i i0 i1 => by
    rw [up_a (by omega), up_a (by omega), up_a (by omega)]; exact c5 i i0 i1
  generalize up g5 A 2 s.1.length = g6 at F6 v6 w6 c6 ⊢
  clear F5 v5 w5 L5 n5 c5 g5
  obtain ⟨L6, -, -, -, n6, -⟩ := st g6 F6
  rw [(g_X14_1 L6 hb).1, (g_X14_1 L6 hb).2.1, n6, w6.1, e32 (x := tb + s.1.length) (by omega) (by omega)]
  refine z_gd (by decide) (z_pt (z_pt (z_pt (z_pt ?_))))
  obtain ⟨g7, eg7⟩ : ∃ g7, g7 = up (up (up (up g6 (b + 1) 3 (tb + s.1.length)) A 3 e) A 5 0) A 6 0 := ⟨_, rfl⟩
  have F7 : F2 (pkV b A y tb β) h g7 := by rw [eg7]; exact (((F6.put (by unfold pkV; omega)).put (by unfold pkV; omega)).put (by unfold pkV; omega)).put (by unfold pkV; omega)
  have v7 : g7 b 9 = u + 1 ∧ g7 A 1 = tb ∧ g7 A 2 = s.1.length ∧ g7 A 3 = e ∧ g7 A 5 = 0 ∧ g7 A 6 = 0 ∧ g7 (b + 1) 3 = tb + s.1.length ∧ g7 (b + 1) 12 = β := by
    rw [eg7]
    simp (disch := omega) only [up_a, up_j, up_e]
    exact ⟨v6.1, v6.2.1, v6.2.2, trivial, trivial, trivial, trivial, w6.2⟩
  have c7 : ∀ i, 0 ≤ i → i < (s.1.length : Int) → g7 (b + 2) (tb + i) = tpB s.1 i ∧ g7 (b + 3) (tb + i) = tpZ s.1 i ∧ g7 (b + 4) (tb + i) = tpQ s.1 i := fun i i0 i1 => by
    rw [eg7]
    simp (disch := omega) only [up_a]
    exact c6 i i0 i1
  rw [← eg7]
  clear eg7 F6 v6 w6 L6 n6 c6 g6
  -- the properties
  have P7 := (st g7 F7).2.2.2.2.2.2.2.2.2.2
  rw [P7 2 (by decide) (by decide) (by decide), Option.bind_some]
  refine z_pt ?_
  have F8 := F7.put (a := A) (i := 7) (v := ofV (V 24) e 2) (by unfold pkV; omega)
  rw [(st _ F8).2.2.2.2.2.2.2.2.2.2 8 (by decide) (by decide) (by decide), Option.bind_some]
  refine z_pt ?_
  have F9 := F8.put (a := A) (i := 8) (v := ofV (V 24) e 8) (by unfold pkV; omega)
  rw [(st _ F9).2.2.2.2.2.2.2.2.2.2 10 (by decide) (by decide) (by decide), Option.bind_some]
  refine z_pt ?_
  have F10 := F9.put (a := A) (i := 9) (v := ofV (V 24) e 10) (by unfold pkV; omega)
  rw [(st _ F10).2.2.2.2.2.2.2.2.2.2 11 (by decide) (by decide) (by decide), Option.bind_some]
  refine z_pt ?_
  have F11 := F10.put (a := A) (i := 10) (v := ofV (V 24) e 11) (by unfold pkV; omega)
  rw [(st _ F11).2.2.2.2.2.2.2.2.2.2 12 (by decide) (by decide) (by decide), Option.bind_some]
  refine z_pt ?_
  have F12 := F11.put (a := A) (i := 11) (v := ofV (V 24) e 12) (by unfold pkV; omega)
  rw [(st _ F12).2.2.2.2.2.2.2.2.2.2 13 (by decide) (by decide) (by decide), Option.bind_some]
  generalize eg : up (up (up (up (up g7 A 7 (ofV (V 24) e 2)) A 8 (ofV (V 24) e 8)) A 9 (ofV (V 24) e 10)) A 10 (ofV (V 24) e 11)) A 11 (ofV (V 24) e 12) = g8 at F12 ⊢
  have v8 : (g8 b 9 = u + 1 ∧ g8 A 1 = tb ∧ g8 A 2 = s.1.length ∧ g8 A 3 = e ∧ g8 A 5 = 0 ∧ g8 A 6 = 0 ∧ g8 (b + 1) 3 = tb + s.1.length ∧ g8 (b + 1) 12 = β) ∧ g8 A 7 = ofV (V 24) e 2 ∧ g8 A 8 = ofV (V 24) e 8 ∧ g8 A 9 = ofV (V 24) e 10 ∧ g8 A 10 = ofV (V 24) e 11 ∧ g8 A 11 = ofV (V 24) e 12 := by
    rw [← eg]
    simp (disch := omega) only [up_a, up_j, up_e]
    exact ⟨v7, trivial, trivial, trivial, trivial, trivial⟩
  have c8 : ∀ i, 0 ≤ i → i < (s.1.length : Int) → g8 (b + 2) (tb + i) = tpB s.1 i ∧ g8 (b + 3) (tb + i) = tpZ s.1 i ∧ g8 (b + 4) (tb + i) = tpQ s.1 i := fun i i0 i1 => by
    rw [← eg]
    simp (disch := omega) only [up_a]
    exact c7 i i0 i1
  clear eg F7 F8 F9 F10 F11 P7 v7 c7 g7
  have go : Pz (m_X14_paragraph_j287 A e b t (if ofV (V 24) e 13 = 1 then 1 else 0) g8) (PAR14 h (V 24) W K J (BKf T np sg dt) b t A y tb β u e s) := by
    generalize e12 : (if ofV (V 24) e 13 = 1 then (1 : Int) else 0) = x12
    unfold m_X14_paragraph_j287
    refine z_pt ?_
    have F13 := F12.put (a := A) (i := 12) (v := x12) (by unfold pkV; omega)
    rw [(st _ F13).2.2.2.2.2.2.2.2.2.2 14 (by decide) (by decide) (by decide), Option.bind_some]
    have go2 : ∀ x13, x13 = (if ofV (V 24) e 14 = 1 then (1 : Int) else 0) → Pz (m_X14_paragraph_j307 b t e A x13 (up g8 A 12 x12)) (PAR14 h (V 24) W K J (BKf T np sg dt) b t A y tb β u e s) := by
      intro x13 e13
      unfold m_X14_paragraph_j307
      refine z_pt ?_
      have F14 := F13.put (a := A) (i := 13) (v := x13) (by unfold pkV; omega)
      rw [(st _ F14).2.2.2.2.2.2.2.2.2.2 9 (by decide) (by decide) (by decide), Option.bind_some]
      have go3 : Pz (m_X14_paragraph_j327 b t A (hyO (V 24) e) (up (up g8 A 12 x12) A 13 x13)) (PAR14 h (V 24) W K J (BKf T np sg dt) b t A y tb β u e s) := by
        unfold m_X14_paragraph_j327
        refine z_pt ?_
        have F15 := F14.put (a := A) (i := 14) (v := hyO (V 24) e) (by unfold pkV; omega)
        generalize eg : up (up (up g8 A 12 x12) A 13 x13) A 14 (hyO (V 24) e) = g9 at F15 ⊢
        have v9 : (g9 b 9 = u + 1 ∧ g9 A 1 = tb ∧ g9 A 2 = s.1.length ∧ g9 A 3 = e ∧ g9 A 5 = 0 ∧ g9 A 6 = 0 ∧ g9 (b + 1) 3 = tb + s.1.length ∧ g9 (b + 1) 12 = β) ∧ (g9 A 7 = ofV (V 24) e 2 ∧ g9 A 8 = ofV (V 24) e 8 ∧ g9 A 9 = ofV (V 24) e 10 ∧ g9 A 10 = ofV (V 24) e 11 ∧ g9 A 11 = ofV (V 24) e 12) ∧ g9 A 12 = x12 ∧ g9 A 13 = x13 ∧ g9 A 14 = hyO (V 24) e := by
          rw [← eg]
          simp (disch := omega) only [up_a, up_j, up_e]
          exact ⟨v8.1, v8.2, trivial, trivial, trivial⟩
        have c9 : ∀ i, 0 ≤ i → i < (s.1.length : Int) → g9 (b + 2) (tb + i) = tpB s.1 i ∧ g9 (b + 3) (tb + i) = tpZ s.1 i ∧ g9 (b + 4) (tb + i) = tpQ s.1 i := fun i i0 i1 => by
          rw [← eg]
          simp (disch := omega) only [up_a]
          exact c8 i i0 i1
        clear eg F12 F13 F14 v8 c8
        obtain ⟨L9, rm9, kA9, A09, tn9, -, f4, f5, fo, hyc, -⟩ := st g9 F15
        have d0 := (g_X10_0 L9).1
        have b0 : g9 b 0 = 256 := (ly_X14 L9 hb).2.1.1
        rw [b0, g_X10 L9, d0, f4, f5]
        refine z_gd rfl ?_
        rw [← e12] at v9
        rw [e13] at v9
        exact c_par327 hb ht y2 f2 f3 G ne hA t0 t1 β0 β1 u0 u1 F15 L9 rm9 kA9 A09 tn9 fo hyc v9 c9
      unfold hyO at go3
      by_cases h9 : ofV (V 24) e 9 = 1
      · rw [if_pos h9] at go3; rw [if_neg (fun z => z h9)]; exact go3
      · rw [if_neg h9] at go3; rw [if_pos h9]; exact go3
    by_cases h14 : ofV (V 24) e 14 = 1
    · rw [if_neg (fun z => z h14)]; exact go2 1 (by rw [if_pos h14])
    · rw [if_pos h14]; exact go2 0 (by rw [if_neg h14])
  by_cases h13 : ofV (V 24) e 13 = 1
  · rw [if_pos h13] at go; rw [if_neg (fun z => z h13)]; exact go
  · rw [if_neg h13] at go; rw [if_pos h13]; exact go
