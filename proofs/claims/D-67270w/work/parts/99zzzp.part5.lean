-- needs: 99zzzo
set_option maxRecDepth 100000
/-! BREAKS: the reference parts a paragraph: all of it -/
def pzW (s p F n β : Int) : Int → Int → Prop := fun b j => ((b = s + 58 ∨ b = s + 59) ∧ j = p) ∨ (s + 66 ≤ b ∧ b ≤ s + 70 ∧ β ≤ j) ∨ (b = s + 131 ∧ F ≤ j ∧ j ≤ F + n)
theorem t_part62 {h g : Hp} {s l y p F n β np hy : Int} {W : Int → Int} {K J : Int → Int → Int} {B Z : Int → Int} {sg : Int → List Int} {dt : Int → Int → Int} {M : List (Int × Int)} (hs : s ∈ in_aX25) (hs' : 671 ≤ s ∧ s ≤ 825) (hl : l ∈ in_aX19) (Rf : foR W K J) (hy' : y ∈ in_aX21) (β0 : 0 ≤ β) (βn : β + n + 2 < 25208) (p3 : 0 ≤ p) (p4 : p < 1200) (p5 : 0 ≤ F) (p6 : 0 ≤ n) (p7 : F + n ≤ 24000)
    (keep : ∀ {g}, F2 (pzW s p F n β) h g → LAY g ∧ pgT g s p F n B Z ∧ RM g 1 6 ∧ g s 2 = l ∧ foT g l W K J ∧ g s 3 = y ∧ hyB g y np sg dt ∧ (∀ b, 0 ≤ b → b ≤ 6 → vw g y b = vw h y b)) (eM : bkL B hy (plP (vw h y) np sg dt B n) n.toNat = M) (bo1 : 0 ≤ bkN M M.length) (bo2 : bkN M M.length ≤ n) (lM : (M.length : Int) ≤ n) (F2_ : F2 (pzW s p F n β) h g) (T0 : bkT g s p F β W K J B Z []) :
    Pz (m_X25_part_j62 s p hy g) (fun r => (r.1 = (0, 0) ∧ (M.length : Int) < 600 ∧ F2 (pzW s p F n β) h r.2 ∧ bkT r.2 s p F β W K J B Z (M ++ [(3, n)])) ∨ (600 ≤ (M.length : Int) ∧ ∃ g, F2 (pzW s p F n β) h g ∧ Thy 464 g r)) := by
  obtain ⟨Lg, Cg, -⟩ := keep F2_
  unfold m_X25_part_j62
  have c10 := g_X25_10 Lg hs
  simp only [c10, Cg.1.1]
  refine z_gd ⟨by decide, p3, by omega⟩ (z_lt (z_bind (z_mono (z_lp (Q := fun g1 => F2 (mkW s F n) g g1 ∧ ∀ j, 0 ≤ j → j ≤ n → g1 (s + 131) (F + j) = 0) (fun (q : Int × Hp) => F ≤ q.1 ∧ q.1 ≤ F + n + 1 ∧ F2 (mkW s F n) g q.2 ∧ ∀ j, F ≤ j → j < q.1 → q.2 (s + 131) j = 0) (fun q => (F + n + 1 - q.1).toNat) ⟨Int.le_refl _, by dsimp only; omega, F2.refl, fun j j0 j1 => by dsimp only at j1; omega⟩ ?_) (fun g1 hg1 => ?_))))
  · rintro ⟨x, g'⟩ ⟨x0, x1, F', G'⟩
    dsimp only at x0 x1 G'
    replace F' : F2 (mkW s F n) g g' := F'
    obtain ⟨L', C', -⟩ := keep (F2_.trans (F'.mono (fun b j z => Or.inr (Or.inr z))))
    show Pz (m_X25_part_l70 s p x g') _
    have d11 := g_X25_11 L' hs
    have d102 := g_X25_102 L' hs
    unfold m_X25_part_l70
    simp only [d11, C'.1.2, d102]
    refine z_gd ⟨by decide, p3, by omega⟩ ?_
    by_cases hx : F + n < x
    · rw [if_pos hx]
      exact z_some ⟨F', fun j j0 j1 => G' _ (by omega) (by omega)⟩
    rw [if_neg hx]
    refine z_gd ⟨by decide, by omega, by omega⟩ (z_pt (z_lt ?_))
    rw [e32 (x := x + 1) (by omega) (by omega)]
    refine z_some ⟨⟨show F ≤ x + 1 by omega, show x + 1 ≤ F + n + 1 by omega, F'.put ⟨rfl, x0, by omega⟩, fun j j0 j1 => ?_⟩, by dsimp only; omega⟩
    dsimp only at j1 ⊢
    by_cases hj : j = x
    · rw [hj, up_s]
    · rw [up_j hj]; exact G' j j0 (by omega)
  obtain ⟨G1, Z1⟩ := hg1
  have H1 : F2 (pzW s p F n β) h g1 := F2_.trans (G1.mono (fun b j z => Or.inr (Or.inr z)))
  obtain ⟨L1, C1, r1, s1, Ft1, y1, Hy1, v1⟩ := keep H1
  have d10 := g_X25_10 L1 hs
  simp only [d10, C1.1.1]
  refine z_gd ⟨by decide, p3, by omega⟩ (z_lt (z_bind (z_mono (t_marks L1 hs hy' y1 Hy1 C1 Z1) (fun g2 hg2 => ?_))))
  obtain ⟨G2, -, M2⟩ := hg2
  have H2 : F2 (pzW s p F n β) h g2 := H1.trans (G2.mono (fun b j z => Or.inr (Or.inr z)))
  obtain ⟨L2, C2, r2, s2, Ft2, -⟩ := keep H2
  have e10 := g_X25_10 L2 hs
  have pc : ∀ i, plP (vw g1 y) np sg dt B n i ↔ plP (vw h y) np sg dt B n i := fun i => by
    unfold plP
    simp only [hyP_congr v1]
  simp only [e10, C2.1.1]
  have T2 : bkT g2 s p F β W K J B Z [] := ⟨by rw [G2 _ _ (fun z => by unfold mkW at z; omega), G1 _ _ (fun z => by unfold mkW at z; omega)]; exact T0.1, by rw [G2 _ _ (fun z => by unfold mkW at z; omega), G1 _ _ (fun z => by unfold mkW at z; omega)]; exact T0.2.1, fun b b0 b1 => by dsimp only [List.length_nil] at b1; omega⟩
  refine z_gd ⟨by decide, p3, by omega⟩ (z_lt (z_lt (z_bind (z_mono (t_bkLoop (PL := plP (vw h y) np sg dt B n) L2 r2 hs hl s2 Rf Ft2 C2 T2 β0 βn (fun i z => ⟨plP_1 z, plP_b z⟩) (fun i i0 i1 => (M2 i i0 i1).imp (fun w => ⟨w.1, w.2.1, (pc i).mp w.2.2⟩) (fun w => ⟨w.1, fun z => w.2 ⟨z.1, (pc i).mpr z.2⟩⟩))) (fun r hr => ?_)))))
  rw [eM] at hr
  cases r with
  | inr r =>
    obtain ⟨w1, g3, w2, w3⟩ := hr
    simp only [sE]
    exact z_some (Or.inr ⟨by omega, g3, H2.trans (w2.mono (fun b j z => by unfold brW at z; unfold pzW; omega)), w3⟩)
  | inl r =>
    obtain ⟨st, g3⟩ := r
    obtain ⟨w1, w2, w3, w4⟩ := hr
    dsimp only at w1 w3
    replace w2 : F2 (brW s p β) g2 g3 := w2
    simp only [sE]
    have H3 : F2 (pzW s p F n β) h g3 := H2.trans (w2.mono (fun b j z => by unfold brW at z; unfold pzW; omega))
    obtain ⟨L3, C3, r3, s3, Ft3, -⟩ := keep H3
    have f11 := g_X25_11 L3 hs
    simp only [f11, C3.1.2]
    refine z_gd ⟨by decide, p3, by omega⟩ ?_
    rw [w1]
    refine z_bT (z_mono (t_breaksAt (κ := 3) (e := n) L3 r3 hs hl s3 Rf Ft3 C3 w3 β0 (by omega) w4 bo2 bo1 (Int.le_refl _) (fun z => absurd z (by decide)) (fun z => absurd z (by decide)) (by decide) (by decide)) (fun r hr => ?_))
    rcases hr with ⟨x1, x2, x3, x4⟩ | ⟨x1, x2⟩
    · exact Or.inl ⟨by rw [x1], z_some (Or.inl ⟨rfl, by omega, H3.trans (x3.mono (fun b j z => by unfold bzW at z; unfold pzW; omega)), x4⟩)⟩
    · exact Or.inr ⟨by rw [x2.1]; decide, z_some (Or.inr ⟨by omega, g3, H3, rfl, x2.2⟩)⟩
theorem t_part {h : Hp} {s l y p F n β np v : Int} {W : Int → Int} {K J : Int → Int → Int} {B Z : Int → Int} {sg : Int → List Int} {dt : Int → Int → Int} (hL : LAY h) (rm : RM h 1 6) (hs : s ∈ in_aX25) (hl : l ∈ in_aX19) (es : h s 2 = l) (Rf : foR W K J) (Ft : foT h l W K J) (hy' : y ∈ in_aX21) (ey : h s 3 = y) (H : hyB h y np sg dt) (C : pgT h s p F n B Z) (eβ : β = if p = 0 then 0 else h (s + 59) (p - 1) + h (s + 58) (p - 1)) (β0 : 0 ≤ β) (βn : β + n + 2 < 25208)
    (ho : ∀ g, LAY g → (∀ b, s + 1 ≤ b → b ≤ s + 49 → g b = h b) → m_X24_of (s + 1) (h (s + 55) p) 9 g = some v) :
    Pz (m_X25_part s p h) (fun r => (r.1 = (0, 0) ∧ ((bkA B (if v = 1 then 1 else 0) (plP (vw h y) np sg dt B n) n).length : Int) ≤ 600 ∧ F2 (pzW s p F n β) h r.2 ∧ bkT r.2 s p F β W K J B Z (bkA B (if v = 1 then 1 else 0) (plP (vw h y) np sg dt B n) n)) ∨ (600 < ((bkA B (if v = 1 then 1 else 0) (plP (vw h y) np sg dt B n) n).length : Int) ∧ ∃ g, F2 (pzW s p F n β) h g ∧ Thy 464 g r)) := by
  have hs' : 671 ≤ s ∧ s ≤ 825 := by have := aX25 hs; omega
  have hl' : 497 ≤ l ∧ l ≤ 505 := by have := aX19 hl; omega
  have hy2 : 513 ≤ y ∧ y ≤ 523 := by have := aX21 hy'; omega
  obtain ⟨⟨p1, p2⟩, ⟨p3, p4, p5, p6, p7⟩, p8, p9⟩ := id C
  generalize hhy : (if v = 1 then (1 : Int) else 0) = hy
  have bl : ((bkA B hy (plP (vw h y) np sg dt B n) n).length : Int) = (bkL B hy (plP (vw h y) np sg dt B n) n.toNat).length + 1 := by unfold bkA; rw [List.length_append]; rfl
  have ea : bkA B hy (plP (vw h y) np sg dt B n) n = bkL B hy (plP (vw h y) np sg dt B n) n.toNat ++ [(3, n)] := rfl
  have bo := bkR_o (B := B) (hy := hy) (PL := plP (vw h y) np sg dt B n) (n := n) (k := n) (fun i z => plP_1 z) p6 (Int.le_refl _)
  rw [bkR_n] at bo
  have keep : ∀ {g}, F2 (pzW s p F n β) h g → LAY g ∧ pgT g s p F n B Z ∧ RM g 1 6 ∧ g s 2 = l ∧ foT g l W K J ∧ g s 3 = y ∧ hyB g y np sg dt ∧ (∀ b, 0 ≤ b → b ≤ 6 → vw g y b = vw h y b) := fun {g} Fg => ⟨seW_l hL hs Fg (fun b j z => by unfold pzW at z; omega), C.kept (fun b b0 b1 => Fg.row (fun j z => by unfold pzW at z; omega)), rmF rm Fg (fun j z => by unfold pzW at z; omega), by rw [Fg s 2 (fun z => by unfold pzW at z; omega)]; exact es, Ft.kept hL hl (fun c c0 c1 => Fg.row (fun j z => by unfold pzW at z; omega)), by rw [Fg s 3 (fun z => by unfold pzW at z; omega)]; exact ey, H.kept (fun b b0 b1 => Fg.row (fun j z => by unfold pzW at z; omega)), fun b b0 b1 => Fg.row (fun j z => by unfold pzW at z; omega)⟩
  have go : Pz (m_X25_part_j30 s p (s + 59) β h) (fun r => (r.1 = (0, 0) ∧ ((bkA B hy (plP (vw h y) np sg dt B n) n).length : Int) ≤ 600 ∧ F2 (pzW s p F n β) h r.2 ∧ bkT r.2 s p F β W K J B Z (bkA B hy (plP (vw h y) np sg dt B n) n)) ∨ (600 < ((bkA B hy (plP (vw h y) np sg dt B n) n).length : Int) ∧ ∃ g, F2 (pzW s p F n β) h g ∧ Thy 464 g r)) := by
    unfold m_X25_part_j30
    have c16 := g_X25_16 hL hs
    simp only [c16]
    refine z_gd ⟨by decide, p3, by omega⟩ (z_pt ?_)
    have F1 : F2 (pzW s p F n β) h (up h (s + 59) p β) := F2.refl.put (by unfold pzW; omega)
    have c15 := g_X25_15 (keep F1).1 hs
    simp only [c15]
    refine z_gd ⟨by decide, p3, by omega⟩ (z_pt ?_)
    have F2_ : F2 (pzW s p F n β) h (up (up h (s + 59) p β) (s + 58) p 0) := F1.put (by unfold pzW; omega)
    have T0 : bkT (up (up h (s + 59) p β) (s + 58) p 0) s p F β W K J B Z [] := ⟨by rw [up_s]; rfl, by rw [up_a (by omega), up_s], fun b b0 b1 => by dsimp only [List.length_nil] at b1; omega⟩
    have e12 : up (up h (s + 59) p β) (s + 58) p 0 (s + 55) p = h (s + 55) p := by rw [up_a (by omega), up_a (by omega)]
    have et : ∀ b, s + 1 ≤ b → b ≤ s + 49 → up (up h (s + 59) p β) (s + 58) p 0 b = h b := fun b b0 b1 => by rw [up_row (by omega), up_row (by omega)]
    generalize up (up h (s + 59) p β) (s + 58) p 0 = g at F2_ T0 e12 et ⊢
    obtain ⟨Lg, Cg, -⟩ := keep F2_
    have c12 := g_X25_12 Lg hs
    have c0 := g_X25_0 Lg hs
    simp only [c12, c0, e12]
    rw [ho g Lg et]
    refine z_gd ⟨by decide, p3, by omega⟩ (z_gd trivial ?_)
    rw [Option.bind_some]
    have fin := t_part62 (hy := hy) hs hs' hl Rf hy' β0 βn p3 p4 p5 p6 p7 keep rfl bo.2.1 bo.2.2 (by have := (bkL_o (B := B) (hy := hy) (PL := plP (vw h y) np sg dt B n) (fun i z => plP_1 z) n.toNat).1; omega) F2_ T0
    rw [← ea] at fin
    have fin' := z_mono fin (Q' := fun r => (r.1 = (0, 0) ∧ ((bkA B hy (plP (vw h y) np sg dt B n) n).length : Int) ≤ 600 ∧ F2 (pzW s p F n β) h r.2 ∧ bkT r.2 s p F β W K J B Z (bkA B hy (plP (vw h y) np sg dt B n) n)) ∨ (600 < ((bkA B hy (plP (vw h y) np sg dt B n) n).length : Int) ∧ ∃ g, F2 (pzW s p F n β) h g ∧ Thy 464 g r)) (fun r hr => by
      rw [bl]
      exact hr.imp (fun z => ⟨z.1, by have := z.2.1; omega, z.2.2⟩) (fun z => ⟨by have := z.1; omega, z.2⟩))
    by_cases hv : v = 1
    · rw [if_neg (fun z => z hv)]
      rw [if_pos hv] at hhy
      subst hhy; exact fin'
    · rw [if_pos hv]
      rw [if_neg hv] at hhy
      subst hhy; exact fin'
  unfold m_X25_part
  have c16 := g_X25_16 hL hs
  have c15 := g_X25_15 hL hs
  simp only [c16, c15]
  by_cases hp : p = 0
  · rw [if_pos hp] at eβ
    rw [if_neg (fun z => z hp)]; subst eβ; exact go
  · rw [if_neg hp] at eβ
    rw [if_pos hp, e32 (x := p - 1) (by omega) (by omega), ← eβ, e32 (x := β) (by omega) (by omega)]
    exact z_gd ⟨by decide, by omega, by omega⟩ (z_gd ⟨by decide, by omega, by omega⟩ go)
