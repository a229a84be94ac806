-- needs: 99zzzj
set_option maxRecDepth 100000
/-! BREAKS: a paragraph is made ready: the component -/
def pqW (P R a β : Int) : Int → Int → Prop := fun b j => (b = P ∧ (j = 15 ∨ j = 16)) ∨ (b = R ∧ j = 12) ∨ (R + 4 ≤ b ∧ b ≤ R + 11 ∧ β ≤ j) ∨ fpW a b j
theorem pqW_l {h h' : Hp} {P R a β : Int} (hL : LAY h) (hR : R ∈ in_aX15) (ha : a ∈ in_aX9) (hP : 983 ≤ P) (β0 : 0 ≤ β) (f : F2 (pqW P R a β) h h') : LAY h' :=
  ppW_l hL hR ha hP (f.mono (fun b j z => z.imp id (fun z => z.imp id (fun z => z.imp (fun z => ⟨z.1, z.2.1, by omega⟩) id))))
theorem plP_1 {T : Hp} {np : Int} {sg : Int → List Int} {dt : Int → Int → Int} {B : Int → Int} {n i : Int} (h : plP T np sg dt B n i) : 1 ≤ i := by
  obtain ⟨s, e, a, h1, h2, z⟩ := h
  have := z.1
  have := a.1
  omega
theorem foC.kept {h h' : Hp} {f : Int} {W : Int → Int} {K J : Int → Int → Int} (F : foC h f W K J) (e : ∀ b, f + 1 ≤ b → b ≤ f + 4 → h' b = h b) : foC h' f W K J := by
  unfold foC at *
  rw [e (f + 1) (by omega) (by omega), e (f + 3) (by omega) (by omega), e (f + 4) (by omega) (by omega)]
  exact F
theorem c_prepare {T h : Hp} {P R t n β f a np hy : Int} {W : Int → Int} {K J : Int → Int → Int} {B Z : Int → Int} {sg : Int → List Int} {dt : Int → Int → Int} (hL : LAY h) (rm : RM h 1 6) (hf : f ∈ in_aX8) (ha : a ∈ in_aX9) (Rf : foR W K J) (F : foC h f W K J) (H : hyC T h a np sg dt) (C : pgC h P R t n B Z) (eβ : h R 12 = β) (β0 : 0 ≤ β) (βn : β + n + 3 < 26400) (eh : h P 14 = hy) :
    Pz (m_X28_prepare P f a 257 h) (fun r => (r.1 = (0, 0) ∧ ((bkA B hy (plP T np sg dt B n) n).length : Int) ≤ 600 ∧ F2 (pqW P R a β) h r.2 ∧ bkC r.2 P R β (bkA B hy (plP T np sg dt B n) n) ∧ msC r.2 R β W K J B Z (bkA B hy (plP T np sg dt B n) n) (bkA B hy (plP T np sg dt B n) n).length) ∨ (600 < ((bkA B hy (plP T np sg dt B n) n).length : Int) ∧ ∃ g, F2 (pqW P R a β) h g ∧ Thy 480 g r)) := by
  have hR := C.2.2.2.2.1
  have hR' : 293 ≤ R ∧ R ≤ 423 := by have := aX15 hR; omega
  have hP := C.2.2.2.2.2
  have hf' : 218 ≤ f ∧ f ≤ 223 := by have := aX8 hf; omega
  have h9 : 228 ≤ a ∧ a ≤ 242 := by have := aX9 ha; omega
  obtain ⟨c4, n0, c6⟩ := C.2.1
  obtain ⟨bo, bl1, bl2, -⟩ := bkA_o (B := B) (hy := hy) (PL := plP T np sg dt B n) (n := n) (fun i z => plP_1 z) n0
  have bl : ((bkA B hy (plP T np sg dt B n) n).length : Int) = (bkL B hy (plP T np sg dt B n) n.toNat).length + 1 := by unfold bkA; rw [List.length_append]; rfl
  have ea : bkA B hy (plP T np sg dt B n) n = bkL B hy (plP T np sg dt B n) n.toNat ++ [(3, n)] := rfl
  generalize hA : bkA B hy (plP T np sg dt B n) n = L at *
  generalize hB' : bkL B hy (plP T np sg dt B n) n.toNat = M at *
  unfold m_X28_prepare
  simp only [C.1.2.1, g_X15 hL hR, eβ]
  refine z_gd trivial (z_pt ?_)
  have F1 : F2 (pqW P R a β) h (up h P 15 β) := F2.refl.put (by unfold pqW; omega)
  have L1 := pqW_l hL hR ha hP β0 F1
  have r1 : up h P 15 β P 0 = R := by rw [up_j (by decide)]; exact C.1.2.1
  have q1 : up h P 15 β R 12 = β := by rw [up_a (by omega)]; exact eβ
  simp only [r1, g_X15 L1 hR, q1]
  rw [e32 (x := β + 1) (by omega) (by omega)]
  refine z_gd trivial (z_pt (z_pt ?_))
  have F2_ : F2 (pqW P R a β) h (up (up (up h P 15 β) R 12 (β + 1)) P 16 0) := (F1.put (by unfold pqW; omega)).put (by unfold pqW; omega)
  have k0 : bkC (up (up (up h P 15 β) R 12 (β + 1)) P 16 0) P R β [] := ⟨by rw [up_j (by decide), up_a (by omega), up_s], by rw [up_s]; rfl, by rw [up_a (by omega), up_s]; exact (Int.add_zero _).symm, fun b b0 b1 => by dsimp only [List.length_nil] at b1; omega⟩
  have e14 : up (up (up h P 15 β) R 12 (β + 1)) P 16 0 P 14 = hy := by rw [up_j (by decide), up_a (by omega), up_j (by decide)]; exact eh
  generalize up (up (up h P 15 β) R 12 (β + 1)) P 16 0 = g at F2_ k0 e14 ⊢
  have keep : ∀ {g'}, F2 (pqW P R a β) h g' → LAY g' ∧ pgC g' P R t n B Z ∧ RM g' 1 6 ∧ foC g' f W K J ∧ hyC T g' a np sg dt := fun {g'} Fg => ⟨pqW_l hL hR ha hP β0 Fg, C.kept (fun j hj => Fg P j (fun z => by unfold pqW fpW at z; omega)) (Fg.row (fun j z => by unfold pqW fpW at z; omega)) (Fg.row (fun j z => by unfold pqW fpW at z; omega)), rmF rm Fg (fun j z => by unfold pqW fpW at z; omega), F.kept (fun b b0 b1 => Fg.row (fun j z => by unfold pqW fpW at z; omega)), H.kept (fun b b0 b1 => Fg.row (fun j z => by unfold pqW fpW at z; omega)) (fun j => Fg a j (fun z => by unfold pqW fpW at z; omega))⟩
  obtain ⟨Lg, Cg, rg, Fg, Hg⟩ := keep F2_
  -- the loop and what follows
  have go : ∀ g', F2 (pqW P R a β) h g' → bkC g' P R β [] → g' P 14 = hy → (hy ≠ 0 → ∀ i, 0 ≤ i → i < n → is01 (g' 258 i) (plP T np sg dt B n i)) → Pz (m_X28_prepare_j45 P f 257 g') (fun r => (r.1 = (0, 0) ∧ (L.length : Int) ≤ 600 ∧ F2 (pqW P R a β) h r.2 ∧ bkC r.2 P R β L ∧ msC r.2 R β W K J B Z L L.length) ∨ (600 < (L.length : Int) ∧ ∃ g, F2 (pqW P R a β) h g ∧ Thy 480 g r)) := by
    intro g' F' k' e' pl
    obtain ⟨L', C', r', -⟩ := keep F'
    unfold m_X28_prepare_j45
    refine z_lt (z_bind (z_mono (c_bkLoop (PL := plP T np sg dt B n) L' r' C' k' β0 (by omega) e' pl) (fun r hr => ?_)))
    rw [hB'] at hr
    cases r with
    | inr r =>
      obtain ⟨r1, g2, r2, r3⟩ := hr
      simp only [sE]
      exact z_some (Or.inr ⟨by omega, g2, F'.trans (r2.mono (fun b j z => by unfold blW at z; unfold pqW; omega)), r3⟩)
    | inl g2 =>
      obtain ⟨G1, G2, G3⟩ := hr
      simp only [sE]
      have H2 : F2 (pqW P R a β) h g2 := F'.trans (G1.mono (fun b j z => by unfold blW at z; unfold pqW; omega))
      obtain ⟨L2, C2, r2, -⟩ := keep H2
      rw [C2.1.2.2.2]
      refine z_bT (z_mono (c_add28 (κ := 3) (e := n) L2 hR hP r2 C2.1.1 C2.1.2.1 G2 β0 (by omega) rfl) (fun r hr => ?_))
      rw [← ea] at hr
      rcases hr with ⟨w1, w2, w3, w4⟩ | ⟨w1, g3, w2, w3⟩
      · refine Or.inl ⟨by rw [w1], ?_⟩
        have H3 : F2 (pqW P R a β) h r.2 := H2.trans (w3.mono (fun b j z => by unfold pqW; omega))
        obtain ⟨L3, C3, r3, Ff, -⟩ := keep H3
        refine z_bind (z_mono (c_measure L3 hf Rf Ff C3 w4 bo β0 (by omega) (by omega)) (fun g4 hg4 => z_some (Or.inl ⟨rfl, by omega, H3.trans (hg4.1.mono (fun b j z => by unfold msW at z; unfold pqW; omega)), ?_, hg4.2⟩)))
        exact w4.kept (hg4.1 P 15 (fun z => by unfold msW at z; omega)) (hg4.1 P 16 (fun z => by unfold msW at z; omega)) (hg4.1 R 12 (fun z => by unfold msW at z; omega)) (fun b b0 b1 => hg4.1.row (fun j z => by unfold msW at z; omega))
      · refine Or.inr ⟨by rw [w3.1]; decide, z_some (Or.inr ⟨by omega, g3, H2.trans (w2.mono (fun b j z => by unfold pqW; omega)), rfl, w3.2⟩)⟩
  rw [e14]
  by_cases h0 : hy = 0
  · rw [if_pos h0]
    exact go g F2_ k0 e14 (fun z => absurd h0 z)
  · rw [if_neg h0]
    have kp := ly_X11 Lg
    simp only [kp.1, kp.2.1]
    refine z_gd trivial (z_bind (z_mono (c_findPlaces Lg ha Cg Hg) (fun g' hg' => ?_)))
    obtain ⟨w1, w2⟩ := hg'
    have H3 : F2 (pqW P R a β) h g' := F2_.trans (w1.mono (fun b j z => Or.inr (Or.inr (Or.inr z))))
    exact go g' H3 (k0.kept (w1 P 15 (fun z => by unfold fpW at z; omega)) (w1 P 16 (fun z => by unfold fpW at z; omega)) (w1 R 12 (fun z => by unfold fpW at z; omega)) (fun b b0 b1 => w1.row (fun j z => by unfold fpW at z; omega))) (by rw [w1 P 14 (fun z => by unfold fpW at z; omega)]; exact e14) (fun _ => w2)
