-- needs: 99zzzi
set_option maxRecDepth 100000
/-! BREAKS: all parts are measured: the component -/
theorem c_measure {h : Hp} {P R t n β f : Int} {W : Int → Int} {K J : Int → Int → Int} {B Z : Int → Int} {L : List (Int × Int)} (hL : LAY h) (hf : f ∈ in_aX8) (Rf : foR W K J) (F : foC h f W K J) (C : pgC h P R t n B Z) (Kb : bkC h P R β L) (O : bkO L n) (β0 : 0 ≤ β) (βn : β + L.length < 26400) (l6 : (L.length : Int) ≤ 600) :
    Pz (m_X28_measure P f h) (fun h' => F2 (msW R β) h h' ∧ msC h' R β W K J B Z L L.length) := by
  have hR := C.2.2.2.2.1
  have hR' : 293 ≤ R ∧ R ≤ 423 := by have := aX15 hR; omega
  have hP := C.2.2.2.2.2
  have hf' : 218 ≤ f ∧ f ≤ 223 := by have := aX8 hf; omega
  obtain ⟨c4, n0, c6⟩ := C.2.1
  have T := C.2.2.2.1
  obtain ⟨k1, k2, k3, k4⟩ := id Kb
  have keep : ∀ {g}, F2 (msW R β) h g → LAY g ∧ pgC g P R t n B Z ∧ g P 15 = β ∧ g P 16 = L.length ∧ foC g f W K J ∧ g (R + 4) = h (R + 4) ∧ g (R + 5) = h (R + 5) ∧ g (R + 6) = h (R + 6) := fun {g} Fg => by
    refine ⟨msW_l hL hR β0 Fg, C.kept (fun j hj => Fg P j (fun z => by unfold msW at z; omega)) (Fg.row (fun j z => by unfold msW at z; omega)) (Fg.row (fun j z => by unfold msW at z; omega)), by rw [Fg P 15 (fun z => by unfold msW at z; omega)]; exact k1, by rw [Fg P 16 (fun z => by unfold msW at z; omega)]; exact k2, ?_, Fg.row (fun j z => by unfold msW at z; omega), Fg.row (fun j z => by unfold msW at z; omega), Fg.row (fun j z => by unfold msW at z; omega)⟩
    unfold foC at *
    rw [Fg.row (b := f + 1) (fun j z => by unfold msW at z; omega), Fg.row (b := f + 3) (fun j z => by unfold msW at z; omega), Fg.row (b := f + 4) (fun j z => by unfold msW at z; omega)]
    exact F
  unfold m_X28_measure
  refine z_lt ?_
  have a8 := g_X15_8 hL hR
  simp only [C.1.2.1, g_X15 hL hR, a8, k1]
  refine z_gd trivial (z_gd ⟨by decide, β0, by omega⟩ (z_pt ?_))
  have F1 : F2 (msW R β) h (up h (R + 8) β 0) := F2.refl.put (by unfold msW; omega)
  obtain ⟨L1, C1, x1, -⟩ := keep F1
  have a9 := g_X15_9 L1 hR
  simp only [C1.1.2.1, g_X15 L1 hR, a9, x1]
  refine z_gd trivial (z_gd ⟨by decide, β0, by omega⟩ (z_pt ?_))
  have F3 : F2 (msW R β) h (up (up h (R + 8) β 0) (R + 9) β 0) := F1.put (by unfold msW; omega)
  obtain ⟨L3, C3, x3, -⟩ := keep F3
  have a10 := g_X15_10 L3 hR
  simp only [C3.1.2.1, g_X15 L3 hR, a10, x3]
  refine z_gd trivial (z_gd ⟨by decide, β0, by omega⟩ (z_pt ?_))
  have F4 : F2 (msW R β) h (up (up (up h (R + 8) β 0) (R + 9) β 0) (R + 10) β 0) := F3.put (by unfold msW; omega)
  obtain ⟨L4, C4, x4, -⟩ := keep F4
  have a11 := g_X15_11 L4 hR
  simp only [C4.1.2.1, g_X15 L4 hR, a11, x4]
  refine z_gd trivial (z_gd ⟨by decide, β0, by omega⟩ (z_pt ?_))
  have F5 : F2 (msW R β) h (up (up (up (up h (R + 8) β 0) (R + 9) β 0) (R + 10) β 0) (R + 11) β 0) := F4.put (by unfold msW; omega)
  obtain ⟨L5, C5, x5, -⟩ := keep F5
  rw [x5, e32 (x := β + 1) (by omega) (by omega)]
  refine z_lt (z_bind (z_mono (z_lp (Q := fun h' => F2 (msW R β) h h' ∧ msC h' R β W K J B Z L L.length) (fun (s : Int × Int × Hp) => ∃ b : Int, 1 ≤ b ∧ b ≤ (L.length : Int) + 1 ∧ s.1 = bkN L (b - 1) ∧ s.2.1 = β + b ∧ F2 (msW R β) h s.2.2 ∧ msC s.2.2 R β W K J B Z L (b - 1)) (fun s => (β + L.length + 1 - s.2.1).toNat) ⟨1, Int.le_refl _, by omega, ?_, rfl, F5, ?_⟩ ?_) (fun r hr => z_some hr)))
  · show 0 = bkN L (1 - 1)
    unfold bkN; rw [if_pos (by omega)]
  · intro b b0 b1
    have : b = 0 := by omega
    subst this
    rw [show β + 0 = β by omega]
    dsimp only
    refine ⟨?_, ?_, ?_, ?_, fun z => by omega⟩
    · rw [up_a (by omega), up_a (by omega), up_a (by omega), up_s]; rfl
    · rw [up_a (by omega), up_a (by omega), up_s]; rfl
    · rw [up_a (by omega), up_s]; rfl
    · rw [up_s]; rfl
  · rintro ⟨fr, y, g⟩ ⟨b, b0, b1, ef, ey, Fg, G⟩
    dsimp only at ef ey G
    replace Fg : F2 (msW R β) h g := Fg
    obtain ⟨Lg, Cg, g15, g16, gF, r4, r5, r6⟩ := keep Fg
    show Pz (m_X28_measure_l61 P f fr y g) _
    rw [ey]
    by_cases hb : (L.length : Int) < b
    · unfold m_X28_measure_l61
      rw [g15, g16, e32 (x := β + (L.length : Int)) (by omega) (by omega), if_pos (by omega)]
      have : b - 1 = L.length := by omega
      rw [this] at G
      exact z_some ⟨Fg, G⟩
    obtain ⟨o1, o2, o3, o4, o5, o6, o7⟩ := O b b0 (by omega)
    have nr := bkN_r O (b := b - 1) (by omega) (by omega) n0
    obtain ⟨d1, d2, d3⟩ := k4 b b0 (by omega)
    obtain ⟨G1, G2, G3, G4, -⟩ := G (b - 1) (by omega) (Int.le_refl _)
    have b0' := g_X15_0 Lg hR
    have b1' := g_X15_1 Lg hR
    have tb : b.toNat = (b - 1).toNat + 1 := by omega
    have eb : (((b - 1).toNat : Nat) : Int) + 1 = b := by omega
    have hyr := bkG_r Rf T O b0 (show b ≤ L.length by omega)
    have sr : ∀ {f0 : Int → Int}, (∀ c : Int, 1 ≤ c → c ≤ L.length → 0 ≤ f0 c ∧ f0 c ≤ 500000) → 0 ≤ smF f0 (b - 1).toNat ∧ smF f0 (b - 1).toNat ≤ 1000000000 := fun {f0} hh => by
      have := smF_r (f := f0) (m := 500000) (b - 1).toNat (fun c c0 c1 => hh c c0 (by omega))
      omega
    have s9 := sr (f0 := bkG W Z L) (fun c c0 c1 => (bkG_r Rf T O c0 c1).1)
    have s10 := sr (f0 := bkS W Z L) (fun c c0 c1 => (bkG_r Rf T O c0 c1).2.1)
    have s11 := sr (f0 := bkZ W Z L) (fun c c0 c1 => (bkG_r Rf T O c0 c1).2.2.1)
    have s8 : 0 ≤ smF (bkP W K J B Z L) (b - 1).toNat + bkP W K J B Z L b ∧ smF (bkP W K J B Z L) (b - 1).toNat + bkP W K J B Z L b ≤ 100000000000 := by
      have s8 := bkP_sum Rf T O (by omega) n0 (b - 1).toNat (by omega)
      rw [show (((b - 1).toNat : Nat) : Int) = b - 1 by omega] at s8
      have pb := bkP_r Rf T O b0 (show b ≤ L.length by omega) (by omega) n0
      omega
    obtain ⟨ew, -⟩ := c_width (t := t) (X := R + 1) (Y := R + 2) (a := bkN L (b - 1)) (c := (bkAt L b).2) Lg hf Rf gF (fun i i0 i1 => T i (by omega) (by omega)) (by rw [b0'.2.1]; decide) (by rw [b1'.2.1]; decide) (by rw [b0'.2.2]; omega) (by rw [b1'.2.2]; omega) (by omega) (by omega) o2 (fun i i0 i1 => Cg.2.2.1 i (by omega) (by omega))
    have kk : ∀ {g'}, F2 (fun c j => R + 7 ≤ c ∧ c ≤ R + 11 ∧ j = β + b) g g' → pgC g' P R t n B Z ∧ foC g' f W K J := fun {g'} F' => by
      have H := keep (Fg.trans (F'.mono (fun c j z => ⟨z.1, z.2.1, by rw [z.2.2]; omega⟩)))
      exact ⟨H.2.1, H.2.2.2.2.1⟩
    have hz0 : (bkAt L b).1 = 0 → 0 ≤ Z (bkAt L b).2 ∧ Z (bkAt L b).2 ≤ 100000 := fun z => (T _ o3 (o5 z)).2.2
    have hz1 : (bkAt L b).1 = 1 → 0 ≤ Z ((bkAt L b).2 - 1) ∧ Z ((bkAt L b).2 - 1) ≤ 100000 := fun z => (T _ (by have := o6 z; omega) (by omega)).2.2
    rw [← r4] at d1
    rw [← r5] at d2
    rw [← r6] at d3
    rw [show β + (b - 1) = β + b - 1 by omega] at G1 G2 G3 G4
    subst ef
    refine z_mono (c_msTurn (z := if (bkAt L b).1 = 0 then Z (bkAt L b).2 else Z ((bkAt L b).2 - 1)) (gl := if (bkAt L b).1 = 0 then bkG W Z L b else 0) (hy := bkH W Z L b) (y := β + b) Lg hR hR' hf hP Cg.1.2.1 Cg.1.2.2.1 g15 g16 (by omega) β0 βn (by omega) (by omega) G1 G2 G3 G4 d1 d2 d3 (by omega) (by omega) o2 o3 (by omega) ew s8 s9 s10 s11 ?_ (fun z g' F' L' => ?_) (fun z => ⟨o6 z, fun g' F' L' => ?_⟩)) (fun r hr => ?_)
    · split
      · exact hyr.1
      · omega
    · obtain ⟨C', gF'⟩ := kk F'
      rw [if_pos z, if_pos z]
      refine ⟨q_sizeOf28 L' C' o3 (o5 z), ?_⟩
      rw [c_width2 L' hf Rf gF' (by decide) (by decide) (hz0 z).1 (hz0 z).2]
      unfold bkG; rw [if_pos z]
    · obtain ⟨C', gF'⟩ := kk F'
      rw [if_neg (by omega)]
      have := o6 z
      refine ⟨q_sizeOf28 L' C' (by omega) (by omega), ?_⟩
      rw [c_width2 L' hf Rf gF' (by decide) (by decide) (hz1 z).1 (hz1 z).2]
      unfold bkH; rw [if_pos z]
    · obtain ⟨g', rfl, F', z8, z9, z10, z11, z7⟩ := hr
      refine ⟨⟨b + 1, by omega, by omega, by dsimp only; rw [show b + 1 - 1 = b by omega, ← d3, r6], by dsimp only; omega, Fg.trans (F'.mono (fun c j z => ⟨z.1, z.2.1, by rw [z.2.2]; omega⟩)), ?_⟩, by dsimp only; omega⟩
      dsimp only
      intro c c0 c1
      by_cases hc : c = b
      · rw [hc, tb, smF_s, smF_s, smF_s, smF_s, eb, z8, z9, z10, z11, z7]
        unfold bkS bkZ
        have g0 : bkG W Z L b = if (bkAt L b).1 = 0 then bkG W Z L b else 0 := by
          by_cases z : (bkAt L b).1 = 0
          · rw [if_pos z]
          · rw [if_neg z]; unfold bkG; rw [if_neg z]
        by_cases z : (bkAt L b).1 = 0
        · rw [if_pos z, if_pos z, if_pos z, if_pos z]
          exact ⟨rfl, rfl, rfl, rfl, fun _ => by unfold bkH; split <;> rfl⟩
        · rw [if_neg z] at g0
          rw [if_neg z, if_neg z, if_neg z, g0]
          exact ⟨rfl, rfl, rfl, rfl, fun _ => by unfold bkH; split <;> rfl⟩
      · have G' := G c c0 (by omega)
        rw [F' _ _ (fun z => by omega), F' _ _ (fun z => by omega), F' _ _ (fun z => by omega), F' _ _ (fun z => by omega), F' _ _ (fun z => by omega)]
        exact G'
