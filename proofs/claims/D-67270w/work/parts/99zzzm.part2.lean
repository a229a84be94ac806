-- needs: 99zzzl
set_option maxRecDepth 100000
/-! BREAKS: the reference marks places in words -/
theorem exM_congr {T T' : Hp} {q : Int → Int} {n e : Int} (h : ∀ b, 0 ≤ b → b ≤ 6 → T b = T' b) : exM T q n e ↔ exM T' q n e := by
  unfold exM; rw [h 5 (by decide) (by decide), h 4 (by decide) (by decide)]
theorem hyP_congr {T T' : Hp} {np : Int} {sg : Int → List Int} {dt : Int → Int → Int} {q : Int → Int} {n k : Int} (h : ∀ b, 0 ≤ b → b ≤ 6 → T b = T' b) : hyP T np sg dt q n k ↔ hyP T' np sg dt q n k := by
  unfold hyP
  simp only [exM_congr h, h 0 (by decide) (by decide), h 6 (by decide) (by decide)]
def mkW (s F n : Int) : Int → Int → Prop := fun b j => b = s + 131 ∧ F ≤ j ∧ j ≤ F + n
theorem t_marks {h : Hp} {s y p F n np hy : Int} {B Z : Int → Int} {sg : Int → List Int} {dt : Int → Int → Int} (hL : LAY h) (hs : s ∈ in_aX25) (hy' : y ∈ in_aX21) (es : h s 3 = y) (H : hyB h y np sg dt) (C : pgT h s p F n B Z) (z0 : ∀ j, 0 ≤ j → j ≤ n → h (s + 131) (F + j) = 0) :
    Pz (lp (fun (q : Int × Hp) => m_X25_part_l100 s p hy q.1 q.2) (F, h)) (fun h' => F2 (mkW s F n) h h' ∧ h' (s + 131) (F + n) = 0 ∧ ∀ i, 0 ≤ i → i < n → is01 (h' (s + 131) (F + i)) (hy ≠ 0 ∧ plP (vw h y) np sg dt B n i)) := by
  have hs' : 671 ≤ s ∧ s ≤ 825 := by have := aX25 hs; omega
  have hy2 : 513 ≤ y ∧ y ≤ 523 := by have := aX21 hy'; omega
  obtain ⟨⟨p1, p2⟩, ⟨p3, p4, p5, p6, p7⟩, p8, p9⟩ := id C
  have keep : ∀ {g}, F2 (mkW s F n) h g → LAY g ∧ pgT g s p F n B Z ∧ hyB g y np sg dt ∧ g s 3 = y ∧ (∀ b, 0 ≤ b → b ≤ 6 → vw g y b = vw h y b) := fun {g} Fg => ⟨seW_l hL hs Fg (fun b j z => by unfold mkW at z; omega), C.kept (fun b b0 b1 => Fg.row (fun j z => by unfold mkW at z; omega)), H.kept (fun b b0 b1 => Fg.row (fun j z => by unfold mkW at z; omega)), by rw [Fg s 3 (fun z => by unfold mkW at z; omega)]; exact es, fun b b0 b1 => Fg.row (fun j z => by unfold mkW at z; omega)⟩
  by_cases h0 : hy = 0
  · refine z_turn ?_
    show Pz (m_X25_part_l100 s p hy F h) _
    unfold m_X25_part_l100
    rw [if_pos h0]
    exact z_some ⟨F2.refl, z0 n p6 (Int.le_refl _), fun i i0 i1 => Or.inr ⟨z0 i i0 (by omega), fun z => z.1 h0⟩⟩
  refine z_lp (fun (q : Int × Hp) => ∃ k, q.1 = F + k ∧ 0 ≤ k ∧ k ≤ n ∧ F2 (mkW s F n) h q.2 ∧ (k < n → isLt (B k) = true → k = 0 ∨ isLt (B (k - 1)) = false) ∧ (∀ i, 0 ≤ i → i < k → is01 (q.2 (s + 131) (F + i)) (hy ≠ 0 ∧ plP (vw h y) np sg dt B n i)) ∧ ∀ i, k ≤ i → i ≤ n → q.2 (s + 131) (F + i) = 0) (fun q => (F + n - q.1).toNat) ⟨0, (Int.add_zero _).symm, Int.le_refl _, p6, F2.refl, fun _ _ => Or.inl rfl, fun i i0 i1 => by omega, z0⟩ ?_
  rintro ⟨x, g⟩ ⟨k, ex, k0, k1, Fg, hk, G, G0⟩
  dsimp only at ex G G0
  replace Fg : F2 (mkW s F n) h g := Fg
  obtain ⟨Lg, Cg, Hg, sg3, vg⟩ := keep Fg
  show Pz (m_X25_part_l100 s p hy x g) _
  have c11 := g_X25_11 Lg hs
  have c5 := g_X25_5 Lg hs
  have c102 := g_X25_102 Lg hs
  unfold m_X25_part_l100
  rw [if_neg h0]
  simp only [c11, Cg.1.2, c5, ex]
  refine z_gd ⟨by decide, p3, by omega⟩ ?_
  by_cases hn : n ≤ k
  · rw [if_pos (by omega)]
    have : k = n := by omega
    subst this
    exact z_some ⟨Fg, G0 k (Int.le_refl _) (Int.le_refl _), G⟩
  rw [if_neg (by omega)]
  refine z_gd ⟨by decide, by omega, by omega⟩ ?_
  rw [(Cg.2.2.1 k k0 (by omega)).1, q_X18_isLetter, Option.bind_some]
  unfold m_X25_part_j185
  cases hl : isLt (B k) with
  | false =>
    rw [if_neg (show ¬ bI false ≠ 0 from fun z => z rfl)]
    refine z_lt ?_
    rw [e32 (x := F + k + 1) (by omega) (by omega)]
    refine z_some ⟨⟨k + 1, by dsimp only; omega, by omega, by omega, Fg, fun _ _ => Or.inr (by rw [show k + 1 - 1 = k by omega]; exact hl), fun i i0 i1 => ?_, fun i i0 i1 => G0 i (by omega) i1⟩, by dsimp only; omega⟩
    by_cases hi : i = k
    · rw [hi]; exact Or.inr ⟨G0 k (Int.le_refl _) k1, fun z => plP_not hl z.2⟩
    · exact G i i0 (by omega)
  | true =>
    rw [if_pos (show bI true ≠ 0 by decide)]
    -- the end of the row of letters
    refine z_bind (z_mono (z_lp (Q := fun (e : Int) => ∃ e', e = F + e' ∧ k < e' ∧ e' ≤ n ∧ (∀ j, k ≤ j → j < e' → isLt (B j) = true) ∧ (e' = n ∨ isLt (B e') = false)) (fun (e : Int) => ∃ e', e = F + e' ∧ k ≤ e' ∧ e' ≤ n ∧ (∀ j, k ≤ j → j < e' → isLt (B j) = true)) (fun e => (F + n - e).toNat) ⟨k, rfl, Int.le_refl _, k1, fun j j0 j1 => by omega⟩ ?_) (fun e he => ?_))
    · rintro e ⟨e', ee, e0, e1, E⟩
      show Pz (m_X25_part_l132 s p e g) _
      unfold m_X25_part_l132
      simp only [c11, Cg.1.2, c5, ee]
      by_cases hn' : n ≤ e'
      · rw [if_pos (by omega)]
        exact z_some ⟨e', rfl, by omega, e1, E, Or.inl (by omega)⟩
      rw [if_neg (by omega)]
      refine z_gd ⟨by decide, by omega, by omega⟩ ?_
      rw [(Cg.2.2.1 e' (by omega) (by omega)).1, q_X18_isLetter, Option.bind_some]
      cases hl' : isLt (B e') with
      | false =>
        rw [if_pos (show bI false = 0 from rfl)]
        refine z_some ⟨e', rfl, ?_, e1, E, Or.inr hl'⟩
        by_cases h' : e' = k
        · rw [h', hl] at hl'; cases hl'
        · omega
      | true =>
        rw [if_neg (show ¬ bI true = 0 by decide)]
        refine z_lt ?_
        rw [e32 (x := F + e' + 1) (by omega) (by omega)]
        refine z_some ⟨⟨e' + 1, by omega, by omega, by omega, fun j j0 j1 => ?_⟩, by omega⟩
        by_cases hj : j = e'
        · rw [hj]; exact hl'
        · exact E j j0 (by omega)
    · obtain ⟨e', rfl, e0, e1, E, eE⟩ := he
      have lr : lrun B n k e' := ⟨k0, e0, e1, E, hk (by omega) hl, eE⟩
      have yk := (ly_X21 Lg hy').1
      simp only [sg3, yk, c102]
      refine z_gd trivial ?_
      have tp := t_places (f := F + k) (n := e' - k) (r := s + 50) (d := s + 131) (q := fun j => sml (B (k + j)) - 96) Lg hy' Hg (by omega) (by omega) (by rw [c5.2.1]; decide) (by rw [c5.2.2]; omega) (by omega) (by omega) (fun j j0 j1 => by
        have b := (Cg.2.2.1 (k + j) (by omega) (by omega)).1
        rw [show F + k + j = F + (k + j) by omega, b]
        have r := lt_r (E (k + j) (by omega) (by omega))
        dsimp only
        omega) (by have := aX25 hs; omega) (by omega) (by omega)
      rw [show F + k + (e' - k) = F + e' by omega] at tp
      refine z_bind (z_mono tp (fun g' hg' => z_lt (z_lt ?_)))
      obtain ⟨w1, w2⟩ := hg'
      rw [e32 (x := F + e' - 1) (by omega) (by omega), e32 (x := F + e' - 1 + 1) (by omega) (by omega)]
      refine z_some ⟨⟨e', by dsimp only; omega, by omega, e1, Fg.trans (w1.mono (fun b j z => ⟨z.1, by omega, by omega⟩)), fun z1 z2 => ?_, fun i i0 i1 => ?_, fun i i0 i1 => ?_⟩, by dsimp only; omega⟩
      · rcases eE with z | z
        · omega
        · rw [z] at z2; cases z2
      · dsimp only
        by_cases hi : i < k
        · rw [w1 _ _ (fun z => by omega)]; exact G i i0 hi
        · have v := w2 (i - k) (by omega) (by omega)
          rw [show F + k + (i - k) = F + i by omega, ] at v
          have kk : plP (vw h y) np sg dt B n i ↔ _ := plP_run (T := vw h y) (np := np) (sg := sg) (dt := dt) lr (by omega) i1
          have cc := hyP_congr (np := np) (sg := sg) (dt := dt) (q := fun j => sml (B (k + j)) - 96) (n := e' - k) (k := i - k) vg
          exact v.imp (fun w => ⟨w.1, h0, kk.mpr (cc.mp w.2)⟩) (fun w => ⟨w.1, fun z => w.2 (cc.mpr (kk.mp z.2))⟩)
      · dsimp only
        by_cases hi : i = e'
        · have v := w2 (e' - k) (by omega) (by omega)
          rw [show F + k + (e' - k) = F + i by omega] at v
          rcases v with v | v
          · have := v.2.2.1; omega
          · exact v.1
        · rw [w1 _ _ (fun z => by omega)]; exact G0 i (by omega) i1
