-- needs: 99zzz
set_option maxRecDepth 100000
/-! HYPHENS: the reference's places -/
theorem gdM.ext {X X' : Int → Int → Prop} {sg : Int → List Int} {dt : Int → Int → Int} {k M : Int} (a : gdM X sg dt k M) (h1 : ∀ p i, X p i → X' p i) (h2 : ∀ p i, X' p i → X p i ∨ dtT (sg p) (dt p) (k + 1 - i) ≤ M) : gdM X' sg dt k M := by
  obtain ⟨a0, a9, a1, a2⟩ := a
  exact ⟨a0, a9, fun p i x => (h2 p i x).elim (a1 p i) id, a2.imp id (fun ⟨p, i, x, e⟩ => ⟨p, i, h1 p i x, e⟩)⟩
/-- patterns looked at so far -/
def ocY (np : Int) (sg : Int → List Int) (q : Int → Int) (n p i : Int) : Int → Int → Prop := fun p' i' => 0 ≤ p' ∧ p' < np ∧ occ (sg p') q n i' ∧ (p' < p ∨ (p' = p ∧ i' < i))
theorem t_greatest {h : Hp} {l np n k r f : Int} {sg : Int → List Int} {dt : Int → Int → Int} {q : Int → Int} (hL : LAY h) (hl : l ∈ in_aX21) (H : HYt h l np sg dt) (D9 : ∀ p, 0 ≤ p → p < np → ∀ i, 0 ≤ dtT (sg p) (dt p) i ∧ dtT (sg p) (dt p) i ≤ 9) (n1 : n ≤ 24000)
    (kr : h r (-2) % 16 = 2) (lr : f + n ≤ h r (-1)) (f0 : 0 ≤ f) (fn : f + n ≤ 30000) (W : wdQ h r f n q) (k0 : 1 ≤ k) (k1 : k < n) :
    Pz (m_X21_greatest l r f n k h) (fun M => gdM (ocX np sg q n n 0) sg dt k M) := by
  have h21 := aX21 hl
  obtain ⟨H1, H2, H3, H4, H5⟩ := id H
  obtain ⟨g0, -, g5, g6, -⟩ := ly_X21 hL hl
  unfold m_X21_greatest
  refine z_lt (z_lt (z_bind (z_mono (z_lp (Q := fun M => gdM (ocY np sg q n np 0) sg dt k M) (fun (s : Int × Int) => 0 ≤ s.2 ∧ s.2 ≤ np ∧ gdM (ocY np sg q n s.2 0) sg dt k s.1) (fun s => (np - s.2).toNat) ⟨Int.le_refl _, H2, Int.le_refl _, by decide, ?_, Or.inl rfl⟩ ?_) (fun M hM => z_some ?_))))
  · rintro p i ⟨p0, p1, o, z⟩
    have := o.1
    dsimp only at z
    omega
  · rintro ⟨m, p⟩ ⟨p0, p1, G⟩
    dsimp only at p0 p1 G
    show Pz (m_X21_greatest_l6 l r f n k m p h) _
    unfold m_X21_greatest_l6
    rw [H1]
    by_cases hp : np ≤ p
    · rw [if_pos hp]
      have : p = np := by omega
      subst this
      exact z_some G
    rw [if_neg hp]
    obtain ⟨a1, a2, a3, a4, a5, a6⟩ := H4 p p0 (by omega)
    simp only [g5, a2]
    refine z_gd ⟨by decide, p0, by omega⟩ (z_lt ?_)
    rw [e32 (x := k + 1) (by omega) (by omega), e32 (x := k + 1 - ((sg p).length : Int)) (by omega) (by omega)]
    refine z_bind (z_mono (z_lp (Q := fun M => gdM (ocY np sg q n p (k + 2)) sg dt k M) (fun (s : Int × Int) => k + 1 - ((sg p).length : Int) ≤ s.2 ∧ s.2 ≤ k + 2 ∧ gdM (ocY np sg q n p s.2) sg dt k s.1) (fun s => (k + 2 - s.2).toNat) ⟨Int.le_refl _, by dsimp only; omega, ?_⟩ ?_) (fun M hM => z_lt (z_some ⟨⟨?_, ?_, ?_⟩, ?_⟩)))
    · refine G.ext (fun p' i' ⟨z1, z2, z3, z4⟩ => ⟨z1, z2, z3, ?_⟩) (fun p' i' ⟨z1, z2, z3, z4⟩ => ?_)
      · have := z3.1; omega
      · rcases z4 with z4 | ⟨rfl, z4⟩
        · exact Or.inl ⟨z1, z2, z3, Or.inl z4⟩
        · dsimp only at z4
          rw [dtT_out (Or.inr (by omega))]
          exact Or.inr G.1
    · rintro ⟨m', i⟩ ⟨i0, i1, G'⟩
      dsimp only at i0 i1 G'
      show Pz (m_X21_greatest_l29 l r f n k p m' i h) _
      unfold m_X21_greatest_l29
      rw [e32 (x := k + 1) (by omega) (by omega)]
      by_cases hi : k + 1 < i
      · rw [if_pos hi]
        have : i = k + 2 := by omega
        subst this
        exact z_some G'
      rw [if_neg hi]
      have next : ∀ v, gdM (ocY np sg q n p (i + 1)) sg dt k v → Pz (m_X21_greatest_j169 i v) (sE (fun (s : Int × Int) => (k + 1 - ((sg p).length : Int) ≤ s.2 ∧ s.2 ≤ k + 2 ∧ gdM (ocY np sg q n p s.2) sg dt k s.1) ∧ (k + 2 - s.2).toNat < (k + 2 - i).toNat) (fun M => gdM (ocY np sg q n p (k + 2)) sg dt k M)) := by
        intro v hv
        unfold m_X21_greatest_j169
        refine z_lt ?_
        rw [e32 (x := i + 1) (by omega) (by omega)]
        exact z_some ⟨⟨show k + 1 - ((sg p).length : Int) ≤ i + 1 by omega, show i + 1 ≤ k + 2 by omega, hv⟩, by dsimp only; omega⟩
      have same : (occ (sg p) q n i → dtT (sg p) (dt p) (k + 1 - i) ≤ m') → gdM (ocY np sg q n p (i + 1)) sg dt k m' := fun hh => G'.ext (fun p' i' ⟨z1, z2, z3, z4⟩ => ⟨z1, z2, z3, by omega⟩) (fun p' i' ⟨z1, z2, z3, z4⟩ => by
        by_cases e : p' = p ∧ i' = i
        · rw [e.1, e.2] at z3 ⊢; exact Or.inr (hh z3)
        · exact Or.inl ⟨z1, z2, z3, by omega⟩)
      by_cases hi0 : i < 0
      · rw [if_pos hi0]
        exact next m' (same (fun z => by have := z.1; omega))
      rw [if_neg hi0]
      simp only [g5, a2]
      rw [e32 (x := i + ((sg p).length : Int)) (by omega) (by omega), e32 (x := n + 2) (by omega) (by omega)]
      by_cases hi2 : i + ((sg p).length : Int) ≤ n + 2
      rotate_left
      · rw [if_neg hi2]
        exact next m' (same (fun z => absurd z.2.1 hi2))
      rw [if_pos hi2]
      simp only [g6]
      rw [e32 (x := 16 * p) (by omega) (by omega), e32 (x := 16 * p + k) (by omega) (by omega), e32 (x := 16 * p + k + 1) (by omega) (by omega), e32 (x := 16 * p + k + 1 - i) (by omega) (by omega)]
      refine z_gd ⟨by decide, by omega, by omega⟩ (z_lt ?_)
      have ad := a6 (k + 1 - i) (by omega) (by omega)
      rw [show 16 * p + (k + 1 - i) = 16 * p + k + 1 - i by omega] at ad
      rw [ad]
      have d9 := D9 p p0 (by omega) (k + 1 - i)
      by_cases hd : m' < dtT (sg p) (dt p) (k + 1 - i)
      rotate_left
      · rw [if_neg hd]
        exact next m' (same (fun _ => by omega))
      rw [if_pos hd]
      unfold m_X21_greatest_j167
      refine z_lt (z_lt (z_bind (z_mono (t_stands hL hl H p0 (by omega) n1 kr lr f0 fn W (by omega) hi2) (fun y hy => ?_))))
      rcases hy with ⟨y1, y2⟩ | ⟨y1, y2⟩
      · rw [if_neg (by omega)]
        refine next _ ?_
        have := G'.add (p := p) (i := i) (X' := ocY np sg q n p (i + 1)) (fun p' i' => by
          unfold ocY
          constructor
          · rintro ⟨z1, z2, z3, z4⟩
            by_cases e : p' = p ∧ i' = i
            · exact Or.inr e
            · exact Or.inl ⟨z1, z2, z3, by omega⟩
          · rintro (⟨z1, z2, z3, z4⟩ | ⟨rfl, rfl⟩)
            · exact ⟨z1, z2, z3, by omega⟩
            · exact ⟨p0, by omega, y2, Or.inr ⟨rfl, by omega⟩⟩) rfl d9.1 d9.2
        rw [show mxI m' (dtT (sg p) (dt p) (k + 1 - i)) = dtT (sg p) (dt p) (k + 1 - i) by unfold mxI; rw [if_pos hd]] at this
        exact this
      · rw [if_pos y1]
        exact next m' (same (fun z => absurd z y2))
    · dsimp only; rw [e32 (by omega) (by omega)]; omega
    · dsimp only; rw [e32 (by omega) (by omega)]; omega
    · dsimp only
      rw [e32 (by omega) (by omega)]
      refine hM.ext (fun p' i' ⟨z1, z2, z3, z4⟩ => ⟨z1, z2, z3, by omega⟩) (fun p' i' ⟨z1, z2, z3, z4⟩ => ?_)
      have o0 := z3.1
      by_cases e : p' = p ∧ k + 2 ≤ i'
      · rw [dtT_out (Or.inl (by omega))]
        exact Or.inr hM.1
      · exact Or.inl ⟨z1, z2, z3, by omega⟩
    · dsimp only; rw [e32 (by omega) (by omega)]; omega
  · obtain ⟨b0, b9, b1, b2⟩ := hM
    refine ⟨b0, b9, fun p i ⟨z1, z2, z3, z4⟩ => b1 p i ⟨z1, z2, z3, Or.inl z2⟩, ?_⟩
    by_cases hM0 : M = 0
    · exact Or.inl hM0
    rcases b2 with b2 | ⟨p, i, ⟨z1, z2, z3, z4⟩, e⟩
    · exact Or.inl b2
    · refine Or.inr ⟨p, i, ⟨z1, z2, z3, Or.inl ?_⟩, e⟩
      by_cases hi : i ≤ n
      · exact hi
      · rw [dtT_out (Or.inl (by omega))] at e; omega
