-- needs: 99zzzzm
set_option maxRecDepth 100000
/-! SHAPES: equal paragraphs -/
/-- a paragraph P of the component, as data A: bytes 0, sizes 1; 2: length, width, lead, indent, align, tolerance, breaks; kinds 3, ends 4 -/
def pgA (h : Hp) (P R : Int) (A : Hp) : Prop := (h P (-2) = 288 ∧ h P 0 = R ∧ R ∈ in_aX15 ∧ 983 ≤ P) ∧ (h P 2 = A 2 0 ∧ h P 4 = A 2 1 ∧ h P 7 = A 2 2 ∧ h P 6 = A 2 3 ∧ h P 8 = A 2 4 ∧ h P 9 = A 2 5 ∧ h P 16 = A 2 6) ∧ (0 ≤ h P 1 ∧ 0 ≤ A 2 0 ∧ h P 1 + A 2 0 ≤ 24000 ∧ 0 ≤ h P 15 ∧ 1 ≤ A 2 6 ∧ A 2 6 ≤ 600 ∧ h P 15 + A 2 6 < 26400 ∧ 0 ≤ A 2 1 ∧ A 2 1 ≤ 100000000) ∧ (∀ i, 0 ≤ i → i < A 2 0 → h (R + 1) (h P 1 + i) = A 0 i ∧ h (R + 2) (h P 1 + i) = A 1 i ∧ 0 ≤ A 0 i ∧ A 0 i < 128) ∧ ∀ b, 1 ≤ b → b ≤ A 2 6 → h (R + 4) (h P 15 + b) = A 3 b ∧ h (R + 5) (h P 15 + b) = A 4 b
theorem pgA.kept {h h' : Hp} {P R : Int} {A : Hp} (C : pgA h P R A) (e0 : ∀ j, j ≤ 16 → h' P j = h P j) (e1 : ∀ j, j < 24000 → h' (R + 1) j = h (R + 1) j ∧ h' (R + 2) j = h (R + 2) j) (e2 : ∀ j, j < 26400 → h' (R + 4) j = h (R + 4) j ∧ h' (R + 5) j = h (R + 5) j) : pgA h' P R A := by
  obtain ⟨c1, c2, c3, c4, c5⟩ := C
  unfold pgA
  rw [e0 _ (by decide), e0 _ (by decide), e0 _ (by decide), e0 _ (by decide), e0 _ (by decide), e0 _ (by decide), e0 _ (by decide), e0 _ (by decide), e0 _ (by decide), e0 _ (by decide), e0 _ (by decide)]
  refine ⟨c1, c2, c3, fun i i0 i1 => ?_, fun b b0 b1 => ?_⟩
  · rw [(e1 _ (by omega)).1, (e1 _ (by omega)).2]; exact c4 i i0 i1
  · rw [(e2 _ (by omega)).1, (e2 _ (by omega)).2]; exact c5 b b0 b1
/-- two are equal -/
def smP (A A' : Hp) : Prop := (∀ j, 0 ≤ j → j ≤ 6 → A 2 j = A' 2 j) ∧ (∀ i, 0 ≤ i → i < A 2 0 → A 0 i = A' 0 i ∧ A 1 i = A' 1 i) ∧ ∀ b, 1 ≤ b → b ≤ A 2 6 → A 3 b = A' 3 b ∧ A 4 b = A' 4 b
theorem pgA.get {h : Hp} {P R : Int} {A : Hp} (hL : LAY h) (C : pgA h P R A) : (∀ k, 0 ≤ k → k < A 2 0 → m_X28_byteOf P k h = some (A 0 k) ∧ m_X28_sizeOf P k h = some (A 1 k)) ∧ ∀ b, 1 ≤ b → b ≤ A 2 6 → m_X28_kind P b h = some (A 3 b) ∧ m_X28_endAt P b h = some (A 4 b) := by
  obtain ⟨⟨c0, c1, c2, c3⟩, -, ⟨d1, d2, d3, d4, d5, d6, d7, -⟩, c4, c5⟩ := C
  have hR : 293 ≤ R ∧ R ≤ 423 := by have := aX15 c2; omega
  have g0 := g_X15_0 hL c2
  have g1 := g_X15_1 hL c2
  have g4 := g_X15_4 hL c2
  have g5 := g_X15_5 hL c2
  have gk := g_X15 hL c2
  refine ⟨fun k k0 k1 => ?_, fun b b0 b1 => ?_⟩
  · obtain ⟨x1, x2, -⟩ := c4 k k0 k1
    unfold m_X28_byteOf m_X28_sizeOf
    simp only [c1, gk, g0, g1]
    rw [e32 (x := h P 1 + k) (by omega) (by omega), gd_t trivial, gd_t ⟨by decide, by omega, by omega⟩, gd_t trivial, gd_t ⟨by decide, by omega, by omega⟩, x1, x2]
    exact ⟨rfl, rfl⟩
  · obtain ⟨x1, x2⟩ := c5 b b0 b1
    unfold m_X28_kind m_X28_endAt
    simp only [c1, gk, g4, g5]
    rw [e32 (x := h P 15 + b) (by omega) (by omega), gd_t trivial, gd_t ⟨by decide, by omega, by omega⟩, gd_t trivial, gd_t ⟨by decide, by omega, by omega⟩, x1, x2]
    exact ⟨rfl, rfl⟩
theorem c_isSame {h : Hp} {P R Q S : Int} {A A' : Hp} (hL : LAY h) (C : pgA h P R A) (C' : pgA h Q S A') : Pz (m_X28_isSame P Q h) (fun v => is01 v (smP A A')) := by
  obtain ⟨g1, g2⟩ := C.get hL
  obtain ⟨g1', g2'⟩ := C'.get hL
  obtain ⟨a0, a1, a2, a3, a4, a5, a6⟩ := C.2.1
  obtain ⟨b0, b1, b2, b3, b4, b5, b6⟩ := C'.2.1
  obtain ⟨-, n0, n1, -, m1, m6, -⟩ := C.2.2.1
  have t0 := C.2.2.1.1
  unfold m_X28_isSame
  rw [a0, a1, a2, a3, a4, a5, a6, b0, b1, b2, b3, b4, b5, b6]
  refine z_gd C'.1.1 ?_
  have no : ∀ j, 0 ≤ j → j ≤ 6 → A 2 j ≠ A' 2 j → Pz (some (0 : Int)) (fun v => is01 v (smP A A')) := fun j j0 j1 ne => z_some (Or.inr ⟨rfl, fun z => ne (z.1 j j0 j1)⟩)
  refine z_if (fun h1 => no 0 (by decide) (by decide) h1) (fun h1 => z_if (fun h2 => no 1 (by decide) (by decide) h2) (fun h2 => z_if (fun h3 => no 2 (by decide) (by decide) h3) (fun h3 => z_if (fun h4 => no 3 (by decide) (by decide) h4) (fun h4 => z_if (fun h5 => no 4 (by decide) (by decide) h5) (fun h5 => z_if (fun h6 => no 5 (by decide) (by decide) h6) (fun h6 => z_if (fun h7 => ?_) (fun h7 => no 6 (by decide) (by decide) h7)))))))
  have all : ∀ j, 0 ≤ j → j ≤ 6 → A 2 j = A' 2 j := fun j j0 j1 => by
    have : j = 0 ∨ j = 1 ∨ j = 2 ∨ j = 3 ∨ j = 4 ∨ j = 5 ∨ j = 6 := by omega
    rcases this with rfl | rfl | rfl | rfl | rfl | rfl | rfl
    · exact Classical.not_not.mp h1
    · exact Classical.not_not.mp h2
    · exact Classical.not_not.mp h3
    · exact Classical.not_not.mp h4
    · exact Classical.not_not.mp h5
    · exact Classical.not_not.mp h6
    · exact h7
  have e0 := all 0 (by decide) (by decide)
  refine z_lt (z_bind (z_mono (z_lp (Q := sE (fun (_ : Unit) => ∀ i, 0 ≤ i → i < A 2 0 → A 0 i = A' 0 i ∧ A 1 i = A' 1 i) (fun v => v = 0 ∧ ¬ smP A A')) (fun (k : Int) => 0 ≤ k ∧ k ≤ A 2 0 ∧ ∀ i, 0 ≤ i → i < k → A 0 i = A' 0 i ∧ A 1 i = A' 1 i) (fun k => (A 2 0 - k).toNat) ⟨Int.le_refl _, n0, fun i i0 i1 => by omega⟩ ?_) (fun r hr => ?_)))
  · rintro k ⟨k0, k1, K⟩
    show Pz (m_X28_isSame_l81 P Q k h) _
    unfold m_X28_isSame_l81
    rw [a0]
    by_cases hk : A 2 0 ≤ k
    · rw [if_pos hk]
      exact z_some (fun i i0 i1 => K i i0 (by omega))
    rw [if_neg hk, (g1 k k0 (by omega)).1, Option.bind_some, (g1' k k0 (by omega)).1, Option.bind_some]
    by_cases x : A 0 k = A' 0 k
    · rw [if_neg (fun z => z x), (g1 k k0 (by omega)).2, Option.bind_some, (g1' k k0 (by omega)).2, Option.bind_some]
      by_cases y : A 1 k = A' 1 k
      · rw [if_pos y]
        refine z_lt ?_
        rw [e32 (x := k + 1) (by omega) (by omega)]
        refine z_some ⟨⟨by omega, by omega, fun i i0 i1 => ?_⟩, by omega⟩
        by_cases hi : i = k
        · rw [hi]; exact ⟨x, y⟩
        · exact K i i0 (by omega)
      · rw [if_neg y]
        exact z_some ⟨rfl, fun z => y (z.2.1 k k0 (by omega)).2⟩
    · rw [if_pos x]
      exact z_some ⟨rfl, fun z => x (z.2.1 k k0 (by omega)).1⟩
  · cases r with
    | inr v =>
      obtain ⟨v1, v2⟩ := hr
      simp only [sE]
      exact z_some (Or.inr ⟨v1, v2⟩)
    | inl u =>
      replace hr : ∀ i, 0 ≤ i → i < A 2 0 → A 0 i = A' 0 i ∧ A 1 i = A' 1 i := hr
      simp only [sE]
      refine z_lt (z_bind (z_mono (z_lp (Q := fun v => is01 v (smP A A')) (fun (k : Int) => 1 ≤ k ∧ k ≤ A 2 6 + 1 ∧ ∀ b, 1 ≤ b → b < k → A 3 b = A' 3 b ∧ A 4 b = A' 4 b) (fun k => (A 2 6 + 1 - k).toNat) ⟨Int.le_refl _, by omega, fun b x0 x1 => by omega⟩ ?_) (fun r hr => z_some hr)))
      rintro k ⟨k0, k1, K⟩
      show Pz (m_X28_isSame_l125 P Q k h) _
      unfold m_X28_isSame_l125
      rw [a6]
      by_cases hk : A 2 6 < k
      · rw [if_pos hk]
        exact z_some (Or.inl ⟨rfl, all, hr, fun b x0 x1 => K b x0 (by omega)⟩)
      have e6 := all 6 (by decide) (by decide)
      rw [if_neg hk, (g2 k k0 (by omega)).1, Option.bind_some, (g2' k k0 (by omega)).1, Option.bind_some]
      by_cases x : A 3 k = A' 3 k
      · rw [if_neg (fun z => z x), (g2 k k0 (by omega)).2, Option.bind_some, (g2' k k0 (by omega)).2, Option.bind_some]
        by_cases y : A 4 k = A' 4 k
        · rw [if_pos y]
          refine z_lt ?_
          rw [e32 (x := k + 1) (by omega) (by omega)]
          refine z_some ⟨⟨by omega, by omega, fun i i0 i1 => ?_⟩, by omega⟩
          by_cases hi : i = k
          · rw [hi]; exact ⟨x, y⟩
          · exact K i i0 (by omega)
        · rw [if_neg y]
          exact z_some (Or.inr ⟨rfl, fun z => y (z.2.2 k k0 (by omega)).2⟩)
      · rw [if_pos x]
        exact z_some (Or.inr ⟨rfl, fun z => x (z.2.2 k k0 (by omega)).1⟩)
/-- the slot of a paragraph -/
def slX (A : Hp) : Nat → Int
  | 0 => w32 (A 2 1 + A 2 0)
  | k + 1 => w32 (w32 (31 * slX A k) + A 0 k)
def slS (A : Hp) : Int := iand_ (ixor_ (slX A (A 2 0).toNat) (iushr_ (slX A (A 2 0).toNat) 11)) 255
theorem slX_congr {A A' : Hp} (h : smP A A') : ∀ k : Nat, (k : Int) ≤ A 2 0 → slX A k = slX A' k := by
  intro k
  induction k with
  | zero => intro _; unfold slX; rw [h.1 0 (by decide) (by decide), h.1 1 (by decide) (by decide)]
  | succ k ih =>
    intro hk
    unfold slX
    rw [ih (by omega), (h.2.1 k (by omega) (by omega)).1]
theorem slS_congr {A A' : Hp} (n0 : 0 ≤ A 2 0) (h : smP A A') : slS A = slS A' := by
  unfold slS
  rw [← h.1 0 (by decide) (by decide), slX_congr h _ (by omega)]
theorem c_slot {h : Hp} {P R : Int} {A : Hp} (hL : LAY h) (C : pgA h P R A) : m_X17_slot P h = some (slS A) ∧ 0 ≤ slS A ∧ slS A ≤ 255 := by
  obtain ⟨g1, g2⟩ := C.get hL
  obtain ⟨a0, a1, -⟩ := C.2.1
  obtain ⟨t0, n0, n1, -⟩ := C.2.2.1
  refine ⟨z_eq ?_, iand_r _⟩
  unfold m_X17_slot
  rw [a0, a1]
  refine z_gd C.1.1 (z_lt (z_lt (z_bind (z_mono (z_lp (Q := fun v => v = slS A) (fun (q : Int × Int) => 0 ≤ q.2 ∧ q.2 ≤ A 2 0 ∧ q.1 = slX A q.2.toNat) (fun q => (A 2 0 - q.2).toNat) ⟨Int.le_refl _, n0, rfl⟩ ?_) (fun v hv => z_some hv)))))
  rintro ⟨x, k⟩ ⟨k0, k1, ex⟩
  dsimp only at k0 k1 ex
  show Pz (m_X17_slot_l12 P x k h) _
  unfold m_X17_slot_l12
  rw [a0, ex]
  by_cases hk : A 2 0 ≤ k
  · rw [if_pos hk]
    have : k = A 2 0 := by omega
    subst this
    exact z_some rfl
  rw [if_neg hk, (g1 k k0 (by omega)).1, Option.bind_some]
  refine z_lt (z_lt ?_)
  rw [e32 (x := k + 1) (by omega) (by omega)]
  refine z_some ⟨⟨show 0 ≤ k + 1 by omega, show k + 1 ≤ A 2 0 by omega, ?_⟩, by dsimp only; omega⟩
  dsimp only
  rw [show (k + 1).toNat = k.toNat + 1 by omega]
  show _ = w32 (w32 (31 * slX A k.toNat) + A 0 (k.toNat : Int))
  rw [show ((k.toNat : Nat) : Int) = k by omega]
