-- needs: 99zzt
set_option maxRecDepth 100000
/-! HYPHENS: places by patterns: what they are; the component raises the digits of a pattern -/
def mxI (x y : Int) : Int := if x < y then y else x
/-- the row of letters q between two ends -/
def dwE (q : Int → Int) (n i : Int) : Int := if i = 0 ∨ i = n + 1 then 0 else q (i - 1)
def dwL (q : Int → Int) (n i : Int) (m : Nat) : List Int := (List.range m).map (fun (j : Nat) => dwE q n (i + j))
theorem dwL_s {q : Int → Int} {n i : Int} {m : Nat} : dwL q n i (m + 1) = dwL q n i m ++ [dwE q n (i + m)] := by
  unfold dwL; rw [List.range_succ, List.map_append]; rfl
theorem dwL_len {q : Int → Int} {n i : Int} {m : Nat} : (dwL q n i m).length = m := by unfold dwL; rw [List.length_map, List.length_range]
/-- a pattern stands at i -/
def occ (L : List Int) (q : Int → Int) (n i : Int) : Prop := 0 ≤ i ∧ i + L.length ≤ n + 2 ∧ L = dwL q n i L.length
/-- the greatest digit of patterns in X at k -/
def gdM (X : Int → Int → Prop) (sg : Int → List Int) (dt : Int → Int → Int) (k M : Int) : Prop := 0 ≤ M ∧ M ≤ 9 ∧ (∀ p i, X p i → dtT (sg p) (dt p) (k + 1 - i) ≤ M) ∧ (M = 0 ∨ ∃ p i, X p i ∧ dtT (sg p) (dt p) (k + 1 - i) = M)
theorem gdM.uniq {X : Int → Int → Prop} {sg : Int → List Int} {dt : Int → Int → Int} {k M M' : Int} (a : gdM X sg dt k M) (b : gdM X sg dt k M') : M = M' := by
  obtain ⟨a0, a9, a1, a2⟩ := a
  obtain ⟨b0, b9, b1, b2⟩ := b
  have h1 : M ≤ M' := by
    rcases a2 with rfl | ⟨p, i, x, e⟩
    · exact b0
    · have := b1 p i x; omega
  have h2 : M' ≤ M := by
    rcases b2 with rfl | ⟨p, i, x, e⟩
    · exact a0
    · have := a1 p i x; omega
  omega
theorem gdM.add {X X' : Int → Int → Prop} {sg : Int → List Int} {dt : Int → Int → Int} {k M d p i : Int} (a : gdM X sg dt k M) (hX : ∀ p' i', X' p' i' ↔ X p' i' ∨ (p' = p ∧ i' = i)) (hd : dtT (sg p) (dt p) (k + 1 - i) = d) (d0 : 0 ≤ d) (d9 : d ≤ 9) : gdM X' sg dt k (mxI M d) := by
  obtain ⟨a0, a9, a1, a2⟩ := a
  unfold mxI
  refine ⟨by split <;> omega, by split <;> omega, fun p' i' x => ?_, ?_⟩
  · rcases (hX p' i').mp x with x | ⟨rfl, rfl⟩
    · have := a1 p' i' x; split <;> omega
    · split <;> omega
  · split
    · exact Or.inr ⟨p, i, (hX p i).mpr (Or.inr ⟨rfl, rfl⟩), hd⟩
    · rcases a2 with a2 | ⟨p', i', x, e⟩
      · exact Or.inl a2
      · exact Or.inr ⟨p', i', (hX p' i').mpr (Or.inl x), e⟩
theorem gdM.congr {X X' : Int → Int → Prop} {sg : Int → List Int} {dt : Int → Int → Int} {k M : Int} (a : gdM X sg dt k M) (hX : ∀ p' i', X' p' i' ↔ X p' i') : gdM X' sg dt k M := by
  obtain ⟨a0, a9, a1, a2⟩ := a
  exact ⟨a0, a9, fun p i x => a1 p i ((hX p i).mp x), a2.imp id (fun ⟨p, i, x, e⟩ => ⟨p, i, (hX p i).mpr x, e⟩)⟩
/-- the digits of one pattern -/
def grW (a : Int) : Int → Int → Prop := fun b j => b = a + 13 ∧ 0 ≤ j ∧ j ≤ 24000
theorem grW_l {h h' : Hp} {a : Int} (hL : LAY h) (ha : a ∈ in_aX9) (f : F2 (grW a) h h') : LAY h' := by
  have h9 := aX9 ha
  exact hyW_l hL ha (f.mono (fun b j z => by unfold grW at z; unfold hyW; omega))
theorem HYc.gr {h h' : Hp} {a np : Int} {sg : Int → List Int} {dt : Int → Int → Int} (C : HYc h a np sg dt) (f : F2 (grW a) h h') : HYc h' a np sg dt :=
  C.kept (fun b b0 b1 => f.row (fun j z => by unfold grW at z; omega)) (f a 6 (fun z => by unfold grW at z; omega)) (f a 9 (fun z => by unfold grW at z; omega)) (f a 10 (fun z => by unfold grW at z; omega))
theorem c_raise {h : Hp} {a np p st n : Int} {sg : Int → List Int} {dt : Int → Int → Int} (hL : LAY h) (ha : a ∈ in_aX9) (C : HYc h a np sg dt) (p0 : 0 ≤ p) (p1 : p < np) (s0 : 0 ≤ st) (s1 : st ≤ n) (n1 : n ≤ 24000) :
    Pz (m_X9_raise a p st n h) (fun h' => F2 (grW a) h h' ∧ ∀ k, 0 ≤ k → k ≤ n → h' (a + 13) k = if st ≤ k ∧ k ≤ st + nl (sg p) then mxI (h (a + 13) k) (dt p (k - st)) else h (a + 13) k) := by
  have h9 := aX9 ha
  obtain ⟨C1, C2, C3, -, C5, C6, C7, C8, C9⟩ := id C
  obtain ⟨d1, d2, d3, d4, d5⟩ := C6 p p0 p1
  have nl0 := nl_0 (sg p)
  obtain ⟨k0, -, -, -, -, k5, k6, -, -, -, -, -, -, k13⟩ := ly_X9 hL ha
  have go : Pz (m_X9_raise_j25 a p st n (h (a + 5) p + nl (sg p) + 1) h) (fun h' => F2 (grW a) h h' ∧ ∀ k, 0 ≤ k → k ≤ n → h' (a + 13) k = if st ≤ k ∧ k ≤ st + nl (sg p) then mxI (h (a + 13) k) (dt p (k - st)) else h (a + 13) k) := by
    unfold m_X9_raise_j25
    simp only [k5]
    refine z_gd ⟨by decide, p0, by omega⟩ (z_lt ?_)
    rw [show h (a + 5) p + nl (sg p) + 1 - h (a + 5) p = nl (sg p) + 1 by omega, e32 (by omega) (by omega)]
    refine z_lt (z_bind (z_mono (z_lp (Q := fun h' => F2 (grW a) h h' ∧ ∀ k, 0 ≤ k → k ≤ n → h' (a + 13) k = if st ≤ k ∧ k ≤ st + nl (sg p) then mxI (h (a + 13) k) (dt p (k - st)) else h (a + 13) k) (fun (s : Int × Hp) => 0 ≤ s.1 ∧ s.1 ≤ nl (sg p) + 1 ∧ F2 (grW a) h s.2 ∧ ∀ k, 0 ≤ k → k ≤ n → s.2 (a + 13) k = if st ≤ k ∧ k < st + s.1 then mxI (h (a + 13) k) (dt p (k - st)) else h (a + 13) k) (fun s => (nl (sg p) + 1 - s.1).toNat) ⟨Int.le_refl _, by omega, F2.refl, fun k k0 k1 => by rw [if_neg (by dsimp only; omega)]⟩ ?_) (fun r hr => z_some hr)))
    rintro ⟨x, g⟩ ⟨x0, x1, Fg, G⟩
    dsimp only at x0 x1 G
    replace Fg : F2 (grW a) h g := Fg
    show Pz (m_X9_raise_l37 a p st n (nl (sg p) + 1) x g) _
    unfold m_X9_raise_l37
    by_cases hx : nl (sg p) + 1 ≤ x
    · rw [if_pos hx]
      refine z_some ⟨Fg, fun k k0 k1 => ?_⟩
      rw [G k k0 k1, show x = nl (sg p) + 1 by omega]
      by_cases z : st ≤ k ∧ k ≤ st + nl (sg p)
      · rw [if_pos z, if_pos (by omega)]
      · rw [if_neg z, if_neg (by omega)]
    rw [if_neg hx, e32 (x := st + x) (by omega) (by omega)]
    by_cases hn : n < st + x
    · rw [if_pos hn]
      refine z_some ⟨Fg, fun k k0 k1 => ?_⟩
      rw [G k k0 k1]
      by_cases z : st ≤ k ∧ k ≤ st + nl (sg p)
      · rw [if_pos z, if_pos (by omega)]
      · rw [if_neg z, if_neg (by omega)]
    rw [if_neg hn]
    have Lg := grW_l hL ha Fg
    obtain ⟨g0, -, -, -, -, g5, g6, -, -, -, -, -, -, g13⟩ := ly_X9 Lg ha
    have r5 : g (a + 5) = h (a + 5) := Fg.row (fun j z => by unfold grW at z; omega)
    have r6 : g (a + 6) = h (a + 6) := Fg.row (fun j z => by unfold grW at z; omega)
    have dx := d5 x x0 (by omega)
    simp only [g5, g6, g13, r5]
    rw [e32 (x := h (a + 5) p + x) (by omega) (by omega)]
    refine z_gd ⟨by decide, p0, by omega⟩ (z_gd ⟨by decide, by omega, by omega⟩ (z_lt (z_gd ⟨by decide, by omega, by omega⟩ ?_)))
    rw [r6, dx.1]
    have Gx := G (st + x) (by omega) (by omega)
    rw [if_neg (by omega)] at Gx
    unfold m_X9_raise_j93
    refine z_if (fun hc => z_lt (z_some ⟨⟨by rw [e32 (by omega) (by omega)]; omega, by rw [e32 (by omega) (by omega)]; omega, Fg, fun k k0 k1 => ?_⟩, by dsimp only; rw [e32 (by omega) (by omega)]; omega⟩)) (fun hc => z_pt (z_lt (z_some ⟨⟨by rw [e32 (by omega) (by omega)]; omega, by rw [e32 (by omega) (by omega)]; omega, Fg.put ⟨rfl, by omega, by omega⟩, fun k k0 k1 => ?_⟩, by dsimp only; rw [e32 (by omega) (by omega)]; omega⟩)))
    · dsimp only
      rw [e32 (by omega) (by omega), G k k0 k1]
      by_cases hk : k = st + x
      · rw [if_neg (by omega), if_pos (by omega), hk, show st + x - st = x by omega]
        unfold mxI; rw [if_neg (by omega)]
      · by_cases z : st ≤ k ∧ k < st + x
        · rw [if_pos z, if_pos (by omega)]
        · rw [if_neg z, if_neg (by omega)]
    · dsimp only
      rw [e32 (by omega) (by omega)]
      by_cases hk : k = st + x
      · rw [hk, up_s, if_pos (by omega), show st + x - st = x by omega]
        unfold mxI; rw [if_pos (by omega)]
      · rw [up_j hk, G k k0 k1]
        by_cases z : st ≤ k ∧ k < st + x
        · rw [if_pos z, if_pos (by omega)]
        · rw [if_neg z, if_neg (by omega)]
  unfold m_X9_raise
  rw [C1, e32 (x := p + 1) (by omega) (by omega)]
  by_cases hp : p + 1 < np
  · rw [if_pos hp] at d3
    rw [if_neg (by omega)]
    simp only [k5]
    refine z_gd ⟨by decide, by omega, by omega⟩ ?_
    rw [d3]; exact go
  · rw [if_neg hp] at d3
    rw [if_pos (by omega), d3]; exact go
