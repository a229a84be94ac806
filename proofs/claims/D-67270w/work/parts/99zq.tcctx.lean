set_option maxRecDepth 100000
/-! TREES: the component's side: what it looks at -/
theorem SA.kept {S p p' : Hp} {a n N E F M : Int} {s : Int → List Int} (R : SA S p a n N s E F M) (e : ∀ b, a ≤ b → b ≤ a + 30 → p' b = p b) : SA S p' a n N s E F M := by
  have k : ∀ c : Int, 0 ≤ c → c ≤ 30 → p' (a + c) = p (a + c) := fun c c0 c1 => e _ (by omega) (by omega)
  have ka := e a (by omega) (by omega)
  obtain ⟨⟨r1, r2, r3, r4, r5, r6, r7⟩, ⟨q1, q2⟩, rest⟩ := R
  unfold SA
  rw [ka, k 1 (by decide) (by decide), k 7 (by decide) (by decide), k 8 (by decide) (by decide), k 9 (by decide) (by decide), k 10 (by decide) (by decide), k 11 (by decide) (by decide), k 12 (by decide) (by decide), k 13 (by decide) (by decide), k 15 (by decide) (by decide), k 16 (by decide) (by decide), k 17 (by decide) (by decide), k 18 (by decide) (by decide), k 19 (by decide) (by decide), k 20 (by decide) (by decide), k 21 (by decide) (by decide), k 22 (by decide) (by decide)]
  exact ⟨⟨r1, r2, r3, r4, r5, ⟨fun j j0 j1 => by rw [k 1 (by decide) (by decide)]; exact r6.1 j j0 j1, r6.2⟩, r7⟩, ⟨q1.kept (fun b b0 b1 => e b (by omega) (by omega)), q2⟩, rest⟩
theorem YA.kept {Y p p' : Hp} {a n N C ns na nsel nb nt m : Int} {s : Int → List Int} (R : YA Y p a n N s C ns na nsel nb nt m) (e : ∀ b, a ≤ b → b ≤ a + 27 → p' b = p b) : YA Y p' a n N s C ns na nsel nb nt m := by
  have k : ∀ c : Int, 0 ≤ c → c ≤ 27 → p' (a + c) = p (a + c) := fun c c0 c1 => e _ (by omega) (by omega)
  have ka := e a (by omega) (by omega)
  obtain ⟨⟨q1, q2⟩, rest⟩ := R
  unfold YA
  rw [ka, k 11 (by decide) (by decide), k 12 (by decide) (by decide), k 13 (by decide) (by decide), k 14 (by decide) (by decide), k 15 (by decide) (by decide), k 16 (by decide) (by decide), k 17 (by decide) (by decide), k 18 (by decide) (by decide), k 19 (by decide) (by decide), k 20 (by decide) (by decide), k 21 (by decide) (by decide), k 22 (by decide) (by decide), k 23 (by decide) (by decide), k 24 (by decide) (by decide), k 25 (by decide) (by decide), k 26 (by decide) (by decide), k 27 (by decide) (by decide)]
  exact ⟨⟨q1.kept (fun b b0 b1 => e b (by omega) (by omega)), q2⟩, rest⟩
theorem aX7 {a : Int} (h : a ∈ in_aX7) : a = 184 ∨ a = 201 := by
  simp only [in_aX7, List.mem_cons, List.not_mem_nil, or_false] at h
  exact h
theorem aX3' {a : Int} (h : a ∈ in_aX3) : a = 5 ∨ a = 33 ∨ a = 61 := by
  simp only [in_aX3, List.mem_cons, List.not_mem_nil, or_false] at h
  exact h
/-- where a tree of the component is written -/
def tcW (a : Int) : Int → Int → Prop := fun b j => (b = a ∧ (j = 0 ∨ j = 1 ∨ j = 2 ∨ j = 12 ∨ j = 19 ∨ j = 20)) ∨ (a + 1 ≤ b ∧ b ≤ a + 14 ∧ 0 ≤ j) ∨ (b = a + 15 ∧ j = 1) ∨ (b = a + 16 ∧ 0 ≤ j)
theorem tcW_l {h h' : Hp} {a : Int} (hL : LAY h) (ha : a ∈ in_aX7) (f : F2 (tcW a) h h') : LAY h' := by
  have key : ∀ b j, tcW a b j → 0 ≤ j ∧ ((∃ r ∈ [(a + 1, a + 14), (a + 16, a + 16)], r.1 ≤ b ∧ b ≤ r.2) ∨ ∃ e ∈ [(a, [0, 1, 2, 12, 19, 20]), (a + 15, [1])], b = e.1 ∧ j ∈ e.2) := by
    intro b j z
    have j0 : 0 ≤ j := by unfold tcW at z; omega
    refine ⟨j0, ?_⟩
    rcases z with ⟨rfl, z⟩ | ⟨z1, z2, -⟩ | ⟨rfl, z⟩ | ⟨rfl, -⟩
    · exact Or.inr ⟨(b, [0, 1, 2, 12, 19, 20]), by simp, rfl, by simp; omega⟩
    · exact Or.inl ⟨(a + 1, a + 14), by simp, z1, z2⟩
    · exact Or.inr ⟨(a + 15, [1]), by simp, rfl, by simp; omega⟩
    · exact Or.inl ⟨(a + 16, a + 16), by simp, by dsimp only; omega, by dsimp only; omega⟩
  refine lay_W hL f _ _ ?_ ?_ key
  · rcases aX7 ha with rfl | rfl <;> decide +kernel
  · rcases aX7 ha with rfl | rfl <;> decide +kernel
/-- the component's tree in the making -/
def CT (S Y p : Hp) (a sa ya n N : Int) (s : Int → List Int) (E F M n' N' : Int) (s' : Int → List Int) (C ns na nsel nb nt m : Int) : Prop :=
  (LAY p ∧ a ∈ in_aX7 ∧ sa ∈ in_aX6 ∧ ya ∈ in_aX3) ∧ (p a 0 = sa ∧ p a 1 = ya ∧ p a 2 = E) ∧ SA S p sa n N s E F M ∧ YA Y p ya n' N' s' C ns na nsel nb nt m ∧ ∀ k, 0 ≤ k → k < N' → nmF N s (s' k) (p (a + 1) k)
theorem CT.kept {S Y p p' : Hp} {a sa ya n N E F M n' N' C ns na nsel nb nt m : Int} {s s' : Int → List Int} (T : CT S Y p a sa ya n N s E F M n' N' s' C ns na nsel nb nt m) (f : F2 (fun b j => (b = a ∧ (j = 12 ∨ j = 19 ∨ j = 20)) ∨ (a + 2 ≤ b ∧ b ≤ a + 14 ∧ 0 ≤ j) ∨ (b = a + 15 ∧ j = 1) ∨ (b = a + 16 ∧ 0 ≤ j)) p p') : CT S Y p' a sa ya n N s E F M n' N' s' C ns na nsel nb nt m := by
  obtain ⟨⟨hL, ha, hs, hy⟩, ⟨t0, t1, t2⟩, R, R', nm⟩ := T
  have h7 := aX7 ha
  have h6 := aX6 hs
  have h3 := aX3' hy
  refine ⟨⟨tcW_l hL ha (f.mono (fun b j z => by unfold tcW; omega)), ha, hs, hy⟩, ⟨by rw [f _ _ (by omega)]; exact t0, by rw [f _ _ (by omega)]; exact t1, by rw [f _ _ (by omega)]; exact t2⟩, R.kept (fun b b0 b1 => f.row (fun j z => by omega)), R'.kept (fun b b0 b1 => f.row (fun j z => by omega)), fun k k0 k1 => ?_⟩
  rw [f _ _ (by omega)]; exact nm k k0 k1
/-- a field by its name's number -/
theorem c_field {S p : Hp} {a n N E F M e v : Int} {s : Int → List Int} {w : List Int} (hL : LAY p) (ha : a ∈ in_aX6) (R : SA S p a n N s E F M) (e0 : 0 ≤ e) (e1 : e < E) (hv : 0 ≤ v ∧ v < N ∧ s v = w) :
    Pz (m_X6_field a e v p) (fun r => ∃ x, isFd S e w x ∧ r = if x < 0 then -1 else p (a + 16) e + x) := by
  have E5 := R.2.2.1.2.2.1
  have n1 := R.1.2.1
  have Fn := R.2.2.1.2.2.2.2.1
  have dis := R.2.1.1.2.2.1
  obtain ⟨r1, r2, r3, r4, r5, r6⟩ := R.2.2.2.2.1 e e0 e1
  have k14 := g_X6_14 hL ha
  have k15 := g_X6_15 hL ha
  have go : Pz (m_X6_field_j25 a e v (p (a + 16) (e + 1)) p) (fun r => ∃ x, isFd S e w x ∧ r = if x < 0 then -1 else p (a + 16) e + x) := by
    unfold m_X6_field_j25
    simp only [k14.1, k14.2.1, k14.2.2]
    refine z_gd ⟨by decide, e0, by omega⟩ (z_lt (z_bind (z_mono (z_lp (Q := fun r => ∃ x, isFd S e w x ∧ r = if x < 0 then -1 else p (a + 16) e + x) (fun y : Int => p (a + 16) e ≤ y ∧ y ≤ p (a + 16) e + S 10 e ∧ ∀ z, 0 ≤ z → p (a + 16) e + z < y → wr (S 1) (S 13 (6 * e + z)) (S 14 (6 * e + z)) ≠ w) (fun y => (p (a + 16) e + S 10 e - y).toNat) ⟨Int.le_refl _, by omega, fun z z0 z1 => by omega⟩ ?_) (fun r hr => z_some hr))))
    rintro y ⟨y0, y1, yn⟩
    show Pz (m_X6_field_l34 a v (p (a + 16) (e + 1)) y p) _
    unfold m_X6_field_l34
    simp only [k15.1, k15.2.1, k15.2.2]
    by_cases hy : p (a + 16) (e + 1) ≤ y
    · exact z_it hy (z_some ⟨-1, Or.inl ⟨rfl, fun z z0 z1 => yn z z0 (by omega)⟩, rfl⟩)
    · refine z_ie hy (z_gd ⟨by decide, by omega, by omega⟩ ?_)
      obtain ⟨⟨c1, c2, -, -, -, c6⟩, -⟩ := r6 (y - p (a + 16) e) (by omega) (by omega)
      rw [show p (a + 16) e + (y - p (a + 16) e) = y by omega] at c1 c2 c6
      have iff : p (a + 17) y = v ↔ wr (S 1) (S 13 (6 * e + (y - p (a + 16) e))) (S 14 (6 * e + (y - p (a + 16) e))) = w := by
        rw [← c6, ← hv.2.2]
        constructor
        · intro z; rw [z]
        · intro z
          rcases Int.lt_trichotomy (p (a + 17) y) v with q | q | q
          · exact absurd z (dis _ _ c1 q hv.2.1)
          · exact q
          · exact absurd z.symm (dis _ _ hv.1 q c2)
      by_cases hq : p (a + 17) y = v
      · exact z_ie (fun z => z hq) (z_some ⟨y - p (a + 16) e, Or.inr ⟨by omega, by omega, iff.mp hq, fun z z0 z1 => yn z z0 (by omega)⟩, by rw [if_neg (by omega)]; omega⟩)
      · refine z_it hq (z_lt (z_some ?_))
        rw [e32 (by omega) (by omega)]
        refine ⟨⟨by omega, by omega, fun z z0 z1 => ?_⟩, by omega⟩
        by_cases hz : p (a + 16) e + z = y
        · rw [show z = y - p (a + 16) e by omega]; exact fun q => hq (iff.mpr q)
        · exact yn z z0 (by omega)
  unfold m_X6_field
  rw [R.2.2.1.1, e32 (x := e + 1) (by omega) (by omega)]
  by_cases he : E ≤ e + 1
  · rw [if_pos he]
    have : p a 18 = p (a + 16) (e + 1) := by
      rw [show e + 1 = E by omega, R.2.2.1.2.2.2.1]; exact R.2.2.1.2.2.2.2.2.2.symm
    rw [this]; exact go
  · rw [if_neg he]
    simp only [k14.1, k14.2.1, k14.2.2]
    exact z_gd ⟨by decide, by omega, by omega⟩ go
theorem wr_same {T U : Int → Int} {i e j f : Int} : wr T i e = wr U j f ↔ ((e - i).toNat = (f - j).toNat ∧ ∀ x : Int, 0 ≤ x → x < (e - i).toNat → T (i + x) = U (j + x)) := by
  have a1 : wr T i e = wd (fun b => if b = 0 then T else U) 0 i (e - i).toNat := rfl
  have a2 : wr U j f = wd (fun b => if b = 0 then T else U) 1 j (f - j).toNat := rfl
  rw [a1, a2, wd_same]
  exact Iff.rfl
/-- the string of a field -/
theorem c_isField {S p : Hp} {a n N E F M e x t f k : Int} {s : Int → List Int} (hL : LAY p) (ha : a ∈ in_aX6) (R : SA S p a n N s E F M) (e0 : 0 ≤ e) (e1 : e < E) (x0 : 0 ≤ x) (x1 : x < S 10 e) (t1 : p t (-2) % 16 = 2) (f0 : 0 ≤ f) (k0 : 0 ≤ k) (f1 : f + k ≤ p t (-1)) (f2 : f + k ≤ 100000) :
    Pz (m_X6_isField a (p (a + 16) e + x) t f k p) (fun v => (v = 1 ∧ wr (S 1) (S 15 (6 * e + x)) (S 16 (6 * e + x)) = wr (p t) f (f + k)) ∨ (v = 0 ∧ wr (S 1) (S 15 (6 * e + x)) (S 16 (6 * e + x)) ≠ wr (p t) f (f + k))) := by
  have E5 := R.2.2.1.2.2.1
  have n1 := R.1.2.1
  have Fn := R.2.2.1.2.2.2.2.1
  obtain ⟨r1, r2, r3, r4, r5, r6⟩ := R.2.2.2.2.1 e e0 e1
  obtain ⟨-, c2, c3, c4, c5, c6⟩ := r6 x x0 x1
  have kc := g_X6_0 hL ha
  have k16 := g_X6_16 hL ha
  have k17 := g_X6_17 hL ha
  have tx : ∀ j, 0 ≤ j → j < n → p (a + 1) j = S 1 j := R.1.2.2.2.2.1
  generalize S 15 (6 * e + x) = u at *
  generalize S 16 (6 * e + x) = z at *
  unfold m_X6_isField
  simp only [k17.1, k17.2.1, k17.2.2, c3]
  refine z_gd ⟨by decide, by omega, by omega⟩ ?_
  have same : (wr (S 1) u z = wr (p t) f (f + k)) ↔ (z - u = k ∧ ∀ y, 0 ≤ y → y < k → S 1 (u + y) = p t (f + y)) := by
    rw [wr_same]
    constructor
    · rintro ⟨w1, w2⟩
      exact ⟨by omega, fun y y0 y1 => w2 y y0 (by omega)⟩
    · rintro ⟨w1, w2⟩
      exact ⟨by omega, fun y y0 y1 => w2 y y0 (by omega)⟩
  by_cases hk : z - u = k
  · refine z_it hk (z_lt ?_)
    refine z_bind (z_mono (z_lp (Q := fun v => (v = 1 ∧ wr (S 1) u z = wr (p t) f (f + k)) ∨ (v = 0 ∧ wr (S 1) u z ≠ wr (p t) f (f + k))) (fun y : Int => 0 ≤ y ∧ y ≤ k ∧ ∀ q, 0 ≤ q → q < y → S 1 (u + q) = p t (f + q)) (fun y => (k - y).toNat) ⟨Int.le_refl _, k0, fun q q0 q1 => by omega⟩ ?_) (fun r hr => z_some hr))
    rintro y ⟨y0, y1, yn⟩
    show Pz (m_X6_isField_l16 a (p (a + 16) e + x) t f k y p) _
    unfold m_X6_isField_l16
    by_cases hy : k ≤ y
    · exact z_it hy (z_some (Or.inl ⟨rfl, same.mpr ⟨hk, fun q q0 q1 => yn q q0 (by omega)⟩⟩))
    · refine z_ie hy ?_
      simp only [k16.1, k16.2.1, k16.2.2, kc.1, kc.2.1, kc.2.2, c2]
      rw [e32 (x := u + y) (by omega) (by omega), e32 (x := f + y) (by omega) (by omega), tx (u + y) (by omega) (by omega)]
      refine z_gd ⟨by decide, by omega, by omega⟩ (z_gd ⟨by decide, by omega, by omega⟩ (z_gd ⟨t1, by omega, by omega⟩ ?_))
      by_cases hq : S 1 (u + y) = p t (f + y)
      · refine z_it hq (z_lt (z_some ?_))
        rw [e32 (by omega) (by omega)]
        refine ⟨⟨by omega, by omega, fun q q0 q1 => ?_⟩, by omega⟩
        by_cases hz : q = y
        · rw [hz]; exact hq
        · exact yn q q0 (by omega)
      · exact z_ie hq (z_some (Or.inr ⟨rfl, fun w => hq ((same.mp w).2 y y0 (by omega))⟩))
  · exact z_ie hk (z_some (Or.inr ⟨rfl, fun w => hk (same.mp w).1⟩))
