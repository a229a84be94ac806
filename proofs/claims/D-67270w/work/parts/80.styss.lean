set_option maxRecDepth 100000
/-! STYLES: both readers, with what they have written -/
theorem aX3 {a : Int} (h : a ∈ in_aX3) : a = 5 ∨ a = 33 ∨ a = 61 := by
  simp only [in_aX3, List.mem_cons, List.not_mem_nil, or_false] at h
  exact h
theorem aX3n {a : Int} (h : a ∈ in_aX3) : a + 1 ∈ in_aX4 ∧ a + 6 ∈ in_aX4 ∧ a + 11 ∈ in_aX5 := by
  rcases aX3 h with rfl | rfl | rfl <;> decide
theorem aX22n {l : Int} (h : l ∈ in_aX22) : l + 2 ∈ in_aX20 := by
  rcases aX22 h with rfl | rfl <;> decide
def scW (a : Int) : Int → Int → Prop := fun b j => (b = a ∧ (j = 6 ∨ j = 11 ∨ j = 15 ∨ j = 20 ∨ j = 22 ∨ j = 23 ∨ j = 24 ∨ j = 25 ∨ j = 26 ∨ j = 27 ∨ j = 28)) ∨ ((b = a + 1 ∨ b = a + 6) ∧ (j = 1 ∨ j = 3)) ∨ (b = a + 11 ∧ j = 1) ∨ ((a + 2 ≤ b ∧ b ≤ a + 5 ∨ a + 7 ≤ b ∧ b ≤ a + 10 ∨ a + 12 ≤ b ∧ b ≤ a + 27) ∧ 0 ≤ j) ∨ (b = 3 ∧ 2 ≤ j ∧ j ≤ 7)
def stW2 (l : Int) : Int → Int → Prop := fun b j => (b = l ∧ 3 ≤ j ∧ j ≤ 8) ∨ (l + 3 ≤ b ∧ b ≤ l + 22 ∧ 0 ≤ j) ∨ (b = l + 2 ∧ 2 ≤ j ∧ j ≤ 7)
/-- ranges of arrays, objects with places that may change -/
def rgA (r : Int × Int) : Bool := decide (1 ≤ r.1) && decide (r.2 ≤ 982) && kdT.all (fun q => decide (q.1 < r.1) || decide (r.2 < q.1) || (decide (1 ≤ q.2.1 % 16) && decide (q.2.1 % 16 ≤ 4)))
def rgO (e : Int × List Int) : Bool := decide (1 ≤ e.1) && decide (e.1 ≤ 982) && kdT.all (fun q => decide (q.1 ≠ e.1) || e.2.all (fun j => fx q.2.1 j == false))
theorem kdT_n : (List.range 982).all (fun k => (kdT[k]?).map (·.1) == some ((k : Int) + 1)) = true := by decide +kernel
theorem kdT_at {b : Int} (h1 : 1 ≤ b) (h2 : b ≤ 982) : ∃ (k : Nat) (q : Int × Int × Int), kdT[k]? = some q ∧ q.1 = b := by
  have := List.all_eq_true.mp kdT_n (b - 1).toNat (List.mem_range.mpr (by omega))
  have := beq_iff_eq.mp this
  cases hq : kdT[(b - 1).toNat]? with
  | none => rw [hq] at this; simp at this
  | some q =>
    rw [hq] at this
    simp only [Option.map_some, Option.some.injEq] at this
    exact ⟨_, q, hq, by omega⟩
theorem lay_W {W : Int → Int → Prop} {h h' : Hp} (hL : LAY h) (f : F2 W h h') (A : List (Int × Int)) (O : List (Int × List Int)) (hA : A.all rgA = true) (hO : O.all rgO = true) (hW : ∀ b j, W b j → 0 ≤ j ∧ ((∃ r ∈ A, r.1 ≤ b ∧ b ≤ r.2) ∨ ∃ e ∈ O, b = e.1 ∧ j ∈ e.2)) : LAY h' := by
  refine hL.F2 f (fun b j z => ?_)
  obtain ⟨j0, z⟩ := hW b j z
  rcases z with ⟨r, hr, r1, r2⟩ | ⟨e, he, rfl, hj⟩
  · have c := List.all_eq_true.mp hA r hr
    unfold rgA at c
    simp only [Bool.and_eq_true, decide_eq_true_eq] at c
    obtain ⟨⟨c1, c2⟩, c3⟩ := c
    obtain ⟨k, q, hq, hb⟩ := kdT_at (b := b) (by omega) (by omega)
    have c4 := List.all_eq_true.mp c3 q (List.mem_of_getElem? hq)
    simp only [Bool.or_eq_true, Bool.and_eq_true, decide_eq_true_eq] at c4
    have c5 := (hL.2.1 k q hq).1
    rw [hb] at c5 c4
    refine ⟨j0, by omega, ?_⟩
    rw [c5]
    exact fx_a (by omega) (by omega)
  · have c := List.all_eq_true.mp hO e he
    unfold rgO at c
    simp only [Bool.and_eq_true, decide_eq_true_eq] at c
    obtain ⟨⟨c1, c2⟩, c3⟩ := c
    obtain ⟨k, q, hq, hb⟩ := kdT_at (b := e.1) (by omega) (by omega)
    have c4 := List.all_eq_true.mp c3 q (List.mem_of_getElem? hq)
    have c5 := (hL.2.1 k q hq).1
    rw [hb] at c5 c4
    simp only [ne_eq, not_true_eq_false, decide_false, Bool.false_or] at c4
    have c6 := List.all_eq_true.mp c4 j hj
    refine ⟨j0, by omega, ?_⟩
    rw [c5]
    exact beq_iff_eq.mp c6
theorem scW_l {h h' : Hp} {a : Int} (hL : LAY h) (ha : a ∈ in_aX3) (f : F2 (scW a) h h') : LAY h' := by
  have key : ∀ b j, scW a b j → 0 ≤ j ∧ ((∃ r ∈ [(a + 2, a + 5), (a + 7, a + 10), (a + 12, a + 27)], r.1 ≤ b ∧ b ≤ r.2) ∨ ∃ e ∈ [(a, [6, 11, 15, 20, 22, 23, 24, 25, 26, 27, 28]), (a + 1, [1, 3]), (a + 6, [1, 3]), (a + 11, [1]), (3, [2, 3, 4, 5, 6, 7])], b = e.1 ∧ j ∈ e.2) := by
    intro b j z
    have j0 : 0 ≤ j := by unfold scW at z; omega
    refine ⟨j0, ?_⟩
    rcases z with ⟨rfl, z⟩ | ⟨z1, z⟩ | ⟨rfl, z⟩ | ⟨z, -⟩ | ⟨rfl, z⟩
    · exact Or.inr ⟨(b, [6, 11, 15, 20, 22, 23, 24, 25, 26, 27, 28]), by simp, rfl, by simp; omega⟩
    · rcases z1 with rfl | rfl
      · exact Or.inr ⟨(a + 1, [1, 3]), by simp, rfl, by simp; omega⟩
      · exact Or.inr ⟨(a + 6, [1, 3]), by simp, rfl, by simp; omega⟩
    · exact Or.inr ⟨(a + 11, [1]), by simp, rfl, by simp; omega⟩
    · rcases z with z | z | z
      · exact Or.inl ⟨(a + 2, a + 5), by simp, z⟩
      · exact Or.inl ⟨(a + 7, a + 10), by simp, z⟩
      · exact Or.inl ⟨(a + 12, a + 27), by simp, z⟩
    · exact Or.inr ⟨(3, [2, 3, 4, 5, 6, 7]), by simp, rfl, by simp; omega⟩
  refine lay_W hL f _ _ ?_ ?_ key
  · rcases aX3 ha with rfl | rfl | rfl <;> decide +kernel
  · rcases aX3 ha with rfl | rfl | rfl <;> decide +kernel
theorem stW2_l {h h' : Hp} {l : Int} (hL : LAY h) (hl : l ∈ in_aX22) (f : F2 (stW2 l) h h') : LAY h' := by
  have key : ∀ b j, stW2 l b j → 0 ≤ j ∧ ((∃ r ∈ [(l + 3, l + 22)], r.1 ≤ b ∧ b ≤ r.2) ∨ ∃ e ∈ [(l, [3, 4, 5, 6, 7, 8]), (l + 2, [2, 3, 4, 5, 6, 7])], b = e.1 ∧ j ∈ e.2) := by
    intro b j z
    have j0 : 0 ≤ j := by unfold stW2 at z; omega
    refine ⟨j0, ?_⟩
    rcases z with ⟨rfl, z⟩ | ⟨z1, z2, -⟩ | ⟨rfl, z⟩
    · exact Or.inr ⟨(b, [3, 4, 5, 6, 7, 8]), by simp, rfl, by simp; omega⟩
    · exact Or.inl ⟨(l + 3, l + 22), by simp, z1, z2⟩
    · exact Or.inr ⟨(l + 2, [2, 3, 4, 5, 6, 7]), by simp, rfl, by simp; omega⟩
  refine lay_W hL f _ _ ?_ ?_ key
  · rcases aX22 hl with rfl | rfl <;> decide +kernel
  · rcases aX22 hl with rfl | rfl <;> decide +kernel
/-- the two readers at their places, the heaps that they began with; p, q: what lies in the two styles -/
def SS (h1 h2 : Hp) (n : Int) (B T : Int → Int) (a l : Int) (p q : Hp) (i k : Int) (hc ht : Hp) : Prop :=
  CS hc n B i ∧ TS ht (l + 2) (l + 1) n B k ∧ F2 (scW a) h1 hc ∧ F2 (stW2 l) h2 ht ∧ (ht (l + 1) = T ∧ ∀ j, 0 ≤ j → j < n → hc 2 j = T j) ∧ (eqC a p hc ∧ eqT l q ht) ∧ n ≤ 4000
noncomputable def nx (B : Int → Int) (i : Int) : Int := (tk B i).2.2.1
theorem nx_eqC {hc hc' : Hp} {a : Int} (ha : a ∈ in_aX3) (f : F2 (nxW 3) hc hc') : eqC a hc hc' := fun b b0 b1 => f.row (fun j z => by have := aX3 ha; unfold nxW at z; omega)
theorem nx_eqT {ht ht' : Hp} {l : Int} (f : F2 (nxW (l + 2)) ht ht') : eqT l ht ht' := ⟨f.row (fun j z => by unfold nxW at z; omega), fun b b0 b1 => f.row (fun j z => by unfold nxW at z; omega)⟩
theorem eqC.trans {a : Int} {p q r : Hp} (e : eqC a p q) (f : eqC a q r) : eqC a p r := fun b b0 b1 => (f b b0 b1).trans (e b b0 b1)
theorem eqT.trans {a : Int} {p q r : Hp} (e : eqT a p q) (f : eqT a q r) : eqT a p r := ⟨f.1.trans e.1, fun b b0 b1 => (f.2 b b0 b1).trans (e.2 b b0 b1)⟩
theorem SS.goL {h1 h2 hc ht hc' : Hp} {n : Int} {B T : Int → Int} {a l : Int} {p q : Hp} {i k i' : Int} (ha : a ∈ in_aX3) (S : SS h1 h2 n B T a l p q i k hc ht) (f : F2 (nxW 3) hc hc') (c : CS hc' n B i') : SS h1 h2 n B T a l p q i' k hc' ht := by
  have e := nx_eqC ha f
  obtain ⟨s1, s2, s3, s4, s5, s6, s8⟩ := S
  refine ⟨c, s2, s3.trans (f.mono (fun b j z => by unfold nxW at z; unfold scW; omega)), s4, ⟨s5.1, fun j j0 j1 => ?_⟩, ⟨s6.1.trans e, s6.2⟩, s8⟩
  rw [f 2 j (fun z => by unfold nxW at z; omega)]; exact s5.2 j j0 j1
theorem SS.goR {h1 h2 hc ht ht' : Hp} {n : Int} {B T : Int → Int} {a l : Int} {p q : Hp} {i k k' : Int} (S : SS h1 h2 n B T a l p q i k hc ht) (f : F2 (nxW (l + 2)) ht ht') (c : TS ht' (l + 2) (l + 1) n B k') : SS h1 h2 n B T a l p q i k' hc ht' := by
  have e := nx_eqT f
  obtain ⟨s1, s2, s3, s4, s5, s6, s8⟩ := S
  refine ⟨s1, c, s3, s4.trans (f.mono (fun b j z => by unfold nxW at z; unfold stW2; omega)), ⟨?_, s5.2⟩, ⟨s6.1, s6.2.trans e⟩, s8⟩
  rw [f.row (fun j z => by unfold nxW at z; omega)]; exact s5.1
theorem SS.ge {h1 h2 hc ht : Hp} {n : Int} {B T : Int → Int} {a l : Int} {p q : Hp} {i k : Int} (S : SS h1 h2 n B T a l p q i k hc ht) : i ≤ nx B i ∧ 0 ≤ i ∧ i ≤ n ∧ (tk B i).2.1 ≤ nx B i ∧ i ≤ (tk B i).2.1 ∧ (tk B i).2.1 ≤ n ∧ ((tk B i).1 ≠ 5 → nx B i ≤ n) := by
  have hq := cs_ok S.1
  have g := tk_ge S.1
  exact ⟨Int.le_trans g hq.2.2.1, S.1.2.2.2.2.2.1, S.1.2.2.2.2.2.2.1, hq.2.2.1, g, hq.2.1, hq.2.2.2.1⟩
/-- a store of the left one -/
theorem SS.putL {h1 h2 hc ht : Hp} {n : Int} {B T : Int → Int} {a l : Int} {p q : Hp} {i k b j v : Int} (ha : a ∈ in_aX3) (S : SS h1 h2 n B T a l p q i k hc ht) (hb : a ≤ b ∧ b ≤ a + 27) (hw : scW a b j) : SS h1 h2 n B T a l (up p b j v) q i k (up hc b j v) ht := by
  have h3 := aX3 ha
  obtain ⟨s1, s2, s3, s4, s5, s6, s8⟩ := S
  have f : F2 (fun x y => x = b ∧ y = j) hc (up hc b j v) := F2.refl.put ⟨rfl, rfl⟩
  have L := scW_l s1.1 ha (f.mono (fun x y z => by rw [z.1, z.2]; exact hw))
  refine ⟨s1.kept f L (fun y z => by omega) (fun y z => by omega) (fun y z => by omega), s2, s3.put hw, s4, ⟨s5.1, fun y y0 y1 => ?_⟩, ⟨fun x x0 x1 => ?_, s6.2⟩, s8⟩
  · rw [up_a (by omega)]; exact s5.2 y y0 y1
  · by_cases hx : x = b
    · subst hx
      funext y
      by_cases hy : y = j
      · rw [up_e rfl hy, up_e rfl hy]
      · rw [up_j hy, up_j hy, s6.1 x x0 x1]
    · rw [up_row hx, up_row hx]; exact s6.1 x x0 x1
/-- a store of the right one -/
theorem SS.putR {h1 h2 hc ht : Hp} {n : Int} {B T : Int → Int} {a l : Int} {p q : Hp} {i k b j v : Int} (hl : l ∈ in_aX22) (S : SS h1 h2 n B T a l p q i k hc ht) (hb : b = l ∨ (l + 3 ≤ b ∧ b ≤ l + 22)) (hw : stW2 l b j) : SS h1 h2 n B T a l p (up q b j v) i k hc (up ht b j v) := by
  have h3 := aX22 hl
  obtain ⟨s1, s2, s3, s4, s5, s6, s8⟩ := S
  have f : F2 (fun x y => x = b ∧ y = j) ht (up ht b j v) := F2.refl.put ⟨rfl, rfl⟩
  have L := stW2_l s2.1 hl (f.mono (fun x y z => by rw [z.1, z.2]; exact hw))
  have g : ∀ x, q x = ht x → up q b j v x = up ht b j v x := by
    intro x hx
    by_cases e : x = b
    · subst e
      funext y
      by_cases hy : y = j
      · rw [up_e rfl hy, up_e rfl hy]
      · rw [up_j hy, up_j hy, hx]
    · rw [up_row e, up_row e]; exact hx
  refine ⟨s1, s2.kept f L (fun y z => by omega) (fun y z => by omega) (fun y z => by omega), s3, s4.put hw, ⟨?_, s5.2⟩, ⟨s6.1, (g l s6.2.1.symm).symm, fun x x0 x1 => (g x (s6.2.2 x x0 x1).symm).symm⟩, s8⟩
  rw [up_row (by omega)]; exact s5.1
/-! steps of the left one -/
theorem L_next {α β : Type} {h1 h2 hc ht : Hp} {n : Int} {B T : Int → Int} {a l : Int} {p q : Hp} {i k : Int} {f : Hp → Option α} {u : Option β} {Q : α → β → Prop} (ha : a ∈ in_aX3) (S : SS h1 h2 n B T a l p q i k hc ht) (h5 : (tk B i).1 ≠ 5) (K : ∀ hc', SS h1 h2 n B T a l p q (nx B i) k hc' ht → Pr (f hc') u Q) : Pr ((m_X2_next 3 hc).bind f) u Q :=
  yl_bind (z_mono (cs_next S.1 h5) (fun hc' z => K hc' (S.goL ha z.1 z.2)))
theorem L_take1 {α β : Type} {h1 h2 hc ht : Hp} {n : Int} {B T : Int → Int} {a l : Int} {p q : Hp} {i k : Int} {x : Int} {f : Int → Hp → Option α} {u : Option β} {Q : α → β → Prop} (ha : a ∈ in_aX3) (S : SS h1 h2 n B T a l p q i k hc ht) (hx : (tk B i).1 = 4 ∧ (tk B i).2.2.2 = x) (K : ∀ hc', SS h1 h2 n B T a l p q (nx B i) k hc' ht → Pr (f 1 hc') u Q) : Pr (bW (m_X2_take 3 x hc) f) u Q := by
  refine yl_bW (z_mono (cs_take S.1) (fun r z => ?_))
  rcases z with ⟨z1, z2, z3, z4⟩ | ⟨z1, z2, z3⟩
  · rw [z1]; exact K _ (S.goL ha z3 z4)
  · exact absurd hx z2
theorem L_take0 {α β : Type} {h1 h2 hc ht : Hp} {n : Int} {B T : Int → Int} {a l : Int} {p q : Hp} {i k : Int} {x : Int} {f : Int → Hp → Option α} {u : Option β} {Q : α → β → Prop} (S : SS h1 h2 n B T a l p q i k hc ht) (hx : ¬ ((tk B i).1 = 4 ∧ (tk B i).2.2.2 = x)) (K : Pr (f 0 hc) u Q) : Pr (bW (m_X2_take 3 x hc) f) u Q := by
  refine yl_bW (z_mono (cs_take S.1) (fun r z => ?_))
  rcases z with ⟨z1, z2, z3, z4⟩ | ⟨z1, z2, z3⟩
  · exact absurd z2 hx
  · rw [z1, z3]; exact K
theorem L_need1 {α β : Type} {h1 h2 hc ht : Hp} {n : Int} {B T : Int → Int} {a l : Int} {p q : Hp} {i k : Int} {x : Int} {f g : Int → Hp → Option α} {u : Option β} {Q : α → β → Prop} (ha : a ∈ in_aX3) (S : SS h1 h2 n B T a l p q i k hc ht) (hx : (tk B i).1 = 4 ∧ (tk B i).2.2.2 = x) (K : ∀ hc', SS h1 h2 n B T a l p q (nx B i) k hc' ht → Pr (f 0 hc') u Q) : Pr (bT (m_X2_need 3 x hc) f g) u Q := by
  refine yl_bT (z_mono (cs_need S.1) (fun r z => ?_))
  rcases z with ⟨z1, z2, z3, z4⟩ | ⟨z1, z2⟩
  · refine Or.inl ⟨by rw [z2], ?_⟩
    rw [z2]; exact K _ (S.goL ha z3 z4)
  · exact absurd hx z1
theorem L_need0 {α β : Type} {h1 h2 hc ht : Hp} {n : Int} {B T : Int → Int} {a l : Int} {p q : Hp} {i k : Int} {x : Int} {f g : Int → Hp → Option α} {u : Option β} {Q : α → β → Prop} (S : SS h1 h2 n B T a l p q i k hc ht) (hx : ¬ ((tk B i).1 = 4 ∧ (tk B i).2.2.2 = x)) (K : ∀ b h', Thr 432 (tk B i).2.1 hc ((1, b), h') → Pr (g b h') u Q) : Pr (bT (m_X2_need 3 x hc) f g) u Q := by
  refine yl_bT (z_mono (cs_need S.1) (fun r z => ?_))
  rcases z with ⟨z1, z2, z3, z4⟩ | ⟨z1, z2⟩
  · exact absurd z1 hx
  · refine Or.inr ⟨by rw [z2.1]; decide, K _ _ ?_⟩
    have e := z2.1
    obtain ⟨⟨r1, r2⟩, r3⟩ := r
    dsimp only at e ⊢
    rw [← e]; exact z2
theorem L_num1 {α β : Type} {h1 h2 hc ht : Hp} {n : Int} {B T : Int → Int} {a l : Int} {p q : Hp} {i k : Int} {lo hi : Int} {f g : Int → Hp → Option α} {u : Option β} {Q : α → β → Prop} (ha : a ∈ in_aX3) (S : SS h1 h2 n B T a l p q i k hc ht) (hx : (tk B i).1 = 2 ∧ lo ≤ (tk B i).2.2.2 ∧ (tk B i).2.2.2 ≤ hi) (K : ∀ hc', SS h1 h2 n B T a l p q (nx B i) k hc' ht → Pr (f (tk B i).2.2.2 hc') u Q) : Pr (bT (m_X2_needNumber 3 lo hi hc) f g) u Q := by
  refine yl_bT (z_mono (cs_num S.1) (fun r z => ?_))
  rcases z with ⟨z1, z2, z3, z4⟩ | ⟨z1, z2⟩
  · refine Or.inl ⟨by rw [z2], ?_⟩
    rw [z2]; exact K _ (S.goL ha z3 z4)
  · exact absurd hx z1
theorem L_num0 {α β : Type} {h1 h2 hc ht : Hp} {n : Int} {B T : Int → Int} {a l : Int} {p q : Hp} {i k : Int} {lo hi : Int} {f g : Int → Hp → Option α} {u : Option β} {Q : α → β → Prop} (S : SS h1 h2 n B T a l p q i k hc ht) (hx : ¬ ((tk B i).1 = 2 ∧ lo ≤ (tk B i).2.2.2 ∧ (tk B i).2.2.2 ≤ hi)) (K : ∀ b h', Thr 432 (tk B i).2.1 hc ((1, b), h') → Pr (g b h') u Q) : Pr (bT (m_X2_needNumber 3 lo hi hc) f g) u Q := by
  refine yl_bT (z_mono (cs_num S.1) (fun r z => ?_))
  rcases z with ⟨z1, z2, z3, z4⟩ | ⟨z1, z2⟩
  · exact absurd z1 hx
  · refine Or.inr ⟨by rw [z2.1]; decide, K _ _ ?_⟩
    have e := z2.1
    obtain ⟨⟨r1, r2⟩, r3⟩ := r
    dsimp only at e ⊢
    rw [← e]; exact z2
theorem L_kind1 {α β : Type} {h1 h2 hc ht : Hp} {n : Int} {B T : Int → Int} {a l : Int} {p q : Hp} {i k : Int} {x : Int} {f g : Int → Hp → Option α} {u : Option β} {Q : α → β → Prop} (S : SS h1 h2 n B T a l p q i k hc ht) (hx : (tk B i).1 = x) (K : Pr (f 0 hc) u Q) : Pr (bT (m_X2_needKind 3 x hc) f g) u Q := by
  refine yl_bT (z_mono (c_needKind S.1.2.1 S.1.2.2.2.2.1 S.1.2.2.2.2.2.2.2 (by decide) (by decide)) (fun r z => ?_))
  rcases z with ⟨z1, z2⟩ | ⟨z1, z2⟩
  · refine Or.inl ⟨by rw [z2], ?_⟩
    rw [z2]; exact K
  · exact absurd hx z1
theorem L_kind0 {α β : Type} {h1 h2 hc ht : Hp} {n : Int} {B T : Int → Int} {a l : Int} {p q : Hp} {i k : Int} {x : Int} {f g : Int → Hp → Option α} {u : Option β} {Q : α → β → Prop} (S : SS h1 h2 n B T a l p q i k hc ht) (hx : (tk B i).1 ≠ x) (K : ∀ b h', Thr 432 (tk B i).2.1 hc ((1, b), h') → Pr (g b h') u Q) : Pr (bT (m_X2_needKind 3 x hc) f g) u Q := by
  refine yl_bT (z_mono (c_needKind S.1.2.1 S.1.2.2.2.2.1 S.1.2.2.2.2.2.2.2 (by decide) (by decide)) (fun r z => ?_))
  rcases z with ⟨z1, z2⟩ | ⟨z1, z2⟩
  · exact absurd z1 hx
  · refine Or.inr ⟨by rw [z2.1]; decide, K _ _ ?_⟩
    have e := z2.1
    obtain ⟨⟨r1, r2⟩, r3⟩ := r
    dsimp only at e ⊢
    rw [← e]; exact z2
theorem L_brk {α β : Type} {h1 h2 hc ht : Hp} {n : Int} {B T : Int → Int} {a l : Int} {p q : Hp} {i k : Int} {f : Int → Hp → Option α} {u : Option β} {Q : α → β → Prop} (S : SS h1 h2 n B T a l p q i k hc ht) (K : ∀ b h', Thr 432 (tk B i).2.1 hc ((1, b), h') → Pr (f b h') u Q) : Pr (bW (m_X2_broken 3 hc) fun v h9 => gd (0 < v) (f v h9)) u Q := by
  refine yl_bW (z_mono (brk (K := 432) (a := 3) S.1.2.2.2.2.2.2.2 (by decide) (by decide) S.1.2.2.2.2.1.2.1) (fun r hr => yl_gd hr.1 (K _ _ ⟨rfl, hr.1, hr.2.1, hr.2.2.1, hr.2.2.2.1, hr.2.2.2.2⟩)))
theorem L_byte {h1 h2 hc ht : Hp} {n : Int} {B T : Int → Int} {a l : Int} {p q : Hp} {i k : Int} {x : Int} (S : SS h1 h2 n B T a l p q i k hc ht) : m_X2_isByte 3 x hc = some (if (tk B i).1 = 4 ∧ (tk B i).2.2.2 = x then 1 else 0) := q_X2_isByte S.1.2.2.2.2.1
/-! steps of the right one -/
theorem R_next {α β : Type} {h1 h2 hc ht : Hp} {n : Int} {B T : Int → Int} {a l : Int} {p q : Hp} {i k : Int} {f : Hp → Option α} {u : Option β} {Q : β → α → Prop} (S : SS h1 h2 n B T a l p q i k hc ht) (h5 : (tk B k).1 ≠ 5) (K : ∀ ht', SS h1 h2 n B T a l p q i (nx B k) hc ht' → Pr u (f ht') Q) : Pr u ((m_X20_next (l + 2) ht).bind f) Q :=
  yr_bind (z_mono (ts_next S.2.1 h5) (fun ht' z => K ht' (S.goR z.1 z.2)))
theorem R_need1 {α β : Type} {h1 h2 hc ht : Hp} {n : Int} {B T : Int → Int} {a l : Int} {p q : Hp} {i k : Int} {x : Int} {f g : Int → Hp → Option α} {u : Option β} {Q : β → α → Prop} (S : SS h1 h2 n B T a l p q i k hc ht) (hp : isPl x = true) (hx : (tk B k).1 = 4 ∧ (tk B k).2.2.2 = x) (K : ∀ ht', SS h1 h2 n B T a l p q i (nx B k) hc ht' → Pr u (f 0 ht') Q) : Pr u (bT (m_X20_need (l + 2) x ht) f g) Q := by
  refine yr_bT (z_mono (ts_need S.2.1 hp) (fun r z => ?_))
  rcases z with ⟨z1, z2, z3, z4⟩ | ⟨z1, z2⟩
  · refine Or.inl ⟨by rw [z2], ?_⟩
    rw [z2]; exact K _ (S.goR z3 z4)
  · exact absurd hx z1
theorem R_need0 {α β : Type} {h1 h2 hc ht : Hp} {n : Int} {B T : Int → Int} {a l : Int} {p q : Hp} {i k : Int} {x : Int} {f g : Int → Hp → Option α} {u : Option β} {Q : β → α → Prop} (S : SS h1 h2 n B T a l p q i k hc ht) (hp : isPl x = true) (hx : ¬ ((tk B k).1 = 4 ∧ (tk B k).2.2.2 = x)) (K : ∀ b h', Thr 448 (tk B k).2.1 ht ((1, b), h') → Pr u (g b h') Q) : Pr u (bT (m_X20_need (l + 2) x ht) f g) Q := by
  refine yr_bT (z_mono (ts_need S.2.1 hp) (fun r z => ?_))
  rcases z with ⟨z1, z2, z3, z4⟩ | ⟨z1, z2⟩
  · exact absurd z1 hx
  · refine Or.inr ⟨by rw [z2.1]; decide, K _ _ ?_⟩
    have e := z2.1
    obtain ⟨⟨r1, r2⟩, r3⟩ := r
    dsimp only at e ⊢
    rw [← e]; exact z2
theorem R_num1 {α β : Type} {h1 h2 hc ht : Hp} {n : Int} {B T : Int → Int} {a l : Int} {p q : Hp} {i k : Int} {lo hi : Int} {f g : Int → Hp → Option α} {u : Option β} {Q : β → α → Prop} (S : SS h1 h2 n B T a l p q i k hc ht) (hx : (tk B k).1 = 2 ∧ lo ≤ (tk B k).2.2.2 ∧ (tk B k).2.2.2 ≤ hi) (K : ∀ ht', SS h1 h2 n B T a l p q i (nx B k) hc ht' → Pr u (f (tk B k).2.2.2 ht') Q) : Pr u (bT (m_X20_needNumber (l + 2) lo hi ht) f g) Q := by
  refine yr_bT (z_mono (ts_num S.2.1) (fun r z => ?_))
  rcases z with ⟨z1, z2, z3, z4⟩ | ⟨z1, z2⟩
  · refine Or.inl ⟨by rw [z2], ?_⟩
    rw [z2]; exact K _ (S.goR z3 z4)
  · exact absurd hx z1
theorem R_num0 {α β : Type} {h1 h2 hc ht : Hp} {n : Int} {B T : Int → Int} {a l : Int} {p q : Hp} {i k : Int} {lo hi : Int} {f g : Int → Hp → Option α} {u : Option β} {Q : β → α → Prop} (S : SS h1 h2 n B T a l p q i k hc ht) (hx : ¬ ((tk B k).1 = 2 ∧ lo ≤ (tk B k).2.2.2 ∧ (tk B k).2.2.2 ≤ hi)) (K : ∀ b h', Thr 448 (tk B k).2.1 ht ((1, b), h') → Pr u (g b h') Q) : Pr u (bT (m_X20_needNumber (l + 2) lo hi ht) f g) Q := by
  refine yr_bT (z_mono (ts_num S.2.1) (fun r z => ?_))
  rcases z with ⟨z1, z2, z3, z4⟩ | ⟨z1, z2⟩
  · exact absurd z1 hx
  · refine Or.inr ⟨by rw [z2.1]; decide, K _ _ ?_⟩
    have e := z2.1
    obtain ⟨⟨r1, r2⟩, r3⟩ := r
    dsimp only at e ⊢
    rw [← e]; exact z2
theorem R_brk {α β : Type} {h1 h2 hc ht : Hp} {n : Int} {B T : Int → Int} {a l : Int} {p q : Hp} {i k : Int} {f : Int → Hp → Option α} {u : Option β} {Q : β → α → Prop} (hl : l ∈ in_aX22) (S : SS h1 h2 n B T a l p q i k hc ht) (K : ∀ b h', Thr 448 (tk B k).2.1 ht ((1, b), h') → Pr u (f b h') Q) : Pr u (bW (m_X20_broken (l + 2) ht) fun v h9 => gd (0 < v) (f v h9)) Q := by
  have h9 := aX22 hl
  refine yr_bW (z_mono (brk (K := 448) (a := l + 2) S.2.1.2.2.2.2.2.2.1 (by omega) (by omega) S.2.1.2.2.2.1.2.1) (fun r hr => yr_gd hr.1 (K _ _ ⟨rfl, hr.1, hr.2.1, hr.2.2.1, hr.2.2.2.1, hr.2.2.2.2⟩)))
theorem R_byte {h1 h2 hc ht : Hp} {n : Int} {B T : Int → Int} {a l : Int} {p q : Hp} {i k : Int} {x : Int} (S : SS h1 h2 n B T a l p q i k hc ht) (hp : isPl x = true) : m_X20_isByte (l + 2) x ht = some (if (tk B k).1 = 4 ∧ (tk B k).2.2.2 = x then 1 else 0) := q_X20_isByte S.2.1.2.2.2.1 hp
/-- both are broken at the same place -/
def BO (h1 h2 : Hp) (n a l : Int) (rc rt : (Int × Int) × Hp) : Prop := ∃ p, 0 ≤ p ∧ p ≤ n ∧ ThF 432 p (scW a) h1 rc ∧ ThF 448 p (stW2 l) h2 rt
theorem ss_thr {h1 h2 hc ht : Hp} {n : Int} {B T : Int → Int} {a l : Int} {p q : Hp} {i k x : Int} {rc rt : (Int × Int) × Hp} (ha : a ∈ in_aX3) (hl : l ∈ in_aX22) (S : SS h1 h2 n B T a l p q i k hc ht) (p0 : 0 ≤ x ∧ x ≤ n) (z1 : Thr 432 x hc rc) (z2 : Thr 448 x ht rt) : BO h1 h2 n a l rc rt := by
  have h3 := aX3 ha
  have h22 := aX22 hl
  exact ⟨x, p0.1, p0.2, z1.F S.2.2.1 (fun j z => by unfold scW at z; omega), z2.F S.2.2.2.1 (fun j z => by unfold stW2 at z; omega)⟩
