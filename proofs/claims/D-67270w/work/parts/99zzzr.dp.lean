-- needs: 99zzzq
set_option maxRecDepth 100000
/-! LINES: the row of breaks of the least cost -/
/-- ways to come to b in class c: from a, where the line before had class c' -/
def cnd (D : Hp) (τ : Int) (rc : Int → Int → Prop) (b c a c' : Int) : Prop := 0 ≤ a ∧ a < b ∧ lnA D τ a b ∧ lnC D a b = c ∧ ((a = 0 ∧ c' = 1) ∨ (1 ≤ a ∧ 0 ≤ c' ∧ c' ≤ 3 ∧ rc a c'))
noncomputable def vlS (D : Hp) (bs : Int → Int → Int) (b a c' : Int) : Int := (if a = 0 then 0 else bs a c') + lnX D a b c'
def pvB (fr : Int → Int → Int) (a c' : Int) : Int := if a = 0 then 0 else fr a c'
/-- one way is better than another one -/
def klt (D : Hp) (bs fr : Int → Int → Int) (b a1 c1 a2 c2 : Int) : Prop := vlS D bs b a1 c1 < vlS D bs b a2 c2 ∨ (vlS D bs b a1 c1 = vlS D bs b a2 c2 ∧ (a1 < a2 ∨ (a1 = a2 ∧ pvB fr a1 c1 < pvB fr a2 c2)))
/-- the best way of those in X, if there is one (r) -/
def enP (D : Hp) (bs fr : Int → Int → Int) (b : Int) (X : Int → Int → Prop) (r : Prop) (v f g : Int) : Prop := (r → X f g ∧ v = vlS D bs b f g ∧ ∀ a c', X a c' → (a = f ∧ c' = g) ∨ klt D bs fr b f g a c') ∧ (¬ r → ∀ a c', ¬ X a c')
def dpR (D : Hp) (τ : Int) (rc : Int → Int → Prop) (bs fr fc : Int → Int → Int) (b : Int) : Prop := ∀ c, 0 ≤ c → c ≤ 3 → enP D bs fr b (cnd D τ rc b c) (rc b c) (bs b c) (fr b c) (fc b c)
theorem klt_trans {D : Hp} {bs fr : Int → Int → Int} {b a1 c1 a2 c2 a3 c3 : Int} (h1 : klt D bs fr b a1 c1 a2 c2) (h2 : klt D bs fr b a2 c2 a3 c3) : klt D bs fr b a1 c1 a3 c3 := by
  unfold klt at *; omega
theorem klt_asym {D : Hp} {bs fr : Int → Int → Int} {b a1 c1 a2 c2 : Int} (h1 : klt D bs fr b a1 c1 a2 c2) (h2 : klt D bs fr b a2 c2 a1 c1) : False := by
  unfold klt at *; omega
/-- ways differ in what they are compared by -/
theorem klt_total {D : Hp} {τ : Int} {rc : Int → Int → Prop} {bs fr fc : Int → Int → Int} {b c a1 c1 a2 c2 : Int} (R : ∀ b', 1 ≤ b' → b' < b → dpR D τ rc bs fr fc b') (h1 : cnd D τ rc b c a1 c1) (h2 : cnd D τ rc b c a2 c2) : (a1 = a2 ∧ c1 = c2) ∨ klt D bs fr b a1 c1 a2 c2 ∨ klt D bs fr b a2 c2 a1 c1 := by
  by_cases e : a1 = a2 ∧ c1 = c2
  · exact Or.inl e
  right
  unfold klt
  by_cases ea : a1 = a2
  · subst ea
    obtain ⟨-, q1, -, -, p1⟩ := h1
    obtain ⟨-, -, -, -, p2⟩ := h2
    rcases p1 with ⟨p1, p1'⟩ | ⟨p1, p3, p4, p5⟩
    · rcases p2 with ⟨p2, p2'⟩ | ⟨p2, -⟩ <;> omega
    · rcases p2 with ⟨p2, p2'⟩ | ⟨p2, p6, p7, p8⟩
      · omega
      · have k1 := ((R a1 p1 q1 c1 p3 p4).1 p5).1.2.2.2.1
        have k2 := ((R a1 p1 q1 c2 p6 p7).1 p8).1.2.2.2.1
        have ne : pvB fr a1 c1 ≠ pvB fr a1 c2 := fun z => by
          unfold pvB at z
          rw [if_neg (by omega), if_neg (by omega)] at z
          rw [z, k2] at k1
          omega
        omega
  · omega
/-- one more way is looked at -/
theorem enP.more {D : Hp} {τ : Int} {rc : Int → Int → Prop} {bs fr fc : Int → Int → Int} {b c a c' : Int} {X X' : Int → Int → Prop} {r : Prop} {v f g : Int} (R : ∀ b', 1 ≤ b' → b' < b → dpR D τ rc bs fr fc b') (E : enP D bs fr b X r v f g) (hX : ∀ x y, X x y → cnd D τ rc b c x y) (new : cnd D τ rc b c a c') (fresh : ¬ X a c') (hX' : ∀ x y, X' x y ↔ X x y ∨ (x = a ∧ y = c')) :
    ((¬ r ∨ klt D bs fr b a c' f g) → enP D bs fr b X' True (vlS D bs b a c') a c') ∧ (r → ¬ klt D bs fr b a c' f g → enP D bs fr b X' True v f g) := by
  obtain ⟨E1, E2⟩ := E
  constructor
  · intro h
    refine ⟨fun _ => ⟨(hX' a c').mpr (Or.inr ⟨rfl, rfl⟩), rfl, fun x y hx => ?_⟩, fun z => absurd trivial z⟩
    rcases (hX' x y).mp hx with hx | hx
    · by_cases hr : r
      · obtain ⟨e1, e2, e3⟩ := E1 hr
        have k : klt D bs fr b a c' f g := by
          rcases h with h | h
          · exact absurd hr h
          · exact h
        rcases e3 x y hx with ⟨rfl, rfl⟩ | z
        · exact Or.inr k
        · exact Or.inr (klt_trans k z)
      · exact absurd hx (E2 hr x y)
    · exact Or.inl hx
  · intro hr h
    obtain ⟨e1, e2, e3⟩ := E1 hr
    refine ⟨fun _ => ⟨(hX' f g).mpr (Or.inl e1), e2, fun x y hx => ?_⟩, fun z => absurd trivial z⟩
    rcases (hX' x y).mp hx with hx | ⟨rfl, rfl⟩
    · exact e3 x y hx
    · right
      rcases klt_total R (hX f g e1) new with ⟨rfl, rfl⟩ | z | z
      · exact absurd e1 fresh
      · exact z
      · exact absurd z h
theorem enP.congr {D : Hp} {bs fr : Int → Int → Int} {b : Int} {X X' : Int → Int → Prop} {r : Prop} {v f g : Int} (E : enP D bs fr b X r v f g) (h : ∀ x y, X' x y ↔ X x y) : enP D bs fr b X' r v f g := by
  obtain ⟨E1, E2⟩ := E
  exact ⟨fun hr => ⟨(h f g).mpr (E1 hr).1, (E1 hr).2.1, fun x y hx => (E1 hr).2.2 x y ((h x y).mp hx)⟩, fun hr x y hx => E2 hr x y ((h x y).mp hx)⟩
/-- two tables agree -/
def tbE (rc rc' : Int → Int → Prop) (bs bs' fr fr' fc fc' : Int → Int → Int) (b : Int) : Prop := ∀ c, 0 ≤ c → c ≤ 3 → (rc b c ↔ rc' b c) ∧ (rc b c → bs b c = bs' b c ∧ fr b c = fr' b c ∧ fc b c = fc' b c)
theorem cnd_congr {D : Hp} {τ : Int} {rc rc' : Int → Int → Prop} {b c a c' : Int} (h : ∀ x y, 1 ≤ x → x < b → 0 ≤ y → y ≤ 3 → (rc x y ↔ rc' x y)) : cnd D τ rc b c a c' ↔ cnd D τ rc' b c a c' := by
  unfold cnd
  constructor
  · rintro ⟨h1, h2, h3, h4, h5⟩
    refine ⟨h1, h2, h3, h4, h5.imp id (fun ⟨z1, z2, z3, z4⟩ => ⟨z1, z2, z3, (h a c' z1 h2 z2 z3).mp z4⟩)⟩
  · rintro ⟨h1, h2, h3, h4, h5⟩
    refine ⟨h1, h2, h3, h4, h5.imp id (fun ⟨z1, z2, z3, z4⟩ => ⟨z1, z2, z3, (h a c' z1 h2 z2 z3).mpr z4⟩)⟩
theorem klt_congr {D : Hp} {bs bs' fr fr' : Int → Int → Int} {b a1 c1 a2 c2 : Int} (h1 : a1 ≠ 0 → bs a1 c1 = bs' a1 c1 ∧ fr a1 c1 = fr' a1 c1) (h2 : a2 ≠ 0 → bs a2 c2 = bs' a2 c2 ∧ fr a2 c2 = fr' a2 c2) : klt D bs fr b a1 c1 a2 c2 ↔ klt D bs' fr' b a1 c1 a2 c2 := by
  have e1 : vlS D bs b a1 c1 = vlS D bs' b a1 c1 ∧ pvB fr a1 c1 = pvB fr' a1 c1 := by
    unfold vlS pvB
    by_cases z : a1 = 0
    · rw [if_pos z, if_pos z, if_pos z, if_pos z]; exact ⟨rfl, rfl⟩
    · rw [if_neg z, if_neg z, if_neg z, if_neg z, (h1 z).1, (h1 z).2]; exact ⟨rfl, rfl⟩
  have e2 : vlS D bs b a2 c2 = vlS D bs' b a2 c2 ∧ pvB fr a2 c2 = pvB fr' a2 c2 := by
    unfold vlS pvB
    by_cases z : a2 = 0
    · rw [if_pos z, if_pos z, if_pos z, if_pos z]; exact ⟨rfl, rfl⟩
    · rw [if_neg z, if_neg z, if_neg z, if_neg z, (h2 z).1, (h2 z).2]; exact ⟨rfl, rfl⟩
  unfold klt
  rw [e1.1, e1.2, e2.1, e2.2]
theorem vlS_congr {D : Hp} {bs bs' : Int → Int → Int} {b a c : Int} (h1 : a ≠ 0 → bs a c = bs' a c) : vlS D bs b a c = vlS D bs' b a c := by
  unfold vlS
  by_cases z : a = 0
  · rw [if_pos z, if_pos z]
  · rw [if_neg z, if_neg z, h1 z]
/-- there is one table only -/
theorem dp_uniq {D : Hp} {τ : Int} {rc rc' : Int → Int → Prop} {bs bs' fr fr' fc fc' : Int → Int → Int} {m : Int} (R : ∀ b, 1 ≤ b → b ≤ m → dpR D τ rc bs fr fc b) (R' : ∀ b, 1 ≤ b → b ≤ m → dpR D τ rc' bs' fr' fc' b) : ∀ (k : Nat) (b : Int), b ≤ k → 1 ≤ b → b ≤ m → tbE rc rc' bs bs' fr fr' fc fc' b := by
  intro k
  induction k with
  | zero => intro b h1 h2; omega
  | succ k ih =>
    intro b h1 b0 b1
    have old : ∀ x, 1 ≤ x → x < b → tbE rc rc' bs bs' fr fr' fc fc' x := fun x x0 x1 => ih x (by omega) x0 (by omega)
    intro c c0 c3
    have cc : ∀ a c', cnd D τ rc b c a c' ↔ cnd D τ rc' b c a c' := fun a c' => cnd_congr (fun x y x0 x1 y0 y1 => (old x x0 x1 y y0 y1).1)
    obtain ⟨E1, E2⟩ := R b b0 b1 c c0 c3
    obtain ⟨F1, F2⟩ := R' b b0 b1 c c0 c3
    have iff_ : rc b c ↔ rc' b c := by
      constructor
      · intro z
        by_cases w : rc' b c
        · exact w
        · exact absurd ((cc _ _).mp (E1 z).1) (F2 w _ _)
      · intro z
        by_cases w : rc b c
        · exact w
        · exact absurd ((cc _ _).mpr (F1 z).1) (E2 w _ _)
    refine ⟨iff_, fun z => ?_⟩
    obtain ⟨e1, e2, e3⟩ := E1 z
    obtain ⟨f1, f2, f3⟩ := F1 (iff_.mp z)
    have cg : ∀ {a c'}, cnd D τ rc b c a c' → a ≠ 0 → bs a c' = bs' a c' ∧ fr a c' = fr' a c' := fun {a c'} h ha => by
      rcases h.2.2.2.2 with ⟨p, -⟩ | ⟨p1, p2, p3, p4⟩
      · exact absurd p ha
      · have := (old a p1 h.2.1 c' p2 p3).2 p4
        exact ⟨this.1, this.2.1⟩
    have f1' := (cc _ _).mpr f1
    have key : fr' b c = fr b c ∧ fc' b c = fc b c := by
      rcases e3 _ _ f1' with w | w
      · exact w
      · rcases f3 _ _ ((cc _ _).mp e1) with u | u
        · exact ⟨u.1.symm, u.2.symm⟩
        · exact absurd ((klt_congr (cg f1') (cg e1)).mpr u) (fun u' => klt_asym w u')
    refine ⟨?_, key.1.symm, key.2.symm⟩
    rw [e2, f2, key.1, key.2]
    exact vlS_congr (fun ha => (cg e1 ha).1)
