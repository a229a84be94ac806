-- needs: 99zzzzx
set_option maxRecDepth 100000
/-! GATHERING: fields and what they name -/
/-- the field of a name, from x on -/
def fdS (S : Hp) (e : Int) (w : List Int) : Nat → Int → Int
  | 0, _ => -1
  | k + 1, x => if S 10 e ≤ x then -1 else if wr (S 1) (S 13 (6 * e + x)) (S 14 (6 * e + x)) = w then x else fdS S e w k (x + 1)
def fdX (S : Hp) (e : Int) (w : List Int) : Int := fdS S e w 7 0
def fdV (S : Hp) (e x : Int) : List Int := wr (S 1) (S 15 (6 * e + x)) (S 16 (6 * e + x))
theorem fdS_is {S : Hp} {e : Int} {w : List Int} (h6 : S 10 e ≤ 6) : ∀ (k : Nat) (x : Int), 0 ≤ x → 7 ≤ x + k → (∀ y, 0 ≤ y → y < x → wr (S 1) (S 13 (6 * e + y)) (S 14 (6 * e + y)) ≠ w) → isFd S e w (fdS S e w k x)
  | 0, x, x0, hk, hn => Or.inl ⟨rfl, fun y y0 y1 => hn y y0 (by omega)⟩
  | k + 1, x, x0, hk, hn => by
    unfold fdS
    split
    · exact Or.inl ⟨rfl, fun y y0 y1 => hn y y0 (by omega)⟩
    · split
      · rename_i h1 h2
        exact Or.inr ⟨x0, by omega, h2, hn⟩
      · rename_i h1 h2
        refine fdS_is h6 k (x + 1) (by omega) (by omega) (fun y y0 y1 => ?_)
        by_cases hy : y = x
        · rw [hy]; exact h2
        · exact hn y y0 (by omega)
theorem fdX_is {S : Hp} {e : Int} {w : List Int} (h6 : S 10 e ≤ 6) : isFd S e w (fdX S e w) := fdS_is h6 7 0 (by decide) (by decide) (fun y y0 y1 => by omega)
theorem fdX_r {S : Hp} {e : Int} {w : List Int} (h6 : S 10 e ≤ 6) : fdX S e w = -1 ∨ (0 ≤ fdX S e w ∧ fdX S e w < S 10 e) := by
  rcases fdX_is (w := w) h6 with h | h
  · exact Or.inl h.1
  · exact Or.inr ⟨h.1, h.2.1⟩
/-- the element of an id, from e on -/
def byS (S : Hp) (E : Int) (w : List Int) : Nat → Int → Int
  | 0, _ => -1
  | k + 1, e => if E ≤ e then -1 else if 0 ≤ fdX S e [105, 100] ∧ fdV S e (fdX S e [105, 100]) = w then e else byS S E w k (e + 1)
def byI (S : Hp) (E : Int) (w : List Int) : Int := byS S E w E.toNat 0
theorem byS_r {S : Hp} {E : Int} {w : List Int} : ∀ (k : Nat) (e : Int), 0 ≤ e → byS S E w k e = -1 ∨ (0 ≤ byS S E w k e ∧ byS S E w k e < E)
  | 0, e, _ => Or.inl rfl
  | k + 1, e, e0 => by
    unfold byS
    split
    · exact Or.inl rfl
    · split
      · exact Or.inr ⟨e0, by omega⟩
      · exact byS_r k (e + 1) (by omega)
theorem byI_r {S : Hp} {E : Int} {w : List Int} : byI S E w = -1 ∨ (0 ≤ byI S E w ∧ byI S E w < E) := byS_r _ _ (by decide)
/-- a loop that compares with a word -/
theorem cmpS {F : Int → Option (Int ⊕ Int)} {f : Nat → Int} {b : List Int} (lb : b.length < 200) (body : ∀ x : Nat, x ≤ b.length → F (x : Int) = if b.length ≤ x then some (.inr 1) else @ite _ (b[x]? = some (f x)) (Classical.propDecidable _) (some (.inl (w32 ((x : Int) + 1)))) (some (.inr 0))) : (lp F 0).bind (fun (x : Int) => some x) = some (eqW ((List.range b.length).map f) b) := by
  obtain ⟨r, e1, e2⟩ := cmp_loop (E := fun x => b[x]? = some (f x)) (by omega) body
  rw [e1, Option.bind_some]
  congr 1
  have hw : (List.range b.length).map f = b ↔ ∀ x : Nat, x < b.length → b[x]? = some (f x) := by
    constructor
    · intro z x hx
      rw [← z]
      simp [hx]
    · intro z
      refine List.ext_getElem? (fun i => ?_)
      by_cases hi : i < b.length
      · rw [z i hi]; simp [hi]
      · rw [List.getElem?_eq_none (by simp; omega), List.getElem?_eq_none (by omega)]
  unfold eqW
  rcases e2 with ⟨e2, e3⟩ | ⟨e2, e3⟩
  · rw [if_pos (hw.mpr e3)]; exact e2
  · rw [if_neg (fun z => e3 (hw.mp z))]; exact e2
theorem ite_p {α : Type} {c d : Prop} [Decidable c] {x y : α} (i : Decidable d) (h : c ↔ d) : (if c then x else y) = @ite _ d i x y := by
  by_cases hc : c
  · rw [if_pos hc, if_pos (h.mp hc)]
  · rw [if_neg hc, if_neg (fun z => hc (h.mpr z))]
theorem some_at {b : List Int} {x : Nat} {v : Int} (hx : x < b.length) : (v = b[x]) ↔ (b[x]? = some v) := by
  rw [List.getElem?_eq_getElem hx]
  constructor
  · intro z; rw [z]
  · intro z; exact (Option.some.inj z).symm
theorem q_isName6 {p : Hp} {a N k w : Int} {s : Int → List Int} {b : List Int} (hs : strB w = some b) (hL : LAY p) (ha : a ∈ in_aX6) (M : NM p (a + 2) N s) (k0 : 0 ≤ k) (k1 : k < N) : m_X6_isName a k w p = some (eqW (s k) b) := by
  have hl := strB_l hs
  have k3 := (g_X6_3 hL ha).1
  have h4 : a + 2 ∈ in_aX4 := by
    have := aX6 ha
    simp only [in_aX4, List.mem_cons, List.not_mem_nil, or_false]
    omega
  obtain ⟨⟨m1, m2, m3, m4, m5, m6, m7⟩, M2, -⟩ := id M
  obtain ⟨c1, c2, c3, c4⟩ := M2 k k0 k1
  unfold m_X6_isName
  rw [k3, gd_t (g_X4 hL h4), q_X4_length hL h4 M k0 k1, Option.bind_some, q_slen hs, Option.bind_some]
  by_cases hc : ((s k).length : Int) = (b.length : Int)
  · rw [if_pos hc]
    have hcl : (s k).length = b.length := by omega
    have j2 := g_X4_2 hL h4
    have j0 := g_X4_0 hL h4
    have L := cmpS (F := fun q => m_X6_isName_l19 a k w q p) (f := fun x => p (a + 2 + 1) (p (a + 2 + 3) k + (x : Int))) (b := b) hl (fun x hx => by
      unfold m_X6_isName_l19
      rw [q_slen hs, Option.bind_some]
      by_cases hx2 : b.length ≤ x
      · rw [if_pos (by omega), if_pos hx2]
      · rw [if_neg (by omega), if_neg hx2]
        have hb : b[x]? = some b[x] := List.getElem?_eq_getElem (by omega)
        simp only [k3, j2.1, j2.2, j0.1, j0.2]
        rw [e32 (x := p (a + 2 + 3) k + (x : Int)) (by omega) (by omega)]
        rw [gd_t ⟨by decide, k0, by omega⟩, gd_t ⟨by decide, by omega, by omega⟩, q_sat hs hb, Option.bind_some]
        exact ite_p _ (some_at (by omega)))
    have e : (List.range b.length).map (fun x : Nat => p (a + 2 + 1) (p (a + 2 + 3) k + (x : Int))) = s k := by rw [← hcl]; exact c4
    rw [e] at L
    exact L
  · rw [if_neg hc]
    congr 1
    unfold eqW
    rw [if_neg (fun z => hc (by rw [z]))]
theorem q_isField2 {S p : Hp} {a n N E F M e x w : Int} {s : Int → List Int} {b : List Int} (hs : strB w = some b) (hL : LAY p) (ha : a ∈ in_aX6) (R : SA S p a n N s E F M) (e0 : 0 ≤ e) (e1 : e < E) (x0 : 0 ≤ x) (x1 : x < S 10 e) : m_X6_isField_2 a (p (a + 16) e + x) w p = some (eqW (fdV S e x) b) := by
  have hl := strB_l hs
  have n1 := R.1.2.1
  have Fn := R.2.2.1.2.2.2.2.1
  obtain ⟨r1, r2, r3, r4, r5, r6⟩ := R.2.2.2.2.1 e e0 e1
  obtain ⟨-, c2, c3, c4, c5, c6⟩ := r6 x x0 x1
  have kc := g_X6_0 hL ha
  have k16 := g_X6_16 hL ha
  have k17 := g_X6_17 hL ha
  have tx : ∀ j, 0 ≤ j → j < n → p (a + 1) j = S 1 j := R.1.2.2.2.2.1
  unfold fdV
  generalize S 15 (6 * e + x) = u at *
  generalize S 16 (6 * e + x) = z at *
  unfold m_X6_isField_2
  simp only [k17.1, k17.2.1, k17.2.2, c3]
  rw [gd_t ⟨by decide, by omega, by omega⟩, q_slen hs, Option.bind_some]
  by_cases hc : z - u = (b.length : Int)
  · rw [if_pos hc]
    have L := cmpS (F := fun q => m_X6_isField_2_l17 a (p (a + 16) e + x) w q p) (f := fun x => S 1 (u + (x : Int))) (b := b) hl (fun y hx => by
      unfold m_X6_isField_2_l17
      rw [q_slen hs, Option.bind_some]
      by_cases hx2 : b.length ≤ y
      · rw [if_pos (by omega), if_pos hx2]
      · rw [if_neg (by omega), if_neg hx2]
        have hb : b[y]? = some b[y] := List.getElem?_eq_getElem (by omega)
        simp only [k16.1, k16.2.1, k16.2.2, kc.1, kc.2.1, kc.2.2, c2]
        rw [e32 (x := u + (y : Int)) (by omega) (by omega)]
        rw [gd_t ⟨by decide, by omega, by omega⟩, gd_t ⟨by decide, by omega, by omega⟩, q_sat hs hb, Option.bind_some, tx _ (by omega) (by omega)]
        exact ite_p _ (some_at (by omega)))
    have e : (List.range b.length).map (fun x : Nat => S 1 (u + (x : Int))) = wr (S 1) u z := by
      unfold wr
      rw [show (z - u).toNat = b.length by omega]
    rw [e] at L
    exact L
  · rw [if_neg hc]
    congr 1
    unfold eqW
    rw [if_neg]
    intro y
    have := congrArg List.length y
    rw [wr_len] at this
    omega
theorem c_fieldOf6 {S p : Hp} {a n N E F M e w : Int} {s : Int → List Int} {b : List Int} (hs : strB w = some b) (hL : LAY p) (ha : a ∈ in_aX6) (R : SA S p a n N s E F M) (e0 : 0 ≤ e) (e1 : e < E) :
    m_X6_fieldOf a e w p = some (if fdX S e b < 0 then -1 else p (a + 16) e + fdX S e b) := by
  have E5 := R.2.2.1.2.2.1
  have n1 := R.1.2.1
  have Fn := R.2.2.1.2.2.2.2.1
  obtain ⟨r1, r2, r3, r4, r5, r6⟩ := R.2.2.2.2.1 e e0 e1
  have k14 := g_X6_14 hL ha
  have k15 := g_X6_15 hL ha
  have fi := fdX_is (S := S) (e := e) (w := b) r3
  refine z_eq ?_
  have go : Pz (m_X6_fieldOf_j25 a e w (p (a + 16) (e + 1)) p) (fun r => r = if fdX S e b < 0 then -1 else p (a + 16) e + fdX S e b) := by
    unfold m_X6_fieldOf_j25
    simp only [k14.1, k14.2.1, k14.2.2]
    refine z_gd ⟨by decide, e0, by omega⟩ (z_lt (z_bind (z_mono (z_lp (Q := fun r => r = if fdX S e b < 0 then -1 else p (a + 16) e + fdX S e b) (fun y : Int => p (a + 16) e ≤ y ∧ y ≤ p (a + 16) e + S 10 e ∧ ∀ z, 0 ≤ z → p (a + 16) e + z < y → wr (S 1) (S 13 (6 * e + z)) (S 14 (6 * e + z)) ≠ b) (fun y => (p (a + 16) e + S 10 e - y).toNat) ⟨Int.le_refl _, by omega, fun z z0 z1 => by omega⟩ ?_) (fun r hr => z_some hr))))
    rintro y ⟨y0, y1, yn⟩
    show Pz (m_X6_fieldOf_l34 a w (p (a + 16) (e + 1)) y p) _
    unfold m_X6_fieldOf_l34
    simp only [k15.1, k15.2.1, k15.2.2]
    by_cases hy : p (a + 16) (e + 1) ≤ y
    · refine z_it hy (z_some ?_)
      have : isFd S e b (-1) := Or.inl ⟨rfl, fun z z0 z1 => yn z z0 (by omega)⟩
      rw [isFd.uniq fi this]
      rfl
    · refine z_ie hy (z_gd ⟨by decide, by omega, by omega⟩ ?_)
      obtain ⟨⟨c1, c2, -, -, -, c6⟩, -⟩ := r6 (y - p (a + 16) e) (by omega) (by omega)
      rw [show p (a + 16) e + (y - p (a + 16) e) = y by omega] at c1 c2 c6
      refine z_eqW (q_isName6 hs hL ha R.2.1.1 c1 c2) (fun hq => ?_) (fun hq => ?_)
      · refine z_ie (by decide) (z_some ?_)
        have : isFd S e b (y - p (a + 16) e) := Or.inr ⟨by omega, by omega, by rw [← c6]; exact hq, fun z z0 z1 => yn z z0 (by omega)⟩
        show y = (if fdX S e b < 0 then -1 else p (a + 16) e + fdX S e b)
        rw [isFd.uniq fi this, if_neg (show ¬ y - p (a + 16) e < 0 by omega)]
        omega
      · refine z_it rfl (z_lt (z_some ?_))
        rw [e32 (by omega) (by omega)]
        refine ⟨⟨by omega, by omega, fun z z0 z1 => ?_⟩, by omega⟩
        by_cases hz : p (a + 16) e + z = y
        · rw [show z = y - p (a + 16) e by omega, ← c6]; exact hq
        · exact yn z z0 (by omega)
  unfold m_X6_fieldOf
  rw [R.2.2.1.1, e32 (x := e + 1) (by omega) (by omega)]
  by_cases hE : E ≤ e + 1
  · rw [if_pos hE]
    have : e + 1 = E := by omega
    rw [this, R.2.2.1.2.2.2.2.2.2] at go
    rw [R.2.2.1.2.2.2.1]
    exact go
  · rw [if_neg hE]
    simp only [k14.1, k14.2.1, k14.2.2]
    exact z_gd ⟨by decide, by omega, by omega⟩ go
theorem c_byId {S p : Hp} {a n N E F M t f k : Int} {s : Int → List Int} (hL : LAY p) (ha : a ∈ in_aX6) (R : SA S p a n N s E F M) (t1 : p t (-2) % 16 = 2) (f0 : 0 ≤ f) (k0 : 0 ≤ k) (f1 : f + k ≤ p t (-1)) (f2 : f + k ≤ 100000) :
    m_X6_byId a t f k p = some (byI S E (wr (p t) f (f + k))) := by
  have E0 := R.2.2.1.2.1
  have E5 := R.2.2.1.2.2.1
  refine z_eq ?_
  unfold m_X6_byId
  refine z_lt (z_bind (z_mono (z_lp (Q := fun r => r = byI S E (wr (p t) f (f + k))) (fun y : Int => 0 ≤ y ∧ y ≤ E ∧ byI S E (wr (p t) f (f + k)) = byS S E (wr (p t) f (f + k)) (E - y).toNat y) (fun y => (E - y).toNat) ⟨Int.le_refl _, E0, by rw [Int.sub_zero]; rfl⟩ ?_) (fun r hr => z_some hr)))
  rintro y ⟨y0, y1, yn⟩
  show Pz (m_X6_byId_l3 a t f k y p) _
  unfold m_X6_byId_l3
  rw [R.2.2.1.1]
  by_cases hy : E ≤ y
  · refine z_it hy (z_some ?_)
    have : (E - y).toNat = 0 := by omega
    rw [yn, this]
    rfl
  · refine z_ie hy ?_
    have st : byS S E (wr (p t) f (f + k)) (E - y).toNat y = if 0 ≤ fdX S y [105, 100] ∧ fdV S y (fdX S y [105, 100]) = wr (p t) f (f + k) then y else byS S E (wr (p t) f (f + k)) (E - (y + 1)).toNat (y + 1) := by
      rw [show (E - y).toNat = (E - (y + 1)).toNat + 1 by omega]
      show (if E ≤ y then -1 else _) = _
      rw [if_neg hy]
    rw [st] at yn
    have go : ¬ (0 ≤ fdX S y [105, 100] ∧ fdV S y (fdX S y [105, 100]) = wr (p t) f (f + k)) → Pz (m_X6_byId_j42 y) (sE (fun y' : Int => (0 ≤ y' ∧ y' ≤ E ∧ byI S E (wr (p t) f (f + k)) = byS S E (wr (p t) f (f + k)) (E - y').toNat y') ∧ (E - y').toNat < (E - y).toNat) (fun r => r = byI S E (wr (p t) f (f + k)))) := fun hn => by
      unfold m_X6_byId_j42
      rw [e32 (by omega) (by omega)]
      refine z_lt (z_some ⟨⟨by omega, by omega, ?_⟩, by omega⟩)
      rw [yn, if_neg hn]
    have r3 := (R.2.2.2.2.1 y y0 (by omega)).2.2.1
    rw [c_fieldOf6 (b := [105, 100]) (by decide) hL ha R y0 (by omega), Option.bind_some]
    rcases fdX_r (S := S) (e := y) (w := [105, 100]) r3 with hx | ⟨hx0, hx1⟩
    · rw [if_pos (show fdX S y [105, 100] < 0 by omega)]
      exact z_it (by decide) (go (fun z => by omega))
    · have r1 := (R.2.2.2.2.1 y y0 (by omega)).1
      rw [if_neg (show ¬ fdX S y [105, 100] < 0 by omega)]
      refine z_ie (by omega) (z_bind (z_mono (c_isField hL ha R y0 (by omega) hx0 hx1 t1 f0 k0 f1 f2) (fun v hv => ?_)))
      rcases hv with ⟨rfl, hv⟩ | ⟨rfl, hv⟩
      · refine z_ie (by decide) (z_some ?_)
        rw [if_pos ⟨hx0, hv⟩] at yn
        exact yn.symm
      · exact z_it rfl (go (fun z => hv z.2))
