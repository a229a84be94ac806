set_option maxRecDepth 100000
/-! SOURCES: steps of both readers; entities -/
theorem y_name {α β : Type} {h1 h2 hc ht : Hp} {n : Int} {B T : Int → Int} {a l x : Int} {f f' : Int → Hp → Option α} {g g' : Int → Hp → Option β} {Q : α → β → Prop} (ha : a ∈ in_aX6) (hl : l ∈ in_aX23) (S : SZ h1 h2 n B T a l hc ht) (ec : hc a 2 = x) (x0 : 0 ≤ x) (x1 : x ≤ n)
    (K1 : nmA B x → x < sc B isNm x → sc B isNm x ≤ n → Pr (f (sc B isNm x) hc) (g (sc B isNm x) ht) Q) (K0 : ∀ b h' b' h'', ZO h1 h2 n a l ((1, b), h') ((1, b'), h'') → Pr (f' b h') (g' b' h'') Q) : Pr (bT (m_X6_nameEnd a hc) f f') (bT (m_X23_nameAt l x ht) g g') Q := by
  have h6 := aX6 ha
  have eB := S.1.2.2.2.1
  obtain ⟨rc, e1, c1⟩ := c_nameEnd6 S.1.2.2.1 S.1.2.1 (by omega) (by omega) x0 x1 ec
  obtain ⟨rt, e2, c2⟩ := t_nameAt23 S.2.1.2.2.1 S.2.1.2.1 x0 x1
  rw [eB] at c1
  rw [S.2.1.2.2.2.1] at c2
  obtain ⟨⟨s1, s2, s3⟩, s4, s5⟩ := sc_spec (B := B) (p := isNm) (n := n) (i := x) (fun x hx => by rw [← eB]; exact nmEnd hx) x1
  rcases c1 with ⟨a1, rfl⟩ | ⟨a1, z1⟩
  · rcases c2 with ⟨b1, rfl⟩ | ⟨b1, z2⟩
    · rw [bT_0 e1 rfl, bT_0 e2 rfl]
      refine K1 a1 ?_ s5
      rcases Int.lt_or_eq_of_le s4 with z | z
      · exact z
      · rw [← z, nmOr, a1.1] at s3; exact absurd s3 (by simp)
    · exact absurd a1 b1
  · rcases c2 with ⟨b1, rfl⟩ | ⟨b1, z2⟩
    · exact absurd b1 a1
    · rw [bT_1 e1 (by rw [z1.1]; decide), bT_1 e2 (by rw [z2.1]; decide)]
      exact K0 _ _ _ _ (by rw [z1.one, z2.one]; exact sz_thr ha hl S x0 x1 z1 z2)
theorem al_g {h : Hp} {p : Int} (rm : RM h 1 7) : ∃ b h', (∀ {β : Type} (g : Int → Hp → Option β), (al h 448 7 fun b h0 => (x_broken b p h0).bind fun h8 => g b h8) = g b h') ∧ Thr 448 p h ((1, b), h') := by
  obtain ⟨⟨b, h'⟩, e, z⟩ := z_brk (K := 448) (p := p) (f := fun b h' => some (b, h')) (Q := fun r => Thr 448 p h ((1, r.1), r.2)) rm (fun b h' z => z_some z)
  refine ⟨b, h', fun g => ?_, z⟩
  have : (al h 448 7 fun b h0 => (x_broken b p h0).bind fun h8 => g b h8) = (al h 448 7 fun b h0 => (x_broken b p h0).bind fun h8 => some (b, h8)).bind (fun r => g r.1 r.2) := by
    rw [al_bind]
    congr 1
    funext b h0
    rw [Option.bind_assoc]
    rfl
  rw [this, e, Option.bind_some]
theorem bW_g {h : Hp} {a n i : Int} (rm : RM h 1 7) (a1 : 1 ≤ a) (a2 : a ≤ 982) (en : h a 1 = n) (ei : h a 2 = i) (hi : i ≤ n) : ∃ b h', (∀ {β : Type} (g : Int → Hp → Option β), (bW (m_X6_broken a h) fun v h9 => gd (0 < v) (g v h9)) = g b h') ∧ Thr 432 i h ((1, b), h') := by
  obtain ⟨⟨b, h'⟩, e, z⟩ := c_brk6 (f := fun b h' => some (b, h')) (Q := fun r => Thr 432 i h ((1, r.1), r.2)) rm a1 a2 en ei hi (fun b h' z => z_some z)
  unfold bW gd at e
  cases hm : m_X6_broken a h with
  | none => rw [hm] at e; exact absurd e (by simp)
  | some r =>
    rw [hm, Option.bind_some] at e
    dsimp only at e
    by_cases c : 0 < r.1
    · rw [if_pos c] at e
      obtain ⟨r1, r2⟩ := r
      cases e
      exact ⟨_, _, fun g => by unfold bW gd; rw [Option.bind_some]; exact if_pos c, z⟩
    · rw [if_neg c] at e; exact absurd e (by simp)
/-- both are broken here -/
theorem y_brk {α β : Type} {h1 h2 hc ht : Hp} {n : Int} {B T : Int → Int} {a l x : Int} {f : Int → Hp → Option α} {g : Int → Hp → Option β} {Q : α → β → Prop} (ha : a ∈ in_aX6) (hl : l ∈ in_aX23) (S : SZ h1 h2 n B T a l hc ht) (ec : hc a 2 = x) (x0 : 0 ≤ x) (x1 : x ≤ n)
    (K : ∀ b h' b' h'', ZO h1 h2 n a l ((1, b), h') ((1, b'), h'') → Pr (f b h') (g b' h'') Q) : Pr (bW (m_X6_broken a hc) fun v h9 => gd (0 < v) (f v h9)) (al ht 448 7 fun b h0 => (x_broken b x h0).bind fun h8 => g b h8) Q := by
  have h6 := aX6 ha
  obtain ⟨b, h', e1, z1⟩ := bW_g S.1.2.1 (by omega) (by omega) S.1.2.2.1.2.1 ec x1
  obtain ⟨b', h'', e2, z2⟩ := al_g (p := x) S.2.1.2.1
  rw [e1, e2]
  exact K _ _ _ _ (sz_thr ha hl S x0 x1 z1 z2)
/-- both need the byte c -/
theorem y_nd {α β : Type} {h1 h2 hc ht : Hp} {n : Int} {B T : Int → Int} {a l x y c : Int} {A : Option α} {f : Int → Hp → Option α} {g g' : Int → Hp → Option β} {Q : α → β → Prop} (ha : a ∈ in_aX6) (hl : l ∈ in_aX23) (S : SZ h1 h2 n B T a l hc ht) (ec : hc a 2 = x) (ey : y = x) (x0 : 0 ≤ x) (x1 : x ≤ n)
    (K1 : B x = c → Pr A (g 0 ht) Q) (K0 : ∀ b h' b' h'', ZO h1 h2 n a l ((1, b), h') ((1, b'), h'') → Pr (f b h') (g' b' h'') Q) : Pr ((m_X6_byteAt a y hc).bind fun v => if v = c then A else bW (m_X6_broken a hc) fun v h9 => gd (0 < v) (f v h9)) (bT (m_X23_need l x c ht) g g') Q := by
  have h6 := aX6 ha
  subst ey
  rw [q_X6_byteAt S.1.2.2.1 x0, Option.bind_some, S.1.2.2.2.1]
  obtain ⟨rt, e2, c2⟩ := t_need23 (c := c) S.2.1.2.2.1 S.2.1.2.1 x0
  rw [S.2.1.2.2.2.1] at c2
  rcases c2 with ⟨b1, rfl⟩ | ⟨b1, z2⟩
  · rw [bT_0 e2 rfl, if_pos b1]; exact K1 b1
  · obtain ⟨b, h', e1, z1⟩ := bW_g S.1.2.1 (by omega) (by omega) S.1.2.2.1.2.1 ec x1
    rw [bT_1 e2 (by rw [z2.1]; decide), if_neg b1, e1]
    exact K0 _ _ _ _ (by rw [z2.one]; exact sz_thr ha hl S x0 x1 z1 z2)
theorem y_string {α β : Type} {h1 h2 hc ht : Hp} {n : Int} {B T : Int → Int} {a l x : Int} {f f' : Int → Hp → Option α} {g g' : Int → Hp → Option β} {Q : α → β → Prop} (ha : a ∈ in_aX6) (hl : l ∈ in_aX23) (S : SZ h1 h2 n B T a l hc ht) (ec : hc a 2 = x) (x0 : 0 ≤ x) (x1 : x ≤ n)
    (K1 : stA B x → x + 1 ≤ sc B isSt (x + 1) → sc B isSt (x + 1) < n → Pr (f (sc B isSt (x + 1) - x - 1) hc) (g (sc B isSt (x + 1) + 1) ht) Q) (K0 : ∀ b h' b' h'', ZO h1 h2 n a l ((1, b), h') ((1, b'), h'') → Pr (f' b h') (g' b' h'') Q) : Pr (bT (m_X6_string a hc) f f') (bT (m_X23_stringAt l x ht) g g') Q := by
  have h6 := aX6 ha
  have eB := S.1.2.2.2.1
  obtain ⟨rc, e1, c1⟩ := c_string6 S.1.2.2.1 S.1.2.1 (by omega) (by omega) x0 x1 ec
  obtain ⟨rt, e2, c2⟩ := t_stringAt23 S.2.1.2.2.1 S.2.1.2.1 x0 x1
  rw [eB] at c1
  rw [S.2.1.2.2.2.1] at c2
  rcases c1 with ⟨a1, rfl⟩ | ⟨a1, z1⟩
  · rcases c2 with ⟨b1, rfl⟩ | ⟨b1, z2⟩
    · rw [bT_0 e1 rfl, bT_0 e2 rfl]
      have hx : x < n := by
        have := a1.1
        rw [← eB] at this
        exact Bt_n (h := hc) (t := a + 1) (by omega)
      have he : sc B isSt (x + 1) < n := by
        have := a1.2
        rw [← eB] at this
        rw [← eB]
        exact Bt_n (h := hc) (t := a + 1) (by omega)
      obtain ⟨-, s4, s5⟩ := sc_spec (B := B) (p := isSt) (n := n) (i := x + 1) (fun x hx => by rw [← eB]; exact stEnd hx) (by omega)
      exact K1 a1 s4 he
    · exact absurd a1 b1
  · rcases c2 with ⟨b1, rfl⟩ | ⟨b1, z2⟩
    · exact absurd b1 a1
    · rw [bT_1 e1 (by rw [z1.1]; decide), bT_1 e2 (by rw [z2.1]; decide)]
      exact K0 _ _ _ _ (by rw [z1.one, z2.one]; exact sz_thr ha hl S x0 x1 z1 z2)
/-- blanks -/
theorem y_blanks {α β : Type} {h1 h2 hc ht : Hp} {n : Int} {B T : Int → Int} {a l x : Int} {f : Hp → Option α} {g : Int → Option β} {Q : α → β → Prop} (ha : a ∈ in_aX6) (S : SZ h1 h2 n B T a l hc ht) (ec : hc a 2 = x) (x0 : 0 ≤ x) (x1 : x ≤ n)
    (K : x ≤ sc B isBl x → sc B isBl x ≤ n → SZ h1 h2 n B T a l (up hc a 2 (sc B isBl x)) ht → Pr (f (up hc a 2 (sc B isBl x))) (g (sc B isBl x)) Q) : Pr ((m_X6_blanks a hc).bind f) ((m_X23_skip l x ht).bind g) Q := by
  have h6 := aX6 ha
  have eB := S.1.2.2.2.1
  obtain ⟨-, s4, s5⟩ := sc_spec (B := B) (p := isBl) (n := n) (i := x) (fun x hx => by rw [← eB]; exact blEnd hx) x1
  rw [z_X6_blanks S.1.2.2.1 x0 x1 ec, q_X23_skip S.2.1.2.2.1 x0 x1, Option.bind_some, Option.bind_some, eB, S.2.1.2.2.2.1]
  exact K s4 s5 (S.goL ha (F2.refl.put (by unfold srP; omega)))
