set_option maxRecDepth 100000
/-! SOURCES: a source is read -/
/-- nothing read yet -/
theorem RS_0 {T : Int → Int} {n : Int} {p q : Hp} {a l : Int} (hL : LAY p) (ha : a ∈ in_aX6) (n1 : p (a + 2) 1 = 0) (n3 : p (a + 2) 3 = 0) (n2 : ∀ x, 0 ≤ x → x < 128 → p (a + 4) x = -1) (m1 : p (a + 23) 1 = 0) (m3 : p (a + 23) 3 = 0) (m2 : ∀ x, 0 ≤ x → x < 128 → p (a + 25) x = -1)
    (a4 : p a 4 = 0) (a18 : p a 18 = 0) (a19 : p a 19 = 0) (a20 : p a 20 = -1) (a24 : p a 24 = 0) (a29 : p a 29 = 0) (l2 : q l 2 = 0) (l3 : q l 3 = 0) (l4 : q l 4 = 0) (l26 : q l 26 = -1) (l27 : q l 27 = 0) : RS T n 0 (fun _ => []) 0 0 0 0 0 p q a l := by
  have ln := ly_X6n hL ha
  refine ⟨⟨NM_0 n1 n3 (fun x x0 x1 => ?_) ?_ ?_, by omega, Int.le_refl _⟩, ⟨a4, l3, Int.le_refl _, by decide, a18, fun _ => rfl, ⟨Int.le_refl _, fun e x0 x1 => by omega⟩, fun e x0 x1 => by omega, a19, a20⟩, ⟨a24, l2, Int.le_refl _, Int.le_refl _, fun m x0 x1 => by omega, fun m x0 x1 => by omega, fun m x0 x1 => by omega, fun m x0 x1 => by omega, fun m hm => ?_, fun m hm => by omega⟩, ⟨a29, l27, Int.le_refl _, by decide, l26, fun _ => l26, fun z => by omega, fun d x0 x1 => by omega, fun e x0 x1 => by omega⟩, 0, fun _ => [], NM_0 m1 m3 (fun x x0 x1 => ?_) ?_ ?_, by omega, l4, by decide, fun k x0 x1 => by omega⟩
  · rw [show a + 2 + 2 = a + 4 by omega]; exact n2 x x0 x1
  · rw [show a + 2 + 3 = a + 5 by omega, ln.1]; decide
  · rw [show a + 2 + 4 = a + 6 by omega, ln.2.1]; decide
  · have : m = 0 := by omega
    subst this
    show -1 ≤ (-1 : Int) ∧ (-1 : Int) < 0
    decide
  · rw [show a + 23 + 2 = a + 25 by omega]; exact m2 x x0 x1
  · rw [show a + 23 + 3 = a + 26 by omega, ln.2.2.1]; decide
  · rw [show a + 23 + 4 = a + 27 by omega, ln.2.2.2]; decide
/-- two sources alike, at rest -/
def SRr (n : Int) (p q : Hp) (a l : Int) : Prop := ∃ N s E F M, 0 ≤ n ∧ n ≤ 3000 ∧ p a 1 = n ∧ q l 1 = n ∧ (∀ j, 0 ≤ j → j < n → p (a + 1) j = q (l + 1) j) ∧ BY p (a + 1) n ∧ RS (q (l + 1)) n N s E F M 0 n p q a l ∧ p (a + 16) E = F
def srP1 (a : Int) : Int → Int → Prop := fun b j => srP a b j ∨ (b = a ∧ j = 1)
def srQ1 (l : Int) : Int → Int → Prop := fun b j => srQ l b j ∨ (b = l ∧ (j = 1 ∨ j = 5)) ∨ (b = l + 1 ∧ 0 ≤ j)
/-- what comes of reading a source -/
def SRo (hc ht : Hp) (n a l : Int) (rc rt : (Int × Int) × Hp) : Prop :=
  (rc.1 = (0, 0) ∧ rt.1 = (0, 0) ∧ LAY rc.2 ∧ LAY rt.2 ∧ F2 (srP1 a) hc rc.2 ∧ F2 (srQ1 l) ht rt.2 ∧ rt.2 l 5 = 1 ∧ SRr n rc.2 rt.2 a l) ∨ ∃ p, 0 ≤ p ∧ p ≤ n ∧ ThF 432 p (srP1 a) hc rc ∧ ThF 448 p (srQ1 l) ht rt
theorem srP1_l {h h' : Hp} {a : Int} (hL : LAY h) (ha : a ∈ in_aX6) (f : F2 (srP1 a) h h') : LAY h' := by
  have key : ∀ b j, srP1 a b j → 0 ≤ j ∧ ((∃ r ∈ [(a + 3, a + 22), (a + 24, a + 30)], r.1 ≤ b ∧ b ≤ r.2) ∨ ∃ e ∈ [(a, [1, 2, 4, 18, 19, 20, 24, 29]), (a + 2, [1, 3]), (a + 23, [1, 3])], b = e.1 ∧ j ∈ e.2) := by
    intro b j z
    have j0 : 0 ≤ j := by unfold srP1 srP at z; omega
    refine ⟨j0, ?_⟩
    rcases z with (⟨rfl, z⟩ | ⟨z1, z⟩ | ⟨z, -⟩) | ⟨rfl, z⟩
    · exact Or.inr ⟨(b, [1, 2, 4, 18, 19, 20, 24, 29]), by simp, rfl, by simp; omega⟩
    · rcases z1 with rfl | rfl
      · exact Or.inr ⟨(a + 2, [1, 3]), by simp, rfl, by simp; omega⟩
      · exact Or.inr ⟨(a + 23, [1, 3]), by simp, rfl, by simp; omega⟩
    · rcases z with z | z
      · exact Or.inl ⟨(a + 3, a + 22), by simp, z⟩
      · exact Or.inl ⟨(a + 24, a + 30), by simp, z⟩
    · exact Or.inr ⟨(b, [1, 2, 4, 18, 19, 20, 24, 29]), by simp, rfl, by simp; omega⟩
  refine lay_W hL f _ _ ?_ ?_ key
  · rcases aX6 ha with rfl | rfl | rfl <;> decide +kernel
  · rcases aX6 ha with rfl | rfl | rfl <;> decide +kernel
theorem srQ1_l {h h' : Hp} {l : Int} (hL : LAY h) (hl : l ∈ in_aX23) (f : F2 (srQ1 l) h h') : LAY h' := by
  have key : ∀ b j, srQ1 l b j → 0 ≤ j ∧ ((∃ r ∈ [(l + 1, l + 20)], r.1 ≤ b ∧ b ≤ r.2) ∨ ∃ e ∈ [(l, [1, 2, 3, 4, 5, 25, 26, 27])], b = e.1 ∧ j ∈ e.2) := by
    intro b j z
    have j0 : 0 ≤ j := by unfold srQ1 srQ at z; omega
    refine ⟨j0, ?_⟩
    rcases z with (⟨rfl, z⟩ | ⟨z1, z2, -⟩) | ⟨rfl, z⟩ | ⟨rfl, z⟩
    · exact Or.inr ⟨(b, [1, 2, 3, 4, 5, 25, 26, 27]), by simp, rfl, by simp; omega⟩
    · exact Or.inl ⟨(l + 1, l + 20), by simp, by dsimp only; omega, z2⟩
    · exact Or.inr ⟨(b, [1, 2, 3, 4, 5, 25, 26, 27]), by simp, rfl, by simp; omega⟩
    · exact Or.inl ⟨(l + 1, l + 20), by simp, by dsimp only; omega, by dsimp only; omega⟩
  refine lay_W hL f _ _ ?_ ?_ key
  · simp only [in_aX23, List.mem_cons, List.not_mem_nil, or_false] at hl
    rcases hl with rfl | rfl | rfl | rfl | rfl <;> decide +kernel
  · simp only [in_aX23, List.mem_cons, List.not_mem_nil, or_false] at hl
    rcases hl with rfl | rfl | rfl | rfl | rfl <;> decide +kernel
theorem t_copy23 {h : Hp} {l u n : Int} (hL : LAY h) (hl : l ∈ in_aX23) (u1 : h u (-2) % 16 = 2) (u2 : n ≤ h u (-1)) (hu : u ≠ l + 1) (n0 : 0 ≤ n) (n1 : n ≤ 4000) : Pz (lp (fun (q : Int × Hp) => m_X23_read_l12 l u n q.1 q.2) (0, h)) (fun h' => F2 (fun b j => b = l + 1 ∧ 0 ≤ j) h h' ∧ ∀ j, 0 ≤ j → j < n → h' (l + 1) j = h u j) := by
  have h22 := aX23 hl
  refine z_fill (g := h u) (n := n) (d := l + 1) (s := 0) n0 (fun x q x0 x1 F => ?_) (fun q F E => ?_)
  · have F' : F2 (fun b j => b = l + 1 ∧ 0 ≤ j) h q := F.mono (fun b j z => ⟨z.1, z.2.1⟩)
    have k := g_X23_0 (srQ1_l hL hl (F'.mono (fun b j z => Or.inr (Or.inr z)))) hl
    have ru : q u = h u := F'.row (fun j z => hu z.1)
    show m_X23_read_l12 l u n x q = _
    unfold m_X23_read_l12 gd pt lt_
    simp only [k.1, k.2.1, k.2.2, ru]
    rw [if_neg (by omega), if_pos ⟨u1, x0, by omega⟩, if_pos ⟨by decide, x0, by omega⟩, e32 (by omega) (by omega), Int.zero_add]
  · show Pz (m_X23_read_l12 l u n n q) _
    unfold m_X23_read_l12
    exact z_it (Int.le_refl n) (z_some ⟨F.mono (fun b j z => ⟨z.1, z.2.1⟩), fun j j0 j1 => by
      have := E j j0 j1
      rwa [Int.zero_add] at this⟩)
/-- the component begins -/
theorem c_src0 {h : Hp} {a n : Int} (hL : LAY h) (ha : a ∈ in_aX6) :
    ∃ g, (∀ {β : Type} (K : Hp → Option β), (pt h a 1 n fun h2 =>
  pt h2 a 2 0 fun h7 =>
  gd (h7 (h7 a 3) (-2) = 64) ((m_X4_clear (h7 a 3) h7).bind fun h14 =>
  gd (h14 (h14 a 25) (-2) = 64) ((m_X4_clear (h14 a 25) h14).bind fun h21 =>
  pt h21 a 4 0 fun h26 =>
  pt h26 a 18 0 fun h31 =>
  pt h31 a 19 0 fun h36 =>
  pt h36 a 20 (-1) fun h41 =>
  pt h41 a 24 0 fun h46 =>
  pt h46 a 29 0 fun h51 => K h51))) = K g) ∧ LAY g ∧ F2 (srP a) (up h a 1 n) g ∧ (g (a + 2) 1 = 0 ∧ g (a + 2) 3 = 0 ∧ ∀ x, 0 ≤ x → x < 128 → g (a + 4) x = -1) ∧ (g (a + 23) 1 = 0 ∧ g (a + 23) 3 = 0 ∧ ∀ x, 0 ≤ x → x < 128 → g (a + 25) x = -1) ∧ g a 1 = n ∧ g a 2 = 0 ∧ g a 4 = 0 ∧ g a 18 = 0 ∧ g a 19 = 0 ∧ g a 20 = -1 ∧ g a 24 = 0 ∧ g a 29 = 0 := by
  have h6 := aX6 ha
  have hm := aX6n ha
  have L0 : LAY (up h a 1 n) := srP1_l hL ha (F2.refl.put (Or.inr ⟨rfl, rfl⟩))
  have f0 : F2 (srP a) (up h a 1 n) (up (up h a 1 n) a 2 0) := F2.refl.put (by unfold srP; omega)
  have L1 := srP_l L0 ha f0
  have k3 := g_X6_3 L1 ha
  obtain ⟨g1, e1, c1, c2, c3, c4⟩ := c_clr4 L1 hm.1
  have f1 : F2 (srP a) (up h a 1 n) g1 := f0.trans (c1.mono (fun b j z => by unfold srP; omega))
  have L2 := srP_l L0 ha f1
  have k25 := g_X6_25 L2 ha
  obtain ⟨g2, e2, d1, d2, d3, d4⟩ := c_clr4 L2 hm.2
  have f2 : F2 (srP a) (up h a 1 n) g2 := f1.trans (d1.mono (fun b j z => by unfold srP; omega))
  refine ⟨up (up (up (up (up (up g2 a 4 0) a 18 0) a 19 0) a 20 (-1)) a 24 0) a 29 0, fun K => ?_, ?_, ?_, ⟨?_, ?_, fun x x0 x1 => ?_⟩, ⟨?_, ?_, fun x x0 x1 => ?_⟩, ?_, ?_, ?_, ?_, ?_, ?_, ?_, ?_⟩
  · rw [pt_e, pt_e, k3.1, gd_t k3.2.1, e1, Option.bind_some, k25.1, gd_t k25.2.1, e2, Option.bind_some]
    rfl
  · refine srP_l L0 ha (f2.trans ?_)
    repeat' first
      | exact F2.refl
      | refine F2.put ?_ (by unfold srP; omega)
  · refine f2.trans ?_
    repeat' first
      | exact F2.refl
      | refine F2.put ?_ (by unfold srP; omega)
  · (try simp (disch := omega) only [up_a, up_e, up_j, e32, e8]); rw [d1 _ _ (by omega)]; exact c2
  · (try simp (disch := omega) only [up_a, up_e, up_j, e32, e8]); rw [d1 _ _ (by omega)]; exact c3
  · (try simp (disch := omega) only [up_a, up_e, up_j, e32, e8]); rw [d1 _ _ (by omega)]
    have := c4 x x0 x1
    rwa [show a + 2 + 2 = a + 4 by omega] at this
  · (try simp (disch := omega) only [up_a, up_e, up_j, e32, e8]); exact d2
  · (try simp (disch := omega) only [up_a, up_e, up_j, e32, e8]); exact d3
  · (try simp (disch := omega) only [up_a, up_e, up_j, e32, e8])
    have := d4 x x0 x1
    rwa [show a + 23 + 2 = a + 25 by omega] at this
  · (try simp (disch := omega) only [up_a, up_e, up_j, e32, e8]); rw [d1 _ _ (by omega), c1 _ _ (by omega)]; (try simp (disch := omega) only [up_a, up_e, up_j, e32, e8])
  · (try simp (disch := omega) only [up_a, up_e, up_j, e32, e8]); rw [d1 _ _ (by omega), c1 _ _ (by omega)]; (try simp (disch := omega) only [up_a, up_e, up_j, e32, e8])
  · (try simp (disch := omega) only [up_a, up_e, up_j, e32, e8])
  · (try simp (disch := omega) only [up_a, up_e, up_j, e32, e8])
  · (try simp (disch := omega) only [up_a, up_e, up_j, e32, e8])
  · (try simp (disch := omega) only [up_a, up_e, up_j, e32, e8])
  · (try simp (disch := omega) only [up_a, up_e, up_j, e32, e8])
  · (try simp (disch := omega) only [up_a, up_e, up_j, e32, e8])
theorem ZO.out {h1 h2 hc ht : Hp} {n a l : Int} {rc rt : (Int × Int) × Hp} (ha : a ∈ in_aX6) (hl : l ∈ in_aX23) (z : ZO h1 h2 n a l rc rt) (f1 : F2 (srP1 a) hc h1) (f2 : F2 (srQ1 l) ht h2) : ∃ p, 0 ≤ p ∧ p ≤ n ∧ ThF 432 p (srP1 a) hc rc ∧ ThF 448 p (srQ1 l) ht rt := by
  have h6 := aX6 ha
  have h23 := aX23 hl
  obtain ⟨p, p0, p1, z1, z2⟩ := z
  refine ⟨p, p0, p1, ThF.trans f1 (z1.mono (fun b j z => Or.inl z)) ?_, ThF.trans f2 (z2.mono (fun b j z => Or.inl z)) ?_⟩
  · intro j z; unfold srP1 srP at z; omega
  · intro j z; unfold srQ1 srQ at z; omega
