set_option maxRecDepth 100000
/-! SOURCES: both readers -/
theorem aX6 {a : Int} (h : a ∈ in_aX6) : a = 90 ∨ a = 121 ∨ a = 152 := by
  simp only [in_aX6, List.mem_cons, List.not_mem_nil, or_false] at h
  exact h
theorem aX6n {a : Int} (h : a ∈ in_aX6) : a + 2 ∈ in_aX4 ∧ a + 23 ∈ in_aX4 := by
  rcases aX6 h with rfl | rfl | rfl <;> decide
theorem aX23 {l : Int} (h : l ∈ in_aX23) : 579 ≤ l ∧ l ≤ 827 := by
  simp only [in_aX23, List.mem_cons, List.not_mem_nil, or_false] at h
  omega
/-- what reading a source may write; without the text and its length -/
def srP (a : Int) : Int → Int → Prop := fun b j => (b = a ∧ (j = 2 ∨ j = 4 ∨ j = 18 ∨ j = 19 ∨ j = 20 ∨ j = 24 ∨ j = 29)) ∨ ((b = a + 2 ∨ b = a + 23) ∧ (j = 1 ∨ j = 3)) ∨ ((a + 3 ≤ b ∧ b ≤ a + 22 ∨ a + 24 ≤ b ∧ b ≤ a + 30) ∧ 0 ≤ j)
def srQ (l : Int) : Int → Int → Prop := fun b j => (b = l ∧ (j = 2 ∨ j = 3 ∨ j = 4 ∨ j = 25 ∨ j = 26 ∨ j = 27)) ∨ (l + 2 ≤ b ∧ b ≤ l + 20 ∧ 0 ≤ j)
theorem srP_l {h h' : Hp} {a : Int} (hL : LAY h) (ha : a ∈ in_aX6) (f : F2 (srP a) h h') : LAY h' := by
  have key : ∀ b j, srP a b j → 0 ≤ j ∧ ((∃ r ∈ [(a + 3, a + 22), (a + 24, a + 30)], r.1 ≤ b ∧ b ≤ r.2) ∨ ∃ e ∈ [(a, [2, 4, 18, 19, 20, 24, 29]), (a + 2, [1, 3]), (a + 23, [1, 3])], b = e.1 ∧ j ∈ e.2) := by
    intro b j z
    have j0 : 0 ≤ j := by unfold srP at z; omega
    refine ⟨j0, ?_⟩
    rcases z with ⟨rfl, z⟩ | ⟨z1, z⟩ | ⟨z, -⟩
    · exact Or.inr ⟨(b, [2, 4, 18, 19, 20, 24, 29]), by simp, rfl, by simp; omega⟩
    · rcases z1 with rfl | rfl
      · exact Or.inr ⟨(a + 2, [1, 3]), by simp, rfl, by simp; omega⟩
      · exact Or.inr ⟨(a + 23, [1, 3]), by simp, rfl, by simp; omega⟩
    · rcases z with z | z
      · exact Or.inl ⟨(a + 3, a + 22), by simp, z⟩
      · exact Or.inl ⟨(a + 24, a + 30), by simp, z⟩
  refine lay_W hL f _ _ ?_ ?_ key
  · rcases aX6 ha with rfl | rfl | rfl <;> decide +kernel
  · rcases aX6 ha with rfl | rfl | rfl <;> decide +kernel
theorem srQ_l {h h' : Hp} {l : Int} (hL : LAY h) (hl : l ∈ in_aX23) (f : F2 (srQ l) h h') : LAY h' := by
  have key : ∀ b j, srQ l b j → 0 ≤ j ∧ ((∃ r ∈ [(l + 2, l + 20)], r.1 ≤ b ∧ b ≤ r.2) ∨ ∃ e ∈ [(l, [2, 3, 4, 25, 26, 27])], b = e.1 ∧ j ∈ e.2) := by
    intro b j z
    have j0 : 0 ≤ j := by unfold srQ at z; omega
    refine ⟨j0, ?_⟩
    rcases z with ⟨rfl, z⟩ | ⟨z1, z2, -⟩
    · exact Or.inr ⟨(b, [2, 3, 4, 25, 26, 27]), by simp, rfl, by simp; omega⟩
    · exact Or.inl ⟨(l + 2, l + 20), by simp, z1, z2⟩
  refine lay_W hL f _ _ ?_ ?_ key
  · simp only [in_aX23, List.mem_cons, List.not_mem_nil, or_false] at hl
    rcases hl with rfl | rfl | rfl | rfl | rfl <;> decide +kernel
  · simp only [in_aX23, List.mem_cons, List.not_mem_nil, or_false] at hl
    rcases hl with rfl | rfl | rfl | rfl | rfl <;> decide +kernel
/-- both readers, the heaps that they began with -/
def SZ (h1 h2 : Hp) (n : Int) (B T : Int → Int) (a l : Int) (hc ht : Hp) : Prop :=
  (LAY hc ∧ RM hc 1 7 ∧ TX hc a (a + 1) n ∧ Bt hc (a + 1) n = B ∧ F2 (srP a) h1 hc ∧ BY hc (a + 1) n) ∧ (LAY ht ∧ RM ht 1 7 ∧ TX ht l (l + 1) n ∧ Bt ht (l + 1) n = B ∧ F2 (srQ l) h2 ht ∧ ht (l + 1) = T) ∧ (∀ j, 0 ≤ j → j < n → hc (a + 1) j = T j) ∧ n ≤ 3000
theorem sc_in {B : Int → Int} {p : Int → Bool} {i x : Int} (h0 : i ≤ x) (h1 : x < sc B p i) : p (B x) = true := by
  unfold sc at h1
  split at h1
  · rename_i h
    exact (Classical.choose_spec h).2.1 x h0 h1
  · omega
/-- runs of plain bytes -/
theorem SZ.bok {h1 h2 hc ht : Hp} {n : Int} {B T : Int → Int} {a l y : Int} {p : Int → Bool} (S : SZ h1 h2 n B T a l hc ht) (hp : ∀ c, p c = true → 0 ≤ c ∧ c < 128) (y0 : 0 ≤ y) : bOK T y (sc B p y) := fun x x0 x1 => by
  have k := hp _ (sc_in x0 x1)
  have eB := S.1.2.2.2.1
  rw [← eB] at k
  have xn : x < n := Bt_n (h := hc) (t := a + 1) k.1
  rw [← S.2.2.1 x (by omega) xn, Bt_b S.1.2.2.2.2.2 (by omega) xn k.2]
  exact k.1
theorem pc_r (c : Int) (h : isPc c = true) : 0 ≤ c ∧ c < 128 := by have := of_decide_eq_true h; omega
theorem st_r (c : Int) (h : isSt c = true) : 0 ≤ c ∧ c < 128 := by have := of_decide_eq_true h; omega
theorem SZ.goL {h1 h2 hc ht hc' : Hp} {n : Int} {B T : Int → Int} {a l : Int} (ha : a ∈ in_aX6) (S : SZ h1 h2 n B T a l hc ht) (f : F2 (srP a) hc hc') : SZ h1 h2 n B T a l hc' ht := by
  have h6 := aX6 ha
  obtain ⟨⟨s1, s2, s3, s4, s5, s6⟩, t, u, v⟩ := S
  have r1 : hc' (a + 1) = hc (a + 1) := f.row (fun j z => by unfold srP at z; omega)
  refine ⟨⟨srP_l s1 ha f, s2.F2 f (fun z => by unfold srP at z; omega) (fun z => by unfold srP at z; omega), s3.F2 f (fun z => by unfold srP at z; omega) (fun z => by unfold srP at z; omega) (fun z => by unfold srP at z; omega) (fun z => by unfold srP at z; omega), (Bt_h r1).trans s4, s5.trans f, fun j j0 j1 => by rw [r1]; exact s6 j j0 j1⟩, t, fun j j0 j1 => by rw [r1]; exact u j j0 j1, v⟩
theorem SZ.goR {h1 h2 hc ht ht' : Hp} {n : Int} {B T : Int → Int} {a l : Int} (hl : l ∈ in_aX23) (S : SZ h1 h2 n B T a l hc ht) (f : F2 (srQ l) ht ht') : SZ h1 h2 n B T a l hc ht' := by
  have h6 := aX23 hl
  obtain ⟨s, ⟨s1, s2, s3, s4, s5, s6⟩, u, v⟩ := S
  have r1 : ht' (l + 1) = ht (l + 1) := f.row (fun j z => by unfold srQ at z; omega)
  exact ⟨s, ⟨srQ_l s1 hl f, s2.F2 f (fun z => by unfold srQ at z; omega) (fun z => by unfold srQ at z; omega), s3.F2 f (fun z => by unfold srQ at z; omega) (fun z => by unfold srQ at z; omega) (fun z => by unfold srQ at z; omega) (fun z => by unfold srQ at z; omega), (Bt_h r1).trans s4, s5.trans f, r1.trans s6⟩, u, v⟩
/-- both are broken at the same place -/
def ZO (h1 h2 : Hp) (n a l : Int) (rc rt : (Int × Int) × Hp) : Prop := ∃ p, 0 ≤ p ∧ p ≤ n ∧ ThF 432 p (srP a) h1 rc ∧ ThF 448 p (srQ l) h2 rt
theorem sz_thr {h1 h2 hc ht : Hp} {n : Int} {B T : Int → Int} {a l x : Int} {rc rt : (Int × Int) × Hp} (ha : a ∈ in_aX6) (hl : l ∈ in_aX23) (S : SZ h1 h2 n B T a l hc ht) (p0 : 0 ≤ x) (p1 : x ≤ n) (z1 : Thr 432 x hc rc) (z2 : Thr 448 x ht rt) : ZO h1 h2 n a l rc rt := by
  have h6 := aX6 ha
  have h23 := aX23 hl
  exact ⟨x, p0, p1, z1.F S.1.2.2.2.2.1 (fun j z => by unfold srP at z; omega), z2.F S.2.1.2.2.2.2.1 (fun j z => by unfold srQ at z; omega)⟩
theorem q_event6 {h : Hp} {a M x y z : Int} (hL : LAY h) (ha : a ∈ in_aX6) (eM : h a 24 = M) (m0 : 0 ≤ M) (m1 : M < 16385) : m_X6_event a x y z h = some (up (up (up (up h (a + 20) M x) (a + 21) M y) (a + 22) M z) a 24 (M + 1)) := by
  have h6 := aX6 ha
  have k0 := g_X6_21 hL ha
  have L1 : LAY (up h (a + 20) M x) := srP_l hL ha (F2.refl.put (by unfold srP; omega))
  have k1 := g_X6_22 L1 ha
  have L2 : LAY (up (up h (a + 20) M x) (a + 21) M y) := srP_l L1 ha (F2.refl.put (by unfold srP; omega))
  have k2 := g_X6_23 L2 ha
  have e1 : up h (a + 20) M x a 24 = M := by rw [up_a (by omega)]; exact eM
  have e2 : up (up h (a + 20) M x) (a + 21) M y a 24 = M := by rw [up_a (by omega)]; exact e1
  have e3 : up (up (up h (a + 20) M x) (a + 21) M y) (a + 22) M z a 24 = M := by rw [up_a (by omega)]; exact e2
  unfold m_X6_event gd pt
  simp only [k0, eM]
  rw [if_pos ⟨by decide, m0, m1⟩]
  simp only [k1, e1]
  rw [if_pos ⟨by decide, m0, m1⟩]
  simp only [k2, e2]
  rw [if_pos ⟨by decide, m0, m1⟩, e3, e32 (by omega) (by omega)]
theorem q_add23 {h : Hp} {l M x y z : Int} (hL : LAY h) (hl : l ∈ in_aX23) (eM : h l 2 = M) (m0 : 0 ≤ M) (m1 : M < 16392) : m_X23_add l x y z h = some (up (up (up (up h (l + 2) M x) (l + 3) M y) (l + 4) M z) l 2 (M + 1)) := by
  have h6 := aX23 hl
  have k0 := g_X23_6 hL hl
  have L1 : LAY (up h (l + 2) M x) := srQ_l hL hl (F2.refl.put (by unfold srQ; omega))
  have k1 := g_X23_7 L1 hl
  have L2 : LAY (up (up h (l + 2) M x) (l + 3) M y) := srQ_l L1 hl (F2.refl.put (by unfold srQ; omega))
  have k2 := g_X23_8 L2 hl
  have e1 : up h (l + 2) M x l 2 = M := by rw [up_a (by omega)]; exact eM
  have e2 : up (up h (l + 2) M x) (l + 3) M y l 2 = M := by rw [up_a (by omega)]; exact e1
  have e3 : up (up (up h (l + 2) M x) (l + 3) M y) (l + 4) M z l 2 = M := by rw [up_a (by omega)]; exact e2
  unfold m_X23_add gd pt
  simp only [k0, eM]
  rw [if_pos ⟨by decide, m0, m1⟩]
  simp only [k1, e1]
  rw [if_pos ⟨by decide, m0, m1⟩]
  simp only [k2, e2]
  rw [if_pos ⟨by decide, m0, m1⟩, e3, e32 (by omega) (by omega)]
/-- a piece of text is added -/
theorem RS.text {T : Int → Int} {n N : Int} {s : Int → List Int} {E F M D i j : Int} {p q p' q' : Hp} {a l : Int} (R : RS T n N s E F M D i p q a l) (hij : i ≤ j) (hM : M + 1 ≤ j)
    (hp : ∀ b x, a ≤ b → b ≤ a + 30 → ¬ ((a + 20 ≤ b ∧ b ≤ a + 22 ∧ x = M) ∨ (b = a ∧ (x = 2 ∨ x = 24)) ∨ (b = a + 15 ∧ x = q l 26)) → p' b x = p b x) (hq : ∀ b x, l ≤ b → b ≤ l + 20 → ¬ (b = l + 1) → ¬ ((l + 2 ≤ b ∧ b ≤ l + 4 ∧ x = M) ∨ (b = l ∧ (x = 2 ∨ x = 25))) → q' b x = q b x)
    (e1 : p' a 24 = M + 1) (e2 : q' l 2 = M + 1) (e3 : 0 < D → p' (a + 15) (q l 26) = 1) (ev : evO n E p' q' a l M) (ek : q' (l + 2) M = 0 ∨ q' (l + 2) M = 3) (ei : q' (l + 2) M = 0 → q' (l + 4) M ≤ j ∧ bOK T (q' (l + 3) M) (q' (l + 4) M)) : RS T n N s E F (M + 1) D j p' q' a l := by
  obtain ⟨y1, y2, y3, y4, y5⟩ := R
  have X : ∀ k : Int, 1 ≤ k → k ≤ 30 → k ≠ 15 → k ≠ 20 → k ≠ 21 → k ≠ 22 → p' (a + k) = p (a + k) := fun k k0 k1 k2 k3 k4 k5 => funext fun x => hp _ _ (by omega) (by omega) (by omega)
  have Z : ∀ k : Int, 5 ≤ k → k ≤ 20 → q' (l + k) = q (l + k) := fun k k0 k1 => funext fun x => hq _ _ (by omega) (by omega) (by omega) (by omega)
  have pa : ∀ x, x ≠ 2 → x ≠ 24 → p' a x = p a x := fun x x1 x2 => hp _ _ (by omega) (by omega) (by omega)
  have ql : ∀ x, x ≠ 2 → x ≠ 25 → q' l x = q l x := fun x x1 x2 => hq _ _ (by omega) (by omega) (by omega) (by omega)
  have V2 : ∀ x, x ≠ M → q' (l + 2) x = q (l + 2) x ∧ q' (l + 3) x = q (l + 3) x ∧ q' (l + 4) x = q (l + 4) x := fun x hx => ⟨hq _ _ (by omega) (by omega) (by omega) (by omega), hq _ _ (by omega) (by omega) (by omega) (by omega), hq _ _ (by omega) (by omega) (by omega) (by omega)⟩
  have U2 : ∀ x, x ≠ M → p' (a + 20) x = p (a + 20) x ∧ p' (a + 21) x = p (a + 21) x ∧ p' (a + 22) x = p (a + 22) x := fun x hx => ⟨hp _ _ (by omega) (by omega) (by omega), hp _ _ (by omega) (by omega) (by omega), hp _ _ (by omega) (by omega) (by omega)⟩
  have M0 : 0 ≤ M := y3.2.2.1
  have cu : cuP (q' (l + 2)) (q' (l + 3)) (q' (l + 7)) M.toNat = cuP (q (l + 2)) (q (l + 3)) (q (l + 7)) M.toNat := by
    rw [Z 7 (by decide) (by decide)]
    exact cuP_congr _ (fun x x0 x1 => ⟨(V2 x (by omega)).1, (V2 x (by omega)).2.1⟩) (fun _ _ => rfl)
  have tn : (M + 1).toNat = M.toNat + 1 := by omega
  have tM : ((M.toNat : Nat) : Int) = M := by omega
  refine ⟨?_, ?_, ?_, ?_, ?_⟩
  · unfold rsN at *
    rw [X 2 (by decide) (by decide) (by decide) (by decide) (by decide) (by decide)]
    exact ⟨y1.1.kept (fun b b0 b1 => by have := X (b - a) (by omega) (by omega) (by omega) (by omega) (by omega) (by omega); rwa [show a + (b - a) = b by omega] at this), by omega, by omega⟩
  · unfold rsE elO fsO fdO at *
    rw [pa 4 (by decide) (by decide), pa 18 (by decide) (by decide), pa 19 (by decide) (by decide), pa 20 (by decide) (by decide), ql 3 (by decide) (by decide), X 7 (by decide) (by decide) (by decide) (by decide) (by decide) (by decide), X 8 (by decide) (by decide) (by decide) (by decide) (by decide) (by decide), X 9 (by decide) (by decide) (by decide) (by decide) (by decide) (by decide), X 11 (by decide) (by decide) (by decide) (by decide) (by decide) (by decide), X 12 (by decide) (by decide) (by decide) (by decide) (by decide) (by decide), X 13 (by decide) (by decide) (by decide) (by decide) (by decide) (by decide), X 14 (by decide) (by decide) (by decide) (by decide) (by decide) (by decide), X 16 (by decide) (by decide) (by decide) (by decide) (by decide) (by decide), X 17 (by decide) (by decide) (by decide) (by decide) (by decide) (by decide), X 18 (by decide) (by decide) (by decide) (by decide) (by decide) (by decide), X 19 (by decide) (by decide) (by decide) (by decide) (by decide) (by decide), Z 5 (by decide) (by decide), Z 7 (by decide) (by decide), Z 8 (by decide) (by decide), Z 9 (by decide) (by decide), Z 10 (by decide) (by decide), Z 11 (by decide) (by decide), Z 13 (by decide) (by decide), Z 14 (by decide) (by decide), Z 15 (by decide) (by decide), Z 16 (by decide) (by decide)]
    obtain ⟨c1, c2, c3, c4, c5, c6, c7, c8⟩ := y2
    exact ⟨c1, c2, c3, c4, c5, c6, ⟨by omega, fun e x0 x1 => by have := c7.2 e x0 x1; omega⟩, c8⟩
  · have y4' := y4
    unfold rsV at *
    unfold rsS at y4'
    obtain ⟨c1, c2, c3, c4, c5, c6, c7, c8, c9, c10⟩ := y3
    obtain ⟨d1, d2, d3, d4, d5, d6, d7, d8, d9⟩ := y4'
    refine ⟨e1, e2, by omega, hM, fun m m0 m1 => ?_, fun m m0 m1 mk => ?_, fun e x0 x1 => ?_, fun e x0 x1 => ?_, fun m m1 => ?_, fun m m1 => ?_⟩
    · by_cases hm : m = M
      · rw [hm]; exact ev
      · have := c5 m m0 (by omega)
        unfold evO at *
        rw [(U2 m hm).1, (U2 m hm).2.1, (U2 m hm).2.2, (V2 m hm).1, (V2 m hm).2.1, (V2 m hm).2.2, Z 11 (by decide) (by decide), Z 12 (by decide) (by decide)]
        exact this
    · by_cases hm : m = M
      · rw [hm] at mk ⊢; exact ei mk
      · rw [(V2 m hm).1] at mk
        rw [(V2 m hm).2.1, (V2 m hm).2.2]
        have := c6 m m0 (by omega) mk
        exact ⟨by omega, this.2⟩
    · obtain ⟨f1, f2, f3, f4⟩ := c7 e x0 x1
      rw [Z 11 (by decide) (by decide), (V2 _ (show q (l + 11) e ≠ M by omega)).1, (V2 _ (show q (l + 11) e ≠ M by omega)).2.1]
      exact ⟨f1, by omega, f3, f4⟩
    · have fl : flP (q' (l + 2)) (q' (l + 3)) (q' (l + 7)) e M.toNat = flP (q (l + 2)) (q (l + 3)) (q (l + 7)) e M.toNat := by
        rw [Z 7 (by decide) (by decide)]
        exact flP_congr _ (fun x x0 x1 => ⟨(V2 x (by omega)).1, (V2 x (by omega)).2.1⟩) (fun _ _ => rfl)
      rw [tn]
      show p' (a + 15) e = if cuP (q' (l + 2)) (q' (l + 3)) (q' (l + 7)) M.toNat = e ∧ q' (l + 2) (M.toNat : Int) ≠ 2 then 1 else flP (q' (l + 2)) (q' (l + 3)) (q' (l + 7)) e M.toNat
      rw [tM, cu, fl, ← d5]
      by_cases h : q l 26 = e
      · rw [if_pos ⟨h, by omega⟩, ← h]
        exact e3 (by
          rcases Int.lt_or_eq_of_le d3 with z | z
          · exact z
          · have := d6 z.symm; omega)
      · rw [if_neg (fun z => h z.1), hp _ _ (by omega) (by omega) (by omega)]
        exact c8 e x0 x1
    · by_cases hm : (m : Int) = M + 1
      · have e : m = M.toNat + 1 := by omega
        rw [e]
        show -1 ≤ (if q' (l + 2) (M.toNat : Int) = 1 then q' (l + 3) (M.toNat : Int) else if q' (l + 2) (M.toNat : Int) = 2 then q' (l + 7) (cuP (q' (l + 2)) (q' (l + 3)) (q' (l + 7)) M.toNat) else cuP (q' (l + 2)) (q' (l + 3)) (q' (l + 7)) M.toNat) ∧ (if q' (l + 2) (M.toNat : Int) = 1 then q' (l + 3) (M.toNat : Int) else if q' (l + 2) (M.toNat : Int) = 2 then q' (l + 7) (cuP (q' (l + 2)) (q' (l + 3)) (q' (l + 7)) M.toNat) else cuP (q' (l + 2)) (q' (l + 3)) (q' (l + 7)) M.toNat) < E
        rw [tM, if_neg (by omega), if_neg (by omega), cu]
        exact c9 _ (by omega)
      · have e : cuP (q' (l + 2)) (q' (l + 3)) (q' (l + 7)) m = cuP (q (l + 2)) (q (l + 3)) (q (l + 7)) m := by
          rw [Z 7 (by decide) (by decide)]
          exact cuP_congr _ (fun x x0 x1 => ⟨(V2 x (by omega)).1, (V2 x (by omega)).2.1⟩) (fun _ _ => rfl)
        rw [e]
        exact c9 m (by omega)
    · by_cases hm : (m : Int) = M
      · rw [hm]
        exact ⟨fun z => by omega, fun z => by omega⟩
      · have e : cuP (q' (l + 2)) (q' (l + 3)) (q' (l + 7)) m = cuP (q (l + 2)) (q (l + 3)) (q (l + 7)) m := by
          rw [Z 7 (by decide) (by decide)]
          exact cuP_congr _ (fun x x0 x1 => ⟨(V2 x (by omega)).1, (V2 x (by omega)).2.1⟩) (fun _ _ => rfl)
        rw [e, Z 7 (by decide) (by decide), (V2 _ hm).1, (V2 _ hm).2.1]
        exact c10 m (by omega)
  · unfold rsS clO at *
    obtain ⟨d1, d2, d3, d4, d5, d6, d7, d8, d9⟩ := y4
    have cu1 : cuP (q' (l + 2)) (q' (l + 3)) (q' (l + 7)) (M + 1).toNat = q l 26 := by
      rw [tn]
      show (if q' (l + 2) (M.toNat : Int) = 1 then q' (l + 3) (M.toNat : Int) else if q' (l + 2) (M.toNat : Int) = 2 then q' (l + 7) (cuP (q' (l + 2)) (q' (l + 3)) (q' (l + 7)) M.toNat) else cuP (q' (l + 2)) (q' (l + 3)) (q' (l + 7)) M.toNat) = _
      rw [tM, if_neg (by omega), if_neg (by omega), cu]; exact d5.symm
    rw [pa 29 (by decide) (by decide), ql 27 (by decide) (by decide), ql 26 (by decide) (by decide), X 30 (by decide) (by decide) (by decide) (by decide) (by decide) (by decide), X 10 (by decide) (by decide) (by decide) (by decide) (by decide) (by decide), cu1, Z 5 (by decide) (by decide), Z 6 (by decide) (by decide), Z 7 (by decide) (by decide), Z 11 (by decide) (by decide), Z 12 (by decide) (by decide)]
    refine ⟨d1, d2, d3, d4, rfl, d6, d7, fun d x0 x1 => ?_, fun e x0 x1 => ?_⟩
    · obtain ⟨g1, g2, g3, g4⟩ := d8 d x0 x1
      refine ⟨g1, g2, g3, fun m m0 m1 k => ?_⟩
      by_cases hm : m = M
      · rw [hm] at k; omega
      · rw [(V2 m hm).1] at k
        rw [(V2 m hm).2.1]
        exact g4 m m0 (by omega) k
    rcases d9 e x0 x1 with z | ⟨g1, g2, g3, g4, g5, g6, g7⟩
    · exact Or.inl z
    · rw [(V2 _ (show q (l + 12) e ≠ M by omega)).1, (V2 _ (show q (l + 12) e ≠ M by omega)).2.1]
      exact Or.inr ⟨g1, g2, g3, g4, by omega, g6, g7⟩
  · unfold rsT enO at *
    rw [ql 4 (by decide) (by decide), X 23 (by decide) (by decide) (by decide) (by decide) (by decide) (by decide), X 28 (by decide) (by decide) (by decide) (by decide) (by decide) (by decide), X 29 (by decide) (by decide) (by decide) (by decide) (by decide) (by decide), Z 17 (by decide) (by decide), Z 18 (by decide) (by decide), Z 19 (by decide) (by decide), Z 20 (by decide) (by decide)]
    obtain ⟨K, r, c1, c2, c3, c4, c5⟩ := y5
    refine ⟨K, r, c1.kept (fun b b0 b1 => by have := X (b - a) (by omega) (by omega) (by omega) (by omega) (by omega) (by omega); rwa [show a + (b - a) = b by omega] at this), by omega, c3, c4, fun k k0 k1 => ?_⟩
    obtain ⟨d1, d2, d3, d4, d5, d6, d7, d8, d9, d10⟩ := c5 k k0 k1
    exact ⟨d1, d2, d3, d4, d5, d6, d7, d8, by omega, d10⟩
