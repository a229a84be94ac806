set_option maxRecDepth 100000
/-! FONTS: reading, both sides together -/
theorem nx_fx {j : Int} (h1 : 2 ≤ j) (h2 : j ≤ 7) : fx 32 j = false ∧ fx 336 j = false := by
  have : j = 2 ∨ j = 3 ∨ j = 4 ∨ j = 5 ∨ j = 6 ∨ j = 7 := by omega
  rcases this with rfl | rfl | rfl | rfl | rfl | rfl <;> exact ⟨by decide, by decide⟩
theorem fx_a {K j : Int} (h1 : 1 ≤ K % 16) (h2 : K % 16 ≤ 4) : fx K j = false := by unfold fx; exact fx_arr h1 h2
/-- the component's reader, at sign i of the text B on its tape -/
def CS (h : Hp) (n : Int) (B : Int → Int) (i : Int) : Prop := LAY h ∧ TX h 3 2 n ∧ BY h 2 n ∧ Bt h 2 n = B ∧ AtC h 3 (tk B i) ∧ 0 ≤ i ∧ i ≤ n ∧ RM h 1 7
/-- the reference's reader a, over the text t -/
def TS (h : Hp) (a t n : Int) (B : Int → Int) (i : Int) : Prop := LAY h ∧ TX h a t n ∧ Bt h t n = B ∧ AtT h a (tk B i) ∧ 0 ≤ i ∧ i ≤ n ∧ RM h 1 7 ∧ a ∈ in_aX20 ∧ h t (-1) ≤ 65536
theorem RM.F2 {W : Int → Int → Prop} {h h' : Hp} {c s : Int} (r : RM h c s) (f : F2 W h h') (n0 : ¬ W 0 0) (n1 : ¬ W 0 1) : RM h' c s := by
  unfold RM
  rw [f 0 0 n0, f 0 1 n1]; exact r
theorem CS.go {h h' : Hp} {n : Int} {B : Int → Int} {i j : Int} (c : CS h n B i) (f : F2 (nxW 3) h h') (A : AtC h' 3 (tk B j)) (j0 : 0 ≤ j) (j1 : j ≤ n) : CS h' n B j := by
  obtain ⟨hL, x, hb, hB, -, -, -, rm⟩ := c
  have r2 : h' 2 = h 2 := f.row (fun j z => absurd z.1 (by decide))
  refine ⟨hL.F2 f (fun b j z => ?_), x.F2 f (fun z => absurd z.2.1 (by decide)) (fun z => absurd z.2.1 (by decide)) (fun z => absurd z.1 (by decide)) (fun z => absurd z.1 (by decide)), fun j a1 a2 => by rw [r2]; exact hb j a1 a2, by rw [Bt_h r2]; exact hB, A, j0, j1, rm.F2 f (fun z => absurd z.1 (by decide)) (fun z => absurd z.1 (by decide))⟩
  obtain ⟨z1, z2, z3⟩ := z
  rw [z1, (ly_X2 hL).1]
  exact ⟨by omega, by decide, (nx_fx z2 z3).1⟩
theorem CS.kept {W : Int → Int → Prop} {h h' : Hp} {n : Int} {B : Int → Int} {i : Int} (c : CS h n B i) (f : F2 W h h') (hL' : LAY h') (w3 : ∀ j, ¬ W 3 j) (w2 : ∀ j, ¬ W 2 j) (w0 : ∀ j, ¬ W 0 j) : CS h' n B i := by
  obtain ⟨hL, x, hb, hB, A, j0, j1, rm⟩ := c
  have r2 : h' 2 = h 2 := f.row w2
  have r3 : h' 3 = h 3 := f.row w3
  refine ⟨hL', x.F2 f (w3 _) (w3 _) (w2 _) (w2 _), fun j a1 a2 => by rw [r2]; exact hb j a1 a2, by rw [Bt_h r2]; exact hB, ?_, j0, j1, rm.F2 f (w0 _) (w0 _)⟩
  unfold AtC
  rw [r3]; exact A
theorem aX20 {a : Int} (h : a ∈ in_aX20) : 504 ≤ a ∧ a ≤ 558 := by
  simp only [in_aX20, List.mem_cons, List.not_mem_nil, or_false] at h
  omega
theorem TS.go {h h' : Hp} {a t n : Int} {B : Int → Int} {i j : Int} (c : TS h a t n B i) (f : F2 (nxW a) h h') (A : AtT h' a (tk B j)) (j0 : 0 ≤ j) (j1 : j ≤ n) : TS h' a t n B j := by
  obtain ⟨hL, x, hB, -, -, -, rm, ha, hl⟩ := c
  have h5 := aX20 ha
  have r2 : h' t = h t := f.row (fun j z => x.2.2.2.2.1 z.1)
  refine ⟨hL.F2 f (fun b j z => ?_), x.F2 f (fun z => absurd z.2.1 (by decide)) (fun z => absurd z.2.1 (by decide)) (fun z => x.2.2.2.2.1 z.1) (fun z => x.2.2.2.2.1 z.1), by rw [Bt_h r2]; exact hB, A, j0, j1, rm.F2 f (fun z => by have := z.1; omega) (fun z => by have := z.1; omega), ha, by rw [r2]; exact hl⟩
  obtain ⟨z1, z2, z3⟩ := z
  rw [z1, ly_X20 hL ha]
  exact ⟨by omega, by omega, (nx_fx z2 z3).2⟩
theorem TS.kept {W : Int → Int → Prop} {h h' : Hp} {a t n : Int} {B : Int → Int} {i : Int} (c : TS h a t n B i) (f : F2 W h h') (hL' : LAY h') (wa : ∀ j, ¬ W a j) (wt : ∀ j, ¬ W t j) (w0 : ∀ j, ¬ W 0 j) : TS h' a t n B i := by
  obtain ⟨hL, x, hB, A, j0, j1, rm, ha, hl⟩ := c
  have r2 : h' t = h t := f.row wt
  have r3 : h' a = h a := f.row wa
  refine ⟨hL', x.F2 f (wa _) (wa _) (wt _) (wt _), by rw [Bt_h r2]; exact hB, ?_, j0, j1, rm.F2 f (w0 _) (w0 _), ha, by rw [r2]; exact hl⟩
  unfold AtT
  rw [r3]; exact A
/-- the steps that a reader takes, over its state -/
theorem cs_ok {h : Hp} {n : Int} {B : Int → Int} {i : Int} (c : CS h n B i) : TkOK n (tk B i) := by
  rw [← c.2.2.2.1]; exact tk_r c.2.2.2.2.2.1 c.2.2.2.2.2.2.1
theorem ts_ok {h : Hp} {a t n : Int} {B : Int → Int} {i : Int} (c : TS h a t n B i) : TkOK n (tk B i) := by
  rw [← c.2.2.1]; exact tk_r c.2.2.2.2.1 c.2.2.2.2.2.1
theorem cs_next {h : Hp} {n : Int} {B : Int → Int} {i : Int} (c : CS h n B i) (h5 : (tk B i).1 ≠ 5) : Pz (m_X2_next 3 h) (fun h' => F2 (nxW 3) h h' ∧ CS h' n B (tk B i).2.2.1) := by
  have hq := cs_ok c
  have A := c.2.2.2.2.1
  refine z_mono (c_next c.2.1 A.2.2.1 (Int.le_trans hq.1 hq.2.2.1) (hq.2.2.2.1 h5)) (fun h' hh => ⟨hh.1, c.go hh.1 ?_ (Int.le_trans hq.1 hq.2.2.1) (hq.2.2.2.1 h5)⟩)
  have := hh.2
  rw [c.2.2.2.1] at this
  exact this
theorem ts_next {h : Hp} {a t n : Int} {B : Int → Int} {i : Int} (c : TS h a t n B i) (h5 : (tk B i).1 ≠ 5) : Pz (m_X20_next a h) (fun h' => F2 (nxW a) h h' ∧ TS h' a t n B (tk B i).2.2.1) := by
  have hq := ts_ok c
  have A := c.2.2.2.1
  refine z_mono (t_next c.2.1 A.2.2.2.1 (Int.le_trans hq.1 hq.2.2.1) (hq.2.2.2.1 h5)) (fun h' hh => ⟨hh.1, c.go hh.1 ?_ (Int.le_trans hq.1 hq.2.2.1) (hq.2.2.2.1 h5)⟩)
  have := hh.2
  rw [c.2.2.1] at this
  exact this
theorem cs_need {h : Hp} {n : Int} {B : Int → Int} {i x : Int} (c : CS h n B i) : Pz (m_X2_need 3 x h) (fun r => (((tk B i).1 = 4 ∧ (tk B i).2.2.2 = x) ∧ r.1 = (0, 0) ∧ F2 (nxW 3) h r.2 ∧ CS r.2 n B (tk B i).2.2.1) ∨ (¬ ((tk B i).1 = 4 ∧ (tk B i).2.2.2 = x) ∧ Thr 432 (tk B i).2.1 h r)) := by
  have hq := cs_ok c
  refine z_mono (c_need c.2.1 c.2.2.2.2.1 hq c.2.2.2.2.2.2.2 (by decide) (by decide)) (fun r hr => ?_)
  rcases hr with ⟨r1, r2, r3, r4⟩ | hr
  · rw [c.2.2.2.1] at r4
    exact Or.inl ⟨r1, r2, r3, c.go r3 r4 (Int.le_trans hq.1 hq.2.2.1) (hq.2.2.2.1 (by omega))⟩
  · exact Or.inr hr
theorem ts_need {h : Hp} {a t n : Int} {B : Int → Int} {i x : Int} (c : TS h a t n B i) (hx : isPl x = true) : Pz (m_X20_need a x h) (fun r => (((tk B i).1 = 4 ∧ (tk B i).2.2.2 = x) ∧ r.1 = (0, 0) ∧ F2 (nxW a) h r.2 ∧ TS r.2 a t n B (tk B i).2.2.1) ∨ (¬ ((tk B i).1 = 4 ∧ (tk B i).2.2.2 = x) ∧ Thr 448 (tk B i).2.1 h r)) := by
  have hq := ts_ok c
  have h5 := aX20 c.2.2.2.2.2.2.2.1
  refine z_mono (t_need c.2.1 c.2.2.2.1 hq hx c.2.2.2.2.2.2.1 (by omega) (by omega)) (fun r hr => ?_)
  rcases hr with ⟨r1, r2, r3, r4⟩ | hr
  · rw [c.2.2.1] at r4
    exact Or.inl ⟨r1, r2, r3, c.go r3 r4 (Int.le_trans hq.1 hq.2.2.1) (hq.2.2.2.1 (by omega))⟩
  · exact Or.inr hr
theorem cs_num {h : Hp} {n : Int} {B : Int → Int} {i lo hi : Int} (c : CS h n B i) : Pz (m_X2_needNumber 3 lo hi h) (fun r => (((tk B i).1 = 2 ∧ lo ≤ (tk B i).2.2.2 ∧ (tk B i).2.2.2 ≤ hi) ∧ r.1 = (0, (tk B i).2.2.2) ∧ F2 (nxW 3) h r.2 ∧ CS r.2 n B (tk B i).2.2.1) ∨ (¬ ((tk B i).1 = 2 ∧ lo ≤ (tk B i).2.2.2 ∧ (tk B i).2.2.2 ≤ hi) ∧ Thr 432 (tk B i).2.1 h r)) := by
  have hq := cs_ok c
  refine z_mono (c_needNumber c.2.1 c.2.2.2.2.1 hq c.2.2.2.2.2.2.2 (by decide) (by decide)) (fun r hr => ?_)
  rcases hr with ⟨r1, r2, r3, r4⟩ | hr
  · rw [c.2.2.2.1] at r4
    exact Or.inl ⟨r1, r2, r3, c.go r3 r4 (Int.le_trans hq.1 hq.2.2.1) (hq.2.2.2.1 (by omega))⟩
  · exact Or.inr hr
theorem ts_num {h : Hp} {a t n : Int} {B : Int → Int} {i lo hi : Int} (c : TS h a t n B i) : Pz (m_X20_needNumber a lo hi h) (fun r => (((tk B i).1 = 2 ∧ lo ≤ (tk B i).2.2.2 ∧ (tk B i).2.2.2 ≤ hi) ∧ r.1 = (0, (tk B i).2.2.2) ∧ F2 (nxW a) h r.2 ∧ TS r.2 a t n B (tk B i).2.2.1) ∨ (¬ ((tk B i).1 = 2 ∧ lo ≤ (tk B i).2.2.2 ∧ (tk B i).2.2.2 ≤ hi) ∧ Thr 448 (tk B i).2.1 h r)) := by
  have hq := ts_ok c
  have h5 := aX20 c.2.2.2.2.2.2.2.1
  refine z_mono (t_needNumber c.2.1 c.2.2.2.1 hq c.2.2.2.2.2.2.1 (by omega) (by omega)) (fun r hr => ?_)
  rcases hr with ⟨r1, r2, r3, r4⟩ | hr
  · rw [c.2.2.1] at r4
    exact Or.inl ⟨r1, r2, r3, c.go r3 r4 (Int.le_trans hq.1 hq.2.2.1) (hq.2.2.2.1 (by omega))⟩
  · exact Or.inr hr
theorem cs_take {h : Hp} {n : Int} {B : Int → Int} {i x : Int} (c : CS h n B i) : Pz (m_X2_take 3 x h) (fun r => (r.1 = 1 ∧ ((tk B i).1 = 4 ∧ (tk B i).2.2.2 = x) ∧ F2 (nxW 3) h r.2 ∧ CS r.2 n B (tk B i).2.2.1) ∨ (r.1 = 0 ∧ ¬ ((tk B i).1 = 4 ∧ (tk B i).2.2.2 = x) ∧ r.2 = h)) := by
  have hq := cs_ok c
  refine z_mono (c_take c.2.1 c.2.2.2.2.1 hq) (fun r hr => ?_)
  rcases hr with ⟨r1, r2, r3, r4⟩ | hr
  · rw [c.2.2.2.1] at r4
    exact Or.inl ⟨r1, r2, r3, c.go r3 r4 (Int.le_trans hq.1 hq.2.2.1) (hq.2.2.2.1 (by omega))⟩
  · exact Or.inr hr
theorem cs_two {h : Hp} {n : Int} {B : Int → Int} {i : Int} (c : CS h n B i) : Pz (m_X8_two 3 h) (fun r => (is1 (tk B i) ∧ r = ((0, B ((tk B i).2.1 + 1)), h)) ∨ (¬ is1 (tk B i) ∧ Thr 432 (tk B i).2.1 h r)) := by
  obtain ⟨hL, x, hb, rfl, A, j0, j1, rm⟩ := c
  exact c_two x A j0 j1 hb hL rm
theorem cs_one {h : Hp} {n : Int} {B : Int → Int} {i : Int} (c : CS h n B i) : Pz (m_X8_one 3 h) (fun r => (is1 (tk B i) ∧ r.1 = (0, B ((tk B i).2.1 + 1)) ∧ F2 (nxW 3) h r.2 ∧ CS r.2 n B (tk B i).2.2.1) ∨ (¬ is1 (tk B i) ∧ Thr 432 (tk B i).2.1 h r)) := by
  have hq := cs_ok c
  have c' := c
  obtain ⟨hL, x, hb, rfl, A, j0, j1, rm⟩ := c
  refine z_mono (c_one x A j0 j1 hb hL rm) (fun r hr => ?_)
  rcases hr with ⟨r1, r2, r3, r4⟩ | hr
  · exact Or.inl ⟨r1, r2, r3, c'.go r3 r4 (Int.le_trans hq.1 hq.2.2.1) (hq.2.2.2.1 (by rw [r1.1]; decide))⟩
  · exact Or.inr hr
theorem ts_single {h : Hp} {l t n : Int} {B : Int → Int} {i : Int} (hl : l ∈ in_aX19) (c : TS h (l + 7) t n B i) : Pz (m_X19_single l h) (fun r => (is1 (tk B i) ∧ r.1 = (0, B ((tk B i).2.1 + 1)) ∧ F2 (nxW (l + 7)) h r.2 ∧ TS r.2 (l + 7) t n B (tk B i).2.2.1) ∨ (¬ is1 (tk B i) ∧ Thr 448 (tk B i).2.1 h r)) := by
  have hq := ts_ok c
  have h5 := aX20 c.2.2.2.2.2.2.2.1
  have c' := c
  obtain ⟨hL, x, rfl, A, j0, j1, rm, ha, hle⟩ := c
  obtain ⟨-, -, -, -, -, -, -, l8, l9, -⟩ := ly_X19 hL hl
  refine z_mono (t_single l8 l9 (by omega) (by omega) x A j0 j1 rm) (fun r hr => ?_)
  rcases hr with ⟨r1, r2, r3, r4⟩ | hr
  · exact Or.inl ⟨r1, r2, r3, c'.go r3 r4 (Int.le_trans hq.1 hq.2.2.1) (hq.2.2.2.1 (by rw [r1.1]; decide))⟩
  · exact Or.inr hr
/-- the byte of a string of one -/
theorem cs_ch {h : Hp} {n : Int} {B : Int → Int} {i : Int} (c : CS h n B i) (h1 : is1 (tk B i)) : 32 ≤ B ((tk B i).2.1 + 1) ∧ B ((tk B i).2.1 + 1) ≤ 126 := by
  obtain ⟨hL, x, hb, rfl, A, j0, j1, rm⟩ := c
  have := isSt_c (tk_st j0 j1 h1.1 (x := (tk (Bt h 2 n) i).2.1 + 1) (by omega) (by have := h1.2; omega)).1
  omega
theorem cs_isW {h : Hp} {n : Int} {B : Int → Int} {i s : Int} {b : List Int} (c : CS h n B i) (hs : strB s = some b) : m_X2_isName 3 s h = some (isW h 2 (tk B i) b) := q_X2_isName c.2.1 c.2.2.2.2.1 (cs_ok c) hs
theorem ts_isW {h : Hp} {a t n : Int} {B : Int → Int} {i s : Int} {b : List Int} (c : TS h a t n B i) (hs : strB s = some b) : m_X20_isName a s h = some (isW h t (tk B i) b) := q_X20_isName c.2.1 c.2.2.2.1 (ts_ok c) hs c.2.2.2.2.2.2.2.2
/-- both readers have the same words -/
theorem isW_same {hc ht : Hp} {t n : Int} {B : Int → Int} {i : Int} {b : List Int} (e : ∀ j, 0 ≤ j → j < n → hc 2 j = ht t j) (hq : TkOK n (tk B i)) : isW hc 2 (tk B i) b = isW ht t (tk B i) b := by
  unfold isW
  by_cases h1 : (tk B i).1 = 1
  · rw [if_pos h1, if_pos h1]
    have he := hq.2.2.2.1 (by omega)
    have h0 := hq.1
    congr 1
    unfold wd
    apply List.map_congr_left
    intro x hx
    have := List.mem_range.mp hx
    exact e _ (by omega) (by omega)
  · rw [if_neg h1, if_neg h1]
