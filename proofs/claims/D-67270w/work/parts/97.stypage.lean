set_option maxRecDepth 100000
/-! STYLES: the page -/
theorem SY.page {T : Int → Int} {n N : Int} {s : Int → List Int} {C ns na nf nsel nb nt : Int} {p q p' q' : Hp} {a l : Int} (Y : SY T n N s C ns na nf nsel nb nt p q a l) (hp : ∀ b j, a ≤ b → b ≤ a + 27 → ¬ (b = a ∧ 23 ≤ j ∧ j ≤ 28) → p' b j = p b j) (hq : ∀ b j, (b = l ∨ l + 3 ≤ b ∧ b ≤ l + 22) → ¬ (b = l + 3) → q' b j = q b j) (pg : pgO p' q' a l) : SY T n N s C ns na nf nsel nb nt p' q' a l := by
  obtain ⟨y1, y2, y3, y4, y5, y6, y7⟩ := Y
  have rp : ∀ k : Int, 1 ≤ k → k ≤ 27 → p' (a + k) = p (a + k) := fun k k0 k1 => funext fun j => hp _ _ (by omega) (by omega) (by omega)
  have rq : ∀ k : Int, 4 ≤ k → k ≤ 22 → q' (l + k) = q (l + k) := fun k k0 k1 => funext fun j => hq _ _ (Or.inr ⟨by omega, by omega⟩) (by omega)
  have pa : ∀ j, j < 23 → p' a j = p a j := fun j hj => hp _ _ (by omega) (by omega) (by omega)
  have ql : q' l = q l := funext fun j => hq _ _ (Or.inl rfl) (by omega)
  refine ⟨?_, ?_, ?_, ?_, ?_, ?_, pg⟩
  · unfold syN at *
    rw [rp 11 (by decide) (by decide)]
    exact ⟨y1.1.kept (fun b b0 b1 => by have := rp (b - a) (by omega) (by omega); rwa [show a + (b - a) = b by omega] at this), y1.2⟩
  · unfold syC at *
    rw [ql, rq 21 (by decide) (by decide), rq 22 (by decide) (by decide)]
    obtain ⟨c1, c2, s, c3, c4⟩ := y2
    exact ⟨c1, c2, s, c3.kept (fun b b0 b1 => by have := rp (b - a) (by omega) (by omega); rwa [show a + (b - a) = b by omega] at this), c4⟩
  · unfold syS at *
    rw [pa 6 (by decide), ql, rp 13 (by decide) (by decide), rp 14 (by decide) (by decide), rp 15 (by decide) (by decide), rq 6 (by decide) (by decide), rq 7 (by decide) (by decide), rq 8 (by decide) (by decide), rq 9 (by decide) (by decide)]
    exact y3
  · unfold syA at *
    rw [pa 11 (by decide), ql, rp 11 (by decide) (by decide), rp 12 (by decide) (by decide), rp 16 (by decide) (by decide), rp 17 (by decide) (by decide), rp 18 (by decide) (by decide), rp 19 (by decide) (by decide), rq 10 (by decide) (by decide), rq 11 (by decide) (by decide), rq 12 (by decide) (by decide), rq 13 (by decide) (by decide), rq 14 (by decide) (by decide), rq 15 (by decide) (by decide)]
    exact y4
  · unfold syL at *
    rw [pa 15 (by decide), ql, rp 20 (by decide) (by decide), rp 21 (by decide) (by decide), rp 22 (by decide) (by decide), rq 4 (by decide) (by decide), rq 5 (by decide) (by decide), rq 6 (by decide) (by decide), rq 9 (by decide) (by decide)]
    exact y5
  · unfold syD at *
    rw [pa 22 (by decide), pa 20 (by decide), ql, rp 11 (by decide) (by decide), rp 12 (by decide) (by decide), rp 27 (by decide) (by decide), rp 23 (by decide) (by decide), rp 24 (by decide) (by decide), rp 25 (by decide) (by decide), rp 26 (by decide) (by decide), rq 16 (by decide) (by decide), rq 17 (by decide) (by decide), rq 18 (by decide) (by decide), rq 19 (by decide) (by decide), rq 20 (by decide) (by decide)]
    exact y6
def pgR (k v : Int) : Prop := (k ≤ 1 → 10000 ≤ v ∧ v ≤ 1000000) ∧ (k = 2 → 1 ≤ v ∧ v ≤ 4) ∧ (3 ≤ k ∧ k ≤ 4 → 0 ≤ v ∧ v ≤ 100000) ∧ (k = 5 → 0 ≤ v ∧ v ≤ 2)
/-- one of the page's values is told -/
theorem TI.page {h1 h2 hc ht hc' ht' : Hp} {n : Int} {B T : Int → Int} {a l i j k v : Int} (ha : a ∈ in_aX3) (hl : l ∈ in_aX22) (k0 : 0 ≤ k) (k5 : k ≤ 5) (hv : pgR k v) (I : TI h1 h2 n B T a l i hc ht) (hij : i ≤ j)
    (K : ∀ p q, SS h1 h2 n B T a l p q i i hc ht → SS h1 h2 n B T a l (up p a (23 + k) v) (up q (l + 3) k v) j j hc' ht') : TI h1 h2 n B T a l j hc' ht' := by
  have h3 := aX3 ha
  have h22 := aX22 hl
  obtain ⟨p, q, N, s, C, ns, na, nsel, nb, nt, S, Y, ub, sq, e16, nbs⟩ := I
  refine ⟨_, _, N, s, C, ns, na, nsel, nb, nt, K p q S, Y.page (fun b j b0 b1 nb => by (repeat rw [up_ne (by omega)])) (fun b j b0 nb => by (repeat rw [up_ne (by omega)])) ?_, ?_, ?_, ?_, nbs⟩
  · have y7 := Y.2.2.2.2.2.2
    unfold pgO pgR at *
    have kk : k = 0 ∨ k = 1 ∨ k = 2 ∨ k = 3 ∨ k = 4 ∨ k = 5 := by omega
    rcases kk with rfl | rfl | rfl | rfl | rfl | rfl <;> grind [up]
  · unfold UB at *
    (try simp (disch := omega) only [up_a, up_e, up_j, e32, e8]); omega
  · unfold SelQ at *
    (try simp (disch := omega) only [up_a, up_e, up_j, e32, e8]); exact sq
  · (try simp (disch := omega) only [up_a, up_e, up_j, e32, e8]); exact e16
/-- what comes of a line of the page -/
def PgO (h1 h2 : Hp) (n : Int) (B T : Int → Int) (a l i : Int) (x : Hp ⊕ ((Int × Int) × Hp)) (y : Hp ⊕ ((Int × Int) × Hp)) : Prop :=
  (∃ i' hc' ht', x = .inl hc' ∧ y = .inl ht' ∧ i < i' ∧ TI h1 h2 n B T a l i' hc' ht') ∨ (∃ rc rt, x = .inr rc ∧ y = .inr rt ∧ BO h1 h2 n a l rc rt)
theorem TI.ss {h1 h2 hc ht : Hp} {n : Int} {B T : Int → Int} {a l i : Int} (I : TI h1 h2 n B T a l i hc ht) : ∃ p q, SS h1 h2 n B T a l p q i i hc ht := by
  obtain ⟨p, q, N, s, C, ns, na, nsel, nb, nt, S, -⟩ := I
  exact ⟨p, q, S⟩
theorem TI.go {h1 h2 hc ht hc' ht' : Hp} {n : Int} {B T : Int → Int} {a l i j : Int} (I : TI h1 h2 n B T a l i hc ht) (hij : i ≤ j) (K : ∀ p q, SS h1 h2 n B T a l p q i i hc ht → SS h1 h2 n B T a l p q j j hc' ht') : TI h1 h2 n B T a l j hc' ht' := by
  obtain ⟨p, q, N, s, C, ns, na, nsel, nb, nt, S, Y, ub, sq, e16, nbs⟩ := I
  obtain ⟨u1, u2, u3, u4⟩ := ub
  exact ⟨p, q, N, s, C, ns, na, nsel, nb, nt, K p q S, Y, ⟨by omega, by omega, by omega, by omega⟩, sq, e16, nbs⟩
/-- the end of a line of the page -/
theorem y_pgend {h1 h2 hc ht : Hp} {n : Int} {B T : Int → Int} {a l i0 i : Int} (ha : a ∈ in_aX3) (hl : l ∈ in_aX22) (I : TI h1 h2 n B T a l i hc ht) (hi : i0 ≤ i) : Pr (m_X3_page_j213 3 hc) (m_X22_pageBody_j232 l ht) (PgO h1 h2 n B T a l i0) := by
  obtain ⟨p, q, S⟩ := I.ss
  have g0 := S.ge
  unfold m_X3_page_j213 m_X22_pageBody_j232
  simp only [g_X22_1 S.2.1.1 hl]
  refine yr_gd trivial ?_
  by_cases t : (tk B i).1 = 4 ∧ (tk B i).2.2.2 = 59
  · obtain ⟨rc, e1, c1⟩ := cs_need (x := 59) S.1
    obtain ⟨rt, e2, c2⟩ := ts_need (x := 59) S.2.1 (by decide)
    rcases c1 with ⟨-, a2, a3, a4⟩ | ⟨z, -⟩
    · rcases c2 with ⟨-, b2, b3, b4⟩ | ⟨z, -⟩
      · rw [bT_0 e1 (by rw [a2]), bT_0 e2 (by rw [b2])]
        have lt := tk_lt4 t.1
        exact y_some (Or.inl ⟨nx B i, _, _, rfl, rfl, by omega, I.go g0.1 (fun p q S' => (S'.goL ha a3 a4).goR b3 b4)⟩)
      · exact absurd t z
    · exact absurd t z
  · exact L_need0 S t (fun b h' z => R_need0 S (by decide) t (fun b' h'' z' => y_some (Or.inr ⟨_, _, rfl, rfl, ss_thr ha hl S ⟨by omega, by omega⟩ z z'⟩)))
theorem y_pgnum {h1 h2 hc ht : Hp} {n : Int} {B T : Int → Int} {a l i0 i k lo hi : Int} (ha : a ∈ in_aX3) (hl : l ∈ in_aX22) (I : TI h1 h2 n B T a l i hc ht) (hi0 : i0 ≤ i) (k0 : 0 ≤ k) (k5 : k ≤ 5) (hv : ∀ v, lo ≤ v → v ≤ hi → pgR k v) :
    Pr (bT (m_X2_needNumber 3 lo hi hc) (fun v87 h87 => pt h87 a (23 + k) v87 fun h90 => m_X3_page_j213 3 h90) (fun a_ h_ => some (.inr ((1, a_), h_))))
      (gd (ht (ht l 1) (-2) = 336) (bT (m_X20_needNumber (ht l 1) lo hi ht) (fun v213 h213 => gd (h213 (ht l 2) (-2) % 16 = 1 ∧ (0 : Int) ≤ k ∧ k < h213 (ht l 2) (-1)) (pt h213 (ht l 2) k v213 fun h216 => m_X22_pageBody_j232 l h216)) (fun a_ h_ => some (.inr ((1, a_), h_))))) (PgO h1 h2 n B T a l i0) := by
  have h3 := aX3 ha
  have h22 := aX22 hl
  obtain ⟨p, q, S⟩ := I.ss
  have g0 := S.ge
  simp only [g_X22_1 S.2.1.1 hl, g_X22_2 S.2.1.1 hl]
  refine yr_gd trivial ?_
  by_cases t : (tk B i).1 = 2 ∧ lo ≤ (tk B i).2.2.2 ∧ (tk B i).2.2.2 ≤ hi
  · obtain ⟨rc, e1, c1⟩ := cs_num (lo := lo) (hi := hi) S.1
    obtain ⟨rt, e2, c2⟩ := ts_num (lo := lo) (hi := hi) S.2.1
    rcases c1 with ⟨-, a2, a3, a4⟩ | ⟨z, -⟩
    · rcases c2 with ⟨-, b2, b3, b4⟩ | ⟨z, -⟩
      · rw [bT_0 e1 (by rw [a2]), bT_0 e2 (by rw [b2]), a2, b2]
        have S1 := (S.goL ha a3 a4).goR b3 b4
        have kk := g_X22_2 S1.2.1.1 hl
        simp only [kk.2.1, kk.2.2]
        refine yr_gd (by omega) (yl_pt (yr_pt (y_pgend ha hl (I.page (j := nx B i) ha hl k0 k5 (hv _ t.2.1 t.2.2) g0.1 (fun p q S' => ?_)) (by omega))))
        exact (((S'.goL ha a3 a4).goR b3 b4).putL ha (by omega) (by unfold scW; omega)).putR hl (Or.inr ⟨by omega, by omega⟩) (by unfold stW2; omega)
      · exact absurd t z
    · exact absurd t z
  · exact L_num0 S t (fun b h' z => R_num0 S t (fun b' h'' z' => y_some (Or.inr ⟨_, _, rfl, rfl, ss_thr ha hl S ⟨by omega, by omega⟩ z z'⟩)))
theorem y_pglines {h1 h2 hc ht : Hp} {n : Int} {B T : Int → Int} {a l i0 i : Int} (ha : a ∈ in_aX3) (hl : l ∈ in_aX22) (I : TI h1 h2 n B T a l i hc ht) (hi0 : i0 ≤ i) :
    Pr ((m_X2_isName 3 (-21) hc).bind fun v157 =>
  if v157 = 0 then ((m_X2_isName 3 (-20) hc).bind fun v170 =>
  if v170 = 0 then ((m_X2_isName 3 (-22) hc).bind fun v183 =>
  if v183 = 0 then (m_X3_page_j194 3 a (-1) hc)
  else (m_X3_page_j194 3 a 2 hc))
  else (m_X3_page_j194 3 a 1 hc))
  else (m_X3_page_j194 3 a 0 hc))
      (bT (m_X22_word l (-96) ht) (fun v228 h228 => gd (h228 (ht l 2) (-2) % 16 = 1 ∧ (0 : Int) ≤ 5 ∧ (5 : Int) < h228 (ht l 2) (-1)) (pt h228 (ht l 2) 5 v228 fun h231 => m_X22_pageBody_j232 l h231)) (fun a_ h_ => some (.inr ((1, a_), h_)))) (PgO h1 h2 n B T a l i0) := by
  have h3 := aX3 ha
  have h22 := aX22 hl
  obtain ⟨p, q, S⟩ := I.ss
  have g0 := S.ge
  obtain ⟨Z, hZ, hZ2⟩ := sp_wLines
  simp only [g_X22_2 S.2.1.1 hl]
  have chain : ∃ v, ((m_X2_isName 3 (-21) hc).bind fun v157 =>
  if v157 = 0 then ((m_X2_isName 3 (-20) hc).bind fun v170 =>
  if v170 = 0 then ((m_X2_isName 3 (-22) hc).bind fun v183 =>
  if v183 = 0 then (m_X3_page_j194 3 a (-1) hc)
  else (m_X3_page_j194 3 a 2 hc))
  else (m_X3_page_j194 3 a 1 hc))
  else (m_X3_page_j194 3 a 0 hc)) = m_X3_page_j194 3 a v hc ∧ (((tk B i).1 = 1 ∧ v = ix (wr T (tk B i).2.1 (nx B i)) wLines 0) ∨ ((tk B i).1 ≠ 1 ∧ v = -1)) := by
    by_cases t1 : (tk B i).1 = 1
    · refine ⟨_, ?_, Or.inl ⟨t1, rfl⟩⟩
      rw [L_isN S t1 st_21, L_isN S t1 st_20, L_isN S t1 st_22]
      unfold wLines
      simp only [Option.bind_some, ite_eqW, ix, apply_ite (fun k => m_X3_page_j194 3 a k hc)]
      rfl
    · refine ⟨-1, ?_, Or.inr ⟨t1, rfl⟩⟩
      rw [cs_isN0 S.1 t1 st_21, cs_isN0 S.1 t1 st_20, cs_isN0 S.1 t1 st_22]
      rfl
  obtain ⟨v, e, hv⟩ := chain
  rw [e]
  unfold m_X3_page_j194
  have S1 := S.putL (b := a) (j := 28) (v := v) ha (by omega) (by unfold scW; omega)
  refine yl_pt ?_
  rw [up_s]
  have rg := ix_r (w := wr T (tk B i).2.1 (nx B i)) wLines 0 (by decide)
  have len : wLines.length = 3 := rfl
  by_cases hv0 : 0 ≤ v
  · obtain ⟨t1, ev⟩ : (tk B i).1 = 1 ∧ v = ix (wr T (tk B i).2.1 (nx B i)) wLines 0 := by
      rcases hv with z | z
      · exact z
      · omega
    refine yl_it hv0 ?_
    obtain ⟨hc1, e1, a3, a4⟩ := cs_next S1.1 (by omega)
    obtain ⟨rt, e2, c2⟩ := ts_word hl S.2.1 hZ hZ2
    rw [S.twR, ← ev] at c2
    rcases c2 with ⟨-, b2, b3, b4⟩ | ⟨z, -⟩
    · rw [e1, Option.bind_some, bT_0 e2 (by rw [b2]), b2]
      have S2 := (S1.goL ha a3 a4).goR b3 b4
      have kk := g_X22_2 S2.2.1.1 hl
      simp only [kk.2.1, kk.2.2]
      refine yr_gd (by omega) (yr_pt (y_pgend ha hl (I.page (j := nx B i) (k := 5) (v := v) ha hl (by decide) (by decide) ⟨fun z => by omega, fun z => by omega, fun z => by omega, fun _ => by omega⟩ g0.1 (fun p q S' => ?_)) (by omega)))
      exact (((S'.putL (b := a) (j := 28) (v := v) ha (by omega) (by unfold scW; omega)).goL ha a3 a4).goR b3 b4).putR (b := l + 3) (j := 5) (v := v) hl (Or.inr ⟨by omega, by omega⟩) (by unfold stW2; omega)
    · exact absurd ⟨t1, hv0⟩ z
  · refine yl_ie hv0 (L_brk S1 (fun b h' z => R_word0 hl S1 hZ hZ2 (fun y => ?_) (fun b' h'' z' => y_some (Or.inr ⟨_, _, rfl, rfl, ss_thr ha hl S1 ⟨by omega, by omega⟩ z z'⟩))))
    rcases hv with z | z
    · exact hv0 (by rw [z.2]; exact y.2)
    · exact z.1 y.1
