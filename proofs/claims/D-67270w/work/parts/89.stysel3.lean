set_option maxRecDepth 100000
/-! STYLES: a selector is kept -/
theorem SY.sel {T : Int → Int} {n N : Int} {s : Int → List Int} {C ns na nf nsel nb nt bg w : Int} {p q p' q' : Hp} {a l : Int} (Y : SY T n N s C ns na nf nsel nb nt p q a l) (s1 : nsel < 120) (hf : nf ≤ nsel) (eb : q (l + 4) nsel = bg) (b0 : 0 ≤ bg) (b1 : bg < ns) (b2 : ns ≤ bg + 8) (ew : w = wsm (q (l + 9)) (q (l + 6)) bg (ns - bg).toNat) (e20 : p (a + 20) nsel = bg) (e22 : p (a + 22) nsel = nb)
    (hp : ∀ b j, a ≤ b → b ≤ a + 27 → ¬ ((b = a ∧ j = 15) ∨ (b = a + 21 ∧ j = nsel)) → p' b j = p b j) (hq : ∀ b j, (b = l ∨ l + 3 ≤ b ∧ b ≤ l + 22) → ¬ ((b = l ∧ j = 3) ∨ (b = l + 4 ∧ j = nsel + 1)) → q' b j = q b j)
    (e1 : p' a 15 = nsel + 1) (e2 : q' l 3 = nsel + 1) (e3 : p' (a + 21) nsel = w) (e4 : q' (l + 4) (nsel + 1) = ns) : SY T n N s C ns na nf (nsel + 1) nb nt p' q' a l := by
  obtain ⟨y1, y2, y3, y4, y5, y6, y7⟩ := Y
  have rp : ∀ k : Int, 1 ≤ k → k ≤ 27 → k ≠ 21 → p' (a + k) = p (a + k) := fun k k0 k1 k2 => funext fun j => hp _ _ (by omega) (by omega) (by omega)
  have rq : ∀ k : Int, 3 ≤ k → k ≤ 22 → k ≠ 4 → q' (l + k) = q (l + k) := fun k k0 k1 k2 => funext fun j => hq _ _ (Or.inr ⟨by omega, by omega⟩) (by omega)
  have pa : ∀ j, j ≠ 15 → p' a j = p a j := fun j hj => hp _ _ (by omega) (by omega) (by omega)
  have ql : ∀ j, j ≠ 3 → q' l j = q l j := fun j hj => hq _ _ (Or.inl rfl) (by omega)
  have q4 : ∀ j, j ≠ nsel + 1 → q' (l + 4) j = q (l + 4) j := fun j hj => hq _ _ (Or.inr ⟨by omega, by omega⟩) (by omega)
  have p21 : ∀ j, j ≠ nsel → p' (a + 21) j = p (a + 21) j := fun j hj => hp _ _ (by omega) (by omega) (by omega)
  refine ⟨?_, ?_, ?_, ?_, ?_, ?_, ?_⟩
  · unfold syN at *
    rw [rp 11 (by decide) (by decide) (by decide)]
    exact ⟨y1.1.kept (fun b b0 b1 => by have := rp (b - a) (by omega) (by omega) (by omega); rwa [show a + (b - a) = b by omega] at this), y1.2⟩
  · unfold syC at *
    rw [ql 8 (by decide), rq 21 (by decide) (by decide) (by decide), rq 22 (by decide) (by decide) (by decide)]
    obtain ⟨c1, c2, s, c3, c4⟩ := y2
    exact ⟨c1, c2, s, c3.kept (fun b b0 b1 => by have := rp (b - a) (by omega) (by omega) (by omega); rwa [show a + (b - a) = b by omega] at this), c4⟩
  · unfold syS at *
    rw [pa 6 (by decide), ql 4 (by decide), rp 13 (by decide) (by decide) (by decide), rp 14 (by decide) (by decide) (by decide), rp 15 (by decide) (by decide) (by decide), rq 6 (by decide) (by decide) (by decide), rq 7 (by decide) (by decide) (by decide), rq 8 (by decide) (by decide) (by decide), rq 9 (by decide) (by decide) (by decide)]
    exact y3
  · unfold syA at *
    rw [pa 11 (by decide), ql 5 (by decide), rp 11 (by decide) (by decide) (by decide), rp 12 (by decide) (by decide) (by decide), rp 16 (by decide) (by decide) (by decide), rp 17 (by decide) (by decide) (by decide), rp 18 (by decide) (by decide) (by decide), rp 19 (by decide) (by decide) (by decide), rq 10 (by decide) (by decide) (by decide), rq 11 (by decide) (by decide) (by decide), rq 12 (by decide) (by decide) (by decide), rq 13 (by decide) (by decide) (by decide), rq 14 (by decide) (by decide) (by decide), rq 15 (by decide) (by decide) (by decide)]
    exact y4
  · unfold syL at *
    rw [rp 20 (by decide) (by decide) (by decide), rp 22 (by decide) (by decide) (by decide), rq 5 (by decide) (by decide) (by decide), rq 6 (by decide) (by decide) (by decide), rq 9 (by decide) (by decide) (by decide)]
    obtain ⟨c1, c2, c3, c4, c5, c6⟩ := y5
    refine ⟨e1, e2, by omega, by omega, by rw [q4 0 (by omega)]; exact c5, fun k k0 k1 => ?_⟩
    by_cases hk : k = nsel
    · subst hk
      rw [q4 k (by omega), e4, e3, e20, e22, eb]
      have nb0 := y6.2.2.2.2.1
      exact ⟨rfl, b0, b1, b2, ew, nb0, Int.le_refl _, fun z => by omega, fun _ => rfl⟩
    · rw [q4 k (by omega), q4 (k + 1) (by omega), p21 k hk]
      exact c6 k k0 (by omega)
  · unfold syD at *
    rw [pa 22 (by decide), ql 6 (by decide), pa 20 (by decide), ql 7 (by decide), rp 11 (by decide) (by decide) (by decide), rp 12 (by decide) (by decide) (by decide), rp 27 (by decide) (by decide) (by decide), rp 23 (by decide) (by decide) (by decide), rp 24 (by decide) (by decide) (by decide), rp 25 (by decide) (by decide) (by decide), rp 26 (by decide) (by decide) (by decide), rq 16 (by decide) (by decide) (by decide), rq 17 (by decide) (by decide) (by decide), rq 18 (by decide) (by decide) (by decide), rq 19 (by decide) (by decide) (by decide), rq 20 (by decide) (by decide) (by decide)]
    exact y6
  · unfold pgO at *
    rw [pa 23 (by decide), pa 24 (by decide), pa 25 (by decide), pa 26 (by decide), pa 27 (by decide), pa 28 (by decide), rq 3 (by decide) (by decide) (by decide)]
    exact y7
/-- between selectors -/
def SelQ (ns na nsel : Int) (q : Hp) (l : Int) : Prop := q (l + 4) nsel = ns ∧ q (l + 9) ns = na ∧ na ≤ 4 * ns ∧ ns ≤ 8 * nsel
def SelO (h1 h2 : Hp) (n : Int) (B T : Int → Int) (a l : Int) (p0 q0 : Hp) (C nf nsel nb nt i : Int) (rc rt : (Int × Int) × Hp) : Prop :=
  ∃ p q N s ns na i', rc.1 = (0, 0) ∧ rt.1 = (0, 0) ∧ i < i' ∧ SS h1 h2 n B T a l p q i' i' rc.2 rt.2 ∧ SY T n N s C ns na nf (nsel + 1) nb nt p q a l ∧ UB p a i' ∧ SelQ ns na (nsel + 1) q l ∧ KU a nsel p0 p ∧ KW l nsel q0 q
theorem y_selector {h1 h2 hc ht : Hp} {n : Int} {B T : Int → Int} {a l : Int} {p q : Hp} {i N C ns na nf nsel nb nt : Int} {s : Int → List Int} (ha : a ∈ in_aX3) (hl : l ∈ in_aX22) (S : SS h1 h2 n B T a l p q i i hc ht) (Y : SY T n N s C ns na nf nsel nb nt p q a l) (hf : nf ≤ nsel) (sq : SelQ ns na nsel q l) (ub : UB p a i) :
    Pr (m_X3_selector a 3 hc) (m_X22_selector l ht) (fun rc rt => SelO h1 h2 n B T a l p q C nf nsel nb nt i rc rt ∨ BO h1 h2 n a l rc rt) := by
  have h3 := aX3 ha
  have h22 := aX22 hl
  have g0 := S.ge
  obtain ⟨sq1, sq2, sq3, sq4⟩ := sq
  have pa15 : hc a 15 = nsel := by rw [S.pL (by omega) (by omega)]; exact Y.2.2.2.2.1.1
  have pa6 : hc a 6 = ns := by rw [S.pL (by omega) (by omega)]; exact Y.2.2.1.1
  have pa22 : hc a 22 = nb := by rw [S.pL (by omega) (by omega)]; exact Y.2.2.2.2.2.1.1
  have l3 : ht l 3 = nsel := by rw [S.pR (Or.inl rfl)]; exact Y.2.2.2.2.1.2.1
  have l4 : ht l 4 = ns := by rw [S.pR (Or.inl rfl)]; exact Y.2.2.1.2.1
  have ns0 := Y.2.2.1.2.2.1
  have s0 := Y.2.2.2.2.1.2.2.1
  have s1 := Y.2.2.2.2.1.2.2.2.1
  have k3 : hc 3 3 = (tk B i).1 := S.1.2.2.2.2.1.1
  unfold m_X3_selector m_X22_selector
  simp only [g_X2 S.1.1, k3, l3, l4]
  refine yl_gd trivial ?_
  rw [L_byte S, Option.bind_some]
  have thr120 : nsel = 120 → ∀ b h', Thr 432 (tk B i).2.1 hc ((1, b), h') → Pr (some ((1, b), h')) (gd (ht (ht l 1) (-2) = 336) (bW (m_X20_broken (ht l 1) ht) fun v13 h13 => gd (0 < v13) (some ((1, v13), h13)))) (fun rc rt => SelO h1 h2 n B T a l p q C nf nsel nb nt i rc rt ∨ BO h1 h2 n a l rc rt) := by
    intro e b h' z
    simp only [g_X22_1 S.2.1.1 hl]
    exact yr_gd trivial (R_brk hl S (fun b' h'' z' => y_some (Or.inr (ss_thr ha hl S ⟨by omega, by omega⟩ z z'))))
  have go : ((tk B i).1 = 1 ∨ ((tk B i).1 = 4 ∧ (tk B i).2.2.2 = 42)) → Pr (m_X3_selector_j22 a 3 hc) (if nsel ≠ 120 then lt_ ns fun x1_21 => bT (m_X22_step l 0 x1_21 ht) (fun _ h25 => (lp (fun (q : Hp) => m_X22_selector_l28 l x1_21 q) h25).bind (sE (fun (y88 : Hp) => pt y88 l 3 (w32 ((y88 l 3) + 1)) fun h95 =>
  gd (h95 (h95 l 9) (-2) % 16 = 1 ∧ (0 : Int) ≤ (h95 l 3) ∧ (h95 l 3) < h95 (h95 l 9) (-1)) (pt h95 (h95 l 9) (h95 l 3) (h95 l 4) fun h110 =>
  some ((0, 0), h110))) (fun (x : (Int × Int) × Hp) => some x))) (fun a_ h_ => some ((1, a_), h_)) else gd (ht (ht l 1) (-2) = 336) (bW (m_X20_broken (ht l 1) ht) fun v13 h13 => gd (0 < v13) (some ((1, v13), h13)))) (fun rc rt => SelO h1 h2 n B T a l p q C nf nsel nb nt i rc rt ∨ BO h1 h2 n a l rc rt) := by
    intro tt
    unfold m_X3_selector_j22
    rw [pa15]
    by_cases h120 : nsel = 120
    · exact yl_ie (fun z => z h120) (yr_ie (fun z => z h120) (L_brk S (fun b h' z => thr120 h120 b h' z)))
    · refine yl_it h120 (yr_it h120 (yr_lt ?_))
      simp only [g_X3_12 S.1.1 ha, pa6]
      refine yl_gd (by omega) (yl_pt ?_)
      have S1 := S.putL (b := a + 20) (j := nsel) (v := ns) ha (by omega) (by unfold scW; omega)
      simp only [g_X3_14 S1.1.1 ha, up_a (show a ≠ a + 20 by omega), pa15, pa22]
      refine yl_gd (by omega) (yl_pt ?_)
      have S2 := S1.putL (b := a + 22) (j := nsel) (v := nb) ha (by omega) (by unfold scW; omega)
      have Y1 : SY T n N s C ns na nf nsel nb nt (up (up p (a + 20) nsel ns) (a + 22) nsel nb) q a l := by
        obtain ⟨y1, y2, y3, y4, y5, y6, y7⟩ := Y
        have rp : ∀ k : Int, 0 ≤ k → k ≤ 27 → k ≠ 20 → k ≠ 22 → up (up p (a + 20) nsel ns) (a + 22) nsel nb (a + k) = p (a + k) := fun k k0 k1 k2 k3 => by rw [up_row (by omega), up_row (by omega)]
        have ra : up (up p (a + 20) nsel ns) (a + 22) nsel nb a = p a := by rw [up_row (by omega), up_row (by omega)]
        refine ⟨?_, ?_, ?_, ?_, ?_, ?_, ?_⟩
        · unfold syN at *
          rw [rp 11 (by decide) (by decide) (by decide) (by decide)]
          exact ⟨y1.1.kept (fun b b0 b1 => by rw [up_row (by omega), up_row (by omega)]), y1.2⟩
        · unfold syC at *
          obtain ⟨c1, c2, s, c3, c4⟩ := y2
          exact ⟨c1, c2, s, c3.kept (fun b b0 b1 => by rw [up_row (by omega), up_row (by omega)]), c4⟩
        · unfold syS at *
          rw [ra, rp 13 (by decide) (by decide) (by decide) (by decide), rp 14 (by decide) (by decide) (by decide) (by decide), rp 15 (by decide) (by decide) (by decide) (by decide)]
          exact y3
        · unfold syA at *
          rw [ra, rp 11 (by decide) (by decide) (by decide) (by decide), rp 12 (by decide) (by decide) (by decide) (by decide), rp 16 (by decide) (by decide) (by decide) (by decide), rp 17 (by decide) (by decide) (by decide) (by decide), rp 18 (by decide) (by decide) (by decide) (by decide), rp 19 (by decide) (by decide) (by decide) (by decide)]
          exact y4
        · unfold syL at *
          rw [ra, rp 21 (by decide) (by decide) (by decide) (by decide)]
          obtain ⟨c1, c2, c3, c4, c5, c6⟩ := y5
          refine ⟨c1, c2, c3, c4, c5, fun k k0 k1 => ?_⟩
          (try simp (disch := omega) only [up_a, up_e, up_j, e32, e8])
          exact c6 k k0 k1
        · unfold syD at *
          rw [ra, rp 11 (by decide) (by decide) (by decide) (by decide), rp 12 (by decide) (by decide) (by decide) (by decide), rp 27 (by decide) (by decide) (by decide) (by decide), rp 23 (by decide) (by decide) (by decide) (by decide), rp 24 (by decide) (by decide) (by decide) (by decide), rp 25 (by decide) (by decide) (by decide) (by decide), rp 26 (by decide) (by decide) (by decide) (by decide)]
          exact y6
        · unfold pgO at *
          rw [ra]
          exact y7
      have ub1 : UB (up (up p (a + 20) nsel ns) (a + 22) nsel nb) a i := by
        unfold UB at *
        (try simp (disch := omega) only [up_a, up_e, up_j, e32, e8]); exact ub
      refine y_bT (y_step ha hl S2 tt Y1 (Or.inl ⟨rfl, rfl⟩) sq1 ns0 (Int.le_refl _) (by omega) sq2 sq3 (by omega) ub1) (fun rc rt z => ?_) (fun rc rt z => ?_) (fun rc rt z => y_some (Or.inr z))
      · obtain ⟨p', q', N', s', na', i', e1, e2, -⟩ := z
        exact ⟨e1, e2⟩
      · refine y_sjoin (w := 0) (p0 := p) (q0 := q) ha hl z sq1 ns0 (Int.le_refl _) (by omega) (by omega) sq3 sq2 (by rw [show (ns - ns).toNat = 0 by omega]; rfl) (by (try simp (disch := omega) only [up_a, up_e, up_j, e32, e8]) <;> omega) (by (try simp (disch := omega) only [up_a, up_e, up_j, e32, e8]) <;> omega) (fun b j b0 b1 nb => by (repeat rw [up_ne (by omega)])) (fun b j b0 nb => rfl) i (Int.le_refl _) (fun jn hc' I e6 => ?_)
        rw [Int.zero_add] at I
        refine y_bind (y_mono (y_selloop ha hl s0 (by omega) I) (fun x y hxy => ?_))
        rcases hxy with ⟨w', hc2, ht2, rfl, rfl, p', q', N', s', ns', na', i', k', S', Y', ub', hk', hj', ew', eb', e9', n4', b1', b2', b0', b3', e20', e22', ku', kw'⟩ | ⟨rc', rt', rfl, rfl, z'⟩
        · simp only [sE]
          obtain ⟨ei, -⟩ : i' = k' ∧ True := by
            rcases hj' with z | ⟨lk, -, z, -⟩
            · exact ⟨z.2.1, trivial⟩
            · exact absurd rfl z
          subst ei
          have q15 : hc2 a 15 = nsel := by rw [S'.pL (by omega) (by omega)]; exact Y'.2.2.2.2.1.1
          have r3 : ht2 l 3 = nsel := by rw [S'.pR (Or.inl rfl)]; exact Y'.2.2.2.2.1.2.1
          have r4 : ht2 l 4 = ns' := by rw [S'.pR (Or.inl rfl)]; exact Y'.2.2.1.2.1
          simp only [g_X3_13 S'.1.1 ha, q15]
          refine yl_gd (by omega) (yl_pt ?_)
          have S3 := S'.putL (b := a + 21) (j := nsel) (v := w') ha (by omega) (by unfold scW; omega)
          rw [up_a (show a ≠ a + 21 by omega), q15, e32 (by omega) (by omega)]
          refine yl_pt ?_
          have S4 := S3.putL (b := a) (j := 15) (v := nsel + 1) ha (by omega) (by unfold scW; omega)
          rw [r3, e32 (by omega) (by omega)]
          refine yr_pt ?_
          have S5 := S4.putR (b := l) (j := 3) (v := nsel + 1) hl (Or.inl rfl) (by unfold stW2; omega)
          simp only [g_X22_9 S5.2.1.1 hl, up_s, up_j (show (4 : Int) ≠ 3 by decide), r4]
          refine yr_gd (by omega) (yr_pt (y_some (Or.inl ⟨_, _, N', s', ns', na', i', rfl, rfl, hk', S5.putR (b := l + 4) (j := nsel + 1) (v := ns') hl (Or.inr ⟨by omega, by omega⟩) (by unfold stW2; omega), Y'.sel (by omega) hf eb' b0' b1' b2' ew' e20' e22' (fun b j b0 b1 nb => by (repeat rw [up_ne (by omega)])) (fun b j b0 nb => by (repeat rw [up_ne (by omega)])) (by (try simp (disch := omega) only [up_a, up_e, up_j, e32, e8]) <;> omega) (by (try simp (disch := omega) only [up_a, up_e, up_j, e32, e8]) <;> omega) (by (try simp (disch := omega) only [up_a, up_e, up_j, e32, e8]) <;> omega) (by (try simp (disch := omega) only [up_a, up_e, up_j, e32, e8]) <;> omega), ?_, ⟨(by (try simp (disch := omega) only [up_a, up_e, up_j, e32, e8]) <;> omega), (by (try simp (disch := omega) only [up_a, up_e, up_j, e32, e8]) <;> omega), n4', ?_⟩, ?_, ?_⟩)))
          · unfold UB at *
            (try simp (disch := omega) only [up_a, up_e, up_j, e32, e8]); exact ub'
          · omega
          · intro b j b0 b1 nb
            (repeat rw [up_ne (by omega)])
            exact ku' b j b0 b1 nb
          · intro b j b0 nb
            (repeat rw [up_ne (by omega)])
            exact kw' b j b0 nb
        · exact y_some (Or.inr z')
  by_cases t1 : (tk B i).1 = 1
  · exact yl_it t1 (go (Or.inl t1))
  · refine yl_ie t1 ?_
    by_cases t2 : (tk B i).1 = 4 ∧ (tk B i).2.2.2 = 42
    · rw [if_pos t2]
      exact yl_it (by decide) (go (Or.inr t2))
    · rw [if_neg t2]
      refine yl_ie (fun z => z rfl) (L_brk S (fun b h' z => ?_))
      by_cases h120 : nsel = 120
      · exact yr_ie (fun z => z h120) (thr120 h120 b h' z)
      · refine yr_it h120 (yr_lt (yr_bT (z_mono (t_stepbad hl S l4 ns0 (by omega) ns0 (by omega) (Or.inr ⟨t1, t2⟩)) (fun rt z' => Or.inr ⟨by rw [z'.1]; decide, ?_⟩))))
        rw [z'.one]
        exact y_some (Or.inr (ss_thr ha hl S ⟨by omega, by omega⟩ z z'))
