set_option maxRecDepth 100000
/-! STYLES: the page, all of it -/
theorem UB.mono {p : Hp} {a i j : Int} (u : UB p a i) (h : i ≤ j) : UB p a j := by
  obtain ⟨u1, u2, u3, u4⟩ := u
  exact ⟨by omega, by omega, by omega, by omega⟩
theorem TI_next {α β : Type} {h1 h2 hc ht : Hp} {n : Int} {B T : Int → Int} {a l i : Int} {f : Hp → Option α} {g : Hp → Option β} {Q : α → β → Prop} (ha : a ∈ in_aX3) (I : TI h1 h2 n B T a l i hc ht) (h5 : (tk B i).1 ≠ 5) (K : ∀ hc' ht', TI h1 h2 n B T a l (nx B i) hc' ht' → Pr (f hc') (g ht') Q) :
    Pr ((m_X2_next 3 hc).bind f) ((m_X20_next (l + 2) ht).bind g) Q := by
  obtain ⟨p, q, N, s, C, ns, na, nsel, nb, nt, S, Y, ub, sq, e16, nbs⟩ := I
  have g0 := S.ge
  exact L_next ha S h5 (fun hc1 S1 => R_next S1 h5 (fun ht1 S2 => K _ _ ⟨p, q, N, s, C, ns, na, nsel, nb, nt, S2, Y, ub.mono g0.1, sq, e16, nbs⟩))
theorem TI_need1 {α β : Type} {h1 h2 hc ht : Hp} {n : Int} {B T : Int → Int} {a l i x : Int} {f f' : Int → Hp → Option α} {g g' : Int → Hp → Option β} {Q : α → β → Prop} (ha : a ∈ in_aX3) (I : TI h1 h2 n B T a l i hc ht) (hp : isPl x = true) (t : (tk B i).1 = 4 ∧ (tk B i).2.2.2 = x) (K : ∀ hc' ht', TI h1 h2 n B T a l (nx B i) hc' ht' → Pr (f 0 hc') (g 0 ht') Q) :
    Pr (bT (m_X2_need 3 x hc) f f') (bT (m_X20_need (l + 2) x ht) g g') Q := by
  obtain ⟨p, q, N, s, C, ns, na, nsel, nb, nt, S, Y, ub, sq, e16, nbs⟩ := I
  have g0 := S.ge
  exact L_need1 ha S t (fun hc1 S1 => R_need1 S1 hp t (fun ht1 S2 => K _ _ ⟨p, q, N, s, C, ns, na, nsel, nb, nt, S2, Y, ub.mono g0.1, sq, e16, nbs⟩))
theorem TI_need0 {α β : Type} {h1 h2 hc ht : Hp} {n : Int} {B T : Int → Int} {a l i x : Int} {f f' : Int → Hp → Option α} {g g' : Int → Hp → Option β} {Q : α → β → Prop} (ha : a ∈ in_aX3) (hl : l ∈ in_aX22) (I : TI h1 h2 n B T a l i hc ht) (hp : isPl x = true) (t : ¬ ((tk B i).1 = 4 ∧ (tk B i).2.2.2 = x)) (K : ∀ b h' b' h'', BO h1 h2 n a l ((1, b), h') ((1, b'), h'') → Pr (f' b h') (g' b' h'') Q) :
    Pr (bT (m_X2_need 3 x hc) f f') (bT (m_X20_need (l + 2) x ht) g g') Q := by
  obtain ⟨p, q, S⟩ := I.ss
  have g0 := S.ge
  exact L_need0 S t (fun b h' z => R_need0 S hp t (fun b' h'' z' => K _ _ _ _ (ss_thr ha hl S ⟨by omega, by omega⟩ z z')))
theorem y_pgrest {h1 h2 hc ht : Hp} {n : Int} {B T : Int → Int} {a l i0 i v : Int} (ha : a ∈ in_aX3) (hl : l ∈ in_aX22) (I : TI h1 h2 n B T a l i hc ht) (hi0 : i0 ≤ i) (v0 : 0 ≤ v) (v5 : v ≤ 5) :
    Pr (if v = 0 then (bT (m_X2_needNumber 3 10000 1000000 hc) (fun v87 h87 =>
  pt h87 a 23 v87 fun h90 =>
  m_X3_page_j213 3 h90) (fun a_ h_ => some (.inr ((1, a_), h_))))
  else (if v = 1 then (bT (m_X2_needNumber 3 10000 1000000 hc) (fun v103 h103 =>
  pt h103 a 24 v103 fun h106 =>
  m_X3_page_j213 3 h106) (fun a_ h_ => some (.inr ((1, a_), h_))))
  else (if v = 2 then (bT (m_X2_needNumber 3 1 4 hc) (fun v116 h116 =>
  pt h116 a 25 v116 fun h119 =>
  m_X3_page_j213 3 h119) (fun a_ h_ => some (.inr ((1, a_), h_))))
  else (if v = 3 then (bT (m_X2_needNumber 3 0 100000 hc) (fun v130 h130 =>
  pt h130 a 26 v130 fun h133 =>
  m_X3_page_j213 3 h133) (fun a_ h_ => some (.inr ((1, a_), h_))))
  else (if v = 4 then (bT (m_X2_needNumber 3 0 100000 hc) (fun v144 h144 =>
  pt h144 a 27 v144 fun h147 =>
  m_X3_page_j213 3 h147) (fun a_ h_ => some (.inr ((1, a_), h_))))
  else ((m_X2_isName 3 (-21) hc).bind fun v157 =>
  if v157 = 0 then ((m_X2_isName 3 (-20) hc).bind fun v170 =>
  if v170 = 0 then ((m_X2_isName 3 (-22) hc).bind fun v183 =>
  if v183 = 0 then (m_X3_page_j194 3 a (-1) hc)
  else (m_X3_page_j194 3 a 2 hc))
  else (m_X3_page_j194 3 a 1 hc))
  else (m_X3_page_j194 3 a 0 hc))))))) (if 2 ≤ v then (if v ≠ 2 then (if 5 ≤ v then (bT (m_X22_word l (-96) ht) (fun v228 h228 =>
  gd (h228 (ht l 2) (-2) % 16 = 1 ∧ (0 : Int) ≤ v ∧ v < h228 (ht l 2) (-1)) (pt h228 (ht l 2) v v228 fun h231 =>
  m_X22_pageBody_j232 l h231)) (fun a_ h_ => some (.inr ((1, a_), h_))))
  else (gd (ht (ht l 1) (-2) = 336) (bT (m_X20_needNumber (ht l 1) 0 100000 ht) (fun v213 h213 =>
  gd (h213 (ht l 2) (-2) % 16 = 1 ∧ (0 : Int) ≤ v ∧ v < h213 (ht l 2) (-1)) (pt h213 (ht l 2) v v213 fun h216 =>
  m_X22_pageBody_j232 l h216)) (fun a_ h_ => some (.inr ((1, a_), h_))))))
  else (gd (ht (ht l 1) (-2) = 336) (bT (m_X20_needNumber (ht l 1) 1 4 ht) (fun v189 h189 =>
  gd (h189 (ht l 2) (-2) % 16 = 1 ∧ (0 : Int) ≤ v ∧ v < h189 (ht l 2) (-1)) (pt h189 (ht l 2) v v189 fun h192 =>
  m_X22_pageBody_j232 l h192)) (fun a_ h_ => some (.inr ((1, a_), h_))))))
  else (gd (ht (ht l 1) (-2) = 336) (bT (m_X20_needNumber (ht l 1) 10000 1000000 ht) (fun v166 h166 =>
  gd (h166 (ht l 2) (-2) % 16 = 1 ∧ (0 : Int) ≤ v ∧ v < h166 (ht l 2) (-1)) (pt h166 (ht l 2) v v166 fun h169 =>
  m_X22_pageBody_j232 l h169)) (fun a_ h_ => some (.inr ((1, a_), h_)))))) (PgO h1 h2 n B T a l i0) := by
  have kk : v = 0 ∨ v = 1 ∨ v = 2 ∨ v = 3 ∨ v = 4 ∨ v = 5 := by omega
  rcases kk with rfl | rfl | rfl | rfl | rfl | rfl
  · refine yl_it (by decide) (yr_ie (by decide) ?_)
    exact y_pgnum (k := 0) ha hl I hi0 (by decide) (by decide) (fun v _ _ => ⟨fun _ => ⟨by omega, by omega⟩, by omega, by omega, by omega⟩)
  · refine yl_ie (by decide) (yl_it (by decide) (yr_ie (by decide) ?_))
    exact y_pgnum (k := 1) ha hl I hi0 (by decide) (by decide) (fun v _ _ => ⟨fun _ => ⟨by omega, by omega⟩, by omega, by omega, by omega⟩)
  · refine yl_ie (by decide) (yl_ie (by decide) (yl_it (by decide) (yr_it (by decide) (yr_ie (by decide) ?_))))
    exact y_pgnum (k := 2) ha hl I hi0 (by decide) (by decide) (fun v _ _ => ⟨by omega, fun _ => ⟨by omega, by omega⟩, by omega, by omega⟩)
  · refine yl_ie (by decide) (yl_ie (by decide) (yl_ie (by decide) (yl_it (by decide) (yr_it (by decide) (yr_it (by decide) (yr_ie (by decide) ?_))))))
    exact y_pgnum (k := 3) ha hl I hi0 (by decide) (by decide) (fun v _ _ => ⟨by omega, by omega, fun _ => ⟨by omega, by omega⟩, by omega⟩)
  · refine yl_ie (by decide) (yl_ie (by decide) (yl_ie (by decide) (yl_ie (by decide) (yl_it (by decide) (yr_it (by decide) (yr_it (by decide) (yr_ie (by decide) ?_)))))))
    exact y_pgnum (k := 4) ha hl I hi0 (by decide) (by decide) (fun v _ _ => ⟨by omega, by omega, fun _ => ⟨by omega, by omega⟩, by omega⟩)
  · refine yl_ie (by decide) (yl_ie (by decide) (yl_ie (by decide) (yl_ie (by decide) (yl_ie (by decide) (yr_it (by decide) (yr_it (by decide) (yr_it (by decide) ?_)))))))
    exact y_pglines ha hl I hi0
theorem y_pgline {h1 h2 hc ht : Hp} {n : Int} {B T : Int → Int} {a l i : Int} (ha : a ∈ in_aX3) (hl : l ∈ in_aX22) (I : TI h1 h2 n B T a l i hc ht) (t4 : ¬ ((tk B i).1 = 4 ∧ (tk B i).2.2.2 = 125)) :
    Pr (m_X3_page_l6 a 3 hc) (m_X22_pageBody_l9 l ht) (PgO h1 h2 n B T a l i) := by
  obtain ⟨p, q, S⟩ := I.ss
  have g0 := S.ge
  unfold m_X3_page_l6 m_X22_pageBody_l9
  simp only [g_X22_1 S.2.1.1 hl]
  refine L_take0 S t4 (yl_ie (fun z => z rfl) (yr_gd trivial ?_))
  rw [R_byte S (by decide), Option.bind_some, if_neg t4]
  refine yr_ie (fun z => z rfl) ?_
  by_cases t1 : (tk B i).1 = 1
  · refine L_kind1 S t1 ?_
    rw [q_pageProperty S.1 t1, S.twL t1, Option.bind_some]
    rw [ts_isN S.2.1 t1 st_90, ts_isN S.2.1 t1 st_91, ts_isN S.2.1 t1 st_92, ts_isN S.2.1 t1 st_93, ts_isN S.2.1 t1 st_94, ts_isN S.2.1 t1 st_95, S.twR]
    generalize hw : wr T (tk B i).2.1 (nx B i) = w
    have chain : ∀ {β : Type} {u : Option β} {Q : β → _ → Prop}, Pr u (m_X22_pageBody_j118 l (ix w wPage 0) ht) Q → Pr u ((some (eqW w [119, 105, 100, 116, 104])).bind fun v27 =>
  if v27 = 0 then ((some (eqW w [104, 101, 105, 103, 104, 116])).bind fun v43 =>
  if v43 = 0 then ((some (eqW w [99, 111, 108, 117, 109, 110, 115])).bind fun v59 =>
  if v59 = 0 then ((some (eqW w [103, 97, 112])).bind fun v75 =>
  if v75 = 0 then ((some (eqW w [114, 117, 108, 101])).bind fun v91 =>
  if v91 = 0 then ((some (eqW w [108, 105, 110, 101, 115])).bind fun v107 =>
  if v107 = 0 then (m_X22_pageBody_j118 l (-1) ht)
  else (m_X22_pageBody_j118 l 5 ht))
  else (m_X22_pageBody_j118 l 4 ht))
  else (m_X22_pageBody_j118 l 3 ht))
  else (m_X22_pageBody_j118 l 2 ht))
  else (m_X22_pageBody_j118 l 1 ht))
  else (m_X22_pageBody_j118 l 0 ht)) Q := by
      intro β u Q hQ
      unfold wPage at hQ
      simp only [ix, apply_ite (fun k => m_X22_pageBody_j118 l k ht)] at hQ
      simp only [Option.bind_some, ite_eqW]
      exact hQ
    refine chain ?_
    have rg := ix_r (w := w) wPage 0 (by decide)
    have len : wPage.length = 6 := rfl
    generalize ix w wPage 0 = v at rg ⊢
    unfold m_X22_pageBody_j118
    by_cases v0 : 0 ≤ v
    · refine yl_it v0 (yr_it v0 ?_)
      simp only [g_X22_1 S.2.1.1 hl]
      refine TI_next ha I (by omega) (fun hc1 ht1 I1 => ?_)
      obtain ⟨p1, q1, S1⟩ := I1.ss
      have g1 := S1.ge
      simp only [g_X22_1 S1.2.1.1 hl]
      refine yr_gd trivial ?_
      by_cases t : (tk B (nx B i)).1 = 4 ∧ (tk B (nx B i)).2.2.2 = 58
      · exact TI_need1 ha I1 (by decide) t (fun hc2 ht2 I2 => y_pgrest ha hl I2 (by omega) v0 (by omega))
      · exact TI_need0 ha hl I1 (by decide) t (fun b h' b' h'' z => y_some (Or.inr ⟨_, _, rfl, rfl, z⟩))
    · refine yl_ie v0 (yr_ie v0 ?_)
      simp only [g_X22_1 S.2.1.1 hl]
      exact L_brk S (fun b h' z => R_brk hl S (fun b' h'' z' => y_some (Or.inr ⟨_, _, rfl, rfl, ss_thr ha hl S ⟨by omega, by omega⟩ z z'⟩)))
  · refine L_kind0 S t1 (fun b h' z => ?_)
    rw [ts_isN0 S.2.1 t1 st_90, ts_isN0 S.2.1 t1 st_91, ts_isN0 S.2.1 t1 st_92, ts_isN0 S.2.1 t1 st_93, ts_isN0 S.2.1 t1 st_94, ts_isN0 S.2.1 t1 st_95]
    simp only [Option.bind_some, if_true]
    unfold m_X22_pageBody_j118
    refine yr_ie (by decide) ?_
    simp only [g_X22_1 S.2.1.1 hl]
    exact R_brk hl S (fun b' h'' z' => y_some (Or.inr ⟨_, _, rfl, rfl, ss_thr ha hl S ⟨by omega, by omega⟩ z z'⟩))
theorem y_lpm {σ ρ τ π : Type} {f : σ → Option (σ ⊕ ρ)} {g : τ → Option (τ ⊕ π)} {s : σ} {t : τ} {Q : ρ → π → Prop} (I : Nat → σ → τ → Prop) (h0 : ∃ m, I m s t)
    (step : ∀ m s t, I m s t → Pr (f s) (g t) (fun a b => (∃ m' s' t', a = .inl s' ∧ b = .inl t' ∧ m' < m ∧ I m' s' t') ∨ (∃ x y, a = .inr x ∧ b = .inr y ∧ Q x y))) : Pr (lp f s) (lp g t) Q := by
  have key : ∀ n m s t, m < n → I m s t → Pr (lp f s) (lp g t) Q := by
    intro n
    induction n with
    | zero => intro m s t h; omega
    | succ n ih =>
      intro m s t hm hI
      obtain ⟨a, b, e1, e2, d⟩ := step m s t hI
      rw [lp_eq, lp_eq, e1, e2]
      rcases d with ⟨m', s', t', rfl, rfl, hlt, hI'⟩ | ⟨x, y, rfl, rfl, hQ⟩
      · exact ih m' s' t' (by omega) hI'
      · exact ⟨x, y, rfl, rfl, hQ⟩
  obtain ⟨m, h0⟩ := h0
  exact key (m + 1) m s t (Nat.lt_succ_self _) h0
theorem y_page {h1 h2 hc ht : Hp} {n : Int} {B T : Int → Int} {a l i : Int} (ha : a ∈ in_aX3) (hl : l ∈ in_aX22) (I : TI h1 h2 n B T a l i hc ht) :
    Pr (m_X3_page a 3 hc) (m_X22_pageBody l ht) (fun rc rt => TO h1 h2 n B T a l i rc rt ∨ BO h1 h2 n a l rc rt) := by
  obtain ⟨p, q, S⟩ := I.ss
  have g0 := S.ge
  unfold m_X3_page m_X22_pageBody
  simp only [g_X22_1 S.2.1.1 hl, g_X2 S.1.1]
  refine yl_gd trivial (yr_gd trivial ?_)
  by_cases t : (tk B i).1 = 4 ∧ (tk B i).2.2.2 = 123
  · have lt := tk_lt4 t.1
    refine TI_need1 ha I (by decide) t (fun hc1 ht1 I1 => ?_)
    refine y_bind (y_mono (Q := fun rc rt => TO h1 h2 n B T a l i rc rt ∨ BO h1 h2 n a l rc rt) ?_ (fun x y hxy => y_some hxy))
    refine y_lpm (fun m (x : Hp) (y : Hp) => ∃ i', i < i' ∧ m = (n - i').toNat ∧ TI h1 h2 n B T a l i' x y) ⟨_, nx B i, by omega, rfl, I1⟩ ?_
    rintro m hc ht ⟨i', hi, rfl, I⟩
    obtain ⟨p, q, S⟩ := I.ss
    have g0 := S.ge
    by_cases t4 : (tk B i').1 = 4 ∧ (tk B i').2.2.2 = 125
    · have lt' := tk_lt4 t4.1
      unfold m_X3_page_l6 m_X22_pageBody_l9
      simp only [g_X22_1 S.2.1.1 hl]
      obtain ⟨p, q, N, s, C, ns, na, nsel, nb, nt, S, Y, ub, sq, e16, nbs⟩ := I
      refine L_take1 ha S t4 (fun hc1 S1 => yl_it (by decide) (yr_gd trivial ?_))
      rw [R_byte S1 (by decide), Option.bind_some, if_pos t4]
      refine yr_it (by decide) (R_next S1 (by omega) (fun ht1 S2 => ?_))
      exact y_some (Or.inr ⟨_, _, rfl, rfl, Or.inl ⟨nx B i', rfl, rfl, by omega, p, q, N, s, C, ns, na, nsel, nb, nt, S2, Y, ub.mono g0.1, sq, e16, nbs⟩⟩)
    · refine y_mono (y_pgline ha hl I t4) (fun x y hxy => ?_)
      rcases hxy with ⟨i1, hc1, ht1, rfl, rfl, hi1, I1⟩ | ⟨rc, rt, rfl, rfl, z⟩
      · obtain ⟨p1, q1, S1⟩ := I1.ss
        have g1 := S1.ge
        exact Or.inl ⟨_, _, _, rfl, rfl, by omega, i1, by omega, rfl, I1⟩
      · exact Or.inr ⟨_, _, rfl, rfl, Or.inr z⟩
  · exact TI_need0 ha hl I (by decide) t (fun b h' b' h'' z => y_some (Or.inr z))
