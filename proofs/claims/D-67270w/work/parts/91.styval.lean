set_option maxRecDepth 100000
/-! STYLES: values -/
/-- both stand before a value -/
def VB (h1 h2 : Hp) (n : Int) (B T : Int → Int) (a l : Int) (p q : Hp) (C nt i : Int) (hc ht : Hp) : Prop :=
  SS h1 h2 n B T a l p q i i hc ht ∧ UB p a i ∧ syC T n C p q a l ∧ 0 ≤ p (a + 11) 1 ∧ p (a + 11) 1 ≤ 16384 ∧ p a 20 = nt ∧ q l 7 = nt ∧ 0 ≤ nt ∧ nt < 600 ∧ q (l + 19) nt = 0 ∧ q (l + 20) nt = 0
/-- a plain value v is written on the left -/
theorem VO.plain {h1 h2 : Hp} {n : Int} {B T : Int → Int} {a l : Int} {p q : Hp} {C nt pr i i' v : Int} {hc ht hc' ht' : Hp} (ha : a ∈ in_aX3) (V : VB h1 h2 n B T a l p q C nt i hc ht) (S : SS h1 h2 n B T a l (up p (a + 24) nt v) q i' i' hc' ht') (hi : i ≤ i') (p1 : pr ≠ 1) (p17 : pr ≠ 17) (p0 : 0 ≤ pr) (p21 : pr ≤ 21) (hv : vrO C pr v) : VO h1 h2 n B T a l p q C nt pr i ((0, 0), hc') ((0, v), ht') := by
  obtain ⟨S0, ub, sc, m0, m1, e20, e7, t0, t1, l19, l20⟩ := V
  have h3 := aX3 ha
  refine ⟨_, _, C, i', rfl, rfl, hi, S, ?_, Int.le_refl _, ?_, fun b j b0 b1 nb => by (repeat rw [up_ne (by omega)]), ?_, fun b j b0 nb => rfl, ?_⟩
  · unfold UB at *
    (try simp (disch := omega) only [up_a, up_e, up_j, e32, e8]); omega
  · unfold syC at *
    obtain ⟨c1, c2, s, c3, c4⟩ := sc
    exact ⟨c1, c2, s, c3.kept (fun b b0 b1 => up_row (by omega)), c4⟩
  · (try simp (disch := omega) only [up_a, up_e, up_j, e32, e8]); omega
  · (try simp (disch := omega) only [up_a, up_e, up_j, e32, e8])
    exact ⟨rfl, p0, p21, fun z => absurd z p1, fun z => absurd z p17, fun _ _ => ⟨rfl, hv⟩⟩
theorem y_vnum {α β : Type} {h1 h2 hc ht : Hp} {n : Int} {B T : Int → Int} {a l : Int} {p q : Hp} {C nt pr i lo hi : Int} {f : Hp → Option α} {fe : Int → Hp → Option α} {g ge : Int → Hp → Option β} {Q : α → β → Prop} (ha : a ∈ in_aX3) (hl : l ∈ in_aX22) (V : VB h1 h2 n B T a l p q C nt i hc ht) (p1 : pr ≠ 1) (p17 : pr ≠ 17) (p0 : 0 ≤ pr) (p21 : pr ≤ 21) (hv : ∀ v, lo ≤ v → v ≤ hi → vrO C pr v)
    (K : ∀ rc rt, VO h1 h2 n B T a l p q C nt pr i rc rt → Pr (f rc.2) (g rt.1.2 rt.2) Q) (KE : ∀ rc rt : (Int × Int) × Hp, BO h1 h2 n a l ((1, rc.1.2), rc.2) ((1, rt.1.2), rt.2) → Pr (fe rc.1.2 rc.2) (ge rt.1.2 rt.2) Q) :
    Pr (bT (m_X2_needNumber 3 lo hi hc) (fun v170 h170 => gd (h170 (hc a 17) (-2) % 16 = 1 ∧ (0 : Int) ≤ (hc a 20) ∧ (hc a 20) < h170 (hc a 17) (-1)) (pt h170 (hc a 17) (hc a 20) v170 fun h173 => f h173)) fe)
      (bT (gd (ht (ht l 1) (-2) = 336) (bT (m_X20_needNumber (ht l 1) lo hi ht) (fun v h => some ((0, v), h)) (fun a_ h_ => some ((1, a_), h_)))) g ge) Q := by
  have h3 := aX3 ha
  have V' := V
  obtain ⟨S, ub, sc, m0, m1, e20, e7, t0, t1, l19, l20⟩ := V
  have g0 := S.ge
  have pa20 : hc a 20 = nt := by rw [S.pL (by omega) (by omega)]; exact e20
  simp only [g_X22_1 S.2.1.1 hl, g_X3_17 S.1.1 ha, pa20]
  by_cases t2 : (tk B i).1 = 2 ∧ lo ≤ (tk B i).2.2.2 ∧ (tk B i).2.2.2 ≤ hi
  · refine L_num1 ha S t2 (fun hc1 S1 => ?_)
    have k := g_X3_17 S1.1.1 ha
    simp only [k.2.1, k.2.2]
    refine yl_gd (by omega) (yl_pt ?_)
    have S2 := S1.putL (b := a + 24) (j := nt) (v := (tk B i).2.2.2) ha (by omega) (by unfold scW; omega)
    have R : Pz (gd True (bT (m_X20_needNumber (l + 2) lo hi ht) (fun v h => some (((0 : Int), v), h)) (fun a_ h_ => some ((1, a_), h_)))) (fun rt => ∃ ht', rt = ((0, (tk B i).2.2.2), ht') ∧ SS h1 h2 n B T a l (up p (a + 24) nt (tk B i).2.2.2) q (nx B i) (nx B i) (up hc1 (a + 24) nt (tk B i).2.2.2) ht') := by
      refine z_gd trivial (z_bT (z_mono (ts_num S2.2.1) (fun r z => ?_)))
      rcases z with ⟨z1, z2, z3, z4⟩ | ⟨z1, z2⟩
      · refine Or.inl ⟨by rw [z2], z_some ⟨r.2, by rw [z2], S2.goR z3 z4⟩⟩
      · exact absurd t2 z1
    refine yr_bT (z_mono R (fun rt hr => ?_))
    obtain ⟨ht', rfl, S3⟩ := hr
    exact Or.inl ⟨rfl, K ((0, 0), _) _ (VO.plain ha V' S3 g0.1 p1 p17 p0 p21 (hv _ t2.2.1 t2.2.2))⟩
  · refine L_num0 S t2 (fun b h' z => ?_)
    have R : Pz (gd True (bT (m_X20_needNumber (l + 2) lo hi ht) (fun v h => some (((0 : Int), v), h)) (fun a_ h_ => some ((1, a_), h_)))) (fun rt => Thr 448 (tk B i).2.1 ht rt) := by
      refine z_gd trivial (z_bT (z_mono (ts_num S.2.1) (fun r z => ?_)))
      rcases z with ⟨z1, z2, z3, z4⟩ | ⟨z1, z2⟩
      · exact absurd z1 t2
      · refine Or.inr ⟨by rw [z2.1]; decide, z_some ?_⟩
        rw [z2.one]; exact z2
    refine yr_bT (z_mono R (fun rt hr => Or.inr ⟨by rw [hr.1]; decide, ?_⟩))
    have := KE ((1, b), h') rt (ss_thr ha hl S ⟨by omega, by omega⟩ z (by rw [hr.one]; exact hr))
    exact this
theorem t_word1 {h1 h2 hc ht : Hp} {n : Int} {B T : Int → Int} {a l : Int} {p q : Hp} {i k x : Int} {Z : List Int} {Ls : List (List Int)} (hl : l ∈ in_aX22) (S : SS h1 h2 n B T a l p q i k hc ht) (hs : strB x = some Z) (hz : spl Z [] = Ls) (hx : (tk B k).1 = 1 ∧ 0 ≤ ix (wr T (tk B k).2.1 (nx B k)) Ls 0) :
    Pz (bT (m_X22_word l x ht) (fun v h => some (((0 : Int), v), h)) (fun a_ h_ => some ((1, a_), h_))) (fun rt => ∃ ht', rt = ((0, ix (wr T (tk B k).2.1 (nx B k)) Ls 0), ht') ∧ SS h1 h2 n B T a l p q i (nx B k) hc ht') := by
  refine z_bT (z_mono (ts_word hl S.2.1 hs hz) (fun r z => ?_))
  rw [S.twR] at z
  rcases z with ⟨z1, z2, z3, z4⟩ | ⟨z1, z2⟩
  · exact Or.inl ⟨by rw [z2], z_some ⟨r.2, by rw [z2], S.goR z3 z4⟩⟩
  · exact absurd hx z1
theorem t_word0 {h1 h2 hc ht : Hp} {n : Int} {B T : Int → Int} {a l : Int} {p q : Hp} {i k x : Int} {Z : List Int} {Ls : List (List Int)} (hl : l ∈ in_aX22) (S : SS h1 h2 n B T a l p q i k hc ht) (hs : strB x = some Z) (hz : spl Z [] = Ls) (hx : ¬ ((tk B k).1 = 1 ∧ 0 ≤ ix (wr T (tk B k).2.1 (nx B k)) Ls 0)) :
    Pz (bT (m_X22_word l x ht) (fun v h => some (((0 : Int), v), h)) (fun a_ h_ => some ((1, a_), h_))) (fun rt => Thr 448 (tk B k).2.1 ht rt) := by
  refine z_bT (z_mono (ts_word hl S.2.1 hs hz) (fun r z => ?_))
  rw [S.twR] at z
  rcases z with ⟨z1, z2, z3, z4⟩ | ⟨z1, z2⟩
  · exact absurd z1 hx
  · refine Or.inr ⟨by rw [z2.1]; decide, z_some ?_⟩
    rw [z2.one]; exact z2
theorem y_vword {β : Type} {h1 h2 hc ht : Hp} {n : Int} {B T : Int → Int} {a l : Int} {p q : Hp} {C nt pr i x : Int} {Z : List Int} {Ls : List (List Int)} {f : Hp → Option ((Int × Int) × Hp)} {g ge : Int → Hp → Option β} {Q : (Int × Int) × Hp → β → Prop} (ha : a ∈ in_aX3) (hl : l ∈ in_aX22) (V : VB h1 h2 n B T a l p q C nt i hc ht) (p1 : pr ≠ 1) (p17 : pr ≠ 17) (p0 : 0 ≤ pr) (p21 : pr ≤ 21) (hs : strB x = some Z) (hz : spl Z [] = Ls) (hLs : Ls = (if pr = 0 then wShow else if pr = 8 then wAlign else if pr = 18 then wForm else wYes)) (hv : ∀ v : Int, 0 ≤ v → v < Ls.length → vrO C pr v)
    (K : ∀ rc rt, VO h1 h2 n B T a l p q C nt pr i rc rt → Pr (f rc.2) (g rt.1.2 rt.2) Q) (KE : ∀ rc rt : (Int × Int) × Hp, BO h1 h2 n a l ((1, rc.1.2), rc.2) ((1, rt.1.2), rt.2) → Pr (some ((1, rc.1.2), rc.2)) (ge rt.1.2 rt.2) Q) :
    Pr (bT (m_X2_needKind 3 1 hc) (fun _ h291 => (m_X3_wordOf pr 3 h291).bind fun v304 => gd (h291 (h291 a 17) (-2) % 16 = 1 ∧ (0 : Int) ≤ (h291 a 20) ∧ (h291 a 20) < h291 (h291 a 17) (-1)) (pt h291 (h291 a 17) (h291 a 20) v304 fun h307 => gd (h307 (h307 a 17) (-2) % 16 = 1 ∧ (0 : Int) ≤ (h307 a 20) ∧ (h307 a 20) < h307 (h307 a 17) (-1)) (if 0 ≤ (h307 (h307 a 17) (h307 a 20)) then ((m_X2_next 3 h307).bind fun h326 => f h326) else (bW (m_X2_broken 3 h307) fun v321 h321 => gd (0 < v321) (some ((1, v321), h321)))))) (fun a_ h_ => some ((1, a_), h_)))
      (bT (bT (m_X22_word l x ht) (fun v h => some ((0, v), h)) (fun a_ h_ => some ((1, a_), h_))) g ge) Q := by
  have h3 := aX3 ha
  have V' := V
  obtain ⟨S, ub, sc, m0, m1, e20, e7, t0, t1, l19, l20⟩ := V
  have g0 := S.ge
  have pa20 : hc a 20 = nt := by rw [S.pL (by omega) (by omega)]; exact e20
  by_cases t2 : (tk B i).1 = 1
  · refine L_kind1 S t2 ?_
    rw [q_wordOf S.1 t2, Option.bind_some, S.twL t2, ← hLs]
    simp only [g_X3_17 S.1.1 ha, pa20]
    refine yl_gd (by omega) (yl_pt ?_)
    generalize hw : ix (wr T (tk B i).2.1 (nx B i)) Ls 0 = v at *
    have S2 := S.putL (b := a + 24) (j := nt) (v := v) ha (by omega) (by unfold scW; omega)
    simp only [g_X3_17 S2.1.1 ha, up_a (show a ≠ a + 24 by omega), pa20, up_s]
    refine yl_gd (by omega) ?_
    have rg := ix_r (w := wr T (tk B i).2.1 (nx B i)) Ls 0 (by decide)
    rw [hw] at rg
    by_cases hv0 : 0 ≤ v
    · refine yl_it hv0 (L_next ha S2 (by omega) (fun hc1 S3 => yr_bT (z_mono (t_word1 hl S3 hs hz (by rw [hw]; exact ⟨t2, hv0⟩)) (fun rt hr => ?_))))
      obtain ⟨ht', e, S4⟩ := hr
      rw [hw] at e
      subst e
      exact Or.inl ⟨rfl, K ((0, 0), _) _ (VO.plain ha V' S4 g0.1 p1 p17 p0 p21 (hv _ hv0 (by omega)))⟩
    · refine yl_ie hv0 (L_brk S2 (fun b h' z => yr_bT (z_mono (t_word0 hl S2 hs hz (by rw [hw]; exact fun y => hv0 y.2)) (fun rt hr => Or.inr ⟨by rw [hr.1]; decide, ?_⟩))))
      exact KE ((1, b), h') rt (ss_thr ha hl S2 ⟨by omega, by omega⟩ z (by rw [hr.one]; exact hr))
  · refine L_kind0 S t2 (fun b h' z => yr_bT (z_mono (t_word0 hl S hs hz (fun y => t2 y.1)) (fun rt hr => Or.inr ⟨by rw [hr.1]; decide, ?_⟩)))
    exact KE ((1, b), h') rt (ss_thr ha hl S ⟨by omega, by omega⟩ z (by rw [hr.one]; exact hr))
theorem y_vsize {h1 h2 hc ht : Hp} {n : Int} {B T : Int → Int} {a l : Int} {p q : Hp} {C nt i : Int} (ha : a ∈ in_aX3) (hl : l ∈ in_aX22) (V : VB h1 h2 n B T a l p q C nt i hc ht) :
    Pr (m_X3_size a 3 hc) (m_X22_size l ht) (fun rc rt => VO h1 h2 n B T a l p q C nt 1 i rc rt ∨ BO h1 h2 n a l rc rt) := by
  have h3 := aX3 ha
  have h22 := aX22 hl
  obtain ⟨S, ub, sc, m0, m1, e20, e7, t0, t1, l19, l20⟩ := V
  have g0 := S.ge
  have hq := cs_ok S.1
  have pa20 : ∀ {hc' : Hp} {x y : Int} {ht' : Hp}, SS h1 h2 n B T a l p q x y hc' ht' → hc' a 20 = nt := fun S => by rw [S.pL (by omega) (by omega)]; exact e20
  unfold m_X3_size m_X22_size
  simp only [g_X2 S.1.1, g_X22_1 S.2.1.1 hl, S.tR.1]
  refine yl_gd trivial (yr_gd trivial ?_)
  by_cases t2 : (tk B i).1 = 2
  · have rn := hq.2.2.2.2.2.2.2.2.1 t2
    have c7 : hc 3 7 = (tk B i).2.2.2 := S.1.2.2.2.2.1.2.2.2.2.2 (Or.inl t2)
    have c4 : hc 3 4 = (tk B i).2.1 := S.1.2.2.2.2.1.2.1
    have d6 : ht (l + 2) 6 = (tk B i).2.2.2 := S.2.1.2.2.2.1.2.2.2.2.1 t2
    refine L_kind1 S t2 (yr_it ((kTe (by decide) (by decide)).mpr t2) ?_)
    rw [c7, c4, d6, S.tR.2.1]
    refine yl_lt (yl_lt (yr_lt (yr_lt (L_next ha S (by omega) (fun hc1 S1 => R_next S1 (by omega) (fun ht1 S2 => ?_))))))
    generalize hv : (tk B i).2.2.2 = v at *
    generalize hi1 : nx B i = i1 at *
    have g1 := S2.ge
    have pc := (tk_ge S.1)
    rw [L_byte S2, Option.bind_some]
    simp only [g_X22_1 S2.2.1.1 hl, g_X3_19 S2.1.1 ha, pa20 S2]
    refine yl_gd (by omega) (yl_pt (yr_gd trivial ?_))
    rw [R_byte S2 (by decide), Option.bind_some]
    generalize hsh : (if (tk B i1).1 = 4 ∧ (tk B i1).2.2.2 = 37 then (1 : Int) else 0) = sh at *
    have S3 := S2.putL (b := a + 26) (j := nt) (v := sh) ha (by omega) (by unfold scW; omega)
    simp only [g_X3_19 S3.1.1 ha, up_a (show a ≠ a + 26 by omega), pa20 S2, up_s]
    refine yl_gd (by omega) ?_
    have rc1 := S3.1.2.2.2.2.2.2.2
    have rt1 := S3.2.1.2.2.2.2.2.2.1
    have bo : ∀ {rc rt : (Int × Int) × Hp}, Thr 432 (tk B i).2.1 (up hc1 (a + 26) nt sh) rc → Thr 448 (tk B i).2.1 ht1 rt → VO h1 h2 n B T a l p q C nt 1 i rc rt ∨ BO h1 h2 n a l rc rt := fun z1 z2 => Or.inr (ss_thr ha hl S3 ⟨by omega, by omega⟩ z1 z2)
    have vo : ∀ {hc' ht' : Hp} {i' v' : Int}, i ≤ i' → i1 ≤ i' → SS h1 h2 n B T a l (up (up p (a + 26) nt sh) (a + 24) nt v) q i' i' hc' ht' → ((sh ≠ 0 ∧ v' = -v ∧ 1 ≤ v ∧ v ≤ 1000) ∨ (sh = 0 ∧ v' = v ∧ 1000 ≤ v ∧ v ≤ 100000)) → VO h1 h2 n B T a l p q C nt 1 i ((0, 0), hc') ((0, v'), ht') := by
      intro hc' ht' i' v' hi hi2 S' hv
      refine ⟨_, _, C, i', rfl, rfl, hi, S', ?_, Int.le_refl _, ?_, fun b j b0 b1 nb => by (repeat rw [up_ne (by omega)]), ?_, fun b j b0 nb => rfl, ?_⟩
      · unfold UB at *
        (try simp (disch := omega) only [up_a, up_e, up_j, e32, e8]); omega
      · unfold syC at *
        obtain ⟨c1, c2, s, c3, c4⟩ := sc
        exact ⟨c1, c2, s, c3.kept (fun b b0 b1 => by rw [up_row (by omega), up_row (by omega)]), c4⟩
      · (try simp (disch := omega) only [up_a, up_e, up_j, e32, e8]); omega
      · (try simp (disch := omega) only [up_a, up_e, up_j, e32, e8])
        exact ⟨rfl, by decide, by decide, fun _ => hv, fun z => by omega, fun z => absurd rfl z⟩
    unfold m_X3_size_j83
    by_cases t3 : (tk B i1).1 = 4 ∧ (tk B i1).2.2.2 = 37
    · rw [if_pos t3] at hsh
      subst hsh
      refine yl_ie (by decide) (yr_ie (by decide) ?_)
      refine yl_if (fun c1 => yr_it c1 (y_z (z_brk rc1 (fun b h' z => z_some (z_brk rt1 (fun b' h'' z' => z_some (bo z z'))))))) (fun c1 => yr_ie c1 (yl_if (fun c2 => yr_it c2 ?_) (fun c2 => yr_ie c2 (y_z (z_brk rc1 (fun b h' z => z_some (z_brk rt1 (fun b' h'' z' => z_some (bo z z')))))))))
      simp only [g_X3_19 S3.1.1 ha, up_a (show a ≠ a + 26 by omega), pa20 S2, up_s]
      refine yl_ie (by decide) (L_next ha S3 (by omega) (fun hc2 S4 => ?_))
      have c20 : hc2 a 20 = nt := by rw [S4.pL (by omega) (by omega)]; (try simp (disch := omega) only [up_a, up_e, up_j, e32, e8]); exact e20
      simp only [g_X3_17 S4.1.1 ha, c20]
      refine yl_gd (by omega) (yl_pt ?_)
      have S5 := S4.putL (b := a + 24) (j := nt) (v := v) ha (by omega) (by unfold scW; omega)
      refine R_next S5 (by omega) (fun ht2 S6 => ?_)
      rw [e32 (by omega) (by omega)]
      exact y_some (Or.inl (vo (by omega) (by omega) S6 (Or.inl ⟨by decide, rfl, by omega, by omega⟩)))
    · rw [if_neg t3] at hsh
      subst hsh
      refine yl_it rfl (yr_it rfl ?_)
      refine yl_if (fun c1 => yr_it c1 (y_z (z_brk rc1 (fun b h' z => z_some (z_brk rt1 (fun b' h'' z' => z_some (bo z z'))))))) (fun c1 => yr_ie c1 (yl_if (fun c2 => yr_it c2 ?_) (fun c2 => yr_ie c2 (y_z (z_brk rc1 (fun b h' z => z_some (z_brk rt1 (fun b' h'' z' => z_some (bo z z')))))))))
      simp only [g_X3_19 S3.1.1 ha, up_a (show a ≠ a + 26 by omega), pa20 S2, up_s]
      refine yl_it trivial ?_
      simp only [g_X3_17 S2.1.1 ha, g_X3_17 S3.1.1 ha]
      refine yl_gd (by omega) (yl_pt ?_)
      have S5 := S3.putL (b := a + 24) (j := nt) (v := v) ha (by omega) (by unfold scW; omega)
      exact y_some (Or.inl (vo (by omega) (by omega) S5 (Or.inr ⟨rfl, rfl, by omega, by omega⟩)))
  · exact L_kind0 S t2 (fun b h' z => yr_ie (fun y => t2 ((kTe (by decide) (by decide)).mp y)) (R_brk hl S (fun b' h'' z' => y_some (Or.inr (ss_thr ha hl S ⟨by omega, by omega⟩ z z')))))
/-- the counters of the reference -/
theorem t_counters {h1 h2 hc ht : Hp} {n : Int} {B T : Int → Int} {a l : Int} {p q : Hp} {i k C : Int} {s : Int → List Int} (hl : l ∈ in_aX22) (S : SS h1 h2 n B T a l p q i k hc ht) (t1 : (tk B k).1 = 1) (c1 : ht l 8 = C) (c0 : 0 ≤ C) (c2 : C ≤ 12) (cs : ∀ x, 0 ≤ x → x < C → 0 ≤ ht (l + 21) x ∧ ht (l + 21) x ≤ ht (l + 22) x ∧ ht (l + 22) x ≤ n ∧ s x = wr T (ht (l + 21) x) (ht (l + 22) x)) :
    Pz (lp (fun (q : Int) => m_X22_counter_l42 l q ht) 0) (fun y => 0 ≤ y ∧ y ≤ C ∧ (y < C → s y = wr T (tk B k).2.1 (nx B k)) ∧ ∀ x, 0 ≤ x → x < y → s x ≠ wr T (tk B k).2.1 (nx B k)) := by
  have hq := ts_ok S.2.1
  have l2 := hq.2.2.2.1 (by omega)
  have x := S.2.1.2.1
  have T' := S.2.2.2.2.1.1
  have n4 := S.2.2.2.2.2.2
  refine z_lp (fun y : Int => 0 ≤ y ∧ y ≤ C ∧ ∀ x, 0 ≤ x → x < y → s x ≠ wr T (tk B k).2.1 (nx B k)) (fun y => (C - y).toNat) ⟨by omega, c0, fun x x0 x1 => by omega⟩ ?_
  rintro y ⟨y0, y1, y2⟩
  unfold m_X22_counter_l42
  rw [c1]
  refine z_if (fun hc => z_some ⟨y0, y1, fun z => by omega, y2⟩) (fun hc => ?_)
  obtain ⟨d1, d2, d3, d4⟩ := cs y y0 (by omega)
  simp only [g_X22_26 S.2.1.1 hl, g_X22_27 S.2.1.1 hl, g_X22_0 S.2.1.1 hl, g_X22_1 S.2.1.1 hl, S.tR.2.1, S.tR.2.2]
  have t16 := g_X22_0 S.2.1.1 hl
  refine z_gd (by omega) (z_gd (by omega) (z_eqW (q_X18_same (by rw [t16.2.1]; decide) d1 d2 (by rw [t16.2.2]; omega) (by rw [t16.2.2]; decide) (by rw [t16.2.1]; decide) hq.1 hq.2.2.1 (by rw [t16.2.2]; unfold nx; omega) (by rw [t16.2.2]; decide)) (fun e => ?_) (fun e => ?_)))
  · rw [wr_wd, wr_wd, T'] at e
    exact z_it (by decide) (z_some ⟨y0, y1, fun _ => by rw [d4]; exact e, y2⟩)
  · rw [wr_wd, wr_wd, T'] at e
    refine z_ie (by decide) (z_lt ?_)
    rw [e32 (by omega) (by omega)]
    refine z_some ⟨⟨by omega, by omega, fun x x0 x1 => ?_⟩, by omega⟩
    by_cases hx : x = y
    · subst hx; rw [d4]; exact e
    · exact y2 x x0 (by omega)
