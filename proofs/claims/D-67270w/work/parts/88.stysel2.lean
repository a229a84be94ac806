set_option maxRecDepth 100000
/-! STYLES: a selector, all of it -/
theorem L_join {α β : Type} {h1 h2 hc ht : Hp} {n : Int} {B T : Int → Int} {a l : Int} {p q : Hp} {i k : Int} {f : Int → Hp → Option α} {u : Option β} {Q : α → β → Prop} (ha : a ∈ in_aX3) (S : SS h1 h2 n B T a l p q i k hc ht)
    (K0 : ¬ ((tk B i).1 = 4 ∧ (tk B i).2.2.2 = 62) → ¬ ((tk B i).1 = 4 ∧ (tk B i).2.2.2 = 47) → ¬ ((tk B i).1 = 4 ∧ (tk B i).2.2.2 = 43) → Pr (f 0 hc) u Q)
    (K1 : ∀ jn lk hc', joinO jn lk → jn ≠ 0 → (tk B i).1 = 4 → (tk B i).2.2.2 = lk → SS h1 h2 n B T a l p q (nx B i) k hc' ht → Pr (f jn hc') u Q) : Pr (bW (m_X3_join a 3 hc) f) u Q := by
  have key : Pr (m_X3_join a 3 hc) u (fun x y => Pr (f x.1 x.2) u Q) → Pr (bW (m_X3_join a 3 hc) f) u Q := by
    rintro ⟨x, y, e1, e2, x', y', e3, e4, e5⟩
    exact ⟨x', y', by unfold bW; rw [e1]; exact e3, e4, e5⟩
  by_cases t1 : (tk B i).1 = 4 ∧ (tk B i).2.2.2 = 62
  · have : Pz (m_X3_join a 3 hc) (fun x => ∃ hc', x = (1, hc') ∧ SS h1 h2 n B T a l p q (nx B i) k hc' ht) := by
      unfold m_X3_join
      rw [g_X2 S.1.1]
      refine z_gd rfl (z_bW (z_mono (cs_take S.1) (fun r z => ?_)))
      rcases z with ⟨z1, z2, z3, z4⟩ | ⟨z1, z2, z3⟩
      · exact z_ie (by omega) (z_some ⟨_, rfl, S.goL ha z3 z4⟩)
      · exact absurd t1 z2
    refine yl_bW (z_mono this (fun x hx => ?_))
    obtain ⟨hc', rfl, S'⟩ := hx
    exact K1 1 62 hc' (Or.inr (Or.inl ⟨rfl, rfl⟩)) (by decide) t1.1 t1.2 S'
  by_cases t2 : (tk B i).1 = 4 ∧ (tk B i).2.2.2 = 47
  · have : Pz (m_X3_join a 3 hc) (fun x => ∃ hc', x = (2, hc') ∧ SS h1 h2 n B T a l p q (nx B i) k hc' ht) := by
      unfold m_X3_join
      rw [g_X2 S.1.1]
      refine z_gd rfl (z_bW (z_mono (cs_take S.1) (fun r z => ?_)))
      rcases z with ⟨z1, z2, z3, z4⟩ | ⟨z1, z2, z3⟩
      · exact absurd z2 t1
      · refine z_it z1 ?_
        rw [z3]
        refine z_bW (z_mono (cs_take S.1) (fun r z => ?_))
        rcases z with ⟨z1, z2, z3, z4⟩ | ⟨z1, z2, z3⟩
        · exact z_ie (by omega) (z_some ⟨_, rfl, S.goL ha z3 z4⟩)
        · exact absurd t2 z2
    refine yl_bW (z_mono this (fun x hx => ?_))
    obtain ⟨hc', rfl, S'⟩ := hx
    exact K1 2 47 hc' (Or.inr (Or.inr (Or.inl ⟨rfl, rfl⟩))) (by decide) t2.1 t2.2 S'
  by_cases t3 : (tk B i).1 = 4 ∧ (tk B i).2.2.2 = 43
  · have : Pz (m_X3_join a 3 hc) (fun x => ∃ hc', x = (3, hc') ∧ SS h1 h2 n B T a l p q (nx B i) k hc' ht) := by
      unfold m_X3_join
      rw [g_X2 S.1.1]
      refine z_gd rfl (z_bW (z_mono (cs_take S.1) (fun r z => ?_)))
      rcases z with ⟨z1, z2, z3, z4⟩ | ⟨z1, z2, z3⟩
      · exact absurd z2 t1
      · refine z_it z1 ?_
        rw [z3]
        refine z_bW (z_mono (cs_take S.1) (fun r z => ?_))
        rcases z with ⟨z1, z2, z3, z4⟩ | ⟨z1, z2, z3⟩
        · exact absurd z2 t2
        · refine z_it z1 ?_
          rw [z3]
          refine z_bW (z_mono (cs_take S.1) (fun r z => ?_))
          rcases z with ⟨z1, z2, z3, z4⟩ | ⟨z1, z2, z3⟩
          · exact z_ie (by omega) (z_some ⟨_, rfl, S.goL ha z3 z4⟩)
          · exact absurd t3 z2
    refine yl_bW (z_mono this (fun x hx => ?_))
    obtain ⟨hc', rfl, S'⟩ := hx
    exact K1 3 43 hc' (Or.inr (Or.inr (Or.inr ⟨rfl, rfl⟩))) (by decide) t3.1 t3.2 S'
  · have : Pz (m_X3_join a 3 hc) (fun x => x = (0, hc)) := by
      unfold m_X3_join
      rw [g_X2 S.1.1]
      refine z_gd rfl (z_bW (z_mono (cs_take S.1) (fun r z => ?_)))
      rcases z with ⟨z1, z2, z3, z4⟩ | ⟨z1, z2, z3⟩
      · exact absurd z2 t1
      · refine z_it z1 ?_
        rw [z3]
        refine z_bW (z_mono (cs_take S.1) (fun r z => ?_))
        rcases z with ⟨z1, z2, z3, z4⟩ | ⟨z1, z2, z3⟩
        · exact absurd z2 t2
        · refine z_it z1 ?_
          rw [z3]
          refine z_bW (z_mono (cs_take S.1) (fun r z => ?_))
          rcases z with ⟨z1, z2, z3, z4⟩ | ⟨z1, z2, z3⟩
          · exact absurd z2 t3
          · exact z_it z1 (z_some (by rw [z3]))
    refine yl_bW (z_mono this (fun x hx => ?_))
    subst hx
    exact K0 t1 t2 t3
theorem ts_ge {h : Hp} {a t n : Int} {B : Int → Int} {i : Int} (c : TS h a t n B i) : i ≤ (tk B i).2.1 := by
  obtain ⟨hL, x, rfl, A, j0, j1, rm, -⟩ := c
  have s0 := sc_spec (B := Bt h t n) (p := isBl) (i := i) (fun x hx => bt_end (by decide) hx) j1
  have e : (tk (Bt h t n) i).2.1 = sc (Bt h t n) isBl i := by
    unfold tk
    split
    · rfl
    · split
      · rfl
      · split
        · rfl
        · split <;> rfl
  rw [e]
  exact s0.2.1
theorem SS.geR {h1 h2 hc ht : Hp} {n : Int} {B T : Int → Int} {a l : Int} {p q : Hp} {i k : Int} (S : SS h1 h2 n B T a l p q i k hc ht) : k ≤ nx B k ∧ k ≤ (tk B k).2.1 := by
  have hq := ts_ok S.2.1
  have g := ts_ge S.2.1
  exact ⟨Int.le_trans g hq.2.2.1, g⟩
theorem wsm_s {P Q : Int → Int} {f m : Int} (h : f ≤ m) : wsm P Q f (m + 1 - f).toNat = wsm P Q f (m - f).toNat + (100 * (P (m + 1) - P m) + (if 0 ≤ Q m then 1 else 0)) := by
  have e : (m + 1 - f).toNat = (m - f).toNat + 1 := by omega
  rw [e]
  show wsm P Q f (m - f).toNat + _ = _
  have e2 : f + ((m - f).toNat : Int) = m := by omega
  rw [e2]
theorem wsm_r {P Q : Int → Int} {f : Int} : ∀ k : Nat, (∀ x, f ≤ x → x < f + k → P x ≤ P (x + 1) ∧ P (x + 1) ≤ P x + 4) → 0 ≤ wsm P Q f k ∧ wsm P Q f k ≤ 401 * k := by
  intro k
  induction k with
  | zero => intro _; exact ⟨Int.le_refl 0, Int.le_refl 0⟩
  | succ k ih =>
    intro h
    have a1 := ih (fun x x0 x1 => h x x0 (by omega))
    have a2 := h (f + k) (by omega) (by omega)
    show 0 ≤ wsm P Q f k + _ ∧ wsm P Q f k + _ ≤ _
    split <;> omega
/-- what a selector leaves as it is -/
def KU (a nsel : Int) (p p' : Hp) : Prop := ∀ b j, a ≤ b → b ≤ a + 27 → ¬ ((a + 1 ≤ b ∧ b ≤ a + 5) ∨ (b = a ∧ (j = 6 ∨ j = 11 ∨ j = 15)) ∨ (a + 11 ≤ b ∧ b ≤ a + 19) ∨ (a + 20 ≤ b ∧ b ≤ a + 22 ∧ j = nsel)) → p' b j = p b j
def KW (l nsel : Int) (q q' : Hp) : Prop := ∀ b j, (b = l ∨ l + 3 ≤ b ∧ b ≤ l + 22) → ¬ ((b = l ∧ (j = 3 ∨ j = 4 ∨ j = 5)) ∨ (l + 6 ≤ b ∧ b ≤ l + 15) ∨ (b = l + 4 ∧ j = nsel + 1)) → q' b j = q b j
def SelI (h1 h2 : Hp) (n : Int) (B T : Int → Int) (a l : Int) (p0 q0 : Hp) (C bg nf nsel nb nt ib w jn : Int) (hc ht : Hp) : Prop :=
  ∃ p q N s ns na i k, SS h1 h2 n B T a l p q i k hc ht ∧ SY T n N s C ns na nf nsel nb nt p q a l ∧ UB p a i ∧ ib < k ∧
    ((jn = 0 ∧ i = k ∧ ¬ ((tk B i).1 = 4 ∧ (tk B i).2.2.2 = 62) ∧ ¬ ((tk B i).1 = 4 ∧ (tk B i).2.2.2 = 47) ∧ ¬ ((tk B i).1 = 4 ∧ (tk B i).2.2.2 = 43)) ∨ (∃ lk, joinO jn lk ∧ jn ≠ 0 ∧ (tk B k).1 = 4 ∧ (tk B k).2.2.2 = lk ∧ i = nx B k)) ∧
    w = wsm (q (l + 9)) (q (l + 6)) bg (ns - bg).toNat ∧ q (l + 4) nsel = bg ∧ q (l + 9) ns = na ∧ na ≤ 4 * ns ∧ bg < ns ∧ ns ≤ bg + 8 ∧ 0 ≤ bg ∧ bg + 8 ≤ 960 ∧ p (a + 20) nsel = bg ∧ p (a + 22) nsel = nb ∧ KU a nsel p0 p ∧ KW l nsel q0 q
/-- the reference can't take a step here -/
theorem t_stepbad {h1 h2 hc ht : Hp} {n : Int} {B T : Int → Int} {a l : Int} {p q : Hp} {i k ns bg lk : Int} (hl : l ∈ in_aX22) (S : SS h1 h2 n B T a l p q i k hc ht) (l4 : ht l 4 = ns) (n0 : 0 ≤ ns) (n1 : ns ≤ 960) (b0 : 0 ≤ bg) (b1 : bg ≤ 960) (bad : ns - bg = 8 ∨ ((tk B k).1 ≠ 1 ∧ ¬ ((tk B k).1 = 4 ∧ (tk B k).2.2.2 = 42))) : Pz (m_X22_step l lk bg ht) (fun rt => Thr 448 (tk B k).2.1 ht rt) := by
  have h22 := aX22 hl
  have rm := S.2.1.2.2.2.2.2.2.1
  unfold m_X22_step
  rw [l4]
  simp only [g_X22_1 S.2.1.1 hl, e32 (x := ns - bg) (by omega) (by omega)]
  rw [R_byte S (by decide), Option.bind_some, S.tR.1]
  by_cases h8 : ns - bg = 8
  · exact z_ie (fun z => z h8) (z_gd trivial (t_broken rm (by omega) (by omega) S.tR.2.1 (fun b h' z => z_some z)))
  · obtain ⟨t1, t2⟩ : (tk B k).1 ≠ 1 ∧ ¬ ((tk B k).1 = 4 ∧ (tk B k).2.2.2 = 42) := by
      rcases bad with z | z
      · exact absurd z h8
      · exact z
    rw [if_neg t2]
    exact z_it h8 (z_gd trivial (z_it rfl (z_it (fun y => t1 ((kTe (by decide) (by decide)).mp y)) (t_broken rm (by omega) (by omega) S.tR.2.1 (fun b h' z => z_some z)))))
theorem Thr.one {K p : Int} {h : Hp} {z : (Int × Int) × Hp} (y : Thr K p h z) : ((1, z.1.2), z.2) = z := by
  have := y.1
  obtain ⟨⟨z1, z2⟩, z3⟩ := z
  dsimp only at this ⊢
  rw [this]
/-- behind a step: the join that comes -/
theorem y_sjoin {γ δ : Type} {h1 h2 : Hp} {n : Int} {B T : Int → Int} {a l : Int} {p0 q0 p q : Hp} {C bg ns na nf nsel nb nt i w : Int} {rc rt : (Int × Int) × Hp} {f : Int → Hp → Option γ} {u : Option δ} {Q : γ → δ → Prop} (ha : a ∈ in_aX3) (hl : l ∈ in_aX22) (Z : SO h1 h2 n B T a l p q C ns na nf nsel nb nt i rc rt) (eb : q (l + 4) nsel = bg) (b0 : 0 ≤ bg) (b1 : bg ≤ ns) (b2 : ns < bg + 8) (b3 : bg + 8 ≤ 960) (n4 : na ≤ 4 * ns) (e9 : q (l + 9) ns = na) (ew : w = wsm (q (l + 9)) (q (l + 6)) bg (ns - bg).toNat) (e20 : p (a + 20) nsel = bg) (e22 : p (a + 22) nsel = nb) (ku : KU a nsel p0 p) (kw : KW l nsel q0 q) (ii : Int) (hii : ii ≤ i)
    (K : ∀ jn hc', SelI h1 h2 n B T a l p0 q0 C bg nf nsel nb nt ii (w + rc.1.2) jn hc' rt.2 → hc' a 6 = ns + 1 → Pr (f jn hc') u Q) : Pr (bW (m_X3_join a 3 rc.2) f) u Q := by
  have h3 := aX3 ha
  have h22 := aX22 hl
  obtain ⟨p', q', N', s', na', i', r1, r2, hi, S', Y', ub', m0, m4, r3, e9', ks, kt⟩ := Z
  have q4 : q' (l + 4) nsel = bg := by rw [kt.1 _ _ (Or.inr ⟨by omega, by omega⟩) (by omega)]; exact eb
  have ew' : w + rc.1.2 = wsm (q' (l + 9)) (q' (l + 6)) bg (ns + 1 - bg).toNat := by
    rw [wsm_s b1, ew, r3, e9', kt.2.2 ns (Int.le_refl _), e9]
    congr 1
    exact (wsm_congr _ (fun x x0 x1 => kt.2.2 x (by omega)) (fun x x0 x1 => kt.2.1 x (by omega))).symm
  have p20 : p' (a + 20) nsel = bg := by rw [ks _ _ (by omega) (by omega) (by omega)]; exact e20
  have p22 : p' (a + 22) nsel = nb := by rw [ks _ _ (by omega) (by omega) (by omega)]; exact e22
  have ku' : KU a nsel p0 p' := fun b j x0 x1 x2 => by rw [ks b j x0 x1 (by omega)]; exact ku b j x0 x1 x2
  have kw' : KW l nsel q0 q' := fun b j x0 x1 => by rw [kt.1 b j x0 (by omega)]; exact kw b j x0 x1
  have pa6 : ∀ {hc' : Hp} {x y : Int} {ht' : Hp}, SS h1 h2 n B T a l p' q' x y hc' ht' → hc' a 6 = ns + 1 := fun S => by rw [S.pL (by omega) (by omega)]; exact Y'.2.2.1.1
  refine L_join ha S' (fun t1 t2 t3 => K 0 _ ⟨p', q', N', s', ns + 1, na', i', i', S', Y', ub', by omega, Or.inl ⟨rfl, rfl, t1, t2, t3⟩, ew', q4, e9', by omega, by omega, by omega, b0, b3, p20, p22, ku', kw'⟩ (pa6 S')) (fun jn lk hc' hj hj0 t1 t2 S'' => K jn _ ⟨p', q', N', s', ns + 1, na', nx B i', i', S'', Y', ?_, by omega, Or.inr ⟨lk, hj, hj0, t1, t2, rfl⟩, ew', q4, e9', by omega, by omega, by omega, b0, b3, p20, p22, ku', kw'⟩ (pa6 S''))
  have := S'.ge
  obtain ⟨u1, u2, u3, u4⟩ := ub'
  exact ⟨by omega, by omega, by omega, by omega⟩
theorem y_selloop {h1 h2 hc ht : Hp} {n : Int} {B T : Int → Int} {a l : Int} {p0 q0 : Hp} {C bg nf nsel nb nt ib w jn : Int} (ha : a ∈ in_aX3) (hl : l ∈ in_aX22) (s0 : 0 ≤ nsel) (s1 : nsel < 120) (I0 : SelI h1 h2 n B T a l p0 q0 C bg nf nsel nb nt ib w jn hc ht) :
    Pr (lp (fun (q : Int × Int × Hp) => m_X3_selector_l75 a 3 q.1 q.2.1 q.2.2) (w, jn, hc)) (lp (fun (q : Hp) => m_X22_selector_l28 l bg q) ht)
      (fun x y => (∃ w' hc' ht', x = .inl (w', hc') ∧ y = .inl ht' ∧ SelI h1 h2 n B T a l p0 q0 C bg nf nsel nb nt ib w' 0 hc' ht') ∨ (∃ rc rt, x = .inr rc ∧ y = .inr rt ∧ BO h1 h2 n a l rc rt)) := by
  have h3 := aX3 ha
  have h22 := aX22 hl
  refine y_lp (fun (x : Int × Int × Hp) (y : Hp) => SelI h1 h2 n B T a l p0 q0 C bg nf nsel nb nt ib x.1 x.2.1 x.2.2 y) (fun x => (bg + 9 - x.2.2 a 6).toNat) I0 ?_
  rintro ⟨w, jn, hc⟩ ht I
  replace I : SelI h1 h2 n B T a l p0 q0 C bg nf nsel nb nt ib w jn hc ht := I
  have I' := I
  obtain ⟨p, q, N, s, ns, na, i, k, S, Y, ub, hk, hj, ew, eb, e9, n4, b1, b2, b0, b3, e20, e22, ku, kw⟩ := I
  have pa6 : hc a 6 = ns := by rw [S.pL (by omega) (by omega)]; exact Y.2.2.1.1
  have pa15 : hc a 15 = nsel := by rw [S.pL (by omega) (by omega)]; exact Y.2.2.2.2.1.1
  have g0 := S.ge
  have gR := S.geR
  dsimp only
  unfold m_X3_selector_l75 m_X22_selector_l28
  simp only [g_X22_1 S.2.1.1 hl]
  refine yr_gd trivial ?_
  rw [R_byte S (by decide), R_byte S (by decide), R_byte S (by decide)]
  simp only [Option.bind_some]
  rcases hj with ⟨rfl, rfl, t1, t2, t3⟩ | ⟨lk, hj, hj0, tk4, tkl, rfl⟩
  · rw [if_neg t1, if_neg t2, if_neg t3]
    exact yl_it rfl (yr_ie (fun z => z rfl) (yr_ie (fun z => z rfl) (yr_it rfl (y_some (Or.inr ⟨_, _, rfl, rfl, Or.inl ⟨w, hc, ht, rfl, rfl, I'⟩⟩)))))
  · refine yl_ie hj0 ?_
    -- the right one goes on
    have byt : ht (l + 2) 7 = lk := by
      have A := S.2.1.2.2.2.1
      rw [A.2.2.2.2.2.1 tk4]; exact tkl
    have right : ∀ {α : Type} {o : Option α} {Q : α → _ → Prop}, Pr o (m_X22_selector_j64 l bg ht) Q → Pr o (if (if (tk B k).1 = 4 ∧ (tk B k).2.2.2 = 62 then (1 : Int) else 0) ≠ 0 then m_X22_selector_j64 l bg ht else if (if (tk B k).1 = 4 ∧ (tk B k).2.2.2 = 47 then (1 : Int) else 0) ≠ 0 then m_X22_selector_j64 l bg ht else if (if (tk B k).1 = 4 ∧ (tk B k).2.2.2 = 43 then (1 : Int) else 0) = 0 then some (.inr (.inl ht)) else m_X22_selector_j64 l bg ht) Q := by
      intro α o Q hQ
      unfold joinO at hj
      by_cases t1 : (tk B k).1 = 4 ∧ (tk B k).2.2.2 = 62
      · rw [if_pos t1]; exact yr_it (by decide) hQ
      · rw [if_neg t1]
        refine yr_ie (fun z => z rfl) ?_
        by_cases t2 : (tk B k).1 = 4 ∧ (tk B k).2.2.2 = 47
        · rw [if_pos t2]; exact yr_it (by decide) hQ
        · rw [if_neg t2]
          refine yr_ie (fun z => z rfl) ?_
          have t3 : (tk B k).1 = 4 ∧ (tk B k).2.2.2 = 43 := by omega
          rw [if_pos t3]
          exact yr_ie (by decide) hQ
    refine right ?_
    unfold m_X22_selector_j64
    simp only [g_X22_1 S.2.1.1 hl, byt]
    refine yr_lt (R_next S (by omega) (fun ht1 S1 => ?_))
    generalize hi : nx B k = i at *
    have c20 : hc (a + 20) nsel = bg := by rw [S1.pL (by omega) (by omega)]; exact e20
    have k3 : hc 3 3 = (tk B i).1 := S1.1.2.2.2.2.1.1
    have go : ((tk B i).1 = 1 ∨ ((tk B i).1 = 4 ∧ (tk B i).2.2.2 = 42)) → Pr (m_X3_selector_j96 a 3 w jn hc) (bT (m_X22_step l lk bg ht1) (fun _ h82 => some (.inl h82)) (fun a_ h_ => some (.inr (.inr ((1, a_), h_))))) (fun (x : (Int × Int × Hp) ⊕ ((Int × Hp) ⊕ ((Int × Int) × Hp))) (y : Hp ⊕ (Hp ⊕ ((Int × Int) × Hp))) => (∃ s' t', x = .inl s' ∧ y = .inl t' ∧ SelI h1 h2 n B T a l p0 q0 C bg nf nsel nb nt ib s'.1 s'.2.1 s'.2.2 t' ∧ (bg + 9 - s'.2.2 a 6).toNat < (bg + 9 - hc a 6).toNat) ∨ (∃ x' y', x = .inr x' ∧ y = .inr y' ∧ ((∃ w' hc' ht', x' = .inl (w', hc') ∧ y' = .inl ht' ∧ SelI h1 h2 n B T a l p0 q0 C bg nf nsel nb nt ib w' 0 hc' ht') ∨ (∃ rc rt, x' = .inr rc ∧ y' = .inr rt ∧ BO h1 h2 n a l rc rt)))) := by
      intro tt
      unfold m_X3_selector_j96
      simp only [g_X3_12 S1.1.1 ha, pa6, pa15, c20, e32 (x := ns - bg) (by omega) (by omega)]
      refine yl_gd (by omega) ?_
      by_cases h8 : ns - bg = 8
      · refine yl_ie (fun z => z h8) (L_brk S1 (fun b h' z => ?_))
        have l4 : ht1 l 4 = ns := by rw [S1.pR (Or.inl rfl)]; exact Y.2.2.1.2.1
        refine yr_bT (z_mono (t_stepbad hl S1 l4 (by omega) (by omega) b0 (by omega) (Or.inl h8)) (fun rt z' => Or.inr ⟨by rw [z'.1]; decide, ?_⟩))
        rw [z'.one]
        exact y_some (Or.inr ⟨_, _, rfl, rfl, Or.inr ⟨_, _, rfl, rfl, ss_thr ha hl S1 ⟨by omega, by omega⟩ z z'⟩⟩)
      · refine yl_it h8 (y_bT (y_step ha hl S1 tt Y hj eb b0 (by omega) (by omega) e9 n4 (by omega) ub) (fun rc rt z => ?_) (fun rc rt z => ?_) (fun rc rt z => y_some (Or.inr ⟨_, _, rfl, rfl, Or.inr ⟨_, _, rfl, rfl, z⟩⟩)))
        · obtain ⟨p', q', N', s', na', i', e1, e2, -⟩ := z
          exact ⟨e1, e2⟩
        · have wb : 0 ≤ w ∧ w ≤ 8 * 401 := by
            have := wsm_r (P := q (l + 9)) (Q := q (l + 6)) (f := bg) (ns - bg).toNat (fun x x0 x1 => (Y.2.2.1.2.2.2.2 x (by omega) (by omega)).2.2.2)
            rw [ew]; omega
          have rb : 0 ≤ rc.1.2 ∧ rc.1.2 ≤ 401 := by
            obtain ⟨p', q', N', s', na', i', r1, r2, hi, S', Y', ub', m0, m4, r3, -⟩ := z
            rw [r3]; split <;> omega
          rw [e32 (by omega) (by omega)]
          refine yl_lt (y_sjoin ha hl z eb b0 (by omega) (by omega) b3 n4 e9 ew e20 e22 ku kw ib (by omega) (fun jn' hc' I'' e6 => y_some (Or.inl ⟨_, _, rfl, rfl, I'', ?_⟩)))
          dsimp only
          rw [e6]; omega
    rw [k3, L_byte S1, Option.bind_some]
    by_cases t1 : (tk B i).1 = 1
    · exact yl_it t1 (go (Or.inl t1))
    · refine yl_ie t1 ?_
      by_cases t2 : (tk B i).1 = 4 ∧ (tk B i).2.2.2 = 42
      · rw [if_pos t2]
        exact yl_ie (by decide) (go (Or.inr t2))
      · rw [if_neg t2]
        refine yl_it rfl (L_brk S1 (fun b h' z => ?_))
        have l4 : ht1 l 4 = ns := by rw [S1.pR (Or.inl rfl)]; exact Y.2.2.1.2.1
        refine yr_bT (z_mono (t_stepbad hl S1 l4 (by omega) (by omega) b0 (by omega) (Or.inr ⟨t1, t2⟩)) (fun rt z' => Or.inr ⟨by rw [z'.1]; decide, ?_⟩))
        rw [z'.one]
        exact y_some (Or.inr ⟨_, _, rfl, rfl, Or.inr ⟨_, _, rfl, rfl, ss_thr ha hl S1 ⟨by omega, by omega⟩ z z'⟩⟩)
