set_option maxRecDepth 100000
/-! TREES: the component's side: steps of a selector, with what was tried -/
def mmo (S Y : Hp) (E M f a τ : Int) (k : Nat) (p : Hp) : Prop := ∀ k' : Nat, k' ≤ k → ∀ e, 0 ≤ e → e < E → p (a + 9) (k' * 500 + e) = τ → ¬ FT S Y E M f k' e
theorem itP_step {P : Int → Int} : ∀ (k : Nat) (x : Int), itP P (k + 1) x = P (itP P k x) := by
  intro k
  induction k with
  | zero => intro x; rfl
  | succ k ih => intro x; exact ih (P x)
theorem FT_ts {S Y : Hp} {E M f e : Int} : ∀ k : Nat, FT S Y E M f k e → tsS S Y E M (f + k) e := by
  intro k h
  cases k with
  | zero =>
    show tsS S Y E M (f + 0) e
    rw [Int.add_zero]; exact h
  | succ k => exact h.2
def trF (a τ K : Int) (p q : Hp) : Prop := F2 (fun b j => b = a + 9 ∧ 0 ≤ j ∧ j < K * 500) p q ∧ ∀ j, q (a + 9) j = p (a + 9) j ∨ q (a + 9) j = τ
theorem trF.refl {a τ K : Int} {p : Hp} : trF a τ K p p := ⟨F2.refl, fun j => Or.inl rfl⟩
theorem trF.one {a τ K i : Int} {p : Hp} (i0 : 0 ≤ i) (i1 : i < K * 500) : trF a τ K p (up p (a + 9) i τ) := ⟨F2.refl.put ⟨rfl, i0, i1⟩, fun j => by
  by_cases hj : j = i
  · rw [hj, up_s]; exact Or.inr rfl
  · rw [up_j hj]; exact Or.inl rfl⟩
theorem trF.trans {a τ K : Int} {p q r : Hp} (x : trF a τ K p q) (y : trF a τ K q r) : trF a τ K p r := ⟨x.1.trans y.1, fun j => by
  rcases y.2 j with z | z
  · rw [z]; exact x.2 j
  · exact Or.inr z⟩
theorem trF.up {a τ K K' : Int} {p q : Hp} (x : trF a τ K p q) (h : K ≤ K') : trF a τ K' p q := ⟨x.1.mono (fun b j z => ⟨z.1, z.2.1, by omega⟩), x.2⟩
theorem c_fitsFrom {S Y : Hp} {a sa ya n N E F M n' N' C ns na nsel nb nt m f τ : Int} {s s' : Int → List Int} (f0 : 0 ≤ f) : ∀ (k d : Nat) (e : Int) (p : Hp), k < d → f + k < ns → k ≤ 7 → 0 ≤ e → e < E → CT S Y p a sa ya n N s E F M n' N' s' C ns na nsel nb nt m → p a 12 = τ → mmo S Y E M f a τ k p →
    Pz (m_X7_fitsFrom d a f (f + k) e p) (fun r => trF a τ ((k : Int) + 1) p r.2 ∧ ((r.1 = 1 ∧ FT S Y E M f k e) ∨ (r.1 = 0 ∧ ¬ FT S Y E M f k e ∧ mmo S Y E M f a τ k r.2))) := by
  intro k
  induction k with
  | zero =>
    intro d e p hd hk k7 e0 e1 T ht mm
    obtain ⟨d, rfl⟩ : ∃ d', d = d' + 1 := ⟨d - 1, by omega⟩
    show Pz (b_X7_fitsFrom (m_X7_fitsFrom d) a f (f + (0 : Nat)) e p) _
    obtain ⟨⟨hL, ha, hs, hy⟩, ⟨p0, p1, p2⟩, R, R', nm⟩ := id T
    have E5 := R.2.2.1.2.2.1
    have na_ := R'.2.1
    have i11 := g_X7_11 hL ha
    have h7 := aX7 ha
    have hk' : f + ((0 : Nat) : Int) = f := Int.add_zero f
    rw [hk'] at hk ⊢
    unfold b_X7_fitsFrom
    rw [e32 (x := f - f) (by omega) (by omega), e32 (x := (f - f) * 500) (by omega) (by omega), e32 (x := (f - f) * 500 + e) (by omega) (by omega), show (f - f) * 500 + e = e by omega]
    refine z_lt ?_
    simp only [i11.1, i11.2.1, i11.2.2, ht]
    refine z_gd ⟨by decide, e0, by omega⟩ ?_
    have m0 := mm 0 (Nat.le_refl _)
    have z5 : ∀ x : Int, ((0 : Nat) : Int) * 500 + x = x := fun x => by omega
    by_cases hq : p (a + 9) e = τ
    · exact z_ie (fun z => z hq) (z_some ⟨trF.refl, Or.inr ⟨rfl, m0 e e0 e1 (by rw [z5]; exact hq), mm⟩⟩)
    · refine z_it hq (z_pt ?_)
      have F1 : trF a τ (((0 : Nat) : Int) + 1) p (up p (a + 9) e τ) := trF.one e0 (by omega)
      have T1 := T.kept (F1.1.mono (fun b j z => by omega))
      refine z_bind (z_mono (c_fitsStep T1 e0 e1 f0 hk) (fun v hv => ?_))
      rcases hv with ⟨rfl, hv⟩ | ⟨rfl, hv⟩
      · exact z_it (by decide) (z_ie (fun z => z rfl) (z_some ⟨F1, Or.inl ⟨rfl, hv⟩⟩))
      · refine z_ie (fun z => z rfl) (z_some ⟨F1, Or.inr ⟨rfl, hv, fun k' hk' x x0 x1 xt => ?_⟩⟩)
        have : k' = 0 := by omega
        subst this
        rw [z5] at xt
        dsimp only at xt
        by_cases hx : x = e
        · rw [hx]; exact hv
        · rw [up_j hx] at xt
          exact m0 x x0 x1 (by rw [z5]; exact xt)
  | succ k ih =>
    intro d e p hd hk k7 e0 e1 T ht mm
    obtain ⟨d, rfl⟩ : ∃ d', d = d' + 1 := ⟨d - 1, by omega⟩
    show Pz (b_X7_fitsFrom (m_X7_fitsFrom d) a f (f + (k + 1 : Nat)) e p) _
    obtain ⟨⟨hL, ha, hs, hy⟩, ⟨p0, p1, p2⟩, R, R', nm⟩ := id T
    have E5 := R.2.2.1.2.2.1
    have na_ := R'.2.1
    have i11 := g_X7_11 hL ha
    have h7 := aX7 ha
    have h6 := aX6 hs
    have h3 := aX3' hy
    have par := fun e e0 e1 => (R.2.2.2.1 e e0 e1).2.2
    generalize hK : ((k + 1 : Nat) : Int) = K at *
    have Kk : K = k + 1 := by omega
    unfold b_X7_fitsFrom
    rw [e32 (x := f + K - f) (by omega) (by omega), show f + K - f = K by omega, e32 (x := K * 500) (by omega) (by omega), e32 (x := K * 500 + e) (by omega) (by omega)]
    refine z_lt ?_
    simp only [i11.1, i11.2.1, i11.2.2, ht]
    refine z_gd ⟨by decide, by omega, by omega⟩ ?_
    have mK := mm (k + 1) (Nat.le_refl _)
    rw [hK] at mK
    by_cases hq : p (a + 9) (K * 500 + e) = τ
    · exact z_ie (fun z => z hq) (z_some ⟨trF.refl, Or.inr ⟨rfl, mK e e0 e1 hq, mm⟩⟩)
    · refine z_it hq (z_pt ?_)
      have F1 : trF a τ (K + 1) p (up p (a + 9) (K * 500 + e) τ) := trF.one (by omega) (by omega)
      have T1 := T.kept (F1.1.mono (fun b j z => by omega))
      have g12 : up p (a + 9) (K * 500 + e) τ a 12 = τ := by rw [up_a (by omega)]; exact ht
      have mm1 : mmo S Y E M f a τ k (up p (a + 9) (K * 500 + e) τ) := fun k' hk' x x0 x1 xt => by
        rw [up_j (by omega)] at xt
        exact mm k' (by omega) x x0 x1 xt
      -- nothing fits: what is known behind it
      have bad : ∀ q : Hp, trF a τ ((k : Int) + 1) (up p (a + 9) (K * 500 + e) τ) q → mmo S Y E M f a τ k q → ¬ FT S Y E M f (k + 1) e → mmo S Y E M f a τ (k + 1) q := fun q Fq mq nf k' hk' x x0 x1 xt => by
        by_cases hkk : k' = k + 1
        · subst hkk
          rw [hK, Fq.1 _ _ (by omega)] at xt
          by_cases hx : x = e
          · rw [hx]; exact nf
          · rw [up_j (by omega)] at xt
            exact mK x x0 x1 xt
        · exact mq k' (by omega) x x0 x1 xt
      have FF : ∀ q : Hp, trF a τ ((k : Int) + 1) (up p (a + 9) (K * 500 + e) τ) q → trF a τ (K + 1) p q := fun q Fq => F1.trans (Fq.up (by omega))
      refine z_bind (z_mono (c_fitsStep T1 e0 e1 (show 0 ≤ f + K by omega) hk) (fun v hv => ?_))
      rcases hv with ⟨rfl, hv⟩ | ⟨rfl, hv⟩
      · refine z_it (by decide) (z_it (by omega) ?_)
        generalize up p (a + 9) (K * 500 + e) τ = g at *
        obtain ⟨⟨hL1, -⟩, ⟨q0, q1, q2⟩, R1, R1', -⟩ := id T1
        have j4 := g_X3_4 hL1 hy
        have k6 := g_X6_6 hL1 hs
        have k10 := g_X6_10 hL1 hs
        have st := (R1'.2.2.1 (f + K) (by omega) hk).2
        have w := R1.2.2.2.1 e e0 e1
        have pe := par e e0 e1
        have hK2 : f + (((k + 1 : Nat)) : Int) = f + K := by rw [hK]
        have ft : FT S Y E M f (k + 1) e ↔ lkP S Y (f + K) (FT S Y E M f k) e ∧ tsS S Y E M (f + K) e := by rw [FT_step, hK2]
        simp only [q0, q1, (ly_X3 hL1 hy).1, (ly_X6 hL1 hs).1, j4.1, j4.2.1, j4.2.2, k6.1, k6.2.1, k6.2.2, k10.1, k10.2.1, k10.2.2, w.2.1, w.2.2.2.2.2.2.2.2.1]
        refine z_gd trivial (z_gd ⟨by decide, by omega, by omega⟩ ?_)
        have ek : w32 (f + K - 1) = f + (k : Int) := by rw [e32 (by omega) (by omega)]; omega
        rw [ek]
        -- one element
        have one : ∀ x, 0 ≤ x → x < E → (lkP S Y (f + K) (FT S Y E M f k) e ↔ FT S Y E M f k x) → Pz (bW (m_X7_fitsFrom d a f (f + (k : Int)) x g) fun v118 h118 => if v118 = 0 then some ((0 : Int), h118) else some (1, h118)) (fun r => trF a τ (K + 1) p r.2 ∧ ((r.1 = 1 ∧ FT S Y E M f (k + 1) e) ∨ (r.1 = 0 ∧ ¬ FT S Y E M f (k + 1) e ∧ mmo S Y E M f a τ (k + 1) r.2))) := by
          intro x x0 x1 lk
          refine z_bW (z_mono (ih d x g (by omega) (by omega) (by omega) x0 x1 T1 g12 mm1) (fun r hr => ?_))
          obtain ⟨r1, r2⟩ := hr
          rcases r2 with ⟨r2, r3⟩ | ⟨r2, r3, r4⟩
          · exact z_ie (by omega) (z_some ⟨FF _ r1, Or.inl ⟨rfl, ft.mpr ⟨lk.mpr r3, hv⟩⟩⟩)
          · have nf : ¬ FT S Y E M f (k + 1) e := fun z => r3 (lk.mp (ft.mp z).1)
            exact z_it r2 (z_some ⟨FF _ r1, Or.inr ⟨rfl, nf, bad _ r1 r4 nf⟩⟩)
        by_cases j1 : g (ya + 14) (f + K) = 1
        · have y62 : Y 8 (f + K) = 62 := by omega
          have lkd : lkP S Y (f + K) (FT S Y E M f k) e ↔ 0 ≤ S 7 e ∧ FT S Y E M f k (S 7 e) := by unfold lkP; rw [if_pos y62]
          refine z_it j1 (z_gd trivial (z_gd ⟨by decide, e0, by omega⟩ ?_))
          by_cases hp : S 7 e < 0
          · have nf : ¬ FT S Y E M f (k + 1) e := fun z => by have := (lkd.mp (ft.mp z).1).1; omega
            exact z_it hp (z_some ⟨F1, Or.inr ⟨rfl, nf, bad g trF.refl mm1 nf⟩⟩)
          · exact z_ie hp (one (S 7 e) (by omega) (by omega) ⟨fun z => (lkd.mp z).2, fun z => lkd.mpr ⟨by omega, z⟩⟩)
        · refine z_ie j1 ?_
          by_cases j3 : g (ya + 14) (f + K) = 3
          · have y43 : Y 8 (f + K) = 43 := by omega
            have lkd : lkP S Y (f + K) (FT S Y E M f k) e ↔ 0 ≤ latP (S 7) (S 7 e) e.toNat ∧ FT S Y E M f k (latP (S 7) (S 7 e) e.toNat) := by unfold lkP; rw [if_neg (by omega), if_pos y43]
            have lr := latP_r (P := S 7) (x := S 7 e) e.toNat
            refine z_it j3 (z_gd trivial (z_gd ⟨by decide, e0, by omega⟩ ?_))
            by_cases hp : latP (S 7) (S 7 e) e.toNat < 0
            · have nf : ¬ FT S Y E M f (k + 1) e := fun z => by have := (lkd.mp (ft.mp z).1).1; omega
              exact z_it hp (z_some ⟨F1, Or.inr ⟨rfl, nf, bad g trF.refl mm1 nf⟩⟩)
            · exact z_ie hp (one _ (by omega) (by omega) ⟨fun z => (lkd.mp z).2, fun z => lkd.mpr ⟨by omega, z⟩⟩)
          · refine z_ie j3 (z_gd trivial (z_gd ⟨by decide, e0, by omega⟩ (z_lt ?_)))
            have lkd : lkP S Y (f + K) (FT S Y E M f k) e ↔ ∃ m : Nat, 0 ≤ itP (S 7) m (S 7 e) ∧ (∀ j, j ≤ m → 0 ≤ itP (S 7) j (S 7 e)) ∧ FT S Y E M f k (itP (S 7) m (S 7 e)) := by
              unfold lkP; rw [if_neg (by omega), if_neg (by omega)]
            refine z_bind (z_mono (z_lp (Q := fun (r : Int × Hp) => trF a τ (K + 1) p r.2 ∧ ((r.1 = 1 ∧ FT S Y E M f (k + 1) e) ∨ (r.1 = 0 ∧ ¬ FT S Y E M f (k + 1) e ∧ mmo S Y E M f a τ (k + 1) r.2))) (fun (s : Int × Hp) => -1 ≤ s.1 ∧ s.1 < E ∧ trF a τ ((k : Int) + 1) g s.2 ∧ mmo S Y E M f a τ k s.2 ∧ ∃ m : Nat, s.1 = itP (S 7) m (S 7 e) ∧ ∀ j, j < m → 0 ≤ itP (S 7) j (S 7 e) ∧ ¬ FT S Y E M f k (itP (S 7) j (S 7 e))) (fun s => (s.1 + 1).toNat) ⟨by dsimp only; omega, by dsimp only; omega, trF.refl, mm1, 0, rfl, fun j hj => absurd hj (by omega)⟩ ?_) (fun r hr => z_some hr))
            rintro ⟨y, q⟩ ⟨z0, z1, Fq, mq, c, yc, yn⟩
            dsimp only at z0 z1 mq yc
            replace Fq : trF a τ ((k : Int) + 1) g q := Fq
            have Tq := T1.kept (Fq.1.mono (fun b j z => by omega))
            show Pz (m_X7_fitsFrom_l179 (m_X7_fitsFrom d) a f (f + K) y q) _
            unfold m_X7_fitsFrom_l179
            rw [ek]
            by_cases hyn : y < 0
            · have nf : ¬ FT S Y E M f (k + 1) e := fun z => by
                obtain ⟨c', w1, w2, w3⟩ := lkd.mp (ft.mp z).1
                rcases Nat.lt_or_ge c' c with u | u
                · exact (yn c' u).2 w3
                · have := w2 c u; omega
              exact z_it hyn (z_some ⟨FF _ Fq, Or.inr ⟨rfl, nf, bad _ Fq mq nf⟩⟩)
            · refine z_ie hyn (z_bW (z_mono (ih d y q (by omega) (by omega) (by omega) (by omega) z1 Tq (by rw [Fq.1 _ _ (by omega)]; exact g12) mq) (fun r hr => ?_)))
              obtain ⟨r1, r2⟩ := hr
              rcases r2 with ⟨r2, r3⟩ | ⟨r2, r3, r4⟩
              · refine z_ie (by omega) (z_some ⟨FF _ (Fq.trans r1), Or.inl ⟨rfl, ft.mpr ⟨lkd.mpr ⟨c, by rw [← yc]; omega, fun j hj => ?_, by rw [← yc]; exact r3⟩, hv⟩⟩⟩)
                by_cases hjc : j = c
                · rw [hjc, ← yc]; omega
                · exact (yn j (by omega)).1
              · refine z_it r2 ?_
                have Tr := Tq.kept (r1.1.mono (fun b j z => by omega))
                obtain ⟨⟨hL2, -⟩, ⟨u0, u1, u2⟩, R2, R2', -⟩ := id Tr
                have k6' := g_X6_6 hL2 hs
                have wy := R2.2.2.2.1 y (by omega) z1
                have py := par y (by omega) z1
                simp only [u0, (ly_X6 hL2 hs).1, k6'.1, k6'.2.1, k6'.2.2, wy.2.1]
                refine z_gd trivial (z_gd ⟨by decide, by omega, by omega⟩ (z_lt (z_some ⟨⟨by dsimp only; omega, by dsimp only; omega, Fq.trans r1, r4, c + 1, ?_, fun j hj => ?_⟩, by dsimp only; omega⟩)))
                · dsimp only
                  rw [itP_step, ← yc]
                · by_cases hjc : j = c
                  · rw [hjc, ← yc]; exact ⟨by omega, r3⟩
                  · exact yn j (by omega)
      · have nf : ¬ FT S Y E M f (k + 1) e := fun z => hv (by have := FT_ts _ z; rwa [hK] at this)
        exact z_ie (fun z => z rfl) (z_some ⟨F1, Or.inr ⟨rfl, nf, bad _ trF.refl mm1 nf⟩⟩)
