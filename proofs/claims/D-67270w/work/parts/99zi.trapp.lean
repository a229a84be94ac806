set_option maxRecDepth 100000
/-! TREES: selectors are applied, on the reference's side -/
theorem t_fitsStep {h S Y p p' : Hp} {l ly a a' n n' N N' E F M C ns na nsel nb nt m e t : Int} {s s' : Int → List Int} (hl : l ∈ in_aX24) (hly : ly ∈ in_aX22) (R : SA S p a n N s E F M) (R' : YA Y p' a' n' N' s' C ns na nsel nb nt m) (T : TT S Y h l ly n E M) (e0 : 0 ≤ e) (e1 : e < E) (t0 : 0 ≤ t) (t1 : t < ns) :
    Pz (m_X24_fitsStep l ly t e h) (fun v => (v = 1 ∧ tsS S Y E M t e) ∨ (v = 0 ∧ ¬ tsS S Y E M t e)) := by
  have h24 := aX24 hl
  have h22 := aX22 hly
  obtain ⟨hL, X, eY, rl⟩ := id T
  have E5 := R.2.2.1.2.2.1
  have n1 := R.1.2.1
  have n2 := R'.1.2.2.2.2.1
  obtain ⟨y1, y2, y3, y4, y5, y6, y7, y8, y9, y10, y11, y12⟩ := R'.2.1
  have st := R'.2.2.1 t t0 t1
  have b0 := R'.2.2.2.1 t t0 (by omega)
  have b1 := R'.2.2.2.1 (t + 1) (by omega) (by omega)
  have b2 := R'.2.2.2.2.1 t t0 t1
  have k0 := g_X22_0 hL hly
  have q6 : h (ly + 6) t = Y 6 t := by rw [eY 6 (by decide) (by decide)]
  have q7 : h (ly + 7) t = Y 7 t := by rw [eY 7 (by decide) (by decide)]
  have q9 : h (ly + 9) t = Y 9 t := by rw [eY 9 (by decide) (by decide)]
  have q1 : h (ly + 1) = Y 1 := eY 1 (by decide) (by decide)
  have k11 := g_X22_11 hL hly
  have k12 := g_X22_12 hL hly
  have k14 := g_X22_14 hL hly
  have loop : (0 ≤ Y 6 t → wr (Y 1) (Y 6 t) (Y 7 t) = wr (S 1) (S 8 e) (S 9 e)) → Pz (m_X24_fitsStep_j58 l ly t e h) (fun v => (v = 1 ∧ tsS S Y E M t e) ∨ (v = 0 ∧ ¬ tsS S Y E M t e)) := by
    intro hn
    unfold m_X24_fitsStep_j58
    simp only [k14.1, k14.2.1, k14.2.2, q9]
    refine z_gd ⟨by decide, t0, by omega⟩ (z_lt (z_bind (z_mono (z_lp (Q := fun v => (v = 1 ∧ tsS S Y E M t e) ∨ (v = 0 ∧ ¬ tsS S Y E M t e)) (fun y : Int => Y 9 t ≤ y ∧ y ≤ Y 9 (t + 1) ∧ ∀ k, Y 9 t ≤ k → k < y → tsA S Y E M k e) (fun y => (Y 9 (t + 1) - y).toNat) ⟨Int.le_refl _, b2.1, fun k z0 z1 => by omega⟩ ?_) (fun r hr => z_some hr))))
    rintro y ⟨z0, z1, zn⟩
    show Pz (m_X24_fitsStep_l66 l ly t e y h) _
    by_cases hy : Y 9 (t + 1) ≤ y
    · have q9' : h (ly + 9) (t + 1) = Y 9 (t + 1) := by rw [eY 9 (by decide) (by decide)]
      unfold m_X24_fitsStep_l66
      simp only [k14.1, k14.2.1, k14.2.2]
      rw [e32 (x := t + 1) (by omega) (by omega), q9']
      exact z_gd ⟨by decide, by omega, by omega⟩ (z_it hy (z_some (Or.inl ⟨rfl, hn, fun k w0 w1 => zn k w0 (by omega)⟩)))
    · refine z_mono (t_test hl hly R R' T e0 e1 (by omega) (by omega) t t0 t1 (by omega)) (fun r hr => ?_)
      rcases hr with ⟨rfl, hr⟩ | ⟨rfl, hr⟩
      · refine ⟨⟨by omega, by omega, fun k w0 w1 => ?_⟩, by omega⟩
        by_cases hk : k = y
        · rw [hk]; exact hr
        · exact zn k w0 (by omega)
      · exact Or.inr ⟨rfl, fun z => hr (z.2 y z0 (by omega))⟩
  unfold m_X24_fitsStep
  simp only [(ly_X22 hL hly).1, k11.1, k11.2.1, k11.2.2, q6]
  refine z_gd trivial (z_gd ⟨by decide, t0, by omega⟩ ?_)
  by_cases hn : Y 6 t < 0
  · exact z_it hn (loop (fun z => by omega))
  · refine z_ie hn ?_
    have w : 0 ≤ Y 6 t ∧ Y 6 t ≤ Y 7 t ∧ Y 7 t ≤ n' := by
      rcases st.1 with z | z
      · omega
      · exact ⟨z.2.2.1, z.2.2.2.1, z.2.2.2.2.1⟩
    have j12 := g_X23_12 hL h24.2.2
    have j13 := g_X23_13 hL h24.2.2
    obtain ⟨-, -, w3, w4, w5, -⟩ := (R.2.2.2.1 e e0 e1).1
    have q8 : h (l + 1 + 8) e = S 8 e := X.2.2.2.1 8 (by decide) (by decide) e e0 e1
    have q9' : h (l + 1 + 9) e = S 9 e := X.2.2.2.1 9 (by decide) (by decide) e e0 e1
    have s0 := g_X23_0 hL h24.2.2
    simp only [k12.1, k12.2.1, k12.2.2, g_X24_0 hL hl, (ly_X23 hL h24.2.2).1, j12.1, j12.2.1, j12.2.2, j13.1, j13.2.1, j13.2.2, q7, q8, q9', s0.1, k0.1]
    refine z_gd ⟨by decide, t0, by omega⟩ (z_gd trivial (z_gd ⟨by decide, e0, by omega⟩ (z_gd ⟨by decide, e0, by omega⟩ ?_)))
    rw [q_X18_same (by rw [k0.2.1]; decide) w.1 w.2.1 (by rw [k0.2.2]; omega) (by rw [k0.2.2]; decide) (by rw [s0.2.1]; decide) w3 w4 (by rw [s0.2.2]; omega) (by rw [s0.2.2]; decide), Option.bind_some, wr_wd, wr_wd, q1]
    have tx : wr (h (l + 1 + 1)) (S 8 e) (S 9 e) = wr (S 1) (S 8 e) (S 9 e) := wr_congr (fun z z0 z1 => X.2.1 z (by omega) (by omega))
    rw [tx]
    by_cases hw : wr (Y 1) (Y 6 t) (Y 7 t) = wr (S 1) (S 8 e) (S 9 e)
    · exact z_it (eqW01.mpr hw) (loop (fun _ => hw))
    · exact z_ie (fun z => hw (eqW01.mp z)) (z_some (Or.inr ⟨rfl, fun z => hw (z.1 (by omega))⟩))
/-- linked by what fitted before -/
def lkP (S Y : Hp) (t : Int) (b : Int → Prop) (e : Int) : Prop := if Y 8 t = 62 then 0 ≤ S 7 e ∧ b (S 7 e) else if Y 8 t = 43 then 0 ≤ latP (S 7) (S 7 e) e.toNat ∧ b (latP (S 7) (S 7 e) e.toNat) else ∃ m : Nat, 0 ≤ itP (S 7) m (S 7 e) ∧ (∀ j, j ≤ m → 0 ≤ itP (S 7) j (S 7 e)) ∧ b (itP (S 7) m (S 7 e))
theorem t_linked {h S Y p : Hp} {l ly a n N E F M e t : Int} {s : Int → List Int} {b : Int → Prop} (hl : l ∈ in_aX24) (hly : ly ∈ in_aX22) (R : SA S p a n N s E F M) (T : TT S Y h l ly n E M) (e0 : 0 ≤ e) (e1 : e < E) (t0 : 0 ≤ t) (t1 : t < 960) (hb : ∀ x, 0 ≤ x → x < E → (h (l + 39) x ≠ 0 ↔ b x)) :
    Pz (m_X24_linked l ly t e 0 h) (fun v => (v = 1 ∧ lkP S Y t b e) ∨ (v = 0 ∧ ¬ lkP S Y t b e)) := by
  have h24 := aX24 hl
  have h22 := aX22 hly
  obtain ⟨hL, X, eY, rl⟩ := id T
  have E5 := R.2.2.1.2.2.1
  have par := fun e e0 e1 => (R.2.2.2.1 e e0 e1).2.2
  have k13 := g_X22_13 hL hly
  have q8 : h (ly + 8) t = Y 8 t := by rw [eY 8 (by decide) (by decide)]
  have j11 := g_X23_11 hL h24.2.2
  have qP : ∀ x, 0 ≤ x → x < E → h (l + 1 + 7) x = S 7 x := fun x x0 x1 => X.2.2.2.1 7 (by decide) (by decide) x x0 x1
  have pe := par e e0 e1
  unfold m_X24_linked lkP
  simp only [(ly_X22 hL hly).1, k13.1, k13.2.1, k13.2.2, q8, g_X24_0 hL hl, (ly_X23 hL h24.2.2).1, j11.1, j11.2.1, j11.2.2, qP e e0 e1, g_X24_18 hL hl, g_X24_19 hL hl, (rl.1 e e0 e1).1]
  refine z_it trivial (z_gd trivial (z_gd ⟨by decide, t0, by omega⟩ (z_lt ?_)))
  by_cases c1 : Y 8 t = 62
  · rw [if_pos c1]
    refine z_ie (fun z => z c1) (z_gd trivial (z_gd ⟨by decide, e0, by omega⟩ ?_))
    by_cases c2 : S 7 e < 0
    · exact z_it c2 (z_some (Or.inr ⟨rfl, fun z => by omega⟩))
    · refine z_ie c2 (z_gd ⟨by decide, by omega, by omega⟩ ?_)
      have hp := hb (S 7 e) (by omega) (by omega)
      by_cases c3 : h (l + 39) (S 7 e) = 0
      · exact z_it c3 (z_some (Or.inr ⟨rfl, fun z => hp.mpr z.2 c3⟩))
      · exact z_ie c3 (z_some (Or.inl ⟨rfl, by omega, hp.mp c3⟩))
  · rw [if_neg c1]
    refine z_it c1 ?_
    by_cases c2 : Y 8 t = 43
    · rw [if_pos c2]
      refine z_ie (fun z => z c2) (z_gd ⟨by decide, e0, by omega⟩ ?_)
      have lr := latP_r (P := S 7) (x := S 7 e) e.toNat
      by_cases c3 : latP (S 7) (S 7 e) e.toNat < 0
      · exact z_it c3 (z_some (Or.inr ⟨rfl, fun z => by omega⟩))
      · refine z_ie c3 (z_gd ⟨by decide, by omega, by omega⟩ ?_)
        have hp := hb (latP (S 7) (S 7 e) e.toNat) (by omega) (by omega)
        by_cases c4 : h (l + 39) (latP (S 7) (S 7 e) e.toNat) = 0
        · exact z_it c4 (z_some (Or.inr ⟨rfl, fun z => hp.mpr z.2 c4⟩))
        · exact z_ie c4 (z_some (Or.inl ⟨rfl, by omega, hp.mp c4⟩))
    · rw [if_neg c2]
      refine z_it c2 (z_gd trivial (z_gd ⟨by decide, e0, by omega⟩ (z_lt ?_)))
      refine z_bind (z_mono (z_lp (Q := fun v => (v = 1 ∧ ∃ m : Nat, 0 ≤ itP (S 7) m (S 7 e) ∧ (∀ j, j ≤ m → 0 ≤ itP (S 7) j (S 7 e)) ∧ b (itP (S 7) m (S 7 e))) ∨ (v = 0 ∧ ¬ ∃ m : Nat, 0 ≤ itP (S 7) m (S 7 e) ∧ (∀ j, j ≤ m → 0 ≤ itP (S 7) j (S 7 e)) ∧ b (itP (S 7) m (S 7 e)))) (fun y : Int => -1 ≤ y ∧ y < E ∧ ∃ m : Nat, y = itP (S 7) m (S 7 e) ∧ ∀ j, j < m → 0 ≤ itP (S 7) j (S 7 e) ∧ ¬ b (itP (S 7) j (S 7 e))) (fun y => (y + 1).toNat) ⟨by omega, by omega, 0, rfl, fun j hj => absurd hj (by omega)⟩ ?_) (fun r hr => z_some hr))
      rintro y ⟨y0, y1, k, yk, yn⟩
      show Pz (m_X24_linked_l104 l y h) _
      unfold m_X24_linked_l104
      by_cases c3 : y < 0
      · refine z_it c3 (z_some (Or.inr ⟨rfl, ?_⟩))
        rintro ⟨k', z1, z2, z3⟩
        rcases Nat.lt_or_ge k' k with w | w
        · exact (yn k' w).2 z3
        · have := z2 k w
          omega
      · refine z_ie c3 ?_
        simp only [g_X24_18 hL hl, g_X24_0 hL hl, j11.1, j11.2.1, j11.2.2, qP y (by omega) y1]
        refine z_gd ⟨by decide, by omega, by omega⟩ ?_
        have hp := hb y (by omega) y1
        by_cases c4 : h (l + 39) y = 0
        · refine z_it c4 (z_gd ⟨by decide, by omega, by omega⟩ (z_lt (z_some ?_)))
          have py := par y (by omega) y1
          refine ⟨⟨by omega, by omega, k + 1, ?_, fun j hj => ?_⟩, by omega⟩
          · have it : ∀ (k : Nat) (x : Int), itP (S 7) (k + 1) x = S 7 (itP (S 7) k x) := by
              intro k
              induction k with
              | zero => intro x; rfl
              | succ k ih => intro x; exact ih (S 7 x)
            rw [it, ← yk]
          · by_cases hjk : j = k
            · rw [hjk, ← yk]; exact ⟨by omega, fun z => hp.mpr z c4⟩
            · exact yn j (by omega)
        · refine z_ie c4 (z_some (Or.inl ⟨rfl, k, by omega, fun j hj => ?_, by rw [← yk]; exact hp.mp c4⟩))
          by_cases hjk : j = k
          · rw [hjk, ← yk]; omega
          · exact (yn j (by omega)).1
