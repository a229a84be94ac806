-- needs: 99zzzzq
set_option maxRecDepth 100000
/-! TABLES: the component shares -/
theorem q_sum13 {h : Hp} {X n : Int} {f : Int → Int} (kX : h X (-2) % 16 = 4) (lX : n ≤ h X (-1)) (n0 : 0 ≤ n) (n8 : n ≤ 8) (hf : ∀ c, 0 ≤ c → c < n → h X c = f c ∧ 1000 ≤ f c ∧ f c ≤ 20000000000) : m_X13_sum X n h = some (sm0 f n.toNat) := by
  refine z_eq ?_
  unfold m_X13_sum
  refine z_lt (z_lt (z_bind (z_mono (z_lp (Q := fun v => v = sm0 f n.toNat) (fun (q : Int × Int) => 0 ≤ q.2 ∧ q.2 ≤ n ∧ q.1 = sm0 f q.2.toNat) (fun q => (n - q.2).toNat) ⟨Int.le_refl _, n0, rfl⟩ ?_) (fun v hv => z_some hv))))
  rintro ⟨x, k⟩ ⟨k0, k1, ex⟩
  dsimp only at k0 k1 ex
  show Pz (m_X13_sum_l5 X n x k h) _
  unfold m_X13_sum_l5
  by_cases hk : n ≤ k
  · rw [if_pos hk]
    have : k = n := by omega
    subst this
    exact z_some ex
  rw [if_neg hk]
  obtain ⟨f1, f2, f3⟩ := hf k k0 (by omega)
  have r := sm0_r (f := f) (lo := 1000) (hi := 20000000000) k.toNat (fun c c0 c1 => (hf c c0 (by omega)).2)
  rw [show ((k.toNat : Nat) : Int) = k by omega, ← ex] at r
  refine z_gd ⟨kX, k0, by omega⟩ (z_lt (z_lt ?_))
  rw [f1, e64 (by omega) (by omega), e32 (by omega) (by omega)]
  refine z_some ⟨⟨show 0 ≤ k + 1 by omega, show k + 1 ≤ n by omega, ?_⟩, by dsimp only; omega⟩
  dsimp only
  rw [show (k + 1).toNat = k.toNat + 1 by omega]
  show x + f k = sm0 f k.toNat + f (k.toNat : Int)
  rw [ex, show ((k.toNat : Nat) : Int) = k by omega]
theorem rg278 : ([(276, 278)] : List (Int × Int)).all rgA = true := by decide +kernel
theorem c_share13 {h : Hp} {n w : Int} {ls ws : Int → Int} (hL : LAY h) (e3 : h 275 3 = n) (O : shO n w ls ws) (el : ∀ c, 0 ≤ c → c < n → h 276 c = ls c ∧ h 277 c = ws c) :
    Pz (m_X13_share 275 w h) (fun g => F2 (fun q j => q = 278 ∧ 0 ≤ j ∧ j < n) h g ∧ ∀ c, 0 ≤ c → c < n → g 278 c = shF n w ls ws c) := by
  obtain ⟨n1, n8, w0, w1, hh⟩ := id O
  obtain ⟨k0, ⟨k1, k2, k3⟩, ⟨k4, k5, k6⟩, ⟨k7, k8, k9⟩⟩ := ly_X13 hL
  have lay : ∀ {g}, F2 (fun q j => q = 278 ∧ 0 ≤ j ∧ j < n) h g → LAY g := fun F => lay_W hL F _ [] rg278 rfl (fun q j z => ⟨z.2.1, Or.inl ⟨_, List.mem_cons_self, by dsimp only; omega, by dsimp only; omega⟩⟩)
  unfold m_X13_share
  rw [e3, if_pos (by omega), k1, k4, q_sum13 (f := ws) (by rw [k5]; decide) (by rw [k6]; omega) (by omega) n8 (fun c c0 c1 => ⟨(el c c0 c1).2, by have := hh c c0 c1; omega, by have := hh c c0 c1; omega⟩), Option.bind_some, q_sum13 (f := ls) (by rw [k2]; decide) (by rw [k3]; omega) (by omega) n8 (fun c c0 c1 => ⟨(el c c0 c1).1, (hh c c0 c1).1, by have := hh c c0 c1; omega⟩), Option.bind_some]
  have hw := sm0_r (f := ws) (lo := 1000) (hi := 20000000000) n.toNat (fun x x0 x1 => by have := hh x x0 (by omega); omega)
  have hl := sm0_r (f := ls) (lo := 1000) (hi := 20000000000) n.toNat (fun x x0 x1 => by have := hh x x0 (by omega); omega)
  have ub := sm0_r (f := shB n w ls ws) (lo := 0) (hi := w + 8) n.toNat (fun x x0 x1 => shB_r O x0 (by omega))
  rw [show ((n.toNat : Nat) : Int) = n by omega] at hw hl ub
  have ub' : 0 ≤ sm0 (shB n w ls ws) n.toNat ∧ sm0 (shB n w ls ws) n.toNat ≤ 8000064 := by
    have : (w + 8) * n ≤ 1000008 * 8 := Int.le_trans (Int.mul_le_mul_of_nonneg_right (by omega) (by omega)) (Int.mul_le_mul_of_nonneg_left n8 (by decide))
    omega
  -- the first shares
  refine z_lt (z_lt (z_bind (z_mono (z_lp (Q := fun (r : Int × Hp) => r.1 = sm0 (shB n w ls ws) n.toNat ∧ F2 (fun q j => q = 278 ∧ 0 ≤ j ∧ j < n) h r.2 ∧ ∀ c, 0 ≤ c → c < n → r.2 278 c = shB n w ls ws c) (fun (q : Int × Int × Hp) => 0 ≤ q.2.1 ∧ q.2.1 ≤ n ∧ q.1 = sm0 (shB n w ls ws) q.2.1.toNat ∧ F2 (fun q j => q = 278 ∧ 0 ≤ j ∧ j < n) h q.2.2 ∧ ∀ c, 0 ≤ c → c < q.2.1 → q.2.2 278 c = shB n w ls ws c) (fun q => (n - q.2.1).toNat) ⟨Int.le_refl _, show 0 ≤ n by omega, rfl, F2.refl, fun c c0 c1 => by dsimp only at c1; omega⟩ ?_) (fun r hr => ?_))))
  · rintro ⟨x, k, g⟩ ⟨x0, x1, ex, Fg, G⟩
    dsimp only at x0 x1 ex G
    replace Fg : F2 (fun q j => q = 278 ∧ 0 ≤ j ∧ j < n) h g := Fg
    obtain ⟨-, ⟨m1, m2, m3⟩, ⟨m4, m5, m6⟩, ⟨m7, m8, m9⟩⟩ := ly_X13 (lay Fg)
    show Pz (m_X13_share_l39 275 w (sm0 ws n.toNat) (sm0 ls n.toNat) x k g) _
    unfold m_X13_share_l39
    have g3 : g 275 3 = n := by rw [Fg _ _ (fun z => by omega)]; exact e3
    rw [g3]
    by_cases hk : n ≤ k
    · rw [if_pos hk]
      have : k = n := by omega
      subst this
      exact z_some ⟨ex, Fg, G⟩
    rw [if_neg hk, m1, m4]
    obtain ⟨a1, a2, a3, a4⟩ := hh k x0 (by omega)
    have gl : g 276 k = ls k := by rw [Fg _ _ (fun z => by omega)]; exact (el k x0 (by omega)).1
    have gw : g 277 k = ws k := by rw [Fg _ _ (fun z => by omega)]; exact (el k x0 (by omega)).2
    have br := shB_r O x0 (show k < n by omega)
    have ur := sm0_r (f := shB n w ls ws) (lo := 0) (hi := w + 8) k.toNat (fun c c0 c1 => shB_r O c0 (by omega))
    rw [show ((k.toNat : Nat) : Int) = k by omega, ← ex] at ur
    have ur' : (w + 8) * k ≤ 1000008 * 8 := Int.le_trans (Int.mul_le_mul_of_nonneg_right (by omega) x0) (Int.mul_le_mul_of_nonneg_left (by omega) (by decide))
    have fin : ∀ v, v = shB n w ls ws k → Pz (m_X13_share_j140 275 x k v g) (sE (fun (q : Int × Int × Hp) => (0 ≤ q.2.1 ∧ q.2.1 ≤ n ∧ q.1 = sm0 (shB n w ls ws) q.2.1.toNat ∧ F2 (fun q j => q = 278 ∧ 0 ≤ j ∧ j < n) h q.2.2 ∧ ∀ c, 0 ≤ c → c < q.2.1 → q.2.2 278 c = shB n w ls ws c) ∧ (n - q.2.1).toNat < (n - k).toNat) (fun (r : Int × Hp) => r.1 = sm0 (shB n w ls ws) n.toNat ∧ F2 (fun q j => q = 278 ∧ 0 ≤ j ∧ j < n) h r.2 ∧ ∀ c, 0 ≤ c → c < n → r.2 278 c = shB n w ls ws c)) := by
      intro v hv
      unfold m_X13_share_j140
      rw [m7, hv, e32 (x := shB n w ls ws k) (by omega) (by omega), e64 (x := x + shB n w ls ws k) (by omega) (by omega), e32 (x := k + 1) (by omega) (by omega)]
      refine z_gd ⟨by rw [m8]; decide, x0, by rw [m9]; omega⟩ (z_pt (z_lt (z_lt (z_some ⟨⟨show 0 ≤ k + 1 by omega, show k + 1 ≤ n by omega, ?_, Fg.put ⟨rfl, x0, by omega⟩, fun c c0 c1 => ?_⟩, by dsimp only; omega⟩))))
      · dsimp only
        rw [show (k + 1).toNat = k.toNat + 1 by omega]
        show x + shB n w ls ws k = sm0 (shB n w ls ws) k.toNat + shB n w ls ws (k.toNat : Int)
        rw [ex, show ((k.toNat : Nat) : Int) = k by omega]
      · dsimp only at c1 ⊢
        by_cases hc : c = k
        · rw [hc, up_s]
        · rw [up_j hc]; exact G c c0 (by omega)
    by_cases hW : sm0 ws n.toNat ≤ w
    · rw [if_neg (fun z => by rw [lc_gt] at z; omega), gw]
      have eB : shB n w ls ws k = ws k + Int.tdiv (w - sm0 ws n.toNat) n := by unfold shB; rw [if_pos hW]
      have t0 := tdiv_nn (x := w - sm0 ws n.toNat) (y := n) (by omega) (by omega)
      have t1 := tdiv_le (x := w - sm0 ws n.toNat) (y := n) (by omega) (by omega)
      rw [e64 (x := w - sm0 ws n.toNat) (by omega) (by omega), e64 (x := Int.tdiv (w - sm0 ws n.toNat) n) (by omega) (by omega), ← eB, e64 (x := shB n w ls ws k) (by omega) (by omega)]
      exact z_gd ⟨by rw [m5]; decide, x0, by rw [m6]; omega⟩ (z_gd (by omega) (z_lt (fin _ rfl)))
    · rw [if_pos (lc_gt.mpr (by omega))]
      by_cases hL' : sm0 ls n.toNat ≤ w
      · rw [if_neg (fun z => by rw [lc_gt] at z; omega), gl, gw]
        have eB : shB n w ls ws k = ls k + Int.tdiv ((w - sm0 ls n.toNat) * (ws k - ls k)) (sm0 ws n.toNat - sm0 ls n.toNat) := by unfold shB; rw [if_neg hW, if_pos hL']
        have m : -(1000000 * 20000000000) ≤ (w - sm0 ls n.toNat) * (ws k - ls k) ∧ (w - sm0 ls n.toNat) * (ws k - ls k) ≤ 1000000 * 20000000000 := by
          rcases Int.le_total 0 (ws k - ls k) with z | z
          · have := mul_rr (a := w - sm0 ls n.toNat) (b := ws k - ls k) (m := 1000000) (k := 20000000000) (by omega) (by omega) (by omega) (by omega)
            omega
          · have := mul_rr (a := w - sm0 ls n.toNat) (b := -(ws k - ls k)) (m := 1000000) (k := 20000000000) (by omega) (by omega) (by omega) (by omega)
            rw [Int.mul_neg] at this
            omega
        have t01 := tdiv_b (y := sm0 ws n.toNat - sm0 ls n.toNat) (by omega) m.1 m.2 (by decide)
        rw [e64 (x := w - sm0 ls n.toNat) (by omega) (by omega), e64 (x := ws k - ls k) (by omega) (by omega), e64 (x := (w - sm0 ls n.toNat) * (ws k - ls k)) (by omega) (by omega), e64 (x := sm0 ws n.toNat - sm0 ls n.toNat) (by omega) (by omega), e64 (x := Int.tdiv ((w - sm0 ls n.toNat) * (ws k - ls k)) (sm0 ws n.toNat - sm0 ls n.toNat)) (by omega) (by omega), ← eB, e64 (x := shB n w ls ws k) (by omega) (by omega)]
        exact z_gd ⟨by rw [m2]; decide, x0, by rw [m3]; omega⟩ (z_gd ⟨by rw [m5]; decide, x0, by rw [m6]; omega⟩ (z_gd (by omega) (z_lt (fin _ rfl))))
      · rw [if_pos (lc_gt.mpr (by omega)), gl]
        have eB : shB n w ls ws k = Int.tdiv (w * ls k) (sm0 ls n.toNat) := by unfold shB; rw [if_neg hW, if_neg hL']
        have m := mul_rr (a := w) (b := ls k) (m := 1000000) (k := 20000000000) (by omega) w1 (by omega) (by omega)
        have t0 := tdiv_nn (y := sm0 ls n.toNat) m.1 (by omega)
        have t1 := tdiv_le (y := sm0 ls n.toNat) m.1 (by omega)
        rw [e64 (x := w * ls k) (by omega) (by omega), e64 (x := Int.tdiv (w * ls k) (sm0 ls n.toNat)) (by omega) (by omega), ← eB]
        exact z_gd ⟨by rw [m2]; decide, x0, by rw [m3]; omega⟩ (z_gd (by omega) (z_lt (fin _ rfl)))
  -- the rest
  obtain ⟨U, g1⟩ := r
  obtain ⟨eU, F1, G1⟩ := hr
  dsimp only at eU G1
  replace F1 : F2 (fun q j => q = 278 ∧ 0 ≤ j ∧ j < n) h g1 := F1
  dsimp only
  have sF : ∀ c, shF n w ls ws c = shB n w ls ws c + (if c < w - U then 1 else 0) := fun c => by unfold shF; rw [eU]
  rw [← eU] at ub'
  refine z_lt (z_bind (z_mono (z_lp (Q := fun g => F2 (fun q j => q = 278 ∧ 0 ≤ j ∧ j < n) h g ∧ ∀ c, 0 ≤ c → c < n → g 278 c = shF n w ls ws c) (fun (q : Int × Int × Hp) => 0 ≤ q.2.1 ∧ q.2.1 ≤ n ∧ q.1 = U + q.2.1 ∧ (q.2.1 = 0 ∨ q.1 ≤ w) ∧ F2 (fun q j => q = 278 ∧ 0 ≤ j ∧ j < n) h q.2.2 ∧ (∀ c, 0 ≤ c → c < q.2.1 → q.2.2 278 c = shB n w ls ws c + 1) ∧ ∀ c, q.2.1 ≤ c → c < n → q.2.2 278 c = shB n w ls ws c) (fun q => (n - q.2.1).toNat) ⟨Int.le_refl _, show 0 ≤ n by omega, (Int.add_zero _).symm, Or.inl rfl, F1, fun c c0 c1 => by dsimp only at c1; omega, fun c c0 c1 => G1 c c0 c1⟩ ?_) (fun r hr => z_some hr)))
  rintro ⟨x, k, g⟩ ⟨x0, x1, ex, hx, Fg, H1, H2⟩
  dsimp only at x0 x1 ex hx H1 H2
  replace Fg : F2 (fun q j => q = 278 ∧ 0 ≤ j ∧ j < n) h g := Fg
  obtain ⟨-, -, -, ⟨m7, m8, m9⟩⟩ := ly_X13 (lay Fg)
  show Pz (m_X13_share_l166 275 w x k g) _
  unfold m_X13_share_l166
  have g3 : g 275 3 = n := by rw [Fg _ _ (fun z => by omega)]; exact e3
  rw [g3]
  have out : (n ≤ k ∨ w ≤ x) → F2 (fun q j => q = 278 ∧ 0 ≤ j ∧ j < n) h g ∧ ∀ c, 0 ≤ c → c < n → g 278 c = shF n w ls ws c := fun ho => ⟨Fg, fun c c0 c1 => by
    rw [sF]
    by_cases hc : c < k
    · rw [H1 c c0 hc, if_pos (by omega)]
    · rw [H2 c (by omega) c1, if_neg (by omega), Int.add_zero]⟩
  by_cases hk : n ≤ k
  · rw [if_pos hk]
    exact z_some (out (Or.inl hk))
  rw [if_neg hk]
  by_cases hw' : w ≤ x
  · rw [if_pos (lc_ge.mpr hw')]
    exact z_some (out (Or.inr hw'))
  rw [if_neg (fun z => hw' (lc_ge.mp z)), m7]
  have br := shB_r O x0 (show k < n by omega)
  rw [H2 k (Int.le_refl _) (by omega), e32 (x := shB n w ls ws k + 1) (by omega) (by omega), e64 (x := x + 1) (by omega) (by omega), e32 (x := k + 1) (by omega) (by omega)]
  refine z_gd ⟨by rw [m8]; decide, x0, by rw [m9]; omega⟩ (z_pt (z_lt (z_lt (z_some ⟨⟨show 0 ≤ k + 1 by omega, show k + 1 ≤ n by omega, show x + 1 = U + (k + 1) by omega, Or.inr (show x + 1 ≤ w by omega), Fg.put ⟨rfl, x0, by omega⟩, fun c c0 c1 => ?_, fun c c0 c1 => ?_⟩, by dsimp only; omega⟩))))
  · dsimp only at c1 ⊢
    by_cases hc : c = k
    · rw [hc, up_s]
    · rw [up_j hc]; exact H1 c c0 (by omega)
  · dsimp only at c0 ⊢
    rw [up_j (by omega)]; exact H2 c (by omega) c1
