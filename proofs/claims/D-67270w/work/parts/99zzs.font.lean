-- needs: 99zp
set_option maxRecDepth 100000
/-! FONTS: how wide bytes are -/
def shrW (z k : Int) : Int := if 0 ≤ k then Int.tdiv (z * k) 1000 else -(Int.tdiv (z * (-k)) 1000)
theorem aX12 {a : Int} (h : a ∈ in_aX12) : a = 261 ∨ a = 265 ∨ a = 269 := by
  simp only [in_aX12, List.mem_cons, List.not_mem_nil, or_false] at h
  exact h
theorem aX14 {a : Int} (h : a ∈ in_aX14) : a = 292 ∨ a = 357 ∨ a = 422 := by
  simp only [in_aX14, List.mem_cons, List.not_mem_nil, or_false] at h
  exact h
theorem aX15 {a : Int} (h : a ∈ in_aX15) : a = 293 ∨ a = 358 ∨ a = 423 := by
  simp only [in_aX15, List.mem_cons, List.not_mem_nil, or_false] at h
  exact h
theorem aX16 {a : Int} (h : a ∈ in_aX16) : a = 334 ∨ a = 399 ∨ a = 464 := by
  simp only [in_aX16, List.mem_cons, List.not_mem_nil, or_false] at h
  exact h
theorem aX25 {a : Int} (h : a ∈ in_aX25) : a = 671 ∨ a = 825 := by
  simp only [in_aX25, List.mem_cons, List.not_mem_nil, or_false] at h
  exact h
theorem z_eq {α : Type} {e : Option α} {v : α} (h : Pz e (fun r => r = v)) : e = some v := by
  obtain ⟨x, e1, rfl⟩ := h; exact e1
theorem lc_ge {x y : Int} : 0 ≤ lcmp_ x y ↔ y ≤ x := by
  unfold lcmp_
  split
  · exact ⟨fun _ => by omega, fun _ => by decide⟩
  · split
    · exact ⟨fun _ => by omega, fun _ => by decide⟩
    · exact ⟨fun z => by omega, fun _ => by omega⟩
theorem lc_le {x y : Int} : lcmp_ x y ≤ 0 ↔ x ≤ y := by
  unfold lcmp_
  split
  · exact ⟨fun z => absurd z (by decide), fun _ => by omega⟩
  · split
    · exact ⟨fun _ => by omega, fun _ => by decide⟩
    · exact ⟨fun z => by omega, fun _ => by decide⟩
theorem lc_eq {x y : Int} : lcmp_ x y = 0 ↔ x = y := by
  unfold lcmp_
  split
  · exact ⟨fun z => absurd z (by decide), fun _ => by omega⟩
  · split
    · exact ⟨fun _ => by omega, fun _ => rfl⟩
    · exact ⟨fun z => absurd z (by decide), fun _ => by omega⟩
theorem lc_lt {x y : Int} : lcmp_ x y < 0 ↔ x < y := by
  have := lc_ge (x := x) (y := y)
  omega
theorem lc_gt {x y : Int} : 0 < lcmp_ x y ↔ y < x := by
  have := lc_le (x := x) (y := y)
  omega
theorem mul_r {z k m : Int} (z0 : 0 ≤ z) (z1 : z ≤ 100000) (k0 : 0 ≤ k) (k1 : k ≤ m) : 0 ≤ z * k ∧ z * k ≤ 100000 * m := by
  refine ⟨Int.mul_nonneg z0 k0, ?_⟩
  exact Int.le_trans (Int.mul_le_mul_of_nonneg_right z1 k0) (Int.mul_le_mul_of_nonneg_left k1 (by decide))
theorem td_r {x m : Int} (x0 : 0 ≤ x) (x1 : x ≤ 1000 * m) : 0 ≤ Int.tdiv x 1000 ∧ Int.tdiv x 1000 ≤ m := by
  rw [Int.tdiv_eq_ediv_of_nonneg x0]; omega
theorem shrW_r {z k m : Int} (z0 : 0 ≤ z) (z1 : z ≤ 100000) (k0 : -m ≤ k) (k1 : k ≤ m) : -(100 * m) ≤ shrW z k ∧ shrW z k ≤ 100 * m ∧ (0 ≤ k → 0 ≤ shrW z k) := by
  unfold shrW
  split
  · rename_i hk
    have a := mul_r z0 z1 hk k1
    have b := td_r (m := 100 * m) a.1 (by omega)
    omega
  · have a := mul_r z0 z1 (show 0 ≤ -k by omega) (show -k ≤ m by omega)
    have b := td_r (m := 100 * m) a.1 (by omega)
    omega
theorem q_part8 {z k : Int} (z0 : 0 ≤ z) (z1 : z ≤ 100000) (k0 : -5000 ≤ k) (k1 : k ≤ 5000) : m_X8_part z k = some (shrW z k) := by
  unfold m_X8_part shrW
  split
  · rename_i hk
    have a := mul_r z0 z1 hk k1
    have b := td_r (m := 500000) a.1 (by omega)
    rw [e64 (x := z * k) (by omega) (by omega), e64 (by omega) (by omega), e32 (by omega) (by omega)]
  · have a := mul_r z0 z1 (show 0 ≤ -k by omega) (show -k ≤ 5000 by omega)
    have b := td_r (m := 500000) a.1 (by omega)
    rw [e32 (x := -k) (by omega) (by omega), e64 (x := z * -k) (by omega) (by omega), e64 (by omega) (by omega), e32 (x := Int.tdiv (z * -k) 1000) (by omega) (by omega), e32 (by omega) (by omega)]
/-- a font: widths, kerns (0 without), joins (-1 without) -/
def foR (W : Int → Int) (K J : Int → Int → Int) : Prop := (∀ a, 0 ≤ a → a < 128 → 0 ≤ W a ∧ W a ≤ 5000) ∧ ∀ a b, 0 ≤ a → a < 128 → 0 ≤ b → b < 128 → -500 ≤ K a b ∧ K a b ≤ 500 ∧ -1 ≤ J a b ∧ J a b ≤ 5000
/-- the component's font f -/
def foC (h : Hp) (f : Int) (W : Int → Int) (K J : Int → Int → Int) : Prop := (∀ a, 0 ≤ a → a < 128 → h (f + 1) a = W a) ∧ ∀ a b, 0 ≤ a → a < 128 → 0 ≤ b → b < 128 → ((h (f + 3) (128 * a + b) = 1000 ∧ K a b = 0) ∨ (h (f + 3) (128 * a + b) ≠ 1000 ∧ h (f + 3) (128 * a + b) = K a b)) ∧ h (f + 4) (128 * a + b) = J a b + 1
/-- the reference's letters l -/
def foT (h : Hp) (l : Int) (W : Int → Int) (K J : Int → Int → Int) : Prop := (∀ a, 0 ≤ a → a < 128 → h (l + 1) a = W a) ∧ ∀ a b, 0 ≤ a → a < 128 → 0 ≤ b → b < 128 → m_X19_kernOf l a b h = some (K a b) ∧ m_X19_joinOf l a b h = some (J a b)
/-- two bytes that are joined -/
def wJn (J : Int → Int → Int) (B Z : Int → Int) (c i : Int) : Prop := i + 1 < c ∧ Z (i + 1) = Z i ∧ 0 ≤ J (B i) (B (i + 1))
noncomputable def wNx (J : Int → Int → Int) (B Z : Int → Int) (c i : Int) : Int := @ite _ (wJn J B Z c i) (Classical.propDecidable _) (i + 2) (i + 1)
/-- what is drawn together ahead of i -/
def wKn (K : Int → Int → Int) (B Z : Int → Int) (a i s : Int) : Int := if a < i ∧ Z (i - 1) = Z i then s + shrW (Z i) (K (B (i - 1)) (B i)) else s
noncomputable def wSm (W : Int → Int) (K J : Int → Int → Int) (B Z : Int → Int) (a c i s : Int) : Int := wKn K B Z a i s + shrW (Z i) (@ite _ (wJn J B Z c i) (Classical.propDecidable _) (J (B i) (B (i + 1))) (W (B i)))
/-- the width of bytes from a to c: the rest from i on -/
noncomputable def wdG (W : Int → Int) (K J : Int → Int → Int) (B Z : Int → Int) (a c : Int) : Nat → Int → Int → Int
  | 0, _, s => s
  | n + 1, i, s => if c ≤ i then s else wdG W K J B Z a c n (wNx J B Z c i) (wSm W K J B Z a c i s)
noncomputable def wdS (W : Int → Int) (K J : Int → Int → Int) (B Z : Int → Int) (a c : Int) : Int := if wdG W K J B Z a c (c - a).toNat a 0 < 0 then 0 else wdG W K J B Z a c (c - a).toNat a 0
theorem shrW_0 {z : Int} : shrW z 0 = 0 := by unfold shrW; rw [if_pos (by decide), Int.mul_zero]; rfl
/-- bytes and sizes from a to c -/
def txO (B Z : Int → Int) (a c : Int) : Prop := ∀ i, a ≤ i → i < c → 0 ≤ B i ∧ B i < 128 ∧ 0 ≤ Z i ∧ Z i ≤ 100000
theorem wNx_r {J : Int → Int → Int} {B Z : Int → Int} {c i : Int} (h : i < c) : i < wNx J B Z c i ∧ wNx J B Z c i ≤ c ∧ Z (wNx J B Z c i - 1) = Z i := by
  unfold wNx
  split
  · rename_i k; exact ⟨by omega, by have := k.1; omega, by rw [show i + 2 - 1 = i + 1 by omega]; exact k.2.1⟩
  · exact ⟨by omega, by omega, by rw [show i + 1 - 1 = i by omega]⟩
theorem wKn_r {W : Int → Int} {K J : Int → Int → Int} {B Z : Int → Int} {a c i s m : Int} (R : foR W K J) (T : txO B Z a c) (ai : a ≤ i) (h : i < c) (s0 : -m ≤ s) (s1 : s ≤ m) : -(m + 50000) ≤ wKn K B Z a i s ∧ wKn K B Z a i s ≤ m + 50000 := by
  obtain ⟨b0, b1, z0, z1⟩ := T i ai h
  unfold wKn
  split
  · rename_i k
    obtain ⟨b2, b3, -⟩ := T (i - 1) (by omega) (by omega)
    have kr := R.2 (B (i - 1)) (B i) b2 b3 b0 b1
    have pw := shrW_r (m := 500) z0 z1 (k := K (B (i - 1)) (B i)) (by omega) (by omega)
    omega
  · omega
theorem wSm_r {W : Int → Int} {K J : Int → Int → Int} {B Z : Int → Int} {a c i s m : Int} (R : foR W K J) (T : txO B Z a c) (ai : a ≤ i) (h : i < c) (s0 : -m ≤ s) (s1 : s ≤ m) : -(m + 550000) ≤ wSm W K J B Z a c i s ∧ wSm W K J B Z a c i s ≤ m + 550000 := by
  obtain ⟨b0, b1, z0, z1⟩ := T i ai h
  have k := wKn_r (W := W) (J := J) R T ai h s0 s1
  unfold wSm
  split
  · rename_i q
    obtain ⟨b2, b3, -⟩ := T (i + 1) (by omega) q.1
    have kr := R.2 (B i) (B (i + 1)) b0 b1 b2 b3
    have pw := shrW_r (m := 5000) z0 z1 (k := J (B i) (B (i + 1))) (by omega) (by omega)
    omega
  · have kr := R.1 (B i) b0 b1
    have pw := shrW_r (m := 5000) z0 z1 (k := W (B i)) (by omega) (by omega)
    omega
/-- one turn of the component -/
theorem e_w8 {h : Hp} {f X Y t a c i s la lz : Int} {W : Int → Int} {K J : Int → Int → Int} {B Z : Int → Int} (hL : LAY h) (hf : f ∈ in_aX8) (R : foR W K J) (F : foC h f W K J) (T : txO B Z a c)
    (kX : h X (-2) % 16 = 2) (kY : h Y (-2) % 16 = 1) (lX : t + c ≤ h X (-1)) (lY : t + c ≤ h Y (-1)) (t0 : 0 ≤ t + a) (t1 : t + c ≤ 30000) (hB : ∀ i, a ≤ i → i < c → h X (t + i) = B i ∧ h Y (t + i) = Z i)
    (ai : a ≤ i) (ic : i < c) (hla : (i = a ∧ la = -1) ∨ (a < i ∧ la = B (i - 1) ∧ lz = Z (i - 1))) (s0 : -20000000000 ≤ s) (s1 : s ≤ 20000000000) :
    m_X8_width_l12 f X Y (t + c) s la lz (t + i) h = some (.inl (wSm W K J B Z a c i s, B (wNx J B Z c i - 1), Z i, t + wNx J B Z c i)) := by
  have hf' := aX8 hf
  refine z_eq ?_
  have k0 := ly_X8 hL hf
  unfold m_X8_width_l12
  obtain ⟨b0, b1, z0, z1⟩ := T i ai (by omega)
  obtain ⟨eB, eZ⟩ := hB i ai (by omega)
  rw [if_neg (by omega)]
  refine z_gd ⟨kX, by omega, by omega⟩ (z_lt (z_gd ⟨kY, by omega, by omega⟩ (z_lt ?_)))
  rw [eB, eZ]
  have kn := wKn_r (W := W) (J := J) (m := 20000000000) R T ai ic s0 s1
  have fin : Pz (m_X8_width_j88 (Z i) (B i) (t + i) f X Y (t + c) (wKn K B Z a i s) h) (fun r => r = .inl (wSm W K J B Z a c i s, B (wNx J B Z c i - 1), Z i, t + wNx J B Z c i)) := by
    unfold wSm
    generalize wKn K B Z a i s = s' at *
    have no : ¬ wJn J B Z c i → Pz (m_X8_width_j127 f X s' (t + i) (B i) (Z i) h) (fun r => r = .inl (s' + shrW (Z i) (@ite _ (wJn J B Z c i) (Classical.propDecidable _) (J (B i) (B (i + 1))) (W (B i))), B (wNx J B Z c i - 1), Z i, t + wNx J B Z c i)) := by
      intro hn
      unfold wNx
      rw [if_neg hn, if_neg hn]
      have w := R.1 (B i) b0 b1
      have pw := shrW_r (m := 5000) z0 z1 (k := W (B i)) (by omega) (by omega)
      unfold m_X8_width_j127 m_X8_width_j128
      rw [if_pos rfl]
      simp only [k0.2.1, F.1 (B i) b0 b1]
      refine z_gd ⟨by decide, b0, b1⟩ ?_
      unfold m_X8_width_j169
      rw [q_part8 z0 z1 (by omega) (by omega), Option.bind_some]
      refine z_lt ?_
      rw [if_pos rfl, e64 (by omega) (by omega)]
      unfold m_X8_width_j188
      refine z_lt ?_
      rw [e32 (x := t + i + 1) (by omega) (by omega), e32 (x := t + i + 1 - 1) (by omega) (by omega), show t + i + 1 - 1 = t + i by omega]
      refine z_gd ⟨kX, by omega, by omega⟩ (z_lt (z_some ?_))
      rw [eB, show t + i + 1 = t + (i + 1) by omega, show i + 1 - 1 = i by omega]
    unfold m_X8_width_j88
    rw [e32 (x := t + i + 1) (by omega) (by omega)]
    by_cases h1 : i + 1 < c
    · obtain ⟨b2, b3, z2, z3⟩ := T (i + 1) (by omega) (by omega)
      obtain ⟨eB', eZ'⟩ := hB (i + 1) (by omega) (by omega)
      rw [if_neg (by omega), show t + i + 1 = t + (i + 1) by omega]
      refine z_gd ⟨kY, by omega, by omega⟩ ?_
      rw [eZ']
      by_cases h2 : Z (i + 1) = Z i
      · rw [if_neg (fun z => z h2)]
        refine z_gd ⟨kX, by omega, by omega⟩ ?_
        rw [eB']
        have j0 := (F.2 (B i) (B (i + 1)) b0 b1 b2 b3).2
        have jr := R.2 (B i) (B (i + 1)) b0 b1 b2 b3
        unfold m_X8_joins
        simp only [k0.2.2.2.2]
        rw [e32 (x := 128 * B i) (by omega) (by omega), e32 (x := 128 * B i + B (i + 1)) (by omega) (by omega), gd_t ⟨by decide, by omega, by omega⟩, j0]
        by_cases h3 : 0 ≤ J (B i) (B (i + 1))
        · unfold wNx
          rw [if_neg (by omega), Option.bind_some, if_neg (by decide), if_pos ⟨h1, h2, h3⟩, if_pos ⟨h1, h2, h3⟩]
          have pw := shrW_r (m := 5000) z0 z1 (k := J (B i) (B (i + 1))) (by omega) (by omega)
          unfold m_X8_width_j128
          rw [if_neg (by decide), e32 (x := t + i + 1) (by omega) (by omega), show t + i + 1 = t + (i + 1) by omega, eB', e32 (x := 128 * B i) (by omega) (by omega), e32 (x := 128 * B i + B (i + 1)) (by omega) (by omega)]
          simp only [k0.2.2.2.2, j0]
          refine z_gd ⟨kX, by omega, by omega⟩ (z_gd ⟨by decide, by omega, by omega⟩ ?_)
          rw [show J (B i) (B (i + 1)) + 1 - 1 = J (B i) (B (i + 1)) by omega, e32 (x := J (B i) (B (i + 1))) (by omega) (by omega)]
          unfold m_X8_width_j169
          rw [q_part8 z0 z1 (by omega) (by omega), Option.bind_some]
          refine z_lt ?_
          rw [if_neg (by decide), e64 (by omega) (by omega)]
          unfold m_X8_width_j188
          refine z_lt ?_
          rw [e32 (x := t + i + 2) (by omega) (by omega), e32 (x := t + i + 2 - 1) (by omega) (by omega), show t + i + 2 - 1 = t + (i + 1) by omega]
          refine z_gd ⟨kX, by omega, by omega⟩ (z_lt (z_some ?_))
          rw [eB', show t + i + 2 = t + (i + 2) by omega, show i + 2 - 1 = i + 1 by omega]
        · rw [if_pos (by omega), Option.bind_some, if_pos rfl]
          exact no (fun z => h3 z.2.2)
      · rw [if_pos h2]
        exact no (fun z => h2 z.2.1)
    · rw [if_pos (by omega)]
      exact no (fun z => h1 z.1)
  rcases hla with ⟨hia, hla⟩ | ⟨ha, hla, hlz⟩
  · have e : wKn K B Z a i s = s := by unfold wKn; rw [if_neg (by omega)]
    rw [if_pos (by omega), ← e]
    exact e.symm ▸ fin
  · obtain ⟨b2, b3, z2, z3⟩ := T (i - 1) (by omega) (by omega)
    rw [if_neg (by omega), hla, hlz]
    by_cases h1 : Z (i - 1) = Z i
    · have e : wKn K B Z a i s = s + shrW (Z i) (K (B (i - 1)) (B i)) := by unfold wKn; rw [if_pos ⟨ha, h1⟩]
      rw [if_neg (fun z => z h1)]
      have kr := R.2 (B (i - 1)) (B i) b2 b3 b0 b1
      simp only [k0.2.2.2.1]
      rw [e32 (x := 128 * B (i - 1)) (by omega) (by omega), e32 (x := 128 * B (i - 1) + B i) (by omega) (by omega)]
      refine z_gd ⟨by decide, by omega, by omega⟩ ?_
      rcases (F.2 (B (i - 1)) (B i) b2 b3 b0 b1).1 with ⟨g1, g2⟩ | ⟨g1, g2⟩
      · rw [g2, shrW_0, Int.add_zero] at e
        rw [if_pos g1]
        rw [e] at fin
        exact fin
      · rw [if_neg g1, g2]
        have pw := shrW_r (m := 500) z0 z1 (k := K (B (i - 1)) (B i)) (by omega) (by omega)
        rw [q_part8 z0 z1 (by omega) (by omega), Option.bind_some]
        refine z_lt ?_
        rw [e64 (by omega) (by omega)]
        rw [e] at fin
        exact fin
    · have e : wKn K B Z a i s = s := by unfold wKn; rw [if_neg (fun z => h1 z.2)]
      rw [if_pos h1]
      rw [e] at fin
      exact fin
theorem wd_loop {σ : Type} {F : σ → Option (σ ⊕ Int)} {W : Int → Int} {K J : Int → Int → Int} {B Z : Int → Int} {a c : Int} (R : foR W K J) (T : txO B Z a c) (st : Int → Int → σ → Prop) (ca : c - a ≤ 30000)
    (body : ∀ i s q, a ≤ i → i < c → -20000000000 ≤ s → s ≤ 20000000000 → st i s q → ∃ q', F q = some (.inl q') ∧ st (wNx J B Z c i) (wSm W K J B Z a c i s) q') (fin : ∀ s q, st c s q → F q = some (.inr s)) :
    ∀ (n : Nat) (i s : Int) (q : σ), a ≤ i → c - i ≤ n → i ≤ c → -(550000 * (i - a)) ≤ s → s ≤ 550000 * (i - a) → st i s q → lp F q = some (wdG W K J B Z a c n i s) ∧ -(550000 * (c - a)) ≤ wdG W K J B Z a c n i s ∧ wdG W K J B Z a c n i s ≤ 550000 * (c - a) := by
  intro n
  induction n with
  | zero =>
    intro i s q ai ci ic s0 s1 hq
    have : i = c := by omega
    subst this
    rw [lp_eq, fin s q hq]
    exact ⟨rfl, s0, s1⟩
  | succ n ih =>
    intro i s q ai ci ic s0 s1 hq
    unfold wdG
    by_cases hi : c ≤ i
    · have : i = c := by omega
      subst this
      rw [lp_eq, fin s q hq, if_pos hi]
      exact ⟨rfl, s0, s1⟩
    · obtain ⟨q', e, h'⟩ := body i s q ai (by omega) (by omega) (by omega) hq
      have w := wNx_r (J := J) (B := B) (Z := Z) (show i < c by omega)
      have r := wSm_r (m := 550000 * (i - a)) R T ai (show i < c by omega) s0 s1
      rw [lp_eq, e, if_neg hi]
      exact ih _ _ q' (by omega) (by omega) w.2.1 (by omega) (by omega) h'
theorem c_width {h : Hp} {f X Y t a c : Int} {W : Int → Int} {K J : Int → Int → Int} {B Z : Int → Int} (hL : LAY h) (hf : f ∈ in_aX8) (R : foR W K J) (F : foC h f W K J) (T : txO B Z a c)
    (kX : h X (-2) % 16 = 2) (kY : h Y (-2) % 16 = 1) (lX : t + c ≤ h X (-1)) (lY : t + c ≤ h Y (-1)) (t0 : 0 ≤ t + a) (t1 : t + c ≤ 30000) (ac : a ≤ c) (hB : ∀ i, a ≤ i → i < c → h X (t + i) = B i ∧ h Y (t + i) = Z i) :
    m_X8_width f X Y (t + a) (t + c) h = some (wdS W K J B Z a c) ∧ 0 ≤ wdS W K J B Z a c ∧ wdS W K J B Z a c ≤ 550000 * (c - a) := by
  obtain ⟨e, r0, r1⟩ := wd_loop (F := fun (q : Int × Int × Int × Int) => m_X8_width_l12 f X Y (t + c) q.1 q.2.1 q.2.2.1 q.2.2.2 h) R T (fun i s q => q.1 = s ∧ q.2.2.2 = t + i ∧ ((i = a ∧ q.2.1 = -1) ∨ (a < i ∧ q.2.1 = B (i - 1) ∧ q.2.2.1 = Z (i - 1)))) (by omega) (fun i s q ai ic s0 s1 hq => by
      obtain ⟨q1, q2, q3⟩ := hq
      have w := wNx_r (J := J) (B := B) (Z := Z) ic
      refine ⟨(wSm W K J B Z a c i s, B (wNx J B Z c i - 1), Z i, t + wNx J B Z c i), ?_, rfl, rfl, Or.inr ⟨by omega, rfl, w.2.2.symm⟩⟩
      rw [q1, q2]
      exact e_w8 hL hf R F T kX kY lX lY t0 t1 hB ai ic q3 s0 s1) (fun s q hq => by
      show m_X8_width_l12 f X Y (t + c) q.1 q.2.1 q.2.2.1 q.2.2.2 h = _
      unfold m_X8_width_l12
      rw [hq.2.1, if_pos (Int.le_refl _), hq.1]) (c - a).toNat a 0 (0, -1, 0, t + a) (Int.le_refl _) (by omega) ac (by omega) (by omega) ⟨rfl, rfl, Or.inl ⟨rfl, rfl⟩⟩
  have r2 : 0 ≤ wdS W K J B Z a c ∧ wdS W K J B Z a c ≤ 550000 * (c - a) := by unfold wdS; split <;> omega
  refine ⟨?_, r2⟩
  unfold m_X8_width
  simp only [lt_e]
  rw [e, Option.bind_some]
  unfold wdS
  by_cases g : wdG W K J B Z a c (c - a).toNat a 0 < 0
  · rw [if_pos g, if_neg (fun z => by rw [lc_ge] at z; omega)]
  · rw [if_neg g, if_pos (lc_ge.mpr (by omega))]
