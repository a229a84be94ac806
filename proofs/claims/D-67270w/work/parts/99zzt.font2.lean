-- needs: 99zzs
set_option maxRecDepth 100000
/-! FONTS: how wide bytes are: the reference; two fonts alike -/
/-- one turn of the reference -/
theorem e_w25 {h : Hp} {g l t a c i s la : Int} {W : Int → Int} {K J : Int → Int → Int} {B Z : Int → Int} (hL : LAY h) (hg : g ∈ in_aX25) (hl : l ∈ in_aX19) (eg : h g 2 = l) (R : foR W K J) (F : foT h l W K J) (T : txO B Z a c)
    (t0 : 0 ≤ t + a) (t1 : t + c ≤ 24000) (hB : ∀ i, a ≤ i → i < c → h (g + 50) (t + i) = B i ∧ h (g + 51) (t + i) = Z i)
    (ai : a ≤ i) (ic : i < c) (hla : a < i → la = B (i - 1)) (s0 : -20000000000 ≤ s) (s1 : s ≤ 20000000000) :
    m_X25_wide_l8 g (t + a) (t + c) s la (t + i) h = some (.inl (wSm W K J B Z a c i s, B (wNx J B Z c i - 1), t + wNx J B Z c i)) := by
  have hg' := aX25 hg
  have hl' := aX19 hl
  refine z_eq ?_
  have k5 := g_X25_5 hL hg
  have k6 := g_X25_6 hL hg
  have k0 := ly_X19 hL hl
  obtain ⟨b0, b1, z0, z1⟩ := T i ai (by omega)
  obtain ⟨eB, eZ⟩ := hB i ai (by omega)
  have fin : Pz (m_X25_wide_j76 (Z i) (B i) (t + i) g (t + a) s la (@ite _ (wJn J B Z c i) (Classical.propDecidable _) (J (B i) (B (i + 1))) (-1)) h) (fun r => r = .inl (wSm W K J B Z a c i s, B (wNx J B Z c i - 1), t + wNx J B Z c i)) := by
    have tail : ∀ s' n, -20000050000 ≤ s' → s' ≤ 20000050000 → s' = wKn K B Z a i s → n = @ite _ (wJn J B Z c i) (Classical.propDecidable _) (J (B i) (B (i + 1))) (-1) → Pz (m_X25_wide_j156 (if n < 0 then 1 else 2) n g (t + i) (B i) (Z i) s' h) (fun r => r = .inl (wSm W K J B Z a c i s, B (wNx J B Z c i - 1), t + wNx J B Z c i)) := by
      intro s' n u0 u1 es en
      unfold wSm wNx
      rw [← es]
      have last : ∀ v d, -5000 ≤ v → v ≤ 5000 → (d = 1 ∨ d = 2) → i + d ≤ c → Pz (m_X25_wide_j180 g s' (t + i) (Z i) d v h) (fun r => 0 ≤ v → r = .inl (s' + shrW (Z i) v, B (i + d - 1), t + (i + d))) := by
        intro v d v0 v1 hd hc
        unfold m_X25_wide_j180
        by_cases hv : 0 ≤ v
        · have m := mul_r z0 z1 hv v1
          have td := td_r (m := 500000) m.1 (by omega)
          have ev : shrW (Z i) v = Int.tdiv (Z i * v) 1000 := by unfold shrW; rw [if_pos hv]
          rw [ev]
          refine z_lt (z_lt ?_)
          rw [e64 (x := Z i * v) (by omega) (by omega), e64 (x := Int.tdiv (Z i * v) 1000) (by omega) (by omega), e64 (by omega) (by omega), e32 (x := t + i + d) (by omega) (by omega), e32 (x := t + i + d - 1) (by omega) (by omega), show t + i + d - 1 = t + (i + d - 1) by omega]
          simp only [k5]
          refine z_gd ⟨by decide, by omega, by omega⟩ (z_lt (z_some (fun _ => ?_)))
          rw [(hB (i + d - 1) (by omega) (by omega)).1, show t + i + d = t + (i + d) by omega]
        · refine z_lt (z_lt ?_)
          rw [e32 (x := t + i + d) (by omega) (by omega), e32 (x := t + i + d - 1) (by omega) (by omega)]
          simp only [k5]
          exact z_gd ⟨by decide, by omega, by omega⟩ (z_lt (z_some (fun z => absurd z hv)))
      unfold m_X25_wide_j156
      by_cases hj : wJn J B Z c i
      · obtain ⟨b2, b3, -⟩ := T (i + 1) (by omega) hj.1
        have jr := R.2 (B i) (B (i + 1)) b0 b1 b2 b3
        have := hj.1
        have := hj.2.2
        rw [if_pos hj] at en ⊢
        rw [if_pos hj, if_neg (by omega), if_neg (by omega), en]
        refine z_mono (last _ 2 (by omega) (by omega) (Or.inr rfl) (by omega)) (fun r hr => ?_)
        exact hr hj.2.2
      · rw [if_neg hj] at en ⊢
        have w := R.1 (B i) b0 b1
        rw [if_neg hj, en, if_pos (by decide), if_pos (by decide)]
        simp only [eg, k0.1, k0.2.1, F.1 (B i) b0 b1]
        refine z_gd trivial (z_gd ⟨by decide, b0, by omega⟩ ?_)
        refine z_mono (last _ 1 (by omega) (by omega) (Or.inl rfl) (by omega)) (fun r hr => ?_)
        exact hr w.1
    have kn := wKn_r (W := W) (J := J) (m := 20000000000) R T ai ic s0 s1
    have mid : ∀ n, n = @ite _ (wJn J B Z c i) (Classical.propDecidable _) (J (B i) (B (i + 1))) (-1) → Pz (m_X25_wide_j88 n (Z i) g (t + a) s la (t + i) (B i) (if n < 0 then 1 else 2) h) (fun r => r = .inl (wSm W K J B Z a c i s, B (wNx J B Z c i - 1), t + wNx J B Z c i)) := by
      intro n en
      unfold m_X25_wide_j88
      by_cases ha : a < i
      · obtain ⟨b2, b3, z2, z3⟩ := T (i - 1) (by omega) (by omega)
        rw [if_neg (by omega), e32 (x := t + i - 1) (by omega) (by omega), show t + i - 1 = t + (i - 1) by omega]
        simp only [k6]
        refine z_gd ⟨by decide, by omega, by omega⟩ ?_
        rw [(hB (i - 1) (by omega) (by omega)).2]
        by_cases h1 : Z (i - 1) = Z i
        · have e : wKn K B Z a i s = s + shrW (Z i) (K (B (i - 1)) (B i)) := by unfold wKn; rw [if_pos ⟨ha, h1⟩]
          rw [if_neg (fun z => z h1), hla ha]
          simp only [eg, k0.1]
          refine z_gd trivial ?_
          have kr := R.2 (B (i - 1)) (B i) b2 b3 b0 b1
          have pw := shrW_r (m := 500) z0 z1 (k := K (B (i - 1)) (B i)) (by omega) (by omega)
          rw [(F.2 (B (i - 1)) (B i) b2 b3 b0 b1).1, Option.bind_some]
          refine z_lt ?_
          unfold m_X25_wide_j155
          by_cases hk : 0 ≤ K (B (i - 1)) (B i)
          · have m := mul_r z0 z1 hk kr.2.1
            have td := td_r (m := 50000) m.1 (by omega)
            have ea : abs_ (K (B (i - 1)) (B i)) = K (B (i - 1)) (B i) := by unfold abs_; rw [if_pos hk]
            have ev : shrW (Z i) (K (B (i - 1)) (B i)) = Int.tdiv (Z i * K (B (i - 1)) (B i)) 1000 := by unfold shrW; rw [if_pos hk]
            rw [if_pos hk, ea, e64 (x := Z i * K (B (i - 1)) (B i)) (by omega) (by omega), e64 (x := Int.tdiv (Z i * K (B (i - 1)) (B i)) 1000) (by omega) (by omega), ← ev, e64 (by omega) (by omega)]
            exact tail _ n (by omega) (by omega) e.symm en
          · have m := mul_r z0 z1 (show 0 ≤ -K (B (i - 1)) (B i) by omega) (show -K (B (i - 1)) (B i) ≤ 500 by omega)
            have td := td_r (m := 50000) m.1 (by omega)
            have ea : abs_ (K (B (i - 1)) (B i)) = -K (B (i - 1)) (B i) := by unfold abs_; rw [if_neg hk, e32 (by omega) (by omega)]; omega
            have ev : shrW (Z i) (K (B (i - 1)) (B i)) = -Int.tdiv (Z i * -K (B (i - 1)) (B i)) 1000 := by unfold shrW; rw [if_neg hk]
            rw [if_neg hk, ea, e64 (x := Z i * -K (B (i - 1)) (B i)) (by omega) (by omega), e64 (x := Int.tdiv (Z i * -K (B (i - 1)) (B i)) 1000) (by omega) (by omega), show s - Int.tdiv (Z i * -K (B (i - 1)) (B i)) 1000 = s + shrW (Z i) (K (B (i - 1)) (B i)) by rw [ev]; omega, e64 (by omega) (by omega)]
            exact tail _ n (by omega) (by omega) e.symm en
        · have e : wKn K B Z a i s = s := by unfold wKn; rw [if_neg (fun z => h1 z.2)]
          rw [if_pos h1]
          exact tail s n (by omega) (by omega) e.symm en
      · have e : wKn K B Z a i s = s := by unfold wKn; rw [if_neg (fun z => ha z.1)]
        rw [if_pos (by omega)]
        exact tail s n (by omega) (by omega) e.symm en
    unfold m_X25_wide_j76
    by_cases hn : (@ite _ (wJn J B Z c i) (Classical.propDecidable _) (J (B i) (B (i + 1))) (-1)) < 0
    · have := mid _ rfl
      rw [if_pos hn] at this ⊢
      exact this
    · have := mid _ rfl
      rw [if_neg hn] at this ⊢
      exact this
  unfold m_X25_wide_l8
  rw [if_neg (by omega)]
  simp only [k5, k6]
  refine z_gd ⟨by decide, by omega, by omega⟩ (z_lt (z_gd ⟨by decide, by omega, by omega⟩ (z_lt ?_)))
  rw [eB, eZ, e32 (x := t + i + 1) (by omega) (by omega), show t + i + 1 = t + (i + 1) by omega]
  unfold m_X25_wide_j75
  by_cases h1 : i + 1 < c
  · obtain ⟨b2, b3, z2, z3⟩ := T (i + 1) (by omega) (by omega)
    obtain ⟨eB', eZ'⟩ := hB (i + 1) (by omega) (by omega)
    rw [if_neg (by omega)]
    refine z_gd ⟨by decide, by omega, by omega⟩ ?_
    rw [eZ']
    by_cases h2 : Z (i + 1) = Z i
    · rw [if_neg (fun z => z h2)]
      simp only [eg, k0.1]
      refine z_gd ⟨by decide, by omega, by omega⟩ (z_gd trivial ?_)
      rw [eB', (F.2 (B i) (B (i + 1)) b0 b1 b2 b3).2, Option.bind_some]
      have jr := R.2 (B i) (B (i + 1)) b0 b1 b2 b3
      by_cases h3 : 0 ≤ J (B i) (B (i + 1))
      · rw [if_pos ⟨h1, h2, h3⟩] at fin
        exact fin
      · rw [if_neg (fun z => h3 z.2.2)] at fin
        rw [show J (B i) (B (i + 1)) = -1 by omega]
        exact fin
    · rw [if_neg (fun z => h2 z.2.1)] at fin
      rw [if_pos h2]
      exact fin
  · rw [if_neg (fun z => h1 z.1)] at fin
    rw [if_pos (by omega)]
    exact fin
theorem t_wide {h : Hp} {g l t a c : Int} {W : Int → Int} {K J : Int → Int → Int} {B Z : Int → Int} (hL : LAY h) (hg : g ∈ in_aX25) (hl : l ∈ in_aX19) (eg : h g 2 = l) (R : foR W K J) (F : foT h l W K J) (T : txO B Z a c)
    (t0 : 0 ≤ t + a) (t1 : t + c ≤ 24000) (ac : a ≤ c) (hB : ∀ i, a ≤ i → i < c → h (g + 50) (t + i) = B i ∧ h (g + 51) (t + i) = Z i) :
    m_X25_wide g (t + a) (t + c) h = some (wdS W K J B Z a c) ∧ 0 ≤ wdS W K J B Z a c ∧ wdS W K J B Z a c ≤ 550000 * (c - a) := by
  obtain ⟨e, r0, r1⟩ := wd_loop (F := fun (q : Int × Int × Int) => m_X25_wide_l8 g (t + a) (t + c) q.1 q.2.1 q.2.2 h) R T (fun i s q => q.1 = s ∧ q.2.2 = t + i ∧ (a < i → q.2.1 = B (i - 1))) (by omega) (fun i s q ai ic s0 s1 hq => by
      obtain ⟨q1, q2, q3⟩ := hq
      refine ⟨(wSm W K J B Z a c i s, B (wNx J B Z c i - 1), t + wNx J B Z c i), ?_, rfl, rfl, fun _ => rfl⟩
      rw [q1, q2]
      exact e_w25 hL hg hl eg R F T t0 t1 hB ai ic q3 s0 s1) (fun s q hq => by
      show m_X25_wide_l8 g (t + a) (t + c) q.1 q.2.1 q.2.2 h = _
      unfold m_X25_wide_l8
      rw [hq.2.1, if_pos (Int.le_refl _), hq.1]) (c - a).toNat a 0 (0, -1, t + a) (Int.le_refl _) (by omega) ac (by omega) (by omega) ⟨rfl, rfl, fun z => absurd z (Int.lt_irrefl _)⟩
  have r2 : 0 ≤ wdS W K J B Z a c ∧ wdS W K J B Z a c ≤ 550000 * (c - a) := by unfold wdS; split <;> omega
  refine ⟨?_, r2⟩
  unfold m_X25_wide
  simp only [lt_e]
  rw [e, Option.bind_some]
  unfold wdS
  by_cases g' : wdG W K J B Z a c (c - a).toNat a 0 < 0
  · rw [if_pos g', if_neg (fun z => by rw [lc_ge] at z; omega)]
  · rw [if_neg g', if_pos (lc_ge.mpr (by omega))]
theorem RFr.fo {h : Hp} {f l : Int} (hL : LAY h) (hl : l ∈ in_aX19) (r : RFr h f l) : ∃ W K J, foR W K J ∧ foC h f W K J ∧ foT h l W K J := by
  have hl' := aX19 hl
  obtain ⟨nk, nj, r1, ⟨r2, r3, r4⟩, ⟨r5, r6, r7⟩, p1, p2⟩ := r
  have k0 := ly_X19 hL hl
  have X : ∀ {A O V n nn off lo hi : Int}, PR h h A O V n nn off lo hi → h O (-2) % 16 = 1 → n ≤ h O (-1) → 0 ≤ n → n ≤ 100000 → ∀ a b, 0 ≤ a → a < 128 → 0 ≤ b → b < 128 → ∃ k, m_X19_find O n (256 * a + b) h = some k ∧ ((0 ≤ k ∧ k < n ∧ h A (128 * a + b) = h V k + off ∧ lo ≤ h V k ∧ h V k ≤ hi) ∨ (k = -1 ∧ h A (128 * a + b) = nn)) := by
    intro A O V n nn off lo hi p kO lO n0 n1 a b a0 a1 b0 b1
    obtain ⟨k, e, hk⟩ := q_find (v := 256 * a + b) kO lO n0 n1
    refine ⟨k, e, ?_⟩
    rcases hk with ⟨q1, q2, q3⟩ | ⟨q1, q2⟩
    · exact Or.inl ⟨q1, q2, p.at q1 q2 a0 a1 b0 b1 q3⟩
    · exact Or.inr ⟨q1, p.2.2 a b a0 a1 b0 b1 q2⟩
  have XK := X p1 (by rw [k0.2.2.2.1.2.1]; decide) (by rw [k0.2.2.2.1.2.2]; exact r4) r3 (by omega)
  have XJ := X p2 (by rw [k0.2.2.2.2.2.1.2.1]; decide) (by rw [k0.2.2.2.2.2.1.2.2]; exact r7) r6 (by omega)
  refine ⟨h (f + 1), fun a b => if h (f + 3) (128 * a + b) = 1000 then 0 else h (f + 3) (128 * a + b), fun a b => h (f + 4) (128 * a + b) - 1, ⟨fun a a0 a1 => (r1 a a0 a1).2, fun a b a0 a1 b0 b1 => ?_⟩, ⟨fun a a0 a1 => rfl, fun a b a0 a1 b0 b1 => ⟨?_, by dsimp only; omega⟩⟩, fun a a0 a1 => (r1 a a0 a1).1.symm, fun a b a0 a1 b0 b1 => ⟨?_, ?_⟩⟩
  · obtain ⟨k, -, hk⟩ := XK a b a0 a1 b0 b1
    obtain ⟨j, -, hj⟩ := XJ a b a0 a1 b0 b1
    dsimp only
    split <;> omega
  · by_cases z : h (f + 3) (128 * a + b) = 1000
    · exact Or.inl ⟨z, if_pos z⟩
    · exact Or.inr ⟨z, (if_neg z).symm⟩
  · obtain ⟨k, e, hk⟩ := XK a b a0 a1 b0 b1
    unfold m_X19_kernOf
    simp only [k0.2.2.2.1, k0.2.2.2.2.1, r2]
    rw [e32 (x := 256 * a) (by omega) (by omega), e32 (x := 256 * a + b) (by omega) (by omega), e, Option.bind_some]
    rcases hk with ⟨q1, q2, q3, q4, q5⟩ | ⟨q1, q2⟩
    · rw [if_pos q1, gd_t ⟨by decide, q1, by omega⟩, if_neg (by omega), q3, Int.add_zero]
    · rw [if_neg (by omega), if_pos q2]
  · obtain ⟨k, e, hk⟩ := XJ a b a0 a1 b0 b1
    unfold m_X19_joinOf
    simp only [k0.2.2.2.2.2.1, k0.2.2.2.2.2.2.1, r5]
    rw [e32 (x := 256 * a) (by omega) (by omega), e32 (x := 256 * a + b) (by omega) (by omega), e, Option.bind_some]
    rcases hk with ⟨q1, q2, q3, q4, q5⟩ | ⟨q1, q2⟩
    · rw [if_pos q1, gd_t ⟨by decide, q1, by omega⟩, q3]; congr 1; omega
    · rw [if_neg (by omega), q2]; rfl
