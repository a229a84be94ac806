-- needs: 99zzzzzs
set_option maxRecDepth 100000
/-! TABLES: a table ends (component) -/
/-- widths and lefts of columns -/
def tbF (C : List (Int × Int × Int)) (w c : Int) : Int := shF (shN C) w (shL C) (shQ C) c
def tbLf (C : List (Int × Int × Int)) (w lf c : Int) : Int := lf + sm0 (tbF C w) c.toNat
def tbWd (C : List (Int × Int × Int)) (w c : Int) : Int := max_ 1000 (tbF C w c)
theorem SHc.o {h : Hp} {C : List (Int × Int × Int)} {w : Int} (H : SHc h C) (n1 : 1 ≤ shN C) (w0 : 1000 ≤ w) (w1 : w ≤ 1000000) : shO (shN C) w (shL C) (shQ C) :=
  ⟨n1, H.2.2.1, w0, w1, fun c _ _ => ⟨(H.2.2.2.2.2 c).1.1, (H.2.2.2.2.2 c).2.1, (H.2.2.2.2.2 c).2.2, (H.2.2.2.2.2 c).1.2⟩⟩
theorem tbF_r {h : Hp} {C : List (Int × Int × Int)} {w c : Int} (H : SHc h C) (w0 : 1000 ≤ w) (w1 : w ≤ 1000000) (c0 : 0 ≤ c) (c1 : c < shN C) : 0 ≤ tbF C w c ∧ tbF C w c ≤ w + 9 := by
  have r := shB_r (H.o (by omega) w0 w1) c0 c1
  unfold tbF shF
  split <;> omega
theorem tbS_r {h : Hp} {C : List (Int × Int × Int)} {w : Int} (H : SHc h C) (w0 : 1000 ≤ w) (w1 : w ≤ 1000000) (c : Nat) (c1 : (c : Int) ≤ shN C) : 0 ≤ sm0 (tbF C w) c ∧ sm0 (tbF C w) c ≤ 1000009 * c := by
  have r := sm0_r (f := tbF C w) (lo := 0) (hi := 1000009) c (fun x x0 x1 => by have := tbF_r (c := x) H w0 w1 x0 (by omega); omega)
  omega
def ewB (b : Int) : Int → Int → Prop := fun q j => ((q = 278 ∨ q = 282) ∧ 0 ≤ j) ∨ (q = b + 25 ∧ 0 ≤ j)
theorem share13 {h : Hp} {C : List (Int × Int × Int)} {w : Int} (hL : LAY h) (H : SHc h C) (w0 : 1000 ≤ w) (w1 : w ≤ 1000000) : Pz (m_X13_share 275 w h) (fun g => F2 (fun q j => q = 278 ∧ 0 ≤ j) h g ∧ ∀ c, 0 ≤ c → c < shN C → g 278 c = tbF C w c) := by
  by_cases hn : shN C = 0
  · unfold m_X13_share
    rw [H.1, hn, if_neg (fun z => z rfl)]
    exact z_some ⟨F2.refl, fun c c0 c1 => by omega⟩
  · have := H.2.1
    exact z_mono (c_share13 hL H.1 (H.o (by omega) w0 w1) H.2.2.2.1) (fun g hg => ⟨hg.1.mono (fun q j z => ⟨z.1, z.2.1⟩), hg.2⟩)
theorem rgE {b : Int} (hb : b ∈ in_aX14) : ([(278, 278), (282, 282), (b + 25, b + 25)] : List (Int × Int)).all rgA = true := by
  rcases aX14' hb with rfl | rfl | rfl <;> decide +kernel
theorem ewB_l {h h' : Hp} {b : Int} (hL : LAY h) (hb : b ∈ in_aX14) (f : F2 (fun q j => ewB b q j ∨ (983 ≤ q ∧ (j = 4 ∨ j = 5))) h h') : LAY h' :=
  lay_X hL f _ [] (rgE hb) rfl (fun q j z => by
    unfold ewB at z
    rcases z with (z | z) | z
    · rcases z.1 with w | w
      · exact Or.inr ⟨z.2, Or.inl ⟨(278, 278), by simp, by dsimp only; omega, by dsimp only; omega⟩⟩
      · exact Or.inr ⟨z.2, Or.inl ⟨(282, 282), by simp, by dsimp only; omega, by dsimp only; omega⟩⟩
    · exact Or.inr ⟨z.2, Or.inl ⟨(b + 25, b + 25), by simp, by dsimp only; omega, by dsimp only; omega⟩⟩
    · exact Or.inl z.1)
theorem c_endTable {S Y V Q h T : Hp} {b a sa ya E M f y np t lf TR nR : Int} {W : Int → Int} {K J : Int → Int → Int} {sg : Int → List Int} {dt : Int → Int → Int} {C : List (Int × Int × Int)} {TC : List (Int × Int)} (X : EV S Y V Q h b a sa ya E M f y W K J T np sg dt) (Bl : GBl h b (blS S V t)) (t1 : t < E) (Sh : SHc h C) (Tc : TCc h b TC) (elf : lf = anF S V 4 t)
    (tc : ∀ z ∈ TC, 0 ≤ z.1 ∧ z.1 < shN C ∧ 0 ≤ z.2 ∧ z.2 < 1200 ∧ 983 ≤ h (b + 16) z.2 ∧ h (h (b + 16) z.2) (-2) = 288) (nd : ∀ i j : Nat, i < j → j < TC.length → h (b + 16) (TC[i]?.getD (0, 0)).2 ≠ h (b + 16) (TC[j]?.getD (0, 0)).2) (hT : (TC.length : Int) ≤ 500) (e49 : h b 49 = TR) (T0 : 0 ≤ TR) (e23 : h b 23 = nR) (n5 : nR ≤ 500) (Tn : TR ≤ nR) :
    Pz (m_X14_endTable b h) (fun h' => F2 (fun q j => ewB b q j ∨ (983 ≤ q ∧ (j = 4 ∨ j = 5))) h h' ∧ (∀ z ∈ TC, h' (h (b + 16) z.2) 5 = tbLf C (wdF S V lf t) lf z.1 ∧ h' (h (b + 16) z.2) 4 = tbWd C (wdF S V lf t) z.1) ∧ (∀ A, 983 ≤ A → (∀ z ∈ TC, A ≠ h (b + 16) z.2) → h' A = h A) ∧ (∀ i, TR ≤ i → i < nR → h' (b + 25) i = lf) ∧ ∀ i, i < TR → h' (b + 25) i = h (b + 25) i) := by
  have hb := X.2.1
  have hL := X.1.lay.1
  have hb' := rX14 hb
  have T' := X.1.tb
  have g2 := Bl.2.1
  unfold m_X14_endTable
  refine z_bind (z_mono (c_inset X.1 hb X.2.2.1 Bl (fun z hz => by have := blS_mem T'.1 (t.toNat + 1) t (by omega) t1 z hz; omega) (by decide) (by decide)) (fun v hv => ?_))
  obtain ⟨v1, v2, v3⟩ := hv
  rw [blS_sum T'.1 (t.toNat + 1) t (by omega) t1, ← elf] at v1
  have v1' := v1.symm
  subst v1'
  have b0 : h b 0 = 256 := (ly_X14 hL hb).2.1.1
  rw [b0, g_X10 hL, (g_X10_5 hL).1]
  refine z_gd rfl (z_lt (z_bind (z_mono (c_full X.1 hb X.2.2.1 Bl t1 v2 (by omega)) (fun w hw => ?_))))
  obtain ⟨w1, w2, w3⟩ := hw
  rw [← w1]
  clear w1
  refine z_gd (g_X10_5 hL).2.1 (z_bind (z_mono (share13 hL Sh w2 w3) (fun ga hg => ?_)))
  obtain ⟨Fa, Ga⟩ := hg
  have toE : ∀ g, F2 (fun q j => q = 278 ∧ 0 ≤ j) h g → F2 (fun q j => ewB b q j ∨ (983 ≤ q ∧ (j = 4 ∨ j = 5))) h g := fun g F => F.mono (fun q j z => Or.inl (Or.inl ⟨Or.inl z.1, z.2⟩))
  have La := ewB_l hL hb (toE _ Fa)
  have ba0 : ga b 0 = 256 := (ly_X14 La hb).2.1.1
  obtain ⟨d1, d2, d3⟩ := g_X10_9 La
  simp only [ba0, g_X10 La, d1, d2, d3]
  refine z_gd trivial (z_gd ⟨by decide, by decide, by decide⟩ (z_pt (z_lt ?_)))
  -- lefts of columns
  refine z_bind (z_mono (z_lp (Q := fun g => F2 (fun q j => (q = 278 ∨ q = 282) ∧ 0 ≤ j) h g ∧ (∀ c, 0 ≤ c → c < shN C → g 278 c = tbF C w c) ∧ ∀ c : Nat, (c : Int) ≤ shN C → g 282 c = lf + sm0 (tbF C w) c) (fun (q : Int × Hp) => ∃ k : Nat, q.1 = k ∧ (k : Int) ≤ shN C ∧ F2 (fun q j => (q = 278 ∨ q = 282) ∧ 0 ≤ j) h q.2 ∧ (∀ c, 0 ≤ c → c < shN C → q.2 278 c = tbF C w c) ∧ ∀ c : Nat, c ≤ k → q.2 282 c = lf + sm0 (tbF C w) c) (fun q => (shN C - q.1).toNat) ⟨0, rfl, by have := Sh.2.1; omega, (Fa.mono (fun q j z => ⟨Or.inl z.1, z.2⟩)).put ⟨Or.inr rfl, by decide⟩, fun c c0 c1 => by dsimp only; rw [up_a (by decide)]; exact Ga c c0 c1, fun c hc => ?_⟩ ?_) (fun g1 hg1 => ?_))
  · have : c = 0 := by omega
    subst this
    show up ga 282 0 lf 282 0 = lf + 0
    rw [up_s]; omega
  · rintro ⟨i, g⟩ ⟨k, ei, k1, Fg, G1, G2⟩
    dsimp only at ei G1 G2
    replace Fg : F2 (fun q j => (q = 278 ∨ q = 282) ∧ 0 ≤ j) h g := Fg
    have Lg := ewB_l hL hb (Fg.mono (fun q j z => Or.inl (Or.inl z)))
    show Pz (m_X14_endTable_l35 b 275 i g) _
    unfold m_X14_endTable_l35
    have e3 : g 275 3 = shN C := by rw [Fg _ _ (by omega)]; exact Sh.1
    rw [e3, ei]
    by_cases hk : shN C ≤ (k : Int)
    · rw [if_pos hk]
      exact z_some ⟨Fg, G1, fun c hc => G2 c (by omega)⟩
    rw [if_neg hk]
    have bb : g b 0 = 256 := (ly_X14 Lg hb).2.1.1
    obtain ⟨d1, d2, d3⟩ := g_X10_9 Lg
    obtain ⟨-, -, -, ⟨m7, m8, m9⟩⟩ := ly_X13 Lg
    have n8 := Sh.2.2.1
    have tr := tbF_r (c := k) Sh w2 w3 (by omega) (by omega)
    have sr := tbS_r Sh w2 w3 k (by omega)
    simp only [bb, g_X10 Lg, d1, d2, d3, m7, m8, m9]
    rw [e32 (x := (k : Int) + 1) (by omega) (by omega), G1 k (by omega) (by omega), G2 k (Nat.le_refl _), e32 (x := lf + sm0 (tbF C w) k + tbF C w k) (by omega) (by omega)]
    refine z_gd trivial (z_gd ⟨by decide, by omega, by omega⟩ (z_gd ⟨by decide, by omega, by omega⟩ (z_gd ⟨by decide, by omega, by omega⟩ (z_pt (z_lt (z_some ⟨⟨k + 1, by show (k : Int) + 1 = ((k + 1 : Nat) : Int); omega, by omega, Fg.put ⟨Or.inr rfl, by omega⟩, fun c c0 c1 => by dsimp only; rw [up_a (by decide)]; exact G1 c c0 c1, fun c hc => ?_⟩, by show (shN C - ((k : Int) + 1)).toNat < (shN C - (k : Int)).toNat; omega⟩))))))
    dsimp only
    by_cases hcc : c = k + 1
    · rw [hcc, up_e rfl (by omega)]
      show lf + sm0 (tbF C w) k + tbF C w k = lf + (sm0 (tbF C w) k + tbF C w k)
      omega
    · rw [up_j (by omega)]; exact G2 c (by omega)
  · obtain ⟨F1, G1, G2⟩ := hg1
    -- cells
    refine z_lt (z_bind (z_mono (z_lp (Q := fun g => F2 (fun q j => ((q = 278 ∨ q = 282) ∧ 0 ≤ j) ∨ (983 ≤ q ∧ (j = 4 ∨ j = 5))) h g ∧ (∀ z ∈ TC, g (h (b + 16) z.2) 5 = tbLf C w lf z.1 ∧ g (h (b + 16) z.2) 4 = tbWd C w z.1) ∧ (∀ A, 983 ≤ A → (∀ z ∈ TC, A ≠ h (b + 16) z.2) → g A = h A)) (fun (q : Int × Hp) => ∃ k : Nat, q.1 = k ∧ k ≤ TC.length ∧ F2 (fun q j => ((q = 278 ∨ q = 282) ∧ 0 ≤ j) ∨ (983 ≤ q ∧ (j = 4 ∨ j = 5))) h q.2 ∧ ((∀ c, 0 ≤ c → c < shN C → q.2 278 c = tbF C w c) ∧ ∀ c : Nat, (c : Int) ≤ shN C → q.2 282 c = lf + sm0 (tbF C w) c) ∧ (∀ i : Nat, i < k → q.2 (h (b + 16) (TC[i]?.getD (0, 0)).2) 5 = tbLf C w lf (TC[i]?.getD (0, 0)).1 ∧ q.2 (h (b + 16) (TC[i]?.getD (0, 0)).2) 4 = tbWd C w (TC[i]?.getD (0, 0)).1) ∧ (∀ A, 983 ≤ A → (∀ i : Nat, i < k → A ≠ h (b + 16) (TC[i]?.getD (0, 0)).2) → q.2 A = h A)) (fun q => ((TC.length : Int) - q.1).toNat) ⟨0, rfl, Nat.zero_le _, F1.mono (fun q j z => Or.inl z), ⟨G1, G2⟩, fun i hi => by omega, fun A hA _ => F1.row (fun j z => by omega)⟩ ?_) (fun g2 hg2 => ?_)))
    · rintro ⟨i, g⟩ ⟨k, ei, k1, Fg, ⟨H1, H2⟩, H3, H4⟩
      dsimp only at ei H1 H2 H3 H4
      replace Fg : F2 (fun q j => ((q = 278 ∨ q = 282) ∧ 0 ≤ j) ∨ (983 ≤ q ∧ (j = 4 ∨ j = 5))) h g := Fg
      have Lg := ewB_l hL hb (Fg.mono (fun q j z => by rcases z with z | z; exact Or.inl (Or.inl z); exact Or.inr z))
      show Pz (m_X14_endTable_l78 b 275 i g) _
      unfold m_X14_endTable_l78
      have e48 : g b 48 = TC.length := by rw [Fg _ _ (by omega)]; exact Tc.1
      rw [e48, ei]
      by_cases hk : (TC.length : Int) ≤ k
      · rw [if_pos hk]
        have hkk : k = TC.length := by omega
        refine z_some ⟨Fg, fun z hz => ?_, fun A hA hz => H4 A hA (fun i hi => hz _ ?_)⟩
        · obtain ⟨i, hi, rfl⟩ := List.getElem_of_mem hz
          have := H3 i (by omega)
          rw [List.getElem?_eq_getElem hi] at this
          exact this
        · rw [List.getElem?_eq_getElem (by omega)]; exact List.getElem_mem _
      rw [if_neg hk]
      have zm : (TC[k]?.getD (0, 0)) ∈ TC := by rw [List.getElem?_eq_getElem (by omega)]; exact List.getElem_mem _
      obtain ⟨z0, z1, z2, z3, z4, z5⟩ := tc _ zm
      have bb : g b 0 = 256 := (ly_X14 Lg hb).2.1.1
      obtain ⟨d1, d2, d3⟩ := g_X10_8 Lg
      obtain ⟨d4, d5, d6⟩ := g_X10_7 Lg
      obtain ⟨d7, d8, d9⟩ := g_X10_9 Lg
      obtain ⟨p1, p2, p3⟩ := g_X14_10 Lg hb
      obtain ⟨-, -, -, ⟨m7, m8, m9⟩⟩ := ly_X13 Lg
      have n8 := Sh.2.2.1
      have g280 : g 280 k = (TC[k]?.getD (0, 0)).2 := by rw [Fg _ _ (by omega)]; exact (Tc.2 k (by omega)).1
      have g281 : g 281 k = (TC[k]?.getD (0, 0)).1 := by rw [Fg _ _ (by omega)]; exact (Tc.2 k (by omega)).2
      generalize ezk : TC[k]?.getD (0, 0) = z at *
      have gA : g (b + 16) z.2 = h (b + 16) z.2 := Fg _ _ (by omega)
      have gk : g (h (b + 16) z.2) (-2) = 288 := by rw [Fg _ _ (by omega)]; exact z5
      simp only [bb, g_X10 Lg, d1, d2, d3, d4, d5, d6, d7, d8, d9, p1, p2, p3, g280, g281, gA, gk]
      have hcz : ((z.1.toNat : Nat) : Int) = z.1 := by omega
      have h282 := H2 z.1.toNat (by omega)
      rw [hcz] at h282
      refine z_gd trivial (z_gd ⟨by decide, by omega, by omega⟩ (z_lt (z_gd ⟨by decide, by omega, by omega⟩ (z_gd ⟨by decide, z2, z3⟩ (z_lt (z_gd ⟨by decide, by omega, by omega⟩ (z_gd gk (z_pt ?_))))))))
      rw [h282]
      simp (disch := omega) only [up_a, m7, m8, m9, H1 z.1 z0 z1]
      refine z_gd ⟨by decide, z0, by omega⟩ ?_
      have fin : ∀ (Qx : Hp → Prop) v, v = tbWd C w z.1 → Pz (m_X14_endTable_j156 (h (b + 16) z.2) k v (up g (h (b + 16) z.2) 5 (lf + sm0 (tbF C w) z.1.toNat))) (sE (fun (q : Int × Hp) => (∃ k : Nat, q.1 = k ∧ k ≤ TC.length ∧ F2 (fun q j => ((q = 278 ∨ q = 282) ∧ 0 ≤ j) ∨ (983 ≤ q ∧ (j = 4 ∨ j = 5))) h q.2 ∧ ((∀ c, 0 ≤ c → c < shN C → q.2 278 c = tbF C w c) ∧ ∀ c : Nat, (c : Int) ≤ shN C → q.2 282 c = lf + sm0 (tbF C w) c) ∧ (∀ i : Nat, i < k → q.2 (h (b + 16) (TC[i]?.getD (0, 0)).2) 5 = tbLf C w lf (TC[i]?.getD (0, 0)).1 ∧ q.2 (h (b + 16) (TC[i]?.getD (0, 0)).2) 4 = tbWd C w (TC[i]?.getD (0, 0)).1) ∧ (∀ A, 983 ≤ A → (∀ i : Nat, i < k → A ≠ h (b + 16) (TC[i]?.getD (0, 0)).2) → q.2 A = h A)) ∧ ((TC.length : Int) - q.1).toNat < ((TC.length : Int) - k).toNat) Qx) := fun Qx v hv => by
        unfold m_X14_endTable_j156
        rw [e32 (x := (k : Int) + 1) (by omega) (by omega)]
        have F' : F2 (fun q j => ((q = 278 ∨ q = 282) ∧ 0 ≤ j) ∨ (983 ≤ q ∧ (j = 4 ∨ j = 5))) h (up (up g (h (b + 16) z.2) 5 (lf + sm0 (tbF C w) z.1.toNat)) (h (b + 16) z.2) 4 v) := (Fg.put (Or.inr ⟨z4, Or.inr rfl⟩)).put (Or.inr ⟨z4, Or.inl rfl⟩)
        have o : ∀ q, q ≠ h (b + 16) z.2 → up (up g (h (b + 16) z.2) 5 (lf + sm0 (tbF C w) z.1.toNat)) (h (b + 16) z.2) 4 v q = g q := fun q hq => by rw [up_row hq, up_row hq]
        have o5 : up (up g (h (b + 16) z.2) 5 (lf + sm0 (tbF C w) z.1.toNat)) (h (b + 16) z.2) 4 v (h (b + 16) z.2) 5 = lf + sm0 (tbF C w) z.1.toNat := by rw [up_j (by decide), up_s]
        have o4 : up (up g (h (b + 16) z.2) 5 (lf + sm0 (tbF C w) z.1.toNat)) (h (b + 16) z.2) 4 v (h (b + 16) z.2) 4 = v := up_s _ _ _ _
        refine z_pt (z_lt (z_some ⟨⟨k + 1, by show (k : Int) + 1 = ((k + 1 : Nat) : Int); omega, by omega, F', ⟨fun c c0 c1 => by dsimp only; rw [o 278 (by omega)]; exact H1 c c0 c1, fun c hc => by dsimp only; rw [o 282 (by omega)]; exact H2 c hc⟩, fun i hi => ?_, fun A hA hA2 => ?_⟩, by show ((TC.length : Int) - ((k : Int) + 1)).toNat < ((TC.length : Int) - (k : Int)).toNat; omega⟩))
        · dsimp only
          by_cases hik : i = k
          · rw [hik, ezk, o5, o4, hv]; exact ⟨rfl, rfl⟩
          · have nn := nd i k (by omega) (by omega)
            rw [ezk] at nn
            rw [o _ nn]; exact H3 i (by omega)
        · dsimp only
          have hAk := hA2 k (by omega)
          rw [ezk] at hAk
          rw [o A hAk]; exact H4 A hA (fun i hi => hA2 i (by omega))
      have er : tbWd C w z.1 = (if 1000 < tbF C w z.1 then tbF C w z.1 else 1000) := rfl
      by_cases h1 : 1000 ≤ tbF C w z.1
      · rw [if_pos h1]
        exact fin _ _ (by rw [er]; split <;> omega)
      · rw [if_neg h1]
        exact fin _ _ (by rw [er, if_neg (by omega)])
    · obtain ⟨Fb, Hb1, Hb2⟩ := hg2
      have e49' : g2 b 49 = TR := by rw [Fb _ _ (by omega)]; exact e49
      rw [e49']
      refine z_lt (z_bind (z_mono (z_lp (Q := fun g => F2 (fun q j => q = b + 25 ∧ 0 ≤ j) g2 g ∧ (∀ i, TR ≤ i → i < nR → g (b + 25) i = lf) ∧ ∀ i, i < TR → g (b + 25) i = h (b + 25) i) (fun (q : Int × Hp) => TR ≤ q.1 ∧ q.1 ≤ nR ∧ F2 (fun q j => q = b + 25 ∧ 0 ≤ j) g2 q.2 ∧ (∀ i, TR ≤ i → i < q.1 → q.2 (b + 25) i = lf) ∧ ∀ i, i < TR → q.2 (b + 25) i = h (b + 25) i) (fun q => (nR - q.1).toNat) ⟨Int.le_refl _, Tn, F2.refl, fun i i0 i1 => by dsimp only at i1; omega, fun i hi => Fb _ _ (by omega)⟩ ?_) (fun g3 hg3 => z_some ?_)))
      · rintro ⟨i, g⟩ ⟨i0, i1, Fg, I1, I2⟩
        dsimp only at i0 i1 I1 I2
        replace Fg : F2 (fun q j => q = b + 25 ∧ 0 ≤ j) g2 g := Fg
        have Lg : LAY g := ewB_l hL hb (F2.trans (Fb.mono (fun q j z => by rcases z with z | z; exact Or.inl (Or.inl z); exact Or.inr z)) (Fg.mono (fun q j z => Or.inl (Or.inr z))))
        show Pz (m_X14_endTable_l170 b lf i g) _
        unfold m_X14_endTable_l170
        obtain ⟨p1, p2, p3⟩ := g_X14_21 Lg hb
        have g23 : g b 23 = nR := by rw [Fg _ _ (by omega), Fb _ _ (by omega)]; exact e23
        simp only [g23, p1, p2, p3]
        by_cases hi : nR ≤ i
        · rw [if_pos hi]
          exact z_some ⟨Fg, fun j j0 j1 => I1 j j0 (by omega), I2⟩
        rw [if_neg hi, e32 (x := i + 1) (by omega) (by omega)]
        refine z_gd ⟨by decide, by omega, by omega⟩ (z_pt (z_lt (z_some ⟨⟨show TR ≤ i + 1 by omega, show i + 1 ≤ nR by omega, Fg.put ⟨rfl, by omega⟩, fun j j0 j1 => ?_, fun j hj => ?_⟩, by show (nR - (i + 1)).toNat < (nR - i).toNat; omega⟩)))
        · dsimp only at j1 ⊢
          by_cases hj : j = i
          · rw [hj, up_s]
          · rw [up_j hj]; exact I1 j j0 (by omega)
        · dsimp only; rw [up_j (by omega)]; exact I2 j hj
      · obtain ⟨Fc, Hc1, Hc2⟩ := hg3
        have r3 : ∀ q, 983 ≤ q → g3 q = g2 q := fun q hq => Fc.row (fun j z => by omega)
        refine ⟨F2.trans (Fb.mono (fun q j z => by rcases z with z | z; exact Or.inl (Or.inl z); exact Or.inr z)) (Fc.mono (fun q j z => Or.inl (Or.inr z))), fun z hz => ?_, fun A hA hz => ?_, Hc1, Hc2⟩
        · rw [r3 _ (tc z hz).2.2.2.2.1]; exact Hb1 z hz
        · rw [r3 A hA]; exact Hb2 A hA hz
