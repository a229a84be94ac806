theorem scan_pure {B : Int → Int} {n i : Int} {p : Int → Bool} {F : Int → Option (Int ⊕ Int)} (hB : ∀ x, n ≤ x → p (B x) = false) (h0 : 0 ≤ i) (hin : i ≤ n) (hn : n ≤ 16384) (body : ∀ j, i ≤ j → j ≤ n → F j = if p (B j) = true then some (.inl (w32 (j + 1))) else some (.inr j)) : Pz (lp F i) (fun j => Sc B p i j ∧ j ≤ n) := by
  refine z_lp (I := fun j => i ≤ j ∧ j ≤ n ∧ ∀ x, i ≤ x → x < j → p (B x) = true) (μ := fun j => (n - j).toNat) ⟨by omega, hin, fun x h1 h2 => by omega⟩ ?_
  rintro j ⟨h1, h2, h3⟩
  rw [body j h1 h2]
  by_cases hc : p (B j) = true
  · rw [if_pos hc]
    have hjn : j < n := by
      rcases Int.lt_or_le j n with hh | hh
      · exact hh
      · rw [hB j hh] at hc; cases hc
    refine z_some ⟨⟨?_, ?_, ?_⟩, ?_⟩
    · rw [e32 (by omega) (by omega)]; omega
    · rw [e32 (by omega) (by omega)]; omega
    · rw [e32 (by omega) (by omega)]
      intro y y1 y2
      rcases Int.lt_or_eq_of_le (show y ≤ j by omega) with hy | hy
      · exact h3 y y1 hy
      · rw [hy]; exact hc
    · rw [e32 (by omega) (by omega)]; omega
  · rw [if_neg hc]
    exact z_some ⟨⟨h1, h3, bF hc⟩, h2⟩
theorem bt_end {h : Hp} {t n x : Int} {p : Int → Bool} (hp : p (-1) = false) (hx : n ≤ x) : p (Bt h t n x) = false := by rw [Bt_e hx]; exact hp
theorem sc_le {B : Int → Int} {p : Int → Bool} {i j n : Int} (a : Sc B p i j) (hB : ∀ x, n ≤ x → p (B x) = false) (hi : i ≤ n) : j ≤ n := by
  rcases Int.lt_or_le i j with hh | hh
  · have := a.2.1 (j - 1) (by omega) (by omega)
    rcases Int.lt_or_le (j - 1) n with h9 | h9
    · omega
    · rw [hB _ h9] at this; cases this
  · omega
theorem isSt_e {c : Int} : isSt c = (isPl c && decide (c ≠ 34)) := by
  unfold isSt isPl
  rw [← Bool.decide_and]
theorem c_string {h : Hp} {a t n i : Int} (x : TX h a t n) (hi : h a 2 = i) (h0 : 0 ≤ i) (hin : i < n) : Pz (m_X2_string a h) (fun h' => F2 (nxW a) h h' ∧ h' a 2 = sc (Bt h t n) isSt (i + 1) + 1 ∧ h' a 3 = (if Bt h t n (sc (Bt h t n) isSt (i + 1)) = 34 then 3 else 5) ∧ h' a 4 = h a 4 ∧ h' a 5 = i + 1 ∧ h' a 6 = sc (Bt h t n) isSt (i + 1) - i - 1 ∧ i + 1 ≤ sc (Bt h t n) isSt (i + 1) ∧ sc (Bt h t n) isSt (i + 1) ≤ n) := by
  have h6 := x.2.2.2.2.2
  have hne := x.2.2.2.2.1
  unfold m_X2_string
  refine z_lt ?_
  rw [hi, e32 (x := i + 1) (by omega) (by omega)]
  refine z_bind (z_mono (scan_pure (B := Bt h t n) (p := isSt) (fun y hy => bt_end (by decide) hy) (by omega) (by omega) h6 ?_) ?_)
  · intro j j1 j2
    unfold m_X2_string_l7
    rw [q_X2_byteAt x (by omega), Option.bind_some, q_X1_isPlain, Option.bind_some, Option.bind_some, isSt_e]
    generalize Bt h t n j = c
    by_cases c1 : isPl c = true
    · rw [if_neg (fun z => by rw [bI0.mp z] at c1; cases c1), c1, Bool.true_and]
      by_cases c2 : c = 34
      · rw [if_pos c2, if_neg (by rw [decide_eq_false (fun z => z c2)]; decide)]
      · rw [if_neg c2, if_pos (decide_eq_true c2)]
        rfl
    · rw [if_pos (bI0.mpr (bF c1)), bF c1, Bool.false_and, if_neg (by decide)]
  · rintro j ⟨hj, hjn⟩
    have es := sc_of hj
    have hj1 := hj.1
    rw [es]
    refine z_pt (z_pt ?_)
    rw [up_s, e32 (x := j - (i + 1)) (by omega) (by omega)]
    have fr : F2 (nxW a) h (up (up h a 5 (i + 1)) a 6 (j - (i + 1))) := (F2.refl.put ⟨rfl, by omega, by omega⟩).put ⟨rfl, by omega, by omega⟩
    have x2 : TX (up (up h a 5 (i + 1)) a 6 (j - (i + 1))) a t n := (x.put (by omega)).put (by omega)
    rw [q_X2_byteAt x2 (by omega), Option.bind_some, Bt_h (up_row hne), Bt_h (up_row hne), e32 (x := j + 1) (by omega) (by omega)]
    refine z_if (fun hc => ?_) (fun hc => ?_)
    · refine z_pt (z_pt (z_some ⟨(fr.put ⟨rfl, by omega, by omega⟩).put ⟨rfl, by omega, by omega⟩, up_s _ _ _ _, ?_, ?_, ?_, ?_, hj1, hjn⟩))
      · rw [up_i (by omega), up_s, if_neg hc]
      · rw [up_i (by omega), up_i (by omega), up_i (by omega), up_i (by omega)]
      · rw [up_i (by omega), up_i (by omega), up_i (by omega), up_s]
      · rw [up_i (by omega), up_i (by omega), up_s]; omega
    · have hc : Bt h t n j = 34 := Classical.not_not.mp hc
      refine z_pt (z_pt (z_some ⟨(fr.put ⟨rfl, by omega, by omega⟩).put ⟨rfl, by omega, by omega⟩, up_s _ _ _ _, ?_, ?_, ?_, ?_, hj1, hjn⟩))
      · rw [up_i (by omega), up_s, if_pos hc]
      · rw [up_i (by omega), up_i (by omega), up_i (by omega), up_i (by omega)]
      · rw [up_i (by omega), up_i (by omega), up_i (by omega), up_s]
      · rw [up_i (by omega), up_i (by omega), up_s]; omega
/-- the component's reader goes to the next sign -/
theorem c_next {h : Hp} {a t n i : Int} (x : TX h a t n) (hi : h a 2 = i) (h0 : 0 ≤ i) (hin : i ≤ n) : Pz (m_X2_next a h) (fun h' => F2 (nxW a) h h' ∧ AtC h' a (tk (Bt h t n) i)) := by
  have h6 := x.2.2.2.2.2
  have hne := x.2.2.2.2.1
  unfold m_X2_next
  refine z_bind (z_mono (scan_loop (f := 2) (i := i) (p := isBl) x (by omega) hi h0 (by omega) (by decide) ?_) ?_)
  · intro j j1 j2
    unfold m_X2_next_l0
    have xj := x.put (i := 2) (v := j) (by omega)
    rw [up_s, q_X2_byteAt xj (by omega), Option.bind_some, q_X1_isBlank, Option.bind_some, Bt_h (up_row hne)]
    by_cases c1 : isBl (Bt h t n j) = true
    · rw [if_neg (fun z => by rw [bI0.mp z] at c1; cases c1), if_pos c1]
      rfl
    · rw [if_pos (bI0.mpr (bF c1)), if_neg c1]
  · rintro q ⟨j, hj, -, rfl⟩
    have es := sc_of hj
    have hj1 := hj.1
    have hjn := sc_le hj (fun y hy => bt_end (by decide) hy) hin
    refine z_pt ?_
    rw [up_s]
    have fr : F2 (nxW a) h (up (up h a 2 j) a 4 j) := (F2.refl.put ⟨rfl, by omega, by omega⟩).put ⟨rfl, by omega, by omega⟩
    have x2 : TX (up (up h a 2 j) a 4 j) a t n := (x.put (by omega)).put (by omega)
    have e2 : up (up h a 2 j) a 4 j a 2 = j := by rw [up_i (by omega), up_s]
    have e4 : up (up h a 2 j) a 4 j a 4 = j := up_s _ _ _ _
    have hB : Bt (up (up h a 2 j) a 4 j) t n = Bt h t n := by rw [Bt_h (up_row hne), Bt_h (up_row hne)]
    rw [e2, q_X2_byteAt x2 (by omega), Option.bind_some, hB]
    unfold tk
    rw [es]
    refine z_if (fun c0 => ?_) (fun c0 => ?_)
    · have hjn2 : j < n := Bt_n c0
      rw [if_neg (show ¬ Bt h t n j < 0 by omega), q_X1_isSmall, Option.bind_some]
      refine z_if (fun c1 => ?_) (fun c1 => ?_)
      · have c1 := bI0.mp c1
        rw [c1, if_neg (show ¬ false = true by decide), q_X1_isDigit, Option.bind_some]
        refine z_if (fun c2 => ?_) (fun c2 => ?_)
        · have c2 := bI0.mp c2
          rw [c2, if_neg (show ¬ false = true by decide)]
          refine z_if (fun c3 => ?_) (fun c3 => ?_)
          · rw [if_neg c3, q_X1_isPlain, Option.bind_some]
            have key : ∀ k : Int, Pz (m_X2_next_j110 (Bt h t n j) a k (up (up h a 2 j) a 4 j)) (fun h' => F2 (nxW a) h h' ∧ (k = 4 ∨ k = 5 → AtC h' a (k, j, j + 1, Bt h t n j))) := by
              intro k
              unfold m_X2_next_j110
              refine z_pt (z_pt (z_pt (z_some ⟨((fr.put ⟨rfl, by omega, by omega⟩).put ⟨rfl, by omega, by omega⟩).put ⟨rfl, by omega, by omega⟩, fun hk => ⟨?_, ?_, ?_, fun z => ?_, fun z => ?_, fun _ => ?_⟩⟩)))
              · rw [up_i (by omega), up_i (by omega), up_s]
              · rw [up_i (by omega), up_i (by omega), up_i (by omega), up_s]
              · rw [up_s, up_i (by omega), up_i (by omega), e2, e32 (by omega) (by omega)]
              · have z : k = 1 := z
                omega
              · have z : k = 3 := z
                omega
              · rw [up_i (by omega), up_s]
            refine z_if (fun c4 => ?_) (fun c4 => ?_)
            · rw [bI0.mp c4, if_neg (show ¬ false = true by decide)]
              exact z_mono (key 5) (fun h' hh => ⟨hh.1, hh.2 (Or.inr rfl)⟩)
            · rw [bI1.mp c4, if_pos rfl]
              exact z_mono (key 4) (fun h' hh => ⟨hh.1, hh.2 (Or.inl rfl)⟩)
          · have c3 : Bt h t n j = 34 := Classical.not_not.mp c3
            rw [if_pos c3]
            refine z_bind (z_mono (c_string x2 e2 (by omega) hjn2) (fun h' hh => z_some ?_))
            rw [hB] at hh
            obtain ⟨g1, g2, g3, g4, g5, g6, g7, g8⟩ := hh
            refine ⟨fr.trans g1, g3, g4.trans e4, g2, fun z => ?_, fun z => ⟨g5, ?_⟩, fun z => ?_⟩
            · have z : (if Bt h t n (sc (Bt h t n) isSt (j + 1)) = 34 then (3 : Int) else 5) = 1 := z
              split at z <;> omega
            · rw [g6]; show _ = sc (Bt h t n) isSt (j + 1) + 1 - j - 2; omega
            · have z : (if Bt h t n (sc (Bt h t n) isSt (j + 1)) = 34 then (3 : Int) else 5) = 2 ∨ (if Bt h t n (sc (Bt h t n) isSt (j + 1)) = 34 then (3 : Int) else 5) = 4 := z
              split at z <;> omega
        · have c2 := bI1.mp c2
          rw [if_pos c2]
          refine z_bind (z_mono (c_number x2 e2 (by omega) (by omega)) (fun h' hh => z_some ?_))
          rw [hB] at hh
          obtain ⟨g1, g2, g3, g4, g5, g6, g7⟩ := hh
          refine ⟨fr.trans g1, g3, g4.trans e4, g2, fun z => ?_, fun z => ?_, fun z => g5⟩
          · have z : (if sc (Bt h t n) isDg j - j ≤ 7 then (2 : Int) else 5) = 1 := z
            split at z <;> omega
          · have z : (if sc (Bt h t n) isDg j - j ≤ 7 then (2 : Int) else 5) = 3 := z
            split at z <;> omega
      · have c1 := bI1.mp c1
        rw [if_pos c1]
        refine z_bind (z_mono (c_name x2 e2 (by omega) (by omega)) (fun h' hh => z_some ?_))
        rw [hB] at hh
        obtain ⟨g1, g2, g3, g4, g5, g6, g7, g8⟩ := hh
        refine ⟨fr.trans g1, g3, g4.trans e4, g2, fun z => ⟨g5, g6⟩, fun z => ?_, fun z => ?_⟩
        · have z : (if sc (Bt h t n) isNm j - j ≤ 12 then (1 : Int) else 5) = 3 := z
          split at z <;> omega
        · have z : (if sc (Bt h t n) isNm j - j ≤ 12 then (1 : Int) else 5) = 2 ∨ (if sc (Bt h t n) isNm j - j ≤ 12 then (1 : Int) else 5) = 4 := z
          split at z <;> omega
    · rw [if_pos (by omega)]
      refine z_pt (z_some ⟨fr.put ⟨rfl, by omega, by omega⟩, up_s _ _ _ _, ?_, ?_, fun z => ?_, fun z => ?_, fun z => ?_⟩)
      · rw [up_i (by omega)]; exact e4
      · rw [up_i (by omega)]; exact e2
      · exact absurd z (show ¬ (0 : Int) = 1 by decide)
      · exact absurd z (show ¬ (0 : Int) = 3 by decide)
      · rcases z with z | z
        · exact absurd z (show ¬ (0 : Int) = 2 by decide)
        · exact absurd z (show ¬ (0 : Int) = 4 by decide)
