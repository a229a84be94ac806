/-! the reference's reader -/
def kT (k : Int) : Int := if k = 0 then 5 else if k = 5 then 4 else k
/-- the reference's reader a stands at the sign q -/
def AtT (h : Hp) (a : Int) (q : Int × Int × Int × Int) : Prop :=
  h a 3 = kT q.1 ∧ h a 4 = q.2.1 ∧ h a 5 = q.2.2.1 ∧ h a 2 = q.2.2.1 ∧ (q.1 = 2 → h a 6 = q.2.2.2) ∧ (q.1 = 4 → h a 7 = q.2.2.2) ∧ (q.1 = 5 → isPl (h a 7) = false)
theorem t_next {h : Hp} {a t n i : Int} (x : TX h a t n) (hi : h a 2 = i) (h0 : 0 ≤ i) (hin : i ≤ n) : Pz (m_X20_next a h) (fun h' => F2 (nxW a) h h' ∧ AtT h' a (tk (Bt h t n) i)) := by
  have h6 := x.2.2.2.2.2
  have hne := x.2.2.2.2.1
  unfold m_X20_next
  refine z_bind (z_mono (scan_loop (f := 2) (i := i) (p := isBl) x (by omega) hi h0 (by omega) (by decide) ?_) ?_)
  · intro j j1 j2
    unfold m_X20_next_l0
    have xj := x.put (i := 2) (v := j) (by omega)
    rw [up_s, xj.2.1]
    by_cases c0 : n ≤ j
    · rw [if_pos c0, if_neg (by rw [Bt_e c0]; decide)]
    · rw [if_neg c0, q_X20_byteAt xj (by omega), Option.bind_some, q_X18_isBlank, Option.bind_some, Bt_h (up_row hne)]
      by_cases c1 : isBl (Bt h t n j) = true
      · rw [if_neg (fun z => by rw [bI0.mp z] at c1; cases c1), if_pos c1]
        rfl
      · rw [if_pos (bI0.mpr (bF c1)), if_neg c1]
  · rintro q ⟨j, hj, -, rfl⟩
    have es := sc_of hj
    have hj1 := hj.1
    have hjn := sc_le hj (fun y hy => bt_end (by decide) hy) hin
    refine z_pt (z_pt ?_)
    have w2 : up h a 2 j a 2 = j := up_s _ _ _ _
    have w3 : up (up h a 2 j) a 4 j a 2 = j := by rw [up_i (by omega), up_s]
    rw [w2, w3]
    have fr : F2 (nxW a) h (up (up (up h a 2 j) a 4 j) a 5 j) := ((F2.refl.put ⟨rfl, by omega, by omega⟩).put ⟨rfl, by omega, by omega⟩).put ⟨rfl, by omega, by omega⟩
    have x2 : TX (up (up (up h a 2 j) a 4 j) a 5 j) a t n := ((x.put (by omega)).put (by omega)).put (by omega)
    have e2 : up (up (up h a 2 j) a 4 j) a 5 j a 2 = j := by rw [up_i (by omega), up_i (by omega), up_s]
    have e4 : up (up (up h a 2 j) a 4 j) a 5 j a 4 = j := by rw [up_i (by omega), up_s]
    have e5 : up (up (up h a 2 j) a 4 j) a 5 j a 5 = j := up_s _ _ _ _
    have hB : Bt (up (up (up h a 2 j) a 4 j) a 5 j) t n = Bt h t n := by rw [Bt_h (up_row hne), Bt_h (up_row hne), Bt_h (up_row hne)]
    rw [e2, x2.2.1]
    generalize hg : up (up (up h a 2 j) a 4 j) a 5 j = g at *
    unfold tk
    rw [es]
    refine z_if (fun c0 => ?_) (fun c0 => ?_)
    · have hjn2 : j < n := by omega
      have b0 := Bt_0 (h := h) (t := t) hjn2
      rw [if_neg (show ¬ Bt h t n j < 0 by omega), q_X20_byteAt x2 (by omega), Option.bind_some, hB, q_X18_isSmall, Option.bind_some]
      refine z_if (fun c1 => ?_) (fun c1 => ?_)
      · have c1 := bI0.mp c1
        rw [c1, if_neg (show ¬ false = true by decide), q_X18_isDigit, Option.bind_some]
        refine z_if (fun c2 => ?_) (fun c2 => ?_)
        · have c2 := bI0.mp c2
          rw [c2, if_neg (show ¬ false = true by decide)]
          refine z_if (fun c3 => ?_) (fun c3 => ?_)
          · rw [if_neg c3]
            refine z_pt (z_pt (z_pt (z_pt (z_some ⟨(((fr.put ⟨rfl, by omega, by omega⟩).put ⟨rfl, by omega, by omega⟩).put ⟨rfl, by omega, by omega⟩).put ⟨rfl, by omega, by omega⟩, ?_, ?_, ?_, ?_, fun z => ?_, fun z => ?_, fun z => ?_⟩))))
            · rw [up_i (by omega), up_i (by omega), up_i (by omega), up_s]
              show (4 : Int) = kT (if isPl (Bt h t n j) = true then 4 else 5)
              split <;> rfl
            · rw [up_i (by omega), up_i (by omega), up_i (by omega), up_i (by omega)]; exact e4
            · rw [up_i (by omega), up_s, up_i (by omega), up_i (by omega), e5, e32 (by omega) (by omega)]
            · rw [up_s, up_s, up_i (by omega), up_i (by omega), e5, e32 (by omega) (by omega)]
            · have z : (if isPl (Bt h t n j) = true then (4 : Int) else 5) = 2 := z
              split at z <;> omega
            · rw [up_i (by omega), up_i (by omega), up_s]
            · have z : (if isPl (Bt h t n j) = true then (4 : Int) else 5) = 5 := z
              rw [up_i (by omega), up_i (by omega), up_s]
              split at z
              · omega
              · next hh => exact bF hh
          · have c3 : Bt h t n j = 34 := Classical.not_not.mp c3
            rw [if_pos c3]
            refine z_pt ?_
            rw [e5, e32 (x := j + 1) (by omega) (by omega)]
            have x3 : TX (up g a 5 (j + 1)) a t n := x2.put (by omega)
            have hB3 : Bt (up g a 5 (j + 1)) t n = Bt h t n := by rw [Bt_h (up_row hne), hB]
            refine z_bind (z_mono (scan_loop (f := 5) (i := j + 1) (p := isSt) x3 (by omega) (up_s _ _ _ _) (by omega) (by omega) (by decide) ?_) ?_)
            · intro y y1 y2
              unfold m_X20_next_l289
              have xy := x3.put (i := 5) (v := y) (by omega)
              rw [up_s, q_X20_byteAt xy (by omega), Option.bind_some, Option.bind_some, Option.bind_some, Bt_h (up_row hne), hB3]
              generalize Bt h t n y = c
              by_cases d : isSt c = true
              · rw [if_pos d]
                unfold isSt at d
                have d := of_decide_eq_true d
                rw [if_neg (by omega), if_neg (by omega), if_neg d.2]
                rfl
              · rw [if_neg d]
                by_cases d1 : c < 32
                · rw [if_pos d1]
                · rw [if_neg d1]
                  by_cases d2 : 126 < c
                  · rw [if_pos d2]
                  · rw [if_neg d2]
                    by_cases d3 : c = 34
                    · rw [if_pos d3]
                    · exact absurd (decide_eq_true ⟨⟨by omega, by omega⟩, d3⟩) d
            · rintro q ⟨k, hk, -, rfl⟩
              rw [hB3] at hk
              have ek := sc_of hk
              have hk1 := hk.1
              have hkn := sc_le hk (fun y hy => bt_end (by decide) hy) (by omega)
              rw [ek]
              have x4 : TX (up (up g a 5 (j + 1)) a 5 k) a t n := x3.put (by omega)
              rw [up_s, q_X20_byteAt x4 (by omega), Option.bind_some, Bt_h (up_row hne), hB3]
              have fr2 : F2 (nxW a) h (up (up g a 5 (j + 1)) a 5 k) := (fr.put ⟨rfl, by omega, by omega⟩).put ⟨rfl, by omega, by omega⟩
              have key : ∀ s : Int, Pz (m_X20_next_j360 a s (up (up g a 5 (j + 1)) a 5 k)) (fun h' => F2 (nxW a) h h' ∧ h' a 3 = s ∧ h' a 4 = j ∧ h' a 5 = k + 1 ∧ h' a 2 = k + 1 ∧ h' a 7 = -1) := by
                intro s
                unfold m_X20_next_j360
                refine z_pt (z_pt (z_pt (z_pt (z_some ⟨(((fr2.put ⟨rfl, by omega, by omega⟩).put ⟨rfl, by omega, by omega⟩).put ⟨rfl, by omega, by omega⟩).put ⟨rfl, by omega, by omega⟩, ?_, ?_, ?_, ?_, ?_⟩))))
                · rw [up_i (by omega), up_i (by omega), up_i (by omega), up_s]
                · rw [up_i (by omega), up_i (by omega), up_i (by omega), up_i (by omega), up_i (by omega), up_i (by omega)]; exact e4
                · rw [up_i (by omega), up_i (by omega), up_s, up_i (by omega), up_s, e32 (by omega) (by omega)]
                · rw [up_s, up_i (by omega), up_s, up_i (by omega), up_s, e32 (by omega) (by omega)]
                · rw [up_i (by omega), up_s]
              refine z_if (fun c4 => ?_) (fun c4 => ?_)
              · refine z_mono (key 4) (fun h' hh => ?_)
                obtain ⟨g1, g2, g3, g4, g5, g6⟩ := hh
                rw [if_neg c4]
                refine ⟨g1, g2, g3, g4, g5, fun z => ?_, fun z => ?_, fun z => ?_⟩
                · exact absurd z (show ¬ (5 : Int) = 2 by decide)
                · exact absurd z (show ¬ (5 : Int) = 4 by decide)
                · rw [g6]; decide
              · have c4 : Bt h t n k = 34 := Classical.not_not.mp c4
                refine z_mono (key 3) (fun h' hh => ?_)
                obtain ⟨g1, g2, g3, g4, g5, g6⟩ := hh
                rw [if_pos c4]
                refine ⟨g1, g2, g3, g4, g5, fun z => ?_, fun z => ?_, fun z => ?_⟩
                · exact absurd z (show ¬ (3 : Int) = 2 by decide)
                · exact absurd z (show ¬ (3 : Int) = 4 by decide)
                · exact absurd z (show ¬ (3 : Int) = 5 by decide)
        · have c2 := bI1.mp c2
          rw [if_pos c2]
          refine z_pt ?_
          refine z_bind (z_mono (z_lp (Q := fun (r : Hp) => ∃ k v, r = up (up g a 6 v) a 5 k ∧ Sc (Bt h t n) isDg j k ∧ k ≤ n ∧ v = nv (Bt h t n) j (min 7 (k - j).toNat)) (I := fun (q : Hp) => ∃ k v, q = up (up g a 6 v) a 5 k ∧ j ≤ k ∧ k ≤ n ∧ (∀ x, j ≤ x → x < k → isDg (Bt h t n x) = true) ∧ v = nv (Bt h t n) j (min 7 (k - j).toNat)) (μ := fun q => (n - q a 5).toNat) ⟨j, 0, ?_, by omega, hjn, fun x h1 h2 => by omega, ?_⟩ ?_) ?_)
          · rw [up_swap (i := 6) (j := 5) (by omega)]
            congr 1
            conv => lhs; rw [← up_same (h := g) (a := a) (i := 5), e5]
          · rw [show (j - j).toNat = 0 by omega]; rfl
          · rintro q ⟨k, v, rfl, k1, k2, k3, ev⟩
            unfold m_X20_next_l171
            have xk := (x2.put (i := 6) (v := v) (by omega)).put (i := 5) (v := k) (by omega)
            have hBk : Bt (up (up g a 6 v) a 5 k) t n = Bt h t n := by rw [Bt_h (up_row hne), Bt_h (up_row hne), hB]
            have hnv := nv_r (B := Bt h t n) (i := j) (min 7 (k - j).toNat) (fun x h1 h2 => k3 x h1 (by omega)) (by omega)
            have f4 : up (up g a 6 v) a 5 k a 4 = j := by rw [up_i (by omega), up_i (by omega)]; exact e4
            have f6 : up (up g a 6 v) a 5 k a 6 = v := by rw [up_i (by omega), up_s]
            rw [up_s, q_X20_byteAt xk (by omega), Option.bind_some, q_X18_isDigit, Option.bind_some, hBk, f4, f6, e32 (x := k - j) (by omega) (by omega)]
            by_cases hc : isDg (Bt h t n k) = true
            · refine z_ie (fun z => by rw [bI0.mp z] at hc; cases hc) ?_
              have hd := isDg_c hc
              have hkn : k < n := Bt_n (h := h) (t := t) (by omega)
              have k3' : ∀ x, j ≤ x → x < k + 1 → isDg (Bt h t n x) = true := fun y y1 y2 => by
                rcases Int.lt_or_eq_of_le (show y ≤ k by omega) with hy | hy
                · exact k3 y y1 hy
                · rw [hy]; exact hc
              have step : ∀ v' : Int, v' = nv (Bt h t n) j (min 7 (k + 1 - j).toNat) → Pz (m_X20_next_j226 a v' (up (up g a 6 v) a 5 k)) (sE (fun q' => (∃ k v, q' = up (up g a 6 v) a 5 k ∧ j ≤ k ∧ k ≤ n ∧ (∀ x, j ≤ x → x < k → isDg (Bt h t n x) = true) ∧ v = nv (Bt h t n) j (min 7 (k - j).toNat)) ∧ (n - q' a 5).toNat < (n - k).toNat) (fun r => ∃ k v, r = up (up g a 6 v) a 5 k ∧ Sc (Bt h t n) isDg j k ∧ k ≤ n ∧ v = nv (Bt h t n) j (min 7 (k - j).toNat))) := by
                intro v' hv'
                unfold m_X20_next_j226
                refine z_pt (z_pt (z_some ?_))
                have f5 : up (up (up g a 6 v) a 5 k) a 6 v' a 5 = k := by rw [up_i (by omega), up_s]
                rw [f5, e32 (x := k + 1) (by omega) (by omega)]
                refine ⟨⟨k + 1, v', ?_, by omega, by omega, k3', hv'⟩, ?_⟩
                · rw [up_swap (i := 5) (j := 6) (by omega), up_up, up_up]
                · show (n - up (up (up (up g a 6 v) a 5 k) a 6 v') a 5 (k + 1) a 5).toNat < (n - k).toNat
                  rw [up_s]; omega
              refine z_if (fun h7 => step v ?_) (fun h7 => ?_)
              · rw [ev]; congr 1; omega
              · rw [Option.bind_some]
                have p7 : (10 : Int) ^ (min 7 (k - j).toNat) ≤ 1000000 := by
                  have hk : min 7 (k - j).toNat ≤ 6 := by omega
                  have : ∀ k : Nat, k ≤ 6 → (10 : Int) ^ k ≤ 1000000 := by decide
                  exact this _ hk
                have hv : 0 ≤ v ∧ v < 1000000 := by rw [ev]; omega
                refine step _ ?_
                rw [e32 (x := 10 * v) (by omega) (by omega), e32 (x := 10 * v + Bt h t n k) (by omega) (by omega), e32 (by omega) (by omega)]
                rw [show min 7 (k + 1 - j).toNat = min 7 (k - j).toNat + 1 by omega]
                show _ = 10 * nv (Bt h t n) j (min 7 (k - j).toNat) + (Bt h t n (j + (min 7 (k - j).toNat : Nat)) - 48)
                rw [← ev, show j + ((min 7 (k - j).toNat : Nat) : Int) = k by omega]
                omega
            · refine z_it (bI0.mpr (bF hc)) (z_some ⟨k, v, rfl, ⟨k1, k3, bF hc⟩, k2, ev⟩)
          · rintro q ⟨k, v, rfl, hk, hkn, ev⟩
            have ek := sc_of hk
            have hk1 := hk.1
            rw [ek]
            have fr2 : F2 (nxW a) h (up (up g a 6 v) a 5 k) := (fr.put ⟨rfl, by omega, by omega⟩).put ⟨rfl, by omega, by omega⟩
            have f4 : up (up g a 6 v) a 5 k a 4 = j := by rw [up_i (by omega), up_i (by omega)]; exact e4
            have key : ∀ s : Int, Pz (m_X20_next_j262 a s (up (up g a 6 v) a 5 k)) (fun h' => F2 (nxW a) h h' ∧ h' a 3 = s ∧ h' a 4 = j ∧ h' a 5 = k ∧ h' a 2 = k ∧ h' a 7 = -1 ∧ h' a 6 = v) := by
              intro s
              unfold m_X20_next_j262
              refine z_pt (z_pt (z_pt (z_some ⟨((fr2.put ⟨rfl, by omega, by omega⟩).put ⟨rfl, by omega, by omega⟩).put ⟨rfl, by omega, by omega⟩, ?_, ?_, ?_, ?_, ?_, ?_⟩)))
              · rw [up_i (by omega), up_i (by omega), up_s]
              · rw [up_i (by omega), up_i (by omega), up_i (by omega)]; exact f4
              · rw [up_i (by omega), up_i (by omega), up_i (by omega), up_s]
              · rw [up_s, up_i (by omega), up_i (by omega), up_s]
              · rw [up_i (by omega), up_s]
              · rw [up_i (by omega), up_i (by omega), up_i (by omega), up_i (by omega), up_s]
            rw [up_s, f4, e32 (x := k - j) (by omega) (by omega)]
            refine z_if (fun c4 => ?_) (fun c4 => ?_)
            · refine z_mono (key 2) (fun h' hh => ?_)
              obtain ⟨g1, g2, g3, g4, g5, g6, g7⟩ := hh
              rw [if_pos c4]
              refine ⟨g1, g2, g3, g4, g5, fun z => g7.trans ev, fun z => ?_, fun z => ?_⟩
              · exact absurd z (show ¬ (2 : Int) = 4 by decide)
              · exact absurd z (show ¬ (2 : Int) = 5 by decide)
            · refine z_mono (key 4) (fun h' hh => ?_)
              obtain ⟨g1, g2, g3, g4, g5, g6, g7⟩ := hh
              rw [if_neg c4]
              refine ⟨g1, g2, g3, g4, g5, fun z => ?_, fun z => ?_, fun z => ?_⟩
              · exact absurd z (show ¬ (5 : Int) = 2 by decide)
              · exact absurd z (show ¬ (5 : Int) = 4 by decide)
              · rw [g6]; decide
      · have c1 := bI1.mp c1
        rw [if_pos c1]
        refine z_bind (z_mono (scan_loop (f := 5) (i := j) (p := isNm) x2 (by omega) e5 (by omega) (by omega) (by decide) ?_) ?_)
        · intro y y1 y2
          unfold m_X20_next_l87 m_X20_next_j115
          have xy := x2.put (i := 5) (v := y) (by omega)
          rw [up_s, q_X20_byteAt xy (by omega), Option.bind_some, q_X18_isSmall, Option.bind_some, Option.bind_some, q_X18_isDigit, Option.bind_some, Bt_h (up_row hne)]
          generalize Bt g t n y = c
          unfold isNm
          by_cases d1 : isSm c = true
          · rw [if_pos (bI1.mpr d1), if_pos]
            · rfl
            · unfold isSm at d1
              exact decide_eq_true (Or.inl (of_decide_eq_true d1))
          · rw [if_neg (fun z => d1 (bI1.mp z))]
            by_cases d2 : isDg c = true
            · rw [if_neg (fun z => by rw [bI0.mp z] at d2; cases d2), if_pos]
              · rfl
              · unfold isDg at d2
                exact decide_eq_true (Or.inr (of_decide_eq_true d2))
            · rw [if_pos (bI0.mpr (bF d2)), if_neg]
              intro z
              rcases of_decide_eq_true z with z | z
              · exact d1 (decide_eq_true z)
              · exact d2 (decide_eq_true z)
        · rintro q ⟨k, hk, -, rfl⟩
          rw [hB] at hk
          have ek := sc_of hk
          have hk1 := hk.1
          have hkn := sc_le hk (fun y hy => bt_end (by decide) hy) (by omega)
          rw [ek]
          have fr2 : F2 (nxW a) h (up g a 5 k) := fr.put ⟨rfl, by omega, by omega⟩
          have f4 : up g a 5 k a 4 = j := by rw [up_i (by omega)]; exact e4
          have key : ∀ s : Int, Pz (m_X20_next_j148 a s (up g a 5 k)) (fun h' => F2 (nxW a) h h' ∧ h' a 3 = s ∧ h' a 4 = j ∧ h' a 5 = k ∧ h' a 2 = k ∧ h' a 7 = -1) := by
            intro s
            unfold m_X20_next_j148
            refine z_pt (z_pt (z_pt (z_some ⟨((fr2.put ⟨rfl, by omega, by omega⟩).put ⟨rfl, by omega, by omega⟩).put ⟨rfl, by omega, by omega⟩, ?_, ?_, ?_, ?_, ?_⟩)))
            · rw [up_i (by omega), up_i (by omega), up_s]
            · rw [up_i (by omega), up_i (by omega), up_i (by omega)]; exact f4
            · rw [up_i (by omega), up_i (by omega), up_i (by omega), up_s]
            · rw [up_s, up_i (by omega), up_i (by omega), up_s]
            · rw [up_i (by omega), up_s]
          rw [up_s, f4, e32 (x := k - j) (by omega) (by omega)]
          refine z_if (fun c4 => ?_) (fun c4 => ?_)
          · refine z_mono (key 1) (fun h' hh => ?_)
            obtain ⟨g1, g2, g3, g4, g5, g6⟩ := hh
            rw [if_pos c4]
            refine ⟨g1, g2, g3, g4, g5, fun z => ?_, fun z => ?_, fun z => ?_⟩
            · exact absurd z (show ¬ (1 : Int) = 2 by decide)
            · exact absurd z (show ¬ (1 : Int) = 4 by decide)
            · exact absurd z (show ¬ (1 : Int) = 5 by decide)
          · refine z_mono (key 4) (fun h' hh => ?_)
            obtain ⟨g1, g2, g3, g4, g5, g6⟩ := hh
            rw [if_neg c4]
            refine ⟨g1, g2, g3, g4, g5, fun z => ?_, fun z => ?_, fun z => ?_⟩
            · exact absurd z (show ¬ (5 : Int) = 2 by decide)
            · exact absurd z (show ¬ (5 : Int) = 4 by decide)
            · rw [g6]; decide
    · have c0 : j = n := Classical.not_not.mp c0
      rw [if_pos (by rw [Bt_e (by omega)]; decide)]
      refine z_pt (z_some ⟨fr.put ⟨rfl, by omega, by omega⟩, up_s _ _ _ _, ?_, ?_, ?_, fun z => ?_, fun z => ?_, fun z => ?_⟩)
      · rw [up_i (by omega)]; exact e4
      · rw [up_i (by omega)]; exact e5
      · rw [up_i (by omega)]; exact e2
      · exact absurd z (show ¬ (0 : Int) = 2 by decide)
      · exact absurd z (show ¬ (0 : Int) = 4 by decide)
      · exact absurd z (show ¬ (0 : Int) = 5 by decide)
