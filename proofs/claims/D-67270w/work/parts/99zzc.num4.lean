set_option maxRecDepth 100000
/-! NUMBERS: the reference writes Roman ones -/
theorem rmS : strB (-104) = some [109, 100, 99, 108, 120, 118, 105] := by rfl
/-- the worths of signs -/
def wthR (h : Hp) (l : Int) : Prop := h (l + 47) 0 = 1000 ∧ h (l + 47) 2 = 100 ∧ h (l + 47) 4 = 10 ∧ h (l + 47) 6 = 1
theorem t_many24 {F : Int × Int × Hp → Option ((Int × Int × Hp) ⊕ (Int × Hp))} {h : Hp} {l n o : Int} {d : Nat} {L : List Int} (hL : LAY h) (hl : l ∈ in_aX24) (D : dgH h l n L) (ln : L.length + d < 40) (o0 : 0 ≤ o ∧ o ≤ 127) (eF : ∀ x k q, F (x, k, q) = if (d : Int) ≤ k then some (.inr (x, q)) else bW (m_X24_put l x o q) fun v h => lt_ (w32 (k + 1)) fun k' => some (.inl (v, k', h))) :
    Pz (lp F (n, 0, h)) (fun r => F2 (dgW l) h r.2 ∧ dgH r.2 l r.1 (L ++ List.replicate d o)) := by
  refine z_lp (fun (s : Int × Int × Hp) => ∃ k : Nat, s.2.1 = k ∧ k ≤ d ∧ F2 (dgW l) h s.2.2 ∧ dgH s.2.2 l s.1 (L ++ List.replicate k o)) (fun s => ((d : Int) - s.2.1).toNat) ⟨0, rfl, Nat.zero_le _, F2.refl, by show dgH h l n (L ++ []); rw [List.append_nil]; exact D⟩ ?_
  rintro ⟨x, y, q⟩ ⟨k, ey, k1, Fq, Dq⟩
  dsimp only at ey Dq
  subst ey
  replace Fq : F2 (dgW l) h q := Fq
  rw [eF x k q]
  by_cases hk : (d : Int) ≤ k
  · have : k = d := by omega
    subst this
    exact z_it hk (z_some ⟨Fq, Dq⟩)
  · refine z_ie hk (z_bW (z_mono (t_put24 (dgW_l hL hl Fq) hl Dq (by rw [List.length_append, List.length_replicate]; omega) (by omega) (by omega)) (fun r hr => z_lt (z_some ?_))))
    rw [e32 (by omega) (by omega)]
    refine ⟨⟨k + 1, by dsimp only; omega, by omega, Fq.trans hr.1, ?_⟩, by dsimp only; omega⟩
    dsimp only
    rw [List.replicate_succ', ← List.append_assoc]; exact hr.2
/-- one place -/
theorem t_place24 {h : Hp} {l n rest k o f t : Int} {d : Nat} {L : List Int} (hL : LAY h) (hl : l ∈ in_aX24) (D : dgH h l n L) (ln : L.length ≤ 20) (hd : d ≤ 9) (k0 : 0 < k) (k1 : k ≤ 6) (o0 : 0 ≤ o ∧ o ≤ 127) (f0 : 0 ≤ f ∧ f ≤ 127) (t0 : 0 ≤ t ∧ t ≤ 127) :
    Pz (m_X24_roman_j86 f o l n rest k d t h) (fun r => ∃ n' h', r = .inl (n', rest, k + 2, h') ∧ F2 (dgW l) h h' ∧ dgH h' l n' (L ++ dgL d o f t)) := by
  have out : ∀ n' h' A, F2 (dgW l) h h' → dgH h' l n' (L ++ A) → A = dgL d o f t → Pz (m_X24_roman_j207 rest k n' h') (fun r => ∃ n' h', r = .inl (n', rest, k + 2, h') ∧ F2 (dgW l) h h' ∧ dgH h' l n' (L ++ dgL d o f t)) := by
    intro n' h' A f1 f2 f3
    unfold m_X24_roman_j207
    rw [lt_e, e32 (x := k + 2) (by omega) (by omega)]
    exact z_some ⟨n', h', rfl, f1, by rw [← f3]; exact f2⟩
  have two : ∀ x, 0 ≤ x ∧ x ≤ 127 → [o, x] = dgL d o f t → Pz (bW (m_X24_put l n o h) fun v132 h132 => bW (m_X24_put l v132 x h132) fun v137 h137 => m_X24_roman_j207 rest k v137 h137) (fun r => ∃ n' h', r = .inl (n', rest, k + 2, h') ∧ F2 (dgW l) h h' ∧ dgH h' l n' (L ++ dgL d o f t)) := by
    intro x x0 hx
    refine z_bW (z_mono (t_put24 hL hl D (by omega) (by omega) (by omega)) (fun r hr => ?_))
    refine z_bW (z_mono (t_put24 (dgW_l hL hl hr.1) hl hr.2 (by rw [List.length_append, List.length_singleton]; omega) (by omega) (by omega)) (fun r' hr' => ?_))
    refine out _ _ [o, x] (hr.1.trans hr'.1) ?_ hx
    have := hr'.2
    rw [List.append_assoc] at this
    exact this
  have many : ∀ (n1 : Int) (h1 : Hp) (B : List Int), F2 (dgW l) h h1 → dgH h1 l n1 (L ++ B) → B.length ≤ 1 → B ++ List.replicate (d % 5) o = dgL d o f t → Pz (m_X24_roman_j181 l rest k d o n1 h1) (fun r => ∃ n' h', r = .inl (n', rest, k + 2, h') ∧ F2 (dgW l) h h' ∧ dgH h' l n' (L ++ dgL d o f t)) := by
    intro n1 h1 B f1 d1 b1 hB
    unfold m_X24_roman_j181
    refine z_lt (z_bind (z_mono (t_many24 (F := fun (q : Int × Int × Hp) => m_X24_roman_l184 l d o q.1 q.2.1 q.2.2) (d := d % 5) (dgW_l hL hl f1) hl d1 (by rw [List.length_append]; omega) o0 (fun x k q => ?_)) (fun r hr => ?_)))
    · show m_X24_roman_l184 l d o x k q = _
      unfold m_X24_roman_l184
      have : Int.tmod (d : Int) 5 = ((d % 5 : Nat) : Int) := by rw [Int.tmod_eq_emod_of_nonneg (by omega)]; omega
      rw [this]
    · refine out _ _ (B ++ List.replicate (d % 5) o) (f1.trans hr.1) ?_ hB
      rw [← List.append_assoc]; exact hr.2
  unfold m_X24_roman_j86
  refine z_it (by omega) ?_
  by_cases h9 : d = 9
  · refine z_ie (fun z => z (by omega)) (two t t0 ?_)
    unfold dgL; rw [if_pos h9]
  · refine z_it (by omega) ?_
    by_cases h4 : d = 4
    · refine z_ie (fun z => z (by omega)) (two f f0 ?_)
      unfold dgL; rw [if_neg h9, if_pos h4]
    · refine z_it (by omega) ?_
      by_cases h5 : 5 ≤ d
      · refine z_ie (by omega) (z_bW (z_mono (t_put24 hL hl D (by omega) (by omega) (by omega)) (fun r hr => many _ _ [f] hr.1 hr.2 (Nat.le_refl _) ?_)))
        unfold dgL; rw [if_neg h9, if_neg h4, if_pos h5]
      · refine z_it (by omega) (many n h [] F2.refl (by rw [List.append_nil]; exact D) (Nat.zero_le _) ?_)
        unfold dgL; rw [if_neg h9, if_neg h4, if_neg h5]
/-- one turn, not the first -/
theorem t_turn24 {h : Hp} {l n k w o f t : Int} {d r : Nat} {L : List Int} (hL : LAY h) (hl : l ∈ in_aX24) (D : dgH h l n L) (ln : L.length ≤ 20) (hd : d ≤ 9) (k0 : 0 < k) (k1 : k ≤ 6) (hw : h (l + 47) k = w) (w0 : 0 < w) (hr : (r : Int) < w) (w1 : w ≤ 1000) (s0 : x_sat (-104) k = some o) (s1 : x_sat (-104) (k - 1) = some f) (s2 : x_sat (-104) (k - 2) = some t) (o0 : 0 ≤ o ∧ o ≤ 127) (f0 : 0 ≤ f ∧ f ≤ 127) (t0 : 0 ≤ t ∧ t ≤ 127) (dw : (d : Int) * w + r ≤ 10000) :
    Pz (m_X24_roman_l11 l (-104) n (d * w + r) k h) (fun x => ∃ n' h', x = .inl (n', (r : Int), k + 2, h') ∧ F2 (dgW l) h h' ∧ dgH h' l n' (L ++ dgL d o f t)) := by
  have k26 := g_X24_26 hL hl
  have dp : 0 ≤ (d : Int) * w := Int.mul_nonneg (by omega) (by omega)
  have td : Int.tdiv ((d : Int) * w + r) w = d := by
    rw [Int.tdiv_eq_ediv_of_nonneg (by omega), Int.add_comm, Int.add_mul_ediv_right _ _ (by omega), Int.ediv_eq_zero_of_lt (by omega) hr, Int.zero_add]
  have tm : Int.tmod ((d : Int) * w + r) w = r := by
    rw [Int.tmod_eq_emod_of_nonneg (by omega), Int.add_comm, Int.add_mul_emod_self_right, Int.emod_eq_of_lt (by omega) hr]
  unfold m_X24_roman_l11
  simp only [k26.1, k26.2.1, k26.2.2, hw, td, tm]
  clear td tm dp dw
  rw [e32 (x := (d : Int)) (by omega) (by omega)]
  refine z_ie (by omega) (z_gd ⟨by decide, by omega, by omega⟩ (z_gd (by omega) (z_lt (z_gd (by omega) (z_lt ?_)))))
  rw [s0, Option.bind_some]
  refine z_ie (by omega) ?_
  rw [e32 (x := k - 1) (by omega) (by omega), s1, Option.bind_some]
  unfold m_X24_roman_j66
  refine z_ie (by omega) ?_
  rw [e32 (x := k - 2) (by omega) (by omega), s2, Option.bind_some]
  exact t_place24 hL hl D ln hd k0 k1 o0 f0 t0
theorem lz_turn {σ ρ : Type} {f : σ → Option (σ ⊕ ρ)} {s : σ} {Q : ρ → Prop} (h : Pz (f s) (sE (fun s' => Pz (lp f s') Q) Q)) : Pz (lp f s) Q := by
  obtain ⟨x, e, q⟩ := h
  cases x with
  | inl s' =>
    obtain ⟨r, e1, e2⟩ := q
    exact ⟨r, by rw [lp_eq, e]; exact e1, e2⟩
  | inr r => exact ⟨r, by rw [lp_eq, e], q⟩
/-- the first turn: thousands -/
theorem t_first24 {h : Hp} {l : Int} {m r : Nat} (hL : LAY h) (hl : l ∈ in_aX24) (hw : h (l + 47) 0 = 1000) (hm : m ≤ 3) (hr : r < 1000) :
    Pz (m_X24_roman_l11 l (-104) 0 (m * 1000 + r) 0 h) (fun x => ∃ n' h', x = .inl (n', (r : Int), 2, h') ∧ F2 (dgW l) h h' ∧ dgH h' l n' (List.replicate m 109)) := by
  have k26 := g_X24_26 hL hl
  have s0 : x_sat (-104) ((0 : Nat) : Int) = some 109 := q_sat rmS rfl
  have td : Int.tdiv ((m : Int) * 1000 + r) 1000 = m := by
    rw [Int.tdiv_eq_ediv_of_nonneg (by omega)]; omega
  have tm : Int.tmod ((m : Int) * 1000 + r) 1000 = r := by
    rw [Int.tmod_eq_emod_of_nonneg (by omega)]; omega
  unfold m_X24_roman_l11
  simp only [k26.1, k26.2.1, k26.2.2, hw, td, tm]
  clear td tm
  rw [e32 (x := (m : Int)) (by omega) (by omega)]
  refine z_ie (by decide) (z_gd ⟨by decide, by decide, by decide⟩ (z_gd (by decide) (z_lt (z_gd (by decide) (z_lt ?_)))))
  have s0' : x_sat (-104) 0 = some 109 := s0
  rw [s0', Option.bind_some]
  refine z_it (by decide) ?_
  unfold m_X24_roman_j66
  refine z_it (by decide) ?_
  unfold m_X24_roman_j86
  refine z_ie (fun z => z rfl) (z_lt (z_bind (z_mono (t_many24 (F := fun (q : Int × Int × Hp) => m_X24_roman_l96 l m 109 q.1 q.2.1 q.2.2) (d := m) (L := []) hL hl ⟨rfl, rfl⟩ (by rw [List.length_nil]; omega) (by decide) (fun x k q => rfl)) (fun r hr => ?_))))
  unfold m_X24_roman_j207
  rw [lt_e, e32 (x := 0 + 2) (by decide) (by decide)]
  refine z_some ⟨_, _, rfl, hr.1, ?_⟩
  have := hr.2
  rw [List.nil_append] at this
  exact this
theorem t_rom24 {h : Hp} {l : Int} {m x1 x2 x3 : Nat} (hL : LAY h) (hl : l ∈ in_aX24) (W : wthR h l) (m3 : m ≤ 3) (d1 : x1 ≤ 9) (d2 : x2 ≤ 9) (d3 : x3 ≤ 9) :
    Pz (m_X24_roman l (m * 1000 + ((100 * x1 + 10 * x2 + x3 : Nat) : Int)) h) (fun r => F2 (dgW l) h r.2 ∧ dgH r.2 l r.1 (List.replicate m 109 ++ (dgL x1 99 100 109 ++ (dgL x2 120 108 99 ++ dgL x3 105 118 120)))) := by
  obtain ⟨W0, W2, W4, W6⟩ := W
  have s2 : x_sat (-104) ((2 : Nat) : Int) = some 99 := q_sat rmS rfl
  have s1 : x_sat (-104) ((1 : Nat) : Int) = some 100 := q_sat rmS rfl
  have s0 : x_sat (-104) ((0 : Nat) : Int) = some 109 := q_sat rmS rfl
  have s4 : x_sat (-104) ((4 : Nat) : Int) = some 120 := q_sat rmS rfl
  have s3 : x_sat (-104) ((3 : Nat) : Int) = some 108 := q_sat rmS rfl
  have s6 : x_sat (-104) ((6 : Nat) : Int) = some 105 := q_sat rmS rfl
  have s5 : x_sat (-104) ((5 : Nat) : Int) = some 118 := q_sat rmS rfl
  unfold m_X24_roman
  refine z_lt (z_lt (z_lt (z_bind (z_mono (lz_turn ?_) (fun r hr => z_some hr)))))
  show Pz (m_X24_roman_l11 l (-104) 0 ((m : Int) * 1000 + ((100 * x1 + 10 * x2 + x3 : Nat) : Int)) 0 h) _
  refine z_mono (t_first24 (r := 100 * x1 + 10 * x2 + x3) hL hl W0 m3 (by omega)) ?_
  rintro x ⟨n1, h1, rfl, f1, D1⟩
  show Pz (lp _ (n1, ((100 * x1 + 10 * x2 + x3 : Nat) : Int), 2, h1)) _
  replace f1 : F2 (dgW l) h h1 := f1
  have L1 := dgW_l hL hl f1
  have l1 : (List.replicate m (109 : Int)).length ≤ 3 := by rw [List.length_replicate]; exact m3
  have e1 : ((100 * x1 + 10 * x2 + x3 : Nat) : Int) = (x1 : Int) * 100 + ((10 * x2 + x3 : Nat) : Int) := by omega
  rw [e1]
  generalize List.replicate m (109 : Int) = A0 at *
  refine lz_turn ?_
  show Pz (m_X24_roman_l11 l (-104) n1 ((x1 : Int) * 100 + ((10 * x2 + x3 : Nat) : Int)) 2 h1) _
  refine z_mono (t_turn24 (w := 100) (o := 99) (f := 100) (t := 109) (d := x1) (r := 10 * x2 + x3) L1 hl D1 (by omega) d1 (by decide) (by decide) (by rw [f1 _ _ (by unfold dgW; omega)]; exact W2) (by decide) (by omega) (by decide) s2 s1 s0 (by decide) (by decide) (by decide) (by omega)) ?_
  rintro x ⟨n2, h2, rfl, f2, D2⟩
  show Pz (lp _ (n2, ((10 * x2 + x3 : Nat) : Int), 4, h2)) _
  have L2 := dgW_l L1 hl f2
  have g1 := dgL_len (d := x1) (o := 99) (f := 100) (t := 109)
  generalize dgL x1 99 100 109 = A1 at *
  have e2 : ((10 * x2 + x3 : Nat) : Int) = (x2 : Int) * 10 + (x3 : Int) := by omega
  rw [e2]
  refine lz_turn ?_
  show Pz (m_X24_roman_l11 l (-104) n2 ((x2 : Int) * 10 + (x3 : Int)) 4 h2) _
  refine z_mono (t_turn24 (w := 10) (o := 120) (f := 108) (t := 99) (d := x2) (r := x3) L2 hl D2 (by rw [List.length_append]; omega) d2 (by decide) (by decide) (by rw [f2 _ _ (by unfold dgW; omega), f1 _ _ (by unfold dgW; omega)]; exact W4) (by decide) (by omega) (by decide) s4 s3 s2 (by decide) (by decide) (by decide) (by omega)) ?_
  rintro x ⟨n3, h3, rfl, f3, D3⟩
  show Pz (lp _ (n3, (x3 : Int), 6, h3)) _
  have L3 := dgW_l L2 hl f3
  have g2 := dgL_len (d := x2) (o := 120) (f := 108) (t := 99)
  generalize dgL x2 120 108 99 = A2 at *
  have e3 : (x3 : Int) = (x3 : Int) * 1 + ((0 : Nat) : Int) := by omega
  rw [e3]
  refine lz_turn ?_
  show Pz (m_X24_roman_l11 l (-104) n3 ((x3 : Int) * 1 + ((0 : Nat) : Int)) 6 h3) _
  refine z_mono (t_turn24 (w := 1) (o := 105) (f := 118) (t := 120) (d := x3) (r := 0) L3 hl D3 (by rw [List.length_append, List.length_append]; omega) d3 (by decide) (by decide) (by rw [f3 _ _ (by unfold dgW; omega), f2 _ _ (by unfold dgW; omega), f1 _ _ (by unfold dgW; omega)]; exact W6) (by decide) (by decide) (by decide) s6 s5 s4 (by decide) (by decide) (by decide) (by omega)) ?_
  rintro x ⟨n4, h4, rfl, f4, D4⟩
  show Pz (lp _ (n4, ((0 : Nat) : Int), 8, h4)) _
  refine lz_turn ?_
  show Pz (m_X24_roman_l11 l (-104) n4 ((0 : Nat) : Int) 8 h4) _
  unfold m_X24_roman_l11
  refine z_it (by decide) (z_some ⟨((f1.trans f2).trans f3).trans f4, ?_⟩)
  rw [← List.append_assoc, ← List.append_assoc]; exact D4
/-- a number in its form, the reference -/
theorem t_form24 {h : Hp} {l how : Int} {v : Nat} (hL : LAY h) (hl : l ∈ in_aX24) (W : wthR h l) (hv : v ≤ 1000000) : Pz (m_X24_form l v how h) (fun r => F2 (dgW l) h r.2 ∧ dgH r.2 l r.1 (fmL how v)) := by
  have dec := t_dec24 (v := v) hL hl hv
  have j23 : (fmL how v = if how = 2 ∧ 1 ≤ v then letL v else decL v) → Pz (m_X24_form_j23 l v how h) (fun r => F2 (dgW l) h r.2 ∧ dgH r.2 l r.1 (fmL how v)) := by
    intro hf
    by_cases h2 : how = 2
    · by_cases h1 : (v : Int) < 1
      · have e : fmL how v = decL v := by rw [hf, if_neg (by omega)]
        rw [e]
        unfold m_X24_form_j23
        exact z_ie (fun z => z h2) (z_it h1 dec)
      · have e : fmL how v = letL v := by rw [hf, if_pos ⟨h2, by omega⟩]
        rw [e]
        unfold m_X24_form_j23
        exact z_ie (fun z => z h2) (z_ie h1 (z_bW (z_mono (t_let24 hL hl hv (by omega)) (fun r hr => z_some hr))))
    · have e : fmL how v = decL v := by rw [hf, if_neg (fun z => h2 z.1)]
      rw [e]
      unfold m_X24_form_j23
      exact z_it h2 dec
  unfold m_X24_form
  by_cases h1 : how = 1
  · refine z_ie (fun z => z h1) ?_
    by_cases hv1 : (v : Int) < 1
    · exact z_it hv1 (j23 (by unfold fmL; rw [if_neg (by omega)]))
    · refine z_ie hv1 ?_
      by_cases hv2 : (3999 : Int) < v
      · exact z_it hv2 (j23 (by unfold fmL; rw [if_neg (by omega)]))
      · have e : fmL how v = romL v := by unfold fmL; rw [if_pos ⟨h1, by omega, by omega⟩]
        rw [e]
        refine z_ie hv2 (z_bW ?_)
        have key := t_rom24 (m := v / 1000) (x1 := v / 100 % 10) (x2 := v / 10 % 10) (x3 := v % 10) hL hl W (by omega) (by omega) (by omega) (by omega)
        have en : (((v / 1000 : Nat) : Int) * 1000 + ((100 * (v / 100 % 10) + 10 * (v / 10 % 10) + v % 10 : Nat) : Int)) = v := by omega
        rw [en] at key
        unfold romL
        exact z_mono key (fun r hr => z_some hr)
  · exact z_it h1 (j23 (by unfold fmL; rw [if_neg (fun z => h1 z.1)]))
