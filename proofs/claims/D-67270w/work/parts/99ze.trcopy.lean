set_option maxRecDepth 100000
/-! TREES: the copy of a source -/
def crW (l : Int) : Int → Int → Prop := fun b j => (b = l ∧ (j = 1 ∨ j = 2 ∨ j = 3 ∨ j = 4 ∨ j = 5)) ∨ (l + 1 ≤ b ∧ b ≤ l + 16 ∧ 0 ≤ j)
theorem crW_l {h h' : Hp} {l : Int} (hL : LAY h) (hl : l ∈ in_aX23) (f : F2 (crW l) h h') : LAY h' := srQ1_l hL hl (f.mono (fun b j z => by unfold crW at z; unfold srQ1 srQ; omega))
/-- the fields of an element -/
theorem t_copyF {h : Hp} {l l' e c : Int} (hL : LAY h) (hl : l ∈ in_aX23) (hl' : l' ∈ in_aX23) (hd : l + 20 < l' ∨ l' + 20 < l) (e0 : 0 ≤ e) (e1 : e < 500) (ec : h (l + 10) e = c) (c0 : 0 ≤ c) (c6 : c ≤ 6) :
    Pz (lp (fun (q : Int × Hp) => m_X23_copy_l231 l l' e q.1 q.2) (6 * e, h)) (fun h' => F2 (fun b j => l + 13 ≤ b ∧ b ≤ l + 16 ∧ 6 * e ≤ j ∧ j < 6 * e + c) h h' ∧ ∀ k, 13 ≤ k → k ≤ 16 → ∀ x, 0 ≤ x → x < c → h' (l + k) (6 * e + x) = h (l' + k) (6 * e + x)) := by
  have h23 := aX23 hl
  refine z_lp (fun (s : Int × Hp) => 6 * e ≤ s.1 ∧ s.1 ≤ 6 * e + c ∧ F2 (fun b j => l + 13 ≤ b ∧ b ≤ l + 16 ∧ 6 * e ≤ j ∧ j < 6 * e + c) h s.2 ∧ ∀ k, 13 ≤ k → k ≤ 16 → ∀ x, 0 ≤ x → 6 * e + x < s.1 → s.2 (l + k) (6 * e + x) = h (l' + k) (6 * e + x)) (fun s => (6 * e + c - s.1).toNat) ⟨by dsimp only; omega, by dsimp only; omega, F2.refl, fun k _ _ x x0 x1 => by dsimp only at x1; omega⟩ ?_
  rintro ⟨y, q⟩ ⟨y0, y1, Fq, Eq⟩
  dsimp only at y0 y1 Eq
  replace Fq : F2 (fun b j => l + 13 ≤ b ∧ b ≤ l + 16 ∧ 6 * e ≤ j ∧ j < 6 * e + c) h q := Fq
  have Lq : LAY q := crW_l hL hl (Fq.mono (fun b j z => by unfold crW; omega))
  show Pz (m_X23_copy_l231 l l' e y q) _
  unfold m_X23_copy_l231
  have k14 := g_X23_14 Lq hl
  have qc : q (l + 10) e = c := by rw [Fq _ _ (by omega)]; exact ec
  simp only [k14.1, k14.2.1, k14.2.2, qc]
  rw [e32 (x := 6 * e) (by omega) (by omega), e32 (x := 6 * e + c) (by omega) (by omega)]
  refine z_gd ⟨by decide, e0, by omega⟩ ?_
  by_cases hy : 6 * e + c ≤ y
  · exact z_it hy (z_some ⟨Fq, fun k k0 k1 x x0 x1 => Eq k k0 k1 x x0 (by omega)⟩)
  · refine z_ie hy ?_
    have s0 := g_X23_17 Lq hl'
    have d0 := g_X23_17 Lq hl
    simp only [s0.1, s0.2.1, s0.2.2, d0.1, d0.2.1, d0.2.2]
    rw [gd_t ⟨by decide, by omega, by omega⟩, gd_t ⟨by decide, by omega, by omega⟩, pt_e]
    have L0 : LAY (up q (l + 13) y (q (l' + 13) y)) := crW_l Lq hl (F2.refl.put (by unfold crW; omega))
    have s1 := g_X23_18 L0 hl'
    have d1 := g_X23_18 L0 hl
    simp only [s1.1, s1.2.1, s1.2.2, d1.1, d1.2.1, d1.2.2]
    rw [gd_t ⟨by decide, by omega, by omega⟩, gd_t ⟨by decide, by omega, by omega⟩, pt_e, show (up q (l + 13) y (q (l' + 13) y)) (l' + 14) y = q (l' + 14) y by rw [up_a (by omega)]]
    have L1 : LAY (up (up q (l + 13) y (q (l' + 13) y)) (l + 14) y (q (l' + 14) y)) := crW_l L0 hl (F2.refl.put (by unfold crW; omega))
    have s2 := g_X23_19 L1 hl'
    have d2 := g_X23_19 L1 hl
    simp only [s2.1, s2.2.1, s2.2.2, d2.1, d2.2.1, d2.2.2]
    rw [gd_t ⟨by decide, by omega, by omega⟩, gd_t ⟨by decide, by omega, by omega⟩, pt_e, show (up (up q (l + 13) y (q (l' + 13) y)) (l + 14) y (q (l' + 14) y)) (l' + 15) y = q (l' + 15) y by rw [up_a (by omega), up_a (by omega)]]
    have L2 : LAY (up (up (up q (l + 13) y (q (l' + 13) y)) (l + 14) y (q (l' + 14) y)) (l + 15) y (q (l' + 15) y)) := crW_l L1 hl (F2.refl.put (by unfold crW; omega))
    have s3 := g_X23_20 L2 hl'
    have d3 := g_X23_20 L2 hl
    simp only [s3.1, s3.2.1, s3.2.2, d3.1, d3.2.1, d3.2.2]
    rw [gd_t ⟨by decide, by omega, by omega⟩, gd_t ⟨by decide, by omega, by omega⟩, pt_e, show (up (up (up q (l + 13) y (q (l' + 13) y)) (l + 14) y (q (l' + 14) y)) (l + 15) y (q (l' + 15) y)) (l' + 16) y = q (l' + 16) y by rw [up_a (by omega), up_a (by omega), up_a (by omega)]]
    have L3 : LAY (up (up (up (up q (l + 13) y (q (l' + 13) y)) (l + 14) y (q (l' + 14) y)) (l + 15) y (q (l' + 15) y)) (l + 16) y (q (l' + 16) y)) := crW_l L2 hl (F2.refl.put (by unfold crW; omega))
    rw [lt_e, e32 (x := y + 1) (by omega) (by omega)]
    clear s0 s1 s2 s3 d0 d1 d2 d3 L0 L1 L2 L3 k14
    refine z_some ⟨⟨by dsimp only; omega, by dsimp only; omega, ?_, fun k k0 k1 x x0 x1 => ?_⟩, by dsimp only; omega⟩
    · refine Fq.trans ?_
      repeat' first
        | exact F2.refl
        | refine F2.put ?_ (by omega)
    · dsimp only at x1 ⊢
      by_cases hx : 6 * e + x = y
      · rw [hx]
        have hk : k = 13 ∨ k = 14 ∨ k = 15 ∨ k = 16 := by omega
        have rw_ : ∀ b, q (l' + b) y = h (l' + b) y ∨ b < 0 ∨ 20 < b := fun b => by
          by_cases hb : b < 0 ∨ 20 < b
          · exact Or.inr hb
          · exact Or.inl (Fq _ _ (by omega))
        rcases hk with rfl | rfl | rfl | rfl
        · rw [up_a (by omega), up_a (by omega), up_a (by omega), up_s]; exact (rw_ 13).resolve_right (by omega)
        · rw [up_a (by omega), up_a (by omega), up_s]; exact (rw_ 14).resolve_right (by omega)
        · rw [up_a (by omega), up_s]; exact (rw_ 15).resolve_right (by omega)
        · rw [up_s]; exact (rw_ 16).resolve_right (by omega)
      · rw [up_i hx, up_i hx, up_i hx, up_i hx]
        exact Eq k k0 k1 x x0 (by omega)

/-- an element -/
theorem t_copyE {q : Hp} {l l' x E : Int} (Lq : LAY q) (hl : l ∈ in_aX23) (hl' : l' ∈ in_aX23) (hd : l + 20 < l' ∨ l' + 20 < l) (x0 : 0 ≤ x) (xE : x < E) (E5 : E ≤ 500) (eE : q l 3 = E) (c0 : 0 ≤ q (l' + 10) x) (c6 : q (l' + 10) x ≤ 6) :
    Pz (m_X23_copy_l122 l l' x q) (sE (fun r => r.1 = x + 1 ∧ F2 (fun b j => (l + 5 ≤ b ∧ b ≤ l + 12 ∧ j = x) ∨ (l + 13 ≤ b ∧ b ≤ l + 16 ∧ 6 * x ≤ j ∧ j < 6 * x + 6)) q r.2 ∧ (∀ k, 5 ≤ k → k ≤ 12 → r.2 (l + k) x = q (l' + k) x) ∧ ∀ k, 13 ≤ k → k ≤ 16 → ∀ y, 0 ≤ y → y < q (l' + 10) x → r.2 (l + k) (6 * x + y) = q (l' + k) (6 * x + y)) (fun _ => False)) := by
  have h23 := aX23 hl
  have h23' := aX23 hl'
  unfold m_X23_copy_l122
  rw [eE]
  refine z_ie (by omega) ?_
  have s0 := g_X23_9 Lq hl'
  have d0 := g_X23_9 Lq hl
  simp only [s0.1, s0.2.1, s0.2.2, d0.1, d0.2.1, d0.2.2]
  rw [gd_t ⟨by decide, x0, by omega⟩, gd_t ⟨by decide, x0, by omega⟩, pt_e]
  have L0 : LAY (up q (l + 5) x (q (l' + 5) x)) := crW_l Lq hl (F2.refl.put (by unfold crW; omega))
  have s1 := g_X23_10 L0 hl'
  have d1 := g_X23_10 L0 hl
  simp only [s1.1, s1.2.1, s1.2.2, d1.1, d1.2.1, d1.2.2]
  rw [gd_t ⟨by decide, x0, by omega⟩, gd_t ⟨by decide, x0, by omega⟩, pt_e, show (up q (l + 5) x (q (l' + 5) x)) (l' + 6) x = q (l' + 6) x by rw [up_a (by omega)]]
  have L1 : LAY (up (up q (l + 5) x (q (l' + 5) x)) (l + 6) x (q (l' + 6) x)) := crW_l L0 hl (F2.refl.put (by unfold crW; omega))
  have s2 := g_X23_11 L1 hl'
  have d2 := g_X23_11 L1 hl
  simp only [s2.1, s2.2.1, s2.2.2, d2.1, d2.2.1, d2.2.2]
  rw [gd_t ⟨by decide, x0, by omega⟩, gd_t ⟨by decide, x0, by omega⟩, pt_e, show (up (up q (l + 5) x (q (l' + 5) x)) (l + 6) x (q (l' + 6) x)) (l' + 7) x = q (l' + 7) x by rw [up_a (by omega), up_a (by omega)]]
  have L2 : LAY (up (up (up q (l + 5) x (q (l' + 5) x)) (l + 6) x (q (l' + 6) x)) (l + 7) x (q (l' + 7) x)) := crW_l L1 hl (F2.refl.put (by unfold crW; omega))
  have s3 := g_X23_12 L2 hl'
  have d3 := g_X23_12 L2 hl
  simp only [s3.1, s3.2.1, s3.2.2, d3.1, d3.2.1, d3.2.2]
  rw [gd_t ⟨by decide, x0, by omega⟩, gd_t ⟨by decide, x0, by omega⟩, pt_e, show (up (up (up q (l + 5) x (q (l' + 5) x)) (l + 6) x (q (l' + 6) x)) (l + 7) x (q (l' + 7) x)) (l' + 8) x = q (l' + 8) x by rw [up_a (by omega), up_a (by omega), up_a (by omega)]]
  have L3 : LAY (up (up (up (up q (l + 5) x (q (l' + 5) x)) (l + 6) x (q (l' + 6) x)) (l + 7) x (q (l' + 7) x)) (l + 8) x (q (l' + 8) x)) := crW_l L2 hl (F2.refl.put (by unfold crW; omega))
  have s4 := g_X23_13 L3 hl'
  have d4 := g_X23_13 L3 hl
  simp only [s4.1, s4.2.1, s4.2.2, d4.1, d4.2.1, d4.2.2]
  rw [gd_t ⟨by decide, x0, by omega⟩, gd_t ⟨by decide, x0, by omega⟩, pt_e, show (up (up (up (up q (l + 5) x (q (l' + 5) x)) (l + 6) x (q (l' + 6) x)) (l + 7) x (q (l' + 7) x)) (l + 8) x (q (l' + 8) x)) (l' + 9) x = q (l' + 9) x by rw [up_a (by omega), up_a (by omega), up_a (by omega), up_a (by omega)]]
  have L4 : LAY (up (up (up (up (up q (l + 5) x (q (l' + 5) x)) (l + 6) x (q (l' + 6) x)) (l + 7) x (q (l' + 7) x)) (l + 8) x (q (l' + 8) x)) (l + 9) x (q (l' + 9) x)) := crW_l L3 hl (F2.refl.put (by unfold crW; omega))
  have s5 := g_X23_14 L4 hl'
  have d5 := g_X23_14 L4 hl
  simp only [s5.1, s5.2.1, s5.2.2, d5.1, d5.2.1, d5.2.2]
  rw [gd_t ⟨by decide, x0, by omega⟩, gd_t ⟨by decide, x0, by omega⟩, pt_e, show (up (up (up (up (up q (l + 5) x (q (l' + 5) x)) (l + 6) x (q (l' + 6) x)) (l + 7) x (q (l' + 7) x)) (l + 8) x (q (l' + 8) x)) (l + 9) x (q (l' + 9) x)) (l' + 10) x = q (l' + 10) x by rw [up_a (by omega), up_a (by omega), up_a (by omega), up_a (by omega), up_a (by omega)]]
  have L5 : LAY (up (up (up (up (up (up q (l + 5) x (q (l' + 5) x)) (l + 6) x (q (l' + 6) x)) (l + 7) x (q (l' + 7) x)) (l + 8) x (q (l' + 8) x)) (l + 9) x (q (l' + 9) x)) (l + 10) x (q (l' + 10) x)) := crW_l L4 hl (F2.refl.put (by unfold crW; omega))
  have s6 := g_X23_15 L5 hl'
  have d6 := g_X23_15 L5 hl
  simp only [s6.1, s6.2.1, s6.2.2, d6.1, d6.2.1, d6.2.2]
  rw [gd_t ⟨by decide, x0, by omega⟩, gd_t ⟨by decide, x0, by omega⟩, pt_e, show (up (up (up (up (up (up q (l + 5) x (q (l' + 5) x)) (l + 6) x (q (l' + 6) x)) (l + 7) x (q (l' + 7) x)) (l + 8) x (q (l' + 8) x)) (l + 9) x (q (l' + 9) x)) (l + 10) x (q (l' + 10) x)) (l' + 11) x = q (l' + 11) x by rw [up_a (by omega), up_a (by omega), up_a (by omega), up_a (by omega), up_a (by omega), up_a (by omega)]]
  have L6 : LAY (up (up (up (up (up (up (up q (l + 5) x (q (l' + 5) x)) (l + 6) x (q (l' + 6) x)) (l + 7) x (q (l' + 7) x)) (l + 8) x (q (l' + 8) x)) (l + 9) x (q (l' + 9) x)) (l + 10) x (q (l' + 10) x)) (l + 11) x (q (l' + 11) x)) := crW_l L5 hl (F2.refl.put (by unfold crW; omega))
  have s7 := g_X23_16 L6 hl'
  have d7 := g_X23_16 L6 hl
  simp only [s7.1, s7.2.1, s7.2.2, d7.1, d7.2.1, d7.2.2]
  rw [gd_t ⟨by decide, x0, by omega⟩, gd_t ⟨by decide, x0, by omega⟩, pt_e, show (up (up (up (up (up (up (up q (l + 5) x (q (l' + 5) x)) (l + 6) x (q (l' + 6) x)) (l + 7) x (q (l' + 7) x)) (l + 8) x (q (l' + 8) x)) (l + 9) x (q (l' + 9) x)) (l + 10) x (q (l' + 10) x)) (l + 11) x (q (l' + 11) x)) (l' + 12) x = q (l' + 12) x by rw [up_a (by omega), up_a (by omega), up_a (by omega), up_a (by omega), up_a (by omega), up_a (by omega), up_a (by omega)]]
  have L7 : LAY (up (up (up (up (up (up (up (up q (l + 5) x (q (l' + 5) x)) (l + 6) x (q (l' + 6) x)) (l + 7) x (q (l' + 7) x)) (l + 8) x (q (l' + 8) x)) (l + 9) x (q (l' + 9) x)) (l + 10) x (q (l' + 10) x)) (l + 11) x (q (l' + 11) x)) (l + 12) x (q (l' + 12) x)) := crW_l L6 hl (F2.refl.put (by unfold crW; omega))
  rw [lt_e, e32 (x := 6 * x) (by omega) (by omega)]
  clear s0 d0 s1 d1 s2 d2 s3 d3 s4 d4 s5 d5 s6 d6 s7 d7 L0 L1 L2 L3 L4 L5 L6
  have F0 : F2 (fun b j => l + 5 ≤ b ∧ b ≤ l + 12 ∧ j = x) q (up (up (up (up (up (up (up (up q (l + 5) x (q (l' + 5) x)) (l + 6) x (q (l' + 6) x)) (l + 7) x (q (l' + 7) x)) (l + 8) x (q (l' + 8) x)) (l + 9) x (q (l' + 9) x)) (l + 10) x (q (l' + 10) x)) (l + 11) x (q (l' + 11) x)) (l + 12) x (q (l' + 12) x)) := by
    repeat' first
      | exact F2.refl
      | refine F2.put ?_ (by omega)
  have v5 : (up (up (up (up (up (up (up (up q (l + 5) x (q (l' + 5) x)) (l + 6) x (q (l' + 6) x)) (l + 7) x (q (l' + 7) x)) (l + 8) x (q (l' + 8) x)) (l + 9) x (q (l' + 9) x)) (l + 10) x (q (l' + 10) x)) (l + 11) x (q (l' + 11) x)) (l + 12) x (q (l' + 12) x)) (l + 5) x = q (l' + 5) x := by rw [up_a (by omega), up_a (by omega), up_a (by omega), up_a (by omega), up_a (by omega), up_a (by omega), up_a (by omega), up_s]
  have v6 : (up (up (up (up (up (up (up (up q (l + 5) x (q (l' + 5) x)) (l + 6) x (q (l' + 6) x)) (l + 7) x (q (l' + 7) x)) (l + 8) x (q (l' + 8) x)) (l + 9) x (q (l' + 9) x)) (l + 10) x (q (l' + 10) x)) (l + 11) x (q (l' + 11) x)) (l + 12) x (q (l' + 12) x)) (l + 6) x = q (l' + 6) x := by rw [up_a (by omega), up_a (by omega), up_a (by omega), up_a (by omega), up_a (by omega), up_a (by omega), up_s]
  have v7 : (up (up (up (up (up (up (up (up q (l + 5) x (q (l' + 5) x)) (l + 6) x (q (l' + 6) x)) (l + 7) x (q (l' + 7) x)) (l + 8) x (q (l' + 8) x)) (l + 9) x (q (l' + 9) x)) (l + 10) x (q (l' + 10) x)) (l + 11) x (q (l' + 11) x)) (l + 12) x (q (l' + 12) x)) (l + 7) x = q (l' + 7) x := by rw [up_a (by omega), up_a (by omega), up_a (by omega), up_a (by omega), up_a (by omega), up_s]
  have v8 : (up (up (up (up (up (up (up (up q (l + 5) x (q (l' + 5) x)) (l + 6) x (q (l' + 6) x)) (l + 7) x (q (l' + 7) x)) (l + 8) x (q (l' + 8) x)) (l + 9) x (q (l' + 9) x)) (l + 10) x (q (l' + 10) x)) (l + 11) x (q (l' + 11) x)) (l + 12) x (q (l' + 12) x)) (l + 8) x = q (l' + 8) x := by rw [up_a (by omega), up_a (by omega), up_a (by omega), up_a (by omega), up_s]
  have v9 : (up (up (up (up (up (up (up (up q (l + 5) x (q (l' + 5) x)) (l + 6) x (q (l' + 6) x)) (l + 7) x (q (l' + 7) x)) (l + 8) x (q (l' + 8) x)) (l + 9) x (q (l' + 9) x)) (l + 10) x (q (l' + 10) x)) (l + 11) x (q (l' + 11) x)) (l + 12) x (q (l' + 12) x)) (l + 9) x = q (l' + 9) x := by rw [up_a (by omega), up_a (by omega), up_a (by omega), up_s]
  have v10 : (up (up (up (up (up (up (up (up q (l + 5) x (q (l' + 5) x)) (l + 6) x (q (l' + 6) x)) (l + 7) x (q (l' + 7) x)) (l + 8) x (q (l' + 8) x)) (l + 9) x (q (l' + 9) x)) (l + 10) x (q (l' + 10) x)) (l + 11) x (q (l' + 11) x)) (l + 12) x (q (l' + 12) x)) (l + 10) x = q (l' + 10) x := by rw [up_a (by omega), up_a (by omega), up_s]
  have v11 : (up (up (up (up (up (up (up (up q (l + 5) x (q (l' + 5) x)) (l + 6) x (q (l' + 6) x)) (l + 7) x (q (l' + 7) x)) (l + 8) x (q (l' + 8) x)) (l + 9) x (q (l' + 9) x)) (l + 10) x (q (l' + 10) x)) (l + 11) x (q (l' + 11) x)) (l + 12) x (q (l' + 12) x)) (l + 11) x = q (l' + 11) x := by rw [up_a (by omega), up_s]
  have v12 : (up (up (up (up (up (up (up (up q (l + 5) x (q (l' + 5) x)) (l + 6) x (q (l' + 6) x)) (l + 7) x (q (l' + 7) x)) (l + 8) x (q (l' + 8) x)) (l + 9) x (q (l' + 9) x)) (l + 10) x (q (l' + 10) x)) (l + 11) x (q (l' + 11) x)) (l + 12) x (q (l' + 12) x)) (l + 12) x = q (l' + 12) x := by rw [up_s]
  generalize up (up (up (up (up (up (up (up q (l + 5) x (q (l' + 5) x)) (l + 6) x (q (l' + 6) x)) (l + 7) x (q (l' + 7) x)) (l + 8) x (q (l' + 8) x)) (l + 9) x (q (l' + 9) x)) (l + 10) x (q (l' + 10) x)) (l + 11) x (q (l' + 11) x)) (l + 12) x (q (l' + 12) x) = g at *
  refine z_bind (z_mono (t_copyF (c := q (l' + 10) x) L7 hl hl' hd x0 (by omega) v10 c0 c6) (fun g' hg => ?_))
  obtain ⟨g1, g2⟩ := hg
  rw [lt_e, e32 (x := x + 1) (by omega) (by omega)]
  refine z_some ⟨rfl, (F0.mono (fun b j z => Or.inl z)).trans (g1.mono (fun b j z => Or.inr (by omega))), fun k k0 k1 => ?_, fun k k0 k1 y y0 y1 => ?_⟩
  · show g' (l + k) x = _
    rw [g1 _ _ (by omega)]
    have hk : k = 5 ∨ k = 6 ∨ k = 7 ∨ k = 8 ∨ k = 9 ∨ k = 10 ∨ k = 11 ∨ k = 12 := by omega
    rcases hk with rfl | rfl | rfl | rfl | rfl | rfl | rfl | rfl
    · exact v5
    · exact v6
    · exact v7
    · exact v8
    · exact v9
    · exact v10
    · exact v11
    · exact v12
  · show g' (l + k) (6 * x + y) = _
    rw [g2 k k0 k1 y y0 y1, F0 _ _ (by omega)]

theorem t_copyM {h : Hp} {l l' M : Int} (hL : LAY h) (hl : l ∈ in_aX23) (hl' : l' ∈ in_aX23) (hd : l + 20 < l' ∨ l' + 20 < l) (M0 : 0 ≤ M) (M1 : M ≤ 16000) (eM : h l 2 = M) :
    Pz (lp (fun (q : Int × Hp) => m_X23_copy_l70 l l' q.1 q.2) (0, h)) (fun h' => F2 (fun b j => l + 2 ≤ b ∧ b < l + 2 + 3 ∧ 0 ≤ j ∧ j < M) h h' ∧ ∀ k, 2 ≤ k → k ≤ 4 → ∀ m, 0 ≤ m → m < M → h' (l + k) m = h (l' + k) m) := by
  have h23 := aX23 hl
  refine z_rows (n := M) (d := l + 2) (m := 3) (g := fun k x => h (l' + 2 + k) x) M0 (by decide) (fun x q x0 x1 Fq => ?_) (fun q Fq Eq => ?_)
  · have Lq : LAY q := crW_l hL hl (Fq.mono (fun b j z => by unfold crW; omega))
    have qM : q l 2 = M := by rw [Fq _ _ (by omega)]; exact eM
    have ql : ∀ k, 2 ≤ k → k ≤ 4 → q (l' + k) x = h (l' + k) x := fun k k0 k1 => Fq _ _ (by omega)
    show ∃ q', m_X23_copy_l70 l l' x q = _ ∧ _
    unfold m_X23_copy_l70
    rw [qM, if_neg (by omega)]
    have s0 := g_X23_6 Lq hl'
    have d0 := g_X23_6 Lq hl
    simp only [s0.1, s0.2.1, s0.2.2, d0.1, d0.2.1, d0.2.2]
    rw [gd_t ⟨by decide, x0, by omega⟩, gd_t ⟨by decide, x0, by omega⟩, pt_e]
    have L0 : LAY (up q (l + 2) x (q (l' + 2) x)) := crW_l Lq hl (F2.refl.put (by unfold crW; omega))
    have s1 := g_X23_7 L0 hl'
    have d1 := g_X23_7 L0 hl
    simp only [s1.1, s1.2.1, s1.2.2, d1.1, d1.2.1, d1.2.2]
    rw [gd_t ⟨by decide, x0, by omega⟩, gd_t ⟨by decide, x0, by omega⟩, pt_e, show (up q (l + 2) x (q (l' + 2) x)) (l' + 3) x = q (l' + 3) x by rw [up_a (by omega)]]
    have L1 : LAY (up (up q (l + 2) x (q (l' + 2) x)) (l + 3) x (q (l' + 3) x)) := crW_l L0 hl (F2.refl.put (by unfold crW; omega))
    have s2 := g_X23_8 L1 hl'
    have d2 := g_X23_8 L1 hl
    simp only [s2.1, s2.2.1, s2.2.2, d2.1, d2.2.1, d2.2.2]
    rw [gd_t ⟨by decide, x0, by omega⟩, gd_t ⟨by decide, x0, by omega⟩, pt_e, show (up (up q (l + 2) x (q (l' + 2) x)) (l + 3) x (q (l' + 3) x)) (l' + 4) x = q (l' + 4) x by rw [up_a (by omega), up_a (by omega)]]
    have L2 : LAY (up (up (up q (l + 2) x (q (l' + 2) x)) (l + 3) x (q (l' + 3) x)) (l + 4) x (q (l' + 4) x)) := crW_l L1 hl (F2.refl.put (by unfold crW; omega))
    rw [lt_e, e32 (x := x + 1) (by omega) (by omega)]
    refine ⟨_, rfl, ?_, fun k k0 k1 => ?_⟩
    · repeat' first
        | exact F2.refl
        | refine F2.put ?_ (by omega)
    · have hk : k = 0 ∨ k = 1 ∨ k = 2 := by omega
      rcases hk with rfl | rfl | rfl
      · rw [show l + 2 + 0 = l + 2 by omega, show l' + 2 + 0 = l' + 2 by omega, up_a (by omega), up_a (by omega), up_s]; exact ql 2 (by decide) (by decide)
      · rw [show l + 2 + 1 = l + 3 by omega, show l' + 2 + 1 = l' + 3 by omega, up_a (by omega), up_s]; exact ql 3 (by decide) (by decide)
      · rw [show l + 2 + 2 = l + 4 by omega, show l' + 2 + 2 = l' + 4 by omega, up_s]; exact ql 4 (by decide) (by decide)
  · show Pz (m_X23_copy_l70 l l' M q) _
    unfold m_X23_copy_l70
    have qM : q l 2 = M := by rw [Fq _ _ (by omega)]; exact eM
    rw [qM]
    refine z_it (Int.le_refl _) (z_some ⟨Fq, fun k k0 k1 m m0 m1 => ?_⟩)
    have := Eq (k - 2) m (by omega) (by omega) m0 m1
    rwa [show l + 2 + (k - 2) = l + k by omega, show l' + 2 + (k - 2) = l' + k by omega] at this
theorem t_copyT {h : Hp} {l l' n : Int} (hL : LAY h) (hl : l ∈ in_aX23) (hl' : l' ∈ in_aX23) (hd : l + 20 < l' ∨ l' + 20 < l) (n0 : 0 ≤ n) (n1 : n ≤ 16000) (en : h l 1 = n) :
    Pz (lp (fun (q : Int × Hp) => m_X23_copy_l42 l l' q.1 q.2) (0, h)) (fun h' => F2 (fun b j => b = l + 1 ∧ 0 ≤ j ∧ j < n) h h' ∧ ∀ j, 0 ≤ j → j < n → h' (l + 1) j = h (l' + 1) j) := by
  have h23 := aX23 hl
  refine z_fill (g := h (l' + 1)) (n := n) (d := l + 1) (s := 0) n0 (fun x q x0 x1 F => ?_) (fun q F E => ?_)
  · have Lq : LAY q := crW_l hL hl (F.mono (fun b j z => by unfold crW; omega))
    have s0 := g_X23_0 Lq hl'
    have d0 := g_X23_0 Lq hl
    have qn : q l 1 = n := by rw [F _ _ (by omega)]; exact en
    have ru : q (l' + 1) = h (l' + 1) := F.row (fun j z => by omega)
    show m_X23_copy_l42 l l' x q = _
    unfold m_X23_copy_l42
    rw [qn, if_neg (by omega)]
    simp only [s0.1, s0.2.1, s0.2.2, d0.1, d0.2.1, d0.2.2]
    rw [gd_t ⟨by decide, x0, by omega⟩, gd_t ⟨by decide, x0, by omega⟩, pt_e, lt_e, e32 (x := x + 1) (by omega) (by omega), ru, Int.zero_add]
  · have qn : q l 1 = n := by rw [F _ _ (by omega)]; exact en
    show Pz (m_X23_copy_l42 l l' n q) _
    unfold m_X23_copy_l42
    rw [qn]
    exact z_it (Int.le_refl n) (z_some ⟨F.mono (fun b j z => ⟨z.1, by omega, by omega⟩), fun j j0 j1 => by
      have := E j j0 j1
      rwa [Int.zero_add] at this⟩)
/-- the copy -/
theorem t_copy {h p : Hp} {l l' a n N E F M : Int} {s : Int → List Int} (hL : LAY h) (hl : l ∈ in_aX23) (hl' : l' ∈ in_aX23) (hd : l + 20 < l' ∨ l' + 20 < l) (R : SA (vw h l') p a n N s E F M) :
    Pz (m_X23_copy l l' h) (fun h' => F2 (crW l) h h' ∧ SXt (vw h l') h' l n E M) := by
  have h23 := aX23 hl
  obtain ⟨⟨n0, n1, -, sn, -, -, sE, sM⟩, -, ⟨-, E0, E5, -⟩, -, R5, ⟨-, M0, M1, -⟩, -⟩ := R
  rw [vw_0] at sn sE sM
  have R10 : ∀ e, 0 ≤ e → e < E → 0 ≤ h (l' + 10) e ∧ h (l' + 10) e ≤ 6 := fun e e0 e1 => ⟨(R5 e e0 e1).2.1, (R5 e e0 e1).2.2.1⟩
  unfold m_X23_copy
  have kk := (ly_X23 hL hl').1
  clear R5
  refine z_gd kk (z_pt (z_pt (z_pt (z_pt (z_pt (z_lt ?_))))))
  simp only [up_a (show l' ≠ l by omega), sn, sM, sE]
  have F0 : F2 (fun b j => b = l ∧ (j = 1 ∨ j = 2 ∨ j = 3 ∨ j = 4 ∨ j = 5)) h (up (up (up (up (up h l 1 n) l 2 M) l 3 E) l 4 (h l' 4)) l 5 (h l' 5)) := by
    repeat' first
      | exact F2.refl
      | refine F2.put ?_ (by omega)
  have v1 : up (up (up (up (up h l 1 n) l 2 M) l 3 E) l 4 (h l' 4)) l 5 (h l' 5) l 1 = n := by (try simp (disch := omega) only [up_a, up_e, up_j, e32, e8])
  have v2 : up (up (up (up (up h l 1 n) l 2 M) l 3 E) l 4 (h l' 4)) l 5 (h l' 5) l 2 = M := by (try simp (disch := omega) only [up_a, up_e, up_j, e32, e8])
  have v3 : up (up (up (up (up h l 1 n) l 2 M) l 3 E) l 4 (h l' 4)) l 5 (h l' 5) l 3 = E := by (try simp (disch := omega) only [up_a, up_e, up_j, e32, e8])
  generalize up (up (up (up (up h l 1 n) l 2 M) l 3 E) l 4 (h l' 4)) l 5 (h l' 5) = g at *
  have Lg : LAY g := crW_l hL hl (F0.mono (fun b j z => by unfold crW; omega))
  refine z_bind (z_mono (t_copyT Lg hl hl' hd n0 (by omega) v1) (fun g1 k1 => z_lt ?_))
  obtain ⟨f1, t1⟩ := k1
  have L1 : LAY g1 := crW_l Lg hl (f1.mono (fun b j z => by unfold crW; omega))
  refine z_bind (z_mono (t_copyM L1 hl hl' hd M0 (by omega) (by rw [f1 _ _ (by omega)]; exact v2)) (fun g2 k2 => z_lt ?_))
  obtain ⟨f2, t2⟩ := k2
  have L2 : LAY g2 := crW_l L1 hl (f2.mono (fun b j z => by unfold crW; omega))
  have F02 : F2 (fun b j => (b = l ∧ (j = 1 ∨ j = 2 ∨ j = 3 ∨ j = 4 ∨ j = 5)) ∨ (l + 1 ≤ b ∧ b ≤ l + 4 ∧ 0 ≤ j)) h g2 := ((F0.mono (fun b j z => Or.inl z)).trans (f1.mono (fun b j z => Or.inr (by omega)))).trans (f2.mono (fun b j z => Or.inr (by omega)))
  have g2a : g2 l 1 = n ∧ g2 l 2 = M ∧ g2 l 3 = E := by
    rw [f2 _ _ (by omega), f1 _ _ (by omega), f2 _ _ (by omega), f1 _ _ (by omega), f2 _ _ (by omega), f1 _ _ (by omega)]
    exact ⟨v1, v2, v3⟩
  have tx : ∀ j, 0 ≤ j → j < n → g2 (l + 1) j = h (l' + 1) j := fun j j0 j1 => by
    rw [f2 _ _ (by omega), t1 j j0 j1, F0 _ _ (by omega)]
  have mx : ∀ k, 2 ≤ k → k ≤ 4 → ∀ m, 0 ≤ m → m < M → g2 (l + k) m = h (l' + k) m := fun k k0 k1 m m0 m1 => by
    rw [t2 k k0 k1 m m0 m1, f1 _ _ (by omega), F0 _ _ (by omega)]
  have ol : ∀ b j, l' ≤ b → b ≤ l' + 20 → g2 b j = h b j := fun b j b0 b1 => F02 _ _ (by omega)
  clear f1 f2 t1 t2 F0 v1 v2 v3 L1 Lg
  refine z_bind (z_mono (z_lp (Q := fun h' => F2 (crW l) h h' ∧ SXt (vw h l') h' l n E M) (fun (s : Int × Hp) => 0 ≤ s.1 ∧ s.1 ≤ E ∧ F2 (fun b j => l + 5 ≤ b ∧ b ≤ l + 16 ∧ 0 ≤ j) g2 s.2 ∧ (∀ k, 5 ≤ k → k ≤ 12 → ∀ e, 0 ≤ e → e < s.1 → s.2 (l + k) e = h (l' + k) e) ∧ ∀ k, 13 ≤ k → k ≤ 16 → ∀ e x, 0 ≤ e → e < s.1 → 0 ≤ x → x < h (l' + 10) e → s.2 (l + k) (6 * e + x) = h (l' + k) (6 * e + x)) (fun s => (E - s.1).toNat) ⟨Int.le_refl _, E0, F2.refl, fun k _ _ e z0 z1 => by dsimp only at z1; omega, fun k _ _ e x z0 z1 => by dsimp only at z1; omega⟩ ?_) (fun r hr => z_some hr))
  rintro ⟨y, q⟩ ⟨y0, y1, Fq, Eq, Gq⟩
  dsimp only at y0 y1 Eq Gq
  replace Fq : F2 (fun b j => l + 5 ≤ b ∧ b ≤ l + 16 ∧ 0 ≤ j) g2 q := Fq
  have Lq : LAY q := crW_l L2 hl (Fq.mono (fun b j z => by unfold crW; omega))
  have qE : q l 3 = E := by rw [Fq _ _ (by omega)]; exact g2a.2.2
  show Pz (m_X23_copy_l122 l l' y q) _
  by_cases hy : y = E
  · unfold m_X23_copy_l122
    rw [qE]
    refine z_it (by omega) (z_some ⟨(F02.mono (fun b j z => by unfold crW; omega)).trans (Fq.mono (fun b j z => by unfold crW; omega)), ⟨?_, ?_, ?_⟩, fun j j0 j1 => ?_, fun k k0 k1 m m0 m1 => ?_, fun k k0 k1 e e0 e1 => Eq k k0 k1 e e0 (by omega), fun k k0 k1 e x e0 e1 x0 x1 => Gq k k0 k1 e x e0 (by omega) x0 x1⟩)
    · rw [Fq _ _ (by omega)]; exact g2a.1
    · rw [Fq _ _ (by omega)]; exact g2a.2.1
    · exact qE
    · rw [Fq _ _ (by omega)]; exact tx j j0 j1
    · rw [Fq _ _ (by omega)]; exact mx k k0 k1 m m0 m1
  · have oq : ∀ b j, l' ≤ b → b ≤ l' + 20 → q b j = h b j := fun b j b0 b1 => by rw [Fq _ _ (by omega)]; exact ol b j b0 b1
    have r10 := R10 y y0 (by omega)
    rw [← oq _ _ (by omega) (by omega)] at r10
    refine z_mono (t_copyE Lq hl hl' hd y0 (by omega) E5 qE r10.1 r10.2) (fun r hr => ?_)
    cases r with
    | inr r => exact absurd hr (fun z => z)
    | inl r =>
      obtain ⟨r1, r2, r3, r4⟩ := hr
      obtain ⟨ry, rh⟩ := r
      dsimp only at r1 r2 r3 r4
      subst r1
      refine ⟨⟨by dsimp only; omega, by dsimp only; omega, Fq.trans (r2.mono (fun b j z => by omega)), fun k k0 k1 e e0 e1 => ?_, fun k k0 k1 e x e0 e1 x0 x1 => ?_⟩, by dsimp only; omega⟩
      · dsimp only at e1 ⊢
        by_cases he : e = y
        · rw [he, r3 k k0 k1, oq _ _ (by omega) (by omega)]
        · rw [r2 _ _ (by omega)]; exact Eq k k0 k1 e e0 (by omega)
      · dsimp only at e1 ⊢
        by_cases he : e = y
        · rw [he] at x1 ⊢
          rw [r4 k k0 k1 x x0 (by rw [oq _ _ (by omega) (by omega)]; exact x1), oq _ _ (by omega) (by omega)]
        · have c6 := (R10 e e0 (by omega)).2
          rw [r2 _ _ (by omega)]; exact Gq k k0 k1 e x e0 (by omega) x0 x1
