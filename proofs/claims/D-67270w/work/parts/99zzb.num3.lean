set_option maxRecDepth 100000
/-! NUMBERS: the reference writes them -/
/-- what stands in the reference's digits -/
def dgH (h : Hp) (l : Int) (n : Int) (L : List Int) : Prop := n = L.length ∧ wd h (l + 46) 0 L.length = L
def dgW (l : Int) : Int → Int → Prop := fun b j => b = l + 46 ∧ 0 ≤ j
theorem dgW_l {h h' : Hp} {l : Int} (hL : LAY h) (hl : l ∈ in_aX24) (f : F2 (dgW l) h h') : LAY h' := trW_l hL hl (f.mono (fun b j z => by unfold dgW at z; unfold trW crW; omega))
theorem t_put24 {h : Hp} {l n c : Int} {L : List Int} (hL : LAY h) (hl : l ∈ in_aX24) (D : dgH h l n L) (ln : L.length < 40) (c0 : -128 ≤ c) (c1 : c ≤ 127) : Pz (m_X24_put l n c h) (fun r => F2 (dgW l) h r.2 ∧ dgH r.2 l r.1 (L ++ [c])) := by
  have k := g_X24_25 hL hl
  obtain ⟨D1, D2⟩ := D
  unfold m_X24_put
  simp only [k.1, k.2.1, k.2.2]
  rw [e8 c0 (by omega)]
  refine z_gd ⟨by decide, by omega, by omega⟩ (z_pt (z_some ⟨F2.refl.put ⟨rfl, by omega⟩, ?_, ?_⟩))
  · show w32 (n + 1) = _
    rw [e32 (by omega) (by omega), List.length_append, D1]; rfl
  · show wd (up h (l + 46) n c) (l + 46) 0 (L ++ [c]).length = L ++ [c]
    rw [List.length_append]
    show wd _ (l + 46) 0 (L.length + 1) = L ++ [c]
    rw [wd_succ]
    congr 1
    · refine Eq.trans ?_ D2
      refine (wd_eq wd_len).mpr (fun x hx => ?_)
      rw [wd_at hx, up_j (by omega)]
    · rw [Int.zero_add, ← D1, up_s]
/-- digits that were written from the end are moved to the front -/
theorem t_shift {F : Int × Hp → Option ((Int × Hp) ⊕ (Int × Hp))} {h : Hp} {l n : Int} {L : List Int} (hL : LAY h) (hl : l ∈ in_aX24) (en : n = L.length) (n1 : L.length ≤ 19) (w : wd h (l + 46) (40 - n) L.length = L)
    (eF : ∀ k q, F (k, q) = if n ≤ k then some (.inr (n, q)) else gd (q (q l 25) (-2) % 16 = 2 ∧ (0 : Int) ≤ (w32 ((w32 (40 - n)) + k)) ∧ (w32 ((w32 (40 - n)) + k)) < q (q l 25) (-1)) (gd (q (q l 25) (-2) % 16 = 2 ∧ (0 : Int) ≤ k ∧ k < q (q l 25) (-1)) (pt q (q l 25) k (q (q l 25) (w32 ((w32 (40 - n)) + k))) fun h104 => lt_ (w32 (k + 1)) fun x5 => some (.inl (x5, h104))))) :
    Pz (lp F (0, h)) (fun r => F2 (dgW l) h r.2 ∧ dgH r.2 l r.1 L) := by
  refine z_lp (fun (s : Int × Hp) => 0 ≤ s.1 ∧ s.1 ≤ n ∧ F2 (fun b j => b = l + 46 ∧ 0 ≤ j ∧ j < s.1) h s.2 ∧ ∀ k, 0 ≤ k → k < s.1 → s.2 (l + 46) k = h (l + 46) (40 - n + k)) (fun s => (n - s.1).toNat) ⟨Int.le_refl _, by dsimp only; omega, F2.refl, fun k z0 z1 => by dsimp only at z1; omega⟩ ?_
  rintro ⟨x, q⟩ ⟨x0, x1, Fq, Ek⟩
  dsimp only at x0 x1 Ek
  replace Fq : F2 (fun b j => b = l + 46 ∧ 0 ≤ j ∧ j < x) h q := Fq
  have Lq := dgW_l hL hl (Fq.mono (fun b j z => ⟨z.1, z.2.1⟩))
  have k := g_X24_25 Lq hl
  rw [eF x q]
  by_cases hx : n ≤ x
  · have : x = n := by omega
    subst this
    refine z_it hx (z_some ⟨Fq.mono (fun b j z => ⟨z.1, z.2.1⟩), en, ?_⟩)
    refine Eq.trans ?_ w
    refine (wd_eq wd_len).mpr (fun y hy => ?_)
    dsimp only
    rw [wd_at hy, Int.zero_add, Ek y (by omega) (by omega)]
  · refine z_ie hx ?_
    simp only [k.1, k.2.1, k.2.2]
    rw [e32 (x := 40 - n) (by omega) (by omega), e32 (x := 40 - n + x) (by omega) (by omega)]
    refine z_gd ⟨by decide, by omega, by omega⟩ (z_gd ⟨by decide, x0, by omega⟩ (z_pt (z_lt (z_some ?_))))
    rw [e32 (x := x + 1) (by omega) (by omega)]
    refine ⟨⟨by dsimp only; omega, by dsimp only; omega, (Fq.mono (fun b j z => by omega)).put (by omega), fun y y0 y1 => ?_⟩, by dsimp only; omega⟩
    dsimp only at y1 ⊢
    by_cases hy : y = x
    · rw [hy, up_s, Fq _ _ (by omega)]
    · rw [up_j hy]; exact Ek y y0 (by omega)
theorem decL_pos (x : Nat) : 1 ≤ (decL x).length := by
  by_cases h9 : x < 10
  · rw [decL_1 h9]; exact Nat.le_refl _
  · rw [decL_2 h9, List.length_append, List.length_singleton]
    exact Nat.le_add_left _ _
/-- one more ahead of them -/
theorem wd_pre {h : Hp} {l n c : Int} {L : List Int} (en : n = L.length) (w : wd h (l + 46) (40 - n) L.length = L) (n0 : n ≤ 30) : wd (up h (l + 46) (39 - n) c) (l + 46) (40 - (n + 1)) (c :: L).length = c :: L := by
  refine (wd_eq rfl).mpr (fun x hx => ?_)
  cases x with
  | zero =>
    rw [show 40 - (n + 1) + ((0 : Nat) : Int) = 39 - n by omega, up_s]; rfl
  | succ x =>
    have := (wd_eq (h := h) (t := l + 46) (i := 40 - n) (k := L.length) rfl).mp w x (by simp at hx; omega)
    rw [up_j (by omega), show 40 - (n + 1) + ((x + 1 : Nat) : Int) = 40 - n + (x : Int) by omega]
    exact this
theorem t_dec24 {h : Hp} {l : Int} {v : Nat} (hL : LAY h) (hl : l ∈ in_aX24) (hv : v ≤ 1000000) : Pz (m_X24_form_j39 l v h) (fun r => F2 (dgW l) h r.2 ∧ dgH r.2 l r.1 (decL v)) := by
  have dl := decL_len 6 v (by omega)
  unfold m_X24_form_j39
  refine z_lt (z_bind (z_mono (z_lp (Q := fun (r : Int × Hp) => F2 (dgW l) h r.2 ∧ r.1 = (decL v).length ∧ wd r.2 (l + 46) (40 - r.1) (decL v).length = decL v) (fun (s : Int × Int × Hp) => ∃ (x : Nat) (A : List Int), s.2.1 = x ∧ x ≤ v ∧ s.1 = A.length ∧ F2 (dgW l) h s.2.2 ∧ decL v = decL x ++ A ∧ wd s.2.2 (l + 46) (40 - s.1) A.length = A) (fun s => s.2.1.toNat) ⟨v, [], rfl, Nat.le_refl _, rfl, F2.refl, by rw [List.append_nil], rfl⟩ ?_) ?_))
  · rintro ⟨n, y, q⟩ ⟨x, A, ex, xv, en, Fq, eA, wA⟩
    dsimp only at ex en wA
    subst ex
    replace Fq : F2 (dgW l) h q := Fq
    have Lq := dgW_l hL hl Fq
    have k := g_X24_25 Lq hl
    have al : A.length ≤ 6 := by
      have al : (decL v).length = (decL x).length + A.length := by rw [eA, List.length_append]
      have xl := decL_pos x
      generalize (decL v).length = u1 at *
      generalize (decL x).length = u2 at *
      omega
    clear dl
    show Pz (m_X24_form_l44 l n x q) _
    unfold m_X24_form_l44
    simp only [k.1, k.2.1, k.2.2]
    have tm : Int.tmod (x : Int) 10 = ((x % 10 : Nat) : Int) := by rw [Int.tmod_eq_emod_of_nonneg (by omega)]; omega
    have td : w32 (Int.tdiv (x : Int) 10) = ((x / 10 : Nat) : Int) := by rw [Int.tdiv_eq_ediv_of_nonneg (by omega), e32 (by omega) (by omega)]; omega
    rw [e32 (x := 39 - n) (by omega) (by omega), tm, e32 (x := 48 + ((x % 10 : Nat) : Int)) (by omega) (by omega), e8 (by omega) (by omega)]
    refine z_gd ⟨by decide, by omega, by omega⟩ (z_pt (z_lt (z_lt ?_)))
    rw [td, e32 (x := n + 1) (by omega) (by omega)]
    clear td tm k hv
    have F1 : F2 (dgW l) h (up q (l + 46) (39 - n) (48 + ((x % 10 : Nat) : Int))) := Fq.put ⟨rfl, by omega⟩
    have w1 := wd_pre (c := 48 + ((x % 10 : Nat) : Int)) en wA (by omega)
    by_cases h10 : x < 10
    rotate_left
    · have h0 : 0 < ((x / 10 : Nat) : Int) := by omega
      refine z_it h0 (z_some ⟨⟨x / 10, (48 + ((x % 10 : Nat) : Int)) :: A, rfl, by omega, ?_, F1, ?_, w1⟩, by dsimp only; omega⟩)
      · dsimp only; rw [List.length_cons]; omega
      · rw [eA, decL_2 h10, List.append_assoc, List.singleton_append]
    · have h0 : ¬ 0 < ((x / 10 : Nat) : Int) := by omega
      have e1 : decL v = (48 + ((x % 10 : Nat) : Int)) :: A := by
        rw [eA, decL_1 h10, Nat.mod_eq_of_lt h10, List.singleton_append]
      refine z_ie h0 (z_some ⟨F1, ?_, ?_⟩)
      · dsimp only; rw [e1, List.length_cons]; omega
      · dsimp only; rw [e1]; exact w1
  · rintro ⟨n, q⟩ ⟨Fq, en, wq⟩
    dsimp only at en wq ⊢
    replace Fq : F2 (dgW l) h q := Fq
    refine z_lt (z_bind (z_mono (t_shift (F := fun (s : Int × Hp) => m_X24_form_l80 l n s.1 s.2) (dgW_l hL hl Fq) hl en (by omega) wq (fun k q => rfl)) (fun r hr => z_some ⟨Fq.trans hr.1, hr.2⟩)))
theorem t_let24 {h : Hp} {l : Int} {v : Nat} (hL : LAY h) (hl : l ∈ in_aX24) (hv : v ≤ 1000000) (v1 : 1 ≤ v) : Pz (m_X24_letters l v h) (fun r => F2 (dgW l) h r.2 ∧ dgH r.2 l r.1 (letL v)) := by
  have dl := letL_len 5 v (by omega)
  have e0 : ∀ x : Nat, 1 ≤ x → letL x = (if (x - 1) / 26 = 0 then [] else letL ((x - 1) / 26)) ++ [97 + (((x - 1) % 26 : Nat) : Int)] := fun x hx => by
    by_cases h0 : (x - 1) / 26 = 0
    · rw [if_pos h0, letL_1 h0, List.nil_append]
    · rw [if_neg h0, letL_2 h0]
  unfold m_X24_letters
  refine z_lt (z_bind (z_mono (z_lp (Q := fun (r : Int × Hp) => F2 (dgW l) h r.2 ∧ r.1 = (letL v).length ∧ wd r.2 (l + 46) (40 - r.1) (letL v).length = letL v) (fun (s : Int × Int × Hp) => ∃ (x : Nat) (A : List Int), s.2.1 = x ∧ x ≤ v ∧ s.1 = A.length ∧ F2 (dgW l) h s.2.2 ∧ letL v = (if x = 0 then [] else letL x) ++ A ∧ wd s.2.2 (l + 46) (40 - s.1) A.length = A) (fun s => s.2.1.toNat) ⟨v, [], rfl, Nat.le_refl _, rfl, F2.refl, by rw [if_neg (by omega), List.append_nil], rfl⟩ ?_) ?_))
  · rintro ⟨n, y, q⟩ ⟨x, A, ex, xv, en, Fq, eA, wA⟩
    dsimp only at ex en wA
    subst ex
    replace Fq : F2 (dgW l) h q := Fq
    have Lq := dgW_l hL hl Fq
    have k := g_X24_25 Lq hl
    show Pz (m_X24_letters_l4 l n x q) _
    unfold m_X24_letters_l4
    by_cases hx : (x : Int) ≤ 0
    · rw [if_pos (show x = 0 by omega), List.nil_append] at eA
      rw [← eA] at wA en
      exact z_it hx (z_some ⟨Fq, en, wA⟩)
    · rw [if_neg (show ¬ x = 0 by omega), e0 x (by omega), List.append_assoc] at eA
      have al : A.length ≤ 5 := by
        have al := congrArg List.length eA
        rw [List.length_append, List.length_append, List.length_singleton] at al
        generalize (letL v).length = u1 at *
        generalize (if (x - 1) / 26 = 0 then [] else letL ((x - 1) / 26)).length = u2 at *
        omega
      clear dl
      refine z_ie hx (z_lt ?_)
      rw [e32 (x := (x : Int) + -1) (by omega) (by omega)]
      simp only [k.1, k.2.1, k.2.2]
      have tm : Int.tmod ((x : Int) + -1) 26 = (((x - 1) % 26 : Nat) : Int) := by rw [Int.tmod_eq_emod_of_nonneg (by omega)]; omega
      have td : w32 (Int.tdiv ((x : Int) + -1) 26) = (((x - 1) / 26 : Nat) : Int) := by rw [Int.tdiv_eq_ediv_of_nonneg (by omega), e32 (by omega) (by omega)]; omega
      rw [e32 (x := 39 - n) (by omega) (by omega), tm, e32 (x := 97 + (((x - 1) % 26 : Nat) : Int)) (by omega) (by omega), e8 (by omega) (by omega)]
      refine z_gd ⟨by decide, by omega, by omega⟩ (z_pt (z_lt (z_lt (z_some ?_))))
      rw [td, e32 (x := n + 1) (by omega) (by omega)]
      clear td tm k hv
      have F1 : F2 (dgW l) h (up q (l + 46) (39 - n) (97 + (((x - 1) % 26 : Nat) : Int))) := Fq.put ⟨rfl, by omega⟩
      have w1 := wd_pre (c := 97 + (((x - 1) % 26 : Nat) : Int)) en wA (by omega)
      exact ⟨⟨(x - 1) / 26, (97 + (((x - 1) % 26 : Nat) : Int)) :: A, rfl, by omega, by dsimp only; rw [List.length_cons]; omega, F1, eA, w1⟩, by dsimp only; omega⟩
  · rintro ⟨n, q⟩ ⟨Fq, en, wq⟩
    dsimp only at en wq ⊢
    replace Fq : F2 (dgW l) h q := Fq
    refine z_lt (z_bind (z_mono (t_shift (F := fun (s : Int × Hp) => m_X24_letters_l42 l n s.1 s.2) (dgW_l hL hl Fq) hl en (by omega) wq (fun k q => rfl)) (fun r hr => z_some ⟨Fq.trans hr.1, hr.2⟩)))
