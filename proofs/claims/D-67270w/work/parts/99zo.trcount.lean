set_option maxRecDepth 100000
/-! TREES: counters, on the reference's side -/
/-- the counters behind k elements (1 .. 12) -/
def ctS (sh f : Int → Int) : Nat → Int → Int
  | 0, _ => 0
  | k + 1, j => if sh k ≠ 0 then (if 0 < f (22 * k + 15) ∧ j = f (22 * k + 15) then (if 0 < f (22 * k + 16) ∧ j = f (22 * k + 16) then 0 else ctS sh f k j) + 1 else (if 0 < f (22 * k + 16) ∧ j = f (22 * k + 16) then 0 else ctS sh f k j)) else ctS sh f k j
def vlF (sh f : Int → Int) (e : Int) : Int := if sh e ≠ 0 ∧ 0 < f (22 * e + 15) then ctS sh f (e.toNat + 1) (f (22 * e + 15)) else 0
theorem ctS_r {sh f : Int → Int} {j : Int} : ∀ k : Nat, 0 ≤ ctS sh f k j ∧ ctS sh f k j ≤ k := by
  intro k
  induction k with
  | zero => exact ⟨Int.le_refl _, Int.le_refl _⟩
  | succ k ih =>
    unfold ctS
    repeat' split
    all_goals omega
theorem t_count {h : Hp} {l E : Int} (hL : LAY h) (hl : l ∈ in_aX24) (eE : h (l + 1) 3 = E) (E0 : 0 ≤ E) (E5 : E ≤ 500) (rg : ∀ e, 0 ≤ e → e < E → 0 ≤ h (l + 24) (22 * e + 15) ∧ h (l + 24) (22 * e + 15) ≤ 12 ∧ 0 ≤ h (l + 24) (22 * e + 16) ∧ h (l + 24) (22 * e + 16) ≤ 12) :
    Pz (m_X24_count l h) (fun h' => F2 (fun b j => (b = l + 27 ∨ b = l + 45) ∧ 0 ≤ j) h h' ∧ ∀ e, 0 ≤ e → e < E → h' (l + 27) e = vlF (h (l + 30)) (h (l + 24)) e) := by
  have h24 := aX24 hl
  have lay : ∀ q, F2 (fun b j => (b = l + 27 ∨ b = l + 45) ∧ 0 ≤ j) h q → LAY q := fun q Fq => fl_l hL hl (Fq.mono (fun b j z => by omega))
  unfold m_X24_count
  refine z_lt (z_bind (z_fill (g := fun _ => 0) (n := 12) (d := l + 45) (s := 0) (by decide) (fun x q x0 x1 Fq => ?_) (fun g Fg Eg => ?_)))
  · have Lq := lay q (Fq.mono (fun b j z => by omega))
    show m_X24_count_l2 l x q = _
    unfold m_X24_count_l2
    simp only [g_X24_24 Lq hl]
    rw [if_neg (by omega), gd_t ⟨by decide, x0, by omega⟩, pt_e, lt_e, e32 (x := x + 1) (by omega) (by omega), Int.zero_add]
  · have Fg' : F2 (fun b j => (b = l + 27 ∨ b = l + 45) ∧ 0 ≤ j) h g := Fg.mono (fun b j z => by omega)
    show Pz (m_X24_count_l2 l 12 g) _
    unfold m_X24_count_l2
    refine z_it (by decide) (z_some (z_lt ?_))
    refine z_bind (z_mono (z_lp (Q := fun h' => F2 (fun b j => (b = l + 27 ∨ b = l + 45) ∧ 0 ≤ j) h h' ∧ ∀ e, 0 ≤ e → e < E → h' (l + 27) e = vlF (h (l + 30)) (h (l + 24)) e) (fun (s : Int × Hp) => 0 ≤ s.1 ∧ s.1 ≤ E ∧ F2 (fun b j => (b = l + 27 ∨ b = l + 45) ∧ 0 ≤ j) h s.2 ∧ (∀ e, 0 ≤ e → e < s.1 → s.2 (l + 27) e = vlF (h (l + 30)) (h (l + 24)) e) ∧ ∀ j, 1 ≤ j → j ≤ 12 → s.2 (l + 45) (j - 1) = ctS (h (l + 30)) (h (l + 24)) s.1.toNat j) (fun s => (E - s.1).toNat) ⟨Int.le_refl _, E0, Fg', fun e z0 z1 => by dsimp only at z1; omega, fun j j0 j1 => by
      have := Eg (j - 1) (by omega) (by omega)
      rw [Int.zero_add] at this
      exact this⟩ ?_) (fun r hr => z_some hr))
    rintro ⟨x, q⟩ ⟨x0, x1, Fq, Eq, Gq⟩
    dsimp only at x0 x1 Eq Gq
    replace Fq : F2 (fun b j => (b = l + 27 ∨ b = l + 45) ∧ 0 ≤ j) h q := Fq
    have Lq := lay q Fq
    have qE : q (l + 1) 3 = E := by rw [Fq _ _ (by omega)]; exact eE
    show Pz (m_X24_count_l23 l x q) _
    unfold m_X24_count_l23
    simp only [g_X24_0 Lq hl, (ly_X23 Lq h24.2.2).1, qE]
    refine z_gd trivial ?_
    by_cases hx : E ≤ x
    · have : x = E := by omega
      subst this
      exact z_it hx (z_some ⟨Fq, Eq⟩)
    · refine z_ie hx ?_
      simp only [g_X24_6 Lq hl]
      refine z_gd ⟨by decide, x0, by omega⟩ (z_pt ?_)
      have F1 : F2 (fun b j => (b = l + 27 ∨ b = l + 45) ∧ 0 ≤ j) h (up q (l + 27) x 0) := Fq.put ⟨Or.inl rfl, x0⟩
      have L1 := lay _ F1
      have tx : (x + 1).toNat = x.toNat + 1 := by omega
      have ex : ((x.toNat : Nat) : Int) = x := by omega
      have r := rg x x0 (by omega)
      have q30 : up q (l + 27) x 0 (l + 30) x = h (l + 30) x := F1 _ _ (by omega)
      have of_ : ∀ c, 0 ≤ c → c ≤ 21 → m_X24_of l x c (up q (l + 27) x 0) = some (h (l + 24) (22 * x + c)) := fun c c0 c1 => by
        rw [q_of24 (E := E) L1 hl E5 (by omega) c0 c1]
        unfold ofV
        rw [if_pos x0, F1 _ _ (by omega)]
      have st : ∀ j, ctS (h (l + 30)) (h (l + 24)) (x + 1).toNat j = if h (l + 30) x ≠ 0 then (if 0 < h (l + 24) (22 * x + 15) ∧ j = h (l + 24) (22 * x + 15) then (if 0 < h (l + 24) (22 * x + 16) ∧ j = h (l + 24) (22 * x + 16) then 0 else ctS (h (l + 30)) (h (l + 24)) x.toNat j) + 1 else (if 0 < h (l + 24) (22 * x + 16) ∧ j = h (l + 24) (22 * x + 16) then 0 else ctS (h (l + 30)) (h (l + 24)) x.toNat j)) else ctS (h (l + 30)) (h (l + 24)) x.toNat j := fun j => by
        rw [tx]
        show (if h (l + 30) (x.toNat : Int) ≠ 0 then _ else _) = _
        rw [ex]
      -- the end of a turn
      have fin : ∀ q' : Hp, F2 (fun b j => (b = l + 27 ∧ j = x) ∨ (b = l + 45 ∧ 0 ≤ j)) q q' → q' (l + 27) x = vlF (h (l + 30)) (h (l + 24)) x → (∀ j, 1 ≤ j → j ≤ 12 → q' (l + 45) (j - 1) = ctS (h (l + 30)) (h (l + 24)) (x + 1).toNat j) → Pz (m_X24_count_j112 x q') (sE (fun (s : Int × Hp) => (0 ≤ s.1 ∧ s.1 ≤ E ∧ F2 (fun b j => (b = l + 27 ∨ b = l + 45) ∧ 0 ≤ j) h s.2 ∧ (∀ e, 0 ≤ e → e < s.1 → s.2 (l + 27) e = vlF (h (l + 30)) (h (l + 24)) e) ∧ ∀ j, 1 ≤ j → j ≤ 12 → s.2 (l + 45) (j - 1) = ctS (h (l + 30)) (h (l + 24)) s.1.toNat j) ∧ (E - s.1).toNat < (E - x).toNat) (fun h' => F2 (fun b j => (b = l + 27 ∨ b = l + 45) ∧ 0 ≤ j) h h' ∧ ∀ e, 0 ≤ e → e < E → h' (l + 27) e = vlF (h (l + 30)) (h (l + 24)) e)) := by
        intro q' f1 f2 f3
        unfold m_X24_count_j112
        rw [lt_e, e32 (x := x + 1) (by omega) (by omega)]
        refine z_some ⟨⟨by dsimp only; omega, by dsimp only; omega, Fq.trans (f1.mono (fun b j z => by omega)), fun e e0 e1 => ?_, f3⟩, by dsimp only; omega⟩
        dsimp only at e1 ⊢
        by_cases he : e = x
        · rw [he]; exact f2
        · rw [f1 _ _ (by omega)]; exact Eq e e0 (by omega)
      have k9 := g_X24_9 L1 hl
      simp only [k9.1, k9.2.1, k9.2.2, q30]
      refine z_gd ⟨by decide, x0, by omega⟩ ?_
      by_cases hs : h (l + 30) x = 0
      · refine z_ie (fun z => z hs) (fin _ (F2.refl.put (Or.inl ⟨rfl, rfl⟩)) ?_ (fun j j0 j1 => ?_))
        · rw [up_s]; unfold vlF; rw [if_neg (fun z => z.1 hs)]
        · rw [st, if_neg (fun z => z hs), up_a (by omega)]; exact Gq j j0 j1
      · refine z_it hs ?_
        rw [of_ 16 (by decide) (by decide), Option.bind_some, of_ 15 (by decide) (by decide), Option.bind_some]
        have v : vlF (h (l + 30)) (h (l + 24)) x = if 0 < h (l + 24) (22 * x + 15) then ctS (h (l + 30)) (h (l + 24)) (x + 1).toNat (h (l + 24) (22 * x + 15)) else 0 := by
          unfold vlF
          rw [← tx]
          by_cases z : 0 < h (l + 24) (22 * x + 15)
          · rw [if_pos ⟨hs, z⟩, if_pos z]
          · rw [if_neg (fun y => z y.2), if_neg z]
        simp only [if_pos hs] at st
        generalize h (l + 24) (22 * x + 15) = sp at *
        generalize h (l + 24) (22 * x + 16) = rs at *
        have j82 : ∀ q' : Hp, F2 (fun b j => (b = l + 27 ∧ j = x) ∨ (b = l + 45 ∧ 0 ≤ j)) q q' → q' (l + 27) x = 0 → (∀ j, 1 ≤ j → j ≤ 12 → q' (l + 45) (j - 1) = if 0 < rs ∧ j = rs then 0 else ctS (h (l + 30)) (h (l + 24)) x.toNat j) → Pz (m_X24_count_j82 sp x l q') (sE (fun (s : Int × Hp) => (0 ≤ s.1 ∧ s.1 ≤ E ∧ F2 (fun b j => (b = l + 27 ∨ b = l + 45) ∧ 0 ≤ j) h s.2 ∧ (∀ e, 0 ≤ e → e < s.1 → s.2 (l + 27) e = vlF (h (l + 30)) (h (l + 24)) e) ∧ ∀ j, 1 ≤ j → j ≤ 12 → s.2 (l + 45) (j - 1) = ctS (h (l + 30)) (h (l + 24)) s.1.toNat j) ∧ (E - s.1).toNat < (E - x).toNat) (fun h' => F2 (fun b j => (b = l + 27 ∨ b = l + 45) ∧ 0 ≤ j) h h' ∧ ∀ e, 0 ≤ e → e < E → h' (l + 27) e = vlF (h (l + 30)) (h (l + 24)) e)) := by
          intro q' f1 f2 f3
          have L' := lay q' (Fq.trans (f1.mono (fun b j z => by omega)))
          unfold m_X24_count_j82
          by_cases hsp : sp ≤ 0
          · refine z_it hsp (fin q' f1 ?_ (fun j j0 j1 => ?_))
            · rw [f2, v, if_neg (by omega)]
            · rw [st, if_neg (by omega)]; exact f3 j j0 j1
          · refine z_ie hsp ?_
            have k24 := g_X24_24 L' hl
            have f4 := f3 sp (by omega) (by omega)
            have cr := ctS_r (sh := h (l + 30)) (f := h (l + 24)) (j := sp) x.toNat
            rw [e32 (x := sp - 1) (by omega) (by omega)]
            simp only [k24.1, k24.2.1, k24.2.2, f4]
            have ifr : 0 ≤ (if 0 < rs ∧ sp = rs then 0 else ctS (h (l + 30)) (h (l + 24)) x.toNat sp) ∧ (if 0 < rs ∧ sp = rs then 0 else ctS (h (l + 30)) (h (l + 24)) x.toNat sp) ≤ 500 := by
              split <;> omega
            have s1 := st sp
            rw [if_pos (show 0 < sp ∧ sp = sp from ⟨by omega, rfl⟩)] at s1
            generalize (if 0 < rs ∧ sp = rs then 0 else ctS (h (l + 30)) (h (l + 24)) x.toNat sp) = cv at *
            refine z_gd ⟨by decide, by omega, by omega⟩ (z_pt ?_)
            rw [e32 (x := cv + 1) (by omega) (by omega)]
            have L2 := lay (up q' (l + 45) (sp - 1) (cv + 1)) ((Fq.trans (f1.mono (fun b j z => by omega))).put ⟨Or.inr rfl, by omega⟩)
            have k24' := g_X24_24 L2 hl
            have k6' := g_X24_6 L2 hl
            simp only [k24'.1, k24'.2.1, k24'.2.2, k6'.1, k6'.2.1, k6'.2.2, up_s]
            refine z_gd ⟨by decide, by omega, by omega⟩ (z_gd ⟨by decide, x0, by omega⟩ (z_pt (fin _ ((f1.put (Or.inr ⟨rfl, by omega⟩)).put (Or.inl ⟨rfl, rfl⟩)) ?_ (fun j j0 j1 => ?_))))
            · rw [up_s, v, if_pos (by omega), s1]
            · rw [up_a (by omega)]
              by_cases hj : j = sp
              · rw [hj, up_s, s1]
              · rw [up_j (by omega), st, if_neg (fun z => hj z.2)]; exact f3 j j0 j1
        by_cases hrs : rs ≤ 0
        · refine z_it hrs (j82 _ (F2.refl.put (Or.inl ⟨rfl, rfl⟩)) (up_s _ _ _ _) (fun j j0 j1 => ?_))
          rw [up_a (by omega), if_neg (by omega)]; exact Gq j j0 j1
        · refine z_ie hrs ?_
          have k24 := g_X24_24 L1 hl
          rw [e32 (x := rs - 1) (by omega) (by omega)]
          simp only [k24.1, k24.2.1, k24.2.2]
          refine z_gd ⟨by decide, by omega, by omega⟩ (z_pt (j82 _ ((F2.refl.put (Or.inl ⟨rfl, rfl⟩)).put (Or.inr ⟨rfl, by omega⟩)) ?_ (fun j j0 j1 => ?_)))
          · rw [up_a (by omega), up_s]
          · by_cases hj : j = rs
            · rw [hj, up_s, if_pos ⟨by omega, rfl⟩]
            · rw [up_j (by omega), up_a (by omega), if_neg (fun z => hj z.2)]; exact Gq j j0 j1
