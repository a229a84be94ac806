set_option maxRecDepth 100000
/-! THE CALL font() -/
/-- out of side by side: first the one, then the other from wherever it may start -/
theorem pr_seq {α β : Type} {C : Option α} {T : Hp → Option β} {P : Hp → Prop} {Q : Hp → α → β → Prop} (h0 : ∃ t, P t) (k : ∀ t, P t → Pr C (T t) (Q t)) : Pz C (fun x => ∀ t, P t → Pz (T t) (fun y => Q t x y)) := by
  obtain ⟨t0, p0⟩ := h0
  obtain ⟨x, y, e1, e2, e3⟩ := k t0 p0
  refine ⟨x, e1, fun t pt => ?_⟩
  obtain ⟨x', y', g1, g2, g3⟩ := k t pt
  cases e1.symm.trans g1
  exact ⟨y', g2, g3⟩
def bgW (a : Int) : Int → Int → Prop := fun b j => b = a ∧ 0 ≤ j ∧ j ≤ 7
theorem c_begin {h : Hp} {n : Int} (hL : LAY h) (hb : BY h 2 n) (n0 : 0 ≤ n) (n1 : n ≤ 16384) (rm : RM h 1 7) : Pz (m_X2_begin 3 n h) (fun h' => F2 (bgW 3) h h' ∧ CS h' n (Bt h 2 n) 0) := by
  obtain ⟨u0, u1, u2, u3⟩ := ly_X2 hL
  unfold m_X2_begin
  refine z_pt (z_pt ?_)
  have L1 : LAY (up h 3 1 n) := hL.put (by decide) (by decide) (by rw [u0]; decide)
  have L2 : LAY (up (up h 3 1 n) 3 2 0) := L1.put (by decide) (by decide) (by rw [(ly_X2 L1).1]; decide)
  have fr : F2 (bgW 3) h (up (up h 3 1 n) 3 2 0) := (F2.refl.put ⟨rfl, by decide, by decide⟩).put ⟨rfl, by decide, by decide⟩
  have r2 : up (up h 3 1 n) 3 2 0 2 = h 2 := by rw [up_row (by decide), up_row (by decide)]
  have x : TX (up (up h 3 1 n) 3 2 0) 3 2 n := by
    refine ⟨?_, ?_, ?_, ?_, by decide, n1⟩
    · rw [up_i (by decide), up_i (by decide)]; exact u1
    · rw [up_i (by decide), up_s]
    · rw [r2, u2]; decide
    · rw [r2, u3]; exact n1
  have hB : Bt (up (up h 3 1 n) 3 2 0) 2 n = Bt h 2 n := Bt_h r2
  refine z_bind (z_mono (c_next x (up_s _ _ _ _) (by decide) n0) (fun h' hh => z_some ?_))
  rw [hB] at hh
  obtain ⟨g1, g2⟩ := hh
  have q2 : h' 2 = h 2 := (g1.row (fun j z => absurd z.1 (by decide))).trans r2
  refine ⟨fr.trans (g1.mono (fun b j z => ⟨z.1, by have := z.2.1; omega, z.2.2⟩)), L2.F2 g1 (fun b j z => ?_), x.F2 g1 (fun z => absurd z.2.1 (by decide)) (fun z => absurd z.2.1 (by decide)) (fun z => absurd z.1 (by decide)) (fun z => absurd z.1 (by decide)), fun j a1 a2 => by rw [q2]; exact hb j a1 a2, Bt_h q2, g2, by decide, n0, ?_⟩
  · obtain ⟨z1, z2, z3⟩ := z
    rw [z1, (ly_X2 L2).1]
    exact ⟨by omega, by decide, (nx_fx z2 z3).1⟩
  · have e0 : ∀ j, h' 0 j = h 0 j := fun j => by rw [g1 0 j (fun z => absurd z.1 (by decide)), up_a (by decide), up_a (by decide)]
    unfold RM
    rw [e0, e0]; exact rm
theorem t_open {h : Hp} {a t n : Int} (hL : LAY h) (ha : a ∈ in_aX20) (ht1 : h t (-2) % 16 = 2) (ht2 : n ≤ h t (-1)) (ht3 : h t (-1) ≤ 65536) (hta : t ≠ a) (n0 : 0 ≤ n) (n1 : n ≤ 16384) (rm : RM h 1 7) : Pz (m_X20_open a t n h) (fun h' => F2 (bgW a) h h' ∧ TS h' a t n (Bt h t n) 0) := by
  have h5 := aX20 ha
  have u0 := ly_X20 hL ha
  unfold m_X20_open
  refine z_pt (z_pt (z_pt ?_))
  have L0 : LAY (up h a 0 t) := hL.put (by decide) (by omega) (by rw [u0]; decide)
  have L1 : LAY (up (up h a 0 t) a 1 n) := L0.put (by decide) (by omega) (by rw [ly_X20 L0 ha]; decide)
  have L2 : LAY (up (up (up h a 0 t) a 1 n) a 2 0) := L1.put (by decide) (by omega) (by rw [ly_X20 L1 ha]; decide)
  have fr : F2 (bgW a) h (up (up (up h a 0 t) a 1 n) a 2 0) := ((F2.refl.put ⟨rfl, by decide, by decide⟩).put ⟨rfl, by decide, by decide⟩).put ⟨rfl, by decide, by decide⟩
  have r2 : up (up (up h a 0 t) a 1 n) a 2 0 t = h t := by rw [up_row hta, up_row hta, up_row hta]
  have x : TX (up (up (up h a 0 t) a 1 n) a 2 0) a t n := by
    refine ⟨?_, ?_, ?_, ?_, hta, n1⟩
    · rw [up_i (by decide), up_i (by decide), up_s]
    · rw [up_i (by decide), up_s]
    · rw [r2]; exact ht1
    · rw [r2]; exact ht2
  have hB : Bt (up (up (up h a 0 t) a 1 n) a 2 0) t n = Bt h t n := Bt_h r2
  refine z_bind (z_mono (t_next x (up_s _ _ _ _) (by decide) n0) (fun h' hh => z_some ?_))
  rw [hB] at hh
  obtain ⟨g1, g2⟩ := hh
  have q2 : h' t = h t := (g1.row (fun j z => hta z.1)).trans r2
  refine ⟨fr.trans (g1.mono (fun b j z => ⟨z.1, by have := z.2.1; omega, z.2.2⟩)), L2.F2 g1 (fun b j z => ?_), x.F2 g1 (fun z => absurd z.2.1 (by decide)) (fun z => absurd z.2.1 (by decide)) (fun z => hta z.1) (fun z => hta z.1), Bt_h q2, g2, by decide, n0, ?_, ha, by rw [q2]; exact ht3⟩
  · obtain ⟨z1, z2, z3⟩ := z
    rw [z1, ly_X20 L2 ha]
    exact ⟨by omega, by omega, (nx_fx z2 z3).2⟩
  · have e0 : ∀ j, h' 0 j = h 0 j := fun j => by rw [g1 0 j (fun z => by have := z.1; omega), up_a (by omega), up_a (by omega), up_a (by omega)]
    unfold RM
    rw [e0, e0]; exact rm
/-- the fonts, at rest -/
def RFr (h : Hp) (f l : Int) : Prop := ∃ nk nj, (∀ c, 0 ≤ c → c < 128 → h (f + 1) c = h (l + 1) c ∧ 0 ≤ h (f + 1) c ∧ h (f + 1) c ≤ 5000) ∧ (h l 2 = nk ∧ 0 ≤ nk ∧ nk ≤ 200) ∧ (h l 3 = nj ∧ 0 ≤ nj ∧ nj ≤ 60) ∧ PR h h (f + 3) (l + 3) (l + 4) nk 1000 0 (-500) 500 ∧ PR h h (f + 4) (l + 5) (l + 6) nj 0 1 0 5000
theorem rf_clear {hc ht : Hp} {f l : Int} (c1 : ∀ c, 0 ≤ c → c < 128 → hc (f + 1) c = 500 ∧ hc (f + 2) c = 0) (c2 : ∀ p, 0 ≤ p → p < 16384 → hc (f + 3) p = 1000 ∧ hc (f + 4) p = 0) (c3 : hc f 4 = 0) (d1 : ∀ c, 0 ≤ c → c < 256 → ht (l + 1) c = 500 ∧ ht (l + 2) c = 0) (d2 : ht l 2 = 0) (d3 : ht l 3 = 0) : RF hc ht f l 0 0 := by
  refine ⟨fun c h0 h1 => ?_, fun c h0 h1 => (d1 c (by omega) h1).2, ?_, ⟨d2, by decide, by decide⟩, ⟨d3, by decide, by decide⟩, ⟨fun k h1 h2 => by omega, fun k j h1 h2 => by omega, fun a b a0 a1 b0 b1 _ => (c2 _ (by omega) (by omega)).1⟩, ⟨fun k h1 h2 => by omega, fun k j h1 h2 => by omega, fun a b a0 a1 b0 b1 _ => (c2 _ (by omega) (by omega)).2⟩⟩
  · have a := c1 c h0 h1
    have b := d1 c h0 (by omega)
    rw [a.1, a.2, b.1, b.2]
    exact ⟨rfl, by decide, by decide, rfl, Or.inl rfl⟩
  · rw [c3, cntW_0 128 (fun j h1 h2 => (c1 j h1 h2).2)]
theorem all_told {h : Hp} {l nk nj : Int} (hl : l ∈ in_aX19) (hL : LAY h) (h1 : h l 2 = nk ∧ 0 ≤ nk ∧ nk ≤ 200) (h2 : h l 3 = nj ∧ 0 ≤ nj ∧ nj ≤ 60) (h3 : ∀ c, 128 ≤ c → c < 256 → h (l + 2) c = 0) : m_X19_all l h = some (cntW (h (l + 2)) 128 + (nk + nj)) := by
  obtain ⟨-, -, ⟨u1, u2, u3⟩, -⟩ := ly_X19 hL hl
  have key : ∀ m : Nat, 128 + m ≤ 256 → cntW (h (l + 2)) (128 + m) = cntW (h (l + 2)) 128 := by
    intro m
    induction m with
    | zero => intro _; rfl
    | succ m ih =>
      intro hm
      have e0 : h (l + 2) ((128 + m : Nat) : Int) = 0 := h3 _ (by omega) (by omega)
      show cntW (h (l + 2)) (128 + m) + (if h (l + 2) ((128 + m : Nat) : Int) = 0 then 0 else 1) = _
      rw [ih (by omega), if_pos e0]
      omega
  have e256 := key 128 (by decide)
  have L : Pz (lp (fun (q : Int × Int) => m_X19_all_l12 l q.1 q.2 h) (nk + nj, 0)) (fun r => r = nk + nj + cntW (h (l + 2)) 256) := by
    refine z_lp (I := fun s : Int × Int => ∃ k : Nat, k ≤ 256 ∧ s.2 = k ∧ s.1 = nk + nj + cntW (h (l + 2)) k) (μ := fun s => (256 - s.2).toNat) ⟨0, by decide, rfl, by show nk + nj = nk + nj + 0; omega⟩ ?_
    rintro ⟨x, y⟩ ⟨k, k1, e1, e2⟩
    dsimp only at e1 e2
    subst e1 e2
    have cr := cntW_r (g := h (l + 2)) k
    show Pz (m_X19_all_l12 l (nk + nj + cntW (h (l + 2)) k) (k : Int) h) _
    unfold m_X19_all_l12 m_X19_all_j34
    refine z_if (fun hc => z_some ?_) (fun hc => ?_)
    · have : k = 256 := by omega
      subst this; rfl
    · rw [u1]
      refine z_gd ⟨by rw [u2]; decide, by omega, by rw [u3]; omega⟩ ?_
      refine z_if (fun hz => z_lt (z_lt (z_some ⟨⟨k + 1, by omega, ?_, ?_⟩, ?_⟩))) (fun hz => z_lt (z_lt (z_some ⟨⟨k + 1, by omega, ?_, ?_⟩, ?_⟩)))
      · show w32 ((k : Int) + 1) = ((k + 1 : Nat) : Int)
        rw [e32 (by omega) (by omega)]; omega
      · show w32 (nk + nj + cntW (h (l + 2)) k + 0) = nk + nj + (cntW (h (l + 2)) k + _)
        rw [e32 (by omega) (by omega), if_pos hz]; omega
      · show (256 - w32 ((k : Int) + 1)).toNat < (256 - (k : Int)).toNat
        rw [e32 (by omega) (by omega)]; omega
      · show w32 ((k : Int) + 1) = ((k + 1 : Nat) : Int)
        rw [e32 (by omega) (by omega)]; omega
      · show w32 (nk + nj + cntW (h (l + 2)) k + 1) = nk + nj + (cntW (h (l + 2)) k + _)
        rw [e32 (by omega) (by omega), if_neg hz]; omega
      · show (256 - w32 ((k : Int) + 1)).toNat < (256 - (k : Int)).toNat
        rw [e32 (by omega) (by omega)]; omega
  obtain ⟨r, e1, e2⟩ := L
  unfold m_X19_all lt_
  show (lp (fun (q : Int × Int) => m_X19_all_l12 l q.1 q.2 h) (w32 (h l 2 + h l 3), 0)).bind (fun x => some x) = _
  rw [h1.1, h2.1, e32 (x := nk + nj) (by omega) (by omega), e1, Option.bind_some, e2, e256]
  congr 1
  omega
