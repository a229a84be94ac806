-- needs: 99zzzzn
set_option maxRecDepth 100000
/-! SHAPES: paragraphs by their slots -/
def poA (h : Hp) (b u : Int) (AA : Int → Hp) : Prop := b ∈ in_aX14 ∧ h b 9 = u ∧ 0 ≤ u ∧ u ≤ 1200 ∧ ∀ k, 0 ≤ k → k < u → pgA h (h (b + 15) k) (b + 1) (AA k)
/-- the last before m in a slot -/
def lsP (AA : Int → Hp) (v : Int) : Nat → Int
  | 0 => -1
  | k + 1 => if slS (AA k) = v then (k : Int) else lsP AA v k
theorem lsP_r {AA : Int → Hp} {v : Int} : ∀ m : Nat, -1 ≤ lsP AA v m ∧ lsP AA v m < m ∧ (0 ≤ lsP AA v m → slS (AA (lsP AA v m)) = v) ∧ ∀ k : Int, lsP AA v m < k → k < m → slS (AA k) ≠ v := by
  intro m
  induction m with
  | zero =>
    have e : lsP AA v 0 = -1 := rfl
    rw [e]
    exact ⟨Int.le_refl _, by decide, fun z => absurd z (by decide), fun k k0 k1 => by omega⟩
  | succ m ih =>
    obtain ⟨i1, i2, i3, i4⟩ := ih
    unfold lsP
    by_cases h : slS (AA m) = v
    · rw [if_pos h]
      exact ⟨by omega, by omega, fun _ => h, fun k k0 k1 => by omega⟩
    · rw [if_neg h]
      refine ⟨i1, by omega, i3, fun k k0 k1 => ?_⟩
      by_cases hk : k = m
      · rw [hk]; exact h
      · exact i4 k k0 (by omega)
/-- the slots are told up to m -/
def htO (h : Hp) (AA : Int → Hp) (m : Int) : Prop := (∀ v, 0 ≤ v → v ≤ 255 → h 489 v = lsP AA v m.toNat) ∧ ∀ k, 0 ≤ k → k < m → h 488 k = lsP AA (slS (AA k)) k.toNat
def shW (b : Int) : Int → Int → Prop := fun q j => (q = 487 ∧ j = 0) ∨ ((q = 488 ∨ q = 489) ∧ 0 ≤ j)
theorem rgH : ([(488, 489)] : List (Int × Int)).all rgA = true ∧ ([(487, [0])] : List (Int × List Int)).all rgO = true := ⟨by decide +kernel, by decide +kernel⟩
theorem shW_l {h h' : Hp} {b : Int} (hL : LAY h) (f : F2 (shW b) h h') : LAY h' :=
  lay_W hL f _ _ rgH.1 rgH.2 (fun q j z => by
    unfold shW at z
    rcases z with z | z
    · exact ⟨by omega, Or.inr ⟨_, List.mem_cons_self, z.1, by rw [z.2]; exact List.mem_cons_self⟩⟩
    · exact ⟨z.2, Or.inl ⟨_, List.mem_cons_self, by dsimp only; omega, by dsimp only; omega⟩⟩)
theorem poA.kept {h h' : Hp} {b u : Int} {AA : Int → Hp} (C : poA h b u AA) (e0 : h' b 9 = h b 9) (e1 : h' (b + 15) = h (b + 15)) (e2 : ∀ k, 0 ≤ k → k < u → ∀ j, j ≤ 16 → h' (h (b + 15) k) j = h (h (b + 15) k) j) (e3 : ∀ q, b + 2 ≤ q → q ≤ b + 6 → h' q = h q) : poA h' b u AA := by
  obtain ⟨c1, c2, c3, c4, c5⟩ := C
  refine ⟨c1, by rw [e0]; exact c2, c3, c4, fun k k0 k1 => ?_⟩
  rw [e1]
  refine (c5 k k0 k1).kept (e2 k k0 k1) (fun j _ => ?_) (fun j _ => ?_)
  · rw [e3 (b + 1 + 1) (by omega) (by omega), e3 (b + 1 + 2) (by omega) (by omega)]; exact ⟨rfl, rfl⟩
  · rw [e3 (b + 1 + 4) (by omega) (by omega), e3 (b + 1 + 5) (by omega) (by omega)]; exact ⟨rfl, rfl⟩
theorem c_begin17 {h : Hp} {b u : Int} {AA : Int → Hp} (hL : LAY h) (hb : b = 0 ∨ poA h b u AA) :
    Pz (m_X17_begin 487 b h) (fun g => F2 (shW b) h g ∧ g 487 0 = b ∧ (b = 0 → ∀ v, 0 ≤ v → v ≤ 255 → g 489 v = -1) ∧ (b ≠ 0 → htO g AA u)) := by
  unfold m_X17_begin
  rw [pt_e]
  have F1 : F2 (shW b) h (up h 487 0 b) := F2.refl.put (Or.inl ⟨rfl, rfl⟩)
  have b0 : up h 487 0 b 487 0 = b := up_s _ _ _ _
  generalize up h 487 0 b = g0 at F1 b0 ⊢
  refine z_lt (z_bind (z_mono (z_lp (Q := fun g => F2 (shW b) h g ∧ g 487 0 = b ∧ ∀ v, 0 ≤ v → v ≤ 255 → g 489 v = -1) (fun (q : Int × Hp) => 0 ≤ q.1 ∧ q.1 ≤ 256 ∧ F2 (shW b) h q.2 ∧ q.2 487 0 = b ∧ ∀ v, 0 ≤ v → v < q.1 → q.2 489 v = -1) (fun q => (256 - q.1).toNat) ⟨Int.le_refl _, show (0 : Int) ≤ 256 by decide, F1, b0, fun v v0 v1 => by dsimp only at v1; omega⟩ ?_) (fun g1 hg1 => ?_)))
  · rintro ⟨x, g⟩ ⟨x0, x1, Fg, bg, G⟩
    dsimp only at x0 x1 bg G
    replace Fg : F2 (shW b) h g := Fg
    have k2 := g_X17_2 (shW_l hL Fg)
    show Pz (m_X17_begin_l7 487 x g) _
    unfold m_X17_begin_l7
    simp only [k2]
    refine z_gd (by decide) ?_
    by_cases hx : 256 ≤ x
    · rw [if_pos hx]
      exact z_some ⟨Fg, bg, fun v v0 v1 => G v v0 (by omega)⟩
    rw [if_neg hx]
    refine z_gd ⟨by decide, x0, by omega⟩ (z_pt (z_lt ?_))
    rw [e32 (x := x + 1) (by omega) (by omega)]
    refine z_some ⟨⟨show 0 ≤ x + 1 by omega, show x + 1 ≤ 256 by omega, Fg.put (Or.inr ⟨Or.inr rfl, x0⟩), by dsimp only; rw [up_a (by decide)]; exact bg, fun v v0 v1 => ?_⟩, by dsimp only; omega⟩
    dsimp only at v1 ⊢
    by_cases hv : v = x
    · rw [hv, up_s]
    · rw [up_j hv]; exact G v v0 (by omega)
  obtain ⟨F2_, b1, Z1⟩ := hg1
  rw [b1]
  by_cases hb0 : b = 0
  · rw [if_neg (fun z => z hb0)]
    exact z_some ⟨F2_, b1, fun _ => Z1, fun z => absurd hb0 z⟩
  rw [if_pos hb0]
  have C : poA h b u AA := hb.resolve_left hb0
  obtain ⟨c1, c2, c3, c4, c5⟩ := id C
  have hb' : 292 ≤ b ∧ b ≤ 422 := by have := aX14 c1; omega
  have hP : ∀ k, 0 ≤ k → k < u → 983 ≤ h (b + 15) k := fun k k0 k1 => (c5 k k0 k1).1.2.2.2
  have keep : ∀ {g}, F2 (shW b) h g → LAY g ∧ poA g b u AA := fun {g} Fg => ⟨shW_l hL Fg, C.kept (Fg _ _ (fun z => by unfold shW at z; omega)) (Fg.row (fun j z => by unfold shW at z; omega)) (fun k k0 k1 j _ => Fg _ _ (fun z => by have := hP k k0 k1; unfold shW at z; omega)) (fun q q0 q1 => Fg.row (fun j z => by unfold shW at z; omega))⟩
  refine z_lt (z_bind (z_mono (z_lp (Q := fun g => F2 (shW b) h g ∧ g 487 0 = b ∧ htO g AA u) (fun (q : Int × Hp) => 0 ≤ q.1 ∧ q.1 ≤ u ∧ F2 (shW b) h q.2 ∧ q.2 487 0 = b ∧ htO q.2 AA q.1) (fun q => (u - q.1).toNat) ⟨Int.le_refl _, c3, F2_, b1, fun v v0 v1 => Z1 v v0 v1, fun k k0 k1 => by dsimp only at k1; omega⟩ ?_) (fun r hr => z_some ⟨hr.1, hr.2.1, fun z => absurd z hb0, fun _ => hr.2.2⟩)))
  rintro ⟨x, g⟩ ⟨x0, x1, Fg, bg, G⟩
  dsimp only at x0 x1 bg G
  replace Fg : F2 (shW b) h g := Fg
  obtain ⟨Lg, Cg⟩ := keep Fg
  show Pz (m_X17_begin_l39 487 x g) _
  unfold m_X17_begin_l39
  have k8 := g_X14_8 Lg c1
  have k2 := g_X17_2 Lg
  have k1 := g_X17_1 Lg
  simp only [bg, g_X14 Lg c1, Cg.2.1, k8, k2, k1]
  refine z_gd trivial ?_
  by_cases hx : u ≤ x
  · rw [if_pos hx]
    have : x = u := by omega
    subst this
    exact z_some ⟨Fg, bg, G⟩
  rw [if_neg hx]
  obtain ⟨es, s0, s1⟩ := c_slot Lg (Cg.2.2.2.2 x x0 (by omega))
  refine z_gd ⟨by decide, x0, by omega⟩ ?_
  rw [es, Option.bind_some]
  refine z_gd ⟨by decide, s0, by omega⟩ (z_gd ⟨by decide, x0, by omega⟩ (z_pt ?_))
  have F3 : F2 (shW b) h (up g 488 x (g 489 (slS (AA x)))) := Fg.put (Or.inr ⟨Or.inl rfl, x0⟩)
  have k2' := g_X17_2 (keep F3).1
  simp only [k2']
  refine z_gd ⟨by decide, s0, by omega⟩ (z_pt (z_lt ?_))
  rw [e32 (x := x + 1) (by omega) (by omega)]
  refine z_some ⟨⟨show 0 ≤ x + 1 by omega, show x + 1 ≤ u by omega, F3.put (Or.inr ⟨Or.inr rfl, s0⟩), by dsimp only; rw [up_a (by decide), up_a (by decide)]; exact bg, fun v v0 v1 => ?_, fun k k0 k1 => ?_⟩, by dsimp only; omega⟩
  · dsimp only
    rw [show (x + 1).toNat = x.toNat + 1 by omega]
    unfold lsP
    rw [show ((x.toNat : Nat) : Int) = x by omega]
    by_cases hv : slS (AA x) = v
    · rw [if_pos hv, hv, up_s]
    · rw [if_neg hv, up_j (fun z => hv z.symm), up_a (by decide)]; exact G.1 v v0 v1
  · dsimp only at k1 ⊢
    rw [up_a (by decide)]
    by_cases hk : k = x
    · rw [hk, up_s]; exact G.1 _ s0 s1
    · rw [up_j hk]; exact G.2 k k0 (by omega)
theorem c_find17 {h : Hp} {b u P R : Int} {AA : Int → Hp} {A : Hp} (hL : LAY h) (eb : h 487 0 = b) (hb : (b = 0 ∧ ∀ v, 0 ≤ v → v ≤ 255 → h 489 v = -1) ∨ (poA h b u AA ∧ htO h AA u)) (C : pgA h P R A) :
    Pz (m_X17_find 487 P h) (fun Q => (Q = 0 ∧ (b ≠ 0 → ∀ k, 0 ≤ k → k < u → ¬ smP (AA k) A)) ∨ (b ≠ 0 ∧ ∃ k, 0 ≤ k ∧ k < u ∧ Q = h (b + 15) k ∧ smP (AA k) A)) := by
  obtain ⟨es, s0, s1⟩ := c_slot hL C
  have k2 := g_X17_2 hL
  have k1 := g_X17_1 hL
  unfold m_X17_find
  rw [es, Option.bind_some]
  simp only [k2]
  refine z_gd ⟨by decide, s0, by omega⟩ (z_lt ?_)
  rcases hb with ⟨b0, Z⟩ | ⟨po, ht⟩
  · rw [Z _ s0 s1]
    refine z_bind ⟨-1, lp_out ?_, ?_⟩
    · show m_X17_find_l10 487 P (-1) h = _
      unfold m_X17_find_l10
      rw [if_pos (by decide)]
    · refine z_ie (by decide) ?_
      exact z_some (Or.inl ⟨rfl, fun z => absurd b0 z⟩)
  · obtain ⟨c1, c2, c3, c4, c5⟩ := id po
    have hb' : 292 ≤ b ∧ b ≤ 422 := by have := aX14 c1; omega
    have k8 := g_X14_8 hL c1
    rw [ht.1 _ s0 s1]
    refine z_bind (z_mono (z_lp (Q := fun k => (k < 0 ∧ ∀ k', 0 ≤ k' → k' < u → ¬ smP (AA k') A) ∨ (0 ≤ k ∧ k < u ∧ smP (AA k) A)) (fun (k : Int) => -1 ≤ k ∧ k < u ∧ (0 ≤ k → slS (AA k) = slS A) ∧ ∀ k', k < k' → k' < u → ¬ smP (AA k') A) (fun k => (k + 1).toNat) ?_ ?_) (fun k hk => ?_))
    · obtain ⟨r1, r2, r3, r4⟩ := lsP_r (AA := AA) (v := slS A) u.toNat
      refine ⟨r1, by omega, r3, fun k' x0 x1 z => r4 k' x0 (by omega) ?_⟩
      exact slS_congr (c5 k' (by omega) x1).2.2.1.2.1 z
    · rintro k ⟨x0, x1, x2, x3⟩
      show Pz (m_X17_find_l10 487 P k h) _
      unfold m_X17_find_l10
      by_cases hk : k < 0
      · rw [if_pos hk]
        exact z_some (Or.inl ⟨hk, fun k' y0 y1 => x3 k' (by omega) y1⟩)
      rw [if_neg hk]
      simp only [eb, g_X14 hL c1, k8, k1]
      refine z_gd trivial (z_gd ⟨by decide, by omega, by omega⟩ (z_gd (c5 k (by omega) x1).1.1 (z_bind (z_mono (c_isSame hL (c5 k (by omega) x1) C) (fun v hv => ?_)))))
      rcases hv with ⟨v1, v2⟩ | ⟨v1, v2⟩
      · rw [if_pos (by omega)]
        exact z_some (Or.inr ⟨by omega, x1, v2⟩)
      · rw [if_neg (by omega)]
        refine z_gd ⟨by decide, by omega, by omega⟩ (z_lt (z_some ?_))
        rw [ht.2 k (by omega) x1, x2 (by omega)]
        obtain ⟨r1, r2, r3, r4⟩ := lsP_r (AA := AA) (v := slS A) k.toNat
        refine ⟨⟨r1, by omega, r3, fun k' y0 y1 z => ?_⟩, by omega⟩
        by_cases h1 : k < k'
        · exact x3 k' h1 y1 z
        · by_cases h2 : k' = k
          · rw [h2] at z; exact v2 z
          · exact r4 k' y0 (by omega) (slS_congr (c5 k' (by omega) y1).2.2.1.2.1 z)
    · rcases hk with ⟨y1, y2⟩ | ⟨y1, y2, y3⟩
      · rw [if_neg (by omega)]
        exact z_some (Or.inl ⟨rfl, fun _ => y2⟩)
      · rw [if_pos y1]
        simp only [eb, g_X14 hL c1, k8]
        refine z_gd trivial (z_gd ⟨by decide, y1, by omega⟩ (z_some (Or.inr ⟨by omega, k, y1, y2, rfl, y3⟩)))
