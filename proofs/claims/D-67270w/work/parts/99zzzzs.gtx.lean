-- needs: 99zzzzr
set_option maxRecDepth 100000
/-! GATHERING: texts -/
abbrev TXT := List (Int × Int × Int) × Int
/-- a byte comes to a text -/
def txP (s : TXT) (c z q : Int) : TXT := if c = 10 ∨ c = 32 then (s.1, if s.1 = [] then -1 else if 0 ≤ s.2 then s.2 else z) else (s.1 ++ (if 0 ≤ s.2 then [(32, s.2, -1)] else []) ++ [(c, z, q)], -1)
/-- byte, size, order at a place -/
def tpB (T : List (Int × Int × Int)) (i : Int) : Int := ((T[i.toNat]?).getD (0, 0, 0)).1
def tpZ (T : List (Int × Int × Int)) (i : Int) : Int := ((T[i.toNat]?).getD (0, 0, 0)).2.1
def tpQ (T : List (Int × Int × Int)) (i : Int) : Int := ((T[i.toNat]?).getD (0, 0, 0)).2.2
/-- a text of the component -/
def txC (h : Hp) (t : Int) (s : TXT) : Prop := h t 3 = s.1.length ∧ (s.1.length : Int) ≤ 24000 ∧ (∀ i : Int, 0 ≤ i → i < s.1.length → h (t + 1) i = tpB s.1 i ∧ h (t + 2) i = tpZ s.1 i ∧ h (t + 3) i = tpQ s.1 i) ∧
  h t 6 = bI (decide (s.1 ≠ [])) ∧ (s.1 ≠ [] → h t 4 = bI (decide (0 ≤ s.2)) ∧ (0 ≤ s.2 → h t 5 = s.2)) ∧ (s.1 = [] → s.2 = -1)
def txW (t : Int) : Int → Int → Prop := fun q j => (q = t ∧ 3 ≤ j ∧ j ≤ 6) ∨ (t + 1 ≤ q ∧ q ≤ t + 3 ∧ 0 ≤ j)
/-- thrown: room -/
def TH (W : Int → Int → Prop) (h : Hp) (r : (Int × Int) × Hp) : Prop := ∃ g, F2 W h g ∧ h 0 0 ≤ g 0 0 ∧ Thy 480 g r
theorem TH.mono {W V : Int → Int → Prop} {h : Hp} {r : (Int × Int) × Hp} (x : TH W h r) (k : ∀ q j, W q j → V q j) : TH V h r := by
  obtain ⟨g, a, b, c⟩ := x
  exact ⟨g, a.mono k, b, c⟩
theorem TH.after {W : Int → Int → Prop} {h h' : Hp} {r : (Int × Int) × Hp} (f : F2 W h h') (l : h 0 0 ≤ h' 0 0) (x : TH W h' r) : TH W h r := by
  obtain ⟨g, a, b, c⟩ := x
  exact ⟨g, f.trans a, by omega, c⟩
theorem TH.one {W : Int → Int → Prop} {h : Hp} {r : (Int × Int) × Hp} (x : TH W h r) : r.1.1 = 1 := by
  obtain ⟨g, a, b, c⟩ := x
  exact c.1
theorem tp_old {T U : List (Int × Int × Int)} {i : Int} (h0 : 0 ≤ i) (h1 : i < T.length) : tpB (T ++ U) i = tpB T i ∧ tpZ (T ++ U) i = tpZ T i ∧ tpQ (T ++ U) i = tpQ T i := by
  have : (T ++ U)[i.toNat]? = T[i.toNat]? := List.getElem?_append_left (by omega)
  unfold tpB tpZ tpQ
  rw [this]
  exact ⟨rfl, rfl, rfl⟩
theorem tp_new {T : List (Int × Int × Int)} {x : Int × Int × Int} {i : Int} (h : i = T.length) : tpB (T ++ [x]) i = x.1 ∧ tpZ (T ++ [x]) i = x.2.1 ∧ tpQ (T ++ [x]) i = x.2.2 := by
  have : (T ++ [x])[i.toNat]? = some x := by
    rw [List.getElem?_append_right (by omega), show i.toNat - T.length = 0 by omega]
    rfl
  unfold tpB tpZ tpQ
  rw [this]
  exact ⟨rfl, rfl, rfl⟩
theorem rgT12 : ([(262, 264), (266, 268), (270, 272)] : List (Int × Int)).all rgA = true ∧ ([(261, [3, 4, 5, 6]), (265, [3, 4, 5, 6]), (269, [3, 4, 5, 6])] : List (Int × List Int)).all rgO = true := by decide +kernel
theorem txW_l {h h' : Hp} {t : Int} (hL : LAY h) (ht : t ∈ in_aX12) (f : F2 (txW t) h h') : LAY h' := by
  have e := aX12 ht
  refine lay_W hL f [(262, 264), (266, 268), (270, 272)] [(261, [3, 4, 5, 6]), (265, [3, 4, 5, 6]), (269, [3, 4, 5, 6])] rgT12.1 rgT12.2 (fun q j z => ?_)
  unfold txW at z
  rcases z with ⟨rfl, z1, z2⟩ | ⟨z1, z2, z3⟩
  · refine ⟨by omega, Or.inr ?_⟩
    have : j ∈ ([3, 4, 5, 6] : List Int) := by simp; omega
    rcases e with rfl | rfl | rfl
    · exact ⟨(261, [3, 4, 5, 6]), by simp, rfl, this⟩
    · exact ⟨(265, [3, 4, 5, 6]), by simp, rfl, this⟩
    · exact ⟨(269, [3, 4, 5, 6]), by simp, rfl, this⟩
  · refine ⟨z3, Or.inl ?_⟩
    rcases e with rfl | rfl | rfl
    · exact ⟨(262, 264), by simp, by dsimp only; omega, by dsimp only; omega⟩
    · exact ⟨(266, 268), by simp, by dsimp only; omega, by dsimp only; omega⟩
    · exact ⟨(270, 272), by simp, by dsimp only; omega, by dsimp only; omega⟩
/-- rows of a text hold so much -/
def txR (h : Hp) (t : Int) (T : List (Int × Int × Int)) : Prop := h t 3 = T.length ∧ ∀ i : Int, 0 ≤ i → i < T.length → h (t + 1) i = tpB T i ∧ h (t + 2) i = tpZ T i ∧ h (t + 3) i = tpQ T i
def tx3W (t : Int) : Int → Int → Prop := fun q j => (q = t ∧ j = 3) ∨ (t + 1 ≤ q ∧ q ≤ t + 3 ∧ 0 ≤ j)
theorem c_put12 {h : Hp} {t c z q : Int} {T : List (Int × Int × Int)} (hL : LAY h) (ht : t ∈ in_aX12) (rm : RM h 1 6) (R : txR h t T) (c0 : 0 ≤ c) (c1 : c < 128) (hn : (T.length : Int) ≤ 24000) :
    Pz (m_X12_put t c z q h) (fun r => (r.1 = (0, 0) ∧ (T.length : Int) < 24000 ∧ F2 (tx3W t) h r.2 ∧ txR r.2 t (T ++ [(c, z, q)])) ∨ ((T.length : Int) = 24000 ∧ TH (tx3W t) h r)) := by
  obtain ⟨r1, r2⟩ := R
  have ht' := aX12 ht
  unfold m_X12_put
  rw [r1]
  by_cases hl : 24000 ≤ (T.length : Int)
  · rw [if_pos hl]
    unfold m_X12_put_j15
    refine z_bT (c_room rm (fun z => absurd rfl z) (fun _ r r1 r2 r3 r4 r5 r6 r7 => Or.inr ⟨by omega, z_some (Or.inr ⟨by omega, h, F2.refl, Int.le_refl _, rfl, r2, r3, r4, r5, r6, r7⟩)⟩))
  rw [if_neg hl]
  unfold m_X12_put_j15
  refine z_bT (c_room rm (fun _ => Or.inl ⟨rfl, ?_⟩) (fun z => absurd z (by decide)))
  dsimp only
  have up3 : ∀ {g : Hp}, F2 (tx3W t) h g → LAY g := fun f => txW_l hL ht (f.mono (fun q j z => by unfold tx3W at z; unfold txW; omega))
  obtain ⟨a1, a2, a3⟩ := g_X12_0 hL ht
  simp only [a1, r1, a2, a3, e8 (x := c) (show -128 ≤ c by omega) c1]
  refine z_gd ⟨by decide, by omega, by omega⟩ (z_pt ?_)
  have F1 : F2 (tx3W t) h (up h (t + 1) T.length c) := F2.refl.put (by unfold tx3W; omega)
  have n1 : up h (t + 1) T.length c t 3 = T.length := by rw [up_a (by omega)]; exact r1
  have v1 : up h (t + 1) T.length c (t + 1) T.length = c := up_s _ _ _ _
  have o1 : ∀ i : Int, 0 ≤ i → i < T.length → up h (t + 1) T.length c (t + 1) i = tpB T i ∧ up h (t + 1) T.length c (t + 2) i = tpZ T i ∧ up h (t + 1) T.length c (t + 3) i = tpQ T i := fun i i0 i1 => by
    rw [up_j (by omega), up_j (by omega), up_j (by omega)]; exact r2 i i0 i1
  generalize up h (t + 1) T.length c = g1 at F1 n1 v1 o1 ⊢
  obtain ⟨b1, b2, b3⟩ := g_X12_1 (up3 F1) ht
  simp only [b1, n1, b2, b3]
  refine z_gd ⟨by decide, by omega, by omega⟩ (z_pt ?_)
  have F2_ : F2 (tx3W t) h (up g1 (t + 2) T.length z) := F1.put (by unfold tx3W; omega)
  have n2 : up g1 (t + 2) T.length z t 3 = T.length := by rw [up_a (by omega)]; exact n1
  have v2 : up g1 (t + 2) T.length z (t + 1) T.length = c := by rw [up_a (by omega)]; exact v1
  have v2' : up g1 (t + 2) T.length z (t + 2) T.length = z := up_s _ _ _ _
  have o2 : ∀ i : Int, 0 ≤ i → i < T.length → up g1 (t + 2) T.length z (t + 1) i = tpB T i ∧ up g1 (t + 2) T.length z (t + 2) i = tpZ T i ∧ up g1 (t + 2) T.length z (t + 3) i = tpQ T i := fun i i0 i1 => by
    rw [up_j (by omega), up_j (by omega), up_j (by omega)]; exact o1 i i0 i1
  generalize up g1 (t + 2) T.length z = g2 at F2_ n2 v2 v2' o2 ⊢
  obtain ⟨d1, d2, d3⟩ := g_X12_2 (up3 F2_) ht
  simp only [d1, n2, d2, d3]
  refine z_gd ⟨by decide, by omega, by omega⟩ (z_pt (z_pt ?_))
  rw [show up g2 (t + 3) T.length q t 3 = T.length by rw [up_a (by omega)]; exact n2, e32 (x := (T.length : Int) + 1) (by omega) (by omega)]
  refine z_some (Or.inl ⟨rfl, by omega, (F2_.put (by unfold tx3W; omega)).put (by unfold tx3W; omega), ?_, fun i i0 i1 => ?_⟩)
  · dsimp only
    rw [up_s, List.length_append, List.length_singleton]
    omega
  · dsimp only
    rw [List.length_append, List.length_singleton] at i1
    have ne : ∀ k, 1 ≤ k → ∀ v, up (up g2 (t + 3) T.length q) t 3 v (t + k) i = up g2 (t + 3) T.length q (t + k) i := fun k k0 v => up_a (by omega)
    rw [ne 1 (by decide), ne 2 (by decide), ne 3 (by decide)]
    by_cases hi : i = T.length
    · obtain ⟨p1, p2, p3⟩ := tp_new (x := (c, z, q)) hi
      rw [p1, p2, p3, hi, up_a (by omega), up_a (by omega), up_s]
      exact ⟨v2, v2', rfl⟩
    · obtain ⟨p1, p2, p3⟩ := tp_old (U := [(c, z, q)]) i0 (show i < T.length by omega)
      rw [p1, p2, p3]
      obtain ⟨u1, u2, u3⟩ := o2 i i0 (by omega)
      exact ⟨(up_a (by omega)).trans u1, (up_a (by omega)).trans u2, (up_j hi).trans u3⟩
