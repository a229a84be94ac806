-- needs: 99zzzc
set_option maxRecDepth 100000
/-! PARAGRAPHS: where words may be parted: the component -/
def fpW (a : Int) : Int → Int → Prop := fun b j => (b = a + 13 ∧ 0 ≤ j ∧ j ≤ 24000) ∨ (b = 258 ∧ 0 ≤ j ∧ j < 24001)
theorem fpW_l {h h' : Hp} {a : Int} (hL : LAY h) (ha : a ∈ in_aX9) (f : F2 (fpW a) h h') : LAY h' :=
  plW_l hL ha (o := 0) (n := 24001) (f.mono (fun b j z => by unfold fpW at z; unfold plW; omega)) (by decide)
theorem c_findPlaces {T h : Hp} {P R t n a np : Int} {B Z : Int → Int} {sg : Int → List Int} {dt : Int → Int → Int} (hL : LAY h) (ha : a ∈ in_aX9) (C : pgC h P R t n B Z) (H : hyC T h a np sg dt) :
    Pz (m_X28_findPlaces P a 258 h) (fun h' => F2 (fpW a) h h' ∧ ∀ i, 0 ≤ i → i < n → is01 (h' 258 i) (plP T np sg dt B n i)) := by
  have h9 : 228 ≤ a ∧ a ≤ 242 := by have := aX9 ha; omega
  have hR : 293 ≤ R ∧ R ≤ 423 := by have := aX15 C.2.2.2.2.1; omega
  have hP := C.2.2.2.2.2
  have n0 := C.2.1.2.1
  have tn := C.2.1
  have keep : ∀ {g}, F2 (fpW a) h g → LAY g ∧ pgC g P R t n B Z ∧ hyC T g a np sg dt := fun {g} Fg => ⟨fpW_l hL ha Fg, C.kept (fun j _ => Fg P j (fun z => by unfold fpW at z; omega)) (Fg.row (fun j z => by unfold fpW at z; omega)) (Fg.row (fun j z => by unfold fpW at z; omega)), H.kept (fun b b0 b1 => Fg.row (fun j z => by unfold fpW at z; omega)) (fun j => Fg a j (fun z => by unfold fpW at z; omega))⟩
  unfold m_X28_findPlaces
  refine z_lt (z_bind (z_mono (z_lp (Q := fun h' => F2 (fpW a) h h' ∧ ∀ i, 0 ≤ i → i < n → is01 (h' 258 i) (plP T np sg dt B n i)) (fun (s : Int × Hp) => 0 ≤ s.1 ∧ s.1 ≤ n ∧ F2 (fpW a) h s.2 ∧ (s.1 < n → isLt (B s.1) = true → s.1 = 0 ∨ isLt (B (s.1 - 1)) = false) ∧ ∀ i, 0 ≤ i → i < s.1 → is01 (s.2 258 i) (plP T np sg dt B n i)) (fun s => (n - s.1).toNat) ⟨Int.le_refl _, n0, F2.refl, fun _ _ => Or.inl rfl, fun i i0 i1 => by dsimp only at i1; omega⟩ ?_) (fun r hr => z_some hr)))
  rintro ⟨s, g⟩ ⟨s0, s1, Fg, hs, G⟩
  dsimp only at s0 s1 hs G
  replace Fg : F2 (fpW a) h g := Fg
  show Pz (m_X28_findPlaces_l2 P a 258 s g) _
  unfold m_X28_findPlaces_l2
  obtain ⟨Lg, Cg, Hg⟩ := keep Fg
  rw [Cg.1.2.2.2]
  by_cases hn : n ≤ s
  · rw [if_pos hn]
    exact z_some ⟨Fg, fun i i0 i1 => G i i0 (by omega)⟩
  rw [if_neg hn]
  -- the row of letters
  refine z_bind (z_mono (z_lp (Q := fun (r : Int × Hp) => s ≤ r.1 ∧ r.1 ≤ n ∧ (∀ j, s ≤ j → j < r.1 → isLt (B j) = true) ∧ (r.1 = n ∨ isLt (B r.1) = false) ∧ F2 (fun b j => b = 258 ∧ s ≤ j ∧ j < r.1) g r.2 ∧ ∀ j, s ≤ j → j < r.1 → r.2 258 j = 0) (fun (r : Int × Hp) => s ≤ r.1 ∧ r.1 ≤ n ∧ (∀ j, s ≤ j → j < r.1 → isLt (B j) = true) ∧ F2 (fun b j => b = 258 ∧ s ≤ j ∧ j < r.1) g r.2 ∧ ∀ j, s ≤ j → j < r.1 → r.2 258 j = 0) (fun r => (n - r.1).toNat) ⟨Int.le_refl _, s1, fun j j0 j1 => by dsimp only at j1; omega, F2.refl, fun j j0 j1 => by dsimp only at j1; omega⟩ ?_) (fun r hr => ?_))
  · rintro ⟨x, g'⟩ ⟨x0, x1, X, F', X0⟩
    dsimp only at x0 x1 X X0
    replace F' : F2 (fun b j => b = 258 ∧ s ≤ j ∧ j < x) g g' := F'
    show Pz (m_X28_findPlaces_l13 P 258 x g') _
    unfold m_X28_findPlaces_l13
    have Fg' : F2 (fpW a) h g' := Fg.trans (F'.mono (fun b j z => by unfold fpW; omega))
    obtain ⟨L', C', -⟩ := keep Fg'
    rw [C'.1.2.2.2]
    by_cases hx : n ≤ x
    · rw [if_pos hx]
      exact z_some ⟨x0, x1, X, Or.inl (by dsimp only; omega), F', X0⟩
    rw [if_neg hx, q_byteOf28 L' C' (by omega) (by omega), Option.bind_some, q_X1_isLetter, Option.bind_some]
    have kp := g_X11_0 L'
    cases hl : isLt (B x) with
    | false =>
      rw [if_pos (show bI false = 0 from rfl)]
      exact z_some ⟨x0, x1, X, Or.inr hl, F', X0⟩
    | true =>
      rw [if_neg (show ¬ bI true = 0 by decide)]
      refine z_gd ⟨by rw [kp.2.1]; decide, by omega, by rw [kp.2.2]; omega⟩ (z_pt (z_lt ?_))
      rw [e32 (x := x + 1) (by omega) (by omega)]
      refine z_some ⟨⟨show s ≤ x + 1 by omega, show x + 1 ≤ n by omega, fun j j0 j1 => ?_, (F'.mono (fun b j z => ⟨z.1, z.2.1, by have := z.2.2; dsimp only; omega⟩)).put ⟨rfl, x0, by dsimp only; omega⟩, fun j j0 j1 => ?_⟩, by dsimp only; omega⟩
      · dsimp only at j1
        by_cases hj : j = x
        · rw [hj]; exact hl
        · exact X j j0 (by omega)
      · dsimp only at j1 ⊢
        by_cases hj : j = x
        · rw [hj, up_s]
        · rw [up_j hj]; exact X0 j j0 (by omega)
  obtain ⟨e, g1⟩ := r
  obtain ⟨e0, e1, E, eE, F1, X0⟩ := hr
  dsimp only at e0 e1 E eE X0
  replace F1 : F2 (fun b j => b = 258 ∧ s ≤ j ∧ j < e) g g1 := F1
  have Fg1 : F2 (fpW a) h g1 := Fg.trans (F1.mono (fun b j z => by unfold fpW; omega))
  obtain ⟨L1, C1, H1⟩ := keep Fg1
  dsimp only
  rw [e32 (x := s + 1) (by omega) (by omega)]
  -- behind the row
  have behind : ∀ g2, F2 (fpW a) h g2 → (∀ i, 0 ≤ i → i < s → g2 258 i = g 258 i) → (s < e → ∀ i, s ≤ i → i < e → is01 (g2 258 i) (plP T np sg dt B n i)) → Pz (m_X28_findPlaces_j75 258 e s g2) (sE (fun (s' : Int × Hp) => (0 ≤ s'.1 ∧ s'.1 ≤ n ∧ F2 (fpW a) h s'.2 ∧ (s'.1 < n → isLt (B s'.1) = true → s'.1 = 0 ∨ isLt (B (s'.1 - 1)) = false) ∧ ∀ i, 0 ≤ i → i < s'.1 → is01 (s'.2 258 i) (plP T np sg dt B n i)) ∧ (n - s'.1).toNat < (n - s).toNat) (fun h' => F2 (fpW a) h h' ∧ ∀ i, 0 ≤ i → i < n → is01 (h' 258 i) (plP T np sg dt B n i))) := by
    intro g2 Fg2 old new
    unfold m_X28_findPlaces_j75
    by_cases he : e = s
    · rw [if_neg (fun z => z he)]
      have kp := g_X11_0 (keep Fg2).1
      have nl : isLt (B s) = false := by
        rcases eE with z | z
        · omega
        · rw [he] at z; exact z
      refine z_gd ⟨by rw [kp.2.1]; decide, by omega, by rw [kp.2.2]; omega⟩ (z_pt (z_lt ?_))
      rw [e32 (x := e + 1) (by omega) (by omega)]
      refine z_some ⟨⟨show 0 ≤ e + 1 by omega, show e + 1 ≤ n by omega, Fg2.put (by unfold fpW; omega), fun _ _ => Or.inr ?_, fun i i0 i1 => ?_⟩, by dsimp only; omega⟩
      · dsimp only; rw [show e + 1 - 1 = s by omega]; exact nl
      · dsimp only at i1 ⊢
        by_cases hi : i = e
        · rw [hi, up_s, he]; exact Or.inr ⟨rfl, plP_not nl⟩
        · rw [up_j hi, old i i0 (by omega)]; exact G i i0 (by omega)
    · rw [if_pos he]
      refine z_some ⟨⟨show 0 ≤ e by omega, e1, Fg2, fun z1 z2 => ?_, fun i i0 i1 => ?_⟩, by dsimp only; omega⟩
      · dsimp only at z1 z2
        rcases eE with z | z
        · omega
        · rw [z] at z2; cases z2
      · dsimp only at i1 ⊢
        by_cases hi : i < s
        · rw [old i i0 hi]; exact G i i0 hi
        · exact new (by omega) i (by omega) i1
  have lr : s < e → lrun B n s e := fun z => ⟨s0, z, e1, E, hs (by omega) (E s (by omega) z), eE⟩
  by_cases he : e ≤ s + 1
  · rw [if_pos he]
    refine behind g1 Fg1 (fun i i0 i1 => F1 258 i (fun z => by omega)) (fun z i i0 i1 => ?_)
    have ei : i = s := by omega
    have kk : plP T np sg dt B n i ↔ _ := plP_run (T := T) (np := np) (sg := sg) (dt := dt) (lr z) i0 i1
    -- the byte was cleared
    refine Or.inr ⟨?_, fun w => ?_⟩
    · exact X0 i i0 i1
    · have := (kk.mp w).1; omega
  · rw [if_neg he]
    have k0 := g_X15_0 L1 C1.2.2.2.2.1
    have rk := g_X15 L1 C1.2.2.2.2.1
    simp only [C1.1.2.1, rk, (ly_X9 L1 ha).1, k0.1, C1.1.2.2.1]
    refine z_gd trivial (z_gd trivial ?_)
    rw [e32 (x := t + s) (by omega) (by omega), e32 (x := e - s) (by omega) (by omega)]
    refine z_bind (z_mono (c_places (q := fun k => sml (B (s + k)) - 96) L1 ha H1 (by omega) (by omega) (by rw [k0.2.1]; decide) (by rw [k0.2.2]; omega) (by rw [k0.2.2]; decide) (by omega) (by omega) (by omega) (fun k k0 k1 => ?_) (by omega) (by omega)) (fun g2 hg2 => ?_))
    · have b := (C1.2.2.1 (s + k) (by omega) (by omega)).1
      rw [show t + s + k = t + (s + k) by omega, b]
      have r := lt_r (E (s + k) (by omega) (by omega))
      dsimp only
      omega
    · obtain ⟨F2', G2⟩ := hg2
      refine behind g2 (Fg1.trans (F2'.mono (fun b j z => by unfold plW at z; unfold fpW; omega))) (fun i i0 i1 => by rw [F2' 258 i (fun z => by unfold plW at z; omega), F1 258 i (fun z => by omega)]) (fun z i i0 i1 => ?_)
      have g := G2 (i - s) (by omega) (by omega)
      rw [show s + (i - s) = i by omega] at g
      have kk : plP T np sg dt B n i ↔ _ := plP_run (T := T) (np := np) (sg := sg) (dt := dt) (lr z) i0 i1
      exact g.imp (fun w => ⟨w.1, kk.mpr w.2⟩) (fun w => ⟨w.1, fun y => w.2 (kk.mp y)⟩)
