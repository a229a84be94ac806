set_option maxRecDepth 100000
/-! TITLES: the reference's title -/
theorem ttR.more {q : Hp} {l : Int} {s : List Int × Bool} (B : ttR q l s) (h : 41 ≤ s.1.length) (A : List Int) : ttR q l (ttL s A) := by
  obtain ⟨b1, b2, b3⟩ := B
  obtain ⟨C, hC⟩ := ttL_pre A s
  have eT : (ttL s A).1.take 41 = s.1.take 41 := by rw [hC, List.take_append_of_le_length h]
  have := ttL_len (s := s) (b := A)
  exact ⟨by rw [eT]; exact b1, by rw [eT]; exact b2, fun z => by omega⟩
theorem wr_split {T : Int → Int} {p x e : Int} (h0 : p ≤ x) (h1 : x ≤ e) : wr T p e = wr T p x ++ wr T x e := by
  unfold wr
  rw [show (e - p).toNat = (x - p).toNat + (e - x).toNat by omega, List.range_add, List.map_append, List.map_map]
  congr 1
  refine List.map_congr_left (fun z _ => ?_)
  dsimp only [Function.comp]
  congr 1
  omega
theorem SA.byte {S p : Hp} {a n N E F M j : Int} {s : Int → List Int} (R : SA S p a n N s E F M) (j0 : 0 ≤ j) (j1 : j < n) : -128 ≤ S 1 j ∧ S 1 j ≤ 127 := by
  have e := R.1.2.2.2.2.1 j j0 j1
  have b := R.1.2.2.2.2.2.1.1 j j0 j1
  omega
theorem t_piece {S q p : Hp} {l a n N E F M m : Int} {s : Int → List Int} {t : List Int × Bool} (hL : LAY q) (hl : l ∈ in_aX24) (X : SXt S q (l + 1) n E M) (R : SA S p a n N s E F M) (m0 : 0 ≤ m) (m1 : m < M) (i0 : S 2 m = 0) (B : ttR q l t) :
    Pz (lp (fun (z : Int × Hp) => m_X24_title_l197 l m z.1 z.2) (S 3 m, q)) (fun q' => F2 (ttV l) q q' ∧ ttR q' l (ttL t (wr (S 1) (S 3 m) (S 4 m)))) := by
  have h24 := aX24 hl
  have rg : 0 ≤ S 3 m ∧ S 3 m < S 4 m ∧ S 4 m ≤ n := by
    rcases R.2.2.2.2.2.1.2.2.2 m m0 m1 with z | z | z | z <;> omega
  have n3 := R.1.2.1
  have Mn := R.2.2.2.2.2.1.2.2.1
  refine z_lp (fun (z : Int × Hp) => S 3 m ≤ z.1 ∧ z.1 ≤ S 4 m ∧ F2 (ttV l) q z.2 ∧ ttR z.2 l (ttL t (wr (S 1) (S 3 m) z.1))) (fun z => (S 4 m - z.1).toNat) ⟨Int.le_refl _, by dsimp only; omega, F2.refl, by dsimp only; rw [wr_nil (Int.le_refl _)]; exact B⟩ ?_
  rintro ⟨x, g⟩ ⟨x0, x1, Fg, Bg⟩
  dsimp only at x0 x1 Bg
  replace Fg : F2 (ttV l) q g := Fg
  have Lg := ttV_l hL hl Fg
  have j0 := g_X24_0 Lg hl
  have j8 := g_X23_8 Lg h24.2.2
  have jt := g_X23_0 Lg h24.2.2
  have g8 : g (l + 1 + 4) m = S 4 m := by rw [Fg _ _ (by unfold ttV; omega)]; exact X.2.2.1 4 (by decide) (by decide) m m0 m1
  have gt : ∀ j, 0 ≤ j → j < n → g (l + 1 + 1) j = S 1 j := fun j z0 z1 => by rw [Fg _ _ (by unfold ttV; omega)]; exact X.2.1 j z0 z1
  show Pz (m_X24_title_l197 l m x g) _
  unfold m_X24_title_l197
  simp only [j0.1, j0.2.1, j8.1, j8.2.1, j8.2.2, jt.1, jt.2.1, jt.2.2, g8]
  refine z_gd trivial (z_gd ⟨by decide, m0, by omega⟩ ?_)
  by_cases hx : S 4 m ≤ x
  · have ex : x = S 4 m := by omega
    rw [ex] at Bg
    exact z_it hx (z_some ⟨Fg, Bg⟩)
  · refine z_ie hx ?_
    by_cases hf : 40 < g l 28
    · refine z_it hf (z_some ⟨Fg, ?_⟩)
      have hl41 : 41 ≤ (ttL t (wr (S 1) (S 3 m) x)).1.length := by
        have := Bg.1
        rw [List.length_take] at this
        omega
      have := Bg.more hl41 (wr (S 1) x (S 4 m))
      rw [wr_split x0 x1, ttL_app]; exact this
    · refine z_ie hf (z_gd ⟨by decide, by omega, by omega⟩ ?_)
      have rb := R.byte (j := x) (by omega) (by omega)
      rw [gt x (by omega) (by omega)]
      refine z_bind (z_mono (t_say Lg hl Bg rb.1 rb.2) (fun g' hg => z_lt (z_some ?_)))
      rw [e32 (by omega) (by omega)]
      refine ⟨⟨by dsimp only; omega, by dsimp only; omega, Fg.trans hg.1, ?_⟩, by dsimp only; omega⟩
      dsimp only
      have e1 : wr (S 1) (S 3 m) (x + 1) = wr (S 1) (S 3 m) x ++ [S 1 x] := by
        have := wr_succ (T := S 1) (p := S 3 m) (k := (x - S 3 m).toNat)
        rw [show S 3 m + (((x - S 3 m).toNat : Nat) : Int) = x by omega, show S 3 m + ((((x - S 3 m).toNat + 1 : Nat)) : Int) = x + 1 by omega] at this
        exact this
      rw [e1, ttL_app]
      exact hg.2
