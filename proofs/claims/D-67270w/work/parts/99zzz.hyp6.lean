-- needs: 99zzy
set_option maxRecDepth 100000
/-! HYPHENS: the greatest digit: the reference -/
theorem dtT_out {L : List Int} {D : Int → Int} {i : Int} (h : i < 0 ∨ (L.length : Int) < i) : dtT L D i = 0 := by
  unfold dtT
  rw [if_neg]
  intro z
  have a : 0 ≤ aho L ∧ aho L ≤ 1 := by unfold aho; split <;> omega
  have b : aho L + nl L ≤ L.length := by
    unfold aho nl
    match L with
    | [] => simp
    | x :: M =>
      have := List.length_filter_le (fun x => decide (x ≠ 0)) M
      by_cases hx : x = 0
      · subst hx
        rw [if_pos (show (0 :: M).head? = some (0 : Int) from rfl), List.filter_cons_of_neg (by simp), List.length_cons]; omega
      · rw [if_neg (show ¬ (x :: M).head? = some (0 : Int) by simpa using hx), List.filter_cons_of_pos (by simpa using hx), List.length_cons, List.length_cons]; omega
  omega
theorem q_sign21 {h : Hp} {r f n i : Int} {q : Int → Int} (kr : h r (-2) % 16 = 2) (lr : f + n ≤ h r (-1)) (f0 : 0 ≤ f) (fn : f + n ≤ 30000) (W : wdQ h r f n q) (i0 : 0 ≤ i) (i1 : i ≤ n + 1) : m_X21_signOf r f n i h = some (enc (dwE q n i)) := by
  unfold m_X21_signOf
  by_cases h0 : i = 0
  · rw [if_pos h0]; unfold dwE enc; rw [if_pos (Or.inl h0), if_pos rfl]
  rw [if_neg h0, e32 (x := n + 1) (by omega) (by omega)]
  by_cases h1 : i = n + 1
  · rw [if_neg (fun z => z h1)]; unfold dwE enc; rw [if_pos (Or.inr h1), if_pos rfl]
  · obtain ⟨w1, w2, w3, w4⟩ := W (i - 1) (by omega) (by omega)
    rw [if_pos h1, e32 (x := f + i) (by omega) (by omega), e32 (x := f + i - 1) (by omega) (by omega), gd_t ⟨kr, by omega, by omega⟩, show f + i - 1 = f + (i - 1) by omega, q_X18_small (by omega), Option.bind_some, w2]
    unfold dwE enc
    rw [if_neg (by omega), if_neg (by omega)]
theorem encI {x y : Int} (x0 : 0 ≤ x) (x1 : x ≤ 26) (y0 : 0 ≤ y) (y1 : y ≤ 26) : enc x = enc y ↔ x = y := by
  unfold enc; split <;> split <;> omega
theorem dwE_r {h : Hp} {r f n i : Int} {q : Int → Int} (W : wdQ h r f n q) (i0 : 0 ≤ i) (i1 : i ≤ n + 1) : 0 ≤ dwE q n i ∧ dwE q n i ≤ 26 := by
  unfold dwE
  split
  · omega
  · have := (W (i - 1) (by omega) (by omega)).2.2; omega
theorem dwL_at {q : Int → Int} {n i : Int} {m j : Nat} (h : j < m) : (dwL q n i m)[j]? = some (dwE q n (i + j)) := by
  unfold dwL
  rw [List.getElem?_map, List.getElem?_range h]; rfl
/-- does a pattern stand there? -/
theorem t_stands {h : Hp} {l np p n i r f : Int} {sg : Int → List Int} {dt : Int → Int → Int} {q : Int → Int} (hL : LAY h) (hl : l ∈ in_aX21) (H : HYt h l np sg dt) (p0 : 0 ≤ p) (p1 : p < np) (n1 : n ≤ 24000)
    (kr : h r (-2) % 16 = 2) (lr : f + n ≤ h r (-1)) (f0 : 0 ≤ f) (fn : f + n ≤ 30000) (W : wdQ h r f n q) (i0 : 0 ≤ i) (i1 : i + (sg p).length ≤ n + 2) :
    Pz (lp (fun (z : Int × Int) => m_X21_greatest_l98 l r f n p i z.1 z.2 h) (1, 0)) (fun y => is01 y (occ (sg p) q n i)) := by
  have h21 := aX21 hl
  obtain ⟨H1, H2, H3, H4, H5⟩ := H
  obtain ⟨a1, a2, a3, a4, a5, a6⟩ := H4 p p0 p1
  obtain ⟨k0, k4, k5, -⟩ := ly_X21 hL hl
  have pt_ : ∀ (j : Nat) (hj : j < (sg p).length), h (l + 1) (14 * p + j) = enc ((sg p)[j]) := fun j hj => by
    have e := congrArg (fun z => z[j]?) a1
    replace e : (wd h (l + 1) (14 * p) (sg p).length)[j]? = (List.map enc (sg p))[j]? := e
    rw [wd_at hj, List.getElem?_map, List.getElem?_eq_getElem hj] at e
    exact Option.some.inj e
  refine z_lp (fun (z : Int × Int) => 0 ≤ z.2 ∧ z.2 ≤ (sg p).length ∧ is01 z.1 (∀ (j : Nat) (hj : j < (sg p).length), (j : Int) < z.2 → (sg p)[j] = dwE q n (i + j))) (fun z => ((sg p).length - z.2).toNat) ⟨Int.le_refl _, Int.natCast_nonneg _, Or.inl ⟨rfl, fun j _ hj => by dsimp only at hj; omega⟩⟩ ?_
  rintro ⟨y, x⟩ ⟨x0, x1, hy⟩
  dsimp only at x0 x1 hy
  show Pz (m_X21_greatest_l98 l r f n p i y x h) _
  unfold m_X21_greatest_l98
  simp only [k5, k4, a2]
  have oc : (∀ (j : Nat) (hj : j < (sg p).length), (sg p)[j] = dwE q n (i + j)) ↔ occ (sg p) q n i := by
    constructor
    · intro z
      refine ⟨i0, i1, List.ext_getElem? (fun j => ?_)⟩
      by_cases hj : j < (sg p).length
      · rw [List.getElem?_eq_getElem hj, z j hj, dwL_at hj]
      · rw [List.getElem?_eq_none (by omega), List.getElem?_eq_none (by rw [dwL_len]; omega)]
    · rintro ⟨-, -, z⟩ j hj
      have e := congrArg (fun w => w[j]?) z
      replace e : (sg p)[j]? = (dwL q n i (sg p).length)[j]? := e
      rw [dwL_at hj, List.getElem?_eq_getElem hj] at e
      exact Option.some.inj e
  by_cases hx : ((sg p).length : Int) ≤ x
  · rw [if_pos hx]
    have : x = (sg p).length := by omega
    subst this
    refine z_some ?_
    rcases hy with ⟨y1, y2⟩ | ⟨y1, y2⟩
    · exact Or.inl ⟨y1, oc.mp (fun j hj => y2 j hj (by omega))⟩
    · exact Or.inr ⟨y1, fun z => y2 (fun j hj _ => oc.mpr z j hj)⟩
  rw [if_neg hx]
  rcases hy with ⟨y1, y2⟩ | ⟨y1, y2⟩
  rotate_left
  · rw [if_pos y1]
    exact z_some (Or.inr ⟨y1, fun z => y2 (fun j hj _ => oc.mpr z j hj)⟩)
  rw [if_neg (by omega), e32 (x := 14 * p) (by omega) (by omega), e32 (x := 14 * p + x) (by omega) (by omega), e32 (x := i + x) (by omega) (by omega)]
  refine z_gd ⟨by decide, by omega, by omega⟩ ?_
  rw [q_sign21 kr lr f0 fn W (by omega) (by omega), Option.bind_some]
  have ex := pt_ x.toNat (by omega)
  rw [show ((x.toNat : Nat) : Int) = x by omega] at ex
  rw [ex]
  have xl : x.toNat < (sg p).length := by omega
  have r1 : 0 ≤ (sg p)[x.toNat] ∧ (sg p)[x.toNat] ≤ 26 := a5 _ (List.getElem_mem _)
  have r2 := dwE_r W (show 0 ≤ i + x by omega) (by omega)
  have ei := encI r1.1 r1.2 r2.1 r2.2
  unfold m_X21_greatest_j147
  refine z_if (fun hc => z_lt (z_some ⟨⟨?_, ?_, ?_⟩, ?_⟩)) (fun hc => z_lt (z_some ⟨⟨?_, ?_, ?_⟩, ?_⟩)) <;> (dsimp only; rw [e32 (by omega) (by omega)])
  · omega
  · omega
  · refine Or.inr ⟨rfl, fun z => hc (ei.mpr ?_)⟩
    have := z x.toNat xl (by omega)
    rw [show ((x.toNat : Nat) : Int) = x by omega] at this
    exact this
  · omega
  · omega
  · omega
  · refine Or.inl ⟨rfl, fun j hl hj => ?_⟩
    by_cases hj' : (j : Int) = x
    · have e := ei.mp (by by_cases z : enc ((sg p)[x.toNat]) = enc (dwE q n (i + x)); exact z; exact absurd z hc)
      have ej : j = x.toNat := by omega
      subst ej
      rw [hj']; exact e
    · exact y2 j hl (by omega)
  · omega
