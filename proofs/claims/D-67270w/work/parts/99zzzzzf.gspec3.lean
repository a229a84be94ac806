-- needs: 99zzzzze
set_option maxRecDepth 100000
/-! GATHERING: what is hidden adds nothing -/
/-- below what is hidden or mute nothing is shown -/
theorem TB.hid {S V : Hp} {E M e : Int} (T : TB S V E M) (e0 : 0 ≤ e) (h : V 30 e = 0 ∨ muF (V 24 (22 * e)) = true) : ∀ (k : Nat) (x : Int), 0 ≤ x → x < E → dsc (S 7) e k x → x ≠ e → V 30 x = 0
  | 0, x, _, _, d, n => absurd d n
  | k + 1, x, x0, x1, d, n => by
    rcases d with d | ⟨d1, d2⟩
    · exact absurd d n
    · refine Classical.byContradiction (fun z => ?_)
      have f := ((T.2 x x0 x1).1 z).2
      have le := dsc_le _ _ d2
      have f' := f (by omega)
      have par := T.1.par x x0 x1
      by_cases hx : S 7 x = e
      · rw [hx] at f'
        rcases h with h | h
        · exact f'.1 h
        · rw [h] at f'; exact absurd f'.2.1 (by decide)
      · exact f'.1 (TB.hid T e0 h k (S 7 x) (by omega) (by omega) d2 hx)
theorem mtF_hid {V : Hp} {x : Int} (h : V 30 x = 0) : mtF V x = true := by unfold mtF; rw [decide_eq_true h]; rfl
theorem mtF_mu {V : Hp} {x : Int} (h : muF (V 24 (22 * x)) = true) : mtF V x = true := by unfold mtF; rw [h]; cases decide (V 30 x = 0) <;> rfl
/-- items within a hidden or mute element -/
theorem TB.inhid {S V : Hp} {E M e : Int} (T : TB S V E M) (e0 : 0 ≤ e) (e1 : e < E) (h : V 30 e = 0 ∨ muF (V 24 (22 * e)) = true) (m : Nat) (m0 : S 11 e < m) (m1 : (m : Int) < S 12 e) : (S 2 m = 1 ∨ S 2 m = 2 → V 30 (S 3 m) = 0) ∧ (0 ≤ cu S m ∧ mtF V (cu S m) = true) := by
  have el := T.1.el e e0 e1
  have it := T.1.it m (by omega)
  obtain ⟨k, d⟩ := T.1.nest e0 e1 m m0 (by omega)
  have le := dsc_le _ _ d
  have cr := T.1.cu_r m (by omega)
  have hc : V 30 (cu S m) = 0 ∨ cu S m = e := by
    by_cases z : cu S m = e
    · exact Or.inr z
    · exact Or.inl (T.hid e0 h k _ (by omega) cr.2 d z)
  refine ⟨fun z => ?_, by omega, ?_⟩
  · rcases z with z | z
    · have x := it.1 z
      have px := T.1.par _ x.1 x.2.1
      refine T.hid e0 h (k + 1) (S 3 m) x.1 x.2.1 (Or.inr ⟨?_, by rw [x.2.2.2]; exact d⟩) ?_
      · have := x.2.2.2; omega
      · have := x.2.2.2; omega
    · have x := it.2.1 z
      rw [← x.2.2.2] at hc
      rcases hc with hc | hc
      · exact hc
      · rw [hc] at x; omega
  · rcases hc with hc | hc
    · exact mtF_hid hc
    · rw [hc]
      rcases h with h | h
      · exact mtF_hid h
      · exact mtF_mu h
theorem tzL_nil {n z : Int} {s : TXT × Int} : tzL n z s [] = s := rfl
theorem gPut_nil {z : Int} {s : GS} : gPut z [] s = s := rfl
theorem iB_hid {S Y V Q : Hp} {E M e : Int} (T : TB S V E M) (e0 : 0 ≤ e) (e1 : e < E) (h : V 30 e = 0 ∨ muF (V 24 (22 * e)) = true) (m : Nat) (m0 : S 11 e < m) (m1 : (m : Int) ≤ S 12 e) : iB S Y V Q E m = [] := by
  have el := T.1.el e e0 e1
  by_cases hm : (m : Int) = S 12 e
  · unfold iB
    rw [hm, el.2.2.2.2.2.1, if_neg (by decide), if_pos rfl]
  · obtain ⟨a, b⟩ := T.inhid e0 e1 h m m0 (by omega)
    unfold iB
    by_cases i1 : S 2 m = 1
    · rw [if_pos i1, if_pos (a (Or.inl i1))]
    · rw [if_neg i1]
      by_cases i2 : S 2 m = 2
      · rw [if_pos i2]
      · rw [if_neg i2]
        unfold txB mtX
        rw [decide_eq_true b.1, b.2]
        rfl
theorem stp_hid {S Y V Q : Hp} {XB : List (List Int)} {E M e : Int} {s : GS} (T : TB S V E M) (e0 : 0 ≤ e) (e1 : e < E) (h : V 30 e = 0 ∨ muF (V 24 (22 * e)) = true) (m : Nat) (m0 : S 11 e < m) (m1 : (m : Int) < S 12 e) : stp S Y V Q XB E m s = s := by
  obtain ⟨a, b⟩ := T.inhid e0 e1 h m m0 m1
  unfold stp
  by_cases i1 : S 2 m = 1
  · rw [if_pos i1]; unfold stB; rw [if_pos (a (Or.inl i1))]
  · rw [if_neg i1]
    by_cases i2 : S 2 m = 2
    · rw [if_pos i2]; unfold stE; rw [if_pos (a (Or.inr i2))]
    · rw [if_neg i2]
      unfold txB mtX
      rw [decide_eq_true b.1, b.2]
      rfl
theorem nt_s {S V : Hp} (k : Nat) : nt S V (k + 1) = if S 2 k = 1 ∧ V 32 (S 3 k) ≠ 0 then S 3 k else if S 2 k = 2 ∧ V 32 (S 3 k) ≠ 0 then -1 else nt S V k := rfl
theorem fl_s {S Y V Q : Hp} {XB : List (List Int)} {E : Int} (k : Nat) : fl S Y V Q XB E (k + 1) = if nt S V k = -1 then stp S Y V Q XB E k (fl S Y V Q XB E k) else fl S Y V Q XB E k := rfl
/-- within what is hidden or mute the flow stays -/
theorem fl_hid {S Y V Q : Hp} {XB : List (List Int)} {E M e : Int} (T : TB S V E M) (e0 : 0 ≤ e) (e1 : e < E) (h : V 30 e = 0 ∨ muF (V 24 (22 * e)) = true) : ∀ j : Nat, (S 11 e + 1 + j) ≤ S 12 e → fl S Y V Q XB E ((S 11 e + 1).toNat + j) = fl S Y V Q XB E (S 11 e + 1).toNat ∧ nt S V ((S 11 e + 1).toNat + j) = nt S V (S 11 e + 1).toNat
  | 0, _ => ⟨rfl, rfl⟩
  | j + 1, hj => by
    have el := T.1.el e e0 e1
    obtain ⟨i1, i2⟩ := fl_hid (Y := Y) (Q := Q) (XB := XB) T e0 e1 h j (by omega)
    rw [show (S 11 e + 1).toNat + (j + 1) = (S 11 e + 1).toNat + j + 1 by omega, fl_s, nt_s, i1, i2]
    have a := T.inhid e0 e1 h ((S 11 e + 1).toNat + j) (by omega) (by omega)
    have n32 : ∀ z, V 32 z ≠ 0 → 0 ≤ z → z < E → V 30 z ≠ 0 := fun z hz z0 z1 => ((T.2 z z0 z1).2.1 (((T.2 z z0 z1).2.2.1).1 hz).1).1
    have it := T.1.it ((S 11 e + 1).toNat + j) (by omega)
    constructor
    · rw [stp_hid T e0 e1 h _ (by omega) (by omega)]
      split <;> rfl
    · rw [if_neg (fun z => n32 _ z.2 (it.1 z.1).1 (it.1 z.1).2.1 (a.1 (Or.inl z.1))), if_neg (fun z => n32 _ z.2 (it.2.1 z.1).1 (it.2.1 z.1).2.1 (a.1 (Or.inr z.1)))]
/-- descendants of a note are not in the flow -/
theorem TB.innote {S V : Hp} {E M e : Int} (T : TB S V E M) (h : V 32 e ≠ 0) : ∀ (k : Nat) (x : Int), 0 ≤ x → x < E → 0 ≤ e → dsc (S 7) e k x → x ≠ e → V 31 x = 0
  | 0, x, _, _, _, d, n => absurd d n
  | k + 1, x, x0, x1, e0, d, n => by
    rcases d with d | ⟨d1, d2⟩
    · exact absurd d n
    · refine Classical.byContradiction (fun z => ?_)
      have f := ((T.2 x x0 x1).2.1 z).2
      have le := dsc_le _ _ d2
      have f' := f (by omega)
      have par := T.1.par x x0 x1
      by_cases hx : S 7 x = e
      · rw [hx] at f'; exact h f'.2.1
      · exact f'.1 (TB.innote T h k (S 7 x) (by omega) (by omega) e0 d2 hx)
theorem fl_note {S Y V Q : Hp} {XB : List (List Int)} {E M e : Int} (T : TB S V E M) (e0 : 0 ≤ e) (e1 : e < E) (h : V 32 e ≠ 0) : ∀ j : Nat, (S 11 e + 1 + j) ≤ S 12 e → fl S Y V Q XB E ((S 11 e + 1).toNat + j) = fl S Y V Q XB E (S 11 e + 1).toNat ∧ nt S V ((S 11 e + 1).toNat + j) = e
  | 0, _ => by
    have el := T.1.el e e0 e1
    refine ⟨rfl, ?_⟩
    rw [show (S 11 e + 1).toNat + 0 = (S 11 e).toNat + 1 by omega, nt_s, show (((S 11 e).toNat : Nat) : Int) = S 11 e by omega, if_pos ⟨el.2.2.2.1, by rw [el.2.2.2.2.1]; exact h⟩, el.2.2.2.2.1]
  | j + 1, hj => by
    have el := T.1.el e e0 e1
    obtain ⟨i1, i2⟩ := fl_note (Y := Y) (Q := Q) (XB := XB) T e0 e1 h j (by omega)
    have it := T.1.it ((S 11 e + 1).toNat + j) (by omega)
    obtain ⟨k, d⟩ := T.1.nest e0 e1 ((S 11 e + 1).toNat + j) (by omega) (by omega)
    have le := dsc_le _ _ d
    have n32 : ∀ z, V 32 z ≠ 0 → 0 ≤ z → z < E → V 31 z ≠ 0 := fun z hz z0 z1 => (((T.2 z z0 z1).2.2.1).1 hz).1
    rw [show (S 11 e + 1).toNat + (j + 1) = (S 11 e + 1).toNat + j + 1 by omega, fl_s, nt_s, i1, i2, if_neg (show ¬ e = -1 by omega)]
    refine ⟨rfl, ?_⟩
    rw [if_neg (fun z => ?_), if_neg (fun z => ?_)]
    · have x := it.2.1 z.1
      have ne : S 3 (((S 11 e + 1).toNat + j : Nat) : Int) ≠ e := fun w => by
        have := x.2.2.1; rw [w] at this; omega
      exact n32 _ z.2 x.1 x.2.1 (T.innote h k _ x.1 x.2.1 e0 (by rw [x.2.2.2]; exact d) ne)
    · have x := it.1 z.1
      have px := T.1.par _ x.1 x.2.1
      have w := x.2.2.2
      exact n32 _ z.2 x.1 x.2.1 (T.innote h (k + 1) _ x.1 x.2.1 e0 (Or.inr ⟨by omega, by rw [w]; exact d⟩) (by omega))
theorem nt_end {S V : Hp} {E M e : Int} (T : TB S V E M) (e0 : 0 ≤ e) (e1 : e < E) (h : V 32 e ≠ 0) : nt S V (S 12 e + 1).toNat = -1 := by
  have el := T.1.el e e0 e1
  rw [show (S 12 e + 1).toNat = (S 12 e).toNat + 1 by omega, nt_s, show (((S 12 e).toNat : Nat) : Int) = S 12 e by omega, el.2.2.2.2.2.1, el.2.2.2.2.2.2.1, if_neg (fun z => absurd z.1 (by decide)), if_pos ⟨rfl, h⟩]
