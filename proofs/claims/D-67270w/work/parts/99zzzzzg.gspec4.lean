-- needs: 99zzzzzf
set_option maxRecDepth 100000
/-! GATHERING: notes, tables, cells -/
theorem nt_in {S V : Hp} {E M : Int} (T : TB S V E M) : ∀ k : Nat, (k : Int) ≤ M → nt S V k = -1 ∨ (0 ≤ nt S V k ∧ nt S V k < E ∧ V 32 (nt S V k) ≠ 0 ∧ S 11 (nt S V k) < k ∧ k ≤ S 12 (nt S V k))
  | 0, _ => Or.inl rfl
  | k + 1, h => by
    have it := T.1.it k (by omega)
    rw [nt_s]
    by_cases h1 : S 2 k = 1 ∧ V 32 (S 3 k) ≠ 0
    · rw [if_pos h1]
      have x := it.1 h1.1
      have el := T.1.el _ x.1 x.2.1
      exact Or.inr ⟨x.1, x.2.1, h1.2, by omega, by omega⟩
    · rw [if_neg h1]
      by_cases h2 : S 2 k = 2 ∧ V 32 (S 3 k) ≠ 0
      · rw [if_pos h2]; exact Or.inl rfl
      · rw [if_neg h2]
        rcases nt_in T k (by omega) with z | ⟨z1, z2, z3, z4, z5⟩
        · exact Or.inl z
        · refine Or.inr ⟨z1, z2, z3, by omega, ?_⟩
          have el := T.1.el _ z1 z2
          rcases Int.lt_or_eq_of_le z5 with z | z
          · omega
          · exfalso
            apply h2
            rw [z]
            exact ⟨el.2.2.2.2.2.1, by rw [el.2.2.2.2.2.2.1]; exact z3⟩
/-- where something of the flow begins or stands, no note is open -/
theorem nt_flow {S V : Hp} {E M : Int} (T : TB S V E M) {k : Nat} (hk : (k : Int) ≤ M) {x : Int} (x0 : 0 ≤ x) (x1 : x < E) (h31 : V 31 x ≠ 0) (h32 : V 32 x = 0 ∨ cu S k ≠ x) (hx : cu S k = x ∨ cu S k = S 7 x) (h32' : cu S k = S 7 x → V 31 x ≠ 0) : nt S V k = -1 := by
  rcases nt_in T k hk with z | ⟨z1, z2, z3, z4, z5⟩
  · exact z
  · exfalso
    obtain ⟨j, d⟩ := T.1.nest z1 z2 k z4 z5
    have le := dsc_le _ _ d
    have par := T.1.par x x0 x1
    rcases hx with hx | hx
    · by_cases ne : x = nt S V k
      · rcases h32 with h | h
        · rw [ne] at h; exact z3 h
        · exact h hx
      · rw [hx] at d
        exact h31 (T.innote z3 j x x0 x1 z1 d ne)
    · rw [hx] at d le
      exact h31 (T.innote z3 (j + 1) x x0 x1 z1 (Or.inr ⟨by omega, d⟩) (by omega))
/-- nothing around what is in the flow is a cell -/
theorem TB.nocell {S V : Hp} {E M : Int} (T : TB S V E M) : ∀ (k : Nat) (x : Int), x < k → 0 ≤ x → x < E → V 31 x ≠ 0 → nr S (V 36) (S 7 x) = -1
  | 0, x, h, h0, _, _ => by omega
  | k + 1, x, h, x0, x1, hf => by
    have par := T.1.par x x0 x1
    by_cases hp : S 7 x < 0
    · exact nr_neg hp
    · have f := ((T.2 x x0 x1).2.1 hf).2 (by omega)
      rw [nr_0 T.1 (by omega) (by omega) f.2.2]
      exact TB.nocell T k (S 7 x) (by omega) (by omega) (by omega) f.1
theorem TB.norow {S V : Hp} {E M : Int} (T : TB S V E M) : ∀ (k : Nat) (x : Int), x < k → 0 ≤ x → x < E → V 31 x ≠ 0 → V 35 x = 0 → V 36 x = 0 → nr S (V 35) x = -1
  | 0, x, h, h0, _, _, _, _ => by omega
  | k + 1, x, h, x0, x1, hf, h5, h6 => by
    have par := T.1.par x x0 x1
    rw [nr_0 T.1 x0 x1 h5]
    by_cases hp : S 7 x < 0
    · exact nr_neg hp
    · have f := ((T.2 x x0 x1).2.1 hf)
      have f2 := f.2 (by omega)
      have g := ((T.2 x x0 x1).1 f.1).2 (by omega)
      exact TB.norow T k (S 7 x) (by omega) (by omega) (by omega) f2.1 (Classical.byContradiction fun z => g.2.2.2 z h6) f2.2.2
/-- what is shown in a table, outside of cells, is a table or a row -/
theorem TB.tabrow {S V : Hp} {E M : Int} (T : TB S V E M) : ∀ (k : Nat) (x : Int), x < k → 0 ≤ x → x < E → V 30 x ≠ 0 → nr S (V 34) x ≠ -1 → nr S (V 36) x = -1 → V 34 x ≠ 0 ∨ V 35 x ≠ 0
  | 0, x, h, h0, _, _, _, _ => by omega
  | k + 1, x, h, x0, x1, hs, ht, hc => by
    have par := T.1.par x x0 x1
    by_cases h4 : V 34 x ≠ 0
    · exact Or.inl h4
    · have h4' : V 34 x = 0 := Classical.byContradiction h4
      have h6 : V 36 x = 0 := Classical.byContradiction fun z => by rw [nr_1 T.1 x0 x1 z] at hc; omega
      rw [nr_0 T.1 x0 x1 h4'] at ht
      rw [nr_0 T.1 x0 x1 h6] at hc
      have p0 : 0 ≤ S 7 x := Classical.byContradiction fun z => ht (nr_neg (by omega))
      have g := ((T.2 x x0 x1).1 hs).2 p0
      rcases TB.tabrow T k (S 7 x) (by omega) p0 (by omega) g.1 ht hc with z | z
      · exact Or.inr (g.2.2.1 z)
      · exact absurd (g.2.2.2 z) (fun w => w h6)
theorem mtF_tb {V : Hp} {x : Int} (h : V 34 x ≠ 0 ∨ V 35 x ≠ 0) : mtF V x = true := by
  unfold mtF
  rcases h with h | h
  · rw [decide_eq_true h]; cases decide (V 30 x = 0) <;> cases muF (V 24 (22 * x)) <;> rfl
  · rw [decide_eq_true h]; cases decide (V 30 x = 0) <;> cases muF (V 24 (22 * x)) <;> cases decide (V 34 x ≠ 0) <;> rfl
theorem lbS_mt {Y V : Hp} {x : Int} (h : mtF V x = true) : lbS Y V x = [] := by unfold lbS; rw [if_pos h]
theorem gFl_T {e lf wd : Int} {s : GS} : (gFl e lf wd s).1.1 = ([], -1) ∧ (gFl e lf wd s).1.2 = s.1.2 := by
  unfold gFl gClr
  split <;> exact ⟨rfl, rfl⟩
theorem gRow_T {e : Int} {s : GS} : (gRow e s).1.1 = ([], -1) ∧ (gRow e s).1.2 = s.1.2 := by
  unfold gRow
  split <;> exact ⟨rfl, rfl⟩
theorem gCell_T {e : Int} {s : GS} : (gCell e s).1.1 = ([], -1) ∧ (gCell e s).1.2 = s.1.2 := by
  unfold gCell
  split <;> exact ⟨rfl, rfl⟩
theorem gGap_T {v : Int} {s : GS} : (gGap v s).1 = s.1 := rfl
theorem stB_h {S Y V Q : Hp} {XB : List (List Int)} {E e : Int} {s : GS} (h : V 30 e = 0) : stB S Y V Q XB E e s = s := by unfold stB; rw [if_pos h]
theorem stE_h {S V : Hp} {e : Int} {s : GS} (h : V 30 e = 0) : stE S V e s = s := by unfold stE; rw [if_pos h]
theorem stB_t {S Y V Q : Hp} {XB : List (List Int)} {E M e : Int} {s : GS} (T : TB S V E M) (x0 : 0 ≤ e) (x1 : e < E) (h4 : V 34 e ≠ 0) : (stB S Y V Q XB E e s).1.1 = ([], -1) := by
  have f := (T.2 e x0 x1).2.2.2.1.1 h4
  have b := (T.2 e x0 x1).2.2.2.2.1.2 ⟨f.1, Or.inr (Or.inl f.2)⟩
  have s0 := ((T.2 e x0 x1).2.1 f.1).1
  unfold stB
  rw [if_neg s0, if_pos b, if_neg (by omega), if_neg (by omega), lbS_mt (mtF_tb (Or.inl h4)), gPut_nil, gGap_T]
  exact gFl_T.1
theorem stB_r {S Y V Q : Hp} {XB : List (List Int)} {E M e : Int} {s : GS} (T : TB S V E M) (x0 : 0 ≤ e) (x1 : e < E) (h5 : V 35 e ≠ 0) : stB S Y V Q XB E e s = (s.1, s.2.1, s.2.2.1, s.2.2.2.1, [], s.2.2.2.2.2) := by
  have f := (T.2 e x0 x1).2.2.2.2.2.1 h5
  unfold stB
  rw [if_neg f.2.1, if_neg (fun z => by have := ((T.2 e x0 x1).2.2.2.2.1.1 z).2; omega), if_pos h5]
/-- in a table, outside of cells, no text is open -/
theorem fl_tab {S Y V Q : Hp} {XB : List (List Int)} {E M : Int} (T : TB S V E M) : ∀ k : Nat, (k : Int) ≤ M → nr S (V 34) (cu S k) ≠ -1 → nr S (V 36) (cu S k) = -1 → (fl S Y V Q XB E k).1.1 = ([], -1)
  | 0, _, _, _ => rfl
  | k + 1, h, ht, hc => by
    have ih := fl_tab (Y := Y) (Q := Q) (XB := XB) T k (by omega)
    have it := T.1.it k (by omega)
    rw [SB.cu_s] at ht hc
    rw [fl_s]
    by_cases i1 : S 2 k = 1
    · rw [if_pos i1] at ht hc
      obtain ⟨x0, x1, x2, x3⟩ := it.1 i1
      have e1 : stp S Y V Q XB E k (fl S Y V Q XB E k) = stB S Y V Q XB E (S 3 k) (fl S Y V Q XB E k) := by unfold stp; rw [if_pos i1]
      rw [e1]
      have par := T.1.par _ x0 x1
      by_cases h4 : V 34 (S 3 k) ≠ 0
      · have f := (T.2 _ x0 x1).2.2.2.1.1 h4
        rw [if_pos (nt_flow T (by omega) x0 x1 f.1 (Or.inr (by omega)) (Or.inr x3.symm) (fun _ => f.1))]
        exact stB_t T x0 x1 h4
      · have h4' : V 34 (S 3 k) = 0 := Classical.byContradiction h4
        have h6 : V 36 (S 3 k) = 0 := Classical.byContradiction fun z => by rw [nr_1 T.1 x0 x1 z] at hc; omega
        have ht' := ht
        have hc' := hc
        rw [nr_0 T.1 x0 x1 h4', x3] at ht'
        rw [nr_0 T.1 x0 x1 h6, x3] at hc'
        have ih' := ih ht' hc'
        by_cases n1 : nt S V k = -1
        · rw [if_pos n1]
          by_cases h0 : V 30 (S 3 k) = 0
          · rw [stB_h h0]; exact ih'
          · rcases T.tabrow (S 3 k).toNat.succ _ (by omega) x0 x1 h0 ht hc with z | z
            · exact absurd z h4
            · rw [stB_r T x0 x1 z]; exact ih'
        · rw [if_neg n1]; exact ih'
    · rw [if_neg i1] at ht hc
      by_cases i2 : S 2 k = 2
      · rw [if_pos i2] at ht hc
        obtain ⟨x0, x1, x2, x3⟩ := it.2.1 i2
        have e1 : stp S Y V Q XB E k (fl S Y V Q XB E k) = stE S V (S 3 k) (fl S Y V Q XB E k) := by unfold stp; rw [if_neg i1, if_pos i2]
        rw [e1]
        rw [← x3] at ht hc ih
        by_cases h6 : V 36 (S 3 k) ≠ 0
        · have f := (T.2 _ x0 x1).2.2.2.2.2.2.1 h6
          have h32 : V 32 (S 3 k) = 0 := Classical.byContradiction fun z => by have := ((T.2 _ x0 x1).2.2.1.1 z).2; omega
          rw [if_pos (nt_flow T (by omega) x0 x1 f.2.2.1 (Or.inl h32) (Or.inl x3.symm) (fun _ => f.2.2.1))]
          unfold stE
          rw [if_neg f.2.1, if_neg (fun z => by have := ((T.2 _ x0 x1).2.2.2.2.1.1 z).2; omega), if_pos h6]
          exact gCell_T.1
        · have h6' : V 36 (S 3 k) = 0 := Classical.byContradiction h6
          rw [nr_0 T.1 x0 x1 h6'] at ih
          have htx : nr S (V 34) (S 3 k) ≠ -1 := by
            by_cases h4 : V 34 (S 3 k) ≠ 0
            · rw [nr_1 T.1 x0 x1 h4]; omega
            · rw [nr_0 T.1 x0 x1 (Classical.byContradiction h4)]; exact ht
          have ih' := ih htx hc
          by_cases n1 : nt S V k = -1
          · rw [if_pos n1]
            by_cases h0 : V 30 (S 3 k) = 0
            · rw [stE_h h0]; exact ih'
            · have hcx : nr S (V 36) (S 3 k) = -1 := by rw [nr_0 T.1 x0 x1 h6']; exact hc
              unfold stE
              rw [if_neg h0]
              by_cases h3 : V 33 (S 3 k) ≠ 0
              · rw [if_pos h3, gGap_T]; exact gFl_T.1
              · rw [if_neg h3, if_neg h6]
                by_cases h5 : V 35 (S 3 k) ≠ 0
                · rw [if_pos h5]; exact gRow_T.1
                · rw [if_neg h5]; exact ih'
          · rw [if_neg n1]; exact ih'
      · rw [if_neg i2] at ht hc
        have ih' := ih ht hc
        have e1 : stp S Y V Q XB E k (fl S Y V Q XB E k) = fl S Y V Q XB E k := by
          unfold stp
          rw [if_neg i1, if_neg i2]
          have c0 : 0 ≤ cu S k := Classical.byContradiction fun z => ht (nr_neg (by omega))
          have cr := T.1.cu_r k (by omega)
          have mt : mtF V (cu S k) = true := by
            by_cases h0 : V 30 (cu S k) = 0
            · exact mtF_hid h0
            · exact mtF_tb (T.tabrow (cu S k).toNat.succ _ (by omega) c0 cr.2 h0 ht hc)
          unfold txB mtX
          rw [decide_eq_true c0, mt]
          rfl
        rw [e1]
        split <;> exact ih'
/-! cells of a row -/
theorem gFl_C {e lf wd : Int} {s : GS} : (gFl e lf wd s).2.2.2.2 = s.2.2.2.2 := by
  unfold gFl gClr
  split <;> rfl
theorem gCon_C {S Y V Q : Hp} {e : Int} {s : GS} : ∀ k, (gCon S Y V Q e s k).2.2.2.2 = s.2.2.2.2
  | 0 => rfl
  | k + 1 => by
    unfold gCon
    split
    · unfold gCon1; rw [gFl_C]; exact gCon_C k
    · exact gCon_C k
theorem gIdx_C {S V : Hp} {e : Int} : ∀ {XB : List (List Int)} {s : GS}, (gIdx S V XB e s).2.2.2.2 = s.2.2.2.2
  | [], s => rfl
  | L :: XB, s => by
    show (gIdx S V XB e (gFlB S V e (gPut (szF V e) L s))).2.2.2.2 = _
    rw [gIdx_C]
    unfold gFlB
    rw [gFl_C]
    rfl
theorem stB_C {S Y V Q : Hp} {XB : List (List Int)} {E e : Int} {s : GS} (h : V 35 e = 0 ∨ V 30 e = 0) : (stB S Y V Q XB E e s).2.2.2.2 = s.2.2.2.2 := by
  unfold stB
  split
  · rfl
  · rename_i h0
    have h5 : V 35 e = 0 := h.resolve_right h0
    split
    · split
      · rw [gCon_C]
        show (gFlB S V (nr S (V 33) (S 7 e)) s).2.2.2.2 = _
        exact gFl_C
      · split
        · rw [gIdx_C]
          show (gFlB S V (nr S (V 33) (S 7 e)) s).2.2.2.2 = _
          exact gFl_C
        · show (gFlB S V (nr S (V 33) (S 7 e)) s).2.2.2.2 = _
          exact gFl_C
    · rw [if_neg (fun z => z h5)]
      split
      · rfl
      · split <;> rfl
theorem stE_C {S V : Hp} {e : Int} {s : GS} (h : V 33 e ≠ 0 ∨ V 30 e = 0 ∨ (V 36 e = 0 ∧ V 35 e = 0)) : (stE S V e s).2.2.2.2 = s.2.2.2.2 := by
  unfold stE
  split
  · rfl
  · rename_i h0
    split
    · show (gFlB S V e s).2.2.2.2 = _
      exact gFl_C
    · rename_i h3
      have h' := h.resolve_left h3
      have h'' := h'.resolve_left h0
      rw [if_neg (fun z => z h''.1), if_neg (fun z => z h''.2)]
theorem cntC_s {c P : Int → Int} {x : Int} (k : Nat) : cntC c P x (k + 1) = cntC c P x k + (if P k = x ∧ c k ≠ 0 then 1 else 0) := rfl
theorem cntC_z {c P : Int → Int} {x : Int} : ∀ k : Nat, (∀ j : Nat, j < k → P j ≠ x) → cntC c P x k = 0
  | 0, _ => rfl
  | k + 1, h => by rw [cntC_s, cntC_z k (fun j hj => h j (by omega)), if_neg (fun z => h k (by omega) z.1)]; rfl
/-- how many cells of the row there are -/
theorem fl_cells {S Y V Q : Hp} {XB : List (List Int)} {E M : Int} (T : TB S V E M) : ∀ k : Nat, (k : Int) ≤ M → nr S (V 35) (cu S k) ≠ -1 → ((fl S Y V Q XB E k).2.2.2.2.1.length : Int) = cntC (V 36) (S 7) (nr S (V 35) (cu S k)) (NB S k).toNat - (if nr S (V 36) (cu S k) = -1 then 0 else 1)
  | 0, _, hr => absurd (nr_neg (show (-1 : Int) < 0 by decide)) hr
  | k + 1, h, hr => by
    have ih := fl_cells (Y := Y) (Q := Q) (XB := XB) T k (by omega)
    have it := T.1.it k (by omega)
    have nb := T.1.nb k (by omega)
    rw [SB.cu_s] at hr ⊢
    rw [fl_s]
    by_cases i1 : S 2 k = 1
    · rw [if_pos i1] at hr ⊢
      have xb := T.1.nb_x (by omega) i1
      have nb1 : (NB S (k + 1)).toNat = (NB S k).toNat + 1 := by
        show (NB S k + (if S 2 k = 1 then 1 else 0)).toNat = _
        rw [if_pos i1]; omega
      have nbc : (((NB S k).toNat : Nat) : Int) = S 3 k := by omega
      rw [nb1, cntC_s, nbc]
      obtain ⟨x0, x1, x2, x3⟩ := it.1 i1
      have e1 : stp S Y V Q XB E k (fl S Y V Q XB E k) = stB S Y V Q XB E (S 3 k) (fl S Y V Q XB E k) := by unfold stp; rw [if_pos i1]
      rw [e1]
      have par := T.1.par _ x0 x1
      by_cases h5 : V 35 (S 3 k) ≠ 0
      · have f := (T.2 _ x0 x1).2.2.2.2.2.1 h5
        rw [if_pos (nt_flow T (by omega) x0 x1 f.2.2.1 (Or.inr (by omega)) (Or.inr x3.symm) (fun _ => f.2.2.1)), stB_r T x0 x1 h5, nr_1 T.1 x0 x1 h5]
        have h6 : V 36 (S 3 k) = 0 := Classical.byContradiction fun z => by have := ((T.2 _ x0 x1).2.2.2.2.2.2.1 z).1; omega
        rw [nr_0 T.1 x0 x1 h6, T.nocell (S 3 k).toNat.succ _ (by omega) x0 x1 f.2.2.1, if_pos rfl, if_neg (by omega), cntC_z _ (fun j hj => by have := T.1.par j (by omega) (by omega); omega)]
        rfl
      · have h5' : V 35 (S 3 k) = 0 := Classical.byContradiction h5
        have hC : (if nt S V k = -1 then stB S Y V Q XB E (S 3 k) (fl S Y V Q XB E k) else fl S Y V Q XB E k).2.2.2.2.1 = (fl S Y V Q XB E k).2.2.2.2.1 := by
          split
          · rw [stB_C (Or.inl h5')]
          · rfl
        rw [hC]
        rw [nr_0 T.1 x0 x1 h5', x3] at hr ⊢
        rw [ih hr]
        by_cases h6 : V 36 (S 3 k) ≠ 0
        · have f := (T.2 _ x0 x1).2.2.2.2.2.2.1 h6
          have r1 : nr S (V 35) (cu S k) = cu S k := by rw [← x3]; exact nr_1 T.1 f.2.2.2.1 (by omega) f.2.2.2.2.1
          have c1 : nr S (V 36) (cu S k) = -1 := by rw [← x3]; exact T.nocell (S 3 k).toNat.succ _ (by omega) x0 x1 f.2.2.1
          rw [r1, c1, nr_1 T.1 x0 x1 h6, if_pos rfl, if_neg (show ¬ S 3 k = -1 by omega), if_pos ⟨rfl, h6⟩]
          omega
        · have h6' : V 36 (S 3 k) = 0 := Classical.byContradiction h6
          rw [nr_0 T.1 x0 x1 h6', x3, if_neg (show ¬ (cu S k = nr S (V 35) (cu S k) ∧ V 36 (S 3 k) ≠ 0) from fun z => z.2 h6')]
          omega
    · rw [if_neg i1] at hr ⊢
      have nb1 : NB S (k + 1) = NB S k := by
        show NB S k + (if S 2 k = 1 then 1 else 0) = _
        rw [if_neg i1]; omega
      rw [nb1]
      by_cases i2 : S 2 k = 2
      · rw [if_pos i2] at hr ⊢
        obtain ⟨x0, x1, x2, x3⟩ := it.2.1 i2
        have e1 : stp S Y V Q XB E k (fl S Y V Q XB E k) = stE S V (S 3 k) (fl S Y V Q XB E k) := by unfold stp; rw [if_neg i1, if_pos i2]
        rw [e1]
        rw [← x3] at hr ih ⊢
        have par := T.1.par _ x0 x1
        by_cases h6 : V 36 (S 3 k) ≠ 0
        · have f := (T.2 _ x0 x1).2.2.2.2.2.2.1 h6
          have h32 : V 32 (S 3 k) = 0 := Classical.byContradiction fun z => by have := ((T.2 _ x0 x1).2.2.1.1 z).2; omega
          have h5' : V 35 (S 3 k) = 0 := Classical.byContradiction fun z => by have := ((T.2 _ x0 x1).2.2.2.2.2.1 z).1; omega
          rw [if_pos (nt_flow T (by omega) x0 x1 f.2.2.1 (Or.inl h32) (Or.inl x3.symm) (fun _ => f.2.2.1))]
          rw [nr_0 T.1 x0 x1 h5'] at ih
          have ih' := ih hr
          rw [nr_1 T.1 x0 x1 h6, if_neg (show ¬ S 3 k = -1 by omega)] at ih'
          have eC : (stE S V (S 3 k) (fl S Y V Q XB E k)).2.2.2.2.1.length = (fl S Y V Q XB E k).2.2.2.2.1.length + 1 := by
            unfold stE
            rw [if_neg f.2.1, if_neg (fun z => by have := ((T.2 _ x0 x1).2.2.2.2.1.1 z).2; omega), if_pos h6]
            unfold gCell
            split
            · dsimp only; rw [List.length_append]; rfl
            · dsimp only; rw [List.length_append]; rfl
          rw [eC, T.nocell (S 3 k).toNat.succ _ (by omega) x0 x1 f.2.2.1, if_pos rfl]
          omega
        · have h6' : V 36 (S 3 k) = 0 := Classical.byContradiction h6
          by_cases h5 : V 35 (S 3 k) ≠ 0
          · exfalso
            have f := (T.2 _ x0 x1).2.2.2.2.2.1 h5
            have g := (T.2 _ f.2.2.2.1 (by omega)).2.2.2.1.1 f.2.2.2.2
            exact hr (T.norow (S 7 (S 3 k)).toNat.succ _ (by omega) f.2.2.2.1 (by omega) g.1 (Classical.byContradiction fun z => by have := ((T.2 _ f.2.2.2.1 (by omega)).2.2.2.2.2.1 z).1; omega) (Classical.byContradiction fun z => by have := ((T.2 _ f.2.2.2.1 (by omega)).2.2.2.2.2.2.1 z).1; omega))
          · have h5' : V 35 (S 3 k) = 0 := Classical.byContradiction h5
            have hC : (if nt S V k = -1 then stE S V (S 3 k) (fl S Y V Q XB E k) else fl S Y V Q XB E k).2.2.2.2.1 = (fl S Y V Q XB E k).2.2.2.2.1 := by
              split
              · rw [stE_C (Or.inr (Or.inr ⟨h6', h5'⟩))]
              · rfl
            rw [nr_0 T.1 x0 x1 h5', nr_0 T.1 x0 x1 h6'] at ih
            rw [hC, ih hr]
      · rw [if_neg i2] at hr ⊢
        have hC : (if nt S V k = -1 then stp S Y V Q XB E k (fl S Y V Q XB E k) else fl S Y V Q XB E k).2.2.2.2.1 = (fl S Y V Q XB E k).2.2.2.2.1 := by
          unfold stp
          rw [if_neg i1, if_neg i2]
          split <;> rfl
        rw [hC, ih hr]
/-- at its end, a cell's column is how many there are -/
theorem fl_col {S Y V Q : Hp} {XB : List (List Int)} {E M e : Int} (T : TB S V E M) (e0 : 0 ≤ e) (e1 : e < E) (h : V 36 e ≠ 0) : ((fl S Y V Q XB E (S 12 e).toNat).2.2.2.2.1.length : Int) = V 29 e ∧ V 29 e < 8 ∧ 0 ≤ V 29 e := by
  have el := T.1.el e e0 e1
  have par := T.1.par e e0 e1
  have f := (T.2 e e0 e1).2.2.2.2.2.2.1 h
  have h5 : V 35 e = 0 := Classical.byContradiction fun z => by have := ((T.2 e e0 e1).2.2.2.2.2.1 z).1; omega
  have r1 : nr S (V 35) e = S 7 e := by rw [nr_0 T.1 e0 e1 h5]; exact nr_1 T.1 f.2.2.2.1 (by omega) f.2.2.2.2.1
  have a := fl_cells (Y := Y) (Q := Q) (XB := XB) T (S 12 e).toNat (by omega) (by rw [el.2.2.2.2.2.2.2.2, r1]; omega)
  rw [el.2.2.2.2.2.2.2.2, r1, nr_1 T.1 e0 e1 h, if_neg (by omega)] at a
  have nb := T.1.nb (S 12 e).toNat (by omega)
  have ne : e < NB S (S 12 e).toNat := (nb.2.2 e e0 e1).1 (by omega)
  have key : ∀ j : Nat, e.toNat + 1 + j ≤ (NB S (S 12 e).toNat).toNat → cntC (V 36) (S 7) (S 7 e) (e.toNat + 1 + j) = cntC (V 36) (S 7) (S 7 e) e.toNat + 1 := by
    intro j
    induction j with
    | zero =>
      intro _
      show cntC (V 36) (S 7) (S 7 e) (e.toNat + 1) = _
      rw [cntC_s, show ((e.toNat : Nat) : Int) = e by omega, if_pos ⟨rfl, h⟩]
    | succ j ih =>
      intro hj
      rw [show e.toNat + 1 + (j + 1) = e.toNat + 1 + j + 1 by omega, cntC_s, ih (by omega), if_neg (fun z => ?_)]
      · omega
      · have y1 : ((e.toNat + 1 + j : Nat) : Int) < E := by omega
        have by_ := T.1.el _ (Int.natCast_nonneg (e.toNat + 1 + j)) y1
        have m := T.1.mono j e e0 (by omega)
        rw [show e + (j : Int) + 1 = ((e.toNat + 1 + j : Nat) : Int) by omega] at m
        have lt := (nb.2.2 _ (Int.natCast_nonneg (e.toNat + 1 + j)) y1).2 (by omega)
        obtain ⟨q, d⟩ := T.1.nest e0 e1 (S 11 ((e.toNat + 1 + j : Nat) : Int)).toNat (by omega) (by omega)
        have le := dsc_le _ _ d
        rw [by_.2.2.2.2.2.2.2.1, z.1] at le
        omega
  have k2 := key ((NB S (S 12 e).toNat).toNat - (e.toNat + 1)) (by omega)
  rw [show e.toNat + 1 + ((NB S (S 12 e).toNat).toNat - (e.toNat + 1)) = (NB S (S 12 e).toNat).toNat by omega] at k2
  have c0 : ∀ k : Nat, 0 ≤ cntC (V 36) (S 7) (S 7 e) k := fun k => by
    induction k with
    | zero => exact Int.le_refl _
    | succ k ih => rw [cntC_s]; split <;> omega
  have := c0 e.toNat
  rw [f.2.2.2.2.2.1]
  omega
