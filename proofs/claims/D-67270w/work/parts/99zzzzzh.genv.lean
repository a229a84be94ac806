-- needs: 99zzzzzg
set_option maxRecDepth 100000
/-! GATHERING: what the component writes, what stays -/
def rgC (r : Int × Int) : Bool := rfT.all (fun e => decide (e.1 < r.1) || decide (r.2 < e.1))
def rgP (o : Int × List Int) : Bool := rfT.all (fun e => decide (e.1 ≠ o.1) || decide (e.2.2.1 ∉ o.2))
/-- LAY asks for its own places alone -/
theorem lay_Y {W : Int → Int → Prop} {h h' : Hp} (hL : LAY h) (f : F2 W h h') (h0 : 982 ≤ h' 0 0) (A : List (Int × Int)) (O : List (Int × List Int)) (hA : A.all rgC = true) (hO : O.all rgP = true) (hW : ∀ b j, W b j → b ≤ 0 ∨ 983 ≤ b ∨ (0 ≤ j ∧ ((∃ r ∈ A, r.1 ≤ b ∧ b ≤ r.2) ∨ ∃ e ∈ O, b = e.1 ∧ j ∈ e.2))) : LAY h' := by
  refine ⟨h0, fun k q hq => ?_, fun k e he => ?_⟩
  · have r := kdT_ok q (List.mem_of_getElem? hq)
    have g := hL.2.1 k q hq
    rw [f q.1 (-2) (fun z => by rcases hW _ _ z with w | w | w <;> omega), f q.1 (-1) (fun z => by rcases hW _ _ z with w | w | w <;> omega)]
    exact g
  · have m := List.mem_of_getElem? he
    have r := rfT_ok e m
    have g := hL.2.2 k e he
    rw [f e.1 (-2) (fun z => by rcases hW _ _ z with w | w | w <;> omega), f e.1 e.2.2.1 (fun z => ?_)]
    · exact g
    · rcases hW _ _ z with w | w | ⟨-, ⟨x, hx, x1, x2⟩ | ⟨x, hx, x1, x2⟩⟩
      · omega
      · omega
      · have c := List.all_eq_true.mp (List.all_eq_true.mp hA x hx) e m
        simp only [Bool.or_eq_true, decide_eq_true_eq] at c
        omega
      · have c := List.all_eq_true.mp (List.all_eq_true.mp hO x hx) e m
        simp only [Bool.or_eq_true, decide_eq_true_eq] at c
        rcases c with c | c
        · exact c x1
        · exact c x2
/-- cells of book b's own, and new ones -/
def cel (h : Hp) (b q : Int) : Prop := 983 ≤ q ∧ (h q 0 = b + 1 ∨ h 0 0 < q)
/-- what gathering writes: book b, tree a, hyphens y -/
def GW (h : Hp) (b a y : Int) : Int → Int → Prop := fun q j => q = 0 ∨ cel h b q ∨ (q = b ∧ (j = 9 ∨ j = 11 ∨ j = 23 ∨ j = 26 ∨ j = 27 ∨ j = 36 ∨ j = 39 ∨ (44 ≤ j ∧ j ≤ 49) ∨ j = 53)) ∨ (q = b + 1 ∧ (j = 3 ∨ j = 12)) ∨ (b + 2 ≤ q ∧ q ≤ b + 12 ∧ 0 ≤ j) ∨ (b + 15 ≤ q ∧ q ≤ b + 37 ∧ 0 ≤ j) ∨ (b + 50 ≤ q ∧ q ≤ b + 53 ∧ 0 ≤ j) ∨
  (261 ≤ q ∧ q ≤ 272 ∧ 0 ≤ j ∧ (3 ≤ j ∨ (q ≠ 261 ∧ q ≠ 265 ∧ q ≠ 269))) ∨ (q = 273 ∧ j = 1) ∨ (q = 274 ∧ 0 ≤ j) ∨ (q = 275 ∧ j = 3) ∨ (276 ≤ q ∧ q ≤ 282 ∧ 0 ≤ j) ∨ (q = a ∧ (j = 19 ∨ j = 20)) ∨ (q = a + 15 ∧ j = 1) ∨ (q = a + 16 ∧ 0 ≤ j) ∨ fpW y q j
theorem gw_0 : ∀ b ∈ in_aX14, ([(b + 2, b + 12), (b + 15, b + 37), (b + 50, b + 53), (262, 264), (266, 268), (270, 272), (274, 274), (276, 282), (200, 200), (217, 217), (241, 241), (255, 255), (258, 258)] : List (Int × Int)).all rgC = true ∧ ([(b, [9, 11, 23, 26, 27, 36, 39, 44, 45, 46, 47, 48, 49, 53]), (b + 1, [3, 12]), (273, [1]), (275, [3]), (184, [19, 20]), (201, [19, 20]), (199, [1]), (216, [1])] : List (Int × List Int)).all rgP = true := by decide +kernel
theorem rfT_tx : rfT.all (fun e => decide (e.1 ≠ 261 ∧ e.1 ≠ 265 ∧ e.1 ≠ 269) || decide (e.2.2.1 < 3)) = true := by decide +kernel
theorem GW_l {u0 h h' : Hp} {b a y : Int} (hL : LAY h) (hb : b ∈ in_aX14) (ha : a ∈ in_aX7) (hy : y ∈ in_aX9) (h0 : 982 ≤ h' 0 0) (f : F2 (GW u0 b a y) h h') : LAY h' := by
  have hb' := rX14 hb
  have ha' := aX7 ha
  have hy' := aX9 hy
  obtain ⟨g1, g2⟩ := gw_0 b hb
  -- texts first: their fields from 3 on
  have L1 : LAY (fun q j => if (q = 261 ∨ q = 265 ∨ q = 269) then h q j else h' q j) := by
    refine lay_Y (W := fun q j => GW u0 b a y q j ∧ ¬ (q = 261 ∨ q = 265 ∨ q = 269)) hL (fun q j n => ?_) (by show 982 ≤ (if ((0 : Int) = 261 ∨ (0 : Int) = 265 ∨ (0 : Int) = 269) then h 0 0 else h' 0 0); rw [if_neg (by decide)]; exact h0) _ _ g1 g2 (fun q j z => ?_)
    · by_cases hq : q = 261 ∨ q = 265 ∨ q = 269
      · rw [if_pos hq]
      · rw [if_neg hq]; exact f q j (fun z => n ⟨z, hq⟩)
    · obtain ⟨z, hq⟩ := z
      unfold GW cel fpW at z
      have O : ∀ {q : Int} {L : List Int} (e : Int × List Int), e ∈ ([(b, [9, 11, 23, 26, 27, 36, 39, 44, 45, 46, 47, 48, 49, 53]), (b + 1, [3, 12]), (273, [1]), (275, [3]), (184, [19, 20]), (201, [19, 20]), (199, [1]), (216, [1])] : List (Int × List Int)) → q = e.1 → j ∈ e.2 → 0 ≤ j → q ≤ 0 ∨ 983 ≤ q ∨ (0 ≤ j ∧ ((∃ r ∈ ([(b + 2, b + 12), (b + 15, b + 37), (b + 50, b + 53), (262, 264), (266, 268), (270, 272), (274, 274), (276, 282), (200, 200), (217, 217), (241, 241), (255, 255), (258, 258)] : List (Int × Int)), r.1 ≤ q ∧ q ≤ r.2) ∨ ∃ e ∈ ([(b, [9, 11, 23, 26, 27, 36, 39, 44, 45, 46, 47, 48, 49, 53]), (b + 1, [3, 12]), (273, [1]), (275, [3]), (184, [19, 20]), (201, [19, 20]), (199, [1]), (216, [1])] : List (Int × List Int)), q = e.1 ∧ j ∈ e.2)) := fun e he h1 h2 h3 => Or.inr (Or.inr ⟨h3, Or.inr ⟨e, he, h1, h2⟩⟩)
      have A : ∀ (r : Int × Int), r ∈ ([(b + 2, b + 12), (b + 15, b + 37), (b + 50, b + 53), (262, 264), (266, 268), (270, 272), (274, 274), (276, 282), (200, 200), (217, 217), (241, 241), (255, 255), (258, 258)] : List (Int × Int)) → r.1 ≤ q → q ≤ r.2 → 0 ≤ j → q ≤ 0 ∨ 983 ≤ q ∨ (0 ≤ j ∧ ((∃ r ∈ ([(b + 2, b + 12), (b + 15, b + 37), (b + 50, b + 53), (262, 264), (266, 268), (270, 272), (274, 274), (276, 282), (200, 200), (217, 217), (241, 241), (255, 255), (258, 258)] : List (Int × Int)), r.1 ≤ q ∧ q ≤ r.2) ∨ ∃ e ∈ ([(b, [9, 11, 23, 26, 27, 36, 39, 44, 45, 46, 47, 48, 49, 53]), (b + 1, [3, 12]), (273, [1]), (275, [3]), (184, [19, 20]), (201, [19, 20]), (199, [1]), (216, [1])] : List (Int × List Int)), q = e.1 ∧ j ∈ e.2)) := fun r hr h1 h2 h3 => Or.inr (Or.inr ⟨h3, Or.inl ⟨r, hr, h1, h2⟩⟩)
      rcases z with z | z | z | z | z | z | z | z | z | z | z | z | z | z | z | z
      · exact Or.inl (by omega)
      · exact Or.inr (Or.inl z.1)
      · exact O (q := q) (L := []) (b, [9, 11, 23, 26, 27, 36, 39, 44, 45, 46, 47, 48, 49, 53]) (by simp) z.1 (by simp; omega) (by omega)
      · exact O (q := q) (L := []) (b + 1, [3, 12]) (by simp) z.1 (by simp; omega) (by omega)
      · exact A (b + 2, b + 12) (by simp) z.1 z.2.1 z.2.2
      · exact A (b + 15, b + 37) (by simp) z.1 z.2.1 z.2.2
      · exact A (b + 50, b + 53) (by simp) z.1 z.2.1 z.2.2
      · have : (262 ≤ q ∧ q ≤ 264) ∨ (266 ≤ q ∧ q ≤ 268) ∨ (270 ≤ q ∧ q ≤ 272) := by omega
        rcases this with w | w | w
        · exact A (262, 264) (by simp) w.1 w.2 z.2.2.1
        · exact A (266, 268) (by simp) w.1 w.2 z.2.2.1
        · exact A (270, 272) (by simp) w.1 w.2 z.2.2.1
      · exact O (q := q) (L := []) (273, [1]) (by simp) z.1 (by simp; omega) (by omega)
      · exact A (274, 274) (by simp) (by dsimp only; omega) (by dsimp only; omega) z.2
      · exact O (q := q) (L := []) (275, [3]) (by simp) z.1 (by simp; omega) (by omega)
      · exact A (276, 282) (by simp) z.1 z.2.1 z.2.2
      · rcases ha' with rfl | rfl
        · exact O (q := q) (L := []) (184, [19, 20]) (by simp) z.1 (by simp; omega) (by omega)
        · exact O (q := q) (L := []) (201, [19, 20]) (by simp) z.1 (by simp; omega) (by omega)
      · rcases ha' with rfl | rfl
        · exact O (q := q) (L := []) (199, [1]) (by simp) (by omega) (by simp; omega) (by omega)
        · exact O (q := q) (L := []) (216, [1]) (by simp) (by omega) (by simp; omega) (by omega)
      · rcases ha' with rfl | rfl
        · exact A (200, 200) (by simp) (by dsimp only; omega) (by dsimp only; omega) z.2
        · exact A (217, 217) (by simp) (by dsimp only; omega) (by dsimp only; omega) z.2
      · rcases z with z | z
        · rcases hy' with rfl | rfl
          · exact A (241, 241) (by simp) (by dsimp only; omega) (by dsimp only; omega) z.2.1
          · exact A (255, 255) (by simp) (by dsimp only; omega) (by dsimp only; omega) z.2.1
        · exact A (258, 258) (by simp) (by dsimp only; omega) (by dsimp only; omega) z.2.1
  refine ⟨h0, fun k q hq => ?_, fun k e he => ?_⟩
  · have r := kdT_ok q (List.mem_of_getElem? hq)
    have g := hL.2.1 k q hq
    have n : ∀ j, j < 0 → ¬ GW u0 b a y q.1 j := fun j hj z => by unfold GW cel fpW at z; omega
    rw [f q.1 (-2) (n _ (by decide)), f q.1 (-1) (n _ (by decide))]
    exact g
  · have m := List.mem_of_getElem? he
    have r := rfT_ok e m
    have g := L1.2.2 k e he
    dsimp only at g
    by_cases hq : e.1 = 261 ∨ e.1 = 265 ∨ e.1 = 269
    · rw [if_pos hq, if_pos hq] at g
      have c := List.all_eq_true.mp rfT_tx e m
      simp only [Bool.or_eq_true, decide_eq_true_eq] at c
      have n : ∀ j, j < 3 → ¬ GW u0 b a y e.1 j := fun j hj z => by unfold GW cel fpW at z; omega
      rw [f e.1 (-2) (n _ (by decide)), f e.1 e.2.2.1 (n _ (by omega))]
      exact g
    · rw [if_neg hq, if_neg hq] at g; exact g
theorem GW.up {h h1 : Hp} {b a y : Int} (hb : b ∈ in_aX14) (ha : a ∈ in_aX7) (hy : y ∈ in_aX9) (f : F2 (GW h b a y) h h1) (m : h 0 0 ≤ h1 0 0) : ∀ q j, GW h1 b a y q j → GW h b a y q j := by
  intro q j z
  have hb' := rX14 hb
  have ha' := rX7 ha
  have hy' := aX9 hy
  have n0 : 983 ≤ q → ¬ cel h b q → h1 q 0 = h q 0 := fun q0 n => f q 0 (fun x => by
    unfold GW fpW at x
    rcases x with x | x | x
    · omega
    · exact n x
    · omega)
  unfold GW at *
  rcases z with z | z | z
  · exact Or.inl z
  · refine Or.inr (Or.inl (Classical.byContradiction fun n => ?_))
    unfold cel at z
    have e := n0 z.1 n
    apply n
    unfold cel
    refine ⟨z.1, ?_⟩
    rcases z.2 with w | w
    · rw [e] at w; exact Or.inl w
    · exact Or.inr (by omega)
  · exact Or.inr (Or.inr z)
theorem GW.trans {h h1 h2 : Hp} {b a y : Int} (hb : b ∈ in_aX14) (ha : a ∈ in_aX7) (hy : y ∈ in_aX9) (f : F2 (GW h b a y) h h1) (m : h 0 0 ≤ h1 0 0) (g : F2 (GW h1 b a y) h1 h2) : F2 (GW h b a y) h h2 := f.trans (g.mono (GW.up hb ha hy f m))
theorem KTR.keep1 {S Y V p p' : Hp} {a sa ya E M : Int} (K : KTR S Y V p a sa ya E M) (L' : LAY p') (rw_ : ∀ x, 1 ≤ x → x < 218 → x ≠ a → x ≠ a + 15 → x ≠ a + 16 → p' x = p x) (ea : ∀ j, j ≤ 18 → p' a j = p a j) : KTR S Y V p' a sa ya E M := by
  obtain ⟨n, N, s, F, n', N', s', C, ns, na, nsel, nb, nt, m, ⟨⟨hL, ha, hs, hy⟩, R, R', ⟨⟨t0, t1, t2⟩, t3, t4⟩, ts⟩⟩ := K
  have h7 := aX7 ha
  have h6 := aX6 hs
  have h3 := aX3' hy
  have rw1 : ∀ x, 1 ≤ x → x < 218 → x ≠ a → x ≠ a + 15 → x ≠ a + 16 → p' x = p x := rw_
  refine ⟨n, N, s, F, n', N', s', C, ns, na, nsel, nb, nt, m, ⟨L', ha, hs, hy⟩, R.kept (fun x x0 x1 => rw1 x (by omega) (by omega) (by omega) (by omega) (by omega)), R'.kept (fun x x0 x1 => rw1 x (by omega) (by omega) (by omega) (by omega) (by omega)), ⟨⟨?_, ?_, ?_⟩, fun e e0 e1 => ?_, fun k k0 k1 => ?_⟩, ts⟩
  · rw [ea _ (by decide)]; exact t0
  · rw [ea _ (by decide)]; exact t1
  · rw [ea _ (by decide)]; exact t2
  · obtain ⟨z1, z2⟩ := t3 e e0 e1
    have r : ∀ k, 2 ≤ k → k ≤ 14 → p' (a + k) = p (a + k) := fun k k0 k1 => rw1 (a + k) (by omega) (by omega) (by omega) (by omega) (by omega)
    rw [r 4 (by decide) (by decide), r 5 (by decide) (by decide), r 6 (by decide) (by decide), r 7 (by decide) (by decide), r 8 (by decide) (by decide), r 13 (by decide) (by decide)]
    refine ⟨z1.kept (fun c _ _ => ?_) ?_ ?_, z2⟩
    · rw [r 2 (by decide) (by decide)]
    · rw [r 3 (by decide) (by decide)]
    · rw [rw1 (ya + 12) (by omega) (by omega) (by omega) (by omega) (by omega)]
  · rw [rw1 (a + 14) (by omega) (by omega) (by omega) (by omega) (by omega)]; exact t4 k k0 k1
/-- the book's surroundings -/
def EV (S Y V Q : Hp) (h : Hp) (b a sa ya E M f y : Int) (W : Int → Int) (K J : Int → Int → Int) (T : Hp) (np : Int) (sg : Int → List Int) (dt : Int → Int → Int) : Prop :=
  KTR S Y V h a sa ya E M ∧ b ∈ in_aX14 ∧ bkX h b a sa ya ∧ (qC h Q b E ∧ qOK Q E) ∧ (h b 4 = f ∧ f ∈ in_aX8 ∧ foR W K J ∧ foC h f W K J) ∧ h b 5 = y ∧ y ∈ in_aX9 ∧ hyC T h y np sg dt
theorem EV.kept {S Y V Q h h' : Hp} {b a sa ya E M f y : Int} {W : Int → Int} {K J : Int → Int → Int} {T : Hp} {np : Int} {sg : Int → List Int} {dt : Int → Int → Int} (X : EV S Y V Q h b a sa ya E M f y W K J T np sg dt) (h0 : 982 ≤ h' 0 0) (g : F2 (GW h b a y) h h') : EV S Y V Q h' b a sa ya E M f y W K J T np sg dt := by
  obtain ⟨k, hb, B, ⟨q1, q2⟩, ⟨f1, f2, f3, f4⟩, y1, y2, y3⟩ := X
  obtain ⟨hL, ha, hs, hy⟩ := k.lay
  have hb' := rX14 hb
  have ha' := rX7 ha
  have hf' := aX8 f2
  have hy' := aX9 y2
  have L' := GW_l hL hb ha y2 h0 g
  have bf : ∀ j, 0 ≤ j → j ≤ 6 → h' b j = h b j := fun j j0 j1 => g b j (fun z => by unfold GW cel fpW at z; omega)
  refine ⟨k.keep1 L' (fun x x0 x1 x2 x3 x4 => g.row (fun j z => by unfold GW cel fpW at z; omega)) (fun j j1 => g _ _ (fun z => by unfold GW cel fpW at z; omega)), hb, ?_, ⟨q1.kept (fun k k0 k1 => g.row (fun j z => by unfold GW cel fpW at z; omega)), q2⟩, ⟨?_, f2, f3, f4.kept (fun x x0 x1 => g.row (fun j z => by unfold GW cel fpW at z; omega))⟩, ?_, y2, y3.kept (fun x x0 x1 => g.row (fun j z => by unfold GW cel fpW at z; omega)) (fun j => g _ _ (fun z => by unfold GW cel fpW at z; omega))⟩
  · unfold bkX
    rw [bf 2 (by decide) (by decide), bf 3 (by decide) (by decide), bf 6 (by decide) (by decide)]
    exact B
  · rw [bf 4 (by decide) (by decide)]; exact f1
  · rw [bf 5 (by decide) (by decide)]; exact y1
theorem KTR.tb {S Y V p : Hp} {a sa ya E M : Int} (K : KTR S Y V p a sa ya E M) : TB S V E M := by
  obtain ⟨n, N, s, F, n', N', s', C, ns, na, nsel, nb, nt, m, T⟩ := K
  have B : SB S E M := ⟨p, sa, n, N, s, F, T.2.1⟩
  exact ⟨B, fx_of (fun x x0 x1 => (T.2.2.2.2.2.2.2 x x0 x1).2.2.1) B.par⟩
theorem KTR.vr {S Y V p : Hp} {a sa ya E M : Int} (K : KTR S Y V p a sa ya E M) : (∀ e c, e < E → 0 ≤ c → c ≤ 21 → c ≠ 1 → c ≠ 17 → vrO 12 c (ofV (V 24) e c)) ∧ (∀ e, e < E → 1000 ≤ ofV (V 24) e 1 ∧ ofV (V 24) e 1 ≤ 100000) := by
  obtain ⟨n, N, s, F, n', N', s', C, ns, na, nsel, nb, nt, m, T⟩ := K
  exact ⟨PV.rng T.2.1 T.2.2.1 T.2.2.2.2.2.2.1, PV.size T.2.1 T.2.2.1 (fun e e0 e1 => T.2.2.2.2.2.2.1 e 1 e0 e1 (by decide) (by decide)) (Int.le_refl _)⟩
theorem KTR.pg {S Y V p : Hp} {a sa ya E M : Int} (K : KTR S Y V p a sa ya E M) : (p ya 23 = V 23 0 ∧ 10000 ≤ V 23 0 ∧ V 23 0 ≤ 1000000) ∧ (p ya 24 = V 23 1 ∧ 10000 ≤ V 23 1 ∧ V 23 1 ≤ 1000000) ∧ (p ya 25 = V 23 2 ∧ 1 ≤ V 23 2 ∧ V 23 2 ≤ 4) ∧ (p ya 26 = V 23 3 ∧ 0 ≤ V 23 3 ∧ V 23 3 ≤ 100000) ∧ (p ya 27 = V 23 4 ∧ 0 ≤ V 23 4 ∧ V 23 4 ≤ 100000) ∧ (p ya 28 = V 23 5 ∧ 0 ≤ V 23 5 ∧ V 23 5 ≤ 2) := by
  obtain ⟨n, N, s, F, n', N', s', C, ns, na, nsel, nb, nt, m, T⟩ := K
  have v := T.2.2.2.2.2.1
  rw [v 0 (by decide) (by decide), v 1 (by decide) (by decide), v 2 (by decide) (by decide), v 3 (by decide) (by decide), v 4 (by decide) (by decide), v 5 (by decide) (by decide)]
  exact T.2.2.1.2.2.2.2.2.2.2.2.2.2.2
