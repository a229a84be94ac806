-- needs: 99zzzzzr
set_option maxRecDepth 100000
/-! TABLES: a row ends (component) -/
def rvW (b : Int) : Int → Int → Prop := fun q j => itV b q j ∨ (q = b ∧ j = 23) ∨ (q = b + 26 ∧ 0 ≤ j) ∨ shV q j
theorem exL_s {C : List Int} (k : Nat) : ((List.range (k + 1)).map (fun (c : Nat) => ((c : Int), (-1 : Int)))) = ((List.range k).map (fun (c : Nat) => ((c : Int), (-1 : Int)))) ++ [((k : Int), -1)] := by
  rw [List.range_succ, List.map_append]; rfl
theorem ckO_ex {f W : Int → Int} {K J : Int → Int → Int} {BK : TXL → Int → List (Int × Int)} {P : List PAR} {c : Int} : ckO f W K J BK P (c, -1) = (c, 1000, 1000) := by
  unfold ckO; rw [if_neg (by show ¬ (0 : Int) ≤ -1; decide)]
theorem FSN.item {h h' : Hp} {f W : Int → Int} {K J : Int → Int → Int} {BK : TXL → Int → List (Int × Int)} {w b pn : Int} {S V : Hp} {x : Int} {N : List PAR} {s : GS} {z : Int × Int × Int} {T' : TXT × Int} {C' : List Int} {R' : List (Int × List Int)} (F : FSN h f W K J BK w b pn S V x N s) (Po : POK h b pn) (hb : b ∈ in_aX14) (g : F2 (rvW b) h h') (It : GIt h' b (s.2.2.1 ++ [z])) (e45 : h' b 45 = 0) : FSN h' f W K J BK w b pn S V x N (T', s.2.1, s.2.2.1 ++ [z], 0, C', R') := by
  have hb' := rX14 hb
  obtain ⟨L, l1, ⟨f1, f2, f3, f4, f5⟩, fn⟩ := F
  have r : ∀ q, (b + 1 ≤ q ∧ q ≤ b + 25) ∨ 279 = q ∨ 983 ≤ q ∨ q = b + 35 → h' q = h q := fun q hq => g.row (fun j z => by unfold rvW itV shV at z; omega)
  have rb : ∀ j, j ≠ 26 → j ≠ 45 → j ≠ 23 → h' b j = h b j := fun j n1 n2 n3 => g _ _ (fun z => by unfold rvW itV shV at z; omega)
  exact ⟨L, l1, ⟨f1.kept Po (rb _ (by decide) (by decide) (by decide)) (r _ (by omega)) (fun q q0 q1 => r q (by omega)) (fun A a0 _ _ j _ => by rw [r A (by omega)]), f2.kept (rb _ (by decide) (by decide) (by decide)) (r _ (by omega)) (fun j _ _ => by rw [r _ (by omega)]), It, e45, f5.kept (rb _ (by decide) (by decide) (by decide)) (r _ (by omega))⟩, fn.kept (r _ (by omega)) (fun j _ _ => by rw [r _ (by omega)])⟩
theorem c_endRow {S Y V Q h T : Hp} {b a sa ya E M f y np pn w x e : Int} {W : Int → Int} {K J : Int → Int → Int} {sg : Int → List Int} {dt : Int → Int → Int} {s : GS} {N : List PAR} {TC SC : List (Int × Int)} (X : EV S Y V Q h b a sa ya E M f y W K J T np sg dt)
    (Po : POK h b pn) (F : FSN h (V 24) W K J (BKf T np sg dt) w b pn S V x N s) (Rw : GRw h b s.2.2.2.2.2) (Cu : GCu h b s.2.2.2.2.2.length s.2.2.2.2.1) (Ts : GTs h (V 24) W K J (BKf T np sg dt) b s.2.1 TC SC) (hR : (s.2.2.2.2.2.length : Int) < 500) (hI : (s.2.2.1.length : Int) < 1700) (hT0 : s.1.1 = ([], -1)) :
    Pz (m_X14_endRow b e h) (fun h' => ADV h b a y pn h' pn ∧ F2 (rvW b) h h' ∧ FSN h' (V 24) W K J (BKf T np sg dt) w b pn S V x N (gRow e s) ∧ GRw h' b (gRow e s).2.2.2.2.2 ∧ GTs h' (V 24) W K J (BKf T np sg dt) b s.2.1 TC (SC ++ (if s.2.2.2.2.1.any (fun c => decide (0 ≤ c)) = true then exL s.2.2.2.2.1 else []))) := by
  have hb := X.2.1
  have hL := X.1.lay.1
  have ha := X.1.lay.2.1
  have y2 := X.2.2.2.2.2.2.1
  have hb' := rX14 hb
  obtain ⟨r1, r2⟩ := id Rw
  obtain ⟨u1, u2, u3⟩ := id Cu
  obtain ⟨p1, p2, p3⟩ := g_X14_19 hL hb
  obtain ⟨q1, q2, q3⟩ := g_X14_20 hL hb
  have GWw : ∀ q j, rvW b q j → GW h b a y q j := fun q j z => by
    unfold rvW itV shV at z
    rcases z with (z | z) | z | z | z | z
    · rw [z.1]; exact GW_b (by omega)
    · exact GW_r (by omega) (by omega) z.2
    · rw [z.1]; exact GW_b (by omega)
    · exact GW_r (by omega) (by omega) z.2
    · rw [z.1, z.2]; exact Or.inr (Or.inr (Or.inr (Or.inr (Or.inr (Or.inr (Or.inr (Or.inr (Or.inr (Or.inr (Or.inl ⟨rfl, rfl⟩))))))))))
    · exact GW_d (by omega) (by omega) z.2
  have adv : ∀ g, F2 (rvW b) h g → ADV h b a y pn g pn := fun g Fg => adv_W Po Fg GWw (fun j z => by unfold rvW itV shV at z; omega) (fun j z => by unfold rvW itV shV at z; omega) (fun A hA => ⟨fun z => by unfold rvW itV shV at z; omega, fun z => by unfold rvW itV shV at z; omega⟩)
  generalize hRl : s.2.2.2.2.2.length = nR at *
  generalize hCC : s.2.2.2.2.1 = C at *
  unfold m_X14_endRow
  refine z_lt (z_lt (z_bind (z_mono (z_lp (Q := fun v => v ≠ 0 ↔ C.any (fun c => decide (0 ≤ c)) = true) (fun (q : Int × Int) => ∃ k : Nat, q.2 = k ∧ k ≤ C.length ∧ (q.1 ≠ 0 ↔ (C.take k).any (fun c => decide (0 ≤ c)) = true)) (fun q => ((C.length : Int) - q.2).toNat) ⟨0, rfl, Nat.zero_le _, by simp⟩ ?_) (fun v hv => ?_))))
  · rintro ⟨v, i⟩ ⟨k, ei, k1, ev⟩
    dsimp only at ei ev
    show Pz (m_X14_endRow_l4 b v i h) _
    unfold m_X14_endRow_l4
    simp only [p1, p2, p3, q1, q2, q3, r1, u1, ei]
    refine z_gd ⟨by decide, Int.natCast_nonneg _, by omega⟩ ?_
    by_cases hk : (C.length : Int) ≤ k
    · rw [if_pos hk]
      have : k = C.length := by omega
      rw [this, List.take_length] at ev
      exact z_some ev
    rw [if_neg hk]
    have tk : C.take (k + 1) = C.take k ++ [C[k]?.getD 0] := by rw [List.take_add_one, List.getElem?_eq_getElem (by omega)]; rfl
    have fin : ∀ v', (v' ≠ 0 ↔ (C.take (k + 1)).any (fun c => decide (0 ≤ c)) = true) → Pz (m_X14_endRow_j43 k v') (sE (fun (q : Int × Int) => (∃ k : Nat, q.2 = k ∧ k ≤ C.length ∧ (q.1 ≠ 0 ↔ (C.take k).any (fun c => decide (0 ≤ c)) = true)) ∧ ((C.length : Int) - q.2).toNat < ((C.length : Int) - k).toNat) (fun v => v ≠ 0 ↔ C.any (fun c => decide (0 ≤ c)) = true)) := fun v' hv' => by
      unfold m_X14_endRow_j43
      rw [e32 (x := (k : Int) + 1) (by omega) (by omega)]
      exact z_lt (z_some ⟨⟨k + 1, by show (k : Int) + 1 = ((k + 1 : Nat) : Int); omega, by omega, hv'⟩, by show ((C.length : Int) - ((k : Int) + 1)).toNat < _; omega⟩)
    by_cases hv : v ≠ 0
    · rw [if_pos hv]
      unfold m_X14_endRow_j38
      refine fin 1 ⟨fun _ => ?_, fun _ => by decide⟩
      rw [tk, List.any_append, ev.1 hv]; rfl
    · rw [if_neg hv, e32 (x := 8 * (nR : Int)) (by omega) (by omega), e32 (x := 8 * (nR : Int) + k) (by omega) (by omega)]
      refine z_gd ⟨by decide, by omega, by omega⟩ ?_
      rw [u3 k (by omega)]
      have n1 : (C.take k).any (fun c => decide (0 ≤ c)) = false := by
        cases hx : (C.take k).any (fun c => decide (0 ≤ c)) with
        | false => rfl
        | true => exact absurd (ev.2 hx) hv
      by_cases hc : C[k]?.getD 0 < 0
      · rw [if_pos hc]
        refine fin 0 ⟨fun z => absurd rfl z, fun z => ?_⟩
        rw [tk, List.any_append, n1, List.any_cons, List.any_nil, decide_eq_false (by omega)] at z
        exact absurd z (by decide)
      · rw [if_neg hc]
        unfold m_X14_endRow_j38
        refine fin 1 ⟨fun _ => ?_, fun _ => by decide⟩
        rw [tk, List.any_append, n1, List.any_cons, decide_eq_true (by omega)]; rfl
  · by_cases hv0 : v ≠ 0
    · rw [if_pos hv0]
      have hany := hv.1 hv0
      have eg : gRow e s = ((([], -1), s.1.2), s.2.1, s.2.2.1 ++ [(1, (nR : Int), s.2.2.2.1)], 0, [], s.2.2.2.2.2 ++ [(e, C)]) := by unfold gRow; rw [hCC, if_pos hany, hRl]
      rw [eg, if_pos hany]
      refine z_lt (z_bind (z_mono (z_lp (Q := fun g => F2 shV h g ∧ SHc g ((SC ++ exL C).map (ckO (V 24) W K J (BKf T np sg dt) s.2.1))) (fun (q : Int × Hp) => ∃ k : Nat, q.1 = k ∧ k ≤ C.length ∧ F2 shV h q.2 ∧ SHc q.2 ((SC ++ (List.range k).map (fun (c : Nat) => ((c : Int), (-1 : Int)))).map (ckO (V 24) W K J (BKf T np sg dt) s.2.1))) (fun q => ((C.length : Int) - q.1).toNat) ⟨0, rfl, Nat.zero_le _, F2.refl, by rw [List.range_zero, List.map_nil, List.append_nil]; exact Ts.2⟩ ?_) (fun g hg => ?_)))
      · rintro ⟨i, g⟩ ⟨k, ei, k1, Fg, Sg⟩
        dsimp only at ei
        replace Fg : F2 shV h g := Fg
        replace Sg : SHc g ((SC ++ (List.range k).map (fun (c : Nat) => ((c : Int), (-1 : Int)))).map (ckO (V 24) W K J (BKf T np sg dt) s.2.1)) := Sg
        have Lg := shV_l hL Fg
        show Pz (m_X14_endRow_l57 b i g) _
        unfold m_X14_endRow_l57
        obtain ⟨p1, p2, p3⟩ := g_X14_19 Lg hb
        have b0 : g b 0 = 256 := (ly_X14 Lg hb).2.1.1
        have g23 : g b 23 = nR := by rw [Fg _ _ (fun z => by unfold shV at z; omega)]; exact r1
        have gu : g (b + 23) nR = C.length := by rw [Fg _ _ (fun z => by unfold shV at z; omega)]; exact u1
        simp only [p1, p2, p3, g23, gu, ei]
        refine z_gd ⟨by decide, Int.natCast_nonneg _, by omega⟩ ?_
        by_cases hk : (C.length : Int) ≤ k
        · rw [if_pos hk]
          have : k = C.length := by omega
          rw [this] at Sg
          exact z_some ⟨Fg, Sg⟩
        rw [if_neg hk, b0, g_X10 Lg, (g_X10_5 Lg).1, (g_X10_5 Lg).2.1]
        refine z_gd rfl (z_gd rfl (z_bind (z_mono (c_cell13 Lg Sg (Int.natCast_nonneg k) (by omega) (by decide) (by decide) (by decide) (by decide)) (fun g' hg' => z_lt (z_some ?_)))))
        rw [e32 (x := (k : Int) + 1) (by omega) (by omega)]
        refine ⟨⟨k + 1, by show (k : Int) + 1 = ((k + 1 : Nat) : Int); omega, by omega, Fg.trans hg'.1, ?_⟩, by show ((C.length : Int) - ((k : Int) + 1)).toNat < ((C.length : Int) - k).toNat; omega⟩
        dsimp only
        rw [exL_s (C := C) k, ← List.append_assoc, List.map_append, List.map_singleton, ckO_ex]
        exact hg'.2
      · obtain ⟨Fg, Sg⟩ := hg
        have Lg := shV_l hL Fg
        obtain ⟨p4, p5, p6⟩ := g_X14_22 Lg hb
        have g23 : g b 23 = nR := by rw [Fg _ _ (fun z => by unfold shV at z; omega)]; exact r1
        simp only [p4, p5, p6, g23]
        refine z_gd ⟨by decide, Int.natCast_nonneg _, by omega⟩ (z_pt ?_)
        rw [up_a (by omega), g23, e32 (x := -1 - (nR : Int)) (by omega) (by omega)]
        have Fh : F2 (rvW b) h (up g (b + 26) nR e) := (Fg.mono (V := rvW b) (fun q j z => Or.inr (Or.inr (Or.inr z)))).put (Or.inr (Or.inr (Or.inl ⟨rfl, Int.natCast_nonneg _⟩)))
        have w26 : up g (b + 26) nR e (b + 26) nR = e := up_s _ _ _ _
        have k26 : ∀ q j : Int, ¬ (q = b + 26 ∧ j = nR) → up g (b + 26) nR e q j = g q j := fun q j z => by
          by_cases hq : q = b + 26
          · rw [up_j (fun w => z ⟨hq, by omega⟩)]
          · rw [up_a hq]
        generalize up g (b + 26) nR e = g1 at Fh w26 k26 ⊢
        have L1 := ((adv g1 Fh).ev X).1.lay.1
        have kh : ∀ q j : Int, ¬ (shV q j) → ¬ (q = b + 26 ∧ j = nR) → g1 q j = h q j := fun q j z1 z2 => by rw [k26 q j z2]; exact Fg q j z1
        have rh : ∀ q, q < 275 ∨ 278 ≤ q → q ≠ b + 26 → g1 q = h q := fun q z1 z2 => funext fun j => kh q j (fun z => by unfold shV at z; omega) (fun z => z2 z.1)
        obtain ⟨L, li, ⟨f1, f2, f3, f4, f5⟩, -⟩ := id F
        have It1 : GIt g1 b s.2.2.1 := f3.kept (by rw [rh b (by omega) (by omega)]) (rh _ (by omega) (by omega)) (rh _ (by omega) (by omega))
        refine z_bind (z_mono (c_item14 (k := 1) (g := s.2.2.2.1) L1 hb It1 (by rw [rh b (by omega) (by omega)]; exact f4) hI (by unfold itW; dsimp only; rw [if_neg (by decide), if_neg (by decide)]; omega)) (fun g2 hg2 => ?_))
        obtain ⟨F2', It2, e45⟩ := hg2
        rw [if_neg (by decide), show -1 - (-1 - (nR : Int)) = nR by omega] at It2
        have e23 : g2 b 23 = nR := by rw [F2' _ _ (fun z => by unfold itV at z; omega), rh b (by omega) (by omega)]; exact r1
        rw [e23, e32 (x := (nR : Int) + 1) (by omega) (by omega)]
        refine z_pt (z_some ?_)
        have F3 : F2 (rvW b) h (up g2 b 23 ((nR : Int) + 1)) := (Fh.trans (F2'.mono (fun q j z => Or.inl z))).put (Or.inr (Or.inl ⟨rfl, rfl⟩))
        have w3 : up g2 b 23 ((nR : Int) + 1) b 23 = (nR : Int) + 1 := up_s _ _ _ _
        have k3 : ∀ q j : Int, ¬ (q = b ∧ j = 23) → up g2 b 23 ((nR : Int) + 1) q j = g2 q j := fun q j z => by
          by_cases hq : q = b
          · rw [up_j (fun w => z ⟨hq, by omega⟩)]
          · rw [up_a hq]
        generalize up g2 b 23 ((nR : Int) + 1) = g3 at F3 w3 k3 ⊢
        have kq : ∀ q, q ≠ b → q ≠ b + 27 → q ≠ b + 28 → g3 q = g1 q := fun q z1 z2 z3 => funext fun j => by rw [k3 q j (fun z => z1 z.1), F2' _ _ (fun z => by unfold itV at z; omega)]
        have It3 : GIt g3 b (s.2.2.1 ++ [(1, (nR : Int), s.2.2.2.1)]) := It2.kept (k3 _ _ (by omega)) (funext fun j => k3 _ j (by omega)) (funext fun j => k3 _ j (by omega))
        refine ⟨adv g3 F3, F3, F.item Po hb F3 It3 (by rw [k3 _ _ (by omega)]; exact e45), ?_, ?_⟩
        · refine ⟨by rw [w3, List.length_append, hRl]; rfl, fun i hi => ?_⟩
          rw [List.length_append, hRl, List.length_singleton] at hi
          rw [kq (b + 26) (by omega) (by omega) (by omega), kq (b + 23) (by omega) (by omega) (by omega), kq (b + 24) (by omega) (by omega) (by omega), rh (b + 23) (by omega) (by omega), rh (b + 24) (by omega) (by omega)]
          by_cases hii : i = nR
          · rw [hii, List.getElem?_append_right (by omega), hRl, Nat.sub_self, w26]
            show e = e ∧ _ ∧ C.length ≤ 8 ∧ ∀ c : Nat, c < C.length → h (b + 24) (8 * (nR : Int) + c) = C[c]?.getD 0
            exact ⟨rfl, u1, by omega, u3⟩
          · rw [List.getElem?_append_left (by omega), kh (b + 26) i (fun z => by unfold shV at z; omega) (by omega)]
            exact r2 i (by omega)
        · refine ⟨Ts.1.kept ?_ ?_ ?_, Sg.kept (fun q q0 q1 => ?_)⟩
          · rw [k3 _ _ (by omega), F2' _ _ (fun z => by unfold itV at z; omega), rh b (by omega) (by omega)]
          · rw [kq 280 (by omega) (by omega) (by omega), rh 280 (by omega) (by omega)]
          · rw [kq 281 (by omega) (by omega) (by omega), rh 281 (by omega) (by omega)]
          · rw [kq q (by omega) (by omega) (by omega)]
            exact funext fun j => k26 q j (by omega)
    · have hany : C.any (fun c => decide (0 ≤ c)) = false := by
        cases hx : C.any (fun c => decide (0 ≤ c)) with
        | false => rfl
        | true => exact absurd (hv.2 hx) hv0
      have eg : gRow e s = ((([], -1), s.1.2), s.2.1, s.2.2.1, s.2.2.2.1, [], s.2.2.2.2.2) := by unfold gRow; rw [hCC, if_neg (by rw [hany]; decide)]
      rw [if_neg hv0, eg, if_neg (by rw [hany]; decide), List.append_nil]
      exact z_some ⟨ADV.refl Po, F2.refl, F, Rw, Ts⟩
