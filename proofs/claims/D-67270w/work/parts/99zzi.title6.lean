set_option maxRecDepth 100000
/-! TITLES: labels of the reference -/
/-- a tree of the reference -/
def TK (S Y q : Hp) (l n E M nsel : Int) : Prop := (LAY q ∧ l ∈ in_aX24) ∧ SXt S q (l + 1) n E M ∧ TSp S Y (vw q l) E M nsel ∧ wthR q l
def slW (l : Int) : Int → Int → Prop := fun x j => (x = l ∧ (j = 28 ∨ j = 29)) ∨ ((x = l + 46 ∨ x = l + 48) ∧ 0 ≤ j)
theorem slW_l {h h' : Hp} {l : Int} (hL : LAY h) (hl : l ∈ in_aX24) (f : F2 (slW l) h h') : LAY h' :=
  trW_l hL hl (f.mono (fun b j z => by unfold slW at z; unfold trW; omega))
theorem TK.kept {S Y q q' : Hp} {l n E M nsel : Int} (T : TK S Y q l n E M nsel) (f : F2 (slW l) q q') : TK S Y q' l n E M nsel := by
  obtain ⟨⟨hL, hl⟩, ⟨x0, x1, x2, x3, x4⟩, ⟨V1, V2, V3, V4⟩, w⟩ := T
  have rw_ : ∀ k, 0 < k → k ≠ 46 → k ≠ 48 → q' (l + k) = q (l + k) := fun k k0 k1 k2 => f.row (fun j z => by unfold slW at z; omega)
  have rv : ∀ k, 0 < k → k ≠ 46 → k ≠ 48 → vw q' l k = vw q l k := rw_
  have ro : ∀ k, 0 ≤ k → k ≤ 20 → q' (l + 1 + k) = q (l + 1 + k) := fun k k0 k1 => by rw [show l + 1 + k = l + (1 + k) by omega]; exact rw_ _ (by omega) (by omega) (by omega)
  refine ⟨⟨slW_l hL hl f, hl⟩, ⟨?_, ?_, ?_, ?_, ?_⟩, ⟨?_, ?_, ?_, fun e e0 e1 => ?_⟩, ?_⟩
  · rw [rw_ 1 (by decide) (by decide) (by decide)]; exact x0
  · rw [ro 1 (by decide) (by decide)]; exact x1
  · intro k k0 k1; rw [ro k (by omega) (by omega)]; exact x2 k k0 k1
  · intro k k0 k1; rw [ro k (by omega) (by omega)]; exact x3 k k0 k1
  · intro k k0 k1; rw [ro k (by omega) (by omega)]; exact x4 k k0 k1
  · rw [rv 22 (by decide) (by decide) (by decide)]; exact V1
  · rw [rv 23 (by decide) (by decide) (by decide)]; exact V2
  · rw [rv 24 (by decide) (by decide) (by decide)]; exact V3
  · have := V4 e e0 e1
    unfold FLV isTb ok2 ok1 isRw isTb ok0 okFl at this ⊢
    simp only [rv 24 (by decide) (by decide) (by decide), rv 25 (by decide) (by decide) (by decide), rv 26 (by decide) (by decide) (by decide), rv 27 (by decide) (by decide) (by decide), rv 28 (by decide) (by decide) (by decide), rv 29 (by decide) (by decide) (by decide), rv 30 (by decide) (by decide) (by decide), rv 31 (by decide) (by decide) (by decide), rv 32 (by decide) (by decide) (by decide), rv 33 (by decide) (by decide) (by decide), rv 34 (by decide) (by decide) (by decide), rv 35 (by decide) (by decide) (by decide), rv 36 (by decide) (by decide) (by decide)]
    exact this
  · unfold wthR; rw [rw_ 47 (by decide) (by decide) (by decide)]; exact w
/-- where a label lies -/
theorem lb_rng {S Y V p' : Hp} {a' n' N' E M C ns na nsel nb nt m e : Int} {s' : Int → List Int} (R' : YA Y p' a' n' N' s' C ns na nsel nb nt m) (V4 : TSp S Y V E M nsel) (e0 : 0 ≤ e) (e1 : e < E) : 0 ≤ V 25 e ∧ V 25 e ≤ V 26 e ∧ V 26 e ≤ n' ∨ V 25 e = 0 ∧ V 26 e = 0 := by
  obtain ⟨z25, z26, -⟩ := V4.2.2.2 e e0 e1
  have hn := R'.2.1.2.2.1
  rcases slF_r (S := S) (E := E) (M := M) (e := e) (p := 17) R' nsel.toNat (by omega) with r | ⟨r1, r2, r3, r4⟩
  · rw [r] at z25 z26
    rw [if_neg (by decide)] at z25 z26
    exact Or.inr ⟨z25, z26⟩
  · obtain ⟨g1, -, -, -, g5, -⟩ := R'.2.2.2.2.2.2.2.2.2.2.1 _ r1 r2
    rw [r4] at g1
    rw [if_pos r1] at z25 z26
    rcases g5 g1 with ⟨-, -, g6, g7⟩ | ⟨-, ⟨u1, u2, u3, u4, u5, u6, -⟩, -⟩
    · exact Or.inr ⟨by rw [z25, g6], by rw [z26, g7]⟩
    · exact Or.inl ⟨by omega, by omega, by omega⟩
theorem vl_rng {V : Hp} {e E : Int} (h : V 27 e = vlF (V 30) (V 24) e) (e1 : e < E) (E5 : E ≤ 500) (e0 : 0 ≤ e) : 0 ≤ V 27 e ∧ V 27 e ≤ 1000000 := by
  rw [h]
  unfold vlF
  split
  · have := ctS_r (sh := V 30) (f := V 24) (j := V 24 (22 * e + 15)) (e.toNat + 1)
    omega
  · omega
theorem mtF_q {q : Hp} {l e : Int} : mtF (vw q l) e = (decide (q (l + 30) e = 0) || (muF (q (l + 24) (22 * e)) || (decide (q (l + 34) e ≠ 0) || decide (q (l + 35) e ≠ 0)))) := rfl
theorem q_speaks24 {q : Hp} {l e : Int} (hL : LAY q) (hl : l ∈ in_aX24) (e0 : 0 ≤ e) (e1 : e < 500) (sh : q (l + 30) e ≠ 0) : m_X24_speaks l e q = some (bI (!mtF (vw q l) e)) := by
  have k13 := g_X24_13 hL hl
  have k14 := g_X24_14 hL hl
  unfold m_X24_speaks
  rw [if_neg (by omega), q_mute24 hL hl e0 e1, Option.bind_some]
  simp only [k13.1, k13.2.1, k13.2.2, k14.1, k14.2.1, k14.2.2]
  rw [gd_t ⟨by decide, e0, by omega⟩, gd_t ⟨by decide, e0, by omega⟩]
  rw [mtF_q, decide_eq_false sh]
  cases muF (q (l + 24) (22 * e))
  · rw [if_neg (by decide)]
    by_cases h34 : q (l + 34) e = 0
    · rw [if_neg (fun z => z h34)]
      by_cases h35 : q (l + 35) e = 0
      · rw [if_neg (fun z => z h35), decide_eq_false (fun z => z h34), decide_eq_false (fun z => z h35)]; rfl
      · rw [if_pos h35, decide_eq_true h35, Bool.or_true]; rfl
    · rw [if_pos h34, decide_eq_true h34]; rfl
  · rw [if_pos (by decide)]; rfl
theorem q_hasLabel24 {q : Hp} {l e : Int} (hL : LAY q) (hl : l ∈ in_aX24) (e0 : 0 ≤ e) (e1 : e < 500) (sh : q (l + 30) e ≠ 0) : m_X24_hasLabel l e q = some (bI (decide (q (l + 25) e < q (l + 26) e) && !mtF (vw q l) e)) := by
  have k13 := g_X24_13 hL hl
  have k14 := g_X24_14 hL hl
  have k4 := g_X24_4 hL hl
  have k5 := g_X24_5 hL hl
  unfold m_X24_hasLabel
  rw [q_mute24 hL hl e0 e1, Option.bind_some]
  simp only [k13.1, k13.2.1, k13.2.2, k14.1, k14.2.1, k14.2.2, k4.1, k4.2.1, k4.2.2, k5.1, k5.2.1, k5.2.2]
  rw [gd_t ⟨by decide, e0, by omega⟩, gd_t ⟨by decide, e0, by omega⟩, gd_t ⟨by decide, e0, by omega⟩, gd_t ⟨by decide, e0, by omega⟩]
  rw [mtF_q, decide_eq_false sh]
  by_cases hlt : q (l + 26) e ≤ q (l + 25) e
  · rw [if_pos hlt, decide_eq_false (by omega)]; rfl
  · rw [if_neg hlt, decide_eq_true (by omega)]
    cases muF (q (l + 24) (22 * e))
    · rw [if_neg (by decide)]
      by_cases h34 : q (l + 34) e = 0
      · rw [if_neg (fun z => z h34)]
        by_cases h35 : q (l + 35) e = 0
        · rw [if_neg (fun z => z h35), decide_eq_false (fun z => z h34), decide_eq_false (fun z => z h35)]; rfl
        · rw [if_pos h35, decide_eq_true h35, Bool.or_true]; rfl
      · rw [if_pos h34, decide_eq_true h34]; rfl
    · rw [if_pos (by decide)]; rfl
