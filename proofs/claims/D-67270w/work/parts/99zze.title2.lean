set_option maxRecDepth 100000
/-! TITLES: the reference's bytes -/
def ttR (q : Hp) (l : Int) (s : List Int × Bool) : Prop := q l 28 = (s.1.take 41).length ∧ wd q (l + 48) 0 (s.1.take 41).length = s.1.take 41 ∧ (s.1.length ≤ 40 → q l 29 = bI s.2)
def ttV (l : Int) : Int → Int → Prop := fun x j => (x = l ∧ (j = 28 ∨ j = 29)) ∨ (x = l + 48 ∧ 0 ≤ j)
theorem ttV_l {h h' : Hp} {l : Int} (hL : LAY h) (hl : l ∈ in_aX24) (f : F2 (ttV l) h h') : LAY h' :=
  trW_l hL hl (f.mono (fun b j z => by unfold ttV at z; unfold trW; omega))
theorem wd_put {h : Hp} {b : Int} {k : Nat} {c : Int} {A : List Int} (w : wd h b 0 k = A) : wd (up h b k c) b 0 (k + 1) = A ++ [c] := by
  rw [wd_succ]
  congr 1
  · refine Eq.trans ?_ w
    refine (wd_eq wd_len).mpr (fun x hx => ?_)
    rw [wd_at hx, up_j (by omega)]
  · rw [Int.zero_add, up_s]
theorem take41 {L : List Int} (h : L.length ≤ 41) : L.take 41 = L := List.take_of_length_le h
theorem t_say {h : Hp} {l c : Int} {s : List Int × Bool} (hL : LAY h) (hl : l ∈ in_aX24) (D : ttR h l s) (c0 : -128 ≤ c) (c1 : c ≤ 127) : Pz (m_X24_say l c h) (fun h' => F2 (ttV l) h h' ∧ ttR h' l (ttS s c)) := by
  have k := g_X24_27 hL hl
  obtain ⟨D1, D2, D3⟩ := D
  have tl : (s.1.take 41).length = min 41 s.1.length := List.length_take
  unfold m_X24_say
  by_cases hf : h l 28 ≤ 40
  · have hn : s.1.length ≤ 40 := by omega
    have hd := D3 hn
    rw [take41 (by omega)] at D1 D2
    refine z_it hf (zt_bl (fun bl => ?_) (fun bl => ?_))
    · refine z_ie (by decide) ?_
      have eS : ttS s c = (s.1, decide (0 < s.1.length)) := by unfold ttS; rw [if_pos bl]
      rw [eS]
      have out : ∀ v, v = bI (decide (0 < s.1.length)) → Pz (pt h l 29 v fun h30 => some h30) (fun h' => F2 (ttV l) h h' ∧ ttR h' l (s.1, decide (0 < s.1.length))) := by
        intro v hv
        refine z_pt (z_some ⟨F2.refl.put (Or.inl ⟨rfl, Or.inr rfl⟩), ?_, ?_, fun _ => by rw [up_s]; exact hv⟩)
        · dsimp only; rw [take41 (by omega), up_j (by decide)]; exact D1
        · dsimp only; rw [take41 (by omega), wd_h (up_row (by omega))]; exact D2
      by_cases h0 : h l 28 ≤ 0
      · exact z_it h0 (out 0 (by rw [decide_eq_false (by omega)]; rfl))
      · exact z_ie h0 (out 1 (by rw [decide_eq_true (by omega)]; rfl))
    · refine z_it rfl ?_
      have j67 : ∀ (g : Hp) (A : List Int), F2 (ttV l) h g → g l 28 = (s.1 ++ A).length → wd g (l + 48) 0 (s.1 ++ A).length = s.1 ++ A → (s.1 ++ A).length ≤ 41 → g l 29 = 0 → ttS s c = (s.1 ++ (A ++ [c]), false) → Pz (m_X24_say_j67 l c g) (fun h' => F2 (ttV l) h h' ∧ ttR h' l (ttS s c)) := by
        intro g A Fg g28 gw lA g29 eS
        have Lg := ttV_l hL hl Fg
        have kg := g_X24_27 Lg hl
        rw [eS]
        unfold m_X24_say_j67
        simp only [kg.1, kg.2.1, kg.2.2, g28]
        have l1 : (s.1 ++ (A ++ [c])).length = (s.1 ++ A).length + 1 := by rw [← List.append_assoc, List.length_append, List.length_singleton]
        by_cases h41 : (40 : Int) < (s.1 ++ A).length
        · have eT : (s.1 ++ (A ++ [c])).take 41 = s.1 ++ A := by
            rw [← List.append_assoc, List.take_append_of_le_length (by omega), take41 (by omega)]
          refine z_it h41 (z_some ⟨Fg, ?_, ?_, fun z => ?_⟩)
          · dsimp only; rw [eT]; exact g28
          · dsimp only; rw [eT]; exact gw
          · dsimp only at z; omega
        · have eT : (s.1 ++ (A ++ [c])).take 41 = s.1 ++ (A ++ [c]) := take41 (by omega)
          rw [e8 c0 (by omega)]
          refine z_ie h41 (z_gd ⟨by decide, by omega, by omega⟩ (z_pt (z_pt (z_some ⟨(Fg.put (Or.inr ⟨rfl, by omega⟩)).put (Or.inl ⟨rfl, Or.inl rfl⟩), ?_, ?_, fun _ => ?_⟩))))
          · dsimp only; rw [eT, l1, up_s, up_a (by omega), g28, e32 (by omega) (by omega)]; omega
          · dsimp only; rw [eT, l1, wd_h (up_row (by omega)), wd_put gw, List.append_assoc]
          · rw [up_j (by decide), up_a (by omega)]; exact g29
      by_cases hz : h l 29 = 0
      · have s20 : s.2 = false := by
          cases hs : s.2
          · rfl
          · rw [hs] at hd; rw [hz] at hd; exact absurd hd (by decide)
        have eS : ttS s c = (s.1 ++ [c], false) := by unfold ttS; rw [if_neg bl, s20]; rfl
        exact z_it hz (j67 h [] F2.refl (by rw [List.append_nil]; exact D1) (by rw [List.append_nil]; exact D2) (by rw [List.append_nil]; omega) hz eS)
      · have s20 : s.2 = true := by
          cases hs : s.2
          · rw [hs] at hd; exact absurd hd hz
          · rfl
        have eS : ttS s c = (s.1 ++ [32, c], false) := by unfold ttS; rw [if_neg bl, s20]; rfl
        refine z_ie hz ?_
        simp only [k.1, k.2.1, k.2.2, D1]
        have l1 : (s.1 ++ [32]).length = s.1.length + 1 := by rw [List.length_append, List.length_singleton]
        refine z_gd ⟨by decide, by omega, by omega⟩ (z_pt (z_pt (z_pt (j67 _ [32] (((F2.refl.put (Or.inr ⟨rfl, by omega⟩)).put (Or.inl ⟨rfl, Or.inl rfl⟩)).put (Or.inl ⟨rfl, Or.inr rfl⟩)) ?_ ?_ (by omega) (by rw [up_s]) eS))))
        · rw [up_j (by decide), up_s, up_a (by omega), D1, e32 (by omega) (by omega), l1]; omega
        · rw [l1, wd_h (up_row (by omega)), wd_h (up_row (by omega)), wd_put D2]; rfl
  · have hn : ¬ s.1.length ≤ 40 := by omega
    refine z_ie hf (z_some ⟨F2.refl, ?_⟩)
    obtain ⟨A, hA⟩ := ttS_pre s c
    have eT : (ttS s c).1.take 41 = s.1.take 41 := by rw [hA, List.take_append_of_le_length (by omega)]
    refine ⟨by rw [eT]; exact D1, by rw [eT]; exact D2, fun z => ?_⟩
    rw [hA, List.length_append] at z
    omega
/-- the end of a title -/
theorem t_tEnd {h : Hp} {l : Int} {s : List Int × Bool} (hL : LAY h) (hl : l ∈ in_aX24) (D : ttR h l s) : Pz (if h l 28 ≤ 40 then m_X24_title_j264 l (h l 28) h else m_X24_title_j264 l 40 h) (fun r => r.2 = h ∧ r.1 = (ttF s.1).length ∧ wd h (l + 48) 0 (ttF s.1).length = ttF s.1) := by
  have k := g_X24_27 hL hl
  obtain ⟨D1, D2, D3⟩ := D
  have tl : (s.1.take 41).length = min 41 s.1.length := List.length_take
  have tl0 : (s.1.take 40).length = min 40 s.1.length := List.length_take
  have tt : (s.1.take 41).take 40 = s.1.take 40 := by rw [List.take_take]; rfl
  have w40 : wd h (l + 48) 0 (s.1.take 40).length = s.1.take 40 := by
    refine (wd_eq rfl).mpr (fun x hx => ?_)
    have := (wd_eq rfl).mp D2 x (by omega)
    rw [← tt, List.getElem?_take, if_pos (by omega)]; exact this
  have key : Pz (m_X24_title_j264 l (s.1.take 40).length h) (fun r => r.2 = h ∧ r.1 = (ttF s.1).length ∧ wd h (l + 48) 0 (ttF s.1).length = ttF s.1) := by
    unfold ttF
    generalize s.1.take 40 = T at *
    unfold m_X24_title_j264
    simp only [k.1, k.2.1, k.2.2]
    by_cases h0 : (T.length : Int) ≤ 0
    · have : T = [] := List.length_eq_zero_iff.mp (by omega)
      subst this
      exact z_it h0 (z_some ⟨rfl, rfl, rfl⟩)
    · obtain ⟨A, c, rfl⟩ : ∃ A c, T = A ++ [c] := ⟨T.dropLast, T.getLast (fun z => by rw [z] at h0; exact h0 (by decide)), (List.dropLast_concat_getLast _).symm⟩
      have al : (A ++ [c]).length = A.length + 1 := by rw [List.length_append, List.length_singleton]
      rw [al] at w40 tl0 h0 ⊢
      rw [wd_succ] at w40
      have w2 := List.append_inj w40 wd_len
      have w3 : h (l + 48) (0 + (A.length : Int)) = c := (List.cons.inj w2.2).1
      rw [Int.zero_add] at w3
      rw [List.getLast?_append, List.getLast?_singleton, Option.some_or, List.dropLast_concat]
      rw [e32 (by omega) (by omega), show (((A.length + 1 : Nat) : Int) - 1) = A.length by omega, w3]
      refine z_ie h0 (z_gd ⟨by decide, by omega, by omega⟩ ?_)
      by_cases hc : c = 32
      · refine z_ie (fun z => z hc) (z_some ⟨rfl, ?_, ?_⟩)
        · rw [if_pos (by rw [hc])]
        · rw [if_pos (by rw [hc])]; exact w2.1
      · refine z_it hc (z_some ⟨rfl, ?_, ?_⟩)
        · rw [if_neg (fun z => hc (Option.some.inj z)), al]
        · rw [if_neg (fun z => hc (Option.some.inj z)), al, wd_succ, Int.zero_add, w3, w2.1]
  by_cases hf : h l 28 ≤ 40
  · refine z_it hf ?_
    rw [D1, show (s.1.take 41).length = (s.1.take 40).length by omega]; exact key
  · refine z_ie hf ?_
    have : ((s.1.take 40).length : Int) = 40 := by omega
    rw [this] at key; exact key
