-- needs: 99zzzzzt
set_option maxRecDepth 100000
/-! NOTES: where they begin (component) -/
/-- what of a note's field is told -/
def ofT (V Q : Hp) (t : Int) : List Int := if t < 0 ∨ V 31 t = 0 then [63, 63] else decL (Q 1 t).toNat ++ (if 0 ≤ Q 2 t then 45 :: decL (Q 2 t).toNat else [])
def ofK (V : Hp) (e t : Int) : List (Int × Int × Int) := if t < 0 ∨ V 31 t = 0 then [] else [(e, t, 2)]
def skW (b : Int) : Int → Int → Prop := fun q j => b5W 273 q j ∨ tnW b q j
theorem ofT_by {V Q : Hp} {E t : Int} (qo : qOK Q E) (t1 : t < E) : (∀ c ∈ ofT V Q t, 0 ≤ c ∧ c ≤ 127) ∧ (ofT V Q t).length ≤ 11 := by
  unfold ofT
  split
  · exact ⟨by decide, by decide⟩
  · rename_i hc
    have q := qo t (by omega) t1
    have l1 := decL_sh (n := (Q 1 t).toNat) (by omega)
    have l2 := decL_sh (n := (Q 2 t).toNat) (by omega)
    refine ⟨fun c hc => ?_, ?_⟩
    · rcases List.mem_append.mp hc with h | h
      · exact decL_by _ _ (Nat.le_refl _) _ h
      · split at h
        · rcases List.mem_cons.mp h with h | h
          · rw [h]; decide
          · exact decL_by _ _ (Nat.le_refl _) _ h
        · cases h
    · rw [List.length_append]
      split <;> simp <;> omega
theorem skW_gt {b a t : Int} : ∀ q j, skW b q j → gtW b a t q j := fun q j z => z.elim (b5_gt q j) (tn_gt q j)
theorem c_lines {S Y V Q h : Hp} {b a sa ya E M e t : Int} {L : List Int} {TK : List (Int × Int × Int)} (K : KTR S Y V h a sa ya E M) (hb : b ∈ in_aX14) (B : bkX h b a sa ya) (D : bsL h 273 L) (T : tkC h b TK) (qc : qC h Q b E) (qo : qOK Q E) (hl : (TK.length : Int) < 2320) (t1 : t < E) (ll : L.length ≤ 1000) :
    Pz (m_X14_linesText b e t 273 h) (fun r => r.1 = (0, 0) ∧ F2 (skW b) h r.2 ∧ bsL r.2 273 (L ++ ofT V Q t) ∧ tkC r.2 b (TK ++ ofK V e t)) := by
  obtain ⟨hL, ha, hs, hy⟩ := K.lay
  have hb' := rX14 hb
  have E5 := K.rng.2.1
  obtain ⟨w0, -⟩ := str_words
  unfold m_X14_linesText
  rw [q_target14 K B t1, Option.bind_some]
  by_cases hT : 0 ≤ t ∧ V 31 t ≠ 0
  · rw [decide_eq_true hT]
    refine z_it (by show (1 : Int) ≠ 0; decide) ?_
    have eT : ofT V Q t = decL (Q 1 t).toNat ++ (if 0 ≤ Q 2 t then 45 :: decL (Q 2 t).toNat else []) := by unfold ofT; rw [if_neg (by omega)]
    have eK : ofK V e t = [(e, t, 2)] := by unfold ofK; rw [if_neg (by omega)]
    rw [eT, eK]
    have k41 := g_X14_41 hL hb
    have qt := qc t hT.1 t1
    have qr := qo t hT.1 t1
    simp only [k41.1, k41.2.1, k41.2.2, qt.2.1]
    have lay : ∀ g, F2 (skW b) h g → LAY g := fun g F => gtW_l (t := 261) hL (by decide) hb ha (F.mono skW_gt)
    refine z_gd ⟨by decide, hT.1, by omega⟩ (z_gd (g_X5 hL m273) (puts_bT (c_num24 hL D qr.2.2.1 qr.2.2.2.1 (by omega)) (fun p1 f1 D1 => ?_)))
    have F1 : F2 (skW b) h p1 := f1.mono (fun q j z => Or.inl z)
    have L1 := lay p1 F1
    have T1 : tkC p1 b TK := T.kept (f1 _ _ (fun z => by unfold b5W at z; omega)) (fun k k0 k1 => f1.row (fun j z => by unfold b5W at z; omega))
    have k42 := g_X14_42 L1 hb
    have q1 : qC p1 Q b E := qc.kept (fun k k0 k1 => f1.row (fun j z => by unfold b5W at z; omega))
    have q2 := (q1 t hT.1 t1).2.2
    have l1 := decL_sh (n := (Q 1 t).toNat) (by omega)
    simp only [k42.1, k42.2.1, k42.2.2, q2]
    refine z_gd ⟨by decide, hT.1, by omega⟩ ?_
    by_cases h2 : Q 2 t < 0
    · rw [if_pos h2, if_neg (by omega), List.append_nil]
      exact z_bind (z_mono (c_takes L1 hb T1 hl) (fun p2 hp2 => z_some ⟨rfl, F1.trans (hp2.1.mono (fun q j z => Or.inr z)), D1.kept (hp2.1 _ _ (fun z => by unfold tnW at z; omega)) (hp2.1.row (fun j z => by unfold tnW at z; omega)), hp2.2⟩))
    · rw [if_neg h2, if_pos (by omega)]
      have cp : p1 (273 + 1) (-1) = 24064 := by rw [show (273 : Int) + 1 = 274 from rfl]; exact g_274 L1
      refine puts_bT (c_add5 (c := 45) L1 m273 D1 (by rw [cp, List.length_append]; omega) (by rw [cp]; decide) (by decide) (by decide)) (fun p2 f2 D2 => ?_)
      have F2_ : F2 (skW b) h p2 := F1.trans (f2.mono (fun q j z => Or.inl z))
      have L2 := lay p2 F2_
      have T2 : tkC p2 b TK := T1.kept (f2 _ _ (fun z => by unfold b5W at z; omega)) (fun k k0 k1 => f2.row (fun j z => by unfold b5W at z; omega))
      have q2' : qC p2 Q b E := q1.kept (fun k k0 k1 => f2.row (fun j z => by unfold b5W at z; omega))
      have k42' := g_X14_42 L2 hb
      have q3 := (q2' t hT.1 t1).2.2
      simp only [k42'.1, k42'.2.1, k42'.2.2, q3]
      have l2 := decL_sh (n := (Q 2 t).toNat) (by omega)
      refine z_gd ⟨by decide, hT.1, by omega⟩ (puts_bT (c_num24 L2 D2 (by omega) qr.2.2.2.2.2 (by rw [List.length_append, List.length_append, List.length_singleton]; omega)) (fun p3 f3 D3 => ?_))
      have F3 : F2 (skW b) h p3 := F2_.trans (f3.mono (fun q j z => Or.inl z))
      have L3 := lay p3 F3
      have T3 : tkC p3 b TK := T2.kept (f3 _ _ (fun z => by unfold b5W at z; omega)) (fun k k0 k1 => f3.row (fun j z => by unfold b5W at z; omega))
      refine z_bind (z_mono (c_takes L3 hb T3 hl) (fun p4 hp4 => z_some ⟨rfl, F3.trans (hp4.1.mono (fun q j z => Or.inr z)), ?_, hp4.2⟩))
      have D4 : bsL p4 273 (L ++ decL (Q 1 t).toNat ++ [45] ++ decL (Q 2 t).toNat) := D3.kept (hp4.1 _ _ (fun z => by unfold tnW at z; omega)) (hp4.1.row (fun j z => by unfold tnW at z; omega))
      rw [List.append_assoc, List.append_assoc] at D4
      exact D4
  · rw [decide_eq_false hT]
    refine z_ie (fun z => z rfl) ?_
    have eT : ofT V Q t = [63, 63] := by unfold ofT; rw [if_pos (by omega)]
    have eK : ofK V e t = [] := by unfold ofK; rw [if_pos (by omega)]
    rw [eT, eK, List.append_nil]
    refine z_gd (g_X5 hL m273) (puts_bT (c_str5 (cap := 24064) w0 hL m273 D (by rw [show (273 : Int) + 1 = 274 from rfl]; exact g_274 hL) (by simp; omega) (by decide) (by decide)) (fun p' f D' => z_some ⟨rfl, f.mono (fun q j z => Or.inl z), D', T.kept (f _ _ (fun z => by unfold b5W at z; omega)) (fun k k0 k1 => f.row (fun j z => by unfold b5W at z; omega))⟩))
