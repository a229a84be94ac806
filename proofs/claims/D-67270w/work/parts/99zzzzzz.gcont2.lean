-- needs: 99zzzzzy
set_option maxRecDepth 100000
/-! CONTENTS, the index (component) -/
theorem gsG.con {S Y V Q p : Hp} {a sa ya E M e : Int} {s : GS} (K : KTR S Y V p a sa ya E M) (q : qOK Q E) (e1 : e < E) (G : gsG s) : ∀ k : Nat, (k : Int) ≤ E → gsG (gCon S Y V Q e s k)
  | 0, _ => G
  | k + 1, hk => by
    have ih := gsG.con K q e1 G k (by omega)
    have ze := K.vr.2 e e1
    rw [gCon_s]
    split
    · exact (ih.put (by unfold szF; omega) (by unfold szF; omega) (coB_by K q (Int.natCast_nonneg k) (by omega)).1).fl
    · exact ih
def COQ (h : Hp) (f W : Int → Int) (K J : Int → Int → Int) (BK : TXL → Int → List (Int × Int)) (w b a y pn : Int) (S V : Hp) (e : Int) (N : List PAR) (s' : GS) (TK : List (Int × Int × Int)) (r : (Int × Int) × Hp) : Prop :=
  (∃ pn', r.1 = (0, 0) ∧ ADV h b a y pn r.2 pn' ∧ F2 (coW b a y) h r.2 ∧ FSN r.2 f W K J BK w b pn' S V e N s' ∧ txC r.2 261 s'.1.1 ∧ r.2 b 27 = s'.1.2 ∧ tkC r.2 b TK) ∨ (TOO BK f s' N ∧ THG h b a y pn r)
theorem coW_l {b a y : Int} (hb : b ∈ in_aX14) (ha : a ∈ in_aX7) (hy : y ∈ in_aX9) : (∀ q, b + 39 ≤ q → q ≤ b + 49 → ∀ j, ¬ coW b a y q j) ∧ (∀ j, j ≠ 9 → j ≠ 11 → j ≠ 26 → j ≠ 27 → j ≠ 45 → j ≠ 53 → ¬ coW b a y b j) := by
  have hb' := rX14 hb
  have ha' := rX7 ha
  have hy' := aX9 hy
  exact ⟨fun q q0 q1 j z => by unfold coW fvW fqW pnW fpW itV gtW txW at z; omega, fun j _ _ _ _ _ _ z => by unfold coW fvW fqW pnW fpW itV gtW txW at z; omega⟩
theorem c_contents {S Y V Q h T : Hp} {b a sa ya E M f y np pn w e : Int} {W : Int → Int} {K J : Int → Int → Int} {sg : Int → List Int} {dt : Int → Int → Int} {s : GS} {N : List PAR} {TK : List (Int × Int × Int)} (X : EV S Y V Q h b a sa ya E M f y W K J T np sg dt) (Po : POK h b pn) (rm : RMP h pn) (F : FSN h (V 24) W K J (BKf T np sg dt) w b pn S V e N s) (Xt : txC h 261 s.1.1) (eo : h b 27 = s.1.2) (G : gsG s) (r5 : (s.2.2.2.2.2.length : Int) ≤ 500) (Tk : tkC h b TK) (hl : (TK.length : Int) ≤ 1800) (e0 : 0 ≤ e) (e1 : e < E) (hv : V 33 e ≠ 0) :
    Pz (m_X14_contents b h) (COQ h (V 24) W K J (BKf T np sg dt) w b a y pn S V e N (gCon S Y V Q e s E.toNat) (TK ++ coK V e E.toNat)) := by
  have hb := X.2.1
  have hL := X.1.lay.1
  have ha := X.1.lay.2.1
  have y2 := X.2.2.2.2.2.2.1
  have hb' := rX14 hb
  have ha' := rX7 ha
  have hy' := aX9 y2
  have T' := X.1.tb
  have E5 := X.1.rng.2.1
  have E0 := X.1.rng.1
  have qo := X.2.2.2.1.2
  have en : nr S (V 33) e = e := nr_1 T'.1 e0 e1 hv
  unfold m_X14_contents
  rw [q_block14 hL hb F.pool.1, blS_last T'.1 (e.toNat + 1) e (by omega) e1, en, Option.bind_some]
  refine z_lt (z_bind (z_mono (z_lp (Q := COQ h (V 24) W K J (BKf T np sg dt) w b a y pn S V e N (gCon S Y V Q e s E.toNat) (TK ++ coK V e E.toNat)) (fun (q : Int × Hp) => ∃ (k : Nat) (pk : Int), q.1 = k ∧ (k : Int) ≤ E ∧ ADV h b a y pn q.2 pk ∧ F2 (coW b a y) h q.2 ∧ FSN q.2 (V 24) W K J (BKf T np sg dt) w b pk S V e N (gCon S Y V Q e s k) ∧ txC q.2 261 (gCon S Y V Q e s k).1.1 ∧ q.2 b 27 = (gCon S Y V Q e s k).1.2 ∧ tkC q.2 b (TK ++ coK V e k)) (fun q => (E - q.1).toNat) ⟨0, pn, rfl, E0, ADV.refl Po, F2.refl, F, Xt, eo, by show tkC h b (TK ++ []); rw [List.append_nil]; exact Tk⟩ ?_) (fun r hr => z_some hr)))
  rintro ⟨i, g⟩ ⟨k, pk, ei, k1, ad, Fg, FN, Xg, og, Tg⟩
  dsimp only at ei og
  replace ad : ADV h b a y pn g pk := ad
  replace Fg : F2 (coW b a y) h g := Fg
  replace FN : FSN g (V 24) W K J (BKf T np sg dt) w b pk S V e N (gCon S Y V Q e s k) := FN
  replace Xg : txC g 261 (gCon S Y V Q e s k).1.1 := Xg
  replace Tg : tkC g b (TK ++ coK V e k) := Tg
  have Xe := ad.ev X
  have Kg := Xe.1
  have Lg := Kg.lay.1
  have Bg := Xe.2.2.1
  show Pz (m_X14_contents_l7 b e i g) _
  unfold m_X14_contents_l7
  rw [Bg.1, g_X7 Lg ha, Kg.rng.2.2.2.2.1, ei]
  refine z_gd rfl ?_
  by_cases hk : E ≤ (k : Int)
  · rw [if_pos hk]
    have : E.toNat = k := by omega
    rw [this]
    exact z_some (Or.inl ⟨pk, rfl, ad, Fg, FN, Xg, og, Tg⟩)
  rw [if_neg hk, q_prop14 Kg Bg (by omega) (by omega) (by decide) (by decide) (by decide), Option.bind_some]
  have eo19 : ofV (V 24) (k : Int) 19 = V 24 (22 * (k : Int) + 19) := by unfold ofV; rw [if_pos (Int.natCast_nonneg k)]
  have vr19 := Kg.vr.1 (k : Int) 19 (by omega) (by decide) (by decide) (by decide) (by decide)
  rw [eo19] at vr19 ⊢
  have r19 := vr19.2.2.2.2.2.2.2.2.2.2.2 rfl
  have r190 := vr19.1
  obtain ⟨i1, i2, i3⟩ := g_X7_7 Lg ha
  have v31 : g (a + 5) k = V 31 k := by
    obtain ⟨_, _, _, _, _, _, _, _, _, _, _, _, _, _, T''⟩ := id Kg
    exact (T''.2.2.2.1.2.1 (k : Int) (by omega) (by omega)).2.2.1
  simp only [i1, i2, i3, v31]
  refine z_gd ⟨by decide, by omega, by omega⟩ ?_
  -- a turn without a line
  have none : ¬ (V 31 (k : Int) ≠ 0 ∧ V 24 (22 * (k : Int) + 19) ≠ 0) → Pz (m_X14_contents_j124 k g) (sE (fun (q : Int × Hp) => (∃ (k : Nat) (pk : Int), q.1 = k ∧ (k : Int) ≤ E ∧ ADV h b a y pn q.2 pk ∧ F2 (coW b a y) h q.2 ∧ FSN q.2 (V 24) W K J (BKf T np sg dt) w b pk S V e N (gCon S Y V Q e s k) ∧ txC q.2 261 (gCon S Y V Q e s k).1.1 ∧ q.2 b 27 = (gCon S Y V Q e s k).1.2 ∧ tkC q.2 b (TK ++ coK V e k)) ∧ (E - q.1).toNat < (E - (k : Int)).toNat) (COQ h (V 24) W K J (BKf T np sg dt) w b a y pn S V e N (gCon S Y V Q e s E.toNat) (TK ++ coK V e E.toNat))) := fun hc => by
    have eg : gCon S Y V Q e s (k + 1) = gCon S Y V Q e s k := by rw [gCon_s, if_neg hc]
    have ek : coK V e (k + 1) = coK V e k := by rw [coK_s, if_neg hc, List.append_nil]
    unfold m_X14_contents_j124
    rw [e32 (x := (k : Int) + 1) (by omega) (by omega)]
    exact z_lt (z_some ⟨⟨k + 1, pk, by show (k : Int) + 1 = ((k + 1 : Nat) : Int); omega, by omega, ad, Fg, by rw [eg]; exact FN, by rw [eg]; exact Xg, by rw [eg]; exact og, by rw [ek]; exact Tg⟩, by show (E - ((k : Int) + 1)).toNat < (E - (k : Int)).toNat; omega⟩)
  by_cases h31 : V 31 (k : Int) = 0
  · rw [if_pos h31]; exact none (fun z => z.1 h31)
  rw [if_neg h31]
  by_cases h19 : V 24 (22 * (k : Int) + 19) = 0
  · rw [if_neg (fun z => z h19)]; exact none (fun z => z.2 h19)
  rw [if_pos h19]
  have hc : V 31 (k : Int) ≠ 0 ∧ V 24 (22 * (k : Int) + 19) ≠ 0 := ⟨h31, h19⟩
  have eg : gCon S Y V Q e s (k + 1) = gCon1 S Y V Q e k (gCon S Y V Q e s k) := by rw [gCon_s, if_pos hc]
  have ek : coK V e (k + 1) = coK V e k ++ [(e, (k : Int), 0)] := by rw [coK_s, if_pos hc]
  obtain ⟨s1, s2, s3⟩ := q_small14 Lg hb
  show Pz (bW (m_X14_small b g) _) _
  rw [s1]
  show Pz (gd _ _) _
  dsimp only
  have fs1 := s3
  generalize up g 273 1 0 = g2 at s2 s3 ⊢
  have ad2 : ADV h b a y pn g2 pk := adv_gt hb ha y2 (by decide) ad s3 (b5_gt (b := b) (a := a) (t := 261))
  have X2 := ad2.ev X
  have L2 := X2.1.lay.1
  simp only [X2.2.2.1.1, g_X7 L2 ha]
  obtain ⟨_, _, _, _, _, _, _, _, _, _, _, _, _, _, T2⟩ := id X2.1
  refine z_gd trivial (z_bT (z_mono (c_title (cap := 24064) T2 (Int.natCast_nonneg k) (by omega) m273 (by decide) s2 (by rw [show (273 : Int) + 1 = 274 from rfl]; exact g_274 L2) (by simp) (by decide)) (fun r3 hr3 => Or.inl ⟨by rw [hr3.1], ?_⟩)))
  obtain ⟨-, f3, D3⟩ := hr3
  rw [List.nil_append] at D3
  have ad3 : ADV h b a y pn r3.2 pk := adv_gt hb ha y2 (by decide) ad2 f3 (tl_gt (b := b) (a := a) (t := 261))
  have X3 := ad3.ev X
  have L3 := X3.1.lay.1
  have tb := tiT_by X3.1 (Int.natCast_nonneg k) (show (k : Int) < E by omega)
  have cp3 : r3.2 (273 + 1) (-1) = 24064 := by rw [show (273 : Int) + 1 = 274 from rfl]; exact g_274 L3
  refine z_gd (g_X5 L3 m273) (puts_bT (c_add5 (c := 32) L3 m273 D3 (by rw [cp3]; omega) (by rw [cp3]; decide) (by decide) (by decide)) (fun g4 f4 D4 => ?_))
  have ad4 : ADV h b a y pn g4 pk := adv_gt hb ha y2 (by decide) ad3 f4 (b5_gt (b := b) (a := a) (t := 261))
  have X4 := ad4.ev X
  have L4 := X4.1.lay.1
  have k40 := g_X14_40 L4 hb
  have q4 := (X4.2.2.2.1.1 k (Int.natCast_nonneg k) (by omega)).1
  have qk := qo k (Int.natCast_nonneg k) (by omega)
  simp only [k40.1, k40.2.1, k40.2.2, q4]
  refine z_gd ⟨by decide, by omega, by omega⟩ (puts_bT (c_num24 L4 D4 qk.1 qk.2.1 (by rw [List.length_append, List.length_singleton]; omega)) (fun g5 f5 D5 => ?_))
  have ad5 : ADV h b a y pn g5 pk := adv_gt hb ha y2 (by decide) ad4 f5 (b5_gt (b := b) (a := a) (t := 261))
  have X5 := ad5.ev X
  have L5 := X5.1.lay.1
  have b05 : g5 b 0 = 256 := (ly_X14 L5 hb).2.1.1
  rw [b05, g_X10 L5, q_prop14 X5.1 X5.2.2.1 (by omega) e1 (by decide) (by decide) (by decide), Option.bind_some, (g_X10_1 L5).1]
  refine z_gd rfl ?_
  -- from g to g5 only small things
  have F5 : F2 (fun q j => gtW b a 269 q j ∧ ¬ txW 269 q j ∧ ¬ (q = b)) g g5 := by
    have sub5 : ∀ q j, b5W 273 q j → (gtW b a 269 q j ∧ ¬ txW 269 q j ∧ ¬ (q = b)) := fun q j z => ⟨b5_gt q j z, fun w => by unfold b5W at z; unfold txW at w; omega, fun w => by unfold b5W at z; omega⟩
    have subt : ∀ q j, tlW a 273 q j → (gtW b a 269 q j ∧ ¬ txW 269 q j ∧ ¬ (q = b)) := fun q j z => ⟨tl_gt q j z, fun w => by unfold tlW ttW b5W at z; unfold txW at w; omega, fun w => by unfold tlW ttW b5W at z; omega⟩
    exact (s3.mono sub5).trans ((f3.mono subt).trans ((f4.mono sub5).trans (f5.mono sub5)))
  have sm : ∀ q j, (gtW b a 269 q j ∧ ¬ txW 269 q j ∧ ¬ (q = b)) → gtW b a 261 q j := fun q j z => by
    obtain ⟨z1, z2, z3⟩ := z
    unfold gtW at z1 ⊢
    rcases z1 with z1 | z1
    · exact absurd z1 z2
    · exact Or.inr z1
  have nk : ∀ q j, (gtW b a 269 q j ∧ ¬ txW 269 q j ∧ ¬ (q = b)) → ¬ (txW 261 q j) ∧ ¬ (b + 51 ≤ q ∧ q ≤ b + 53) ∨ (b + 51 ≤ q ∧ q ≤ b + 53) := fun q j z => by
    by_cases hq : b + 51 ≤ q ∧ q ≤ b + 53
    · exact Or.inr hq
    · refine Or.inl ⟨fun w => ?_, hq⟩
      obtain ⟨z1, z2, z3⟩ := z
      unfold gtW txW at z1
      unfold txW at w z2
      omega
  have FN5 : FSN g5 (V 24) W K J (BKf T np sg dt) w b pk S V e N (gCon S Y V Q e s k) := FN.gt ad.2.2.1 hb ha (t := 261) (by decide) F5 sm
  have Xg5 : txC g5 261 (gCon S Y V Q e s k).1.1 := Xg.kept (fun c c0 c1 => F5.row (fun j z => by
    obtain ⟨z1, z2, z3⟩ := z
    unfold gtW txW at z1
    unfold txW at z2
    omega))
  have og5 : g5 b 27 = (gCon S Y V Q e s k).1.2 := by rw [F5 _ _ (fun z => z.2.2 rfl)]; exact og
  have Tg5 : tkC g5 b (TK ++ coK V e k) := by
    have e1' : ∀ i, 51 ≤ i → i ≤ 53 → g5 (b + i) = g (b + i) := fun i i0 i1 => by
      rw [f5.row (fun j z => by unfold b5W at z; omega), f4.row (fun j z => by unfold b5W at z; omega), f3.row (fun j z => by unfold tlW ttW b5W at z; omega), s3.row (fun j z => by unfold b5W at z; omega)]
    exact Tg.kept (F5 _ _ (fun z => z.2.2 rfl)) e1'
  have Gk := gsG.con Kg qo e1 G k (by omega)
  have cb := coB_by (x := (k : Int)) Kg qo (Int.natCast_nonneg k) (by omega)
  have D5' : bsL g5 273 (coB S Y V Q k) := by
    unfold coB
    exact D5
  have lT := coK_len (V := V) (e := e) k
  rw [show (w32 (10000 * w32 (V 24 (22 * (k : Int) + 19) - 1))) = 10000 * (V 24 (22 * (k : Int) + 19) - 1) by rw [e32 (x := V 24 (22 * (k : Int) + 19) - 1) (by omega) (by omega), e32 (by omega) (by omega)]]
  have eS : ofV (V 24) e 1 = szF V e := rfl
  rw [eS]
  refine c_line14 (lf := anF S V 4 e + 10000 * (V 24 (22 * (k : Int) + 19) - 1)) X5 ad5.2.2.1 (ad5.rmp rm) FN5 Xg5 og5 Gk (by rw [gCon_C]; exact r5) D5' cb.1 ?_ (by omega) e0 e1 hv (10000 * (V 24 (22 * (k : Int) + 19) - 1)) (fun v => w32 (v + 10000 * (V 24 (22 * (k : Int) + 19) - 1))) (by omega) (by omega) (fun v v0 v1 => e32 (by omega) (by omega)) (fun v hv => by rw [hv]) ?_ ?_
  · obtain ⟨c, c1, c2⟩ := decL_nb (Q 0 k).toNat
    exact ⟨c, List.mem_append_right _ c1, c2⟩
  · intro g6 p6 ad6 F6 FN6 Xg6 og6
    have ad6' := ad5.trans hb ha y2 ad6
    have L6 := (ad6'.ev X).1.lay.1
    have F56 : F2 (coW b a y) h g6 := Fg.trans ((F5.mono (fun q j z => Or.inr (sm q j z))).trans (F6.mono (fun q j z => z.elim Or.inl (fun w => Or.inr (pb_gt q j w)))))
    have T6 : tkC g6 b (TK ++ coK V e k) := Tg5.kept (F6 _ _ (fun z => by unfold cqW fvW fqW pnW fpW itV pbW txW at z; omega)) (fun i i0 i1 => F6.row (fun j z => by unfold cqW fvW fqW pnW fpW itV pbW txW at z; omega))
    refine z_bind (z_mono (c_takes L6 hb T6 (by rw [List.length_append]; omega)) (fun g7 hg7 => ?_))
    obtain ⟨f7, T7⟩ := hg7
    have ad7 : ADV h b a y pn g7 p6 := adv_gt hb ha y2 (by decide) ad6' f7 (tn_gt (b := b) (a := a) (t := 261))
    have eT : (gCon1 S Y V Q e k (gCon S Y V Q e s k)).1.1 = ([], -1) := gFl_T.1
    have eO : (gCon1 S Y V Q e k (gCon S Y V Q e s k)).1.2 = (gPut (szF V e) (coB S Y V Q k) (gCon S Y V Q e s k)).1.2 := gFl_T.2
    unfold m_X14_contents_j124
    rw [e32 (x := (k : Int) + 1) (by omega) (by omega)]
    refine z_lt (z_some ⟨⟨k + 1, p6, by show (k : Int) + 1 = ((k + 1 : Nat) : Int); omega, by omega, ad7, F56.trans (f7.mono (fun q j z => Or.inr (tn_gt q j z))), ?_, ?_, ?_, ?_⟩, by show (E - ((k : Int) + 1)).toNat < (E - (k : Int)).toNat; omega⟩)
    · rw [eg]; exact FSN.gt (t := 261) (a := a) FN6 ad6'.2.2.1 hb ha (by decide) f7 tn_gt
    · rw [eg, eT]; exact Xg6.kept (fun c c0 c1 => f7.row (fun j z => by unfold tnW at z; omega))
    · dsimp only
      rw [eg, eO, f7 _ _ (fun z => by unfold tnW at z; omega)]; exact og6
    · dsimp only
      rw [ek, ← List.append_assoc]; exact T7
  · intro r hT hG
    refine z_some (Or.inr ⟨?_, (hG.after hb ha y2 ad5).r1⟩)
    have := TOO.con (BK := BKf T np sg dt) (f := V 24) (S := S) (Y := Y) (V := V) (Q := Q) (e := e) (s := s) (N := N) (E.toNat - (k + 1)) (k + 1) (by rw [eg]; exact hT)
    rw [show k + 1 + (E.toNat - (k + 1)) = E.toNat by omega] at this
    exact this
/-- lines of the index, as the component tells them -/
def XQ (h : Hp) (b : Int) (XB : List (List Int)) : Prop := h (b + 42) 9 = XB.length ∧ (XB.length : Int) ≤ 300 ∧ (∀ L ∈ XB, (∀ c ∈ L, 0 ≤ c ∧ c ≤ 127) ∧ (∃ c ∈ L, c ≠ 10 ∧ c ≠ 32) ∧ L.length ≤ 20000) ∧ ∀ (k : Nat), k < XB.length → ∀ g, LAY g → (∀ q, b + 42 ≤ q → q ≤ b + 49 → g q = h q) → g (b + 39) = h (b + 39) → bsL g 273 [] → Pz (m_X16_write (b + 42) k (b + 39) 273 g) (fun r => r.1 = (0, 0) ∧ F2 (fun q j => b5W 273 q j ∨ (q = b + 50 ∧ 0 ≤ j)) g r.2 ∧ bsL r.2 273 (XB[k]?.getD []))
theorem XQ.kept {h h' : Hp} {b : Int} {XB : List (List Int)} (X : XQ h b XB) (e : ∀ q, b + 42 ≤ q → q ≤ b + 49 → h' q = h q) (e2 : h' (b + 39) = h (b + 39)) : XQ h' b XB := by
  obtain ⟨x1, x2, x3, x4⟩ := X
  refine ⟨by rw [e _ (by omega) (by omega)]; exact x1, x2, x3, fun k hk g L g1 g2 D => x4 k hk g L (fun q q0 q1 => (g1 q q0 q1).trans (e q q0 q1)) (g2.trans e2) D⟩
theorem gIdx_app {S V : Hp} {e : Int} {s : GS} {A B : List (List Int)} : gIdx S V (A ++ B) e s = gIdx S V B e (gIdx S V A e s) := by unfold gIdx; rw [List.foldl_append]
theorem TOO.idx {BK : TXL → Int → List (Int × Int)} {f : Int → Int} {S V : Hp} {e : Int} {N : List PAR} : ∀ (XB : List (List Int)) (s : GS), TOO BK f s N → TOO BK f (gIdx S V XB e s) N
  | [], s, h => h
  | L :: XB, s, h => TOO.idx XB _ (TOO.fl (TOO.put h))
theorem gsG.idx {S V : Hp} {e : Int} (z0 : 0 ≤ szF V e) (z1 : szF V e ≤ 100000) : ∀ (XB : List (List Int)) (s : GS), (∀ L ∈ XB, ∀ c ∈ L, 0 ≤ c ∧ c ≤ 127) → gsG s → gsG (gIdx S V XB e s)
  | [], s, _, G => G
  | L :: XB, s, h, G => gsG.idx z0 z1 XB _ (fun M hM => h M (List.mem_cons_of_mem _ hM)) ((G.put z0 z1 (h L List.mem_cons_self)).fl)
theorem c_index {S Y V Q h T : Hp} {b a sa ya E M f y np pn w e : Int} {W : Int → Int} {K J : Int → Int → Int} {sg : Int → List Int} {dt : Int → Int → Int} {s : GS} {N : List PAR} {TK : List (Int × Int × Int)} {XB : List (List Int)} (X : EV S Y V Q h b a sa ya E M f y W K J T np sg dt) (Po : POK h b pn) (rm : RMP h pn) (F : FSN h (V 24) W K J (BKf T np sg dt) w b pn S V e N s) (Xt : txC h 261 s.1.1) (eo : h b 27 = s.1.2) (G : gsG s) (r5 : (s.2.2.2.2.2.length : Int) ≤ 500) (Tk : tkC h b TK) (hl : (TK.length : Int) ≤ 1800) (e0 : 0 ≤ e) (e1 : e < E) (hv : V 33 e ≠ 0) (xq : XQ h b XB) (hT0 : s.1.1 = ([], -1)) :
    Pz (m_X14_index b h) (fun r => (∃ pn', r.1 = (0, 0) ∧ ADV h b a y pn r.2 pn' ∧ F2 (fun q j => coW b a y q j ∨ (q = b + 50 ∧ 0 ≤ j)) h r.2 ∧ FSN r.2 (V 24) W K J (BKf T np sg dt) w b pn' S V e N (gIdx S V XB e s) ∧ txC r.2 261 (gIdx S V XB e s).1.1 ∧ r.2 b 27 = (gIdx S V XB e s).1.2 ∧ tkC r.2 b (TK ++ [(e, e, 3)])) ∨ (TOO (BKf T np sg dt) (V 24) (gIdx S V XB e s) N ∧ THG h b a y pn r)) := by
  have hb := X.2.1
  have hL := X.1.lay.1
  have ha := X.1.lay.2.1
  have y2 := X.2.2.2.2.2.2.1
  have hb' := rX14 hb
  have ha' := rX7 ha
  have hy' := aX9 y2
  have T' := X.1.tb
  have ze := X.1.vr.2 e e1
  have en : nr S (V 33) e = e := nr_1 T'.1 e0 e1 hv
  obtain ⟨x1, x2, x3, x4⟩ := id xq
  unfold m_X14_index
  rw [q_block14 hL hb F.pool.1, blS_last T'.1 (e.toNat + 1) e (by omega) e1, en, Option.bind_some]
  refine z_lt (z_bind (z_mono (z_lp (Q := fun r => (∃ pn', r.1 = (0, 0) ∧ ADV h b a y pn r.2 pn' ∧ F2 (fun q j => coW b a y q j ∨ (q = b + 50 ∧ 0 ≤ j)) h r.2 ∧ FSN r.2 (V 24) W K J (BKf T np sg dt) w b pn' S V e N (gIdx S V XB e s) ∧ txC r.2 261 (gIdx S V XB e s).1.1 ∧ r.2 b 27 = (gIdx S V XB e s).1.2 ∧ tkC r.2 b (TK ++ [(e, e, 3)])) ∨ (TOO (BKf T np sg dt) (V 24) (gIdx S V XB e s) N ∧ THG h b a y pn r)) (fun (q : Int × Hp) => ∃ (k : Nat) (pk : Int), q.1 = k ∧ k ≤ XB.length ∧ ADV h b a y pn q.2 pk ∧ F2 (fun q j => coW b a y q j ∨ (q = b + 50 ∧ 0 ≤ j)) h q.2 ∧ FSN q.2 (V 24) W K J (BKf T np sg dt) w b pk S V e N (gIdx S V (XB.take k) e s) ∧ txC q.2 261 (gIdx S V (XB.take k) e s).1.1 ∧ q.2 b 27 = (gIdx S V (XB.take k) e s).1.2 ∧ tkC q.2 b TK) (fun q => ((XB.length : Int) - q.1).toNat) ⟨0, pn, rfl, Nat.zero_le _, ADV.refl Po, F2.refl, F, Xt, eo, Tk⟩ ?_) (fun r hr => z_some hr)))
  rintro ⟨i, g⟩ ⟨k, pk, ei, k1, ad, Fg, FN, Xg, og, Tg⟩
  dsimp only at ei og
  replace ad : ADV h b a y pn g pk := ad
  replace Fg : F2 (fun q j => coW b a y q j ∨ (q = b + 50 ∧ 0 ≤ j)) h g := Fg
  replace FN : FSN g (V 24) W K J (BKf T np sg dt) w b pk S V e N (gIdx S V (XB.take k) e s) := FN
  replace Xg : txC g 261 (gIdx S V (XB.take k) e s).1.1 := Xg
  replace Tg : tkC g b TK := Tg
  have Xe := ad.ev X
  have Kg := Xe.1
  have Lg := Kg.lay.1
  have Bg := Xe.2.2.1
  have ent : ∀ g', ADV h b a y pn g' pk → ∀ q, (b + 42 ≤ q ∧ q ≤ b + 49) ∨ q = b + 39 → g' q = h q := fun g' ad' q hq => ad'.1.row (fun j z => by unfold GW cel fpW at z; omega)
  show Pz (m_X14_index_l7 b e i g) _
  unfold m_X14_index_l7
  obtain ⟨m1, m2, m3⟩ := g_X14_43 Lg hb
  have e9 : g (b + 42) 9 = XB.length := by rw [ent g ad (b + 42) (by omega)]; exact x1
  rw [m1, m2, e9, ei]
  refine z_gd rfl ?_
  by_cases hk : (XB.length : Int) ≤ (k : Int)
  · rw [if_pos hk]
    have : XB.take k = XB := List.take_of_length_le (by omega)
    rw [this] at FN Xg og
    refine z_bind (z_mono (c_takes Lg hb Tg (by omega)) (fun g7 hg7 => z_some (Or.inl ⟨pk, rfl, adv_gt hb ha y2 (by decide) ad hg7.1 (tn_gt (b := b) (a := a) (t := 261)), Fg.trans (hg7.1.mono (fun q j z => Or.inl (Or.inr (tn_gt q j z)))), ?_, ?_, ?_, hg7.2⟩)))
    · exact FSN.gt (t := 261) (a := a) FN ad.2.2.1 hb ha (by decide) hg7.1 tn_gt
    · exact Xg.kept (fun c c0 c1 => hg7.1.row (fun j z => by unfold tnW at z; omega))
    · dsimp only; rw [hg7.1 _ _ (fun z => by unfold tnW at z; omega)]; exact og
  rw [if_neg hk]
  have hkl : k < XB.length := by omega
  have tk : XB.take (k + 1) = XB.take k ++ [XB[k]?.getD []] := by rw [List.take_add_one, List.getElem?_eq_getElem hkl]; rfl
  have dr : XB = XB.take (k + 1) ++ XB.drop (k + 1) := (List.take_append_drop _ _).symm
  obtain ⟨s1, s2, s3⟩ := q_small14 Lg hb
  show Pz (bW (m_X14_small b g) _) _
  rw [s1]
  show Pz (gd _ _) _
  dsimp only
  generalize up g 273 1 0 = g2 at s2 s3 ⊢
  have ad2 : ADV h b a y pn g2 pk := adv_gt hb ha y2 (by decide) ad s3 (b5_gt (b := b) (a := a) (t := 261))
  have X2 := ad2.ev X
  have L2 := X2.1.lay.1
  obtain ⟨n1, n2, n3⟩ := g_X14_43 L2 hb
  obtain ⟨n4, n5, n6⟩ := g_X14_40 L2 hb
  simp only [n1, n2, n4]
  refine z_gd trivial (z_bT (z_mono (x4 k hkl g2 L2 (fun q q0 q1 => ent g2 ad2 q (by omega)) (ent g2 ad2 _ (by omega)) s2) (fun r3 hr3 => Or.inl ⟨by rw [hr3.1], ?_⟩)))
  obtain ⟨-, f3, D3⟩ := hr3
  have ad3 : ADV h b a y pn r3.2 pk := ad2.trans hb ha y2 (adv_W ad2.2.2.1 f3 (fun q j z => by
    rcases z with z | z
    · exact gt_gw (t := 261) (by decide) q j (b5_gt q j z)
    · exact Or.inr (Or.inr (Or.inr (Or.inr (Or.inr (Or.inr (Or.inl ⟨by omega, by omega, z.2⟩)))))) ) (fun j z => by unfold b5W at z; omega) (fun j z => by unfold b5W at z; omega) (fun A hA => ⟨fun z => by unfold b5W at z; omega, fun z => by unfold b5W at z; omega⟩))
  have X3 := ad3.ev X
  have L3 := X3.1.lay.1
  have b03 : r3.2 b 0 = 256 := (ly_X14 L3 hb).2.1.1
  rw [b03, g_X10 L3, q_prop14 X3.1 X3.2.2.1 (by omega) e1 (by decide) (by decide) (by decide), Option.bind_some, (g_X10_1 L3).1]
  refine z_gd rfl ?_
  have F3 : F2 (fun q j => b5W 273 q j ∨ (q = b + 50 ∧ 0 ≤ j)) g r3.2 := (s3.mono (fun q j z => Or.inl z)).trans f3
  have FN3 : FSN r3.2 (V 24) W K J (BKf T np sg dt) w b pk S V e N (gIdx S V (XB.take k) e s) := fs_W FN ad.2.2.1 F3 (fun q j z => by unfold b5W at z; omega)
  have Xg3 : txC r3.2 261 (gIdx S V (XB.take k) e s).1.1 := Xg.kept (fun c c0 c1 => F3.row (fun j z => by unfold b5W at z; omega))
  have og3 : r3.2 b 27 = (gIdx S V (XB.take k) e s).1.2 := by rw [F3 _ _ (fun z => by unfold b5W at z; omega)]; exact og
  have Tg3 : tkC r3.2 b TK := Tg.kept (F3 _ _ (fun z => by unfold b5W at z; omega)) (fun i i0 i1 => F3.row (fun j z => by unfold b5W at z; omega))
  have zz : 0 ≤ szF V e ∧ szF V e ≤ 100000 := by unfold szF; omega
  have Gk := gsG.idx (S := S) zz.1 zz.2 (XB.take k) s (fun L hL c hc => (x3 L (List.mem_of_mem_take hL)).1 c hc) G
  have xm : (XB[k]?.getD []) ∈ XB := by rw [List.getElem?_eq_getElem hkl]; exact List.getElem_mem _
  obtain ⟨y1, y2', y3⟩ := x3 _ xm
  have eS : ofV (V 24) e 1 = szF V e := rfl
  have eIx : ∀ s0 : GS, gFlB S V e s0 = gFl e (anF S V 4 e) (wdF S V (anF S V 4 e) e) s0 := fun s0 => rfl
  have e1' : gIdx S V (XB.take (k + 1)) e s = gFl e (anF S V 4 e) (wdF S V (anF S V 4 e) e) (gPut (szF V e) (XB[k]?.getD []) (gIdx S V (XB.take k) e s)) := by rw [tk, gIdx_app]; rfl
  rw [eS]
  refine c_line14 (lf := anF S V 4 e) X3 ad3.2.2.1 (ad3.rmp rm) FN3 Xg3 og3 Gk (by rw [gIdx_C]; exact r5) D3 y1 y2' (by omega) e0 e1 hv 0 (fun v => v) (Int.le_refl _) (by decide) (fun v v0 v1 => by omega) (fun v hv => by omega) ?_ ?_
  · intro g6 p6 ad6 F6 FN6 Xg6 og6
    have ad6' := ad3.trans hb ha y2 ad6
    rw [e32 (x := (k : Int) + 1) (by omega) (by omega)]
    refine z_lt (z_some ⟨⟨k + 1, p6, by show (k : Int) + 1 = ((k + 1 : Nat) : Int); omega, by omega, ad6', ?_, ?_, ?_, ?_, ?_⟩, by show ((XB.length : Int) - ((k : Int) + 1)).toNat < ((XB.length : Int) - (k : Int)).toNat; omega⟩)
    · refine Fg.trans ((F3.mono (fun q j z => ?_)).trans (F6.mono (fun q j z => Or.inl (z.elim Or.inl (fun w => Or.inr (pb_gt q j w))))))
      rcases z with z | z
      · exact Or.inl (Or.inr (b5_gt q j z))
      · exact Or.inr z
    · rw [e1']; exact FN6
    · rw [e1', (gFl_T).1]; exact Xg6
    · dsimp only; rw [e1', (gFl_T).2]; exact og6
    · exact Tg3.kept (F6 _ _ (fun z => by unfold cqW fvW fqW pnW fpW itV pbW txW at z; omega)) (fun i i0 i1 => F6.row (fun j z => by unfold cqW fvW fqW pnW fpW itV pbW txW at z; omega))
  · intro r hT hG
    refine z_some (Or.inr ⟨?_, (hG.after hb ha y2 ad3).r1⟩)
    rw [dr, gIdx_app]
    exact TOO.idx _ _ (by rw [e1']; exact hT)
