-- needs: 99zzzzzx
set_option maxRecDepth 100000
/-! CONTENTS (component) -/
theorem TOO.put {BK : TXL → Int → List (Int × Int)} {f : Int → Int} {s : GS} {N : List PAR} {z : Int} {L : List Int} (h : TOO BK f s N) : TOO BK f (gPut z L s) N := by
  have l := (tzL_len (n := 1) (z := z) L s.1).1
  unfold TOO gPut at *
  dsimp only
  rcases h with h | h | h
  · exact Or.inl h
  · exact Or.inr (Or.inl (by omega))
  · exact Or.inr (Or.inr h)
theorem TOO.fl {BK : TXL → Int → List (Int × Int)} {f : Int → Int} {s : GS} {N : List PAR} {e lf wd : Int} (h : TOO BK f s N) : TOO BK f (gFl e lf wd s) N := by
  unfold gFl
  split
  · rename_i hn
    unfold TOO gClr at *
    dsimp only
    rw [hn] at h
    exact h
  · unfold TOO at *
    dsimp only
    rw [ltS_app, List.length_append, List.length_singleton]
    dsimp only
    rcases h with h | h | ⟨p, hp, h⟩
    · exact Or.inl (by omega)
    · refine Or.inr (Or.inl ?_)
      show 24000 < ltS s.2.1 + (s.1.1.1.length : Int) + ltS N + 0
      omega
    · exact Or.inr (Or.inr ⟨p, hp.elim (fun w => Or.inl (List.mem_append_left _ w)) Or.inr, h⟩)
theorem gCon_s {S Y V Q : Hp} {e : Int} {s : GS} (k : Nat) : gCon S Y V Q e s (k + 1) = if V 31 k ≠ 0 ∧ V 24 (22 * (k : Int) + 19) ≠ 0 then gCon1 S Y V Q e k (gCon S Y V Q e s k) else gCon S Y V Q e s k := rfl
theorem TOO.con {BK : TXL → Int → List (Int × Int)} {f : Int → Int} {S Y V Q : Hp} {e : Int} {s : GS} {N : List PAR} : ∀ (j k : Nat), TOO BK f (gCon S Y V Q e s k) N → TOO BK f (gCon S Y V Q e s (k + j)) N
  | 0, k, h => h
  | j + 1, k, h => by
    have ih := TOO.con j k h
    rw [show k + (j + 1) = k + j + 1 by omega, gCon_s]
    split
    · unfold gCon1; exact (ih.put).fl
    · exact ih
/-- what the contents take -/
def coK (V : Hp) (e : Int) : Nat → List (Int × Int × Int)
  | 0 => []
  | k + 1 => coK V e k ++ (if V 31 k ≠ 0 ∧ V 24 (22 * (k : Int) + 19) ≠ 0 then [(e, (k : Int), 0)] else [])
theorem coK_s {V : Hp} {e : Int} (k : Nat) : coK V e (k + 1) = coK V e k ++ (if V 31 k ≠ 0 ∧ V 24 (22 * (k : Int) + 19) ≠ 0 then [(e, (k : Int), 0)] else []) := rfl
theorem coK_len {V : Hp} {e : Int} : ∀ k : Nat, (coK V e k).length ≤ k
  | 0 => Nat.le_refl _
  | k + 1 => by
    have := coK_len (V := V) (e := e) k
    rw [coK_s, List.length_append]
    split <;> simp <;> omega
/-- bytes that the flow gets keep it good -/
def gsG (s : GS) : Prop := txG s.1.1 ∧ 0 ≤ s.1.2 ∧ s.1.2 ≤ ltS s.2.1 + s.1.1.1.length ∧ (s.2.2.1.length : Int) ≤ s.2.1.length + s.2.2.2.2.2.length
theorem tzL_ord {n z : Int} : ∀ (L : List Int) (s : TXT × Int), (tzL n z s L).2 - s.2 ≤ ((tzL n z s L).1.1.length : Int) - s.1.1.length
  | [], s => by show s.2 - s.2 ≤ (s.1.1.length : Int) - s.1.1.length; omega
  | c :: L, s => by
    have ih := tzL_ord (n := n) (z := z) L (tzP n z s c)
    have h1 : (tzP n z s c).2 - s.2 ≤ ((tzP n z s c).1.1.length : Int) - s.1.1.length := by
      unfold tzP txP
      dsimp only
      by_cases hc : c = 10 ∨ c = 32
      · rw [if_pos hc, if_pos (by omega)]
        dsimp only
        omega
      · rw [if_neg hc]
        dsimp only
        rw [List.length_append, List.length_append, List.length_singleton]
        split <;> split <;> simp <;> omega
    show (tzL n z (tzP n z s c) L).2 - s.2 ≤ ((tzL n z (tzP n z s c) L).1.1.length : Int) - s.1.1.length
    omega
theorem gsG.put {s : GS} {z : Int} {L : List Int} (G : gsG s) (z0 : 0 ≤ z) (z1 : z ≤ 100000) (by_ : ∀ c ∈ L, 0 ≤ c ∧ c ≤ 127) : gsG (gPut z L s) := by
  obtain ⟨g1, g2, g3, g4⟩ := G
  have l := (tzL_len (n := 1) (z := z) L s.1)
  have o := tzL_ord (n := 1) (z := z) L s.1
  refine ⟨txG_L z0 z1 L s.1 by_ g1 g2, ?_, ?_, g4⟩
  · show 0 ≤ (tzL 1 z s.1 L).2; omega
  · show (tzL 1 z s.1 L).2 ≤ ltS s.2.1 + ((tzL 1 z s.1 L).1.1.length : Int); omega
theorem gsG.fl {s : GS} {e lf wd : Int} (G : gsG s) : gsG (gFl e lf wd s) := by
  obtain ⟨g1, g2, g3, g4⟩ := G
  unfold gFl
  split
  · rename_i hn
    refine ⟨txG_0, g2, ?_, g4⟩
    show s.1.2 ≤ ltS s.2.1 + (([] : TXL).length : Int)
    rw [hn] at g3
    exact g3
  · refine ⟨txG_0, g2, ?_, ?_⟩
    · show s.1.2 ≤ ltS (s.2.1 ++ [(s.1.1.1, e, 0, lf, wd)]) + (([] : TXL).length : Int)
      rw [ltS_app]
      show s.1.2 ≤ ltS s.2.1 + (s.1.1.1.length : Int) + 0
      omega
    · show ((s.2.2.1 ++ [(0, (s.2.1.length : Int), s.2.2.2.1)]).length : Int) ≤ ((s.2.1 ++ [(s.1.1.1, e, 0, lf, wd)]).length : Int) + s.2.2.2.2.2.length
      rw [List.length_append, List.length_append, List.length_singleton, List.length_singleton]
      omega
theorem gsG.gap {s : GS} {v : Int} (G : gsG s) : gsG (gGap v s) := G
theorem coB_by {S Y V Q p : Hp} {a sa ya E M x : Int} (K : KTR S Y V p a sa ya E M) (q : qOK Q E) (x0 : 0 ≤ x) (x1 : x < E) : (∀ c ∈ coB S Y V Q x, 0 ≤ c ∧ c ≤ 127) ∧ (coB S Y V Q x).length ≤ 46 := by
  have t := tiT_by K x0 x1
  have qx := q x x0 x1
  have d := decL_sh (n := (Q 0 x).toNat) (by omega)
  unfold coB
  refine ⟨fun c hc => ?_, by rw [List.length_append, List.length_append, List.length_singleton]; omega⟩
  rcases List.mem_append.mp hc with hc | hc
  · rcases List.mem_append.mp hc with hc | hc
    · exact t.1 c hc
    · rw [List.mem_singleton.mp hc]; decide
  · exact decL_by _ _ (Nat.le_refl _) c hc
theorem coB_ne {S Y V Q : Hp} {z x : Int} {s : TXT × Int} {L : List Int} (hL : ∃ c ∈ L, c ≠ 10 ∧ c ≠ 32) : (tzL 1 z s L).1.1 ≠ [] := by
  obtain ⟨c, hc, c1, c2⟩ := hL
  induction L generalizing s with
  | nil => cases hc
  | cons d L ih =>
    show (tzL 1 z (tzP 1 z s d) L).1.1 ≠ []
    rcases List.mem_cons.mp hc with h | h
    · have l := (tzL_len (n := 1) (z := z) L (tzP 1 z s d)).1
      intro hn
      rw [hn] at l
      have : (tzP 1 z s d).1.1 = [] := List.eq_nil_of_length_eq_zero (by simpa using l)
      unfold tzP txP at this
      rw [← h, if_neg (by omega)] at this
      simp at this
    · exact ih h
theorem decL_nb (n : Nat) : ∃ c ∈ decL n, c ≠ 10 ∧ c ≠ 32 := by
  by_cases h : n < 10
  · rw [decL_1 h]; exact ⟨_, List.mem_singleton.mpr rfl, by omega, by omega⟩
  · rw [decL_2 h]; exact ⟨_, List.mem_append_right _ (List.mem_singleton.mpr rfl), by omega, by omega⟩
def cqW (b y : Int) : Int → Int → Prop := fun q j => fvW b 261 y q j ∨ pbW b 261 q j
def coW (b a y : Int) : Int → Int → Prop := fun q j => fvW b 261 y q j ∨ gtW b a 261 q j
theorem adv_gt {h h' g : Hp} {b a y pn p1 t : Int} {W : Int → Int → Prop} (hb : b ∈ in_aX14) (ha : a ∈ in_aX7) (hy : y ∈ in_aX9) (ht : t ∈ in_aX12) (x : ADV h b a y pn h' p1) (f : F2 W h' g) (s : ∀ q j, W q j → gtW b a t q j) : ADV h b a y pn g p1 := by
  have ht' := rX12 ht
  have hb' := rX14 hb
  have ha' := rX7 ha
  have n : ∀ q j, W q j → ¬ (q = 0 ∨ q = b + 15 ∨ 983 ≤ q) := fun q j z => by have := s q j z; unfold gtW txW at this; omega
  exact x.trans hb ha hy (adv_W x.2.2.1 f (fun q j z => gt_gw ht q j (s q j z)) (fun j z => n _ _ z (Or.inl rfl)) (fun j z => n _ _ z (Or.inr (Or.inl rfl))) (fun A hA => ⟨fun z => n _ _ z (Or.inr (Or.inr hA)), fun z => n _ _ z (Or.inr (Or.inr hA))⟩))
theorem thg_gt {h : Hp} {b a y pn t : Int} {W : Int → Int → Prop} {r : (Int × Int) × Hp} (hb : b ∈ in_aX14) (ha : a ∈ in_aX7) (hy : y ∈ in_aX9) (ht : t ∈ in_aX12) (P : POK h b pn) (x : TH W h r) (s : ∀ q j, W q j → gtW b a t q j) : THG h b a y pn r := by
  obtain ⟨g, f, -, c⟩ := x
  exact ⟨g, pn, adv_gt hb ha hy ht (ADV.refl P) f s, c⟩
theorem FSN.gt {W' : Int → Int → Prop} {h h' : Hp} {f W : Int → Int} {K J : Int → Int → Int} {BK : TXL → Int → List (Int × Int)} {w b a pn t : Int} {S V : Hp} {x : Int} {N : List PAR} {s : GS} (F : FSN h f W K J BK w b pn S V x N s) (Po : POK h b pn) (hb : b ∈ in_aX14) (ha : a ∈ in_aX7) (ht : t ∈ in_aX12) (g : F2 W' h h') (sub : ∀ q j, W' q j → gtW b a t q j) : FSN h' f W K J BK w b pn S V x N s := by
  have ht' := rX12 ht
  have hb' := rX14 hb
  have ha' := rX7 ha
  exact fs_W F Po g (fun q j z => by have := sub q j z; unfold gtW txW at this; omega)
theorem FSN.put {h : Hp} {f W : Int → Int} {K J : Int → Int → Int} {BK : TXL → Int → List (Int × Int)} {w b pn : Int} {S V : Hp} {x z : Int} {L : List Int} {N : List PAR} {s : GS} (F : FSN h f W K J BK w b pn S V x N s) : FSN h f W K J BK w b pn S V x N (gPut z L s) := F
/-- a line of the contents, or of the index: bytes made small, put, made a paragraph -/
theorem c_line14 {S Y V Q h T : Hp} {b a sa ya E M f y np pn w e lf : Int} {W : Int → Int} {K J : Int → Int → Int} {sg : Int → List Int} {dt : Int → Int → Int} {s : GS} {N : List PAR} {LB : List Int} {α : Type} {cont : Hp → Option α} {bad : Int → Hp → Option α} {Q' : α → Prop} (X : EV S Y V Q h b a sa ya E M f y W K J T np sg dt) (Po : POK h b pn) (rm : RMP h pn) (F : FSN h (V 24) W K J (BKf T np sg dt) w b pn S V e N s) (Xt : txC h 261 s.1.1) (eo : h b 27 = s.1.2) (G : gsG s) (r5 : (s.2.2.2.2.2.length : Int) ≤ 500) (D : bsL h 273 LB) (by_ : ∀ c ∈ LB, 0 ≤ c ∧ c ≤ 127) (nb : ∃ c ∈ LB, c ≠ 10 ∧ c ≠ 32) (ll : LB.length ≤ 20000) (e0 : 0 ≤ e) (e1 : e < E) (hv : V 33 e ≠ 0) (d : Int) (fn : Int → Int) (d0 : 0 ≤ d) (d1 : d ≤ 1000000) (hfn : ∀ v, 0 ≤ v → v ≤ 10000000 → fn v = v + d) (el : ∀ v, v = anF S V 4 e → lf = v + d)
    (ok : ∀ g pn', ADV h b a y pn g pn' → F2 (cqW b y) h g → FSN g (V 24) W K J (BKf T np sg dt) w b pn' S V e N (gFl e lf (wdF S V lf e) (gPut (szF V e) LB s)) → txC g 261 ([], -1) → g b 27 = (gPut (szF V e) LB s).1.2 → Pz (cont g) Q')
    (no : ∀ r, TOO (BKf T np sg dt) (V 24) (gFl e lf (wdF S V lf e) (gPut (szF V e) LB s)) N → THG h b a y pn r → Pz (bad r.1.2 r.2) Q') :
    Pz (bT (m_X14_putAll b 261 273 (szF V e) 1 h) (fun _ h97 => (m_X14_inset b 4 h97).bind fun v103 => bT (m_X14_flushAs b (fn v103) h97) (fun _ h114 => cont h114) bad) bad) Q' := by
  have hb := X.2.1
  have hL := X.1.lay.1
  have ha := X.1.lay.2.1
  have y2 := X.2.2.2.2.2.2.1
  have hb' := rX14 hb
  have ha' := rX7 ha
  have hy' := aX9 y2
  have T' := X.1.tb
  have ze := X.1.vr.2 e e1
  obtain ⟨g1, g2, g3, g4⟩ := id G
  have en : nr S (V 33) e = e := nr_1 T'.1 e0 e1 hv
  have oL : s.1.2 ≤ 48000 := by
    obtain ⟨L, li, FSL, -⟩ := id F
    have := FSL.1.1.2.2.2.1
    have := li.2.1
    have n0 := ltS_0 (L := N)
    have := Xt.2.1
    omega
  refine z_bT (z_mono (c_putAll14 (n := 1) (z := szF V e) (s := s.1) hL (by decide) hb m273 (Or.inl rfl) (by rw [show (273 : Int) + 1 = 274 from rfl, g_274 hL]; omega) (rm.rm Po.2.1).1 Xt D by_ (by unfold szF; omega) eo (by omega)) (fun r hr => ?_))
  rcases hr with ⟨a1, a2, a3, a4⟩ | ⟨a1, a2⟩
  · left
    rw [a1]
    refine ⟨rfl, ?_⟩
    have ad1 : ADV h b a y pn r.2 pn := adv_gt hb ha y2 (by decide) (ADV.refl Po) a2 pb_gt
    have X1 := ad1.ev X
    have F1 : FSN r.2 (V 24) W K J (BKf T np sg dt) w b pn S V e N (gPut (szF V e) LB s) := (F.gt Po hb ha (by decide) a2 (pb_gt (a := a))).put
    obtain ⟨L, li, FSL, FNL⟩ := F1
    have len := li.le
    refine z_bind (z_mono (c_inset X1.1 hb X1.2.2.1 FSL.2.2.2.2 (fun z hz => by have := blS_mem T'.1 (e.toNat + 1) e (by omega) e1 z hz; omega) (by decide) (by decide)) (fun v hv' => ?_))
    obtain ⟨v1, v2, v3⟩ := hv'
    rw [blS_sum T'.1 (e.toNat + 1) e (by omega) e1] at v1
    have v4 := FSL.2.2.2.2.2.1
    have elf := el v v1
    rw [hfn v v2 (by omega), ← elf]
    have Gp := G.put (z := szF V e) (L := LB) (by unfold szF; omega) (by unfold szF; omega) by_
    have nee : (gPut (szF V e) LB s).1.1.1 ≠ [] := coB_ne (S := S) (Y := Y) (V := V) (Q := Q) (x := 0) nb
    refine z_bT (z_mono (c_flushAs X1 a3 Gp.1 nee e1 ad1.2.2.1 (ad1.rmp rm) FSL (by omega) (by omega) (fun z => by have h1 := Gp.2.2.2; have h2 : ((gPut (szF V e) LB s).2.2.2.2.2.length : Int) ≤ 500 := r5; omega)) (fun r' hr' => ?_))
    rw [show FLQ r.2 (V 24) W K J (BKf T np sg dt) w b a y pn S V e (tzL 1 (szF V e) s.1 LB).1 lf L (gPut (szF V e) LB s).2.1 (gPut (szF V e) LB s).2.2.1 (gPut (szF V e) LB s).2.2.2.1 r' = FLQ r.2 (V 24) W K J (BKf T np sg dt) w b a y pn S V e (gPut (szF V e) LB s).1.1 lf L (gPut (szF V e) LB s).2.1 (gPut (szF V e) LB s).2.2.1 (gPut (szF V e) LB s).2.2.2.1 r' from rfl] at hr'
    have a4' : r.2 b 27 = (gPut (szF V e) LB s).1.2 := a4
    generalize gPut (szF V e) LB s = s1 at *
    have eg : gFl e lf (wdF S V lf e) s1 = ((([], -1), s1.1.2), s1.2.1 ++ [(s1.1.1.1, e, 0, lf, wdF S V lf e)], s1.2.2.1 ++ [(0, (s1.2.1.length : Int), s1.2.2.2.1)], 0, s1.2.2.2.2) := by unfold gFl; rw [if_neg nee]
    rw [eg] at ok no
    unfold FLQ at hr'
    rw [en] at hr'
    rcases hr' with ⟨pn', h1, h2, h3, h4, h7, h5, h6⟩ | ⟨h1, h2⟩
    · left
      rw [h1]
      refine ⟨rfl, ok _ pn' (ad1.trans hb ha y2 h3) ?_ ⟨_, li.flow, h6, FNL.more (h4.row (fun j z => by unfold fvW fqW pnW fpW itV at z; omega)) h7⟩ h5 ?_⟩
      · exact F2.trans (a2.mono (fun q j z => Or.inr z)) (h4.mono (fun q j z => Or.inl z))
      · rw [h4 _ _ (fun z => by unfold fvW fqW pnW fpW itV at z; omega)]; exact a4'
    · refine Or.inr ⟨h2.ne, no _ ?_ (h2.after hb ha y2 ad1)⟩
      unfold TOO
      dsimp only
      rw [ltS_app, List.length_append, List.length_singleton]
      have l1 := li.1
      have l2 := li.2.1
      rcases h1 with z | z | z
      · exact Or.inl (by omega)
      · refine Or.inr (Or.inl ?_)
        show 24000 < ltS s1.2.1 + (s1.1.1.1.length : Int) + ltS N + 0
        omega
      · exact Or.inr (Or.inr ⟨_, Or.inl (List.mem_append_right _ (List.mem_singleton.mpr rfl)), z⟩)
  · refine Or.inr ⟨by rw [a2.one]; decide, no _ (TOO.fl (Or.inr (Or.inl ?_))) (thg_gt hb ha y2 (by decide) Po a2 pb_gt)⟩
    have n0 := ltS_0 (L := N)
    have p0 := ltS_0 (L := s.2.1)
    show 24000 < ltS s.2.1 + ltS N + ((tzL 1 (szF V e) s.1 LB).1.1.length : Int)
    omega
