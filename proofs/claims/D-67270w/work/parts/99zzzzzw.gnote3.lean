-- needs: 99zzzzzv
set_option maxRecDepth 100000
/-! NOTES: where they begin (component), all of it -/
theorem c_beginNote {S Y V Q h T : Hp} {b a sa ya E M f y np e m : Int} {W : Int → Int} {K J : Int → Int → Int} {sg : Int → List Int} {dt : Int → Int → Int} {s : TXT × Int} {TK : List (Int × Int × Int)} (X : EV S Y V Q h b a sa ya E M f y W K J T np sg dt) (rm : RM h 1 6) (Xt : txC h 261 s.1) (eo : h b 27 = s.2) (o0 : 0 ≤ s.2 ∧ s.2 ≤ 700000000) (Tk : tkC h b TK) (hl : (TK.length : Int) < 2320) (em : h b 36 = m) (m0 : 0 ≤ m) (e46 : h b 46 = 0) (e47 : h b 47 = 0) (e0 : 0 ≤ e) (e1 : e < E) :
    Pz (m_X14_beginNote b e h) (NBQ S Y V Q h b a E e m s TK) := by
  obtain ⟨k, hb, B, ⟨qc, qo⟩, -⟩ := id X
  obtain ⟨hL, ha, hs, hy⟩ := k.lay
  have y2 := X.2.2.2.2.2.2.1
  have hb' := rX14 hb
  have ha' := rX7 ha
  have hs' := rX6 hs
  have hy' := aX9 y2
  have T' := k.tb
  have par := T'.1.par e e0 e1
  have E5 := k.rng.2.1
  have zp := k.vr.2 (S 7 e) (by omega)
  have ze := k.vr.2 e e1
  obtain ⟨w0, -, -, -, -, -, -, -, -, -, w10⟩ := str_words
  -- what stays
  have st : ∀ g, F2 (nbW b a) h g → LAY g ∧ KTR S Y V g a sa ya E M ∧ bkX g b a sa ya ∧ qC g Q b E ∧ RM g 1 6 := fun g F => by
    have z := rmF rm F (nb_n hb ha).1
    have z2 := X.kept (h' := g) z.2.2.1 (F.mono nb_gw)
    exact ⟨z2.1.lay.1, z2.1, z2.2.2.1, z2.2.2.2.1.1, z⟩
  have thr : ∀ {g r}, F2 (nbW b a) h g → TH (nbW b a) g r → TH (nbW b a) h r := fun F x => TH.after F (by rw [F 0 0 ((nb_n hb ha).1 0)]; exact Int.le_refl _) x
  unfold m_X14_beginNote
  rw [em]
  by_cases hm : 120 ≤ m
  · rw [if_pos hm]
    unfold m_X14_beginNote_j14
    exact z_bT (c_room rm (fun z => absurd rfl z) (fun _ r r1 r2 r3 r4 r5 r6 r7 => Or.inr ⟨by omega, z_some (Or.inr ⟨Or.inl hm, h, F2.refl, Int.le_refl _, rfl, r2, r3, r4, r5, r6, r7⟩)⟩))
  rw [if_neg hm]
  unfold m_X14_beginNote_j14
  refine z_bT (c_room rm (fun _ => Or.inl ⟨rfl, ?_⟩) (fun z => absurd z (by decide)))
  dsimp only
  obtain ⟨p1, p2, p3⟩ := g_X14_33 hL hb
  simp only [p1, p2, p3, em]
  refine z_gd ⟨by decide, m0, by omega⟩ (z_pt (z_pt ?_))
  rw [up_a (by omega), em, e32 (x := m + 1) (by omega) (by omega)]
  have F1 : F2 (nbW b a) h (up (up h (b + 34) m e) b 36 (m + 1)) := (F2.refl.put (Or.inr (Or.inr (Or.inr ⟨rfl, m0⟩)))).put (Or.inr (Or.inr (Or.inl ⟨rfl, Or.inl rfl⟩)))
  have v1 : up (up h (b + 34) m e) b 36 (m + 1) b 36 = m + 1 ∧ up (up h (b + 34) m e) b 36 (m + 1) (b + 34) m = e ∧ ∀ i, i ≠ m → up (up h (b + 34) m e) b 36 (m + 1) (b + 34) i = h (b + 34) i := ⟨up_s _ _ _ _, by rw [up_a (by omega), up_s], fun i hi => by rw [up_a (by omega), up_j hi]⟩
  have k1 : ∀ q j, ¬ (q = b + 34) → ¬ (q = b ∧ j = 36) → up (up h (b + 34) m e) b 36 (m + 1) q j = h q j := fun q j z1 z2 => by
    by_cases hq : q = b
    · rw [up_j (fun w => z2 ⟨hq, by omega⟩), up_a z1]
    · rw [up_a hq, up_a z1]
  generalize up (up h (b + 34) m e) b 36 (m + 1) = g1 at F1 v1 k1 ⊢
  have L1 := (st g1 F1).1
  obtain ⟨s1, s2, s3⟩ := q_small14 L1 hb
  show Pz (bW (m_X14_small b g1) _) _
  rw [s1]
  show Pz (gd _ _) _
  have F2_ : F2 (nbW b a) h (up g1 273 1 0) := F1.trans (s3.mono (fun q j z => Or.inl (b5_gt q j z)))
  have v2 : up g1 273 1 0 b 36 = m + 1 := by rw [up_a (by omega)]; exact v1.1
  have k2 : ∀ q, q ≠ 273 → q ≠ 274 → up g1 273 1 0 q = g1 q := fun q z1 z2 => up_row z1
  generalize up g1 273 1 0 = g2 at F2_ s2 s3 v2 k2 ⊢
  have L2 := (st g2 F2_).1
  dsimp only
  rw [v2]
  refine z_gd (g_X5 L2 m273) (puts_bT (c_num24 L2 s2 (by omega) (by omega) (by decide)) (fun g3 f3 D3 => ?_))
  rw [List.nil_append] at D3
  have F3 : F2 (nbW b a) h g3 := F2_.trans (f3.mono (fun q j z => Or.inl (b5_gt q j z)))
  obtain ⟨L3, K3, B3, q3, rm3⟩ := st g3 F3
  have k3 : ∀ q, q ≠ 273 → q ≠ 274 → g3 q = g1 q := fun q z1 z2 => by rw [f3.row (fun j z => by unfold b5W at z; omega), k2 q z1 z2]
  have e46' : g3 b 46 = 0 := by rw [k3 b (by omega) (by omega), k1 _ _ (by omega) (by omega)]; exact e46
  have e47' : g3 b 47 = 0 := by rw [k3 b (by omega) (by omega), k1 _ _ (by omega) (by omega)]; exact e47
  have et3 : tOf g3 b = 261 := by unfold tOf; rw [e46', e47', if_pos rfl, if_pos rfl]
  have j6 := g_X6_6 L3 hs
  have pr3 : g3 (sa + 8) e = S 7 e := ((K3.rng).2.2.2.2.2.2.2.2.2 e e0 e1).2.2
  rw [q_open14 L3 hb, Option.bind_some, et3, B3.2.2, g_X6 L3 hs, j6.1, j6.2.1, j6.2.2, pr3, q_prop14 K3 B3 (by omega) (by omega) (by decide) (by decide) (by decide), Option.bind_some]
  have X3 : txC g3 261 s.1 := Xt.kept (fun j j0 j1 => by rw [k3 _ (by omega) (by omega)]; exact funext fun i => k1 _ _ (by omega) (by omega))
  have o3 : g3 b 27 = s.2 := by rw [k3 b (by omega) (by omega), k1 _ _ (by omega) (by omega)]; exact eo
  have ln := decL_sh (n := (m + 1).toNat) (by omega)
  refine z_gd rfl (z_gd ⟨by decide, e0, by omega⟩ (z_bT (z_mono (c_putAll14 (n := 1) (z := ofV (V 24) (S 7 e) 1) (s := s) L3 (by decide) hb m273 (Or.inl rfl) (by rw [show (273 : Int) + 1 = 274 from rfl, g_274 L3]; omega) rm3 X3 D3 (decL_by _ _ (Nat.le_refl _)) (by omega) o3 (by omega)) (fun r hr => ?_))))
  rcases hr with ⟨a1, a2, a3, a4⟩ | ⟨a1, a2⟩
  · left
    rw [a1]
    refine ⟨rfl, ?_⟩
    have F4 : F2 (nbW b a) h r.2 := F3.trans (a2.mono (fun q j z => Or.inl (pb_gt q j z)))
    obtain ⟨L4, -⟩ := st r.2 F4
    have b04 : r.2 b 0 = 256 := (ly_X14 L4 hb).2.1.1
    rw [b04, g_X10 L4, (g_X10_3 L4).1, (g_X10_3 L4).2.1]
    obtain ⟨g5, c1, c2, c3⟩ := c_clear12 (h := r.2) (t := 269) (by decide)
    rw [c1, Option.bind_some]
    refine z_gd rfl (z_gd rfl (z_pt ?_))
    have F5 : F2 (nbW b a) h (up g5 b 46 1) := (F4.trans (c2.mono (fun q j z => Or.inr (Or.inl (Or.inl (Or.inl z)))))).put (Or.inr (Or.inr (Or.inl ⟨rfl, Or.inr rfl⟩)))
    have v5 : up g5 b 46 1 b 46 = 1 := up_s _ _ _ _
    have k5 : ∀ q j, ¬ (q = 269 ∧ 3 ≤ j ∧ j ≤ 6) → ¬ (q = b ∧ j = 46) → up g5 b 46 1 q j = r.2 q j := fun q j z1 z2 => by
      by_cases hq : q = b
      · rw [up_j (fun w => z2 ⟨hq, by omega⟩)]; exact c2 q j z1
      · rw [up_a hq]; exact c2 q j z1
    have X5 : txC (up g5 b 46 1) 269 ([], -1) := c3.kept (fun j j0 j1 => up_row (by omega))
    generalize up g5 b 46 1 = g6 at F5 v5 k5 X5 ⊢
    have k6 : ∀ q j, ¬ (q = 269 ∧ 3 ≤ j ∧ j ≤ 6) → ¬ (q = b ∧ (j = 46 ∨ j = 27)) → ¬ (txW 261 q j) → g6 q j = g3 q j := fun q j z1 z2 z3 => by
      rw [k5 q j z1 (fun w => z2 ⟨w.1, Or.inl w.2⟩)]
      exact a2 q j (fun w => by rcases w with w | w; exact z3 w; exact z2 ⟨w.1, Or.inr w.2⟩)
    obtain ⟨L6, K6, B6, q6, rm6⟩ := st g6 F5
    have D6 : bsL g6 273 (decL (m + 1).toNat) := D3.kept (k6 _ _ (by omega) (by omega) (fun z => by unfold txW at z; omega)) (funext fun j => k6 _ _ (by omega) (by omega) (fun z => by unfold txW at z; omega))
    have T6 : tkC g6 b TK := Tk.kept (by rw [k6 _ _ (by omega) (by omega) (fun z => by unfold txW at z; omega), k3 b (by omega) (by omega), k1 _ _ (by omega) (by omega)]) (fun i i0 i1 => funext fun j => by rw [k6 _ _ (by omega) (by omega) (fun z => by unfold txW at z; omega), k3 _ (by omega) (by omega), k1 _ _ (by omega) (by omega)])
    have x6 : txC g6 261 (tzL 1 (szF V (S 7 e)) s (decL (m + 1).toNat)).1 := a3.kept (fun j j0 j1 => funext fun i => k5 _ _ (by omega) (by omega))
    have o6 : g6 b 27 = (tzL 1 (szF V (S 7 e)) s (decL (m + 1).toNat)).2 := by rw [k5 _ _ (by omega) (by omega)]; exact a4
    have n6 : g6 b 36 = m + 1 ∧ g6 (b + 34) m = e ∧ ∀ i, i ≠ m → g6 (b + 34) i = h (b + 34) i := by
      refine ⟨?_, ?_, fun i hi => ?_⟩
      · rw [k6 _ _ (by omega) (by omega) (fun z => by unfold txW at z; omega), k3 _ (by omega) (by omega)]; exact v1.1
      · rw [k6 _ _ (by omega) (by omega) (fun z => by unfold txW at z; omega), k3 _ (by omega) (by omega)]; exact v1.2.1
      · rw [k6 _ _ (by omega) (by omega) (fun z => by unfold txW at z; omega), k3 _ (by omega) (by omega)]; exact v1.2.2 i hi
    have tl := tzL_len (n := 1) (z := szF V (S 7 e)) (decL (m + 1).toNat) s
    have cp : g6 (273 + 1) (-1) = 24064 := by rw [show (273 : Int) + 1 = 274 from rfl]; exact g_274 L6
    refine puts_bT (c_add5 (c := 32) L6 m273 D6 (by rw [cp]; omega) (by rw [cp]; decide) (by decide) (by decide)) (fun g7 f7 D7 => ?_)
    have F7 : F2 (nbW b a) h g7 := F5.trans (f7.mono (fun q j z => Or.inl (b5_gt q j z)))
    obtain ⟨L7, K7, B7, q7, rm7⟩ := st g7 F7
    have k7 : ∀ q, q ≠ 273 → q ≠ 274 → g7 q = g6 q := fun q z1 z2 => f7.row (fun j z => by unfold b5W at z; omega)
    obtain ⟨n, N, sn, Fn, R⟩ := K7.sa
    rw [B7.2.2, g_X6 L7 hs, c_fieldOf6 w10 L7 hs R e0 e1, Option.bind_some]
    refine z_gd rfl ?_
    -- the end
    have fin : ∀ g8 (LB : List Int) (TK' : List (Int × Int × Int)), F2 (skW b) g7 g8 → bsL g8 273 LB → tkC g8 b TK' → LB = decL (m + 1).toNat ++ [32] ++ ofB S V Q E e → TK' = TK ++ (if fdX S e [111, 102] < 0 then [] else ofK V e (byI S E (fdV S e (fdX S e [111, 102])))) → (∀ c ∈ LB, 0 ≤ c ∧ c ≤ 127) → LB.length ≤ 2000 → Pz (m_X14_beginNote_j156 273 e b g8) (NBQ S Y V Q h b a E e m s TK) := fun g8 LB TK' f8 D8 T8 eLB eTK by8 ll8 => by
      have F8 : F2 (nbW b a) h g8 := F7.trans (f8.mono (fun q j z => Or.inl (skW_gt q j z)))
      obtain ⟨L8, K8, B8, q8, rm8⟩ := st g8 F8
      have k8 : ∀ q j, q ≠ 273 → q ≠ 274 → ¬ (q = b ∧ j = 53) → ¬ (b + 51 ≤ q ∧ q ≤ b + 53) → g8 q j = g6 q j := fun q j z1 z2 z3 z4 => by rw [f8 _ _ (fun z => by unfold skW b5W tnW at z; omega), k7 q z1 z2]
      have X8 : txC g8 269 ([], -1) := X5.kept (fun j j0 j1 => funext fun i => k8 _ _ (by omega) (by omega) (by omega) (by omega))
      have o8 : g8 b 27 = (tzL 1 (szF V (S 7 e)) s (decL (m + 1).toNat)).2 := by rw [k8 _ _ (by omega) (by omega) (by omega) (by omega)]; exact o6
      refine z_mono (c_note156 K8 hb B8 rm8 F8 D8 X8 T8 (by rw [k8 _ _ (by omega) (by omega) (by omega) (by omega)]; exact v5) e0 e1 by8 ll8 (by rw [o8]; omega)) (fun r' hr' => ?_)
      rw [eLB] at hr'
      have sub : ∀ q j, glW b a 269 q j → nbW b a q j := fun q j z => Or.inr (Or.inl (gl_gt q j z))
      rcases hr' with ⟨d1, d2, d3, d4⟩ | ⟨d1, d2⟩
      · have kf : ∀ q j, ¬ (txW 269 q j) → ¬ (q = b ∧ j = 27) → 218 ≤ q → r'.2 q j = g8 q j := fun q j z1 z2 z3 => d2 q j (fun z => by unfold glW at z; rcases z with z | z | z | z | z; exact z1 z; exact z2 z; omega; omega; omega)
        refine Or.inl ⟨d1, by omega, F8.trans (d2.mono sub), ?_, by rw [d4]; exact o8, d3, ?_, ?_, ?_, ?_, fun i hi => ?_⟩
        · exact x6.kept (fun j j0 j1 => funext fun i => by rw [kf _ _ (fun z => by unfold txW at z; omega) (by omega) (by omega), k8 _ _ (by omega) (by omega) (by omega) (by omega)])
        · rw [← eTK]
          exact T8.kept (kf _ _ (fun z => by unfold txW at z; omega) (by omega) (by omega)) (fun i i0 i1 => funext fun j => kf _ _ (fun z => by unfold txW at z; omega) (by omega) (by omega))
        · rw [kf _ _ (fun z => by unfold txW at z; omega) (by omega) (by omega), k8 _ _ (by omega) (by omega) (by omega) (by omega)]; exact v5
        · rw [kf _ _ (fun z => by unfold txW at z; omega) (by omega) (by omega), k8 _ _ (by omega) (by omega) (by omega) (by omega)]; exact n6.1
        · rw [kf _ _ (fun z => by unfold txW at z; omega) (by omega) (by omega), k8 _ _ (by omega) (by omega) (by omega) (by omega)]; exact n6.2.1
        · rw [kf _ _ (fun z => by unfold txW at z; omega) (by omega) (by omega), k8 _ _ (by omega) (by omega) (by omega) (by omega)]; exact n6.2.2 i hi
      · exact Or.inr ⟨Or.inr (Or.inr d1), thr F8 (d2.mono sub)⟩
    have eof := ofB_t (S := S) (V := V) (Q := Q) (E := E) (e := e)
    have by1 : ∀ c ∈ decL (m + 1).toNat ++ [32], 0 ≤ c ∧ c ≤ 127 := fun c hc => by
      rcases List.mem_append.mp hc with hc | hc
      · exact decL_by _ _ (Nat.le_refl _) c hc
      · rw [List.mem_singleton.mp hc]; decide
    have T7 : tkC g7 b TK := T6.kept (by rw [k7 b (by omega) (by omega)]) (fun i i0 i1 => k7 _ (by omega) (by omega))
    by_cases hf : fdX S e [111, 102] < 0
    · rw [if_pos hf]
      refine z_it (by decide) ?_
      exact fin g7 _ TK F2.refl D7 T7 (by rw [eof, if_pos hf, List.append_nil]) (by rw [if_pos hf, List.append_nil]) by1 (by rw [List.length_append, List.length_singleton]; omega)
    · rw [if_neg hf]
      obtain ⟨r1, r2, r3, r4, r5, r6⟩ := R.2.2.2.2.1 e e0 e1
      have Fn1 := R.2.2.1.2.2.2.2.1
      have n1 := R.1.2.1
      have xr : 0 ≤ fdX S e [111, 102] ∧ fdX S e [111, 102] < S 10 e := by
        rcases fdX_r (S := S) (e := e) (w := [111, 102]) r3 with z | z
        · omega
        · exact z
      have k16 := g_X6_16 L7 hs
      have k17 := g_X6_17 L7 hs
      have kc := g_X6_0 L7 hs
      refine z_ie (by omega) ?_
      simp only [k16.1, k16.2.1, k16.2.2, k17.1, k17.2.1, k17.2.2, kc.1]
      refine z_gd ⟨by decide, by omega, by omega⟩ (z_gd ⟨by decide, by omega, by omega⟩ ?_)
      rw [c_toWhom K7 w10 e0 e1 xr.1, Option.bind_some]
      have bt : byI S E (fdV S e (fdX S e [111, 102])) < E := by
        rcases byS_r (S := S) (E := E) (w := fdV S e (fdX S e [111, 102])) E.toNat 0 (Int.le_refl _) with z | z
        · show byS S E (fdV S e (fdX S e [111, 102])) E.toNat 0 < E
          omega
        · exact z.2
      have ob := ofT_by (V := V) (Q := Q) (t := byI S E (fdV S e (fdX S e [111, 102]))) qo bt
      refine z_bT (z_mono (c_lines (e := e) K7 hb B7 D7 T7 q7 qo hl bt (by rw [List.length_append, List.length_singleton]; omega)) (fun r8 hr8 => ?_))
      obtain ⟨d1, d2, d3, d4⟩ := hr8
      left
      rw [d1]
      refine ⟨rfl, ?_⟩
      have F8 : F2 (nbW b a) h r8.2 := F7.trans (d2.mono (fun q j z => Or.inl (skW_gt q j z)))
      obtain ⟨L8, -⟩ := st r8.2 F8
      have cp8 : r8.2 (273 + 1) (-1) = 24064 := by rw [show (273 : Int) + 1 = 274 from rfl]; exact g_274 L8
      refine puts_bT (c_add5 (c := 32) L8 m273 d3 (by rw [cp8, List.length_append, List.length_append, List.length_singleton]; omega) (by rw [cp8]; decide) (by decide) (by decide)) (fun g9 f9 D9 => ?_)
      refine fin g9 _ _ (d2.trans (f9.mono (fun q j z => Or.inl z))) D9 (d4.kept (f9 _ _ (fun z => by unfold b5W at z; omega)) (fun i i0 i1 => f9.row (fun j z => by unfold b5W at z; omega))) (by rw [eof, if_neg hf]; simp) (by rw [if_neg hf]) (fun c hc => ?_) (by rw [List.length_append, List.length_append, List.length_append, List.length_singleton]; omega)
      rcases List.mem_append.mp hc with hc | hc
      · rcases List.mem_append.mp hc with hc | hc
        · exact by1 c hc
        · exact ob.1 c hc
      · rw [List.mem_singleton.mp hc]; decide
  · exact Or.inr ⟨by rw [a2.one]; decide, z_some (Or.inr ⟨Or.inr (Or.inl a1), (thr F3 (a2.mono (fun q j z => Or.inl (pb_gt q j z)))).r1⟩)⟩
