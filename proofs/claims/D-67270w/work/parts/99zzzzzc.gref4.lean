-- needs: 99zzzzzb
set_option maxRecDepth 100000
/-! GATHERING: references, by the component -/
theorem KTR.sa {S Y V p : Hp} {a sa ya E M : Int} (K : KTR S Y V p a sa ya E M) : ∃ n N s F, SA S p sa n N s E F M := by
  obtain ⟨n, N, s, F, n', N', s', C, ns, na, nsel, nb, nt, m, T⟩ := K
  exact ⟨n, N, s, F, T.2.1⟩
/-- where a field points -/
theorem c_toWhom {S Y V p : Hp} {a sa ya E M e w : Int} {b : List Int} (K : KTR S Y V p a sa ya E M) (hs : strB w = some b) (e0 : 0 ≤ e) (e1 : e < E) (x0 : 0 ≤ fdX S e b) : m_X6_byId sa (sa + 1) (p (sa + 18) (p (sa + 16) e + fdX S e b)) (p (sa + 19) (p (sa + 16) e + fdX S e b)) p = some (byI S E (fdV S e (fdX S e b))) := by
  obtain ⟨n, N, s, F, R⟩ := K.sa
  obtain ⟨hL, ha, hsa, hy⟩ := K.lay
  have n1 := R.1.2.1
  obtain ⟨r1, r2, r3, r4, r5, r6⟩ := R.2.2.2.2.1 e e0 e1
  have xr := fdX_r (S := S) (e := e) (w := b) r3
  obtain ⟨-, c2, c3, c4, c5, c6⟩ := r6 (fdX S e b) x0 (by omega)
  have kc := g_X6_0 hL hsa
  rw [c_byId hL hsa R (by rw [kc.2.1]; decide) (by omega) (by omega) (by rw [kc.2.2]; omega) (by omega), c2, c3]
  congr 2
  unfold fdV
  rw [show S 15 (6 * e + fdX S e b) + (S 16 (6 * e + fdX S e b) - S 15 (6 * e + fdX S e b)) = S 16 (6 * e + fdX S e b) by omega]
  exact wr_congr (fun x h1 h2 => R.1.2.2.2.2.1 x (by omega) (by omega))
theorem str_words : strB (-3) = some [63, 63] ∧ strB (-4) = some [116, 111] ∧ strB (-5) = some [97, 115] ∧ strB (-6) = some [112, 97, 103, 101] ∧ strB (-7) = some [108, 105, 110, 101] ∧ strB (-8) = some [110, 117, 109, 98, 101, 114] ∧ strB (-9) = some [116, 105, 116, 108, 101] ∧ strB (-10) = some [115, 105, 100, 101] ∧ strB (-11) = some [97, 98, 111, 118, 101] ∧ strB (-12) = some [98, 101, 108, 111, 119] ∧ strB (-2) = some [111, 102] := by decide
theorem gtC.new {h g : Hp} {b a t : Int} {s : TXT × Int} {TK : List (Int × Int × Int)} (ht : t ∈ in_aX12) (hb : b ∈ in_aX14) (ha : a ∈ in_aX7) (X : txC h t s.1) (eo : h b 27 = s.2) (T : tkC h b TK) (f : F2 (b5W 273) h g) (D : bsL g 273 []) : gtC h g b a t s [] TK := by
  have ht' := rX12 ht
  have hb' := rX14 hb
  have ha' := rX7 ha
  have e := aX12 ht
  exact ⟨f.mono b5_gt, X.kept (fun k k0 k1 => f.row (fun j z => by unfold b5W at z; omega)), by rw [f _ _ (fun z => by unfold b5W at z; omega)]; exact eo, D, T.kept (f _ _ (fun z => by unfold b5W at z; omega)) (fun k k0 k1 => f.row (fun j z => by unfold b5W at z; omega))⟩
theorem c_ref14 {S Y V Q h : Hp} {b a sa ya E M e : Int} {s : TXT × Int} {TK : List (Int × Int × Int)} (K : KTR S Y V h a sa ya E M) (hb : b ∈ in_aX14) (B : bkX h b a sa ya) (rm : RM h 1 6) (X : txC h (tOf h b) s.1) (eo : h b 27 = s.2) (T : tkC h b TK) (qc : qC h Q b E) (qo : qOK Q E) (hl : (TK.length : Int) < 2320) (e0 : 0 ≤ e) (e1 : e < E) (z0 : 0 ≤ ofV (V 24) e 1) (o0 : 0 ≤ s.2 ∧ s.2 ≤ 900000000) :
    Pz (m_X14_reference b e h) (RFX b a (tOf h b) (nOf h b) (ofV (V 24) e 1) h s (refB S Y V Q E e) (TK ++ refK S V E e)) := by
  obtain ⟨hL, ha, hs, hy⟩ := K.lay
  have ht := tOf_m h b
  have ht' := rX12 ht
  have hb' := rX14 hb
  have ha' := rX7 ha
  have hs' := rX6 hs
  obtain ⟨q1, q2, q3⟩ := q_small14 hL hb
  have fin : ∀ {g : Hp} {L : List Int} {TK' : List (Int × Int × Int)}, gtC h g b a (tOf h b) s L TK' → (∀ c ∈ L, 0 ≤ c ∧ c ≤ 127) → L.length ≤ 20000 → Pz (m_X14_reference_j272 b e 273 g) (RFX b a (tOf h b) (nOf h b) (ofV (V 24) e 1) h s L TK') := fun G b_ l_ => c_ref272 K hb B rm e0 e1 z0 o0 G b_ l_
  have rb := refB_by (e := e) K qo
  obtain ⟨w0, w1, w2, w3, w4, w5, w6, w7, w8, w9, -⟩ := str_words
  unfold m_X14_reference
  show Pz (bW (m_X14_small b h) _) _
  rw [q1]
  show Pz (gd _ _) _
  have G1 : gtC h (up h 273 1 0) b a (tOf h b) s [] TK := gtC.new ht hb ha X eo T q3 q2
  generalize up h 273 1 0 = g at G1 ⊢
  have F := G1.1
  have Kg := gt_kx K hb ht F
  have Lg := Kg.lay.1
  obtain ⟨Bg1, Bg2, Bg3⟩ := gt_bk ht hb ha F B
  have Bg : bkX g b a sa ya := ⟨Bg1, Bg2, Bg3⟩
  obtain ⟨n, N, sn, Fn, R⟩ := Kg.sa
  have n1 := R.1.2.1
  obtain ⟨r1, r2, r3, r4, r5, r6⟩ := R.2.2.2.2.1 e e0 e1
  have r5' := R.2.2.1.2.2.2.2.1
  have kc := g_X6_0 Lg hs
  have k16 := g_X6_16 Lg hs
  have k17 := g_X6_17 Lg hs
  have k40 := g_X14_40 Lg hb
  have k41 := g_X14_41 Lg hb
  have E5 := Kg.rng.2.1
  have qg : qC g Q b E := qc.kept (fun k k0 k1 => F.row (fun j z => by unfold gtW txW at z; omega))
  have fo : ∀ w (wb : List Int), strB w = some wb → m_X6_fieldOf sa e w g = some (if fdX S e wb < 0 then -1 else g (sa + 16) e + fdX S e wb) := fun w wb hw => c_fieldOf6 hw Lg hs R e0 e1
  have str : ∀ (w : Int) (L : List Int), strB w = some L → (∀ c ∈ L, 0 ≤ c ∧ c ≤ 127) → refB S Y V Q E e = L → refK S V E e = [] → Pz (gd (g 273 (-2) = 80) (bT (m_X5_string 273 w g) (fun _ h269 => m_X14_reference_j272 b e 273 h269) (fun a_ h_ => some ((1, a_), h_)))) (RFX b a (tOf h b) (nOf h b) (ofV (V 24) e 1) h s (refB S Y V Q E e) (TK ++ refK S V E e)) := fun w L hw b_ eL eK => by
    rw [eL, eK, List.append_nil]
    have lw := strB_l hw
    refine z_gd (g_X5 Lg m273) (puts_bT (c_str5 (cap := 24064) hw Lg m273 G1.2.2.2.1 (by rw [show (273 : Int) + 1 = 274 from rfl]; exact g_274 Lg) (by simp only [List.length_nil]; omega) (by decide) b_) (fun p' f h => ?_))
    exact fin (G1.put ht hb ha (f.mono b5_tl) h) b_ (by omega)
  -- behind the target
  have go : ∀ t0, t0 < E → (if t0 < 0 then -1 else if V 31 t0 = 0 then -1 else t0) = tgt S V E e [116, 111] → Pz (m_X14_reference_j57 273 e b t0 g) (RFX b a (tOf h b) (nOf h b) (ofV (V 24) e 1) h s (refB S Y V Q E e) (TK ++ refK S V E e)) := by
    intro t0 t1 et
    unfold m_X14_reference_j57
    rw [Bg3, fo (-5) _ w2, Option.bind_some, q_target14 Kg Bg t1, Option.bind_some]
    by_cases hT : 0 ≤ t0 ∧ V 31 t0 ≠ 0
    · rw [decide_eq_true hT]
      have et' : tgt S V E e [116, 111] = t0 := by rw [← et, if_neg (by omega), if_neg hT.2]
      refine z_ie (by decide) ?_
      rcases fdX_r (S := S) (e := e) (w := [97, 115]) r3 with hx | ⟨hx0, hx1⟩
      · rw [if_pos (show fdX S e [97, 115] < 0 by omega)]
        have k0 : rfK S V E e = 0 := by unfold rfK; rw [if_neg (by omega), if_pos (by omega)]
        refine z_ie (by decide) ?_
        unfold m_X14_reference_j86
        exact str (-3) _ w0 (by decide) (by unfold refB; rw [k0]; rfl) (by unfold refK; rw [k0]; rfl)
      · rw [if_neg (show ¬ fdX S e [97, 115] < 0 by omega)]
        have fe : ∀ w (wb : List Int), strB w = some wb → m_X6_isField_2 sa (g (sa + 16) e + fdX S e [97, 115]) w g = some (eqW (fdV S e (fdX S e [97, 115])) wb) := fun w wb hw => q_isField2 hw Lg hs R e0 e1 hx0 hx1
        have k0 : rfK S V E e = if fdV S e (fdX S e [97, 115]) = [112, 97, 103, 101] then 1 else if fdV S e (fdX S e [97, 115]) = [108, 105, 110, 101] then 2 else if fdV S e (fdX S e [97, 115]) = [110, 117, 109, 98, 101, 114] then 3 else if fdV S e (fdX S e [97, 115]) = [116, 105, 116, 108, 101] then 4 else if fdV S e (fdX S e [97, 115]) = [115, 105, 100, 101] then 5 else 0 := by unfold rfK; rw [if_neg (by omega), if_neg (by omega)]
        generalize fdV S e (fdX S e [97, 115]) = fv at fe k0
        refine z_it (by omega) ?_
        have num : ∀ (v k : Int), 0 ≤ v → v ≤ 10000 → refB S Y V Q E e = decL v.toNat → refK S V E e = [(e, t0, k)] → Pz (gd (g 273 (-2) = 80) (bT (m_X5_number 24 273 v g) (fun _ h158 => (m_X14_takes b e t0 k h158).bind fun h166 => m_X14_reference_j272 b e 273 h166) (fun a_ h_ => some ((1, a_), h_)))) (RFX b a (tOf h b) (nOf h b) (ofV (V 24) e 1) h s (refB S Y V Q E e) (TK ++ refK S V E e)) := fun v k v0 v1 eL eK => by
          rw [eL] at rb ⊢
          rw [eK]
          refine z_gd (g_X5 Lg m273) (puts_bT (c_num24 Lg G1.2.2.2.1 v0 v1 (by simp)) (fun p' f h => ?_))
          have G2 := G1.put ht hb ha (f.mono b5_tl) h
          refine z_bind (z_mono (c_takes (gtW_l hL ht hb ha G2.1) hb G2.2.2.2.2 hl) (fun p2 hp2 => ?_))
          exact fin (G2.take ht hb hp2.1 hp2.2) rb.1 (by have := rb.2; omega)
        have qt := qg t0 hT.1 t1
        have qr := qo t0 hT.1 t1
        refine z_eqW (fe (-6) _ w3) (fun hw => z_ie (by decide) ?_) (fun hw => z_it rfl ?_)
        · rw [if_pos hw] at k0
          simp only [k40.1, k40.2.1, k40.2.2, qt.1]
          exact z_gd ⟨by decide, hT.1, by omega⟩ (num (Q 0 t0) 0 qr.1 qr.2.1 (by unfold refB; rw [k0, et']; rfl) (by unfold refK; rw [k0, et']; rfl))
        rw [if_neg hw] at k0
        refine z_eqW (fe (-7) _ w4) (fun hw => z_ie (by decide) ?_) (fun hw => z_it rfl ?_)
        · rw [if_pos hw] at k0
          simp only [k41.1, k41.2.1, k41.2.2, qt.2.1]
          exact z_gd ⟨by decide, hT.1, by omega⟩ (num (Q 1 t0) 1 qr.2.2.1 qr.2.2.2.1 (by unfold refB; rw [k0, et']; rfl) (by unfold refK; rw [k0, et']; rfl))
        rw [if_neg hw] at k0
        refine z_eqW (fe (-8) _ w5) (fun hw => z_ie (by decide) ?_) (fun hw => z_it rfl ?_)
        · rw [if_pos hw] at k0
          have eL : refB S Y V Q E e = fmL (V 24 (22 * t0 + 18)) (V 27 t0).toNat := by unfold refB; rw [k0, et']; rfl
          have eK : refK S V E e = [] := by unfold refK; rw [k0]; rfl
          rw [eL] at rb ⊢
          rw [eK, List.append_nil]
          have vr := Kg.val hT.1 t1
          have v27 : g (a + 7) t0 = V 27 t0 := by
            obtain ⟨_, _, _, _, _, _, _, _, _, _, _, _, _, _, T'⟩ := id Kg
            exact (T'.2.2.2.1.2.1 t0 hT.1 t1).2.2.2.2.2.1
          have k9 := g_X7_9 Lg ha
          rw [Bg1]
          refine z_gd (g_X7 Lg ha) ?_
          unfold m_X7_value
          rw [Kg.prop (by omega) t1 (by decide) (by decide) (by decide), Option.bind_some]
          have eo : ofV (V 24) t0 18 = V 24 (22 * t0 + 18) := by unfold ofV; rw [if_pos hT.1]
          rw [eo]
          simp only [k9.1, k9.2.1, k9.2.2, v27]
          rw [gd_t ⟨by decide, hT.1, by omega⟩]
          have wr7 := c_write7 (v := (V 27 t0).toNat) (how := V 24 (22 * t0 + 18)) (cap := 24064) Lg m273 G1.2.2.2.1 (by rw [show (273 : Int) + 1 = 274 from rfl]; exact g_274 Lg) (by simp only [List.length_nil]; omega) (by decide) (by omega)
          rw [show (((V 27 t0).toNat : Nat) : Int) = V 27 t0 by omega] at wr7
          refine z_bT (puts_bT wr7 (fun p' f h => z_some (Or.inl ⟨rfl, ?_⟩)))
          exact fin (G1.put ht hb ha (f.mono b5_tl) h) rb.1 (by have := rb.2; omega)
        rw [if_neg hw] at k0
        refine z_eqW (fe (-9) _ w6) (fun hw => z_ie (by decide) ?_) (fun hw => z_it rfl ?_)
        · rw [if_pos hw] at k0
          have eL : refB S Y V Q E e = tiT S Y V t0 := by unfold refB; rw [k0, et']; rfl
          have eK : refK S V E e = [] := by unfold refK; rw [k0]; rfl
          rw [eL] at rb ⊢
          rw [eK, List.append_nil, Bg1]
          refine z_gd (g_X7 Lg ha) ?_
          obtain ⟨_, _, _, _, _, _, _, _, _, _, _, _, _, _, T'⟩ := id Kg
          refine z_bT (z_mono (c_title (cap := 24064) T' hT.1 t1 m273 (by decide) G1.2.2.2.1 (by rw [show (273 : Int) + 1 = 274 from rfl]; exact g_274 Lg) (by simp) (by decide)) (fun r hr => Or.inl ⟨by rw [hr.1], ?_⟩))
          exact fin (G1.put ht hb ha hr.2.1 hr.2.2) rb.1 (by have := rb.2; omega)
        rw [if_neg hw] at k0
        refine z_eqW (fe (-10) _ w7) (fun hw => z_ie (by decide) ?_) (fun hw => z_it rfl ?_)
        · rw [if_pos hw] at k0
          unfold m_X14_reference_j259
          have eK : refK S V E e = [] := by unfold refK; rw [k0]; rfl
          refine z_if (fun h1 => ?_) (fun h1 => ?_)
          · exact str (-12) _ w9 (by decide) (by unfold refB; rw [k0, et', if_neg (by decide), if_neg (by decide), if_neg (by decide), if_neg (by decide), if_pos rfl, if_neg (by omega)]) eK
          · exact str (-11) _ w8 (by decide) (by unfold refB; rw [k0, et', if_neg (by decide), if_neg (by decide), if_neg (by decide), if_neg (by decide), if_pos rfl, if_pos (by omega)]) eK
        rw [if_neg hw] at k0
        exact str (-3) _ w0 (by decide) (by unfold refB; rw [k0]; rfl) (by unfold refK; rw [k0]; rfl)
    · rw [decide_eq_false hT]
      have et' : tgt S V E e [116, 111] < 0 := by
        rw [← et]
        split
        · decide
        · split
          · decide
          · rename_i h1 h2
            exact absurd ⟨by omega, h2⟩ hT
      have k0 : rfK S V E e = 0 := by unfold rfK; rw [if_pos et']
      refine z_it rfl ?_
      unfold m_X14_reference_j86
      exact str (-3) _ w0 (by decide) (by unfold refB; rw [k0]; rfl) (by unfold refK; rw [k0]; rfl)
  dsimp only
  simp only [Bg3, k16.1, k16.2.1, k16.2.2, k17.1, k17.2.1, k17.2.2, kc.1]
  refine z_gd (g_X6 Lg hs) ?_
  rw [fo (-4) _ w1, Option.bind_some]
  rcases fdX_r (S := S) (e := e) (w := [116, 111]) r3 with hx | ⟨hx0, hx1⟩
  · rw [if_pos (show fdX S e [116, 111] < 0 by omega)]
    refine z_ie (by decide) (go (-1) (by omega) ?_)
    unfold tgt
    rw [if_pos (by decide), if_pos (by omega)]
  · rw [if_neg (show ¬ fdX S e [116, 111] < 0 by omega)]
    refine z_it (by omega) (z_gd ⟨by decide, by omega, by omega⟩ (z_gd ⟨by decide, by omega, by omega⟩ ?_))
    rw [c_toWhom Kg w1 e0 e1 hx0, Option.bind_some]
    have br := byI_r (S := S) (E := E) (w := fdV S e (fdX S e [116, 111]))
    refine go _ (by omega) ?_
    unfold tgt
    rw [if_neg (show ¬ fdX S e [116, 111] < 0 by omega)]
