-- needs: 99zzzzw
set_option maxRecDepth 100000
/-! GATHERING: labels, by the component -/
theorem rX12 {t : Int} (h : t ∈ in_aX12) : 261 ≤ t ∧ t ≤ 269 := by have := aX12 h; omega
theorem rX14 {t : Int} (h : t ∈ in_aX14) : 292 ≤ t ∧ t ≤ 422 := by have := aX14' h; omega
theorem rX7 {t : Int} (h : t ∈ in_aX7) : 184 ≤ t ∧ t ≤ 201 := by have := aX7 h; omega
theorem rX6 {t : Int} (h : t ∈ in_aX6) : 90 ≤ t ∧ t ≤ 152 := by have := aX6 h; omega
theorem rX3 {t : Int} (h : t ∈ in_aX3) : 5 ≤ t ∧ t ≤ 61 := by have := aX3' h; omega
/-- labels are plain -/
theorem lb_plain {S Y V p' : Hp} {a' n' N' E M C ns na nsel nb nt m e : Int} {s' : Int → List Int} (R' : YA Y p' a' n' N' s' C ns na nsel nb nt m) (V4 : TSp S Y V E M nsel) (e0 : 0 ≤ e) (e1 : e < E) : ∀ x, V 25 e ≤ x → x < V 26 e → 0 ≤ Y 1 x ∧ Y 1 x ≤ 127 := by
  obtain ⟨z25, z26, -⟩ := V4.2.2.2 e e0 e1
  have hn := R'.2.1.2.2.1
  have yb := R'.1.2.2.2.2.2.2
  intro x x0 x1
  rcases slF_r (S := S) (E := E) (M := M) (e := e) (p := 17) R' nsel.toNat (by omega) with r | ⟨r1, r2, r3, r4⟩
  · rw [r] at z25 z26
    rw [if_neg (by decide)] at z25 z26
    omega
  · obtain ⟨g1, -, -, -, g5, -⟩ := R'.2.2.2.2.2.2.2.2.2.2.1 _ r1 r2
    rw [r4] at g1
    rw [if_pos r1] at z25 z26
    rcases g5 g1 with ⟨-, -, g6, g7⟩ | ⟨-, ⟨u1, u2, u3, u4, u5, u6, -⟩, pl⟩
    · omega
    · exact ⟨pl x (by omega) (by omega), (yb x (by omega) (by omega)).2⟩
theorem lbS_by {S Y V p' : Hp} {a' n' N' E M C ns na nsel nb nt m e : Int} {s' : Int → List Int} (R' : YA Y p' a' n' N' s' C ns na nsel nb nt m) (V4 : TSp S Y V E M nsel) (e0 : 0 ≤ e) (e1 : e < E) : ∀ c ∈ lbS Y V e, 0 ≤ c ∧ c ≤ 127 := by
  intro c hc
  unfold lbS at hc
  split at hc
  · exact absurd hc (List.not_mem_nil)
  · obtain ⟨x, hx, hx2⟩ := List.mem_flatMap.mp hc
    unfold lbB at hx2
    split at hx2
    · exact fmL_by c hx2
    · rw [List.mem_singleton] at hx2
      subst hx2
      unfold wr at hx
      obtain ⟨y, hy, rfl⟩ := List.mem_map.mp hx
      have := List.mem_range.mp hy
      exact lb_plain R' V4 e0 e1 _ (by omega) (by omega)
theorem wr_sp {T : Int → Int} {p e : Int} {x : Nat} (h : p + x ≤ e) : wr T p e = wr T p (p + x) ++ wr T (p + x) e := by
  unfold wr
  rw [show (e - p).toNat = (p + (x : Int) - p).toNat + (e - (p + (x : Int))).toNat by omega, List.range_add, List.map_append, List.map_map]
  congr 1
  refine List.map_congr_left (fun z _ => ?_)
  dsimp only [Function.comp]
  congr 1
  omega
theorem lbB_len {Y V : Hp} {e : Int} (vr : 0 ≤ V 27 e ∧ V 27 e ≤ 1000000) : ∀ L : List Int, (L.flatMap (lbB V e)).length ≤ 18 * L.length
  | [] => by simp
  | c :: L => by
    rw [List.flatMap_cons, List.length_append, List.length_cons]
    have h := lbB_len (Y := Y) vr L
    have h1 : (lbB V e c).length ≤ 18 := by
      unfold lbB
      split
      · exact fmL_len (by omega)
      · simp
    omega
theorem c_label14 {S Y V h : Hp} {b a sa ya E M e : Int} {s : TXT × Int} (K : KTR S Y V h a sa ya E M) (hb : b ∈ in_aX14) (B : bkX h b a sa ya) (rm : RM h 1 6) (X : txC h (tOf h b) s.1) (e0 : 0 ≤ e) (e1 : e < E) (z0 : 0 ≤ ofV (V 24) e 1) (eo : h b 27 = s.2) (o0 : 0 ≤ s.2 ∧ s.2 ≤ 900000000) :
    Pz (m_X14_label b e h) (PTX (glW b a (tOf h b)) b (tOf h b) (nOf h b) (ofV (V 24) e 1) h s (lbS Y V e)) := by
  have hb' := rX14 hb
  obtain ⟨n, N, s1, F, n', N', s', C, ns, na, nsel, nb, nt, m, T⟩ := id K
  obtain ⟨hL, ha, hs, hy⟩ := T.1
  have h7 := rX7 ha
  have h3 := rX3 hy
  have ht := tOf_m h b
  have ht' := rX12 ht
  have E5 := K.rng.2.1
  obtain ⟨r, er, r1, f0, hr⟩ := c_labelOf T e0 e1
  have v27 := (T.2.2.2.2.2.2.2 e e0 e1).2.2.2.2
  have vr := vl_rng v27 e1 E5 e0
  unfold m_X14_label
  rw [B.1, gd_t (g_X7 hL ha), bT_0 er r1]
  obtain ⟨⟨r11, v2⟩, g⟩ := r
  dsimp only at r1 f0 hr ⊢
  have F1 : F2 (glW b a (tOf h b)) h g := f0.mono (fun x j z => by unfold glW; rcases z with z | z; exact Or.inr (Or.inr (Or.inr (Or.inl z))); exact Or.inr (Or.inr (Or.inr (Or.inr z))))
  have K1 := gt_kx K hb ht (F1.mono gl_gt)
  have g46 : g b 46 = h b 46 := F1 _ _ (fun z => by unfold glW txW at z; omega)
  have g47 : g b 47 = h b 47 := F1 _ _ (fun z => by unfold glW txW at z; omega)
  have gt : tOf g b = tOf h b := by unfold tOf; rw [g46, g47]
  have B1 : bkX g b a sa ya := by
    unfold bkX
    rw [F1 _ _ (fun z => by unfold glW txW at z; omega), F1 _ _ (fun z => by unfold glW txW at z; omega), F1 _ _ (fun z => by unfold glW txW at z; omega)]; exact B
  have X1 : txC g (tOf h b) s.1 := X.kept (fun k k0 k1 => f0.row (fun j z => by omega))
  have o1 : g b 27 = s.2 := by rw [f0 _ _ (fun z => by omega)]; exact eo
  rw [q_open14 K1.lay.1 hb, Option.bind_some, q_prop14 K1 B1 (by omega) e1 (by decide) (by decide) (by decide), Option.bind_some, gt]
  have en : nOf h b = if h b 46 = 0 then 1 else 0 := rfl
  generalize tOf h b = t at *
  generalize ofV (V 24) e 1 = z at *
  generalize nOf h b = c at *
  rcases hr with ⟨v0, lz, -⟩ | ⟨mt, v0, p17, bD⟩
  · subst v0
    rw [lz]
    refine z_lt (z_bind ?_)
    refine lz_turn ?_
    show Pz (m_X14_label_l25 b e 0 t z 0 g) _
    unfold m_X14_label_l25
    exact z_it (by decide) (z_some (z_some (Or.inl ⟨rfl, F1, X1, o1⟩)))
  · subst v0
    have el : lbS Y V e = (wr (Y 1) (V 25 e) (V 26 e)).flatMap (lbB V e) := by unfold lbS; rw [mt]; rfl
    rw [el]
    have zl := (T.2.2.2.1.2.1 e e0 e1).1.2
    obtain ⟨-, st⟩ : V 24 (22 * e + 17) = 1 ∧ stO (h (ya + 12)) (Y 1) n' m (h (a + 2) (22 * e + 17)) (h (a + 3) e) (V 25 e) (V 26 e) := by
      rcases zl with z | z
      · omega
      · exact z
    obtain ⟨u1, u2, u3, u4, u5, u6, u7⟩ := st
    have lab := lb_plain T.2.2.1 T.2.2.2.2 e0 e1
    have yb := T.2.2.1.1.2.2.2.2.2.2
    have m1 := T.2.2.1.1.2.2.2.1
    have n4 := T.2.2.1.1.2.2.2.2.1
    refine z_lt (z_bind (z_mono (z_lp (Q := PTX (glW b a t) b t c z h s ((wr (Y 1) (V 25 e) (V 26 e)).flatMap (lbB V e))) (fun (w : Int × Hp) => ∃ x : Nat, w.1 = x ∧ (x : Int) ≤ V 26 e - V 25 e ∧ F2 (glW b a t) h w.2 ∧ bsL w.2 (a + 15) (fmL (V 24 (22 * e + 18)) (V 27 e).toNat) ∧ txC w.2 t (tzL c z s ((wr (Y 1) (V 25 e) (V 25 e + x)).flatMap (lbB V e))).1 ∧ w.2 b 27 = (tzL c z s ((wr (Y 1) (V 25 e) (V 25 e + x)).flatMap (lbB V e))).2) (fun w => (V 26 e - V 25 e - w.1).toNat) ⟨0, rfl, by omega, F1, bD, by rw [wr_nil (by omega)]; exact X1, by rw [wr_nil (by omega)]; exact o1⟩ ?_) (fun r hr => z_some hr)))
    rintro ⟨y, q⟩ ⟨x, ey, x1, Fq, Dq, Xq, oq⟩
    dsimp only at ey Dq Xq oq
    subst ey
    replace Fq : F2 (glW b a t) h q := Fq
    have Kq := gt_kx K hb ht (Fq.mono gl_gt)
    have Lq := Kq.lay.1
    have q2 : q b 2 = a := by rw [Fq _ _ (fun z => by unfold glW txW at z; omega)]; exact B.1
    have q46 : q b 46 = h b 46 := Fq _ _ (fun z => by unfold glW txW at z; omega)
    show Pz (m_X14_label_l25 b e (V 26 e - V 25 e) t z x q) _
    unfold m_X14_label_l25
    by_cases hx : V 26 e - V 25 e ≤ x
    · have ex : V 25 e + x = V 26 e := by omega
      rw [ex] at Xq oq
      exact z_it hx (z_some (Or.inl ⟨rfl, Fq, Xq, oq⟩))
    · have n3 := ly_X3n Lq hy
      have j2 := (g_X3_2 Lq hy).1
      obtain ⟨-, -, -, -, -, -, tq1, -⟩ := Kq.rng
      have q17 : m_X7_property a e 17 q = some (q (a + 2) (22 * e + 17)) := by
        obtain ⟨_, _, _, _, _, _, _, _, _, _, _, _, _, _, Tq⟩ := id Kq
        exact q_propK Tq e0 e1 (by decide) (by decide)
      have pq17 : q (a + 2) (22 * e + 17) = h (a + 2) (22 * e + 17) := Fq _ _ (fun z => by unfold glW txW at z; omega)
      have py12 : q (ya + 12) = h (ya + 12) := Fq.row (fun j z => by unfold glW txW at z; omega)
      have lbyte : m_X7_labelByte a e x q = some (Y 1 (V 25 e + x)) := by
        unfold m_X7_labelByte
        simp only [tq1, j2, n3.2.2.2.2.2.1, n3.2.2.2.2.2.2.1, n3.2.2.2.2.2.2.2, n3.2.2.2.2.1, (ly_X3 Lq hy).1, q17, Option.bind_some, pq17, py12]
        rw [e32 (by omega) (by omega), gd_t trivial, gd_t trivial, gd_t ⟨by decide, by omega, by omega⟩, u7 x (by omega) (by omega)]
      have rg := lab (V 25 e + x) (by omega) (by omega)
      have k18 := (g_X7_18 Lq ha).1
      simp only [q2, g_X7 Lq ha, k18]
      refine z_ie hx (z_gd trivial ?_)
      rw [lbyte, Option.bind_some]
      have stp : wr (Y 1) (V 25 e) (V 25 e + ((x + 1 : Nat) : Int)) = wr (Y 1) (V 25 e) (V 25 e + x) ++ [Y 1 (V 25 e + x)] := wr_succ
      have spl : wr (Y 1) (V 25 e) (V 26 e) = (wr (Y 1) (V 25 e) (V 25 e + x) ++ [Y 1 (V 25 e + x)]) ++ wr (Y 1) (V 25 e + ((x + 1 : Nat) : Int)) (V 26 e) := by
        rw [← stp]
        exact wr_sp (by omega)
      have ln := tzL_len (n := c) (z := z) ((wr (Y 1) (V 25 e) (V 25 e + x)).flatMap (lbB V e)) s
      have ll := lbB_len (Y := Y) vr (wr (Y 1) (V 25 e) (V 25 e + x))
      rw [wr_len] at ll
      have h5 : a + 15 ∈ in_aX5 := by
        simp only [in_aX5, List.mem_cons, List.not_mem_nil, or_false]
        have := aX7 ha
        omega
      have c16 := g_X5_c Lq ha
      have eb : ∀ L : List Int, lbB V e (Y 1 (V 25 e + x)) = L → (wr (Y 1) (V 25 e) (V 25 e + ((x + 1 : Nat) : Int))).flatMap (lbB V e) = (wr (Y 1) (V 25 e) (V 25 e + x)).flatMap (lbB V e) ++ L := fun L hl => by
        rw [stp, List.flatMap_append, List.flatMap_cons, List.flatMap_nil, List.append_nil, hl]
      have fin : ∀ (L : List Int) (r : (Int × Int) × Hp), lbB V e (Y 1 (V 25 e + x)) = L → PU b t c z q (tzL c z s ((wr (Y 1) (V 25 e) (V 25 e + x)).flatMap (lbB V e))) L r → (r.1.1 = 0 ∧ Pz (m_X14_label_j100 x r.2) (sE (fun (w : Int × Hp) => (∃ x : Nat, w.1 = x ∧ (x : Int) ≤ V 26 e - V 25 e ∧ F2 (glW b a t) h w.2 ∧ bsL w.2 (a + 15) (fmL (V 24 (22 * e + 18)) (V 27 e).toNat) ∧ txC w.2 t (tzL c z s ((wr (Y 1) (V 25 e) (V 25 e + x)).flatMap (lbB V e))).1 ∧ w.2 b 27 = (tzL c z s ((wr (Y 1) (V 25 e) (V 25 e + x)).flatMap (lbB V e))).2) ∧ (V 26 e - V 25 e - w.1).toNat < (V 26 e - V 25 e - x).toNat) (PTX (glW b a t) b t c z h s ((wr (Y 1) (V 25 e) (V 26 e)).flatMap (lbB V e))))) ∨ (r.1.1 ≠ 0 ∧ Pz (some (Sum.inr ((1, r.1.2), r.2)) : Option ((Int × Hp) ⊕ ((Int × Int) × Hp))) (sE (fun (w : Int × Hp) => (∃ x : Nat, w.1 = x ∧ (x : Int) ≤ V 26 e - V 25 e ∧ F2 (glW b a t) h w.2 ∧ bsL w.2 (a + 15) (fmL (V 24 (22 * e + 18)) (V 27 e).toNat) ∧ txC w.2 t (tzL c z s ((wr (Y 1) (V 25 e) (V 25 e + x)).flatMap (lbB V e))).1 ∧ w.2 b 27 = (tzL c z s ((wr (Y 1) (V 25 e) (V 25 e + x)).flatMap (lbB V e))).2) ∧ (V 26 e - V 25 e - w.1).toNat < (V 26 e - V 25 e - x).toNat) (PTX (glW b a t) b t c z h s ((wr (Y 1) (V 25 e) (V 26 e)).flatMap (lbB V e))))) := by
        intro L r hl hp
        rcases hp with ⟨a1, a2, a3, a4⟩ | ⟨a1, a2⟩
        · refine Or.inl ⟨by rw [a1], ?_⟩
          unfold m_X14_label_j100
          rw [e32 (by omega) (by omega)]
          refine z_lt (z_some ⟨⟨x + 1, by simp, by omega, Fq.trans (a2.mono pb_gl), Dq.kept (a2 _ _ (by unfold pbW txW; omega)) (a2.row (fun j z => by unfold pbW txW at z; omega)), ?_, ?_⟩, by dsimp only; omega⟩)
          · dsimp only
            rw [eb L hl, tzL_app]; exact a3
          · dsimp only
            rw [eb L hl, tzL_app]; exact a4
        · refine Or.inr ⟨by rw [a2.one]; decide, z_some ?_⟩
          show PTX (glW b a t) b t c z h s _ ((1, r.1.2), r.2)
          rw [spl, List.flatMap_append]
          refine PTX.bad ?_ (TH.after Fq (by rw [(gt_00 ht hb ha (Fq.mono gl_gt)).1]; exact Int.le_refl _) (a2.mono pb_gl))
          rw [List.flatMap_append, List.flatMap_cons, List.flatMap_nil, List.append_nil, hl, tzL_app]
          exact a1
      generalize Y 1 (V 25 e + x) = ch at *
      have rmq := gt_rm rm ht hb ha (Fq.mono gl_gt)
      by_cases h35 : ch = 35
      · subst h35
        have eb2 : lbB V e 35 = fmL (V 24 (22 * e + 18)) (V 27 e).toNat := by unfold lbB; rw [if_pos rfl]
        have fl := fmL_len (how := V 24 (22 * e + 18)) (v := (V 27 e).toNat) (by omega)
        refine z_ie (fun z => z rfl) ?_
        have go : ∀ y, y = c → Pz (m_X14_label_j73 x b t z (a + 15) y q) (sE (fun (w : Int × Hp) => (∃ x : Nat, w.1 = x ∧ (x : Int) ≤ V 26 e - V 25 e ∧ F2 (glW b a t) h w.2 ∧ bsL w.2 (a + 15) (fmL (V 24 (22 * e + 18)) (V 27 e).toNat) ∧ txC w.2 t (tzL c z s ((wr (Y 1) (V 25 e) (V 25 e + x)).flatMap (lbB V e))).1 ∧ w.2 b 27 = (tzL c z s ((wr (Y 1) (V 25 e) (V 25 e + x)).flatMap (lbB V e))).2) ∧ (V 26 e - V 25 e - w.1).toNat < (V 26 e - V 25 e - x).toNat) (PTX (glW b a t) b t c z h s ((wr (Y 1) (V 25 e) (V 26 e)).flatMap (lbB V e)))) := by
          intro y hy
          rw [hy]
          unfold m_X14_label_j73
          exact z_bT (z_mono (c_putAll14 (n := c) (z := z) Lq ht hb h5 (Or.inr (by omega)) (by rw [show a + 15 + 1 = a + 16 by omega, c16]; omega) rmq Xq Dq fmL_by z0 oq (by omega)) (fun r hr => fin _ r eb2 hr))
        refine z_if (fun h1 => ?_) (fun h1 => ?_)
        · exact go 0 (by rw [en, if_neg (by rw [← q46]; exact h1)])
        · exact go 1 (by rw [en, if_pos (by rw [← q46]; exact Classical.not_not.mp h1)])
      · have eb2 : lbB V e ch = [ch] := by unfold lbB; rw [if_neg h35]
        refine z_it h35 ?_
        have go : ∀ y, y = c → Pz (m_X14_label_j97 ch x b t z y q) (sE (fun (w : Int × Hp) => (∃ x : Nat, w.1 = x ∧ (x : Int) ≤ V 26 e - V 25 e ∧ F2 (glW b a t) h w.2 ∧ bsL w.2 (a + 15) (fmL (V 24 (22 * e + 18)) (V 27 e).toNat) ∧ txC w.2 t (tzL c z s ((wr (Y 1) (V 25 e) (V 25 e + x)).flatMap (lbB V e))).1 ∧ w.2 b 27 = (tzL c z s ((wr (Y 1) (V 25 e) (V 25 e + x)).flatMap (lbB V e))).2) ∧ (V 26 e - V 25 e - w.1).toNat < (V 26 e - V 25 e - x).toNat) (PTX (glW b a t) b t c z h s ((wr (Y 1) (V 25 e) (V 26 e)).flatMap (lbB V e)))) := by
          intro y hy
          rw [hy]
          unfold m_X14_label_j97
          exact z_bT (z_mono (c_put14 (n := c) (z := z) Lq ht hb rmq Xq (by omega) (by omega) z0 oq (by omega)) (fun r hr => fin _ r eb2 hr))
        refine z_if (fun h1 => ?_) (fun h1 => ?_)
        · exact go 0 (by rw [en, if_neg (by rw [← q46]; exact h1)])
        · exact go 1 (by rw [en, if_pos (by rw [← q46]; exact Classical.not_not.mp h1)])
