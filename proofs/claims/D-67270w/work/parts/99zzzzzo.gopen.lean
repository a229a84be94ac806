-- needs: 99zzzzzn
set_option maxRecDepth 100000
/-! GATHERING: flush, open, shut (component) -/
/-- pool, flow, notes -/
def PLI (L P N : List PAR) : Prop := L.length = P.length + N.length ∧ ltS L = ltS P + ltS N ∧ ∀ f : PAR → Bool, L.countP f = P.countP f + N.countP f
theorem PLI.flow {L P N : List PAR} {p : PAR} (h : PLI L P N) : PLI (L ++ [p]) (P ++ [p]) N := by
  obtain ⟨a, b, c⟩ := h
  refine ⟨by rw [List.length_append, List.length_append]; omega, by rw [ltS_app, ltS_app]; omega, fun f => ?_⟩
  rw [List.countP_append, List.countP_append, c f]; omega
theorem PLI.note {L P N : List PAR} {p : PAR} (h : PLI L P N) : PLI (L ++ [p]) P (N ++ [p]) := by
  obtain ⟨a, b, c⟩ := h
  refine ⟨by rw [List.length_append, List.length_append]; omega, by rw [ltS_app, ltS_app]; omega, fun f => ?_⟩
  rw [List.countP_append, List.countP_append, c f]; omega
/-- paragraphs of notes, by the pool L -/
def GPn (h : Hp) (b : Int) (N L : List PAR) : Prop := ∃ ν : Int → Int, ∀ n : Int, 0 ≤ n → n < N.length → 0 ≤ ν n ∧ ν n < L.length ∧ h (b + 35) n = h (b + 15) (ν n) ∧ pgAt L (ν n) = pgAt N n
theorem GPn.kept {h h' : Hp} {b : Int} {N L : List PAR} (G : GPn h b N L) (e1 : h' (b + 35) = h (b + 35)) (e2 : ∀ j, 0 ≤ j → j < (L.length : Int) → h' (b + 15) j = h (b + 15) j) : GPn h' b N L := by
  obtain ⟨ν, g⟩ := G
  refine ⟨ν, fun n n0 n1 => ?_⟩
  obtain ⟨k1, k2, k3, k4⟩ := g n n0 n1
  rw [e1, e2 _ k1 k2]
  exact ⟨k1, k2, k3, k4⟩
theorem GPn.more {h h' : Hp} {b : Int} {N L : List PAR} {p : PAR} (G : GPn h b N L) (e1 : h' (b + 35) = h (b + 35)) (e2 : ∀ j, 0 ≤ j → j < (L.length : Int) → h' (b + 15) j = h (b + 15) j) : GPn h' b N (L ++ [p]) := by
  obtain ⟨ν, g⟩ := G
  refine ⟨ν, fun n n0 n1 => ?_⟩
  obtain ⟨k1, k2, k3, k4⟩ := g n n0 n1
  rw [e1, e2 _ k1 k2, pgAt_old k1 k2]
  exact ⟨k1, by rw [List.length_append]; omega, k3, k4⟩
theorem GPn.both {h h' : Hp} {b : Int} {N L : List PAR} {p : PAR} (G : GPn h b N L) (e1 : ∀ i, 0 ≤ i → i < (N.length : Int) → h' (b + 35) i = h (b + 35) i) (e2 : ∀ j, 0 ≤ j → j < (L.length : Int) → h' (b + 15) j = h (b + 15) j) (e3 : h' (b + 35) N.length = h' (b + 15) L.length) : GPn h' b (N ++ [p]) (L ++ [p]) := by
  obtain ⟨ν, g⟩ := G
  refine ⟨fun i => if i < N.length then ν i else L.length, fun i i0 i1 => ?_⟩
  rw [List.length_append, List.length_singleton] at i1
  dsimp only
  by_cases hi : i < N.length
  · obtain ⟨k1, k2, k3, k4⟩ := g i i0 hi
    rw [if_pos hi, e1 i i0 hi, e2 _ k1 k2, pgAt_old k1 k2, pgAt_old i0 hi, List.length_append]
    exact ⟨k1, by omega, k3, k4⟩
  · have : i = N.length := by omega
    rw [if_neg hi, this, e3, pgAt_new rfl, pgAt_new rfl, List.length_append, List.length_singleton]
    exact ⟨Int.natCast_nonneg _, by omega, rfl, rfl⟩
def FSN (h : Hp) (f W : Int → Int) (K J : Int → Int → Int) (BK : TXL → Int → List (Int × Int)) (w b pn : Int) (S V : Hp) (x : Int) (N : List PAR) (s : GS) : Prop := ∃ L, PLI L s.2.1 N ∧ FS h f W K J BK w b pn S V x L s.2.1 s.2.2.1 s.2.2.2.1 ∧ GPn h b N L
/-- limits passed -/
def TOO (BK : TXL → Int → List (Int × Int)) (f : Int → Int) (s : GS) (N : List PAR) : Prop := 1200 < (s.2.1.length : Int) + N.length ∨ 24000 < ltS s.2.1 + ltS N + s.1.1.1.length ∨ ∃ p, (p ∈ s.2.1 ∨ p ∈ N) ∧ 600 < ((BK p.1 (hyO f p.2.1)).length : Int)
def GOP (W' : Int → Int → Prop) (h : Hp) (f W : Int → Int) (K J : Int → Int → Int) (BK : TXL → Int → List (Int × Int)) (w b a y pn : Int) (S V : Hp) (x : Int) (N : List PAR) (s' : GS) (r : (Int × Int) × Hp) : Prop :=
  (∃ pn', r.1 = (0, 0) ∧ ADV h b a y pn r.2 pn' ∧ F2 W' h r.2 ∧ txC r.2 261 s'.1.1 ∧ FSN r.2 f W K J BK w b pn' S V x N s') ∨ (TOO BK f s' N ∧ THG h b a y pn r)
theorem GW_t {h : Hp} {b a y q j : Int} (h0 : 261 ≤ q) (h1 : q ≤ 272) (h2 : 3 ≤ j) : GW h b a y q j := Or.inr (Or.inr (Or.inr (Or.inr (Or.inr (Or.inr (Or.inr (Or.inl ⟨h0, h1, by omega, Or.inl h2⟩)))))))
theorem GW_b {h : Hp} {b a y j : Int} (h0 : j = 9 ∨ j = 11 ∨ j = 23 ∨ j = 26 ∨ j = 27 ∨ j = 36 ∨ j = 39 ∨ (44 ≤ j ∧ j ≤ 49) ∨ j = 53) : GW h b a y b j := Or.inr (Or.inr (Or.inl ⟨rfl, h0⟩))
theorem GW_r {h : Hp} {b a y q j : Int} (h0 : b + 15 ≤ q) (h1 : q ≤ b + 37) (h2 : 0 ≤ j) : GW h b a y q j := Or.inr (Or.inr (Or.inr (Or.inr (Or.inr (Or.inl ⟨h0, h1, h2⟩)))))
theorem GW_d {h : Hp} {b a y q j : Int} (h0 : 276 ≤ q) (h1 : q ≤ 282) (h2 : 0 ≤ j) : GW h b a y q j := Or.inr (Or.inr (Or.inr (Or.inr (Or.inr (Or.inr (Or.inr (Or.inr (Or.inr (Or.inr (Or.inr (Or.inl ⟨h0, h1, h2⟩)))))))))))
/-- a text is cleared -/
theorem c_clear12 {h : Hp} {t : Int} (ht : t ∈ in_aX12) : ∃ g, m_X12_clear t h = some g ∧ F2 (fun q j => q = t ∧ 3 ≤ j ∧ j ≤ 6) h g ∧ txC g t ([], -1) := by
  refine ⟨_, rfl, ((F2.refl.put ⟨rfl, by decide, by decide⟩).put ⟨rfl, by decide, by decide⟩).put ⟨rfl, by decide, by decide⟩, ?_⟩
  refine ⟨?_, by decide, fun i i0 i1 => absurd i1 (by show ¬ i < 0; omega), up_s _ _ _ _, fun z => absurd rfl z, fun _ => rfl⟩
  rw [up_j (by decide), up_j (by decide), up_s]; rfl
theorem adv_clr {h h' g : Hp} {b a y pn p1 t : Int} (hb : b ∈ in_aX14) (ha : a ∈ in_aX7) (hy : y ∈ in_aX9) (ht : t ∈ in_aX12) (x : ADV h b a y pn h' p1) (f : F2 (fun q j => q = t ∧ 3 ≤ j ∧ j ≤ 6) h' g) : ADV h b a y pn g p1 := by
  have ht' := rX12 ht
  have hb' := rX14 hb
  exact x.trans hb ha hy (adv_W x.2.2.1 f (fun q j z => GW_t (by omega) (by omega) (by omega)) (fun j z => by omega) (fun j z => by omega) (fun A hA => ⟨fun z => by omega, fun z => by omega⟩))
theorem FS.kept {h h' : Hp} {f W : Int → Int} {K J : Int → Int → Int} {BK : TXL → Int → List (Int × Int)} {w b pn : Int} {S V : Hp} {x g : Int} {L P : List PAR} {I : List (Int × Int × Int)} (F : FS h f W K J BK w b pn S V x L P I g) (Po : POK h b pn) (e : ∀ j, j = 9 ∨ j = 11 ∨ j = 26 ∨ j = 44 ∨ j = 45 → h' b j = h b j) (er : ∀ q, (b + 1 ≤ q ∧ q ≤ b + 12) ∨ q = b + 15 ∨ q = b + 16 ∨ q = b + 27 ∨ q = b + 28 ∨ q = 279 → h' q = h q) (eA : ∀ A, 983 ≤ A → A ≤ h 0 0 → h A 0 = b + 1 → ∀ j, j ≤ 16 → h' A j = h A j) : FS h' f W K J BK w b pn S V x L P I g := by
  obtain ⟨f1, f2, f3, f4, f5⟩ := F
  exact ⟨f1.kept Po (e _ (by omega)) (er _ (by omega)) (fun q q0 q1 => er q (by omega)) eA, f2.kept (e _ (by omega)) (er _ (by omega)) (fun j _ _ => by rw [er (b + 15) (by omega)]), f3.kept (e _ (by omega)) (er _ (by omega)) (er _ (by omega)), by rw [e _ (by omega)]; exact f4, f5.kept (e _ (by omega)) (er _ (by omega))⟩
theorem FSN.kept {h h' : Hp} {f W : Int → Int} {K J : Int → Int → Int} {BK : TXL → Int → List (Int × Int)} {w b pn : Int} {S V : Hp} {x : Int} {N : List PAR} {s : GS} (F : FSN h f W K J BK w b pn S V x N s) (Po : POK h b pn) (e : ∀ j, j = 9 ∨ j = 11 ∨ j = 26 ∨ j = 44 ∨ j = 45 → h' b j = h b j) (er : ∀ q, (b + 1 ≤ q ∧ q ≤ b + 12) ∨ q = b + 15 ∨ q = b + 16 ∨ q = b + 27 ∨ q = b + 28 ∨ q = 279 ∨ q = b + 35 → h' q = h q) (eA : ∀ A, 983 ≤ A → A ≤ h 0 0 → h A 0 = b + 1 → ∀ j, j ≤ 16 → h' A j = h A j) : FSN h' f W K J BK w b pn S V x N s := by
  obtain ⟨L, l1, l2, l3⟩ := F
  exact ⟨L, l1, l2.kept Po e (fun q hq => er q (by omega)) eA, l3.kept (er _ (by omega)) (fun j _ _ => by rw [er (b + 15) (by omega)])⟩
theorem fs_W {W' : Int → Int → Prop} {h h' : Hp} {f W : Int → Int} {K J : Int → Int → Int} {BK : TXL → Int → List (Int × Int)} {w b pn : Int} {S V : Hp} {x : Int} {N : List PAR} {s : GS} (F : FSN h f W K J BK w b pn S V x N s) (Po : POK h b pn) (g : F2 W' h h') (n : ∀ q j, W' q j → ¬ (q = b ∧ (j = 9 ∨ j = 11 ∨ j = 26 ∨ j = 44 ∨ j = 45)) ∧ ¬ ((b + 1 ≤ q ∧ q ≤ b + 12) ∨ q = b + 15 ∨ q = b + 16 ∨ q = b + 27 ∨ q = b + 28 ∨ q = 279 ∨ q = b + 35) ∧ ¬ 983 ≤ q) : FSN h' f W K J BK w b pn S V x N s :=
  F.kept Po (fun j hj => g _ _ (fun z => (n _ _ z).1 ⟨rfl, hj⟩)) (fun q hq => g.row (fun j z => (n _ _ z).2.1 hq)) (fun A a0 _ _ j _ => g _ _ (fun z => (n _ _ z).2.2 a0))
theorem PLI.le {L P N : List PAR} (h : PLI L P N) : P.length ≤ L.length := by have := h.1; omega
theorem c_flush {S Y V Q h T : Hp} {b a sa ya E M f y np pn w x : Int} {W : Int → Int} {K J : Int → Int → Int} {sg : Int → List Int} {dt : Int → Int → Int} {s : GS} {N : List PAR} (X : EV S Y V Q h b a sa ya E M f y W K J T np sg dt) (Xt : txC h 261 s.1.1) (G : txG s.1.1) (x1 : x < E)
    (Po : POK h b pn) (rm : RMP h pn) (F : FSN h (V 24) W K J (BKf T np sg dt) w b pn S V x N s) (iI : (s.2.2.1.length : Int) ≤ s.2.1.length + 500) :
    Pz (m_X14_flush b h) (GOP (fvW b 261 y) h (V 24) W K J (BKf T np sg dt) w b a y pn S V x N (gFlB S V (nr S (V 33) x) s)) := by
  have hb := X.2.1
  have hL := X.1.lay.1
  have ha := X.1.lay.2.1
  have y2 := X.2.2.2.2.2.2.1
  have hb' := rX14 hb
  have hy' := aX9 y2
  have T' := X.1.tb
  have b0 : h b 0 = 256 := (ly_X14 hL hb).2.1.1
  obtain ⟨x2, x3, x4, x5, x6, x7⟩ := id Xt
  unfold m_X14_flush
  simp only [b0, g_X10 hL, (g_X10_1 hL).1, (g_X10_1 hL).2.1, x5]
  refine z_gd trivial (z_gd trivial ?_)
  by_cases ne : s.1.1.1 = []
  · rw [decide_eq_false (fun z => z ne)]
    refine z_it rfl ?_
    obtain ⟨g, e1, e2, e3⟩ := c_clear12 (h := h) (t := 261) (by decide)
    rw [e1, Option.bind_some]
    have e : gFlB S V (nr S (V 33) x) s = gClr s := by unfold gFlB gFl; rw [if_pos ne]
    rw [e]
    refine z_some (Or.inl ⟨pn, rfl, adv_clr hb ha y2 (by decide) (ADV.refl Po) e2, e2.mono (fun q j z => Or.inl (Or.inl (Or.inr (Or.inr (Or.inr (Or.inr (Or.inr (Or.inr z)))))))), e3, ?_⟩)
    exact fs_W (s := gClr s) F Po e2 (fun q j z => by omega)
  · rw [decide_eq_true ne]
    refine z_ie (by show ¬ (1 : Int) = 0; decide) ?_
    obtain ⟨L, li, F', Fn⟩ := F
    refine z_bind (z_mono (c_inset X.1 hb X.2.2.1 F'.2.2.2.2 (fun z hz => by have := blS_mem T'.1 (x.toNat + 1) x (by omega) x1 z hz; omega) (by decide) (by decide)) (fun v hv => ?_))
    obtain ⟨v1, v2, v3⟩ := hv
    rw [blS_sum T'.1 (x.toNat + 1) x (by omega) x1] at v1
    have v4 := F'.2.2.2.2.2.1
    have len := li.le
    refine z_bT (z_mono (c_flushAs X Xt G ne x1 Po rm F' v2 (by omega) (fun z => by omega)) (fun r hr => ?_))
    have eb := anF_bk (V := V) (p := 4) T'.1 (x.toNat + 1) x (by omega) x1
    have eb5 := anF_bk (V := V) (p := 5) T'.1 (x.toNat + 1) x (by omega) x1
    have e : gFlB S V (nr S (V 33) x) s = ((([], -1), s.1.2), s.2.1 ++ [(s.1.1.1, nr S (V 33) x, 0, v, wdF S V v x)], s.2.2.1 ++ [(0, (s.2.1.length : Int), s.2.2.2.1)], 0, s.2.2.2.2) := by
      unfold gFlB gFl wdF
      rw [if_neg ne, eb, eb5, v1]
    rw [e]
    rcases hr with ⟨pn', h1, h2, h3, h4, h7, h5, h6⟩ | ⟨h1, h2⟩
    · left
      rw [h1]
      exact ⟨rfl, z_some (Or.inl ⟨pn', rfl, h3, h4, h5, _, li.flow, h6, Fn.more (h4.row (fun j z => by unfold fvW fqW pnW fpW itV at z; omega)) h7⟩)⟩
    · refine Or.inr ⟨h2.ne, z_some (Or.inr ⟨?_, h2.r1⟩)⟩
      unfold TOO
      dsimp only
      rw [ltS_app, List.length_append, List.length_singleton]
      have l1 := li.1
      have l2 := li.2.1
      rcases h1 with z | z | z
      · exact Or.inl (by omega)
      · refine Or.inr (Or.inl ?_)
        dsimp only
        show 24000 < ltS s.2.1 + (s.1.1.1.length : Int) + ltS N + 0
        omega
      · exact Or.inr (Or.inr ⟨_, Or.inl (List.mem_append_right _ (List.mem_singleton.mpr rfl)), z⟩)
