set_option maxRecDepth 100000
/-! WHICH OF SOME WORDS A NAME IS, by the reference -/
theorem aX22 {l : Int} (h : l ∈ in_aX22) : l = 533 ∨ l = 556 := by
  simp only [in_aX22, List.mem_cons, List.not_mem_nil, or_false] at h
  exact h
theorem ix_c {w b : List Int} {L : List (List Int)} {k : Int} : ix w (b :: L) k = if w = b then k else ix w L (k + 1) := rfl
theorem spl_c {c : Int} {S cur : List Int} : spl (c :: S) cur = if c = 32 then cur :: spl S [] else spl S (cur ++ [c]) := rfl
theorem spn_c {c : Int} {S cur : List Int} : spn (c :: S) cur = if c = 32 then cur :: spn S [] else spn S (cur ++ [c]) := rfl
/-- the reference's reader is broken here -/
theorem t_broken {α : Type} {h : Hp} {a p : Int} {f : Int → Hp → Option α} {Q : α → Prop} (rm : RM h 1 7) (ha : 1 ≤ a) (ha2 : a ≤ 982) (hp : h a 4 = p) (k : ∀ b h', Thr 448 p h ((1, b), h') → Pz (f b h') Q) : Pz (bW (m_X20_broken a h) fun v h9 => gd (0 < v) (f v h9)) Q := by
  refine z_bW (z_mono (brk (K := 448) (a := a) rm ha ha2 hp) (fun r hr => z_gd hr.1 (k _ _ ⟨rfl, hr.1, hr.2.1, hr.2.2.1, hr.2.2.2.1, hr.2.2.2.2⟩)))
theorem c_broken {α : Type} {h : Hp} {a p : Int} {f : Int → Hp → Option α} {Q : α → Prop} (rm : RM h 1 7) (ha : 1 ≤ a) (ha2 : a ≤ 982) (hp : h a 4 = p) (k : ∀ b h', Thr 432 p h ((1, b), h') → Pz (f b h') Q) : Pz (bW (m_X2_broken a h) fun v h9 => gd (0 < v) (f v h9)) Q := by
  refine z_bW (z_mono (brk (K := 432) (a := a) rm ha ha2 hp) (fun r hr => z_gd hr.1 (k _ _ ⟨rfl, hr.1, hr.2.1, hr.2.2.1, hr.2.2.2.1, hr.2.2.2.2⟩)))
theorem kT1 {k : Int} (h : k = 1) : kT k = 1 := by subst h; rfl
theorem q_word_cmp {h : Hp} {l n : Int} {B : Int → Int} {i s f k : Int} {S : List Int} (hl : l ∈ in_aX22) (c : TS h (l + 2) (l + 1) n B i) (h1 : (tk B i).1 = 1) (hs : strB s = some S) (f0 : 0 ≤ f) (fk : f ≤ k) (kl : k ≤ S.length) (hk : (tk B i).2.2.1 - (tk B i).2.1 = k - f) :
    Pz (lp (fun (q : Int × Int) => m_X22_word_l86 l s f k q.1 q.2 h) (1, 0)) (fun r => (r = 1 ∧ tw h (l + 1) (tk B i) = stc S f k) ∨ (r = 0 ∧ tw h (l + 1) (tk B i) ≠ stc S f k)) := by
  have hq := ts_ok c
  have L := c.1
  have A := c.2.2.2.1
  have x := c.2.1
  have l200 := strB_l hs
  have l2 := hq.2.2.2.1 (by omega)
  have l3 := hq.2.2.2.2.2.2.1 h1
  refine z_mono (all_loop (E := fun y => S[(f + y).toNat]? = some (h (l + 1) ((tk B i).2.1 + y))) (k := k - f) (by omega) (fun v y hv y0 y1 => ?_)) (fun r hr => ?_)
  · have q0 := hq.1
    show (k - f ≤ y → m_X22_word_l86 l s f k v y h = _) ∧ (y < k - f → v = 0 → m_X22_word_l86 l s f k v y h = _) ∧ (y < k - f → v = 1 → (_ → m_X22_word_l86 l s f k v y h = _) ∧ (_ → m_X22_word_l86 l s f k v y h = _))
    unfold m_X22_word_l86 m_X22_word_j130 m_X22_word_j131 gd lt_
    have a4 : h (l + 2) 4 = (tk B i).2.1 := A.2.1
    have tl := x.2.2.2.1
    have tl2 := x.2.2.2.2.2
    (try simp (disch := omega) only [up_a, up_e, up_j, e32, e8, ly_X22 L hl, a4])
    refine ⟨fun z => by rw [if_pos z], fun z v0 => by rw [if_neg (by omega), if_pos v0], fun z v1 => ?_⟩
    obtain ⟨w, w1, w2⟩ := q_satI (x := f + y) hs (by omega) (by omega)
    rw [w2, w1]
    subst v1
    rw [if_neg (by omega), if_neg (by decide), if_pos (by omega)]
    refine ⟨fun e => ?_, fun e => ?_⟩
    · rw [Option.bind_some, if_neg (fun y => y (Option.some.inj e).symm)]
    · rw [Option.bind_some, if_pos (fun y => e (by rw [y]))]
  · have e := wd_stc (h := h) (t := l + 1) (p := (tk B i).2.1) (m := ((tk B i).2.2.1 - (tk B i).2.1).toNat) f0 fk kl (by omega)
    rcases hr with ⟨r1, r2⟩ | ⟨r1, r2⟩
    · exact Or.inl ⟨r1, e.mpr r2⟩
    · exact Or.inr ⟨r1, fun z => r2 (e.mp z)⟩
theorem stc_len {S : List Int} {f k : Int} (f0 : 0 ≤ f) (fk : f ≤ k) (kl : k ≤ S.length) : ((stc S f k).length : Int) = k - f := by
  unfold stc
  rw [List.length_take, List.length_drop]; omega
theorem tw_len {h : Hp} {t : Int} {q : Int × Int × Int × Int} (hq : q.2.1 ≤ q.2.2.1) : ((tw h t q).length : Int) = q.2.2.1 - q.2.1 := by
  unfold tw
  rw [wd_len]; omega
theorem ts_word {h : Hp} {l n : Int} {B : Int → Int} {i s : Int} {S : List Int} {Ls : List (List Int)} (hl : l ∈ in_aX22) (c : TS h (l + 2) (l + 1) n B i) (hs : strB s = some S) (hsp : spl S [] = Ls) :
    Pz (m_X22_word l s h) (fun r => (((tk B i).1 = 1 ∧ 0 ≤ ix (tw h (l + 1) (tk B i)) Ls 0) ∧ r.1 = (0, ix (tw h (l + 1) (tk B i)) Ls 0) ∧ F2 (nxW (l + 2)) h r.2 ∧ TS r.2 (l + 2) (l + 1) n B (tk B i).2.2.1) ∨ (¬ ((tk B i).1 = 1 ∧ 0 ≤ ix (tw h (l + 1) (tk B i)) Ls 0) ∧ Thr 448 (tk B i).2.1 h r)) := by
  have h9 := aX22 hl
  have hq := ts_ok c
  have L := c.1
  have A := c.2.2.2.1
  have rm := c.2.2.2.2.2.2.1
  have l200 := strB_l hs
  have a3 : h (l + 2) 3 = kT (tk B i).1 := A.1
  have a4 : h (l + 2) 4 = (tk B i).2.1 := A.2.1
  have a5 : h (l + 2) 5 = (tk B i).2.2.1 := A.2.2.1
  unfold m_X22_word
  (try simp (disch := omega) only [up_a, up_e, up_j, e32, e8, ly_X22 L hl, a3])
  refine z_gd trivial ?_
  by_cases h1 : (tk B i).1 = 1
  · refine z_it (kT1 h1) (z_lt (z_lt (z_lt ?_)))
    have l3 := hq.2.2.2.2.2.2.1 h1
    have l2 := hq.2.2.2.1 (by omega)
    have q0 := hq.1
    refine z_bind (z_mono (z_lp (Q := fun r : (Int × Int) × Hp => (0 ≤ ix (tw h (l + 1) (tk B i)) Ls 0 ∧ r.1 = (0, ix (tw h (l + 1) (tk B i)) Ls 0) ∧ F2 (nxW (l + 2)) h r.2 ∧ TS r.2 (l + 2) (l + 1) n B (tk B i).2.2.1) ∨ (ix (tw h (l + 1) (tk B i)) Ls 0 = -1 ∧ Thr 448 (tk B i).2.1 h r)) (fun q : Int × Int × Int => 0 ≤ q.1 ∧ 0 ≤ q.2.1 ∧ q.2.1 ≤ q.2.2 ∧ q.1 ≤ q.2.2 ∧ ((q.2.2 ≤ S.length ∧ ix (tw h (l + 1) (tk B i)) Ls 0 = ix (tw h (l + 1) (tk B i)) (spl (S.drop q.2.2.toNat) (stc S q.2.1 q.2.2)) q.1) ∨ (q.2.2 = S.length + 1 ∧ ix (tw h (l + 1) (tk B i)) Ls 0 = -1))) (fun q => (S.length + 2 - q.2.2).toNat) ⟨by decide, by decide, by decide, by decide, Or.inl ⟨by dsimp only; omega, by rw [← hsp]; rfl⟩⟩ ?_) (fun r hr => z_some ?_))
    · rintro ⟨m, f, k⟩ ⟨m0, f0, fk, mk, hI⟩
      dsimp only at m0 f0 fk mk hI ⊢
      unfold m_X22_word_l26
      rw [q_slen hs, Option.bind_some]
      refine z_if (fun hc => ?_) (fun hc => ?_)
      · have : ix (tw h (l + 1) (tk B i)) Ls 0 = -1 := by
          rcases hI with z | z
          · omega
          · exact z.2
        (try simp (disch := omega) only [up_a, up_e, up_j, e32, e8, ly_X22 L hl])
        exact t_broken rm (by omega) (by omega) a4 (fun b h' z => z_some (Or.inr ⟨this, z⟩))
      · have hI' : k ≤ S.length ∧ ix (tw h (l + 1) (tk B i)) Ls 0 = ix (tw h (l + 1) (tk B i)) (spl (S.drop k.toNat) (stc S f k)) m := by
          rcases hI with z | z
          · exact z
          · omega
        obtain ⟨kl, hI⟩ := hI'
        rw [Option.bind_some]
        -- a word ends at k: R is what comes behind it
        have ends : ∀ R : List (List Int), spl (S.drop k.toNat) (stc S f k) = stc S f k :: R → ((k + 1 ≤ S.length ∧ R = spl (S.drop (k + 1).toNat) []) ∨ (k = S.length ∧ R = [])) → Pz (m_X22_word_j58 l s m f k h) (sE (fun t' => (0 ≤ t'.1 ∧ 0 ≤ t'.2.1 ∧ t'.2.1 ≤ t'.2.2 ∧ t'.1 ≤ t'.2.2 ∧ ((t'.2.2 ≤ S.length ∧ ix (tw h (l + 1) (tk B i)) Ls 0 = ix (tw h (l + 1) (tk B i)) (spl (S.drop t'.2.2.toNat) (stc S t'.2.1 t'.2.2)) t'.1) ∨ (t'.2.2 = S.length + 1 ∧ ix (tw h (l + 1) (tk B i)) Ls 0 = -1))) ∧ (S.length + 2 - t'.2.2).toNat < (S.length + 2 - k).toNat) (fun r => (0 ≤ ix (tw h (l + 1) (tk B i)) Ls 0 ∧ r.1 = (0, ix (tw h (l + 1) (tk B i)) Ls 0) ∧ F2 (nxW (l + 2)) h r.2 ∧ TS r.2 (l + 2) (l + 1) n B (tk B i).2.2.1) ∨ (ix (tw h (l + 1) (tk B i)) Ls 0 = -1 ∧ Thr 448 (tk B i).2.1 h r))) := by
          intro R e1 e2
          rw [e1] at hI
          have other : tw h (l + 1) (tk B i) ≠ stc S f k → Pz (m_X22_word_j153 m k) (sE (fun t' => (0 ≤ t'.1 ∧ 0 ≤ t'.2.1 ∧ t'.2.1 ≤ t'.2.2 ∧ t'.1 ≤ t'.2.2 ∧ ((t'.2.2 ≤ S.length ∧ ix (tw h (l + 1) (tk B i)) Ls 0 = ix (tw h (l + 1) (tk B i)) (spl (S.drop t'.2.2.toNat) (stc S t'.2.1 t'.2.2)) t'.1) ∨ (t'.2.2 = S.length + 1 ∧ ix (tw h (l + 1) (tk B i)) Ls 0 = -1))) ∧ (S.length + 2 - t'.2.2).toNat < (S.length + 2 - k).toNat) (fun r => (0 ≤ ix (tw h (l + 1) (tk B i)) Ls 0 ∧ r.1 = (0, ix (tw h (l + 1) (tk B i)) Ls 0) ∧ F2 (nxW (l + 2)) h r.2 ∧ TS r.2 (l + 2) (l + 1) n B (tk B i).2.2.1) ∨ (ix (tw h (l + 1) (tk B i)) Ls 0 = -1 ∧ Thr 448 (tk B i).2.1 h r))) := by
            intro ne
            unfold m_X22_word_j153 m_X22_word_j161
            (try simp (disch := omega) only [up_a, up_e, up_j, e32, e8])
            refine z_lt (z_lt (z_lt (z_some ⟨⟨by dsimp only; omega, by dsimp only; omega, by dsimp only; omega, by dsimp only; omega, ?_⟩, by dsimp only; omega⟩)))
            show (k + 1 ≤ S.length ∧ _ = ix _ (spl (S.drop (k + 1).toNat) (stc S (k + 1) (k + 1))) (m + 1)) ∨ (k + 1 = S.length + 1 ∧ _)
            rw [hI, ix_c, if_neg ne]
            rcases e2 with ⟨e2, e3⟩ | ⟨e2, e3⟩
            · left
              rw [e3, stc_e]
              exact ⟨e2, rfl⟩
            · right
              rw [e3]
              exact ⟨by omega, rfl⟩
          unfold m_X22_word_j58
          (try simp (disch := omega) only [up_a, up_e, up_j, e32, e8, ly_X22 L hl, a4, a5])
          by_cases hk : (tk B i).2.2.1 - (tk B i).2.1 = k - f
          · refine z_ie (fun z => z hk) (z_lt (z_lt (z_bind (z_mono (q_word_cmp hl c h1 hs f0 fk kl hk) (fun r hr => ?_)))))
            rcases hr with ⟨r1, r2⟩ | ⟨r1, r2⟩
            · rw [r1]
              refine z_ie (by decide) (z_bind (z_mono (ts_next c (by omega)) (fun h' hh => z_some (Or.inl ?_))))
              have : ix (tw h (l + 1) (tk B i)) Ls 0 = m := by
                rw [hI, ix_c, if_pos r2]
              rw [this]
              exact ⟨m0, rfl, hh.1, hh.2⟩
            · rw [r1]
              exact z_it rfl (other r2)
          · refine z_it hk (other (fun z => ?_))
            have z1 : ((tw h (l + 1) (tk B i)).length : Int) = (stc S f k).length := by rw [z]
            rw [tw_len (by omega), stc_len f0 fk kl] at z1
            exact hk z1
        refine z_if (fun hd => ?_) (fun hd => ?_)
        · refine ends [] ?_ (Or.inr ⟨by omega, rfl⟩)
          have : S.drop k.toNat = [] := List.drop_eq_nil_of_le (by omega)
          rw [this]; rfl
        · obtain ⟨w, w1, w2⟩ := q_satI (x := k) hs (by omega) (by omega)
          have dr := drop_s (by omega) w1
          rw [w2, Option.bind_some]
          refine z_if (fun hw => ends (spl (S.drop (k + 1).toNat) []) ?_ (Or.inl ⟨by omega, rfl⟩)) (fun hw => ?_)
          · rw [dr, spl_c, if_pos hw]
          · unfold m_X22_word_j161
            (try simp (disch := omega) only [up_a, up_e, up_j, e32, e8])
            refine z_lt (z_some ⟨⟨by dsimp only; omega, by dsimp only; omega, by dsimp only; omega, by dsimp only; omega, Or.inl ⟨by dsimp only; omega, ?_⟩⟩, by dsimp only; omega⟩)
            dsimp only
            rw [hI, dr, stc_s f0 fk w1, spl_c, if_neg hw]
    · rcases hr with ⟨r1, r2⟩ | ⟨r1, r2⟩
      · exact Or.inl ⟨⟨h1, r1⟩, r2⟩
      · exact Or.inr ⟨fun z => by omega, r2⟩
  · refine z_ie (fun z => h1 ((kTe (by decide) (by decide)).mp z)) ?_
    exact t_broken rm (by omega) (by omega) a4 (fun b h' z => z_some (Or.inr ⟨fun y => h1 y.1, z⟩))
theorem q_num_cmp {h : Hp} {l n : Int} {B : Int → Int} {i s f k : Int} {S : List Int} (hl : l ∈ in_aX22) (c : TS h (l + 2) (l + 1) n B i) (h1 : (tk B i).1 = 1) (hs : strB s = some S) (f0 : 0 ≤ f) (fk : f ≤ k) (kl : k ≤ S.length) (hk : (tk B i).2.2.1 - (tk B i).2.1 = k - f) :
    Pz (lp (fun (q : Int × Int) => m_X22_numberOf_l55 (l + 2) s f k q.1 q.2 h) (1, 0)) (fun r => (r = 1 ∧ tw h (l + 1) (tk B i) = stc S f k) ∨ (r = 0 ∧ tw h (l + 1) (tk B i) ≠ stc S f k)) := by
  have hq := ts_ok c
  have A := c.2.2.2.1
  have x := c.2.1
  have l200 := strB_l hs
  have l2 := hq.2.2.2.1 (by omega)
  have l3 := hq.2.2.2.2.2.2.1 h1
  refine z_mono (all_loop (E := fun y => S[(f + y).toNat]? = some (h (l + 1) ((tk B i).2.1 + y))) (k := k - f) (by omega) (fun v y hv y0 y1 => ?_)) (fun r hr => ?_)
  · have q0 := hq.1
    show (k - f ≤ y → m_X22_numberOf_l55 (l + 2) s f k v y h = _) ∧ (y < k - f → v = 0 → m_X22_numberOf_l55 (l + 2) s f k v y h = _) ∧ (y < k - f → v = 1 → (_ → m_X22_numberOf_l55 (l + 2) s f k v y h = _) ∧ (_ → m_X22_numberOf_l55 (l + 2) s f k v y h = _))
    unfold m_X22_numberOf_l55 m_X22_numberOf_j96 m_X22_numberOf_j97 gd lt_
    have a4 : h (l + 2) 4 = (tk B i).2.1 := A.2.1
    have x0 : h (l + 2) 0 = l + 1 := x.1
    have tl := x.2.2.2.1
    have tl2 := x.2.2.2.2.2
    have tl3 := x.2.2.1
    (try simp (disch := omega) only [up_a, up_e, up_j, e32, e8, a4, x0])
    refine ⟨fun z => by rw [if_pos z], fun z v0 => by rw [if_neg (by omega), if_pos v0], fun z v1 => ?_⟩
    obtain ⟨w, w1, w2⟩ := q_satI (x := f + y) hs (by omega) (by omega)
    rw [w2, w1]
    subst v1
    rw [if_neg (by omega), if_neg (by decide), if_pos (by omega)]
    refine ⟨fun e => ?_, fun e => ?_⟩
    · rw [Option.bind_some, if_neg (fun y => y (Option.some.inj e).symm)]
    · rw [Option.bind_some, if_pos (fun y => e (by rw [y]))]
  · have e := wd_stc (h := h) (t := l + 1) (p := (tk B i).2.1) (m := ((tk B i).2.2.1 - (tk B i).2.1).toNat) f0 fk kl (by omega)
    rcases hr with ⟨r1, r2⟩ | ⟨r1, r2⟩
    · exact Or.inl ⟨r1, e.mpr r2⟩
    · exact Or.inr ⟨r1, fun z => r2 (e.mp z)⟩
theorem q_numberOf {h : Hp} {l n : Int} {B : Int → Int} {i : Int} (hl : l ∈ in_aX22) (c : TS h (l + 2) (l + 1) n B i) (h1 : (tk B i).1 = 1) : m_X22_numberOf (l + 2) h = some (ix (tw h (l + 1) (tk B i)) wProps 0) := by
  obtain ⟨S, hs, hsp⟩ := sp_wProps
  have h9 := aX22 hl
  have hq := ts_ok c
  have L := c.1
  have A := c.2.2.2.1
  have l200 := strB_l hs
  have a4 : h (l + 2) 4 = (tk B i).2.1 := A.2.1
  have a5 : h (l + 2) 5 = (tk B i).2.2.1 := A.2.2.1
  have l3 := hq.2.2.2.2.2.2.1 h1
  have l2 := hq.2.2.2.1 (by omega)
  have q0 := hq.1
  have tl2 := c.2.1.2.2.2.2.2
  have key : Pz (lp (fun (q : Int × Int × Int) => m_X22_numberOf_l10 (l + 2) (-98) q.1 q.2.1 q.2.2 h) (0, 0, 0)) (fun r => r = ix (tw h (l + 1) (tk B i)) wProps 0) := by
    refine z_lp (fun q : Int × Int × Int => 0 ≤ q.1 ∧ 0 ≤ q.2.1 ∧ q.2.1 ≤ q.2.2 ∧ q.1 ≤ q.2.2 ∧ q.2.2 ≤ S.length ∧ ix (tw h (l + 1) (tk B i)) wProps 0 = ix (tw h (l + 1) (tk B i)) (spn (S.drop q.2.2.toNat) (stc S q.2.1 q.2.2)) q.1) (fun q => (S.length + 2 - q.2.2).toNat) ⟨by decide, by decide, by decide, by decide, by dsimp only; omega, by rw [← hsp]; rfl⟩ ?_
    rintro ⟨m, f, k⟩ ⟨m0, f0, fk, mk, kl, hI⟩
    dsimp only at m0 f0 fk mk kl hI ⊢
    unfold m_X22_numberOf_l10
    rw [q_slen hs, Option.bind_some]
    refine z_if (fun hc => z_some ?_) (fun hc => ?_)
    · have : S.drop k.toNat = [] := List.drop_eq_nil_of_le (by omega)
      show -1 = _
      rw [hI, this]; rfl
    obtain ⟨w, w1, w2⟩ := q_satI (x := k) hs (by omega) (by omega)
    have dr := drop_s (by omega) w1
    rw [w2, Option.bind_some]
    refine z_if (fun hw => ?_) (fun hw => ?_)
    · rw [dr, spn_c, if_pos hw, ix_c] at hI
      have other : tw h (l + 1) (tk B i) ≠ stc S f k → Pz (m_X22_numberOf_j112 m k) (sE (fun t' => (0 ≤ t'.1 ∧ 0 ≤ t'.2.1 ∧ t'.2.1 ≤ t'.2.2 ∧ t'.1 ≤ t'.2.2 ∧ t'.2.2 ≤ S.length ∧ ix (tw h (l + 1) (tk B i)) wProps 0 = ix (tw h (l + 1) (tk B i)) (spn (S.drop t'.2.2.toNat) (stc S t'.2.1 t'.2.2)) t'.1) ∧ (S.length + 2 - t'.2.2).toNat < (S.length + 2 - k).toNat) (fun r => r = ix (tw h (l + 1) (tk B i)) wProps 0)) := by
        intro ne
        unfold m_X22_numberOf_j112 m_X22_numberOf_j120
        (try simp (disch := omega) only [up_a, up_e, up_j, e32, e8])
        refine z_lt (z_lt (z_lt (z_some ⟨⟨by dsimp only; omega, by dsimp only; omega, by dsimp only; omega, by dsimp only; omega, by dsimp only; omega, ?_⟩, by dsimp only; omega⟩)))
        show _ = ix _ (spn (S.drop (k + 1).toNat) (stc S (k + 1) (k + 1))) (m + 1)
        rw [hI, if_neg ne, stc_e]
      have k336 := ly_X20 L c.2.2.2.2.2.2.2.1
      (try simp (disch := omega) only [up_a, up_e, up_j, e32, e8, a4, a5, k336])
      refine z_gd trivial ?_
      by_cases hk : (tk B i).2.2.1 - (tk B i).2.1 = k - f
      · refine z_ie (fun z => z hk) (z_lt (z_lt (z_bind (z_mono (q_num_cmp hl c h1 hs f0 fk kl hk) (fun r hr => ?_)))))
        rcases hr with ⟨r1, r2⟩ | ⟨r1, r2⟩
        · rw [r1]
          refine z_ie (by decide) (z_some ?_)
          show m = _
          rw [hI, if_pos r2]
        · rw [r1]
          exact z_it rfl (other r2)
      · refine z_it hk (other (fun z => ?_))
        have z1 : ((tw h (l + 1) (tk B i)).length : Int) = (stc S f k).length := by rw [z]
        rw [tw_len (by omega), stc_len f0 fk kl] at z1
        exact hk z1
    · unfold m_X22_numberOf_j120
      (try simp (disch := omega) only [up_a, up_e, up_j, e32, e8])
      refine z_lt (z_some ⟨⟨by dsimp only; omega, by dsimp only; omega, by dsimp only; omega, by dsimp only; omega, by dsimp only; omega, ?_⟩, by dsimp only; omega⟩)
      dsimp only
      rw [hI, dr, stc_s f0 fk w1, spn_c, if_neg hw]
  obtain ⟨r, e1, e2⟩ := key
  unfold m_X22_numberOf lt_
  show (lp (fun (q : Int × Int × Int) => m_X22_numberOf_l10 (l + 2) (-98) q.1 q.2.1 q.2.2 h) (0, 0, 0)).bind (fun x => some x) = _
  rw [e1, Option.bind_some, e2]
