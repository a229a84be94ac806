-- needs: 99zzzzzw
set_option maxRecDepth 100000
/-! NOTES: where they end (component) -/
def enW (b y : Int) : Int → Int → Prop := fun q j => pnW b 269 y q j ∨ (q = b ∧ j = 46) ∨ (q = b + 35 ∧ 0 ≤ j)
/-- limits passed, with one more note -/
def NEQ (h : Hp) (f W : Int → Int) (K J : Int → Int → Int) (BK : TXL → Int → List (Int × Int)) (w b a y pn : Int) (S V : Hp) (x e : Int) (t : TXT) (N : List PAR) (s : GS) (r : (Int × Int) × Hp) : Prop :=
  (∃ pn', r.1 = (0, 0) ∧ ADV h b a y pn r.2 pn' ∧ F2 (enW b y) h r.2 ∧ r.2 b 46 = 0 ∧ txC r.2 269 ([], -1) ∧ FSN r.2 f W K J BK w b pn' S V x (N ++ [(t.1, e, 2, 0, w)]) s) ∨ (TOO BK f s (N ++ [(t.1, e, 2, 0, w)]) ∧ THG h b a y pn r)
theorem c_endNote {S Y V Q h T : Hp} {b a sa ya E M f y np pn w x e : Int} {W : Int → Int} {K J : Int → Int → Int} {sg : Int → List Int} {dt : Int → Int → Int} {s : GS} {t : TXT} {N : List PAR} (X : EV S Y V Q h b a sa ya E M f y W K J T np sg dt) (Xt : txC h 269 t) (G : txG t) (ne : t.1 ≠ []) (e0 : 0 ≤ e) (e1 : e < E)
    (Po : POK h b pn) (rm : RMP h pn) (F : FSN h (V 24) W K J (BKf T np sg dt) w b pn S V x N s) (ew : w = V 23 0) (em : h b 36 = (N.length : Int) + 1) (n1 : (N.length : Int) < 120) :
    Pz (m_X14_endNote b e h) (NEQ h (V 24) W K J (BKf T np sg dt) w b a y pn S V x e t N s) := by
  have hb := X.2.1
  have hL := X.1.lay.1
  have ha := X.1.lay.2.1
  have y2 := X.2.2.2.2.2.2.1
  have hb' := rX14 hb
  have ha' := rX7 ha
  have hy' := aX9 y2
  have h3' := rX3 X.1.lay.2.2.2
  unfold m_X14_endNote
  refine z_pt ?_
  have F1 : F2 (fun q j => q = b ∧ j = 46) h (up h b 46 0) := F2.refl.put ⟨rfl, rfl⟩
  have v1 : up h b 46 0 b 46 = 0 := up_s _ _ _ _
  generalize up h b 46 0 = g1 at F1 v1 ⊢
  have ad1 : ADV h b a y pn g1 pn := adv_W Po F1 (fun q j z => by rw [z.1, z.2]; exact GW_b (by omega)) (fun j z => by omega) (fun j z => by omega) (fun A hA => ⟨fun z => by omega, fun z => by omega⟩)
  have X1 := ad1.ev X
  have L1 := X1.1.lay.1
  have b01 : g1 b 0 = 256 := (ly_X14 L1 hb).2.1.1
  have Xt1 : txC g1 269 t := Xt.kept (fun k k0 k1 => F1.row (fun j z => by omega))
  have FS1 : FSN g1 (V 24) W K J (BKf T np sg dt) w b pn S V x N s := fs_W F Po F1 (fun q j z => by omega)
  obtain ⟨L, li, FSL, FNL⟩ := FS1
  rw [b01, g_X10 L1, (g_X10_3 L1).1]
  refine z_gd rfl (z_bT (z_mono (c_par14 X1 (by decide) Xt1 G ne (by omega) e1 ad1.2.2.1 (ad1.rmp rm) FSL.1) (fun r hr => ?_)))
  rcases hr with ⟨A, pn', h1, h2, h3, h4, h5, h6, h7, h8, h9, h10, h11, h12, h13, h14, h15, h16, h17⟩ | ⟨h1, h2⟩
  · left
    rw [h1]
    refine ⟨rfl, ?_⟩
    have ad2 := ad1.trans hb ha y2 h5
    have X2 := ad2.ev X
    have L2 := X2.1.lay.1
    obtain ⟨q1, q2, q3, q4⟩ := h5.2.2.1.2.2.1 L.length (Int.natCast_nonneg _) (by omega)
    rw [h7] at q1 q2 q3 q4
    have pg := X2.1.pg.1.1
    rw [X2.2.2.1.2.1, g_X3 L2 X.1.lay.2.2.2, q3, pg]
    refine z_gd rfl (z_gd rfl (z_pt ?_))
    have cA : cel r.2 b A := ⟨q1, Or.inl q4⟩
    have ad3 : ADV h b a y pn (up r.2 A 4 (V 23 0)) pn' := adv_put hb ha y2 ad2 (GW_A cA) (by omega) (by omega) (by omega)
    have L3 := ((ad3.ev X).1.lay).1
    obtain ⟨p1, p2, p3⟩ := g_X14_34 L3 hb
    have e36 : up r.2 A 4 (V 23 0) b 36 = (N.length : Int) + 1 := by rw [up_a (by omega), h6 _ _ (fun z => by unfold pnW fpW at z; omega), F1 _ _ (by omega)]; exact em
    simp only [p1, p2, p3, e36]
    rw [e32 (x := (N.length : Int) + 1 - 1) (by omega) (by omega), show (N.length : Int) + 1 - 1 = N.length by omega]
    refine z_gd ⟨by decide, Int.natCast_nonneg _, n1⟩ (z_pt (z_some (Or.inl ?_)))
    have ad4 : ADV h b a y pn (up (up r.2 A 4 (V 23 0)) (b + 35) N.length A) pn' := adv_put hb ha y2 ad3 (GW_r (by omega) (by omega) (Int.natCast_nonneg _)) (by omega) (by omega) (by omega)
    have kq : ∀ q, q ≠ A → q ≠ b + 35 → up (up r.2 A 4 (V 23 0)) (b + 35) N.length A q = r.2 q := fun q z1 z2 => by rw [up_row z2, up_row z1]
    have kA : ∀ j, j ≠ 4 → up (up r.2 A 4 (V 23 0)) (b + 35) N.length A A j = r.2 A j := fun j hj => by rw [up_a (by omega), up_j hj]
    have k4 : up (up r.2 A 4 (V 23 0)) (b + 35) N.length A A 4 = V 23 0 := by rw [up_a (by omega), up_s]
    have k35 : up (up r.2 A 4 (V 23 0)) (b + 35) N.length A (b + 35) N.length = A := up_s _ _ _ _
    have k35' : ∀ i, i ≠ (N.length : Int) → up (up r.2 A 4 (V 23 0)) (b + 35) N.length A (b + 35) i = r.2 (b + 35) i := fun i hi => by rw [up_j hi, up_a (by omega)]
    have F4 : F2 (enW b y) h (up (up r.2 A 4 (V 23 0)) (b + 35) N.length A) := (((F1.mono (V := enW b y) (fun q j z => Or.inr (Or.inl z))).trans (h6.mono (fun q j z => Or.inl z))).put (Or.inl (Or.inr (Or.inl q1)))).put (Or.inr (Or.inr ⟨rfl, Int.natCast_nonneg _⟩))
    generalize up (up r.2 A 4 (V 23 0)) (b + 35) N.length A = g4 at ad4 kq kA k4 k35 k35' F4 ⊢
    have e1_ := kq (b + 1) (by omega) (by omega)
    have e15 := kq (b + 15) (by omega) (by omega)
    have mm3 : r.2 (b + 1) 3 ≤ g4 (b + 1) 3 := by rw [e1_]; exact Int.le_refl _
    have mm12 : r.2 (b + 1) 12 ≤ g4 (b + 1) 12 := by rw [e1_]; exact Int.le_refl _
    have kb : ∀ j, j ≠ 9 → g4 b j = g1 b j := fun j hj => by rw [kq b (by omega) (by omega), h6 _ _ (fun z => by unfold pnW fpW at z; omega)]
    have kr : ∀ q, (b + 16 ≤ q ∧ q ≤ b + 34) ∨ q = 279 → g4 q = g1 q := fun q hq => by rw [kq q (by omega) (by omega), h6.row (fun j z => by unfold pnW fpW at z; omega)]
    refine ⟨pn', rfl, ad4, F4, by dsimp only; rw [kb 46 (by decide)]; exact v1, h13.kept (fun k k0 k1 => kq _ (by omega) (by omega)), L ++ [(t.1, e, 2, 0, w)], li.note, ⟨⟨?_, ?_⟩, ?_, ?_, ?_, ?_⟩, ?_⟩
    · dsimp only
      rw [e1_, ltS_app, List.length_append, List.length_singleton, kq b (by omega) (by omega)]
      exact ⟨h14, by omega, h15, h3, h16, by dsimp only; omega⟩
    · intro j j0 j1
      rw [List.length_append, List.length_singleton] at j1
      dsimp only
      rw [e15]
      by_cases hj : j < L.length
      · obtain ⟨n1, n3⟩ := h9 j j0 hj
        obtain ⟨c1, c2, c3, c4⟩ := h5.2.2.1.2.2.1 j j0 (by omega)
        have dn := h5.2.2.1.2.2.2.2 j L.length j0 hj (by omega)
        rw [h7] at dn
        rw [pgAt_old j0 hj]
        exact n3.kept (fun i _ => by rw [kq _ dn (by omega)]) mm3 mm12 (fun q i z0 z1 _ => by rw [kq q (by omega) (by omega)]) (fun q i z0 z1 _ => by rw [kq q (by omega) (by omega)])
      · have : j = L.length := by omega
        rw [this, h7, pgAt_new rfl]
        refine ⟨h10.kept (fun i hi => kA i (by omega)) mm3 mm12 (fun q i z0 z1 _ => by rw [kq q (by omega) (by omega)]) (fun q i z0 z1 _ => by rw [kq q (by omega) (by omega)]), ⟨fun z => absurd z (by show ¬ (2 : Int) = 0; decide), fun z => absurd z (by show ¬ (2 : Int) = 1; decide), fun _ => ⟨?_, ?_, ?_⟩⟩, G.1, ne⟩
        · rw [k4, ew]
        · rw [kA 5 (by decide)]; exact h11
        · rw [kA 6 (by decide)]; exact h12
    · exact FSL.2.1.more (by dsimp only; rw [kb 11 (by decide)]) (kr _ (by omega)) (fun j j0 j1 => by dsimp only; rw [e15]; exact (h9 j j0 j1).1)
    · exact FSL.2.2.1.kept (by dsimp only; rw [kb 26 (by decide)]) (kr _ (by omega)) (kr _ (by omega))
    · dsimp only; rw [kb 45 (by decide)]; exact FSL.2.2.2.1
    · exact FSL.2.2.2.2.kept (by dsimp only; rw [kb 44 (by decide)]) (kr _ (by omega))
    · refine FNL.both (fun i i0 i1 => ?_) (fun j j0 j1 => by dsimp only; rw [e15]; exact (h9 j j0 j1).1) ?_
      · dsimp only
        rw [k35' i (by omega)]
        exact h6 _ _ (fun z => by unfold pnW fpW at z; omega)
      · dsimp only; rw [k35, e15, h7]
  · refine Or.inr ⟨h2.ne, z_some (Or.inr ⟨?_, (h2.after hb ha y2 ad1).r1⟩)⟩
    unfold TOO
    rw [ltS_app, List.length_append, List.length_singleton]
    have l1 := li.1
    have l2 := li.2.1
    dsimp only
    rcases h1 with z | z | z
    · exact Or.inl (by omega)
    · exact Or.inr (Or.inl (by omega))
    · exact Or.inr (Or.inr ⟨_, Or.inr (List.mem_append_right _ (List.mem_singleton.mpr rfl)), z⟩)
