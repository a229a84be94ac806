-- needs: 99zzzzza
set_option maxRecDepth 100000
/-! GATHERING: references, by the component -/
def RFX (b a t n z : Int) (h : Hp) (s : TXT × Int) (L : List Int) (TK : List (Int × Int × Int)) (r : (Int × Int) × Hp) : Prop := (r.1 = (0, 0) ∧ F2 (gtW b a t) h r.2 ∧ txC r.2 t (tzL n z s L).1 ∧ r.2 b 27 = (tzL n z s L).2 ∧ tkC r.2 b TK) ∨ (24000 < ((tzL n z s L).1.1.length : Int) ∧ TH (gtW b a t) h r)
/-- the book as it stands while bytes are told -/
def gtC (h g : Hp) (b a t : Int) (s : TXT × Int) (L : List Int) (TK : List (Int × Int × Int)) : Prop := F2 (gtW b a t) h g ∧ txC g t s.1 ∧ g b 27 = s.2 ∧ bsL g 273 L ∧ tkC g b TK
theorem gt_flags {b a t : Int} {h g : Hp} (ht : t ∈ in_aX12) (hb : b ∈ in_aX14) (ha : a ∈ in_aX7) (f : F2 (gtW b a t) h g) : tOf g b = tOf h b ∧ nOf g b = nOf h b ∧ g b 46 = h b 46 ∧ g b 2 = h b 2 ∧ g b 3 = h b 3 ∧ g b 6 = h b 6 := by
  have ht' := rX12 ht
  have hb' := rX14 hb
  have ha' := rX7 ha
  have e : ∀ j, j ≠ 27 → j ≠ 53 → g b j = h b j := fun j j0 j1 => f _ _ (fun z => by unfold gtW txW at z; omega)
  unfold tOf nOf
  rw [e 46 (by decide) (by decide), e 47 (by decide) (by decide)]
  exact ⟨rfl, rfl, rfl, e 2 (by decide) (by decide), e 3 (by decide) (by decide), e 6 (by decide) (by decide)⟩
theorem gt_bk {b a t sa ya : Int} {h g : Hp} (ht : t ∈ in_aX12) (hb : b ∈ in_aX14) (ha : a ∈ in_aX7) (f : F2 (gtW b a t) h g) (B : bkX h b a sa ya) : bkX g b a sa ya := by
  obtain ⟨-, -, -, e1, e2, e3⟩ := gt_flags ht hb ha f
  unfold bkX
  rw [e1, e2, e3]
  exact B
theorem c_ref272 {S Y V h g : Hp} {b a sa ya E M e : Int} {s : TXT × Int} {L : List Int} {TK : List (Int × Int × Int)} (K : KTR S Y V h a sa ya E M) (hb : b ∈ in_aX14) (B : bkX h b a sa ya) (rm : RM h 1 6) (e0 : 0 ≤ e) (e1 : e < E) (z0 : 0 ≤ ofV (V 24) e 1) (o0 : 0 ≤ s.2 ∧ s.2 ≤ 900000000) (G : gtC h g b a (tOf h b) s L TK) (by_ : ∀ c ∈ L, 0 ≤ c ∧ c ≤ 127) (ll : L.length ≤ 20000) :
    Pz (m_X14_reference_j272 b e 273 g) (RFX b a (tOf h b) (nOf h b) (ofV (V 24) e 1) h s L TK) := by
  obtain ⟨F, X, eo, D, T⟩ := G
  have ht := tOf_m h b
  have ht' := rX12 ht
  have hb' := rX14 hb
  obtain ⟨hL, ha, hs, hy⟩ := K.lay
  have ha' := rX7 ha
  obtain ⟨f1, f2, f3, -⟩ := gt_flags ht hb ha F
  have Kg := gt_kx K hb ht F
  have Lg := Kg.lay.1
  have Bg := gt_bk ht hb ha F B
  have rmg := gt_rm rm ht hb ha F
  unfold m_X14_reference_j272
  rw [q_open14 Lg hb, Option.bind_some, f1, q_prop14 Kg Bg (by omega) e1 (by decide) (by decide) (by decide), Option.bind_some]
  have en : nOf h b = if h b 46 = 0 then 1 else 0 := rfl
  generalize tOf h b = t at *
  generalize ofV (V 24) e 1 = z at *
  generalize nOf h b = c at *
  have go : ∀ y, y = c → Pz (bT (m_X14_putAll b t 273 z y g) (fun _ h296 => some ((0, 0), h296)) (fun a_ h_ => some ((1, a_), h_))) (RFX b a t c z h s L TK) := by
    intro y hy
    rw [hy]
    refine z_bT (z_mono (c_putAll14 (n := c) (z := z) Lg ht hb m273 (Or.inl rfl) (by rw [show (273 : Int) + 1 = 274 from rfl, g_274 Lg]; omega) rmg X D by_ z0 eo (by omega)) (fun r hr => ?_))
    rcases hr with ⟨a1, a2, a3, a4⟩ | ⟨a1, a2⟩
    · exact Or.inl ⟨by rw [a1], z_some (Or.inl ⟨rfl, F.trans (a2.mono pb_gt), a3, a4, T.kept (a2 _ _ (fun z => by unfold pbW txW at z; omega)) (fun k k0 k1 => a2.row (fun j z => by unfold pbW txW at z; omega))⟩)⟩
    · exact Or.inr ⟨by rw [a2.one]; decide, z_some (Or.inr ⟨a1, (TH.after F (by rw [(gt_00 ht hb ha F).1]; exact Int.le_refl _) (a2.mono pb_gt)).r1⟩)⟩
  refine z_if (fun h1 => go 0 (by rw [en, if_neg (by rw [← f3]; exact h1)])) (fun h1 => go 1 (by rw [en, if_pos (by rw [← f3]; exact Classical.not_not.mp h1)]))
/-- the small bytes grow -/
theorem gtC.put {h g p' : Hp} {b a t : Int} {s : TXT × Int} {L A : List Int} {TK : List (Int × Int × Int)} (ht : t ∈ in_aX12) (hb : b ∈ in_aX14) (ha : a ∈ in_aX7) (G : gtC h g b a t s L TK) (f : F2 (tlW a 273) g p') (D : bsL p' 273 (L ++ A)) : gtC h p' b a t s (L ++ A) TK := by
  obtain ⟨F, X, eo, -, T⟩ := G
  have ht' := rX12 ht
  have hb' := rX14 hb
  have ha' := rX7 ha
  exact ⟨F.trans (f.mono tl_gt), X.kept (fun k k0 k1 => f.row (fun j z => by unfold tlW ttW b5W at z; omega)), by rw [f _ _ (fun z => by unfold tlW ttW b5W at z; omega)]; exact eo, D, T.kept (f _ _ (fun z => by unfold tlW ttW b5W at z; omega)) (fun k k0 k1 => f.row (fun j z => by unfold tlW ttW b5W at z; omega))⟩
theorem gtC.take {h g p' : Hp} {b a t : Int} {s : TXT × Int} {L : List Int} {TK TK' : List (Int × Int × Int)} (ht : t ∈ in_aX12) (hb : b ∈ in_aX14) (G : gtC h g b a t s L TK) (f : F2 (tnW b) g p') (D : tkC p' b TK') : gtC h p' b a t s L TK' := by
  obtain ⟨F, X, eo, D', T⟩ := G
  have ht' := rX12 ht
  have hb' := rX14 hb
  exact ⟨F.trans (f.mono tn_gt), X.kept (fun k k0 k1 => f.row (fun j z => by unfold tnW at z; omega)), by rw [f _ _ (fun z => by unfold tnW at z; omega)]; exact eo, D'.kept (f _ _ (fun z => by unfold tnW at z; omega)) (f.row (fun j z => by unfold tnW at z; omega)), D⟩
theorem b5_tl {a : Int} : ∀ q j, b5W 273 q j → tlW a 273 q j := fun q j z => Or.inl (Or.inl z)
/-- pages and lines as the book takes them -/
def qC (h Q : Hp) (b E : Int) : Prop := ∀ e, 0 ≤ e → e < E → h (b + 39) e = Q 0 e ∧ h (b + 40) e = Q 1 e ∧ h (b + 41) e = Q 2 e
theorem qC.kept {h g Q : Hp} {b E : Int} (q : qC h Q b E) (e : ∀ k, 39 ≤ k → k ≤ 41 → g (b + k) = h (b + k)) : qC g Q b E := by
  unfold qC at *
  rw [e 39 (by decide) (by decide), e 40 (by decide) (by decide), e 41 (by decide) (by decide)]
  exact q
theorem q_target14 {S Y V p : Hp} {b a sa ya E M t : Int} (K : KTR S Y V p a sa ya E M) (B : bkX p b a sa ya) (t1 : t < E) : m_X14_isTarget b t p = some (bI (decide (0 ≤ t ∧ V 31 t ≠ 0))) := by
  unfold m_X14_isTarget
  by_cases h : t < 0
  · rw [if_pos h, decide_eq_false (fun z => by omega)]; rfl
  · rw [if_neg h, B.1]
    obtain ⟨hL, ha, -⟩ := K.lay
    have k7 := g_X7_7 hL ha
    have E5 := K.rng.2.1
    have v : p (a + 5) t = V 31 t := by
      obtain ⟨n, N, s, F, n', N', s', C, ns, na, nsel, nb, nt, m, T⟩ := K
      exact (T.2.2.2.1.2.1 t (by omega) t1).2.2.1
    simp only [k7.1, k7.2.1, k7.2.2, v]
    rw [gd_t (g_X7 hL ha), gd_t ⟨by decide, by omega, by omega⟩]
    by_cases h0 : V 31 t = 0
    · rw [if_pos h0, decide_eq_false (fun z => z.2 h0)]; rfl
    · rw [if_neg h0, decide_eq_true ⟨by omega, h0⟩]; rfl
theorem c_num24 {p : Hp} {v : Int} {L : List Int} (hL : LAY p) (D : bsL p 273 L) (v0 : 0 ≤ v) (v1 : v ≤ 10000) (ll : L.length ≤ 20000) : Pz (m_X5_number 24 273 v p) (puts 273 p L (decL v.toNat)) := by
  have := c_num5 (b := 273) (cap := 24064) m273 4 24 v.toNat p L (by omega) (by decide) (by decide) hL D (by rw [show (273 : Int) + 1 = 274 from rfl]; exact g_274 hL) (by omega) (by decide)
  rw [show ((v.toNat : Nat) : Int) = v by omega] at this
  exact this
