-- needs: 99zzzzzu
set_option maxRecDepth 100000
/-! NOTES: where they begin (component), all of it -/
theorem gt_gw {h : Hp} {b a y t : Int} (ht : t ∈ in_aX12) : ∀ q j, gtW b a t q j → GW h b a y q j := fun q j z => by
  have ht' := aX12 ht
  unfold gtW txW at z
  unfold GW
  rcases z with (z | z) | z | z | z | z | z | z | z
  · exact GW_t (by omega) (by omega) z.2.1
  · exact Or.inr (Or.inr (Or.inr (Or.inr (Or.inr (Or.inr (Or.inr (Or.inl ⟨by omega, by omega, z.2.2, Or.inr (by omega)⟩)))))))
  · rw [z.1]; exact GW_b (by omega)
  · exact Or.inr (Or.inr (Or.inr (Or.inr (Or.inr (Or.inr (Or.inr (Or.inr (Or.inr (Or.inr (Or.inr (Or.inr (Or.inl z))))))))))))
  · exact Or.inr (Or.inr (Or.inr (Or.inr (Or.inr (Or.inr (Or.inr (Or.inr (Or.inr (Or.inr (Or.inr (Or.inr (Or.inr (Or.inl z)))))))))))))
  · exact Or.inr (Or.inr (Or.inr (Or.inr (Or.inr (Or.inr (Or.inr (Or.inr (Or.inr (Or.inr (Or.inr (Or.inr (Or.inr (Or.inr (Or.inl z))))))))))))))
  · exact Or.inr (Or.inr (Or.inr (Or.inr (Or.inr (Or.inr (Or.inr (Or.inr (Or.inl z))))))))
  · exact Or.inr (Or.inr (Or.inr (Or.inr (Or.inr (Or.inr (Or.inr (Or.inr (Or.inr (Or.inl z)))))))))
  · exact Or.inr (Or.inr (Or.inr (Or.inr (Or.inr (Or.inr (Or.inl ⟨by omega, z.2.1, z.2.2⟩))))))
def nbW (b a : Int) : Int → Int → Prop := fun q j => gtW b a 261 q j ∨ gtW b a 269 q j ∨ (q = b ∧ (j = 36 ∨ j = 46)) ∨ (q = b + 34 ∧ 0 ≤ j)
theorem nb_gw {h : Hp} {b a y : Int} : ∀ q j, nbW b a q j → GW h b a y q j := fun q j z => by
  unfold nbW at z
  rcases z with z | z | z | z
  · exact gt_gw (by decide) q j z
  · exact gt_gw (by decide) q j z
  · rw [z.1]; exact GW_b (by omega)
  · exact GW_r (by omega) (by omega) z.2
theorem nb_n {b a : Int} (hb : b ∈ in_aX14) (ha : a ∈ in_aX7) : (∀ j, ¬ nbW b a 0 j) ∧ (∀ j, ¬ nbW b a (b + 15) j) ∧ ∀ A j, 983 ≤ A → ¬ nbW b a A j := by
  have hb' := rX14 hb
  have ha' := rX7 ha
  refine ⟨fun j z => ?_, fun j z => ?_, fun A j hA z => ?_⟩ <;> (unfold nbW gtW txW at z; omega)
/-- notes of so many; limits of a note's begin -/
def NBQ (S Y V Q h : Hp) (b a E e m : Int) (s : TXT × Int) (TK : List (Int × Int × Int)) (r : (Int × Int) × Hp) : Prop :=
  (r.1 = (0, 0) ∧ m < 120 ∧ F2 (nbW b a) h r.2 ∧ txC r.2 261 (tzL 1 (szF V (S 7 e)) s (decL (m + 1).toNat)).1 ∧ r.2 b 27 = (tzL 1 (szF V (S 7 e)) s (decL (m + 1).toNat)).2 ∧ txC r.2 269 (tzL 0 (szF V e) (([], -1), 0) (decL (m + 1).toNat ++ [32] ++ ofB S V Q E e ++ lbS Y V e)).1 ∧ tkC r.2 b (TK ++ (if fdX S e [111, 102] < 0 then [] else ofK V e (byI S E (fdV S e (fdX S e [111, 102]))))) ∧ r.2 b 46 = 1 ∧ r.2 b 36 = m + 1 ∧ r.2 (b + 34) m = e ∧ ∀ i, i ≠ m → r.2 (b + 34) i = h (b + 34) i) ∨
  ((120 ≤ m ∨ 24000 < ((tzL 1 (szF V (S 7 e)) s (decL (m + 1).toNat)).1.1.length : Int) ∨ 24000 < ((tzL 0 (szF V e) (([], -1), 0) (decL (m + 1).toNat ++ [32] ++ ofB S V Q E e ++ lbS Y V e)).1.1.length : Int)) ∧ TH (nbW b a) h r)
theorem ofB_t {S V Q : Hp} {E e : Int} : ofB S V Q E e = if fdX S e [111, 102] < 0 then [] else ofT V Q (byI S E (fdV S e (fdX S e [111, 102]))) ++ [32] := by
  unfold ofB ofT tgt
  by_cases h : fdX S e [111, 102] < 0
  · rw [if_pos h, if_pos h]
  · rw [if_neg h, if_neg h, if_neg h]
    generalize byI S E (fdV S e (fdX S e [111, 102])) = t
    by_cases h1 : t < 0
    · rw [if_pos h1, if_pos (by decide), if_pos (Or.inl h1)]
    · rw [if_neg h1]
      by_cases h2 : V 31 t = 0
      · rw [if_pos h2, if_pos (by decide), if_pos (Or.inr h2)]
      · rw [if_neg h2, if_neg h1, if_neg (show ¬ (t < 0 ∨ V 31 t = 0) by omega)]
theorem tzL_0 {z : Int} : ∀ (L : List Int) (s : TXT) (o o' : Int), (tzL 0 z (s, o) L).1 = (tzL 0 z (s, o') L).1 ∧ (tzL 0 z (s, o) L).2 = o
  | [], s, o, o' => ⟨rfl, rfl⟩
  | c :: L, s, o, o' => by
    have e : ∀ o, tzP 0 z (s, o) c = (txP s c z (-1), o) := fun o => by unfold tzP; dsimp only; rw [if_pos rfl, if_pos (Or.inl rfl)]
    show (tzL 0 z (tzP 0 z (s, o) c) L).1 = (tzL 0 z (tzP 0 z (s, o') c) L).1 ∧ (tzL 0 z (tzP 0 z (s, o) c) L).2 = o
    rw [e, e]
    exact tzL_0 L _ o o'
/-- the head of a note and its label come to the note -/
theorem c_note156 {S Y V h g : Hp} {b a sa ya E M e : Int} {L : List Int} {TK : List (Int × Int × Int)} (K : KTR S Y V g a sa ya E M) (hb : b ∈ in_aX14) (B : bkX g b a sa ya) (rm : RM g 1 6) (F : F2 (nbW b a) h g) (D : bsL g 273 L) (X : txC g 269 ([], -1)) (T : tkC g b TK) (e46 : g b 46 = 1) (e0 : 0 ≤ e) (e1 : e < E) (by_ : ∀ c ∈ L, 0 ≤ c ∧ c ≤ 127) (ll : L.length ≤ 2000) (o0 : 0 ≤ g b 27 ∧ g b 27 ≤ 800000000) :
    Pz (m_X14_beginNote_j156 273 e b g) (fun r => (r.1 = (0, 0) ∧ F2 (fun q j => glW b a 269 q j) g r.2 ∧ txC r.2 269 (tzL 0 (szF V e) (([], -1), 0) (L ++ lbS Y V e)).1 ∧ r.2 b 27 = g b 27) ∨ (24000 < ((tzL 0 (szF V e) (([], -1), 0) (L ++ lbS Y V e)).1.1.length : Int) ∧ TH (fun q j => glW b a 269 q j) g r)) := by
  obtain ⟨hL, ha, hs, hy⟩ := K.lay
  have hb' := rX14 hb
  have ha' := rX7 ha
  have b0 : g b 0 = 256 := (ly_X14 hL hb).2.1.1
  have z0 := K.vr.2 e e1
  unfold m_X14_beginNote_j156
  rw [b0, g_X10 hL, q_prop14 K B (by omega) e1 (by decide) (by decide) (by decide), Option.bind_some, (g_X10_3 hL).1]
  refine z_gd rfl (z_bT (z_mono (c_putAll14 (n := 0) (s := (([], -1), g b 27)) hL (by decide) hb m273 (Or.inl rfl) (by rw [show (273 : Int) + 1 = 274 from rfl, g_274 hL]; omega) rm X D by_ (by omega) rfl (by dsimp only; omega)) (fun r hr => ?_)))
  have key : ∀ M', (tzL 0 (ofV (V 24) e 1) (([], -1), g b 27) M').1 = (tzL 0 (szF V e) (([], -1), 0) M').1 ∧ (tzL 0 (ofV (V 24) e 1) (([], -1), g b 27) M').2 = g b 27 := fun M' => tzL_0 M' _ _ _
  rcases hr with ⟨a1, a2, a3, a4⟩ | ⟨a1, a2⟩
  · left
    rw [a1]
    refine ⟨rfl, ?_⟩
    have K1 := pb_kx K hb (by decide) a2
    have B1 : bkX r.2 b a sa ya := by
      unfold bkX
      rw [a2 _ _ (fun z => by unfold pbW txW at z; omega), a2 _ _ (fun z => by unfold pbW txW at z; omega), a2 _ _ (fun z => by unfold pbW txW at z; omega)]; exact B
    have rm1 := pb_rm rm (by decide) hb a2
    have e46' : r.2 b 46 = 1 := by rw [a2 _ _ (fun z => by unfold pbW txW at z; omega)]; exact e46
    have et : tOf r.2 b = 269 := by unfold tOf; rw [e46', if_neg (by decide)]
    have en : nOf r.2 b = 0 := by unfold nOf; rw [e46', if_neg (by decide)]
    have ln := tzL_len (n := 0) (z := ofV (V 24) e 1) L (([], -1), g b 27)
    have lb := c_label14 (e := e) (s := tzL 0 (ofV (V 24) e 1) (([], -1), g b 27) L) K1 hb B1 rm1 (by rw [et]; exact a3) e0 e1 (by omega) a4 (by rw [(key L).2]; omega)
    rw [et, en] at lb
    refine z_bT (z_mono lb (fun r' hr' => ?_))
    rcases hr' with ⟨c1, c2, c3, c4⟩ | ⟨c1, c2⟩
    · rw [← tzL_app] at c3 c4
      rw [(key _).1] at c3
      rw [(key _).2] at c4
      exact Or.inl ⟨by rw [c1], z_some (Or.inl ⟨rfl, (a2.mono pb_gl).trans c2, c3, c4⟩)⟩
    · rw [← tzL_app, (key _).1] at c1
      exact Or.inr ⟨by rw [c2.one]; decide, z_some (Or.inr ⟨c1, (TH.after (a2.mono pb_gl) (by rw [(pb_00 (by decide) hb a2).1]; exact Int.le_refl _) c2).r1⟩)⟩
  · refine Or.inr ⟨by rw [a2.one]; decide, z_some (Or.inr ⟨?_, (a2.mono pb_gl).r1⟩)⟩
    have : (tzL 0 (szF V e) (([], -1), 0) (L ++ lbS Y V e)).1 = (tzL 0 (ofV (V 24) e 1) (([], -1), g b 27) (L ++ lbS Y V e)).1 := ((key _).1).symm
    rw [this, tzL_app]
    have l2 := (tzL_len (n := 0) (z := ofV (V 24) e 1) (lbS Y V e) (tzL 0 (ofV (V 24) e 1) (([], -1), g b 27) L)).1
    omega
