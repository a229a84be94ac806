set_option maxRecDepth 100000
/-! TREES: the relations of elements -/
theorem aX24 {l : Int} (h : l ∈ in_aX24) : 622 ≤ l ∧ l ≤ 826 ∧ l + 1 ∈ in_aX23 := by
  simp only [in_aX24, List.mem_cons, List.not_mem_nil, or_false] at h
  rcases h with rfl | rfl | rfl <;> decide
def trW (l : Int) : Int → Int → Prop := fun b j => crW (l + 1) b j ∨ (l + 22 ≤ b ∧ b ≤ l + 48 ∧ b ≠ l + 47 ∧ 0 ≤ j) ∨ (b = l ∧ (j = 28 ∨ j = 29))
theorem trW_l {h h' : Hp} {l : Int} (hL : LAY h) (hl : l ∈ in_aX24) (f : F2 (trW l) h h') : LAY h' := by
  have key : ∀ b j, trW l b j → 0 ≤ j ∧ ((∃ r ∈ [(l + 2, l + 17), (l + 22, l + 46), (l + 48, l + 48)], r.1 ≤ b ∧ b ≤ r.2) ∨ ∃ e ∈ [(l + 1, [1, 2, 3, 4, 5]), (l, [28, 29])], b = e.1 ∧ j ∈ e.2) := by
    intro b j z
    have j0 : 0 ≤ j := by unfold trW crW at z; omega
    refine ⟨j0, ?_⟩
    rcases z with (⟨rfl, z⟩ | ⟨z1, z2, -⟩) | ⟨z1, z2, z3, -⟩ | ⟨rfl, z⟩
    · exact Or.inr ⟨(l + 1, [1, 2, 3, 4, 5]), by simp, rfl, by simp; omega⟩
    · exact Or.inl ⟨(l + 2, l + 17), by simp, by dsimp only; omega, by dsimp only; omega⟩
    · by_cases hb : b = l + 48
      · exact Or.inl ⟨(l + 48, l + 48), by simp, by dsimp only; omega, by dsimp only; omega⟩
      · exact Or.inl ⟨(l + 22, l + 46), by simp, by dsimp only; omega, by dsimp only; omega⟩
    · exact Or.inr ⟨(b, [28, 29]), by simp, rfl, by simp; omega⟩
  refine lay_W hL f _ _ ?_ ?_ key
  · simp only [in_aX24, List.mem_cons, List.not_mem_nil, or_false] at hl
    rcases hl with rfl | rfl | rfl <;> decide +kernel
  · simp only [in_aX24, List.mem_cons, List.not_mem_nil, or_false] at hl
    rcases hl with rfl | rfl | rfl <;> decide +kernel
/-- what is told of S that the relations need -/
def PW (P : Int → Int) (E : Int) : Prop := 0 ≤ E ∧ E ≤ 500 ∧ ∀ e, 0 ≤ e → e < E → -1 ≤ P e ∧ P e < e
theorem cuP_step {I A P : Int → Int} {k : Nat} : cuP I A P (k + 1) = if I k = 1 then A k else if I k = 2 then P (cuP I A P k) else cuP I A P k := rfl
theorem flP_step {I A P : Int → Int} {x : Int} {k : Nat} : flP I A P x (k + 1) = if cuP I A P k = x ∧ I k ≠ 2 then 1 else flP I A P x k := rfl
theorem t_rel1 {h : Hp} {l E : Int} (hL : LAY h) (hl : l ∈ in_aX24) (eE : h (l + 1) 3 = E) (E0 : 0 ≤ E) (E5 : E ≤ 500) : Pz (lp (fun (q : Int × Hp) => m_X24_relations_l2 l q.1 q.2) (0, h)) (fun h' => F2 (fun b j => l + 42 ≤ b ∧ b ≤ l + 43 ∧ 0 ≤ j) h h' ∧ ∀ k, 0 ≤ k → k ≤ E → h' (l + 42) k = 0 ∧ h' (l + 43) k = -1) := by
  have h24 := aX24 hl
  refine z_lp (fun (s : Int × Hp) => 0 ≤ s.1 ∧ s.1 ≤ E + 1 ∧ F2 (fun b j => l + 42 ≤ b ∧ b ≤ l + 43 ∧ 0 ≤ j) h s.2 ∧ ∀ k, 0 ≤ k → k < s.1 → s.2 (l + 42) k = 0 ∧ s.2 (l + 43) k = -1) (fun s => (E + 1 - s.1).toNat) ⟨Int.le_refl _, by dsimp only; omega, F2.refl, fun k z0 z1 => by dsimp only at z1; omega⟩ ?_
  rintro ⟨x, q⟩ ⟨x0, x1, Fq, Eq⟩
  dsimp only at x0 x1 Eq
  replace Fq : F2 (fun b j => l + 42 ≤ b ∧ b ≤ l + 43 ∧ 0 ≤ j) h q := Fq
  have Lq : LAY q := trW_l hL hl (Fq.mono (fun b j z => by unfold trW crW; omega))
  have qE : q (l + 1) 3 = E := by rw [Fq _ _ (by omega)]; exact eE
  show Pz (m_X24_relations_l2 l x q) _
  unfold m_X24_relations_l2
  simp only [g_X24_0 Lq hl, (ly_X23 Lq h24.2.2).1, qE]
  refine z_gd trivial ?_
  by_cases hx : E < x
  · exact z_it hx (z_some ⟨Fq, fun k k0 k1 => Eq k k0 (by omega)⟩)
  · refine z_ie hx ?_
    simp only [g_X24_21 Lq hl]
    refine z_gd ⟨by decide, x0, by omega⟩ (z_pt ?_)
    (try simp (disch := omega) only [up_a, up_e, up_j, e32, e8, g_X24_22 Lq hl])
    refine z_gd ⟨by decide, x0, by omega⟩ (z_pt (z_lt (z_some ⟨⟨by dsimp only; omega, by dsimp only; omega, (Fq.put (by omega)).put (by omega), fun k k0 k1 => ?_⟩, by dsimp only; omega⟩)))
    dsimp only at k1 ⊢
    by_cases hk : k = x
    · subst hk
      constructor
      · (try simp (disch := omega) only [up_a, up_e, up_j, e32, e8])
      · (try simp (disch := omega) only [up_a, up_e, up_j, e32, e8])
    · rw [up_i hk, up_i hk, up_i hk, up_i hk]
      exact Eq k k0 (by omega)
theorem t_rel2 {h : Hp} {l E : Int} {P : Int → Int} (hL : LAY h) (hl : l ∈ in_aX24) (eE : h (l + 1) 3 = E) (W : PW P E) (eP : ∀ e, 0 ≤ e → e < E → h (l + 8) e = P e) (z0 : ∀ k, 0 ≤ k → k ≤ E → h (l + 42) k = 0 ∧ h (l + 43) k = -1) :
    Pz (lp (fun (q : Int × Hp) => m_X24_relations_l35 l q.1 q.2) (0, h)) (fun h' => F2 (fun b j => l + 40 ≤ b ∧ b ≤ l + 44 ∧ 0 ≤ j) h h' ∧ (∀ k, 0 ≤ k → k ≤ E → h' (l + 42) k = cntP P (k - 1) E.toNat) ∧ ∀ e, 0 ≤ e → e < E → h' (l + 40) e = latP P (P e) e.toNat ∧ h' (l + 41) e = cntP P (P e) e.toNat + 1 ∧ h' (l + 44) e = 0) := by
  have h24 := aX24 hl
  obtain ⟨E0, E5, W⟩ := W
  refine z_lp (fun (s : Int × Hp) => 0 ≤ s.1 ∧ s.1 ≤ E ∧ F2 (fun b j => l + 40 ≤ b ∧ b ≤ l + 44 ∧ 0 ≤ j) h s.2 ∧ (∀ k, 0 ≤ k → k ≤ E → s.2 (l + 42) k = cntP P (k - 1) s.1.toNat ∧ s.2 (l + 43) k = latP P (k - 1) s.1.toNat) ∧ ∀ e, 0 ≤ e → e < s.1 → s.2 (l + 40) e = latP P (P e) e.toNat ∧ s.2 (l + 41) e = cntP P (P e) e.toNat + 1 ∧ s.2 (l + 44) e = 0) (fun s => (E - s.1).toNat) ⟨Int.le_refl _, E0, F2.refl, fun k k0 k1 => z0 k k0 k1, fun k z0 z1 => by dsimp only at z1; omega⟩ ?_
  rintro ⟨x, q⟩ ⟨x0, x1, Fq, Eq, Gq⟩
  dsimp only at x0 x1 Eq Gq
  replace Fq : F2 (fun b j => l + 40 ≤ b ∧ b ≤ l + 44 ∧ 0 ≤ j) h q := Fq
  have Lq : LAY q := trW_l hL hl (Fq.mono (fun b j z => by unfold trW crW; omega))
  have qE : q (l + 1) 3 = E := by rw [Fq _ _ (by omega)]; exact eE
  show Pz (m_X24_relations_l35 l x q) _
  unfold m_X24_relations_l35
  simp only [g_X24_0 Lq hl, (ly_X23 Lq h24.2.2).1, qE]
  refine z_gd trivial ?_
  by_cases hx : E ≤ x
  · have : x = E := by omega
    subst this
    exact z_it hx (z_some ⟨Fq, fun k k0 k1 => (Eq k k0 k1).1, Gq⟩)
  · refine z_ie hx ?_
    have k11 := g_X23_11 Lq h24.2.2
    have qP : q (l + 8) x = P x := by rw [Fq _ _ (by omega)]; exact eP x x0 (by omega)
    have w := W x x0 (by omega)
    have e1 := Eq (P x + 1) (by omega) (by omega)
    rw [show P x + 1 - 1 = P x by omega] at e1
    have c := cntP_r (P := P) (x := P x) x.toNat
    rw [show l + 1 + 7 = l + 8 by omega] at k11
    simp only [k11, qP]
    refine z_gd ⟨by decide, x0, by omega⟩ (z_lt ?_)
    rw [e32 (x := P x + 1) (by omega) (by omega)]
    simp only [g_X24_22 Lq hl, g_X24_19 Lq hl, e1.2]
    refine z_gd ⟨by decide, by omega, by omega⟩ (z_gd ⟨by decide, x0, by omega⟩ (z_pt ?_))
    (try simp (disch := omega) only [up_a, up_e, up_j, e32, e8, g_X24_22 Lq hl])
    refine z_gd ⟨by decide, by omega, by omega⟩ (z_pt ?_)
    (try simp (disch := omega) only [up_a, up_e, up_j, e32, e8, g_X24_21 Lq hl, e1.1])
    refine z_gd ⟨by decide, by omega, by omega⟩ (z_pt ?_)
    (try simp (disch := omega) only [up_a, up_e, up_j, e32, e8, g_X24_21 Lq hl, g_X24_20 Lq hl])
    refine z_gd ⟨by decide, by omega, by omega⟩ (z_gd ⟨by decide, x0, by omega⟩ (z_pt ?_))
    (try simp (disch := omega) only [up_a, up_e, up_j, e32, e8, g_X24_23 Lq hl])
    refine z_gd ⟨by decide, x0, by omega⟩ (z_pt (z_lt (z_some ⟨⟨by dsimp only; omega, by dsimp only; omega, ?_, fun k k0 k1 => ?_, fun e e0 e1' => ?_⟩, by dsimp only; omega⟩)))
    · refine Fq.trans ?_
      repeat' first
        | exact F2.refl
        | refine F2.put ?_ (by omega)
    · dsimp only
      have tx : (x + 1).toNat = x.toNat + 1 := by omega
      have ex : ((x.toNat : Nat) : Int) = x := by omega
      have ek := Eq k k0 k1
      rw [tx]
      show _ = cntP P (k - 1) x.toNat + (if P (x.toNat : Int) = k - 1 then 1 else 0) ∧ _ = (if P (x.toNat : Int) = k - 1 then (x.toNat : Int) else latP P (k - 1) x.toNat)
      rw [ex]
      by_cases hk : k = P x + 1
      · subst hk
        rw [show P x + 1 - 1 = P x by omega, if_pos rfl, if_pos rfl]
        constructor
        · (try simp (disch := omega) only [up_a, up_e, up_j, e32, e8])
        · (try simp (disch := omega) only [up_a, up_e, up_j, e32, e8])
      · rw [if_neg (by omega), if_neg (by omega), Int.add_zero, ← ek.1, ← ek.2]
        constructor
        · (repeat rw [up_ne (by omega)])
        · (repeat rw [up_ne (by omega)])
    · dsimp only at e1' ⊢
      by_cases he : e = x
      · subst he
        refine ⟨?_, ?_, ?_⟩
        · (try simp (disch := omega) only [up_a, up_e, up_j, e32, e8])
        · (try simp (disch := omega) only [up_a, up_e, up_j, e32, e8])
        · (try simp (disch := omega) only [up_a, up_e, up_j, e32, e8])
      · have g := Gq e e0 (by omega)
        refine ⟨?_, ?_, ?_⟩
        · rw [← g.1]; (repeat rw [up_ne (by omega)])
        · rw [← g.2.1]; (repeat rw [up_ne (by omega)])
        · rw [← g.2.2]; (repeat rw [up_ne (by omega)])
/-- what is needed of the items -/
def IW (I A P : Int → Int) (E M : Int) : Prop := 0 ≤ M ∧ M ≤ 16000 ∧ (∀ m, 0 ≤ m → m < M → I m = 1 → 0 ≤ A m ∧ A m < E) ∧ (∀ m : Nat, (m : Int) ≤ M → -1 ≤ cuP I A P m ∧ cuP I A P m < E) ∧ ∀ m : Nat, (m : Int) < M → I m = 2 → 0 ≤ cuP I A P m
theorem t_rel3 {h : Hp} {l E M : Int} {I A P : Int → Int} (hL : LAY h) (hl : l ∈ in_aX24) (eM : h (l + 1) 2 = M) (W : PW P E) (V : IW I A P E M) (eP : ∀ e, 0 ≤ e → e < E → h (l + 8) e = P e) (eI : ∀ m, 0 ≤ m → m < M → h (l + 3) m = I m ∧ h (l + 4) m = A m) (z0 : ∀ e, 0 ≤ e → e < E → h (l + 44) e = 0) :
    Pz (lp (fun (q : Int × Int × Hp) => m_X24_relations_l116 l q.1 q.2.1 q.2.2) (-1, 0, h)) (fun h' => F2 (fun b j => b = l + 44 ∧ 0 ≤ j) h h' ∧ ∀ e, 0 ≤ e → e < E → h' (l + 44) e = flP I A P e M.toNat) := by
  have h24 := aX24 hl
  obtain ⟨E0, E5, W⟩ := W
  obtain ⟨M0, M1, V1, V2, V3⟩ := V
  refine z_lp (fun (s : Int × Int × Hp) => 0 ≤ s.2.1 ∧ s.2.1 ≤ M ∧ s.1 = cuP I A P s.2.1.toNat ∧ F2 (fun b j => b = l + 44 ∧ 0 ≤ j) h s.2.2 ∧ ∀ e, 0 ≤ e → e < E → s.2.2 (l + 44) e = flP I A P e s.2.1.toNat) (fun s => (M - s.2.1).toNat) ⟨Int.le_refl _, M0, rfl, F2.refl, fun e e0 e1 => z0 e e0 e1⟩ ?_
  rintro ⟨o, x, q⟩ ⟨x0, x1, eo, Fq, Eq⟩
  dsimp only at x0 x1 eo Eq
  replace Fq : F2 (fun b j => b = l + 44 ∧ 0 ≤ j) h q := Fq
  have Lq : LAY q := trW_l hL hl (Fq.mono (fun b j z => by unfold trW crW; omega))
  have qM : q (l + 1) 2 = M := by rw [Fq _ _ (by omega)]; exact eM
  show Pz (m_X24_relations_l116 l o x q) _
  unfold m_X24_relations_l116
  simp only [g_X24_0 Lq hl, (ly_X23 Lq h24.2.2).1, qM]
  refine z_gd trivial ?_
  by_cases hx : M ≤ x
  · have : x = M := by omega
    subst this
    exact z_it hx (z_some ⟨Fq, Eq⟩)
  · refine z_ie hx ?_
    have k6 := g_X23_6 Lq h24.2.2
    have k7 := g_X23_7 Lq h24.2.2
    have k11 := g_X23_11 Lq h24.2.2
    rw [show l + 1 + 2 = l + 3 by omega] at k6
    rw [show l + 1 + 3 = l + 4 by omega] at k7
    rw [show l + 1 + 7 = l + 8 by omega] at k11
    have qI : q (l + 3) x = I x := by rw [Fq _ _ (by omega)]; exact (eI x x0 (by omega)).1
    have qA : q (l + 4) x = A x := by rw [Fq _ _ (by omega)]; exact (eI x x0 (by omega)).2
    have tx : (x + 1).toNat = x.toNat + 1 := by omega
    have ex : ((x.toNat : Nat) : Int) = x := by omega
    have oo := V2 x.toNat (by omega)
    rw [← eo] at oo
    have key : ∀ (o' : Int) (q' : Hp), o' = cuP I A P (x + 1).toNat → F2 (fun b j => b = l + 44 ∧ 0 ≤ j) q q' → (∀ e, 0 ≤ e → e < E → q' (l + 44) e = flP I A P e (x + 1).toNat) → Pz (m_X24_relations_j201 x o' q') (sE (fun s => (0 ≤ s.2.1 ∧ s.2.1 ≤ M ∧ s.1 = cuP I A P s.2.1.toNat ∧ F2 (fun b j => b = l + 44 ∧ 0 ≤ j) h s.2.2 ∧ ∀ e, 0 ≤ e → e < E → s.2.2 (l + 44) e = flP I A P e s.2.1.toNat) ∧ (M - s.2.1).toNat < (M - x).toNat) (fun h' => F2 (fun b j => b = l + 44 ∧ 0 ≤ j) h h' ∧ ∀ e, 0 ≤ e → e < E → h' (l + 44) e = flP I A P e M.toNat)) := by
      intro o' q' e1 e2 e3
      unfold m_X24_relations_j201
      rw [lt_e, e32 (x := x + 1) (by omega) (by omega)]
      exact z_some ⟨⟨by dsimp only; omega, by dsimp only; omega, e1, Fq.trans e2, e3⟩, by dsimp only; omega⟩
    have fl : ∀ e, flP I A P e (x + 1).toNat = if o = e ∧ I x ≠ 2 then 1 else flP I A P e x.toNat := fun e => by
      rw [tx, flP_step, ex, ← eo]
    have cu : cuP I A P (x + 1).toNat = if I x = 1 then A x else if I x = 2 then P o else o := by
      rw [tx, cuP_step, ex, ← eo]
    -- marking
    have mk : 0 ≤ o → I x ≠ 2 → ∀ e, 0 ≤ e → e < E → up q (l + 44) o 1 (l + 44) e = flP I A P e (x + 1).toNat := fun o0 n2 e e0 e1 => by
      rw [fl]
      by_cases he : o = e
      · rw [if_pos ⟨he, n2⟩, he, up_s]
      · rw [if_neg (fun z => he z.1), up_j (fun z => he z.symm)]; exact Eq e e0 e1
    have no : (o < 0 ∨ I x = 2) → ∀ e, 0 ≤ e → e < E → q (l + 44) e = flP I A P e (x + 1).toNat := fun c e e0 e1 => by
      rw [fl, if_neg (by omega)]; exact Eq e e0 e1
    simp only [k6, qI]
    refine z_gd ⟨by decide, x0, by omega⟩ ?_
    by_cases i1 : I x = 1
    · refine z_ie (fun z => z i1) ?_
      have v := V1 x x0 (by omega) i1
      have j151 : ∀ q', F2 (fun b j => b = l + 44 ∧ 0 ≤ j) q q' → (∀ e, 0 ≤ e → e < E → q' (l + 44) e = flP I A P e (x + 1).toNat) → Pz (m_X24_relations_j151 l x q') (sE (fun s => (0 ≤ s.2.1 ∧ s.2.1 ≤ M ∧ s.1 = cuP I A P s.2.1.toNat ∧ F2 (fun b j => b = l + 44 ∧ 0 ≤ j) h s.2.2 ∧ ∀ e, 0 ≤ e → e < E → s.2.2 (l + 44) e = flP I A P e s.2.1.toNat) ∧ (M - s.2.1).toNat < (M - x).toNat) (fun h' => F2 (fun b j => b = l + 44 ∧ 0 ≤ j) h h' ∧ ∀ e, 0 ≤ e → e < E → h' (l + 44) e = flP I A P e M.toNat)) := by
        intro q' e2 e3
        have L' : LAY q' := trW_l Lq hl (e2.mono (fun b j z => by unfold trW crW; omega))
        have k7' := g_X23_7 L' h24.2.2
        rw [show l + 1 + 3 = l + 4 by omega] at k7'
        unfold m_X24_relations_j151
        simp only [g_X24_0 L' hl, (ly_X23 L' h24.2.2).1, k7', show q' (l + 4) x = A x by rw [e2 _ _ (by omega)]; exact qA]
        refine z_gd trivial (z_gd ⟨by decide, x0, by omega⟩ (z_lt ?_))
        exact key _ _ (by rw [cu, if_pos i1]) e2 e3
      by_cases oz : o < 0
      · exact z_it oz (j151 q F2.refl (no (Or.inl oz)))
      · refine z_ie oz ?_
        simp only [g_X24_23 Lq hl]
        refine z_gd ⟨by decide, by omega, by omega⟩ (z_pt (j151 _ (F2.refl.put ⟨rfl, by omega⟩) (mk (by omega) (by omega))))
    · refine z_it i1 ?_
      by_cases i2 : I x = 2
      · refine z_ie (fun z => z i2) ?_
        have v := V3 x.toNat (by omega) (by rw [ex]; exact i2)
        rw [← eo] at v
        simp only [k11, show q (l + 8) o = P o by rw [Fq _ _ (by omega)]; exact eP o v (by omega)]
        refine z_gd ⟨by decide, v, by omega⟩ (z_lt ?_)
        exact key _ _ (by rw [cu, if_neg i1, if_pos i2]) F2.refl (no (Or.inr i2))
      · refine z_it i2 ?_
        by_cases oz : o < 0
        · exact z_it oz (key _ _ (by rw [cu, if_neg i1, if_neg i2]) F2.refl (no (Or.inl oz)))
        · refine z_ie oz ?_
          simp only [g_X24_23 Lq hl]
          refine z_gd ⟨by decide, by omega, by omega⟩ (z_pt (key _ _ (by rw [cu, if_neg i1, if_neg i2]) (F2.refl.put ⟨rfl, by omega⟩) (mk (by omega) i2)))
