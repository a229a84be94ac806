-- needs: 99zzze
set_option maxRecDepth 100000
/-! BREAKS: the component notes them -/
theorem LAY.low {h h' : Hp} (hL : LAY h) (e : ∀ b j, b ≤ 982 → h' b j = h b j) : LAY h' := by
  refine ⟨by rw [e 0 0 (by decide)]; exact hL.1, fun k q hq => ?_, fun k q hq => ?_⟩
  · have := (kdT_ok q (List.mem_of_getElem? hq)).2
    rw [e _ _ this, e _ _ this]; exact hL.2.1 k q hq
  · have := (rfT_ok q (List.mem_of_getElem? hq)).2.1
    rw [e _ _ this, e _ _ this]; exact hL.2.2 k q hq
theorem lay_X {W : Int → Int → Prop} {h h' : Hp} (hL : LAY h) (f : F2 W h h') (A : List (Int × Int)) (O : List (Int × List Int)) (hA : A.all rgA = true) (hO : O.all rgO = true) (hW : ∀ b j, W b j → 983 ≤ b ∨ (0 ≤ j ∧ ((∃ r ∈ A, r.1 ≤ b ∧ b ≤ r.2) ∨ ∃ e ∈ O, b = e.1 ∧ j ∈ e.2))) : LAY h' := by
  have L1 : LAY (fun b j => if b ≤ 982 then h' b j else h b j) := by
    refine lay_W (W := fun b j => W b j ∧ b ≤ 982) hL (fun b j nb => ?_) A O hA hO (fun b j z => ?_)
    · by_cases hb : b ≤ 982
      · rw [if_pos hb]; exact f b j (fun z => nb ⟨z, hb⟩)
      · rw [if_neg hb]
    · rcases hW b j z.1 with w | w
      · omega
      · exact w
  exact L1.low (fun b j hb => (if_pos hb).symm)
def ppW (P R a : Int) : Int → Int → Prop := fun b j => (b = P ∧ (j = 15 ∨ j = 16)) ∨ (b = R ∧ j = 12) ∨ (R + 4 ≤ b ∧ b ≤ R + 11 ∧ 0 ≤ j) ∨ fpW a b j
theorem ppW_l {h h' : Hp} {P R a : Int} (hL : LAY h) (hR : R ∈ in_aX15) (ha : a ∈ in_aX9) (hP : 983 ≤ P) (f : F2 (ppW P R a) h h') : LAY h' := by
  refine lay_X hL f [(R + 4, R + 11), (a + 13, a + 13), (258, 258)] [(R, [12])] ?_ ?_ (fun b j z => ?_)
  · rcases aX9 ha with rfl | rfl <;> rcases aX15 hR with rfl | rfl | rfl <;> decide +kernel
  · rcases aX15 hR with rfl | rfl | rfl <;> decide +kernel
  · rcases z with z | z | z | z | z
    · exact Or.inl (by omega)
    · exact Or.inr ⟨by omega, Or.inr ⟨_, List.mem_cons_self, z.1, by rw [z.2]; exact List.mem_cons_self⟩⟩
    · exact Or.inr ⟨z.2.2, Or.inl ⟨_, List.mem_cons_self, z.1, z.2.1⟩⟩
    · exact Or.inr ⟨by omega, Or.inl ⟨_, List.mem_cons_of_mem _ List.mem_cons_self, by dsimp only; omega, by dsimp only; omega⟩⟩
    · exact Or.inr ⟨by omega, Or.inl ⟨_, List.mem_cons_of_mem _ (List.mem_cons_of_mem _ List.mem_cons_self), by dsimp only; omega, by dsimp only; omega⟩⟩
/-- breaks L are noted from β + 1 on -/
def bkC (h : Hp) (P R β : Int) (L : List (Int × Int)) : Prop := h P 15 = β ∧ h P 16 = L.length ∧ h R 12 = β + 1 + L.length ∧ ∀ b : Int, 1 ≤ b → b ≤ L.length → h (R + 4) (β + b) = (bkAt L b).1 ∧ h (R + 5) (β + b) = (bkAt L b).2 ∧ h (R + 6) (β + b) = bkN L b
theorem rmF {W : Int → Int → Prop} {h h' : Hp} {c s : Int} (r : RM h c s) (f : F2 W h h') (n0 : ∀ j, ¬ W 0 j) : RM h' c s := RM.F2 r f (n0 0) (n0 1)
theorem c_add28 {h : Hp} {P R β κ e x : Int} {L : List (Int × Int)} (hL : LAY h) (hR : R ∈ in_aX15) (hP : 983 ≤ P) (rm : RM h 1 6) (kP : h P (-2) = 288) (eR : h P 0 = R) (C : bkC h P R β L) (β0 : 0 ≤ β) (βn : β + L.length + 1 < 26400) (hx : x = if κ = 0 then e + 1 else e) :
    Pz (m_X28_add P κ e x h) (fun r => (r.1 = (0, 0) ∧ (L.length : Int) < 600 ∧ F2 (fun b j => (b = P ∧ j = 16) ∨ (b = R ∧ j = 12) ∨ (R + 4 ≤ b ∧ b ≤ R + 6 ∧ j = β + 1 + L.length)) h r.2 ∧ bkC r.2 P R β (L ++ [(κ, e)])) ∨ (600 ≤ (L.length : Int) ∧ ∃ g, F2 (fun b j => b = P ∧ j = 16) h g ∧ Thy 480 g r)) := by
  have hR' := aX15 hR
  obtain ⟨c1, c2, c3, c4⟩ := C
  have c0 : (L.length : Int) ≤ 26400 := by omega
  unfold m_X28_add
  refine z_pt ?_
  rw [c2, e32 (x := (L.length : Int) + 1) (by omega) (by omega), up_s]
  have rm1 : RM (up h P 16 ((L.length : Int) + 1)) 1 6 := rmF (W := fun b j => b = P ∧ j = 16) rm (F2.refl.put ⟨rfl, rfl⟩) (fun j z => by omega)
  have L1 : LAY (up h P 16 ((L.length : Int) + 1)) := hL.low (fun b j hb => up_a (by omega))
  by_cases hl : 600 < (L.length : Int) + 1
  · rw [if_pos hl]
    unfold m_X28_add_j25
    refine z_bT (c_room rm1 (fun z => absurd rfl z) (fun _ r r1 r2 r3 r4 r5 r6 r7 => Or.inr ⟨by omega, z_some (Or.inr ⟨by omega, _, F2.refl.put ⟨rfl, rfl⟩, rfl, r2, r3, r4, r5, r6, r7⟩)⟩))
  · rw [if_neg hl]
    unfold m_X28_add_j25
    refine z_bT (c_room rm1 (fun _ => Or.inl ⟨rfl, ?_⟩) (fun z => absurd z (by decide)))
    dsimp only
    have W1 : ∀ {g g' : Hp}, LAY g → F2 (fun b j => (b = P ∧ j = 16) ∨ (b = R ∧ j = 12) ∨ (R + 4 ≤ b ∧ b ≤ R + 6 ∧ j = β + 1 + L.length)) g g' → LAY g' := fun Lg f => by
      refine lay_X Lg f [(R + 4, R + 11)] [(R, [12])] ?_ ?_ (fun b j z => ?_)
      · rcases hR' with rfl | rfl | rfl <;> decide +kernel
      · rcases hR' with rfl | rfl | rfl <;> decide +kernel
      · rcases z with z | z | z
        · exact Or.inl (by omega)
        · exact Or.inr ⟨by omega, Or.inr ⟨_, List.mem_cons_self, z.1, by rw [z.2]; exact List.mem_cons_self⟩⟩
        · exact Or.inr ⟨by omega, Or.inl ⟨_, List.mem_cons_self, z.1, by dsimp only; omega⟩⟩
    have r0 : up h P 16 ((L.length : Int) + 1) P 0 = R := by rw [up_j (by decide)]; exact eR
    have g4 := g_X15_4 L1 hR
    have q12 : up h P 16 ((L.length : Int) + 1) R 12 = β + 1 + L.length := by rw [up_a (by omega)]; exact c3
    simp only [r0, g_X15 L1 hR, g4, q12]
    refine z_gd trivial (z_gd ⟨by decide, by omega, by omega⟩ (z_pt ?_))
    have L2 := W1 L1 (F2.refl.put (h' := up h P 16 ((L.length : Int) + 1)) (a := R + 4) (i := β + 1 + L.length) (v := κ) (Or.inr (Or.inr ⟨by omega, by omega, rfl⟩)))
    have r1 : up (up h P 16 ((L.length : Int) + 1)) (R + 4) (β + 1 + L.length) κ P 0 = R := by rw [up_a (by omega)]; exact r0
    have q1 : up (up h P 16 ((L.length : Int) + 1)) (R + 4) (β + 1 + L.length) κ R 12 = β + 1 + L.length := by rw [up_a (by omega)]; exact q12
    have g5 := g_X15_5 L2 hR
    simp only [r1, g_X15 L2 hR, g5, q1]
    refine z_gd trivial (z_gd ⟨by decide, by omega, by omega⟩ (z_pt ?_))
    have L3 := W1 L2 (F2.refl.put (a := R + 5) (i := β + 1 + L.length) (v := e) (Or.inr (Or.inr ⟨by omega, by omega, rfl⟩)))
    have r2 : up (up (up h P 16 ((L.length : Int) + 1)) (R + 4) (β + 1 + L.length) κ) (R + 5) (β + 1 + L.length) e P 0 = R := by rw [up_a (by omega)]; exact r1
    have q2 : up (up (up h P 16 ((L.length : Int) + 1)) (R + 4) (β + 1 + L.length) κ) (R + 5) (β + 1 + L.length) e R 12 = β + 1 + L.length := by rw [up_a (by omega)]; exact q1
    have g6 := g_X15_6 L3 hR
    simp only [r2, g_X15 L3 hR, g6, q2]
    refine z_gd trivial (z_gd ⟨by decide, by omega, by omega⟩ (z_pt ?_))
    have L4 := W1 L3 (F2.refl.put (a := R + 6) (i := β + 1 + L.length) (v := x) (Or.inr (Or.inr ⟨by omega, by omega, rfl⟩)))
    have r3 : up (up (up (up h P 16 ((L.length : Int) + 1)) (R + 4) (β + 1 + L.length) κ) (R + 5) (β + 1 + L.length) e) (R + 6) (β + 1 + L.length) x P 0 = R := by rw [up_a (by omega)]; exact r2
    have q3 : up (up (up (up h P 16 ((L.length : Int) + 1)) (R + 4) (β + 1 + L.length) κ) (R + 5) (β + 1 + L.length) e) (R + 6) (β + 1 + L.length) x R 12 = β + 1 + L.length := by rw [up_a (by omega)]; exact q2
    simp only [r3, g_X15 L4 hR, q3]
    rw [e32 (x := β + 1 + (L.length : Int) + 1) (by omega) (by omega)]
    refine z_gd trivial (z_pt (z_some (Or.inl ⟨rfl, by omega, ?_, ?_⟩)))
    · exact ((((F2.refl.put (Or.inl ⟨rfl, rfl⟩)).put (Or.inr (Or.inr ⟨by omega, by omega, rfl⟩))).put (Or.inr (Or.inr ⟨by omega, by omega, rfl⟩))).put (Or.inr (Or.inr ⟨by omega, by omega, rfl⟩))).put (Or.inr (Or.inl ⟨rfl, rfl⟩))
    · have ll : (((L ++ [(κ, e)]).length : Nat) : Int) = L.length + 1 := by rw [List.length_append]; rfl
      refine ⟨?_, ?_, ?_, fun b b0 b1 => ?_⟩ <;> dsimp only
      · rw [up_a (by omega), up_a (by omega), up_a (by omega), up_a (by omega), up_j (by decide)]; exact c1
      · rw [up_a (by omega), up_a (by omega), up_a (by omega), up_a (by omega), up_s, ll]
      · rw [up_s, ll]; omega
      · rw [ll] at b1
        by_cases hb : b ≤ L.length
        · obtain ⟨d1, d2, d3⟩ := c4 b b0 hb
          rw [bkAt_old b0 hb, bkN_old (by omega) hb]
          refine ⟨?_, ?_, ?_⟩
          · rw [up_a (by omega), up_a (by omega), up_a (by omega), up_j (by omega), up_a (by omega)]; exact d1
          · rw [up_a (by omega), up_a (by omega), up_j (by omega), up_a (by omega), up_a (by omega)]; exact d2
          · rw [up_a (by omega), up_j (by omega), up_a (by omega), up_a (by omega), up_a (by omega)]; exact d3
        · have eb : b = L.length + 1 := by omega
          have en : bkN (L ++ [(κ, e)]) b = x := by
            unfold bkN
            rw [if_neg (by omega), bkAt_last eb, hx]
          rw [bkAt_last eb, en, eb, show β + ((L.length : Int) + 1) = β + 1 + L.length by omega]
          refine ⟨?_, ?_, ?_⟩
          · rw [up_a (by omega), up_a (by omega), up_a (by omega), up_s]
          · rw [up_a (by omega), up_a (by omega), up_s]
          · rw [up_a (by omega), up_s]
