-- needs: 99zzzf
set_option maxRecDepth 100000
/-! BREAKS: the component's loop -/
theorem bkL_mono {B : Int → Int} {hy : Int} {PL : Int → Prop} (k d : Nat) : (bkL B hy PL k).length ≤ (bkL B hy PL (k + d)).length := by
  induction d with
  | zero => exact Nat.le_refl _
  | succ d ih =>
    rw [show k + (d + 1) = (k + d) + 1 by omega, bkL_s, List.length_append]
    omega
theorem bkC.kept {h h' : Hp} {P R β : Int} {L : List (Int × Int)} (C : bkC h P R β L) (e1 : h' P 15 = h P 15) (e2 : h' P 16 = h P 16) (e3 : h' R 12 = h R 12) (e4 : ∀ b, R + 4 ≤ b → b ≤ R + 6 → h' b = h b) : bkC h' P R β L := by
  unfold bkC at *
  rw [e1, e2, e3, e4 (R + 4) (by omega) (by omega), e4 (R + 5) (by omega) (by omega), e4 (R + 6) (by omega) (by omega)]
  exact C
def blW (P R β : Int) : Int → Int → Prop := fun b j => (b = P ∧ j = 16) ∨ (b = R ∧ j = 12) ∨ (R + 4 ≤ b ∧ b ≤ R + 6 ∧ β + 1 ≤ j)
theorem blW_l {h h' : Hp} {P R β : Int} (hL : LAY h) (hR : R ∈ in_aX15) (hP : 983 ≤ P) (β0 : 0 ≤ β) (f : F2 (blW P R β) h h') : LAY h' :=
  ppW_l (a := 228) hL hR (by decide) hP (f.mono (fun b j z => by unfold blW at z; unfold ppW; omega))
theorem c_bkLoop {h : Hp} {P R t n β hy : Int} {B Z : Int → Int} {PL : Int → Prop} (hL : LAY h) (rm : RM h 1 6) (C : pgC h P R t n B Z) (K : bkC h P R β []) (β0 : 0 ≤ β) (βn : β + n + 2 < 26400) (eh : h P 14 = hy) (pl : hy ≠ 0 → ∀ i, 0 ≤ i → i < n → is01 (h 258 i) (PL i)) :
    Pz (lp (fun (q : Int × Hp) => m_X28_prepare_l48 P 257 q.1 q.2) (0, h)) (sE (fun g => F2 (blW P R β) h g ∧ bkC g P R β (bkL B hy PL n.toNat) ∧ ((bkL B hy PL n.toNat).length : Int) ≤ 600) (fun r => 600 < ((bkL B hy PL n.toNat).length : Int) ∧ ∃ g, F2 (blW P R β) h g ∧ Thy 480 g r)) := by
  have hR := C.2.2.2.2.1
  have hR' : 293 ≤ R ∧ R ≤ 423 := by have := aX15 hR; omega
  have hP := C.2.2.2.2.2
  have n0 := C.2.1.2.1
  have tn := C.2.1
  have keep : ∀ {g}, F2 (blW P R β) h g → LAY g ∧ pgC g P R t n B Z ∧ RM g 1 6 ∧ g P 14 = hy ∧ (∀ i, g 258 i = h 258 i) := fun {g} Fg => ⟨blW_l hL hR hP β0 Fg, C.kept (fun j hj => Fg P j (fun z => by unfold blW at z; omega)) (Fg.row (fun j z => by unfold blW at z; omega)) (Fg.row (fun j z => by unfold blW at z; omega)), rmF rm Fg (fun j z => by unfold blW at z; omega), by rw [Fg P 14 (fun z => by unfold blW at z; omega)]; exact eh, fun i => Fg 258 i (fun z => by unfold blW at z; omega)⟩
  refine z_lp (fun (s : Int × Hp) => 0 ≤ s.1 ∧ s.1 ≤ n ∧ F2 (blW P R β) h s.2 ∧ bkC s.2 P R β (bkL B hy PL s.1.toNat) ∧ ((bkL B hy PL s.1.toNat).length : Int) ≤ 600 ∧ ((bkL B hy PL s.1.toNat).length : Int) ≤ s.1) (fun s => (n - s.1).toNat) ⟨Int.le_refl _, n0, F2.refl, K, show (0 : Int) ≤ 600 by decide, Int.le_refl _⟩ ?_
  rintro ⟨i, g⟩ ⟨i0, i1, Fg, G, l6, li⟩
  dsimp only at i0 i1 l6 li G
  replace Fg : F2 (blW P R β) h g := Fg
  obtain ⟨Lg, Cg, rg, hg, pg⟩ := keep Fg
  show Pz (m_X28_prepare_l48 P 257 i g) _
  unfold m_X28_prepare_l48
  rw [Cg.1.2.2.2]
  by_cases hi : n ≤ i
  · rw [if_pos hi]
    have : i = n := by omega
    subst this
    exact z_some ⟨Fg, G, l6⟩
  rw [if_neg hi, q_byteOf28 Lg Cg i0 (by omega), Option.bind_some]
  have ti : (i + 1).toNat = i.toNat + 1 := by omega
  have ei : ((i.toNat : Nat) : Int) = i := by omega
  -- nothing is broken here
  have nothing : bkK B hy PL i < 0 → Pz (m_X28_prepare_j138 i g) (sE (fun (s : Int × Hp) => (0 ≤ s.1 ∧ s.1 ≤ n ∧ F2 (blW P R β) h s.2 ∧ bkC s.2 P R β (bkL B hy PL s.1.toNat) ∧ ((bkL B hy PL s.1.toNat).length : Int) ≤ 600 ∧ ((bkL B hy PL s.1.toNat).length : Int) ≤ s.1) ∧ (n - s.1).toNat < (n - i).toNat) (sE (fun g => F2 (blW P R β) h g ∧ bkC g P R β (bkL B hy PL n.toNat) ∧ ((bkL B hy PL n.toNat).length : Int) ≤ 600) (fun r => 600 < ((bkL B hy PL n.toNat).length : Int) ∧ ∃ g, F2 (blW P R β) h g ∧ Thy 480 g r))) := by
    intro hk
    unfold m_X28_prepare_j138
    refine z_lt ?_
    rw [e32 (x := i + 1) (by omega) (by omega)]
    have e : bkL B hy PL (i + 1).toNat = bkL B hy PL i.toNat := by rw [ti, bkL_s, ei, if_pos hk, List.append_nil]
    exact z_some ⟨⟨show 0 ≤ i + 1 by omega, show i + 1 ≤ n by omega, Fg, by dsimp only; rw [e]; exact G, by dsimp only; rw [e]; exact l6, by dsimp only; rw [e]; omega⟩, by dsimp only; omega⟩
  -- something is
  have some_ : ∀ κ x, κ = bkK B hy PL i → 0 ≤ κ → x = (if κ = 0 then i + 1 else i) → Pz (bT (m_X28_add P κ i x g) (fun _ h76 => m_X28_prepare_j138 i h76) (fun a_ h_ => some (.inr (.inr ((1, a_), h_))))) (sE (fun (s : Int × Hp) => (0 ≤ s.1 ∧ s.1 ≤ n ∧ F2 (blW P R β) h s.2 ∧ bkC s.2 P R β (bkL B hy PL s.1.toNat) ∧ ((bkL B hy PL s.1.toNat).length : Int) ≤ 600 ∧ ((bkL B hy PL s.1.toNat).length : Int) ≤ s.1) ∧ (n - s.1).toNat < (n - i).toNat) (sE (fun g => F2 (blW P R β) h g ∧ bkC g P R β (bkL B hy PL n.toNat) ∧ ((bkL B hy PL n.toNat).length : Int) ≤ 600) (fun r => 600 < ((bkL B hy PL n.toNat).length : Int) ∧ ∃ g, F2 (blW P R β) h g ∧ Thy 480 g r))) := by
    intro κ x hκ κ0 hx
    have e : bkL B hy PL (i + 1).toNat = bkL B hy PL i.toNat ++ [(κ, i)] := by rw [ti, bkL_s, ei, if_neg (by omega), hκ]
    refine z_bT (z_mono (c_add28 Lg hR hP rg Cg.1.1 Cg.1.2.1 G β0 (by omega) hx) (fun r hr => ?_))
    rcases hr with ⟨r1, r2, r3, r4⟩ | ⟨r1, g', r2, r3⟩
    · refine Or.inl ⟨by rw [r1], ?_⟩
      unfold m_X28_prepare_j138
      refine z_lt ?_
      rw [e32 (x := i + 1) (by omega) (by omega)]
      refine z_some ⟨⟨show 0 ≤ i + 1 by omega, show i + 1 ≤ n by omega, Fg.trans (r3.mono (fun b j z => by unfold blW; omega)), by dsimp only; rw [e]; exact r4, ?_, ?_⟩, by dsimp only; omega⟩ <;> (dsimp only; rw [e, List.length_append]; dsimp only [List.length_cons, List.length_nil]; omega)
    · refine Or.inr ⟨by rw [r3.1]; decide, z_some ⟨?_, g', Fg.trans (r2.mono (fun b j z => by unfold blW; omega)), ?_⟩⟩
      · have m := bkL_mono (B := B) (hy := hy) (PL := PL) (i + 1).toNat (n - (i + 1)).toNat
        rw [show (i + 1).toNat + (n - (i + 1)).toNat = n.toNat by omega, e, List.length_append] at m
        dsimp only [List.length_cons, List.length_nil] at m
        omega
      · obtain ⟨q1, q2⟩ := r3
        exact ⟨rfl, q2⟩
  by_cases h32 : B i = 32
  · rw [if_neg (fun z => z h32)]
    rw [e32 (x := i + 1) (by omega) (by omega)]
    exact some_ 0 (i + 1) (by unfold bkK; rw [if_pos h32]) (Int.le_refl _) rfl
  rw [if_pos h32]
  have hyp : ¬ (0 < i ∧ B (i - 1) = 45) → Pz (m_X28_prepare_j112 P 257 i g) (sE (fun (s : Int × Hp) => (0 ≤ s.1 ∧ s.1 ≤ n ∧ F2 (blW P R β) h s.2 ∧ bkC s.2 P R β (bkL B hy PL s.1.toNat) ∧ ((bkL B hy PL s.1.toNat).length : Int) ≤ 600 ∧ ((bkL B hy PL s.1.toNat).length : Int) ≤ s.1) ∧ (n - s.1).toNat < (n - i).toNat) (sE (fun g => F2 (blW P R β) h g ∧ bkC g P R β (bkL B hy PL n.toNat) ∧ ((bkL B hy PL n.toNat).length : Int) ≤ 600) (fun r => 600 < ((bkL B hy PL n.toNat).length : Int) ∧ ∃ g, F2 (blW P R β) h g ∧ Thy 480 g r))) := by
    intro h45
    unfold m_X28_prepare_j112
    rw [hg]
    by_cases h0 : hy = 0
    · rw [if_pos h0]
      exact nothing (by unfold bkK; rw [if_neg h32, if_neg h45, if_neg (fun z => z.1 h0)]; decide)
    rw [if_neg h0]
    have kp := ly_X11 Lg
    simp only [kp.1, kp.2.1, pg]
    refine z_gd trivial (z_gd ⟨by decide, i0, by omega⟩ ?_)
    rcases pl h0 i i0 (by omega) with ⟨v1, v2⟩ | ⟨v1, v2⟩
    · rw [if_neg (by omega)]
      exact some_ 1 i (by unfold bkK; rw [if_neg h32, if_neg h45, if_pos ⟨h0, v2⟩]) (by decide) rfl
    · rw [if_pos v1]
      exact nothing (by unfold bkK; rw [if_neg h32, if_neg h45, if_neg (fun z => v2 z.2)]; decide)
  by_cases hi0 : i ≤ 0
  · rw [if_pos hi0]
    exact hyp (fun z => by omega)
  rw [if_neg hi0, e32 (x := i - 1) (by omega) (by omega), q_byteOf28 Lg Cg (by omega) (by omega), Option.bind_some]
  by_cases h45 : B (i - 1) = 45
  · rw [if_neg (fun z => z h45)]
    exact some_ 2 i (by unfold bkK; rw [if_neg h32, if_pos ⟨by omega, h45⟩]) (by decide) rfl
  · rw [if_pos h45]
    exact hyp (fun z => h45 z.2)
