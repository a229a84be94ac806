-- needs: 99zzzm
set_option maxRecDepth 100000
/-! BREAKS: the reference parts a paragraph -/
theorem plP_b {T : Hp} {np : Int} {sg : Int → List Int} {dt : Int → Int → Int} {B : Int → Int} {n i : Int} (h : plP T np sg dt B n i) : isLt (B (i - 1)) = true := by
  obtain ⟨s, e, a, h1, h2, z⟩ := h
  exact a.2.2.2.1 (i - 1) (by have := z.1; omega) (by omega)
/-- breaks that are told when the reference stands at k -/
noncomputable def bkR (B : Int → Int) (hy : Int) (PL : Int → Prop) (n k : Int) : List (Int × Int) := if k < n ∧ B k ≠ 32 then bkL B hy PL (k.toNat + 1) else bkL B hy PL k.toNat
theorem bkR_n {B : Int → Int} {hy : Int} {PL : Int → Prop} {n : Int} : bkR B hy PL n n = bkL B hy PL n.toNat := by unfold bkR; rw [if_neg (by omega)]
theorem bkR_0 {B : Int → Int} {hy : Int} {PL : Int → Prop} {n : Int} (hp : ∀ i, PL i → 1 ≤ i) : bkR B hy PL n 0 = [] := by
  unfold bkR
  split
  · rename_i z
    show bkL B hy PL 0 ++ (if bkK B hy PL ((0 : Nat) : Int) < 0 then [] else _) = []
    have : bkK B hy PL ((0 : Nat) : Int) = -1 := by
      rw [show ((0 : Nat) : Int) = 0 from rfl]
      unfold bkK
      rw [if_neg z.2, if_neg (by omega), if_neg (fun w => by have := hp _ w.2; omega)]
    rw [this, if_pos (by decide)]; rfl
  · rfl
theorem bkR_le {B : Int → Int} {hy : Int} {PL : Int → Prop} {n k : Int} (k0 : 0 ≤ k) (k1 : k ≤ n) : (bkR B hy PL n k).length ≤ (bkL B hy PL n.toNat).length := by
  unfold bkR
  split
  · rename_i z
    have := bkL_mono (B := B) (hy := hy) (PL := PL) (k.toNat + 1) (n - k - 1).toNat
    rw [show k.toNat + 1 + (n - k - 1).toNat = n.toNat by omega] at this
    exact this
  · have := bkL_mono (B := B) (hy := hy) (PL := PL) k.toNat (n - k).toNat
    rw [show k.toNat + (n - k).toNat = n.toNat by omega] at this
    exact this
/-- a glue -/
theorem bkR_glue {B : Int → Int} {hy : Int} {PL : Int → Prop} {n k : Int} (hp : ∀ i, PL i → isLt (B (i - 1)) = true) (k0 : 0 ≤ k) (k1 : k < n) (h32 : B k = 32) : bkR B hy PL n (k + 1) = bkR B hy PL n k ++ [(0, k)] := by
  have e1 : bkR B hy PL n k = bkL B hy PL k.toNat := by unfold bkR; rw [if_neg (fun z => z.2 h32)]
  have e2 : bkL B hy PL (k.toNat + 1) = bkL B hy PL k.toNat ++ [(0, k)] := by
    rw [bkL_s, show ((k.toNat : Nat) : Int) = k by omega]
    have : bkK B hy PL k = 0 := by unfold bkK; rw [if_pos h32]
    rw [this, if_neg (by decide)]
  rw [e1, ← e2]
  unfold bkR
  split
  · rename_i z
    rw [show (k + 1).toNat + 1 = (k.toNat + 1) + 1 by omega, bkL_s, show (((k.toNat + 1 : Nat)) : Int) = k + 1 by omega]
    have : bkK B hy PL (k + 1) = -1 := by
      unfold bkK
      rw [if_neg z.2, if_neg (by rw [show k + 1 - 1 = k by omega]; omega), if_neg]
      intro w
      have := hp _ w.2
      rw [show k + 1 - 1 = k by omega, h32] at this
      exact absurd this (by decide)
    rw [this, if_pos (by decide), List.append_nil]
  · rw [show (k + 1).toNat = k.toNat + 1 by omega]
/-- none, for a glue or the end follows -/
theorem bkR_last {B : Int → Int} {hy : Int} {PL : Int → Prop} {n k : Int} (k0 : 0 ≤ k) (k1 : k < n) (h32 : B k ≠ 32) (hl : k + 1 = n ∨ B (k + 1) = 32) : bkR B hy PL n (k + 1) = bkR B hy PL n k := by
  have e1 : bkR B hy PL n k = bkL B hy PL (k.toNat + 1) := by unfold bkR; rw [if_pos ⟨k1, h32⟩]
  have e2 : bkR B hy PL n (k + 1) = bkL B hy PL (k + 1).toNat := by unfold bkR; rw [if_neg (by omega)]
  rw [e1, e2, show (k + 1).toNat = k.toNat + 1 by omega]
/-- a break between two bytes, or none -/
theorem bkR_next {B : Int → Int} {hy : Int} {PL : Int → Prop} {n k : Int} (k0 : 0 ≤ k) (h32 : B k ≠ 32) (k1 : k + 1 < n) (h33 : B (k + 1) ≠ 32) : bkR B hy PL n (k + 1) = bkR B hy PL n k ++ (if bkK B hy PL (k + 1) < 0 then [] else [(bkK B hy PL (k + 1), k + 1)]) := by
  have e1 : bkR B hy PL n k = bkL B hy PL (k.toNat + 1) := by unfold bkR; rw [if_pos ⟨by omega, h32⟩]
  have e2 : bkR B hy PL n (k + 1) = bkL B hy PL ((k + 1).toNat + 1) := by unfold bkR; rw [if_pos ⟨k1, h33⟩]
  rw [e1, e2, show (k + 1).toNat + 1 = (k.toNat + 1) + 1 by omega, bkL_s, show (((k.toNat + 1 : Nat)) : Int) = k + 1 by omega]
theorem bkL_glue {B : Int → Int} {hy : Int} {PL : Int → Prop} : ∀ (j : Nat) (b : Int), 1 ≤ b → b ≤ (bkL B hy PL j).length → (bkAt (bkL B hy PL j) b).1 = 0 → B (bkAt (bkL B hy PL j) b).2 = 32 := by
  intro j
  induction j with
  | zero => intro b b0 b1; dsimp only [bkL, List.length_nil] at b1; omega
  | succ j ih =>
    intro b b0 b1 hz
    rw [bkL_s] at b1 hz ⊢
    by_cases hk : bkK B hy PL j < 0
    · rw [if_pos hk, List.append_nil] at b1 hz ⊢
      exact ih b b0 b1 hz
    · rw [if_neg hk] at b1 hz ⊢
      rw [List.length_append] at b1
      dsimp only [List.length_cons, List.length_nil] at b1
      by_cases hb : b ≤ (bkL B hy PL j).length
      · rw [bkAt_old b0 hb] at hz ⊢
        exact ih b b0 hb hz
      · rw [bkAt_last (by omega)] at hz ⊢
        dsimp only at hz ⊢
        unfold bkK at hz
        split at hz
        · assumption
        · split at hz
          · omega
          · split at hz <;> omega
/-- ends so far -/
theorem bkR_o {B : Int → Int} {hy : Int} {PL : Int → Prop} {n k : Int} (hp : ∀ i, PL i → 1 ≤ i) (k0 : 0 ≤ k) (k1 : k ≤ n) : ((bkR B hy PL n k).length : Int) ≤ k + 1 ∧ 0 ≤ bkN (bkR B hy PL n k) (bkR B hy PL n k).length ∧ bkN (bkR B hy PL n k) (bkR B hy PL n k).length ≤ k := by
  have key : ∀ (j : Nat), (j : Int) ≤ k + 1 → (k < j → B k ≠ 32) → ((bkL B hy PL j).length : Int) ≤ k + 1 ∧ 0 ≤ bkN (bkL B hy PL j) (bkL B hy PL j).length ∧ bkN (bkL B hy PL j) (bkL B hy PL j).length ≤ k := by
    intro j hj hB
    obtain ⟨i1, i2⟩ := bkL_o (B := B) (hy := hy) (PL := PL) hp j
    refine ⟨by omega, ?_⟩
    unfold bkN
    by_cases h0 : ((bkL B hy PL j).length : Int) = 0
    · rw [if_pos h0]; omega
    · obtain ⟨j1, j2, j3, j4, j5⟩ := i2 (bkL B hy PL j).length (by omega) (Int.le_refl _)
      rw [if_neg h0]
      by_cases hz : (bkAt (bkL B hy PL j) (bkL B hy PL j).length).1 = 0
      · rw [if_pos hz]
        by_cases hk : (bkAt (bkL B hy PL j) (bkL B hy PL j).length).2 = k
        · exfalso
          -- a glue at k
          have hjk : k < j := by omega
          have b32 := bkL_glue (B := B) (hy := hy) (PL := PL) j (bkL B hy PL j).length (by omega) (Int.le_refl _) hz
          rw [hk] at b32
          exact hB hjk b32
        · omega
      · rw [if_neg hz]; omega
  unfold bkR
  split
  · rename_i z; exact key _ (by omega) (fun _ => z.2)
  · exact key _ (by omega) (fun z => by omega)
