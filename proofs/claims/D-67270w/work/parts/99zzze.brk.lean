-- needs: 99zzzd
set_option maxRecDepth 100000
/-! BREAKS: what they are -/
/-- what may be broken ahead of byte i: 0 glue, 1 hyphen, 2 dash, -1 nothing -/
noncomputable def bkK (B : Int → Int) (hy : Int) (PL : Int → Prop) (i : Int) : Int := if B i = 32 then 0 else if 0 < i ∧ B (i - 1) = 45 then 2 else @ite _ (hy ≠ 0 ∧ PL i) (Classical.propDecidable _) 1 (-1)
noncomputable def bkL (B : Int → Int) (hy : Int) (PL : Int → Prop) : Nat → List (Int × Int)
  | 0 => []
  | k + 1 => bkL B hy PL k ++ (if bkK B hy PL k < 0 then [] else [(bkK B hy PL k, (k : Int))])
noncomputable def bkA (B : Int → Int) (hy : Int) (PL : Int → Prop) (n : Int) : List (Int × Int) := bkL B hy PL n.toNat ++ [(3, n)]
/-- break b of them (from 1 on) -/
def bkAt (L : List (Int × Int)) (b : Int) : Int × Int := (L[(b - 1).toNat]?).getD (3, 0)
theorem bkAt_last {L : List (Int × Int)} {x : Int × Int} {b : Int} (h : b = L.length + 1) : bkAt (L ++ [x]) b = x := by
  unfold bkAt
  rw [show (b - 1).toNat = L.length by omega, List.getElem?_append_right (Nat.le_refl _), Nat.sub_self]; rfl
theorem bkAt_old {L M : List (Int × Int)} {b : Int} (h0 : 1 ≤ b) (h : b ≤ L.length) : bkAt (L ++ M) b = bkAt L b := by
  unfold bkAt
  rw [List.getElem?_append_left (by omega)]
/-- where bytes go on behind break b -/
def bkN (L : List (Int × Int)) (b : Int) : Int := if b = 0 then 0 else if (bkAt L b).1 = 0 then (bkAt L b).2 + 1 else (bkAt L b).2
theorem bkN_old {L M : List (Int × Int)} {b : Int} (h0 : 0 ≤ b) (h : b ≤ L.length) : bkN (L ++ M) b = bkN L b := by
  unfold bkN
  by_cases hb : b = 0
  · rw [if_pos hb, if_pos hb]
  · rw [if_neg hb, if_neg hb, bkAt_old (by omega) h]
/-- breaks up to k, in order -/
def bkO (L : List (Int × Int)) (k : Int) : Prop := ∀ b : Int, 1 ≤ b → b ≤ L.length → (0 ≤ (bkAt L b).1 ∧ (bkAt L b).1 ≤ 3) ∧ bkN L (b - 1) ≤ (bkAt L b).2 ∧ 0 ≤ (bkAt L b).2 ∧ (bkAt L b).2 ≤ k ∧ ((bkAt L b).1 = 0 → (bkAt L b).2 < k) ∧ ((bkAt L b).1 = 1 → 1 ≤ (bkAt L b).2) ∧ ((bkAt L b).1 = 3 → b = L.length)
theorem bkK_r {B : Int → Int} {hy : Int} {PL : Int → Prop} {i : Int} : -1 ≤ bkK B hy PL i ∧ bkK B hy PL i ≤ 2 := by
  unfold bkK; split
  · omega
  · split
    · omega
    · split <;> omega
theorem bkL_s {B : Int → Int} {hy : Int} {PL : Int → Prop} {k : Nat} : bkL B hy PL (k + 1) = bkL B hy PL k ++ (if bkK B hy PL k < 0 then [] else [(bkK B hy PL k, (k : Int))]) := rfl
theorem bkL_o {B : Int → Int} {hy : Int} {PL : Int → Prop} (hp : ∀ i, PL i → 1 ≤ i) : ∀ k : Nat, ((bkL B hy PL k).length : Int) ≤ k ∧ ∀ b : Int, 1 ≤ b → b ≤ (bkL B hy PL k).length → (0 ≤ (bkAt (bkL B hy PL k) b).1 ∧ (bkAt (bkL B hy PL k) b).1 ≤ 2) ∧ bkN (bkL B hy PL k) (b - 1) ≤ (bkAt (bkL B hy PL k) b).2 ∧ 0 ≤ (bkAt (bkL B hy PL k) b).2 ∧ (bkAt (bkL B hy PL k) b).2 < k ∧ ((bkAt (bkL B hy PL k) b).1 = 1 → 1 ≤ (bkAt (bkL B hy PL k) b).2) := by
  intro k
  induction k with
  | zero => exact ⟨Int.le_refl _, fun b b0 b1 => by dsimp only [bkL, List.length_nil] at b1; omega⟩
  | succ k ih =>
    obtain ⟨i1, i2⟩ := ih
    rw [bkL_s]
    by_cases hk : bkK B hy PL k < 0
    · rw [if_pos hk, List.append_nil]
      refine ⟨by omega, fun b b0 b1 => ?_⟩
      obtain ⟨j1, j2, j3, j4, j5⟩ := i2 b b0 b1
      exact ⟨j1, j2, j3, by omega, j5⟩
    · rw [if_neg hk]
      have r := bkK_r (B := B) (hy := hy) (PL := PL) (i := k)
      refine ⟨by rw [List.length_append]; dsimp only [List.length_cons, List.length_nil]; omega, fun b b0 b1 => ?_⟩
      rw [List.length_append] at b1
      dsimp only [List.length_cons, List.length_nil] at b1
      by_cases hb : b ≤ (bkL B hy PL k).length
      · rw [bkAt_old b0 hb, bkN_old (by omega) (by omega)]
        obtain ⟨j1, j2, j3, j4, j5⟩ := i2 b b0 hb
        exact ⟨j1, j2, j3, by omega, j5⟩
      · have eb : b = (bkL B hy PL k).length + 1 := by omega
        rw [bkAt_last eb, bkN_old (by omega) (by omega)]
        dsimp only
        refine ⟨by omega, ?_, by omega, by omega, fun z => ?_⟩
        · unfold bkN
          by_cases h0 : b - 1 = 0
          · rw [if_pos h0]; omega
          · obtain ⟨j1, j2, j3, j4, j5⟩ := i2 (b - 1) (by omega) (by omega)
            rw [if_neg h0]; split <;> omega
        · unfold bkK at z
          split at z
          · omega
          · split at z
            · omega
            · split at z
              · rename_i q; exact hp _ q.2
              · omega
theorem bkA_o {B : Int → Int} {hy : Int} {PL : Int → Prop} {n : Int} (hp : ∀ i, PL i → 1 ≤ i) (n0 : 0 ≤ n) : bkO (bkA B hy PL n) n ∧ 1 ≤ ((bkA B hy PL n).length : Int) ∧ ((bkA B hy PL n).length : Int) ≤ n + 1 ∧ bkAt (bkA B hy PL n) (bkA B hy PL n).length = (3, n) := by
  obtain ⟨i1, i2⟩ := bkL_o (B := B) (hy := hy) (PL := PL) hp n.toNat
  have el : ((bkA B hy PL n).length : Int) = (bkL B hy PL n.toNat).length + 1 := by unfold bkA; rw [List.length_append]; rfl
  refine ⟨fun b b0 b1 => ?_, by omega, by omega, by unfold bkA at el ⊢; exact bkAt_last el⟩
  rw [el] at b1 ⊢
  unfold bkA
  by_cases hb : b ≤ (bkL B hy PL n.toNat).length
  · rw [bkAt_old b0 hb, bkN_old (by omega) (by omega)]
    obtain ⟨j1, j2, j3, j4, j5⟩ := i2 b b0 hb
    exact ⟨by omega, j2, j3, by omega, fun _ => by omega, j5, fun z => by omega⟩
  · have eb : b = (bkL B hy PL n.toNat).length + 1 := by omega
    rw [bkAt_last eb, bkN_old (by omega) (by omega)]
    dsimp only
    refine ⟨by omega, ?_, n0, Int.le_refl _, fun z => absurd z (by decide), fun z => absurd z (by decide), fun _ => eb⟩
    unfold bkN
    by_cases h0 : b - 1 = 0
    · rw [if_pos h0]; omega
    · obtain ⟨j1, j2, j3, j4, j5⟩ := i2 (b - 1) (by omega) (by omega)
      rw [if_neg h0]; split <;> omega
/-- widths of parts, glues, hyphens -/
noncomputable def bkP (W : Int → Int) (K J : Int → Int → Int) (B Z : Int → Int) (L : List (Int × Int)) (b : Int) : Int := wdS W K J B Z (bkN L (b - 1)) (bkAt L b).2
def bkG (W Z : Int → Int) (L : List (Int × Int)) (b : Int) : Int := if (bkAt L b).1 = 0 then shrW (Z (bkAt L b).2) (W 32) else 0
def bkH (W Z : Int → Int) (L : List (Int × Int)) (b : Int) : Int := if (bkAt L b).1 = 1 then shrW (Z ((bkAt L b).2 - 1)) (W 45) else 0
def smF (f : Int → Int) : Nat → Int
  | 0 => 0
  | k + 1 => smF f k + f ((k : Int) + 1)
theorem smF_s {f : Int → Int} {k : Nat} : smF f (k + 1) = smF f k + f ((k : Int) + 1) := rfl
theorem smF_r {f : Int → Int} {m : Int} : ∀ k : Nat, (∀ b : Int, 1 ≤ b → b ≤ k → 0 ≤ f b ∧ f b ≤ m) → 0 ≤ smF f k ∧ smF f k ≤ m * k := by
  intro k
  induction k with
  | zero => intro _; exact ⟨Int.le_refl _, by show (0 : Int) ≤ m * ((0 : Nat) : Int); rw [Int.natCast_zero, Int.mul_zero]; exact Int.le_refl _⟩
  | succ k ih =>
    intro h
    obtain ⟨i1, i2⟩ := ih (fun b b0 b1 => h b b0 (by omega))
    obtain ⟨j1, j2⟩ := h ((k : Int) + 1) (by omega) (by omega)
    rw [smF_s, show (((k + 1 : Nat)) : Int) = (k : Int) + 1 by omega, Int.mul_add, Int.mul_one]
    omega
theorem smF_le {f : Int → Int} {m : Int} (h : ∀ b : Int, 1 ≤ b → b ≤ m → 0 ≤ f b) : ∀ k d : Nat, ((k + d : Nat) : Int) ≤ m → smF f k ≤ smF f (k + d) := by
  intro k d
  induction d with
  | zero => intro _; exact Int.le_refl _
  | succ d ih =>
    intro hd
    have i := ih (by omega)
    have j := h (((k + d : Nat) : Int) + 1) (by omega) (by omega)
    rw [show k + (d + 1) = (k + d) + 1 by omega, smF_s]
    omega
def Thy (K : Int) (h : Hp) (r : (Int × Int) × Hp) : Prop := r.1.1 = 1 ∧ 0 < r.1.2 ∧ h 0 0 < r.1.2 ∧ r.2 r.1.2 (-2) = K ∧ F2 (nwW h) h r.2 ∧ r.2 0 0 = h 0 0 + 1 ∧ r.2 0 1 = h 0 1 + 6
