-- needs: 99zzzg
set_option maxRecDepth 100000
/-! BREAKS: the component measures the parts between them -/
def bkS (W Z : Int → Int) (L : List (Int × Int)) (b : Int) : Int := Int.tdiv (bkG W Z L b) 2
def bkZ (W Z : Int → Int) (L : List (Int × Int)) (b : Int) : Int := Int.tdiv (bkG W Z L b) 3
/-- sums up to b are noted -/
def msC (h : Hp) (R β : Int) (W : Int → Int) (K J : Int → Int → Int) (B Z : Int → Int) (L : List (Int × Int)) (m : Int) : Prop := ∀ b : Int, 0 ≤ b → b ≤ m → h (R + 8) (β + b) = smF (bkP W K J B Z L) b.toNat ∧ h (R + 9) (β + b) = smF (bkG W Z L) b.toNat ∧ h (R + 10) (β + b) = smF (bkS W Z L) b.toNat ∧ h (R + 11) (β + b) = smF (bkZ W Z L) b.toNat ∧ (1 ≤ b → h (R + 7) (β + b) = bkH W Z L b)
theorem bkG_r {W : Int → Int} {K J : Int → Int → Int} {B Z : Int → Int} {L : List (Int × Int)} {n b : Int} (Rf : foR W K J) (T : txO B Z 0 n) (O : bkO L n) (b0 : 1 ≤ b) (b1 : b ≤ L.length) : (0 ≤ bkG W Z L b ∧ bkG W Z L b ≤ 500000) ∧ (0 ≤ bkS W Z L b ∧ bkS W Z L b ≤ 500000) ∧ (0 ≤ bkZ W Z L b ∧ bkZ W Z L b ≤ 500000) ∧ (0 ≤ bkH W Z L b ∧ bkH W Z L b ≤ 500000) := by
  obtain ⟨o1, o2, o3, o4, o5, o6, o7⟩ := O b b0 b1
  have g : 0 ≤ bkG W Z L b ∧ bkG W Z L b ≤ 500000 := by
    unfold bkG
    split
    · rename_i z
      obtain ⟨-, -, z0, z1⟩ := T (bkAt L b).2 o3 (o5 z)
      have w := Rf.1 32 (by decide) (by decide)
      have := shrW_r (m := 5000) z0 z1 (k := W 32) (by omega) w.2
      omega
    · omega
  refine ⟨g, ?_, ?_, ?_⟩
  · unfold bkS; rw [Int.tdiv_eq_ediv_of_nonneg g.1]; omega
  · unfold bkZ; rw [Int.tdiv_eq_ediv_of_nonneg g.1]; omega
  · unfold bkH
    split
    · rename_i z
      obtain ⟨-, -, z0, z1⟩ := T ((bkAt L b).2 - 1) (by have := o6 z; omega) (by omega)
      have w := Rf.1 45 (by decide) (by decide)
      have := shrW_r (m := 5000) z0 z1 (k := W 45) (by omega) w.2
      omega
    · omega
theorem bkN_r {L : List (Int × Int)} {n b : Int} (O : bkO L n) (b0 : 0 ≤ b) (b1 : b ≤ L.length) (n0 : 0 ≤ n) : 0 ≤ bkN L b ∧ bkN L b ≤ n := by
  unfold bkN
  by_cases hb : b = 0
  · rw [if_pos hb]; omega
  · rw [if_neg hb]
    obtain ⟨o1, o2, o3, o4, o5, o6, o7⟩ := O b (by omega) b1
    by_cases z : (bkAt L b).1 = 0
    · rw [if_pos z]; have := o5 z; omega
    · rw [if_neg z]; omega
theorem wdS_r {W : Int → Int} {K J : Int → Int → Int} {B Z : Int → Int} {a c : Int} (R : foR W K J) (T : txO B Z a c) (ac : a ≤ c) (cn : c - a ≤ 24000) : 0 ≤ wdS W K J B Z a c ∧ wdS W K J B Z a c ≤ 550000 * (c - a) := by
  obtain ⟨-, r0, r1⟩ := wd_loop (F := fun (q : Int × Int) => if c ≤ q.2 then some (Sum.inr q.1) else some (Sum.inl (wSm W K J B Z a c q.2 q.1, wNx J B Z c q.2))) R T (fun i s q => q = (s, i)) (by omega) (fun i s q ai ic s0 s1 hq => ⟨_, by rw [hq, if_neg (by dsimp only; omega)], rfl⟩) (fun s q hq => by rw [hq, if_pos (Int.le_refl _)]) (c - a).toNat a 0 (0, a) (Int.le_refl _) (by omega) ac (by omega) (by omega) rfl
  unfold wdS; split <;> omega
theorem bkP_r {W : Int → Int} {K J : Int → Int → Int} {B Z : Int → Int} {L : List (Int × Int)} {n b : Int} (Rf : foR W K J) (T : txO B Z 0 n) (O : bkO L n) (b0 : 1 ≤ b) (b1 : b ≤ L.length) (n1 : n ≤ 24000) (n0 : 0 ≤ n) : 0 ≤ bkP W K J B Z L b ∧ bkP W K J B Z L b ≤ 550000 * ((bkAt L b).2 - bkN L (b - 1)) := by
  obtain ⟨o1, o2, o3, o4, o5, o6, o7⟩ := O b b0 b1
  have r := bkN_r O (b := b - 1) (by omega) (by omega) n0
  exact wdS_r Rf (fun i i0 i1 => T i (by omega) (by omega)) o2 (by omega)
theorem bkP_sum {W : Int → Int} {K J : Int → Int → Int} {B Z : Int → Int} {L : List (Int × Int)} {n : Int} (Rf : foR W K J) (T : txO B Z 0 n) (O : bkO L n) (n1 : n ≤ 24000) (n0 : 0 ≤ n) : ∀ k : Nat, (k : Int) ≤ L.length → 0 ≤ smF (bkP W K J B Z L) k ∧ smF (bkP W K J B Z L) k ≤ 550000 * bkN L k := by
  intro k
  induction k with
  | zero => intro _; exact ⟨Int.le_refl _, by show (0 : Int) ≤ 550000 * bkN L 0; unfold bkN; rw [if_pos rfl]; decide⟩
  | succ k ih =>
    intro hk
    obtain ⟨i1, i2⟩ := ih (by omega)
    have p := bkP_r (b := (k : Int) + 1) Rf T O (by omega) (by omega) n1 n0
    rw [show (k : Int) + 1 - 1 = k by omega] at p
    have e : (bkAt L ((k : Int) + 1)).2 ≤ bkN L ((k : Int) + 1) := by
      unfold bkN; rw [if_neg (by omega)]; split <;> omega
    rw [smF_s, show (((k + 1 : Nat)) : Int) = (k : Int) + 1 by omega]
    omega
def msW (R β : Int) : Int → Int → Prop := fun b j => R + 7 ≤ b ∧ b ≤ R + 11 ∧ β ≤ j
theorem msW_l {h h' : Hp} {R β : Int} (hL : LAY h) (hR : R ∈ in_aX15) (β0 : 0 ≤ β) (f : F2 (msW R β) h h') : LAY h' :=
  ppW_l (a := 228) (P := 983) hL hR (by decide) (by decide) (f.mono (fun b j z => by unfold msW at z; unfold ppW; omega))
