-- needs: 99zzzzzc
set_option maxRecDepth 100000
/-! GATHERING: what it gives (spec) -/
/-- a source, whoever keeps it -/
def SB (S : Hp) (E M : Int) : Prop := ∃ p a n N s F, SA S p a n N s E F M
/-- plain facts of an element in a tree -/
def fxA (V : Hp) (P : Int → Int) (x : Int) : Prop :=
  (V 30 x ≠ 0 → V 24 (22 * x) ≠ 2 ∧ (0 ≤ P x → V 30 (P x) ≠ 0 ∧ muF (V 24 (22 * P x)) = false ∧ (V 34 (P x) ≠ 0 → V 35 x ≠ 0) ∧ (V 35 (P x) ≠ 0 → V 36 x ≠ 0))) ∧
  (V 31 x ≠ 0 → V 30 x ≠ 0 ∧ (0 ≤ P x → V 31 (P x) ≠ 0 ∧ V 32 (P x) = 0 ∧ V 36 (P x) = 0)) ∧
  (V 32 x ≠ 0 ↔ V 31 x ≠ 0 ∧ V 24 (22 * x) = 3) ∧ (V 34 x ≠ 0 ↔ V 31 x ≠ 0 ∧ V 24 (22 * x) = 5) ∧
  (V 33 x ≠ 0 ↔ V 31 x ≠ 0 ∧ (V 24 (22 * x) = 1 ∨ V 24 (22 * x) = 5 ∨ V 24 (22 * x) = 8 ∨ V 24 (22 * x) = 9)) ∧
  (V 35 x ≠ 0 → V 24 (22 * x) = 6 ∧ V 30 x ≠ 0 ∧ V 31 x ≠ 0 ∧ 0 ≤ P x ∧ V 34 (P x) ≠ 0) ∧
  (V 36 x ≠ 0 → V 24 (22 * x) = 7 ∧ V 30 x ≠ 0 ∧ V 31 x ≠ 0 ∧ 0 ≤ P x ∧ V 35 (P x) ≠ 0 ∧ V 29 x = cntC (V 36) P (P x) x.toNat ∧ cntC (V 36) P (P x) x.toNat < 8) ∧
  (V 30 x ≠ 0 → (P x < 0 ∨ V 31 (P x) ≠ 0 ∧ V 32 (P x) = 0 ∧ V 36 (P x) = 0) → V 31 x ≠ 0)
theorem bI_ne {b : Bool} : bI b ≠ 0 ↔ b = true := by cases b <;> simp [bI]
theorem fx_of {V : Hp} {P : Int → Int} {E : Int} (h : ∀ x, 0 ≤ x → x < E → FLV V P x) (hP : ∀ x, 0 ≤ x → x < E → -1 ≤ P x ∧ P x < x) : ∀ x, 0 ≤ x → x < E → fxA V P x := by
  intro x x0 x1
  have A := FLV.facts h hP
  obtain ⟨f35, f36, f29, f30, f31, f32, f34, f33⟩ := h x x0 x1
  have q30 : V 30 x ≠ 0 ↔ ok2 V P x = true := by rw [f30]; exact bI_ne
  have q31 : V 31 x ≠ 0 ↔ ok2 V P x = true ∧ okFl V P x = true := by rw [f31, bI_ne, Bool.and_eq_true]
  have q35 : V 35 x ≠ 0 ↔ isTb V P x = true ∧ ok1 V P x = true := by rw [f35, bI_ne, Bool.and_eq_true]
  have q36 : V 36 x ≠ 0 ↔ isRw V P x = true ∧ ok2 V P x = true := by rw [f36, bI_ne, Bool.and_eq_true]
  refine ⟨fun z => ?_, fun z => ?_, ?_, ?_, ?_, fun z => ?_, fun z => ?_, fun z w => ?_⟩
  · have k2 := q30.1 z
    have k1 := (ok2_i.1 k2).1
    have k0 := ok0_i.1 (ok1_i.1 k1).1
    refine ⟨k0.1, fun p0 => ?_⟩
    have k := k0.2.resolve_left (by omega)
    exact ⟨k.1, k.2, fun t => q35.2 ⟨isTb_i.2 ⟨p0, t⟩, k1⟩, fun t => q36.2 ⟨isRw_i.2 ⟨p0, t⟩, k2⟩⟩
  · have k := q31.1 z
    exact ⟨q30.2 k.1, fun p0 => (okFl_i.1 k.2).resolve_left (by omega)⟩
  · exact (A x x0 x1).2.2.1
  · exact (A x x0 x1).2.2.2.1
  · rw [f33, bI_ne, Bool.and_eq_true, decide_eq_true_eq]
    unfold bkF
    rw [decide_eq_true_eq]
  · have a := (A x x0 x1).2.2.2.2.1 z
    have k := isTb_i.1 (q35.1 z).1
    exact ⟨a.1, a.2.1, a.2.2, k.1, k.2⟩
  · have a := (A x x0 x1).2.2.2.2.2 z
    have k := q36.1 z
    have k' := isRw_i.1 k.1
    exact ⟨a.1, a.2.1, a.2.2, k'.1, k'.2, f29 z, ((ok2_i.1 k.2).2 k.1).2⟩
  · exact q31.2 ⟨q30.1 z, okFl_i.2 w⟩
/-- a tree over a source -/
def TB (S V : Hp) (E M : Int) : Prop := SB S E M ∧ ∀ x, 0 ≤ x → x < E → fxA V (S 7) x
abbrev cu (S : Hp) (m : Nat) : Int := cuP (S 2) (S 3) (S 7) m
theorem SB.par {S : Hp} {E M : Int} (B : SB S E M) : ∀ x, 0 ≤ x → x < E → -1 ≤ S 7 x ∧ S 7 x < x := by
  obtain ⟨p, a, n, N, s, F, R⟩ := B
  exact fun x x0 x1 => ⟨(R.2.2.2.1 x x0 x1).2.2.1, (R.2.2.2.1 x x0 x1).2.2.2.1⟩
theorem SB.rng {S : Hp} {E M : Int} (B : SB S E M) : 0 ≤ E ∧ E ≤ 500 ∧ 0 ≤ M ∧ M ≤ 3000 := by
  obtain ⟨p, a, n, N, s, F, R⟩ := B
  have n3 := R.1.2.1
  have Mn := R.2.2.2.2.2.1.2.2.1
  exact ⟨R.2.2.1.2.1, R.2.2.1.2.2.1, R.2.2.2.2.2.1.2.1, by omega⟩
theorem SB.el {S : Hp} {E M : Int} (B : SB S E M) : ∀ e, 0 ≤ e → e < E → 0 ≤ S 11 e ∧ S 11 e < S 12 e ∧ S 12 e < M ∧ S 2 (S 11 e) = 1 ∧ S 3 (S 11 e) = e ∧ S 2 (S 12 e) = 2 ∧ S 3 (S 12 e) = e ∧ cu S (S 11 e).toNat = S 7 e ∧ cu S (S 12 e).toNat = e := by
  obtain ⟨p, a, n, N, s, F, R⟩ := B
  intro e e0 e1
  have t := R.2.2.2.2.2.2.1 e e0 e1
  have c := cu_end R e0 e1
  have c2 := (R.2.2.2.2.2.2.2.2 (S 12 e).toNat (by omega)).2 (by rw [show (((S 12 e).toNat : Nat) : Int) = S 12 e by omega]; exact t.2.2.2.2.2.1)
  rw [show (((S 12 e).toNat : Nat) : Int) = S 12 e by omega, t.2.2.2.2.2.2.1] at c2
  exact ⟨t.1, t.2.1, t.2.2.1, t.2.2.2.1, t.2.2.2.2.1, t.2.2.2.2.2.1, t.2.2.2.2.2.2.1, c.2, c2.symm⟩
theorem SB.it {S : Hp} {E M : Int} (B : SB S E M) : ∀ k : Nat, (k : Int) < M → (S 2 k = 1 → 0 ≤ S 3 k ∧ S 3 k < E ∧ S 11 (S 3 k) = k ∧ S 7 (S 3 k) = cu S k) ∧ (S 2 k = 2 → 0 ≤ S 3 k ∧ S 3 k < E ∧ S 12 (S 3 k) = k ∧ S 3 k = cu S k) ∧ 0 ≤ S 2 k ∧ S 2 k ≤ 3 := by
  obtain ⟨p, a, n, N, s, F, R⟩ := B
  intro k hk
  have c := R.2.2.2.2.2.2.2.2 k hk
  refine ⟨fun z => ?_, fun z => ?_, ?_⟩
  · obtain ⟨a1, a2, a3⟩ := R.beg_ (Int.natCast_nonneg k) hk z
    exact ⟨a1, a2, a3, c.1 z⟩
  · obtain ⟨a1, a2, a3⟩ := R.end_ (Int.natCast_nonneg k) hk z
    exact ⟨a1, a2, a3, c.2 z⟩
  · rcases R.2.2.2.2.2.1.2.2.2 k (Int.natCast_nonneg k) hk with z | z | z | z <;> omega
theorem SB.cu_r {S : Hp} {E M : Int} (B : SB S E M) : ∀ k : Nat, (k : Int) ≤ M → -1 ≤ cu S k ∧ cu S k < E := by
  obtain ⟨p, a, n, N, s, F, R⟩ := B
  exact R.2.2.2.2.2.2.2.1
theorem SB.nest {S : Hp} {E M e : Int} (B : SB S E M) (e0 : 0 ≤ e) (e1 : e < E) : ∀ m : Nat, S 11 e < m → (m : Int) ≤ S 12 e → ∃ k, dsc (S 7) e k (cu S m) := by
  obtain ⟨p, a, n, N, s, F, R⟩ := B
  exact PP.nest R e0 e1
theorem SB.cu_s {S : Hp} (k : Nat) : cu S (k + 1) = if S 2 k = 1 then S 3 k else if S 2 k = 2 then S 7 (cu S k) else cu S k := cuP_step
theorem SB.ex {S : Hp} {E M : Int} (B : SB S E M) : ∀ x, 0 ≤ x → x < E → elX (S 7) (S 11) x := by
  obtain ⟨p, a, n, N, s, F, R⟩ := B
  exact fun x x0 x1 => (R.2.2.2.1 x x0 x1).2.2.2.2.2.2.2.2.2.2.2.2.2
/-- begins stand in order -/
theorem SB.mono {S : Hp} {E M : Int} (B : SB S E M) : ∀ (j : Nat) (e : Int), 0 ≤ e → e + j + 1 < E → S 11 e < S 11 (e + j + 1)
  | 0, e, e0, e1 => by
    have := (B.ex (e + 1) (by omega) (by omega)).2 (by omega)
    rw [show e + 1 - 1 = e by omega] at this
    rw [show e + ((0 : Nat) : Int) + 1 = e + 1 by omega]; exact this
  | j + 1, e, e0, e1 => by
    have a := SB.mono B j e e0 (by omega)
    have := (B.ex (e + ((j + 1 : Nat) : Int) + 1) (by omega) (by omega)).2 (by omega)
    rw [show e + ((j + 1 : Nat) : Int) + 1 - 1 = e + j + 1 by omega] at this
    omega
/-- elements begun before an item -/
def NB (S : Hp) : Nat → Int
  | 0 => 0
  | k + 1 => NB S k + (if S 2 k = 1 then 1 else 0)
theorem NB_s {S : Hp} (k : Nat) : NB S (k + 1) = NB S k + (if S 2 k = 1 then 1 else 0) := rfl
theorem SB.nb {S : Hp} {E M : Int} (B : SB S E M) : ∀ k : Nat, (k : Int) ≤ M → 0 ≤ NB S k ∧ NB S k ≤ E ∧ (∀ e, 0 ≤ e → e < E → (S 11 e < k ↔ e < NB S k))
  | 0, _ => ⟨Int.le_refl _, B.rng.1, fun e e0 e1 => by have := (B.el e e0 e1).1; show S 11 e < ((0 : Nat) : Int) ↔ e < 0; omega⟩
  | k + 1, h => by
    obtain ⟨i0, i1, i2⟩ := SB.nb B k (by omega)
    by_cases hb : S 2 k = 1
    · have x := (B.it k (by omega)).1 hb
      have e : NB S (k + 1) = NB S k + 1 := by rw [NB_s, if_pos hb]
      have xk : S 3 k = NB S k := by
        have h1 : ¬ S 3 k < NB S k := fun z => by have := (i2 _ x.1 x.2.1).2 z; omega
        by_cases h2 : S 3 k = NB S k
        · exact h2
        · exfalso
          have m := B.mono (S 3 k - NB S k - 1).toNat (NB S k) i0 (by omega)
          rw [show NB S k + (((S 3 k - NB S k - 1).toNat : Nat) : Int) + 1 = S 3 k by omega, x.2.2.1] at m
          have := (i2 (NB S k) i0 (by omega)).1 m
          omega
      rw [e]
      refine ⟨by omega, by omega, fun e' e0 e1 => ?_⟩
      have h2 := i2 e' e0 e1
      have hk : S 11 e' = k → e' = S 3 k := fun z => by
        have := (B.el e' e0 e1).2.2.2.2.1
        rw [z] at this; exact this.symm
      have hk' : e' = S 3 k → S 11 e' = k := fun z => by rw [z]; exact x.2.2.1
      omega
    · have e : NB S (k + 1) = NB S k := by rw [NB_s, if_neg hb]; omega
      rw [e]
      refine ⟨i0, i1, fun e' e0 e1 => ?_⟩
      have h2 := i2 e' e0 e1
      have hk : S 11 e' ≠ k := fun z => by
        have := (B.el e' e0 e1).2.2.2.1
        rw [z] at this; exact hb this
      omega
theorem SB.nb_x {S : Hp} {E M : Int} (B : SB S E M) {k : Nat} (h : (k : Int) < M) (hb : S 2 k = 1) : S 3 k = NB S k := by
  have x := (B.it k h).1 hb
  have a := (B.nb k (by omega)).2.2 _ x.1 x.2.1
  have b := (B.nb (k + 1) (by omega)).2.2 _ x.1 x.2.1
  have e : NB S (k + 1) = NB S k + 1 := by rw [NB_s, if_pos hb]
  omega
