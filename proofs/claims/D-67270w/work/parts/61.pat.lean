set_option maxRecDepth 100000
/-! PATTERNS, as the component reads them -/
def lets (B : Int → Int) (s : Int) : Nat → List Int
  | 0 => []
  | k + 1 => if 97 ≤ B (s + k) ∧ B (s + k) ≤ 122 then lets B s k ++ [B (s + k) - 96] else lets B s k
def dgf (B : Int → Int) (s : Int) : Nat → Int → Int
  | 0 => fun _ => 0
  | k + 1 => if 48 ≤ B (s + k) ∧ B (s + k) ≤ 57 then fun j => if j = ((lets B s k).length : Int) then B (s + k) - 48 else dgf B s k j else dgf B s k
/-- a digit stands ahead of place k -/
def dgB (B : Int → Int) (s : Int) : Nat → Prop
  | 0 => False
  | k + 1 => 48 ≤ B (s + k) ∧ B (s + k) ≤ 57
/-- byte k of a pattern is one that may be there -/
def okA (B : Int → Int) (s : Int) (k : Nat) : Prop := (48 ≤ B (s + k) ∧ B (s + k) ≤ 57 ∧ ¬ dgB B s k) ∨ (97 ≤ B (s + k) ∧ B (s + k) ≤ 122 ∧ (lets B s k).length < 12)
def okP (B : Int → Int) (s : Int) (k : Nat) : Prop := ∀ i, i < k → okA B s i
theorem dgf_far (B : Int → Int) (s : Int) : ∀ k : Nat, ∀ j : Int, (lets B s k).length < j → dgf B s k j = 0 := by
  intro k
  induction k with
  | zero => intro j _; rfl
  | succ k ih =>
    intro j hj
    unfold lets at hj
    unfold dgf
    by_cases hd : 48 ≤ B (s + k) ∧ B (s + k) ≤ 57
    · rw [if_neg (by omega)] at hj
      rw [if_pos hd]
      rw [if_neg (by omega)]
      exact ih j hj
    · rw [if_neg hd]
      refine ih j ?_
      by_cases hs : 97 ≤ B (s + k) ∧ B (s + k) ≤ 122
      · rw [if_pos hs, List.length_append] at hj
        simp only [List.length_cons, List.length_nil] at hj
        omega
      · rw [if_neg hs] at hj; exact hj
theorem dgf_r (B : Int → Int) (s : Int) : ∀ k : Nat, ∀ j : Int, 0 ≤ dgf B s k j ∧ dgf B s k j ≤ 9 := by
  intro k
  induction k with
  | zero => intro j; show (0 : Int) ≤ 0 ∧ (0 : Int) ≤ 9; decide
  | succ k ih =>
    intro j
    unfold dgf
    by_cases hd : 48 ≤ B (s + k) ∧ B (s + k) ≤ 57
    · rw [if_pos hd]
      split
      · omega
      · exact ih j
    · rw [if_neg hd]; exact ih j
theorem lets_sm {B : Int → Int} {s : Int} {k : Nat} (h : 97 ≤ B (s + k) ∧ B (s + k) ≤ 122) : lets B s (k + 1) = lets B s k ++ [B (s + k) - 96] ∧ dgf B s (k + 1) = dgf B s k := ⟨if_pos h, if_neg (by omega)⟩
theorem lets_dg {B : Int → Int} {s : Int} {k : Nat} (h : 48 ≤ B (s + k) ∧ B (s + k) ≤ 57) : lets B s (k + 1) = lets B s k ∧ dgf B s (k + 1) = fun j => if j = ((lets B s k).length : Int) then B (s + k) - 48 else dgf B s k j := ⟨if_neg (by omega), if_pos h⟩
/-- the tree with the strings of its nodes -/
def TRX (h : Hp) (a : Int) (σ : Int → List Int) : Prop := ∃ p, TRI (h (a + 2)) (h (a + 3)) (h (a + 1)) p (h a 6) ∧ σ 0 = [] ∧ ∀ w, 1 ≤ w → w < h a 6 → σ w = σ (p w) ++ [h (a + 1) w]
theorem TRX.inj {h : Hp} {a : Int} {σ : Int → List Int} (T : TRX h a σ) : ∀ (n : Nat) (v w : Int), v ≤ n → 0 ≤ v → v < h a 6 → 0 ≤ w → w < h a 6 → σ v = σ w → v = w := by
  obtain ⟨p, ⟨T0, T1, T2, T3, T4, T5, T6⟩, s0, s1⟩ := T
  intro n
  induction n with
  | zero =>
    intro v w hv v0 v1 w0 w1 e
    have : v = 0 := by omega
    subst this
    rw [s0] at e
    by_cases hw : w = 0
    · exact hw.symm
    · rw [s1 w (by omega) w1] at e
      exact absurd e.symm (by simp)
  | succ n ih =>
    intro v w hv v0 v1 w0 w1 e
    by_cases hv0 : v = 0
    · subst hv0
      rw [s0] at e
      by_cases hw : w = 0
      · exact hw.symm
      · rw [s1 w (by omega) w1] at e
        exact absurd e.symm (by simp)
    · by_cases hw : w = 0
      · subst hw
        rw [s0, s1 v (by omega) v1] at e
        exact absurd e (by simp)
      · rw [s1 v (by omega) v1, s1 w (by omega) w1] at e
        have e2 := List.append_inj' e rfl
        have a1 := T1 v (by omega) v1
        have a2 := T1 w (by omega) w1
        have a3 := ih (p v) (p w) (by omega) a1.1 (by omega) a2.1 (by omega) e2.1
        exact T6 w v (by omega) v1 (by omega) w1 a3 (by have := e2.2; simpa using this)
theorem x_step {h : Hp} {a v c : Int} {σ : Int → List Int} (hL : LAY h) (ha : a ∈ in_aX9) (T : TRX h a σ) (N1 : h a 6 < 4216) (v0 : 0 ≤ v) (v1 : v < h a 6) :
    Pz (m_X9_step a v c h) (fun r => F2 (stW a) h r.2 ∧ ∃ σ', TRX r.2 a σ' ∧ (∀ k, 0 ≤ k → k < h a 6 → σ' k = σ k ∧ r.2 (a + 4) k = h (a + 4) k) ∧ 1 ≤ r.1 ∧ r.1 < r.2 a 6 ∧ σ' r.1 = σ v ++ [c] ∧ h a 6 ≤ r.2 a 6 ∧ r.2 a 6 ≤ h a 6 + 1 ∧
      ∀ k, h a 6 ≤ k → k < r.2 a 6 → r.2 (a + 4) k = -1) := by
  obtain ⟨p, T', s0, s1⟩ := T
  have T1 := T'.2.1
  refine z_mono (c_step hL ha T' N1 v0 v1) (fun r hr => ⟨hr.1, ?_⟩)
  obtain ⟨-, p', R1, R2, R3, R4, R5, R6, R7⟩ := hr
  rcases R7 with ⟨e1, e2⟩ | ⟨e1, e2, e3⟩
  · rw [e1] at R1 R2 R4 R6 ⊢
    rw [e2] at R1 R5
    exact ⟨σ, ⟨p, T', s0, s1⟩, fun k _ _ => ⟨rfl, rfl⟩, R3, R4, by rw [s1 _ R3 R4, R5, R6], by omega, by omega, fun k k1 k2 => by omega⟩
  · refine ⟨fun k => if k = h a 6 then σ v ++ [c] else σ k, ⟨p', R1, ?_, fun w w1 w2 => ?_⟩, fun k k0 k1 => ⟨if_neg (by omega), (R2 k k1).2.2⟩, R3, R4, by rw [e1]; exact if_pos rfl, by omega, by omega, fun k k1 k2 => ?_⟩
    · dsimp only
      rw [if_neg (by omega)]; exact s0
    · dsimp only
      by_cases hw : w = h a 6
      · rw [if_pos hw, hw, ← e1, R5, R6, if_neg (by omega)]
      · have b1 := R2 w (by omega)
        have b2 := T1 w w1 (by omega)
        rw [if_neg hw, b1.1, b1.2.1, if_neg (by omega)]
        exact s1 w w1 (by omega)
    · have : k = r.1 := by omega
      rw [this]; exact e3
/-- what the component writes while it reads patterns -/
def hyW (a : Int) : Int → Int → Prop := fun b j => a ≤ b ∧ b ≤ a + 13 ∧ 0 ≤ j ∧ (b = a → j = 0 ∨ j = 1 ∨ j = 6 ∨ j = 9 ∨ j = 10 ∨ j = 14)
theorem hyW_l {h h' : Hp} {a : Int} (hL : LAY h) (ha : a ∈ in_aX9) (f : F2 (hyW a) h h') : LAY h' := by
  obtain ⟨k0, ⟨-, k1, -⟩, ⟨-, k2, -⟩, ⟨-, k3, -⟩, ⟨-, k4, -⟩, ⟨-, k5, -⟩, ⟨-, k6, -⟩, ⟨-, k7, -⟩, ⟨-, k8, -⟩, ⟨-, k9, -⟩, ⟨-, k10, -⟩, ⟨-, k11, -⟩, ⟨-, k12, -⟩, ⟨-, k13, -⟩⟩ := ly_X9 hL ha
  have h9 := aX9 ha
  refine hL.F2 f (fun b j z => ?_)
  obtain ⟨z1, z2, z3, z4⟩ := z
  refine ⟨z3, by omega, ?_⟩
  have : b = a ∨ b = a + 1 ∨ b = a + 2 ∨ b = a + 3 ∨ b = a + 4 ∨ b = a + 5 ∨ b = a + 6 ∨ b = a + 7 ∨ b = a + 8 ∨ b = a + 9 ∨ b = a + 10 ∨ b = a + 11 ∨ b = a + 12 ∨ b = a + 13 := by omega
  rcases this with rfl | rfl | rfl | rfl | rfl | rfl | rfl | rfl | rfl | rfl | rfl | rfl | rfl | rfl
  · rcases z4 rfl with rfl | rfl | rfl | rfl | rfl | rfl <;> (rw [k0]; decide)
  · rw [k1]; exact fx_a (by decide) (by decide)
  · rw [k2]; exact fx_a (by decide) (by decide)
  · rw [k3]; exact fx_a (by decide) (by decide)
  · rw [k4]; exact fx_a (by decide) (by decide)
  · rw [k5]; exact fx_a (by decide) (by decide)
  · rw [k6]; exact fx_a (by decide) (by decide)
  · rw [k7]; exact fx_a (by decide) (by decide)
  · rw [k8]; exact fx_a (by decide) (by decide)
  · rw [k9]; exact fx_a (by decide) (by decide)
  · rw [k10]; exact fx_a (by decide) (by decide)
  · rw [k11]; exact fx_a (by decide) (by decide)
  · rw [k12]; exact fx_a (by decide) (by decide)
  · rw [k13]; exact fx_a (by decide) (by decide)
theorem hyW_0 {a : Int} (ha : a ∈ in_aX9) : ∀ j, ¬ hyW a 0 j := fun j z => by have := aX9 ha; have := z.1; omega
theorem st_hy {a : Int} : ∀ b j, stW a b j → hyW a b j := fun b j z => by unfold stW at z; unfold hyW; omega
def ptW (a : Int) : Int → Int → Prop := fun b j => (b = a ∧ j = 6) ∨ (a + 1 ≤ b ∧ b ≤ a + 4 ∧ 0 ≤ j) ∨ (b = a + 12 ∧ 0 ≤ j)
theorem pt_hy {a : Int} : ∀ b j, ptW a b j → hyW a b j := fun b j z => by unfold ptW at z; unfold hyW; omega
/-- while a pattern is read: k bytes of it from s on -/
def PTc (h q : Hp) (a : Int) (B : Int → Int) (s : Int) (σ : Int → List Int) (pre : List Int) (k : Nat) (v : Int) : Prop :=
  okP B s k ∧ F2 (ptW a) h q ∧ (∃ σ', TRX q a σ' ∧ (∀ w, 0 ≤ w → w < h a 6 → σ' w = σ w ∧ q (a + 4) w = h (a + 4) w) ∧ (∀ w, h a 6 ≤ w → w < q a 6 → q (a + 4) w = -1) ∧ 0 ≤ v ∧ v < q a 6 ∧ σ' v = pre ++ lets B s k) ∧
  h a 6 ≤ q a 6 ∧ q a 6 ≤ h a 6 + pre.length + k ∧ (∀ j : Int, 0 ≤ j → j ≤ (lets B s k).length → q (a + 12) j = dgf B s k j)
theorem TRX.kept {h h' : Hp} {a : Int} {σ : Int → List Int} (T : TRX h a σ) (e1 : h' (a + 1) = h (a + 1)) (e2 : h' (a + 2) = h (a + 2)) (e3 : h' (a + 3) = h (a + 3)) (e4 : h' a 6 = h a 6) : TRX h' a σ := by
  unfold TRX
  rw [e1, e2, e3, e4]; exact T
theorem okP_s {B : Int → Int} {s : Int} {k : Nat} (h : okP B s k) (h1 : okA B s k) : okP B s (k + 1) := fun i hi => by
  by_cases hk : i = k
  · rw [hk]; exact h1
  · exact h i (by omega)
theorem okP_12 {B : Int → Int} {s : Int} : ∀ k : Nat, okP B s k → (lets B s k).length ≤ 12 := by
  intro k
  induction k with
  | zero => intro _; exact Nat.zero_le _
  | succ k ih =>
    intro h
    have h1 := ih (fun i hi => h i (by omega))
    rcases h k (by omega) with ⟨a, b, -⟩ | ⟨a, b, c⟩
    · rw [(lets_dg ⟨a, b⟩).1]; exact h1
    · rw [(lets_sm ⟨a, b⟩).1, List.length_append]; simp; omega
theorem c_ploop {h q0 : Hp} {a t s e fr v : Int} {σ : Int → List Int} {pre : List Int} {K : Nat} (hL : LAY h) (ha : a ∈ in_aX9) (rm : RM h 1 7) (ht : t < a ∨ a + 13 < t) (ht1 : h t (-2) % 16 = 2) (ht2 : e ≤ h t (-1)) (s0 : 0 ≤ s) (he : e = s + K) (e1 : e ≤ 4000)
    (hN : h a 6 + pre.length + K ≤ 4200) (hN0 : 1 ≤ h a 6) (P : PTc h q0 a (h t) s σ pre 0 v) :
    Pz (lp (fun (q : Int × Int × Int × Int × Hp) => m_X9_pattern_l97 a t fr e q.1 q.2.1 q.2.2.1 q.2.2.2.1 q.2.2.2.2) (v, 0, 0, s, q0)) (sE (fun y : Int × Int × Hp => PTc h y.2.2 a (h t) s σ pre K y.1 ∧ y.2.1 = (lets (h t) s K).length) (fun r => ¬ okP (h t) s K ∧ ThF 432 fr (ptW a) h r)) := by
  have h9 := aX9 ha
  refine z_lp (fun y : Int × Int × Int × Int × Hp => ∃ k : Nat, k ≤ K ∧ y.2.2.2.1 = s + k ∧ y.2.1 = (lets (h t) s k).length ∧ (y.2.2.1 ≠ 0 ↔ dgB (h t) s k) ∧ PTc h y.2.2.2.2 a (h t) s σ pre k y.1) (fun y => (e - y.2.2.2.1).toNat) ⟨0, by omega, by dsimp only; omega, rfl, ⟨fun z => absurd rfl z, fun z => z.elim⟩, P⟩ ?_
  rintro ⟨v', n, d, i, q⟩ ⟨k, k1, e1', e2, e3, P'⟩
  dsimp only at e1' e2 e3 P'
  subst e1' e2
  have P2 := P'
  obtain ⟨ok, F, ⟨σ', X, X1, X2, X3, X4, X5⟩, N1, N2, D⟩ := P'
  have L := hyW_l hL ha (F.mono pt_hy)
  have rq := rm_of rm F (fun j z => by unfold ptW at z; omega)
  have et : q t = h t := F.row (fun j z => by unfold ptW at z; omega)
  obtain ⟨g0, ⟨g1, g2, g3⟩, ⟨g4, g5, g6⟩, ⟨g7, g8, g9⟩, ⟨g10, g11, g12⟩, -, -, -, -, -, -, -, ⟨g13, g14, g15⟩, -⟩ := ly_X9 L ha
  have bad : ¬ okA (h t) s k → k < K → ¬ okP (h t) s K := fun z kk z2 => z (z2 k kk)
  show Pz (m_X9_pattern_l97 a t fr e v' (lets (h t) s k).length d (s + k) q) _
  unfold m_X9_pattern_l97
  refine z_if (fun hc => z_some ?_) (fun hc => ?_)
  · have : k = K := by omega
    subst this
    exact ⟨P2, rfl⟩
  have kK : k < K := by omega
  rw [et]
  refine z_gd (by (try simp (disch := omega) only [up_a, up_e, up_j, e32, e8]) <;> omega) ?_
  have hj : ¬ (48 ≤ h t (s + k) ∧ h t (s + k) ≤ 57 ∧ d = 0) → Pz (m_X9_pattern_j140 a t fr v' (lets (h t) s k).length (s + k) q) (sE (fun t' : Int × Int × Int × Int × Hp => (∃ k : Nat, k ≤ K ∧ t'.2.2.2.1 = s + k ∧ t'.2.1 = (lets (h t) s k).length ∧ (t'.2.2.1 ≠ 0 ↔ dgB (h t) s k) ∧ PTc h t'.2.2.2.2 a (h t) s σ pre k t'.1) ∧ (e - t'.2.2.2.1).toNat < (e - (s + k)).toNat) (sE (fun y : Int × Int × Hp => PTc h y.2.2 a (h t) s σ pre K y.1 ∧ y.2.1 = (lets (h t) s K).length) (fun r => ¬ okP (h t) s K ∧ ThF 432 fr (ptW a) h r))) := by
    intro hnd
    have hnd2 : 48 ≤ h t (s + k) ∧ h t (s + k) ≤ 57 → dgB (h t) s k := fun z => e3.mp (fun z2 => hnd ⟨z.1, z.2, z2⟩)
    unfold m_X9_pattern_j140
    rw [et]
    refine zc_sm (fun hs => ?_) (fun hs => ?_)
    · refine z_ie (by decide) (z_if (fun hl => z_brk rq (fun b h' z => z_some ⟨bad (fun y => ?_) kK, z.F F (fun j z => by unfold ptW at z; omega)⟩)) (fun hl => ?_))
      · unfold okA at y; omega
      · refine z_ie (by (try simp (disch := omega) only [up_a, up_e, up_j, e32, e8]); omega) (z_bW (z_mono (x_step L ha X (by omega) X3 X4) (fun r hr => ?_)))
        obtain ⟨R0, σ2, R1, R2, R3, R4, R5, R6, R7, R8⟩ := hr
        have L2 := stp_l L ha R0
        have rr : r.2 (a + 12) = q (a + 12) := R0.row (fun j z => by unfold stW at z; omega)
        obtain ⟨-, -, -, -, -, -, -, -, -, -, -, -, ⟨g16, g17, g18⟩, -⟩ := ly_X9 L2 ha
        obtain ⟨q1, q2⟩ := lets_sm hs
        have ec : w32 (w32 (h t (s + k) - 97) + 1) = h t (s + k) - 96 := by (try simp (disch := omega) only [up_a, up_e, up_j, e32, e8]); omega
        have ll : ((lets (h t) s (k + 1)).length : Int) = (lets (h t) s k).length + 1 := by rw [q1, List.length_append]; simp
        refine z_lt (z_gd (by (try simp (disch := omega) only [up_a, up_e, up_j, e32, e8, g16, g17, g18]) <;> omega) (z_pt (z_lt ?_)))
        unfold m_X9_pattern_j212
        (try simp (disch := omega) only [up_a, up_e, up_j, e32, e8, g16])
        refine z_lt (z_some ⟨⟨k + 1, by omega, by dsimp only; omega, by dsimp only; omega, ?_, okP_s ok (Or.inr ⟨hs.1, hs.2, by omega⟩), ?_, ⟨σ2, R1.kept (up_row (by omega)) (up_row (by omega)) (up_row (by omega)) (up_a (by omega)), fun w w0 w1 => ?_, fun w w0 w1 => ?_, ?_, ?_, ?_⟩, ?_, ?_, fun j j0 j1 => ?_⟩, ?_⟩) <;> dsimp only
        · unfold dgB; omega
        · exact (F.trans (R0.mono (fun b j z => by unfold stW at z; unfold ptW; omega))).put (by unfold ptW; omega)
        · have b1 := X1 w w0 w1
          have b2 := R2 w w0 (by omega)
          rw [up_a (by omega), b2.1, b2.2]; exact b1
        · dsimp only at w1
          rw [up_a (by omega)] at w1 ⊢
          by_cases hw : w < q a 6
          · rw [(R2 w (by omega) hw).2]; exact X2 w w0 hw
          · exact R8 w (by omega) w1
        · omega
        · rw [up_a (by omega)]; exact R4
        · rw [R5, X5, q1, List.append_assoc, ec]
        · rw [up_a (by omega)]; omega
        · rw [up_a (by omega)]; omega
        · rw [q2]
          by_cases hj : j = (lets (h t) s k).length + 1
          · rw [up_e rfl hj, dgf_far _ _ _ _ (by omega)]
          · rw [up_j hj, rr]; exact D j j0 (by omega)
        · omega
    · refine z_it rfl (z_brk rq (fun b h' z => z_some ⟨bad (fun y => ?_) kK, z.F F (fun j z => by unfold ptW at z; omega)⟩))
      rcases y with ⟨y1, y2, y3⟩ | ⟨y1, y2, -⟩
      · exact y3 (hnd2 ⟨y1, y2⟩)
      · exact hs ⟨y1, y2⟩
  refine zc_dg (fun hd => ?_) (fun hd => z_it rfl (hj (fun z => hd ⟨z.1, z.2.1⟩)))
  refine z_ie (by decide) (z_if (fun hz => hj (fun z => hz z.2.2)) (fun hz => ?_))
  have hz' : d = 0 := by omega
  have lk : (lets (h t) s k).length ≤ 12 := okP_12 k ok
  refine z_gd (by (try simp (disch := omega) only [up_a, up_e, up_j, e32, e8, g13, g14, g15]) <;> omega) (z_pt (z_lt ?_))
  unfold m_X9_pattern_j212
  obtain ⟨q1, q2⟩ := lets_dg hd
  (try simp (disch := omega) only [up_a, up_e, up_j, e32, e8, g13])
  refine z_lt (z_some ⟨⟨k + 1, by omega, by dsimp only; omega, by dsimp only; rw [q1], ?_, okP_s ok (Or.inl ⟨hd.1, hd.2, fun z => e3.mpr z hz'⟩), ?_, ⟨σ', X.kept (up_row (by omega)) (up_row (by omega)) (up_row (by omega)) (up_a (by omega)), fun w w0 w1 => ?_, fun w w0 w1 => ?_, ?_, ?_, ?_⟩, ?_, ?_, fun j j0 j1 => ?_⟩, ?_⟩) <;> dsimp only
  · exact ⟨fun _ => hd, fun _ => by decide⟩
  · exact F.put (by unfold ptW; omega)
  · rw [up_a (by omega)]; exact X1 w w0 w1
  · dsimp only at w1
    rw [up_a (by omega)] at w1 ⊢; exact X2 w w0 w1
  · exact X3
  · rw [up_a (by omega)]; exact X4
  · rw [X5, q1]
  · rw [up_a (by omega)]; omega
  · rw [up_a (by omega)]; omega
  · rw [q2]
    dsimp only
    rw [q1] at j1
    by_cases hj : j = (lets (h t) s k).length
    · rw [up_e rfl hj, if_pos hj]
    · rw [up_j hj, if_neg hj]; exact D j j0 j1
  · omega
