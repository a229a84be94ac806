-- needs: 99zzu
set_option maxRecDepth 100000
/-! HYPHENS: the component goes through its tree -/
theorem dwL_take {q : Int → Int} {n i : Int} {m d : Nat} (h : d ≤ m) : (dwL q n i m).take d = dwL q n i d := by
  unfold dwL
  rw [← List.map_take, List.take_range, Nat.min_eq_left h]
/-- beginnings of a string of the tree are in the tree -/
theorem TRX.pre {h : Hp} {a : Int} {σ : Int → List Int} (T : TRX h a σ) : ∀ (n : Nat) (v : Int), v ≤ n → 0 ≤ v → v < h a 6 → ∀ d : Nat, d ≤ (σ v).length → ∃ w, 0 ≤ w ∧ w < h a 6 ∧ σ w = (σ v).take d := by
  obtain ⟨p, ⟨T0, T1, -⟩, s0, s1⟩ := T
  intro n
  induction n with
  | zero =>
    intro v v1 v0 vN d hd
    have : v = 0 := by omega
    subst this
    rw [s0] at hd ⊢
    exact ⟨0, by omega, vN, by rw [s0]; rw [List.take_nil]⟩
  | succ n ih =>
    intro v v1 v0 vN d hd
    by_cases hv : v ≤ n
    · exact ih v hv v0 vN d hd
    have hv1 : 1 ≤ v := by omega
    have e := s1 v hv1 vN
    have pv := T1 v hv1 vN
    by_cases hd' : d = (σ v).length
    · exact ⟨v, v0, vN, by rw [hd', List.take_length]⟩
    · have le : d ≤ (σ (p v)).length := by
        rw [e, List.length_append] at hd hd'
        dsimp only [List.length_cons, List.length_nil] at hd hd'
        omega
      obtain ⟨w, w0, w1, ew⟩ := ih (p v) (by omega) pv.1 (by omega) d le
      exact ⟨w, w0, w1, by rw [ew, e, List.take_append_of_le_length le]⟩
/-- letters of a word -/
def wdQ (h : Hp) (r f n : Int) (q : Int → Int) : Prop := ∀ k, 0 ≤ k → k < n → (0 ≤ h r (f + k) ∧ h r (f + k) ≤ 127) ∧ sml (h r (f + k)) = q k + 96 ∧ 1 ≤ q k ∧ q k ≤ 26
/-- patterns that stand at i for i <= s, or at s + 1 with d letters at most -/
def ocX (np : Int) (sg : Int → List Int) (q : Int → Int) (n s : Int) (d : Nat) : Int → Int → Prop := fun p i => 0 ≤ p ∧ p < np ∧ occ (sg p) q n i ∧ (i ≤ s ∨ (i = s + 1 ∧ (sg p).length ≤ d))
theorem occ_len {L : List Int} {q : Int → Int} {n i : Int} (h : occ L q n i) (i1 : i = n + 1) (hL : ∃ c ∈ L, c ≠ 0) : False := by
  obtain ⟨h0, h1, h2⟩ := h
  obtain ⟨c, hc, cn⟩ := hL
  have : L.length ≤ 1 := by omega
  match L, this, hc, h2 with
  | [x], _, hc, h2 =>
    rw [List.mem_singleton] at hc
    have : x = dwE q n (i + (0 : Nat)) := by
      have := congrArg (fun l => l.headD 0) h2
      simpa [dwL] using this
    unfold dwE at this
    rw [if_pos (Or.inr (by omega))] at this
    omega
theorem aho_dw {q : Int → Int} {n s : Int} {d : Nat} (s0 : -1 ≤ s) (sn : s < n) (hq : ∀ k, 0 ≤ k → k < n → 1 ≤ q k) : aho (dwL q n (s + 1) (d + 1)) = if s = -1 then 1 else 0 := by
  have e : (dwL q n (s + 1) (d + 1)).head? = some (dwE q n (s + 1)) := by
    unfold dwL
    rw [List.head?_map, List.range_succ_eq_map]
    show some (dwE q n (s + 1 + ((0 : Nat) : Int))) = _
    rw [show s + 1 + ((0 : Nat) : Int) = s + 1 by omega]
  unfold aho
  rw [e]
  unfold dwE
  by_cases h : s = -1
  · rw [if_pos h, if_pos (show s + 1 = 0 ∨ s + 1 = n + 1 by omega), if_pos rfl]
  · rw [if_neg h, if_neg (show ¬ (s + 1 = 0 ∨ s + 1 = n + 1) by omega), show s + 1 - 1 = s by omega, if_neg]
    intro z
    have := hq s (by omega) sn
    simp only [Option.some.injEq] at z
    omega
theorem mxI_0 {x : Int} (h : 0 ≤ x) : mxI x 0 = x := by unfold mxI; rw [if_neg (by omega)]
