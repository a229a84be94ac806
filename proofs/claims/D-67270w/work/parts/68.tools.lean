set_option maxRecDepth 100000
/-! MORE RULES -/
def sml (c : Int) : Int := if 65 ≤ c ∧ c ≤ 90 then c + 32 else c
theorem q_X1_small {c : Int} (h : -1000 ≤ c ∧ c ≤ 1000) : m_X1_small c = some (sml c) := by
  unfold m_X1_small sml
  grind [w32]
theorem q_X18_small {c : Int} (h : -1000 ≤ c ∧ c ≤ 1000) : m_X18_small c = some (sml c) := by
  unfold m_X18_small sml
  grind [w32]
def isLt (c : Int) : Bool := decide ((97 ≤ c ∧ c ≤ 122) ∨ (65 ≤ c ∧ c ≤ 90))
theorem q_X1_isLetter (c : Int) : m_X1_isLetter c = some (bI (isLt c)) := by
  unfold m_X1_isLetter
  rw [q_X1_isSmall, Option.bind_some]
  unfold isSm isLt bI
  grind
theorem q_X18_isLetter (c : Int) : m_X18_isLetter c = some (bI (isLt c)) := by
  unfold m_X18_isLetter
  rw [q_X18_isSmall, Option.bind_some]
  unfold isSm isLt bI
  grind
/-- two loops; the left one may have turns left when the right one is done -/
theorem y_lp3 {σ ρ τ π : Type} {f : σ → Option (σ ⊕ ρ)} {g : τ → Option (τ ⊕ π)} {s : σ} {t : τ} {Q : ρ → π → Prop} (I : σ → τ → Prop) (μ : σ → Nat) (h0 : I s t)
    (step : ∀ s t, I s t → Pz (f s) (fun a => Pz (g t) (fun b => (∃ s' t', a = .inl s' ∧ b = .inl t' ∧ I s' t' ∧ μ s' < μ s) ∨ (∃ x y, a = .inr x ∧ b = .inr y ∧ Q x y) ∨ (∃ s' y, a = .inl s' ∧ b = .inr y ∧ Pz (lp f s') (fun x => Q x y))))) : Pz (lp f s) (fun x => Pz (lp g t) (fun y => Q x y)) := by
  have key : ∀ n s t, μ s < n → I s t → Pz (lp f s) (fun x => Pz (lp g t) (fun y => Q x y)) := by
    intro n
    induction n with
    | zero => intro s t h; omega
    | succ n ih =>
      intro s t hn hI
      obtain ⟨a, e1, b, e2, e3⟩ := step s t hI
      rcases e3 with ⟨s', t', rfl, rfl, h1, h2⟩ | ⟨x, y, rfl, rfl, h1⟩ | ⟨s', y, rfl, rfl, x, h1, h2⟩
      · obtain ⟨x, c1, y, c2, c3⟩ := ih s' t' (by omega) h1
        exact ⟨x, by rw [lp_eq, e1]; exact c1, y, by rw [lp_eq, e2]; exact c2, c3⟩
      · exact ⟨x, by rw [lp_eq, e1], y, by rw [lp_eq, e2], h1⟩
      · exact ⟨x, by rw [lp_eq, e1]; exact h1, y, by rw [lp_eq, e2], h2⟩
  exact key (μ s + 1) s t (by omega) h0
theorem RM.up {h : Hp} {c s a i v : Int} (r : RM h c s) (ha : a ≠ 0) : RM (up h a i v) c s := by
  unfold RM at *
  rw [up_a (Ne.symm ha), up_a (Ne.symm ha)]; exact r
/-- a loop that sets d at s, s + 1 .. to g 0, g 1 .. -/
theorem z_fill {β : Type} {F : Int × Hp → Option ((Int × Hp) ⊕ β)} {h : Hp} {n d s : Int} {g : Int → Int} {Q : β → Prop} (n0 : 0 ≤ n)
    (body : ∀ x q, 0 ≤ x → x < n → F2 (fun b j => b = d ∧ s ≤ j ∧ j < s + n) h q → F (x, q) = some (.inl (x + 1, up q d (s + x) (g x))))
    (fin : ∀ q, F2 (fun b j => b = d ∧ s ≤ j ∧ j < s + n) h q → (∀ x, 0 ≤ x → x < n → q d (s + x) = g x) → Pz (F (n, q)) (sE (fun _ => False) Q)) :
    Pz (lp F (0, h)) Q := by
  refine z_lp (fun y : Int × Hp => 0 ≤ y.1 ∧ y.1 ≤ n ∧ F2 (fun b j => b = d ∧ s ≤ j ∧ j < s + n) h y.2 ∧ ∀ x, 0 ≤ x → x < y.1 → y.2 d (s + x) = g x) (fun y => (n - y.1).toNat) ⟨Int.le_refl 0, n0, F2.refl, fun x x0 x1 => by dsimp only at x1; omega⟩ ?_
  rintro ⟨x, q⟩ ⟨x0, x1, F', E⟩
  dsimp only at x0 x1 E
  replace F' : F2 (fun b j => b = d ∧ s ≤ j ∧ j < s + n) h q := F'
  by_cases hc : n ≤ x
  · have : x = n := by omega
    subst this
    refine z_mono (fin q F' E) (fun y hy => ?_)
    cases y with
    | inl y => exact hy.elim
    | inr y => exact hy
  · rw [body x q x0 (by omega) F']
    refine z_some ⟨⟨by dsimp only; omega, by dsimp only; omega, F'.put ⟨rfl, by omega, by omega⟩, fun j j0 j1 => ?_⟩, by dsimp only; omega⟩
    dsimp only at j1 ⊢
    by_cases hj : j = x
    · rw [up_e rfl (by omega), hj]
    · rw [up_j (by omega)]; exact E j j0 (by omega)
