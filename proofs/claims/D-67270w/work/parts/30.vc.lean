/-! RULES FOR THE PURE FUNCTIONS: what a computation comes to -/
def Pz {α : Type} (o : Option α) (Q : α → Prop) : Prop := ∃ x, o = some x ∧ Q x
theorem z_some {α : Type} {x : α} {Q : α → Prop} (h : Q x) : Pz (some x) Q := ⟨x, rfl, h⟩
theorem z_mono {α : Type} {o : Option α} {Q Q' : α → Prop} (h : Pz o Q) (k : ∀ x, Q x → Q' x) : Pz o Q' := by
  obtain ⟨x, a, b⟩ := h
  exact ⟨x, a, k x b⟩
theorem z_bind {α β : Type} {o : Option α} {f : α → Option β} {Q : β → Prop} (h : Pz o (fun x => Pz (f x) Q)) : Pz (o.bind f) Q := by
  obtain ⟨x, a, y, b, c⟩ := h
  exact ⟨y, by rw [a]; exact b, c⟩
theorem z_bW {α : Type} {o : Option (Int × Hp)} {f : Int → Hp → Option α} {Q : α → Prop} (h : Pz o (fun x => Pz (f x.1 x.2) Q)) : Pz (bW o f) Q := z_bind h
theorem z_bT {α : Type} {o : Option ((Int × Int) × Hp)} {f g : Int → Hp → Option α} {Q : α → Prop} (h : Pz o (fun x => (x.1.1 = 0 ∧ Pz (f x.1.2 x.2) Q) ∨ (x.1.1 ≠ 0 ∧ Pz (g x.1.2 x.2) Q))) : Pz (bT o f g) Q := by
  obtain ⟨x, a, b⟩ := h
  rcases b with ⟨e, y, b, c⟩ | ⟨e, y, b, c⟩
  · refine ⟨y, ?_, c⟩
    unfold bT
    rw [a, Option.bind_some, if_pos e]; exact b
  · refine ⟨y, ?_, c⟩
    unfold bT
    rw [a, Option.bind_some, if_neg e]; exact b
theorem z_gd {α : Type} {c : Prop} [Decidable c] {k : Option α} {Q : α → Prop} (hc : c) (h : Pz k Q) : Pz (gd c k) Q := by
  unfold gd; rw [if_pos hc]; exact h
theorem z_lt {α : Type} {v : Int} {f : Int → Option α} {Q : α → Prop} (h : Pz (f v) Q) : Pz (lt_ v f) Q := h
theorem z_pt {α : Type} {h : Hp} {a i v : Int} {f : Hp → Option α} {Q : α → Prop} (k : Pz (f (up h a i v)) Q) : Pz (pt h a i v f) Q := k
theorem z_al {α : Type} {h : Hp} {K n : Int} {f : Int → Hp → Option α} {Q : α → Prop} (c : 0 ≤ n ∧ n ≤ 16777216 ∧ h 0 0 < 130538 ∧ h 0 1 + n ≤ 8696812) (k : Pz (f (h 0 0 + 1) (nw h K n)) Q) : Pz (al h K n f) Q := by
  unfold al; rw [if_pos c]; exact k
theorem z_if {α : Type} {c : Prop} [Decidable c] {a b : Option α} {Q : α → Prop} (h1 : c → Pz a Q) (h2 : ¬ c → Pz b Q) : Pz (if c then a else b) Q := by
  by_cases hc : c
  · rw [if_pos hc]; exact h1 hc
  · rw [if_neg hc]; exact h2 hc
theorem z_it {α : Type} {c : Prop} [Decidable c] {a b : Option α} {Q : α → Prop} (hc : c) (h : Pz a Q) : Pz (if c then a else b) Q := by rw [if_pos hc]; exact h
theorem z_ie {α : Type} {c : Prop} [Decidable c] {a b : Option α} {Q : α → Prop} (hc : ¬ c) (h : Pz b Q) : Pz (if c then a else b) Q := by rw [if_neg hc]; exact h
/-- a loop: an invariant, a measure -/
theorem z_lp {σ ρ : Type} {f : σ → Option (σ ⊕ ρ)} {s : σ} {Q : ρ → Prop} (I : σ → Prop) (μ : σ → Nat) (h0 : I s) (step : ∀ t, I t → Pz (f t) (sE (fun t' => I t' ∧ μ t' < μ t) Q)) : Pz (lp f s) Q := by
  refine lp_rule I μ Q (fun t ht => ?_) s h0
  obtain ⟨q, a, b⟩ := step t ht
  cases q with
  | inl t' => exact Or.inl ⟨t', a, b.1, b.2⟩
  | inr r => exact Or.inr ⟨r, a, b⟩
/-- one turn of a loop more -/
theorem z_turn {σ ρ : Type} {f : σ → Option (σ ⊕ ρ)} {s : σ} {Q : ρ → Prop} (h : Pz (f s) (sE (fun t => Pz (lp f t) Q) Q)) : Pz (lp f s) Q := by
  obtain ⟨q, a, b⟩ := h
  cases q with
  | inl t =>
    obtain ⟨x, b, c⟩ := b
    exact ⟨x, by rw [lp_eq, a]; exact b, c⟩
  | inr r => exact ⟨r, by rw [lp_eq, a], b⟩
/-- two loops side by side: while both go on they go on together -/
theorem z_lp2 {σ ρ τ π : Type} {f : σ → Option (σ ⊕ ρ)} {g : τ → Option (τ ⊕ π)} {s : σ} {t : τ} {Q : ρ → π → Prop} (I : σ → τ → Prop) (μ : σ → Nat) (h0 : I s t)
    (step : ∀ s t, I s t → Pz (f s) (sE (fun s' => Pz (g t) (sE (fun t' => I s' t' ∧ μ s' < μ s) (fun _ => False))) (fun x => Pz (lp g t) (fun y => Q x y)))) : Pz (lp f s) (fun x => Pz (lp g t) (fun y => Q x y)) := by
  have key : ∀ n s t, μ s < n → I s t → Pz (lp f s) (fun x => Pz (lp g t) (fun y => Q x y)) := by
    intro n
    induction n with
    | zero => intro s t h; omega
    | succ n ih =>
      intro s t hn hI
      obtain ⟨q, a, b⟩ := step s t hI
      cases q with
      | inl s' =>
        obtain ⟨q2, a2, b2⟩ := b
        cases q2 with
        | inl t' =>
          obtain ⟨x, c1, y, c2, c3⟩ := ih s' t' (by have := b2.2; omega) b2.1
          exact ⟨x, by rw [lp_eq, a]; exact c1, y, by rw [lp_eq, a2]; exact c2, c3⟩
        | inr r => exact absurd b2 (fun h => h)
      | inr r => exact ⟨r, by rw [lp_eq, a], b⟩
  exact key (μ s + 1) s t (by omega) h0
/-- numbers that don't run over -/
theorem e32 {x : Int} (h1 : -2147483648 ≤ x) (h2 : x < 2147483648) : w32 x = x := w32_id ⟨h1, h2⟩
/-- what isn't in W stays -/
def F2 (W : Int → Int → Prop) (h h' : Hp) : Prop := ∀ b j, ¬ W b j → h' b j = h b j
theorem F2.refl {W : Int → Int → Prop} {h : Hp} : F2 W h h := fun _ _ _ => rfl
theorem F2.trans {W : Int → Int → Prop} {h1 h2 h3 : Hp} (a : F2 W h1 h2) (b : F2 W h2 h3) : F2 W h1 h3 := fun x j hx => (b x j hx).trans (a x j hx)
theorem F2.mono {W V : Int → Int → Prop} {h h' : Hp} (a : F2 W h h') (k : ∀ b j, W b j → V b j) : F2 V h h' := fun x j hx => a x j (fun z => hx (k x j z))
theorem F2.put {W : Int → Int → Prop} {h h' : Hp} {a i v : Int} (r : F2 W h h') (w : W a i) : F2 W h (up h' a i v) := fun x j hx => by
  by_cases hc : x = a ∧ j = i
  · exact absurd w (by rw [← hc.1, ← hc.2]; exact hx)
  · have : up h' a i v x j = h' x j := if_neg hc
    rw [this]; exact r x j hx
theorem F2.row {W : Int → Int → Prop} {h h' : Hp} (r : F2 W h h') {b : Int} (n : ∀ j, ¬ W b j) : h' b = h b := funext fun j => r b j (n j)
