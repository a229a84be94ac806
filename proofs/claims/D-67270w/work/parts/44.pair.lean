/-! TWO COMPUTATIONS SIDE BY SIDE -/
def Pr {α β : Type} (o : Option α) (u : Option β) (Q : α → β → Prop) : Prop := ∃ x y, o = some x ∧ u = some y ∧ Q x y
theorem y_some {α β : Type} {x : α} {y : β} {Q : α → β → Prop} (h : Q x y) : Pr (some x) (some y) Q := ⟨x, y, rfl, rfl, h⟩
theorem y_mono {α β : Type} {o : Option α} {u : Option β} {Q Q' : α → β → Prop} (h : Pr o u Q) (k : ∀ x y, Q x y → Q' x y) : Pr o u Q' := by
  obtain ⟨x, y, a, b, c⟩ := h
  exact ⟨x, y, a, b, k x y c⟩
theorem y_z {α β : Type} {o : Option α} {u : Option β} {Q : α → β → Prop} (h : Pz o (fun x => Pz u (fun y => Q x y))) : Pr o u Q := by
  obtain ⟨x, a, y, b, c⟩ := h
  exact ⟨x, y, a, b, c⟩
theorem z_y {α β : Type} {o : Option α} {u : Option β} {Q : α → β → Prop} (h : Pr o u Q) : Pz o (fun x => Pz u (fun y => Q x y)) := by
  obtain ⟨x, y, a, b, c⟩ := h
  exact ⟨x, a, y, b, c⟩
theorem yl_bind {α β γ : Type} {o : Option α} {f : α → Option γ} {u : Option β} {Q : γ → β → Prop} (h : Pz o (fun x => Pr (f x) u Q)) : Pr (o.bind f) u Q := by
  obtain ⟨x, a, y, w, b, c, d⟩ := h
  exact ⟨y, w, by rw [a]; exact b, c, d⟩
theorem yr_bind {α β γ : Type} {o : Option α} {f : α → Option γ} {u : Option β} {Q : β → γ → Prop} (h : Pz o (fun x => Pr u (f x) Q)) : Pr u (o.bind f) Q := by
  obtain ⟨x, a, y, w, b, c, d⟩ := h
  exact ⟨y, w, b, by rw [a]; exact c, d⟩
theorem yl_bW {β γ : Type} {o : Option (Int × Hp)} {f : Int → Hp → Option γ} {u : Option β} {Q : γ → β → Prop} (h : Pz o (fun x => Pr (f x.1 x.2) u Q)) : Pr (bW o f) u Q := yl_bind h
theorem yr_bW {β γ : Type} {o : Option (Int × Hp)} {f : Int → Hp → Option γ} {u : Option β} {Q : β → γ → Prop} (h : Pz o (fun x => Pr u (f x.1 x.2) Q)) : Pr u (bW o f) Q := yr_bind h
theorem bT_0 {α : Type} {o : Option ((Int × Int) × Hp)} {f g : Int → Hp → Option α} {x : (Int × Int) × Hp} (a : o = some x) (e : x.1.1 = 0) : bT o f g = f x.1.2 x.2 := by unfold bT; rw [a, Option.bind_some, if_pos e]
theorem bT_1 {α : Type} {o : Option ((Int × Int) × Hp)} {f g : Int → Hp → Option α} {x : (Int × Int) × Hp} (a : o = some x) (e : x.1.1 ≠ 0) : bT o f g = g x.1.2 x.2 := by unfold bT; rw [a, Option.bind_some, if_neg e]
theorem yl_bT {β γ : Type} {o : Option ((Int × Int) × Hp)} {f g : Int → Hp → Option γ} {u : Option β} {Q : γ → β → Prop} (h : Pz o (fun x => (x.1.1 = 0 ∧ Pr (f x.1.2 x.2) u Q) ∨ (x.1.1 ≠ 0 ∧ Pr (g x.1.2 x.2) u Q))) : Pr (bT o f g) u Q := by
  obtain ⟨x, a, b⟩ := h
  rcases b with ⟨e, b⟩ | ⟨e, b⟩
  · rw [bT_0 a e]; exact b
  · rw [bT_1 a e]; exact b
theorem yr_bT {β γ : Type} {o : Option ((Int × Int) × Hp)} {f g : Int → Hp → Option γ} {u : Option β} {Q : β → γ → Prop} (h : Pz o (fun x => (x.1.1 = 0 ∧ Pr u (f x.1.2 x.2) Q) ∨ (x.1.1 ≠ 0 ∧ Pr u (g x.1.2 x.2) Q))) : Pr u (bT o f g) Q := by
  obtain ⟨x, a, b⟩ := h
  rcases b with ⟨e, b⟩ | ⟨e, b⟩
  · rw [bT_0 a e]; exact b
  · rw [bT_1 a e]; exact b
theorem yl_gd {α β : Type} {c : Prop} [Decidable c] {k : Option α} {u : Option β} {Q : α → β → Prop} (hc : c) (h : Pr k u Q) : Pr (gd c k) u Q := by unfold gd; rw [if_pos hc]; exact h
theorem yr_gd {α β : Type} {c : Prop} [Decidable c] {k : Option α} {u : Option β} {Q : β → α → Prop} (hc : c) (h : Pr u k Q) : Pr u (gd c k) Q := by unfold gd; rw [if_pos hc]; exact h
theorem yl_lt {α β : Type} {v : Int} {f : Int → Option α} {u : Option β} {Q : α → β → Prop} (h : Pr (f v) u Q) : Pr (lt_ v f) u Q := h
theorem yr_lt {α β : Type} {v : Int} {f : Int → Option α} {u : Option β} {Q : β → α → Prop} (h : Pr u (f v) Q) : Pr u (lt_ v f) Q := h
theorem yl_pt {α β : Type} {h : Hp} {a i v : Int} {f : Hp → Option α} {u : Option β} {Q : α → β → Prop} (k : Pr (f (up h a i v)) u Q) : Pr (pt h a i v f) u Q := k
theorem yr_pt {α β : Type} {h : Hp} {a i v : Int} {f : Hp → Option α} {u : Option β} {Q : β → α → Prop} (k : Pr u (f (up h a i v)) Q) : Pr u (pt h a i v f) Q := k
theorem yl_if {α β : Type} {c : Prop} [Decidable c] {a b : Option α} {u : Option β} {Q : α → β → Prop} (h1 : c → Pr a u Q) (h2 : ¬ c → Pr b u Q) : Pr (if c then a else b) u Q := by
  by_cases hc : c
  · rw [if_pos hc]; exact h1 hc
  · rw [if_neg hc]; exact h2 hc
theorem yr_if {α β : Type} {c : Prop} [Decidable c] {a b : Option α} {u : Option β} {Q : β → α → Prop} (h1 : c → Pr u a Q) (h2 : ¬ c → Pr u b Q) : Pr u (if c then a else b) Q := by
  by_cases hc : c
  · rw [if_pos hc]; exact h1 hc
  · rw [if_neg hc]; exact h2 hc
theorem yl_it {α β : Type} {c : Prop} [Decidable c] {a b : Option α} {u : Option β} {Q : α → β → Prop} (hc : c) (h : Pr a u Q) : Pr (if c then a else b) u Q := by rw [if_pos hc]; exact h
theorem yl_ie {α β : Type} {c : Prop} [Decidable c] {a b : Option α} {u : Option β} {Q : α → β → Prop} (hc : ¬ c) (h : Pr b u Q) : Pr (if c then a else b) u Q := by rw [if_neg hc]; exact h
theorem yr_it {α β : Type} {c : Prop} [Decidable c] {a b : Option α} {u : Option β} {Q : β → α → Prop} (hc : c) (h : Pr u a Q) : Pr u (if c then a else b) Q := by rw [if_pos hc]; exact h
theorem yr_ie {α β : Type} {c : Prop} [Decidable c] {a b : Option α} {u : Option β} {Q : β → α → Prop} (hc : ¬ c) (h : Pr u b Q) : Pr u (if c then a else b) Q := by rw [if_neg hc]; exact h
/-- two loops that go on together -/
theorem y_lp {σ ρ τ π : Type} {f : σ → Option (σ ⊕ ρ)} {g : τ → Option (τ ⊕ π)} {s : σ} {t : τ} {Q : ρ → π → Prop} (I : σ → τ → Prop) (μ : σ → Nat) (h0 : I s t)
    (step : ∀ s t, I s t → Pr (f s) (g t) (fun a b => (∃ s' t', a = .inl s' ∧ b = .inl t' ∧ I s' t' ∧ μ s' < μ s) ∨ (∃ x y, a = .inr x ∧ b = .inr y ∧ Q x y))) : Pr (lp f s) (lp g t) Q := by
  have key : ∀ n s t, μ s < n → I s t → Pr (lp f s) (lp g t) Q := by
    intro n
    induction n with
    | zero => intro s t h; omega
    | succ n ih =>
      intro s t hn hI
      obtain ⟨a, b, e1, e2, e3⟩ := step s t hI
      rcases e3 with ⟨s', t', rfl, rfl, h1, h2⟩ | ⟨x, y, rfl, rfl, h1⟩
      · obtain ⟨x, y, c1, c2, c3⟩ := ih s' t' (by omega) h1
        exact ⟨x, y, by rw [lp_eq, e1]; exact c1, by rw [lp_eq, e2]; exact c2, c3⟩
      · exact ⟨x, y, by rw [lp_eq, e1], by rw [lp_eq, e2], h1⟩
  exact key (μ s + 1) s t (by omega) h0
