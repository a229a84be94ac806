/-! more rules: kinds of bytes, broken texts -/
theorem up_e {h : Hp} {a i v b j : Int} (e : b = a) (n : j = i) : up h a i v b j = v := if_pos ⟨e, n⟩
theorem up_j {h : Hp} {a i v b j : Int} (n : j ≠ i) : up h a i v b j = h b j := if_neg fun q => n q.2
theorem z_cls {α : Type} {o : Option Int} {b : Bool} {f : Int → Option α} {Q : α → Prop} (e : o = some (bI b)) (h1 : b = true → Pz (f 1) Q) (h0 : b = false → Pz (f 0) Q) : Pz (o.bind f) Q := by
  rw [e, Option.bind_some]
  cases b with
  | true => exact h1 rfl
  | false => exact h0 rfl
theorem zc_sm {α : Type} {c : Int} {f : Int → Option α} {Q : α → Prop} (h1 : 97 ≤ c ∧ c ≤ 122 → Pz (f 1) Q) (h0 : ¬ (97 ≤ c ∧ c ≤ 122) → Pz (f 0) Q) : Pz ((m_X1_isSmall c).bind f) Q := z_cls (q_X1_isSmall c) (fun e => h1 (of_decide_eq_true e)) (fun e => h0 (of_decide_eq_false e))
theorem zc_dg {α : Type} {c : Int} {f : Int → Option α} {Q : α → Prop} (h1 : 48 ≤ c ∧ c ≤ 57 → Pz (f 1) Q) (h0 : ¬ (48 ≤ c ∧ c ≤ 57) → Pz (f 0) Q) : Pz ((m_X1_isDigit c).bind f) Q := z_cls (q_X1_isDigit c) (fun e => h1 (of_decide_eq_true e)) (fun e => h0 (of_decide_eq_false e))
theorem zc_bl {α : Type} {c : Int} {f : Int → Option α} {Q : α → Prop} (h1 : c = 10 ∨ c = 32 → Pz (f 1) Q) (h0 : ¬ (c = 10 ∨ c = 32) → Pz (f 0) Q) : Pz ((m_X1_isBlank c).bind f) Q := z_cls (q_X1_isBlank c) (fun e => h1 (of_decide_eq_true e)) (fun e => h0 (of_decide_eq_false e))
theorem zt_sm {α : Type} {c : Int} {f : Int → Option α} {Q : α → Prop} (h1 : 97 ≤ c ∧ c ≤ 122 → Pz (f 1) Q) (h0 : ¬ (97 ≤ c ∧ c ≤ 122) → Pz (f 0) Q) : Pz ((m_X18_isSmall c).bind f) Q := z_cls (q_X18_isSmall c) (fun e => h1 (of_decide_eq_true e)) (fun e => h0 (of_decide_eq_false e))
theorem zt_dg {α : Type} {c : Int} {f : Int → Option α} {Q : α → Prop} (h1 : 48 ≤ c ∧ c ≤ 57 → Pz (f 1) Q) (h0 : ¬ (48 ≤ c ∧ c ≤ 57) → Pz (f 0) Q) : Pz ((m_X18_isDigit c).bind f) Q := z_cls (q_X18_isDigit c) (fun e => h1 (of_decide_eq_true e)) (fun e => h0 (of_decide_eq_false e))
theorem zt_bl {α : Type} {c : Int} {f : Int → Option α} {Q : α → Prop} (h1 : c = 10 ∨ c = 32 → Pz (f 1) Q) (h0 : ¬ (c = 10 ∨ c = 32) → Pz (f 0) Q) : Pz ((m_X18_isBlank c).bind f) Q := z_cls (q_X18_isBlank c) (fun e => h1 (of_decide_eq_true e)) (fun e => h0 (of_decide_eq_false e))
theorem z_brk {α : Type} {h : Hp} {K p : Int} {f : Int → Hp → Option α} {Q : α → Prop} (rm : RM h 1 7) (k : ∀ b h', Thr K p h ((1, b), h') → Pz (f b h') Q) : Pz (al h K 7 fun b h0 => (x_broken b p h0).bind fun h8 => f b h8) Q := by
  obtain ⟨r1, r2, r3, r4⟩ := rm
  refine z_al ⟨by omega, by omega, by omega, by omega⟩ ?_
  obtain ⟨n1, n2⟩ := nw_new (h := h) (K := K) (n := 7)
  obtain ⟨n3, n4⟩ := nwCnt (h := h) (K := K) (n := 7) (by omega)
  unfold x_broken
  rw [if_pos (n2 1 (by omega)), Option.bind_some]
  refine k _ _ ⟨rfl, by show 0 < h 0 0 + 1; omega, by show h 0 0 < h 0 0 + 1; omega, ?_, up_s _ _ _ _, nw_F2.put (Or.inr (by omega)), by show up (nw h K 7) (h 0 0 + 1) 0 p 0 0 = _; rw [up_a (by omega)]; exact n3, by show up (nw h K 7) (h 0 0 + 1) 0 p 0 1 = _; rw [up_a (by omega)]; exact n4⟩
  show up (nw h K 7) (h 0 0 + 1) 0 p (h 0 0 + 1) (-2) = K
  rw [up_i (by omega)]; exact n1
theorem rm_of {W : Int → Int → Prop} {h h' : Hp} {c s : Int} (r : RM h c s) (f : F2 W h h') (w0 : ∀ j, ¬ W 0 j) : RM h' c s := r.F2 f (w0 0) (w0 1)
theorem e8 {x : Int} (h1 : -128 ≤ x) (h2 : x < 128) : w8 x = x := w8_id ⟨h1, h2⟩
/-- a loop that writes g 0 .. g (n - 1) to d from s on -/
theorem cp_loop {β : Type} {F : Int × Hp → Option ((Int × Hp) ⊕ β)} {fin : Hp → β} {h : Hp} {n d s : Int} {g : Int → Int} (n0 : 0 ≤ n)
    (body : ∀ x q, 0 ≤ x → x ≤ n → F2 (fun b j => b = d ∧ s ≤ j ∧ j < s + n) h q → F (x, q) = if n ≤ x then some (.inr (fin q)) else some (.inl (x + 1, up q d (s + x) (g x)))) :
    Pz (lp F (0, h)) (fun r => ∃ q, r = fin q ∧ F2 (fun b j => b = d ∧ s ≤ j ∧ j < s + n) h q ∧ ∀ x, 0 ≤ x → x < n → q d (s + x) = g x) := by
  refine z_lp (fun y : Int × Hp => 0 ≤ y.1 ∧ y.1 ≤ n ∧ F2 (fun b j => b = d ∧ s ≤ j ∧ j < s + n) h y.2 ∧ ∀ x, 0 ≤ x → x < y.1 → y.2 d (s + x) = g x) (fun y => (n - y.1).toNat) ⟨Int.le_refl 0, n0, F2.refl, fun x x0 x1 => by dsimp only at x1; omega⟩ ?_
  rintro ⟨x, q⟩ ⟨x0, x1, F', E⟩
  dsimp only at x0 x1 E
  replace F' : F2 (fun b j => b = d ∧ s ≤ j ∧ j < s + n) h q := F'
  rw [body x q x0 x1 F']
  by_cases hc : n ≤ x
  · rw [if_pos hc]
    exact z_some ⟨q, rfl, F', fun j j0 j1 => E j j0 (by omega)⟩
  · rw [if_neg hc]
    refine z_some ⟨⟨by dsimp only; omega, by dsimp only; omega, F'.put ⟨rfl, by omega, by omega⟩, fun j j0 j1 => ?_⟩, by dsimp only; omega⟩
    dsimp only at j1 ⊢
    by_cases hj : j = x
    · rw [up_e rfl (by omega), hj]
    · rw [up_j (by omega)]; exact E j j0 (by omega)
