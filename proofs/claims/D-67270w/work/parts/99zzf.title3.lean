set_option maxRecDepth 100000
/-! TITLES: labels -/
theorem decL_by : ∀ (k n : Nat), n ≤ k → ∀ c ∈ decL n, 0 ≤ c ∧ c ≤ 127 := by
  intro k
  induction k with
  | zero =>
    intro n hn c hc
    rw [decL, dif_pos (by omega)] at hc
    have := List.mem_singleton.mp hc
    omega
  | succ k ih =>
    intro n hn c hc
    rw [decL] at hc
    by_cases h : n < 10
    · rw [dif_pos h] at hc
      have := List.mem_singleton.mp hc
      omega
    · rw [dif_neg h] at hc
      rcases List.mem_append.mp hc with z | z
      · exact ih _ (by omega) c z
      · have := List.mem_singleton.mp z
        omega
theorem letL_by : ∀ (k n : Nat), n ≤ k → ∀ c ∈ letL n, 0 ≤ c ∧ c ≤ 127 := by
  intro k
  induction k with
  | zero =>
    intro n hn c hc
    rw [letL, dif_pos (by omega)] at hc
    have := List.mem_singleton.mp hc
    omega
  | succ k ih =>
    intro n hn c hc
    rw [letL] at hc
    by_cases h : (n - 1) / 26 = 0
    · rw [dif_pos h] at hc
      have := List.mem_singleton.mp hc
      omega
    · rw [dif_neg h] at hc
      rcases List.mem_append.mp hc with z | z
      · exact ih _ (by omega) c z
      · have := List.mem_singleton.mp z
        omega
theorem dgL_by {d : Nat} {o f t : Int} (ho : 0 ≤ o ∧ o ≤ 127) (hf : 0 ≤ f ∧ f ≤ 127) (ht : 0 ≤ t ∧ t ≤ 127) : ∀ c ∈ dgL d o f t, 0 ≤ c ∧ c ≤ 127 := by
  intro c hc
  unfold dgL at hc
  split at hc
  · simp only [List.mem_cons, List.not_mem_nil, or_false] at hc; omega
  · split at hc
    · simp only [List.mem_cons, List.not_mem_nil, or_false] at hc; omega
    · rcases List.mem_append.mp hc with z | z
      · split at z
        · have := List.mem_singleton.mp z; omega
        · exact absurd z List.not_mem_nil
      · have := List.eq_of_mem_replicate z; omega
theorem fmL_by {how : Int} {v : Nat} : ∀ c ∈ fmL how v, 0 ≤ c ∧ c ≤ 127 := by
  intro c hc
  unfold fmL at hc
  split at hc
  · unfold romL at hc
    rcases List.mem_append.mp hc with z | z
    · have := List.eq_of_mem_replicate z; omega
    · rcases List.mem_append.mp z with z | z
      · exact dgL_by (by decide) (by decide) (by decide) c z
      · rcases List.mem_append.mp z with z | z
        · exact dgL_by (by decide) (by decide) (by decide) c z
        · exact dgL_by (by decide) (by decide) (by decide) c z
  · split at hc
    · exact letL_by v v (Nat.le_refl _) c hc
    · exact decL_by v v (Nat.le_refl _) c hc
/-- who says nothing -/
def mtF (V : Hp) (e : Int) : Bool := decide (V 30 e = 0) || (muF (V 24 (22 * e)) || (decide (V 34 e ≠ 0) || decide (V 35 e ≠ 0)))
/-- a sign of a label -/
def lbB (V : Hp) (e c : Int) : List Int := if c = 35 then fmL (V 24 (22 * e + 18)) (V 27 e).toNat else [c]
/-- a label as it is told -/
def lbS (Y V : Hp) (e : Int) : List Int := if mtF V e = true then [] else (wr (Y 1) (V 25 e) (V 26 e)).flatMap (lbB V e)
/-- a tree of the component, with what it stands on -/
def KC (S Y V p : Hp) (a sa ya n N : Int) (s : Int → List Int) (E F M n' N' : Int) (s' : Int → List Int) (C ns na nsel nb nt m : Int) : Prop :=
  (LAY p ∧ a ∈ in_aX7 ∧ sa ∈ in_aX6 ∧ ya ∈ in_aX3) ∧ SA S p sa n N s E F M ∧ YA Y p ya n' N' s' C ns na nsel nb nt m ∧ TC Y V p S a sa ya n' m E M ∧ TSp S Y V E M nsel
def tlW (a b : Int) : Int → Int → Prop := fun x j => ttW a b x j ∨ (x = a + 15 ∧ j = 1) ∨ (x = a + 16 ∧ 0 ≤ j)
theorem tlW_l {h h' : Hp} {a b : Int} (hL : LAY h) (ha : a ∈ in_aX7) (hb : b ∈ in_aX5) (f : F2 (tlW a b) h h') : LAY h' := by
  have key : ∀ x j, tlW a b x j → 0 ≤ j ∧ ((∃ r ∈ [(b + 1, b + 1), (a + 16, a + 16)], r.1 ≤ x ∧ x ≤ r.2) ∨ ∃ e ∈ [(b, [1]), (a, [19, 20]), (a + 15, [1])], x = e.1 ∧ j ∈ e.2) := by
    intro x j z
    have j0 : 0 ≤ j := by unfold tlW ttW b5W at z; omega
    refine ⟨j0, ?_⟩
    rcases z with ((⟨rfl, z⟩ | ⟨rfl, -⟩) | ⟨rfl, z⟩) | ⟨rfl, z⟩ | ⟨rfl, -⟩
    · exact Or.inr ⟨(x, [1]), by simp, rfl, by simp; omega⟩
    · exact Or.inl ⟨(b + 1, b + 1), by simp, by dsimp only; omega, by dsimp only; omega⟩
    · exact Or.inr ⟨(x, [19, 20]), by simp, rfl, by simp; omega⟩
    · exact Or.inr ⟨(a + 15, [1]), by simp, rfl, by simp; omega⟩
    · exact Or.inl ⟨(a + 16, a + 16), by simp, by dsimp only; omega, by dsimp only; omega⟩
  simp only [in_aX5, List.mem_cons, List.not_mem_nil, or_false] at hb
  refine lay_W hL f _ _ ?_ ?_ key
  · rcases aX7 ha with rfl | rfl <;> rcases hb with rfl | rfl | rfl | rfl | rfl | rfl | rfl | rfl | rfl | rfl | rfl <;> decide +kernel
  · rcases aX7 ha with rfl | rfl <;> rcases hb with rfl | rfl | rfl | rfl | rfl | rfl | rfl | rfl | rfl | rfl | rfl <;> decide +kernel
/-- what a title of the component leaves -/
theorem KC.kept {S Y V p p' : Hp} {a sa ya n N E F M n' N' C ns na nsel nb nt m b : Int} {s s' : Int → List Int} (T : KC S Y V p a sa ya n N s E F M n' N' s' C ns na nsel nb nt m) (hb : b ∈ in_aX5) (hb2 : 273 ≤ b) (f : F2 (tlW a b) p p') : KC S Y V p' a sa ya n N s E F M n' N' s' C ns na nsel nb nt m := by
  obtain ⟨⟨hL, ha, hs, hy⟩, R, R', ⟨⟨t0, t1, t2⟩, t3, t4⟩, ts⟩ := T
  have h7 := aX7 ha
  have h6 := aX6 hs
  have h3 := aX3' hy
  have rw_ : ∀ x, x < 218 → x ≠ a → x ≠ a + 15 → x ≠ a + 16 → p' x = p x := fun x x0 x1 x2 x3 => f.row (fun j z => by unfold tlW ttW b5W at z; omega)
  refine ⟨⟨tlW_l hL ha hb f, ha, hs, hy⟩, R.kept (fun x x0 x1 => rw_ x (by omega) (by omega) (by omega) (by omega)), R'.kept (fun x x0 x1 => rw_ x (by omega) (by omega) (by omega) (by omega)), ⟨⟨?_, ?_, ?_⟩, fun e e0 e1 => ?_, fun k k0 k1 => ?_⟩, ts⟩
  · rw [f _ _ (by unfold tlW ttW b5W; omega)]; exact t0
  · rw [f _ _ (by unfold tlW ttW b5W; omega)]; exact t1
  · rw [f _ _ (by unfold tlW ttW b5W; omega)]; exact t2
  · obtain ⟨z1, z2⟩ := t3 e e0 e1
    rw [rw_ (a + 4) (by omega) (by omega) (by omega) (by omega), rw_ (a + 5) (by omega) (by omega) (by omega) (by omega), rw_ (a + 6) (by omega) (by omega) (by omega) (by omega), rw_ (a + 7) (by omega) (by omega) (by omega) (by omega), rw_ (a + 8) (by omega) (by omega) (by omega) (by omega), rw_ (a + 13) (by omega) (by omega) (by omega) (by omega)]
    refine ⟨z1.kept (fun c _ _ => ?_) ?_ ?_, z2⟩
    · rw [rw_ (a + 2) (by omega) (by omega) (by omega) (by omega)]
    · rw [rw_ (a + 3) (by omega) (by omega) (by omega) (by omega)]
    · rw [rw_ (ya + 12) (by omega) (by omega) (by omega) (by omega)]
  · rw [rw_ (a + 14) (by omega) (by omega) (by omega) (by omega)]; exact t4 k k0 k1
