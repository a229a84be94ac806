/-! SIGNS: what they are, what is asked of them -/
theorem sc_ex {B : Int → Int} {p : Int → Bool} {n : Int} (hB : ∀ x, n ≤ x → p (B x) = false) : ∀ (k : Nat) (i : Int), (n - i).toNat = k → i ≤ n → ∃ j, Sc B p i j ∧ j ≤ n := by
  intro k
  induction k with
  | zero =>
    intro i hk hi
    exact ⟨i, ⟨Int.le_refl _, fun x h1 h2 => by omega, hB i (by omega)⟩, hi⟩
  | succ k ih =>
    intro i hk hi
    by_cases hc : p (B i) = true
    · obtain ⟨j, ⟨a1, a2, a3⟩, a4⟩ := ih (i + 1) (by omega) (by omega)
      refine ⟨j, ⟨by omega, fun x h1 h2 => ?_, a3⟩, a4⟩
      rcases Int.lt_or_eq_of_le h1 with hx | hx
      · exact a2 x (by omega) h2
      · rw [← hx]; exact hc
    · exact ⟨i, ⟨Int.le_refl _, fun x h1 h2 => by omega, bF hc⟩, hi⟩
theorem sc_spec {B : Int → Int} {p : Int → Bool} {n i : Int} (hB : ∀ x, n ≤ x → p (B x) = false) (hi : i ≤ n) : Sc B p i (sc B p i) ∧ i ≤ sc B p i ∧ sc B p i ≤ n := by
  obtain ⟨j, a, b⟩ := sc_ex hB _ i rfl hi
  rw [sc_of a]
  exact ⟨a, a.1, b⟩
/-- what is known of a sign of a text of n bytes -/
def TkOK (n : Int) (q : Int × Int × Int × Int) : Prop :=
  0 ≤ q.2.1 ∧ q.2.1 ≤ n ∧ q.2.1 ≤ q.2.2.1 ∧ (q.1 ≠ 5 → q.2.2.1 ≤ n) ∧ 0 ≤ q.1 ∧ q.1 ≤ 5 ∧ (q.1 = 1 → q.2.1 < q.2.2.1 ∧ q.2.2.1 - q.2.1 ≤ 12) ∧ (q.1 = 3 → q.2.1 + 2 ≤ q.2.2.1) ∧ (q.1 = 2 → 0 ≤ q.2.2.2 ∧ q.2.2.2 < 10000000) ∧ (q.1 = 4 → 32 ≤ q.2.2.2 ∧ q.2.2.2 ≤ 126) ∧ (q.1 = 0 → q.2.2.1 = n)
theorem tk_r {h : Hp} {t n i : Int} (h0 : 0 ≤ i) (hi : i ≤ n) : TkOK n (tk (Bt h t n) i) := by
  have s0 := sc_spec (B := Bt h t n) (p := isBl) (i := i) (fun x hx => bt_end (by decide) hx) hi
  unfold tk
  generalize hj : sc (Bt h t n) isBl i = j at *
  obtain ⟨g1, g2, g3⟩ := s0
  by_cases c0 : Bt h t n j < 0
  · rw [if_pos c0]
    have hn : j = n := by
      rcases Int.lt_or_le j n with hh | hh
      · have := Bt_0 (h := h) (t := t) hh; omega
      · omega
    exact ⟨by show 0 ≤ j; omega, g3, Int.le_refl _, fun _ => g3, (by show (0 : Int) ≤ 0; decide), (by show (0 : Int) ≤ 5; decide), fun z => absurd z (by show ¬ (0 : Int) = 1; decide), fun z => absurd z (by show ¬ (0 : Int) = 3; decide), fun z => absurd z (by show ¬ (0 : Int) = 2; decide), fun z => absurd z (by show ¬ (0 : Int) = 4; decide), fun _ => hn⟩
  · rw [if_neg c0]
    have hjn : j < n := Bt_n (h := h) (t := t) (by omega)
    by_cases c1 : isSm (Bt h t n j) = true
    · rw [if_pos c1]
      obtain ⟨k1, k2, k3⟩ := sc_spec (B := Bt h t n) (p := isNm) (i := j) (fun x hx => bt_end (by decide) hx) g3
      generalize hk : sc (Bt h t n) isNm j = k at *
      have hjk : j < k := by
        rcases Int.lt_or_eq_of_le k2 with hh | hh
        · exact hh
        · have := k1.2.2
          rw [← hh] at this
          unfold isSm at c1
          unfold isNm at this
          rw [decide_eq_true (Or.inl (of_decide_eq_true c1))] at this
          cases this
      refine ⟨by show 0 ≤ j; omega, by show j ≤ n; omega, k2, fun _ => k3, ?_, ?_, fun z => ⟨hjk, ?_⟩, fun z => ?_, fun z => ?_, fun z => ?_, fun z => ?_⟩ <;> dsimp only at * <;> split at * <;> omega
    · rw [if_neg c1]
      by_cases c2 : isDg (Bt h t n j) = true
      · rw [if_pos c2]
        obtain ⟨k1, k2, k3⟩ := sc_spec (B := Bt h t n) (p := isDg) (i := j) (fun x hx => bt_end (by decide) hx) g3
        generalize hk : sc (Bt h t n) isDg j = k at *
        have hnv := nv_r (B := Bt h t n) (i := j) (min 7 (k - j).toNat) (fun x h1 h2 => k1.2.1 x h1 (by omega)) (by omega)
        have hp : (10 : Int) ^ (min 7 (k - j).toNat) ≤ 10000000 := by
          have : ∀ k : Nat, k ≤ 7 → (10 : Int) ^ k ≤ 10000000 := by decide
          exact this _ (by omega)
        generalize hv : nv (Bt h t n) j (min 7 (k - j).toNat) = v at *
        refine ⟨by show 0 ≤ j; omega, by show j ≤ n; omega, k2, fun _ => k3, ?_, ?_, fun z => ?_, fun z => ?_, fun z => ⟨?_, ?_⟩, fun z => ?_, fun z => ?_⟩ <;> dsimp only at * <;> split at * <;> omega
      · rw [if_neg c2]
        by_cases c3 : Bt h t n j = 34
        · rw [if_pos c3]
          obtain ⟨k1, k2, k3⟩ := sc_spec (B := Bt h t n) (p := isSt) (i := j + 1) (fun x hx => bt_end (by decide) hx) (by omega)
          generalize hk : sc (Bt h t n) isSt (j + 1) = k at *
          have hkn : Bt h t n k = 34 → k < n := fun z => Bt_n (h := h) (t := t) (by omega)
          by_cases c4 : Bt h t n k = 34
          · rw [if_pos c4]
            have := hkn c4
            exact ⟨by show 0 ≤ j; omega, by show j ≤ n; omega, by show j ≤ k + 1; omega, fun _ => by show k + 1 ≤ n; omega, (by show (0 : Int) ≤ 3; decide), (by show (3 : Int) ≤ 5; decide), fun z => absurd z (by show ¬ (3 : Int) = 1; decide), fun _ => by show j + 2 ≤ k + 1; omega, fun z => absurd z (by show ¬ (3 : Int) = 2; decide), fun z => absurd z (by show ¬ (3 : Int) = 4; decide), fun z => absurd z (by show ¬ (3 : Int) = 0; decide)⟩
          · rw [if_neg c4]
            exact ⟨by show 0 ≤ j; omega, by show j ≤ n; omega, by show j ≤ k + 1; omega, fun z => absurd rfl z, (by show (0 : Int) ≤ 5; decide), (by show (5 : Int) ≤ 5; decide), fun z => absurd z (by show ¬ (5 : Int) = 1; decide), fun z => absurd z (by show ¬ (5 : Int) = 3; decide), fun z => absurd z (by show ¬ (5 : Int) = 2; decide), fun z => absurd z (by show ¬ (5 : Int) = 4; decide), fun z => absurd z (by show ¬ (5 : Int) = 0; decide)⟩
        · rw [if_neg c3]
          generalize hc : Bt h t n j = c at *
          by_cases c4 : isPl c = true
          · rw [if_pos c4]
            unfold isPl at c4
            have c4 := of_decide_eq_true c4
            exact ⟨by show 0 ≤ j; omega, by show j ≤ n; omega, by show j ≤ j + 1; omega, fun _ => by show j + 1 ≤ n; omega, (by show (0 : Int) ≤ 4; decide), (by show (4 : Int) ≤ 5; decide), fun z => absurd z (by show ¬ (4 : Int) = 1; decide), fun z => absurd z (by show ¬ (4 : Int) = 3; decide), fun z => absurd z (by show ¬ (4 : Int) = 2; decide), fun _ => c4, fun z => absurd z (by show ¬ (4 : Int) = 0; decide)⟩
          · rw [if_neg c4]
            exact ⟨by show 0 ≤ j; omega, by show j ≤ n; omega, by show j ≤ j + 1; omega, fun z => absurd rfl z, (by show (0 : Int) ≤ 5; decide), (by show (5 : Int) ≤ 5; decide), fun z => absurd z (by show ¬ (5 : Int) = 1; decide), fun z => absurd z (by show ¬ (5 : Int) = 3; decide), fun z => absurd z (by show ¬ (5 : Int) = 2; decide), fun z => absurd z (by show ¬ (5 : Int) = 4; decide), fun z => absurd z (by show ¬ (5 : Int) = 0; decide)⟩
/-- k bytes of a row from i on -/
def wd (h : Hp) (t i : Int) (k : Nat) : List Int := (List.range k).map (fun x : Nat => h t (i + (x : Int)))
theorem wd_len {h : Hp} {t i : Int} {k : Nat} : (wd h t i k).length = k := by unfold wd; simp
theorem wd_at {h : Hp} {t i : Int} {k x : Nat} (hx : x < k) : (wd h t i k)[x]? = some (h t (i + (x : Int))) := by unfold wd; simp [hx]
theorem wd_eq {h : Hp} {t i : Int} {k : Nat} {b : List Int} (hk : b.length = k) : wd h t i k = b ↔ ∀ x : Nat, x < k → b[x]? = some (h t (i + (x : Int))) := by
  constructor
  · intro e x hx
    rw [← e]; exact wd_at hx
  · intro e
    apply List.ext_getElem?
    intro x
    by_cases hx : x < k
    · rw [wd_at hx, e x hx]
    · rw [List.getElem?_eq_none (by rw [wd_len]; omega), List.getElem?_eq_none (by omega)]
theorem wd_h {h h' : Hp} {t i : Int} {k : Nat} (e : h' t = h t) : wd h' t i k = wd h t i k := by unfold wd; rw [e]
/-- a loop that compares: 1 when all up to k are equal, else 0 -/
theorem cmp_loop {F : Int → Option (Int ⊕ Int)} {E : Nat → Prop} {k : Nat} (hk : k < 2147483647) (body : ∀ x : Nat, x ≤ k → F (x : Int) = if k ≤ x then some (.inr 1) else @ite _ (E x) (Classical.propDecidable _) (some (.inl (w32 ((x : Int) + 1)))) (some (.inr 0))) :
    Pz (lp F 0) (fun r => (r = 1 ∧ ∀ x : Nat, x < k → E x) ∨ (r = 0 ∧ ¬ ∀ x : Nat, x < k → E x)) := by
  refine z_lp (I := fun j => ∃ x : Nat, j = x ∧ x ≤ k ∧ ∀ y : Nat, y < x → E y) (μ := fun j => (k - j).toNat) ⟨0, rfl, Nat.zero_le _, fun y hy => absurd hy (Nat.not_lt_zero _)⟩ ?_
  rintro j ⟨x, rfl, x1, x2⟩
  rw [body x x1]
  by_cases hc : k ≤ x
  · rw [if_pos hc]
    exact z_some (Or.inl ⟨rfl, fun y hy => x2 y (by omega)⟩)
  · rw [if_neg hc]
    by_cases hE : E x
    · rw [if_pos hE]
      refine z_some ⟨⟨x + 1, ?_, by omega, fun y hy => ?_⟩, ?_⟩
      · rw [e32 (by omega) (by omega)]; rfl
      · rcases Nat.lt_or_eq_of_le (show y ≤ x by omega) with hh | hh
        · exact x2 y hh
        · rw [hh]; exact hE
      · rw [e32 (by omega) (by omega)]; omega
    · rw [if_neg hE]
      exact z_some (Or.inr ⟨rfl, fun z => hE (z x (by omega))⟩)
theorem q_slen {s : Int} {b : List Int} (hs : strB s = some b) : x_slen s = some (b.length : Int) := by unfold x_slen; rw [hs]; rfl
theorem q_sat {s : Int} {b : List Int} {x : Nat} {v : Int} (hs : strB s = some b) (hx : b[x]? = some v) : x_sat s (x : Int) = some v := by
  unfold x_sat
  rw [if_pos (by omega), hs, Option.bind_some, Int.toNat_natCast, hx]
theorem strB_l {s : Int} {b : List Int} (hs : strB s = some b) : b.length < 200 := by
  unfold strB at hs
  split at hs
  · exact (srB_at hs).1
  · cases hs
/-- is a row of bytes a word? -/
noncomputable def eqW (w b : List Int) : Int := @ite _ (w = b) (Classical.propDecidable _) 1 0
theorem q_X18_is {h : Hp} {t i e s : Int} {b : List Int} (hs : strB s = some b) (hk : h t (-2) % 16 = 2) (h0 : 0 ≤ i) (h1 : i ≤ e) (h2 : e ≤ h t (-1)) (h3 : h t (-1) ≤ 65536) : m_X18_is t i e s h = some (eqW (wd h t i (e - i).toNat) b) := by
  have hl := strB_l hs
  unfold m_X18_is
  rw [q_slen hs, Option.bind_some, e32 (x := e - i) (by omega) (by omega)]
  by_cases hc : e - i = (b.length : Int)
  · rw [if_pos hc]
    have hkl : (e - i).toNat = b.length := by omega
    have L := cmp_loop (F := fun q => m_X18_is_l15 t i s q h) (E := fun x => b[x]? = some (h t (i + (x : Int)))) (k := b.length) (by omega) (fun x hx => by
      unfold m_X18_is_l15
      rw [q_slen hs, Option.bind_some]
      by_cases hx2 : b.length ≤ x
      · rw [if_pos (by omega), if_pos hx2]
      · rw [if_neg (by omega), if_neg hx2, e32 (x := i + (x : Int)) (by omega) (by omega)]
        have hb : b[x]? = some b[x] := List.getElem?_eq_getElem (by omega)
        unfold gd
        rw [if_pos ⟨hk, by omega, by omega⟩, q_sat hs hb, Option.bind_some]
        by_cases hE : h t (i + (x : Int)) = b[x]
        · rw [if_pos hE, if_pos (by rw [hb, hE])]
          rfl
        · rw [if_neg hE, if_neg (fun z => hE (by rw [hb] at z; exact (Option.some.inj z).symm))])
    obtain ⟨r, e1, e2⟩ := L
    show (lp (fun q => m_X18_is_l15 t i s q h) 0).bind (fun x => some x) = _
    rw [e1, Option.bind_some]
    congr 1
    unfold eqW
    rcases e2 with ⟨e2, e3⟩ | ⟨e2, e3⟩
    · rw [if_pos ((wd_eq hkl.symm).mpr (by rw [hkl]; exact e3))]; exact e2
    · rw [if_neg (fun z => e3 (by have := (wd_eq hkl.symm).mp z; rw [hkl] at this; exact this))]; exact e2
  · rw [if_neg hc]
    congr 1
    unfold eqW
    rw [if_neg]
    intro z
    have := congrArg List.length z
    rw [wd_len] at this
    omega
