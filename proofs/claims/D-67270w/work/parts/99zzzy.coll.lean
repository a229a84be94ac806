-- needs: 99zzzx
set_option maxRecDepth 100000
/-! LINES: the row that was found -/
def endP (rc : Int → Int → Prop) (bs fr : Int → Int → Int) (m e : Int) : Prop := 0 ≤ e ∧ e ≤ 3 ∧ rc m e ∧ ∀ c, 0 ≤ c → c ≤ 3 → rc m c → c = e ∨ bs m e < bs m c ∨ (bs m e = bs m c ∧ fr m e < fr m c)
/-- the ends of lines, from the last on -/
def chL (fr fc : Int → Int → Int) : Nat → Int → Int → List Int
  | 0, _, _ => []
  | n + 1, b, c => if b ≤ 0 then [] else b :: chL fr fc n (fr b c) (fc b c)
def fndP (D : Hp) (τ : Int) : Prop := ∃ rc bs fr fc, (∀ b, 1 ≤ b → b ≤ D 6 0 → dpR D τ rc bs fr fc b) ∧ ∃ c, 0 ≤ c ∧ c ≤ 3 ∧ rc (D 6 0) c
/-- lines of a paragraph: how much was allowed, what they cost, where they end -/
def lnF (D : Hp) (tol τ cost : Int) (L : List Int) : Prop := ((τ = tol ∧ fndP D tol) ∨ (τ = 10000 ∧ ¬ fndP D tol ∧ fndP D 10000) ∨ (τ = 10001 ∧ ¬ fndP D tol ∧ ¬ fndP D 10000)) ∧ ∃ rc bs fr fc e, (∀ b, 1 ≤ b → b ≤ D 6 0 → dpR D τ rc bs fr fc b) ∧ endP rc bs fr (D 6 0) e ∧ cost = bs (D 6 0) e ∧ L = (chL fr fc (D 6 0).toNat (D 6 0) e).reverse
theorem chL_congr {D : Hp} {τ : Int} {rc rc' : Int → Int → Prop} {bs bs' fr fr' fc fc' : Int → Int → Int} {m : Int} (R : ∀ b, 1 ≤ b → b ≤ m → dpR D τ rc bs fr fc b) (E : ∀ b, 1 ≤ b → b ≤ m → tbE rc rc' bs bs' fr fr' fc fc' b) : ∀ (n : Nat) (b c : Int), b ≤ m → 0 ≤ c → c ≤ 3 → (1 ≤ b → rc b c) → chL fr fc n b c = chL fr' fc' n b c := by
  intro n
  induction n with
  | zero => intros; rfl
  | succ n ih =>
    intro b c bm c0 c3 hr
    unfold chL
    by_cases hb : b ≤ 0
    · rw [if_pos hb, if_pos hb]
    · rw [if_neg hb, if_neg hb]
      have r := hr (by omega)
      obtain ⟨e1, e2, e3⟩ := (E b (by omega) bm c c0 c3).2 r
      have g := ((R b (by omega) bm c c0 c3).1 r).1
      rw [← e2, ← e3]
      have gg := g.2.2.2.2
      rw [ih (fr b c) (fc b c) (by have := g.2.1; omega) (by omega) (by omega) (fun z => by
        rcases gg with w | w
        · omega
        · exact w.2.2.2)]
theorem end_uniq {D : Hp} {τ : Int} {rc rc' : Int → Int → Prop} {bs bs' fr fr' fc fc' : Int → Int → Int} {m e e' : Int} (m1 : 1 ≤ m) (R : ∀ b, 1 ≤ b → b ≤ m → dpR D τ rc bs fr fc b) (R' : ∀ b, 1 ≤ b → b ≤ m → dpR D τ rc' bs' fr' fc' b) (h : endP rc bs fr m e) (h' : endP rc' bs' fr' m e') : e = e' ∧ bs m e = bs' m e' ∧ chL fr fc m.toNat m e = chL fr' fc' m.toNat m e' := by
  have E : ∀ b, 1 ≤ b → b ≤ m → tbE rc rc' bs bs' fr fr' fc fc' b := fun b b0 b1 => dp_uniq R R' b.toNat b (by omega) b0 b1
  obtain ⟨a0, a3, ar, am⟩ := h
  obtain ⟨d0, d3, dr, dm⟩ := h'
  have Em := E m m1 (Int.le_refl _)
  have r1 := (Em e' d0 d3).1.mpr dr
  have r2 := (Em e a0 a3).1.mp ar
  have k1 := (Em e a0 a3).2 ar
  have k2 := (Em e' d0 d3).2 r1
  have ee : e = e' := by
    rcases am e' d0 d3 r1 with z | z
    · exact z.symm
    · rcases dm e a0 a3 r2 with y | y
      · exact y
      · exfalso; omega
  subst ee
  exact ⟨rfl, k1.1, chL_congr R E _ _ _ (Int.le_refl _) a0 a3 (fun _ => ar)⟩
theorem lnF_uniq {D : Hp} {tol τ τ' c c' : Int} {L L' : List Int} (m1 : 1 ≤ D 6 0) (h : lnF D tol τ c L) (h' : lnF D tol τ' c' L') : τ = τ' ∧ c = c' ∧ L = L' := by
  obtain ⟨a, rc, bs, fr, fc, e, R, E, rfl, rfl⟩ := h
  obtain ⟨a', rc', bs', fr', fc', e', R', E', rfl, rfl⟩ := h'
  have ht : τ = τ' := by
    rcases a with ⟨x1, x2⟩ | ⟨x1, x2, x3⟩ | ⟨x1, x2, x3⟩ <;> rcases a' with ⟨y1, y2⟩ | ⟨y1, y2, y3⟩ | ⟨y1, y2, y3⟩
    · omega
    · exact absurd x2 y2
    · exact absurd x2 y2
    · exact absurd y2 x2
    · omega
    · exact absurd x3 y3
    · exact absurd y2 x2
    · exact absurd y3 x3
    · omega
  subst ht
  obtain ⟨u1, u2, u3⟩ := end_uniq m1 R R' E E'
  exact ⟨rfl, u2, by rw [u3]⟩
theorem fnd_iff {D : Hp} {τ : Int} {rc : Int → Int → Prop} {bs fr fc : Int → Int → Int} (m1 : 1 ≤ D 6 0) (R : ∀ b, 1 ≤ b → b ≤ D 6 0 → dpR D τ rc bs fr fc b) : fndP D τ ↔ ∃ c, 0 ≤ c ∧ c ≤ 3 ∧ rc (D 6 0) c := by
  constructor
  · rintro ⟨rc', bs', fr', fc', R', c, c0, c3, hc⟩
    exact ⟨c, c0, c3, ((dp_uniq R R' (D 6 0).toNat (D 6 0) (by omega) m1 (Int.le_refl _)) c c0 c3).1.mpr hc⟩
  · intro h
    exact ⟨rc, bs, fr, fc, R, h⟩
/-- where line j ends -/
def enE (L : List Int) (j : Int) : Int := if j = 0 then 0 else (L[(j - 1).toNat]?).getD 0
theorem enE_last {L : List Int} {x j : Int} (h : j = L.length + 1) : enE (L ++ [x]) j = x := by
  unfold enE
  rw [if_neg (by omega), show (j - 1).toNat = L.length by omega, List.getElem?_append_right (Nat.le_refl _), Nat.sub_self]; rfl
theorem enE_old {L : List Int} {x j : Int} (h0 : 0 ≤ j) (h : j ≤ L.length) : enE (L ++ [x]) j = enE L j := by
  unfold enE
  by_cases hj : j = 0
  · rw [if_pos hj, if_pos hj]
  · rw [if_neg hj, if_neg hj, List.getElem?_append_left (by omega)]
theorem chL_len (fr fc : Int → Int → Int) : ∀ (n : Nat) (b c : Int), (chL fr fc n b c).length ≤ n := by
  intro n
  induction n with
  | zero => intros; exact Nat.le_refl _
  | succ n ih =>
    intro b c
    unfold chL
    by_cases hb : b ≤ 0
    · rw [if_pos hb]; exact Nat.zero_le _
    · rw [if_neg hb, List.length_cons]; have := ih (fr b c) (fc b c); omega
