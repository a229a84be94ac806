set_option maxRecDepth 100000
/-! TITLES: what stands in an element -/
/-- x lies in e (or is it) -/
def dsc (P : Int → Int) (e : Int) : Nat → Int → Prop
  | 0, x => x = e
  | k + 1, x => x = e ∨ (e < x ∧ dsc P e k (P x))
theorem dsc_le {P : Int → Int} {e : Int} : ∀ (k : Nat) (x : Int), dsc P e k x → e ≤ x
  | 0, x, h => by
    have : x = e := h
    omega
  | k + 1, x, h => by
    rcases h with h | h
    · omega
    · omega
theorem dsc_up {P : Int → Int} {e : Int} : ∀ (k : Nat) (x : Int), dsc P e k x → x ≠ e → ∃ k', dsc P e k' (P x)
  | 0, x, h, n => absurd h n
  | k + 1, x, h, n => by
    rcases h with h | h
    · exact absurd h n
    · exact ⟨k, h.2⟩
/-- within an element: all that is around lies in it -/
theorem nest {S p : Hp} {a n N E F M e : Int} {s : Int → List Int} (R : SA S p a n N s E F M) (e0 : 0 ≤ e) (e1 : e < E) : ∀ m : Nat, S 11 e < m → (m : Int) ≤ S 12 e → ∃ k, dsc (S 7) e k (cuP (S 2) (S 3) (S 7) m) := by
  obtain ⟨b1, b2, b3, b4, b5, b6, -⟩ := R.2.2.2.2.2.2.1 e e0 e1
  have ev := R.2.2.2.2.2.1.2.2.2
  have cu := R.2.2.2.2.2.2.2.2
  have par := R.2.2.2.1
  intro m
  induction m with
  | zero => intro h _; exact absurd h (by omega)
  | succ m ih =>
    intro h1 h2
    rw [cuP_step]
    by_cases hm : S 11 e = m
    · rw [if_pos (by rw [← hm]; exact b4), ← hm, b5]
      exact ⟨0, rfl⟩
    · obtain ⟨k, hk⟩ := ih (by omega) (by omega)
      have c := cu m (by omega)
      by_cases i1 : S 2 m = 1
      · rw [if_pos i1]
        have c1 := c.1 i1
        have le := dsc_le _ _ hk
        have rx : 0 ≤ S 3 m ∧ S 3 m < E := by
          rcases ev m (by omega) (by omega) with z | z | z | z <;> omega
        have := par _ rx.1 rx.2
        refine ⟨k + 1, Or.inr ⟨by omega, ?_⟩⟩
        rw [c1]; exact hk
      · rw [if_neg i1]
        by_cases i2 : S 2 m = 2
        · rw [if_pos i2]
          have c2 := c.2 i2
          refine dsc_up k _ hk (fun z => ?_)
          rw [← c2] at z
          have : S 12 (S 3 m) = m := by
            rcases ev m (by omega) (by omega) with z | z | z | z <;> omega
          rw [z] at this
          omega
        · rw [if_neg i2]; exact ⟨k, hk⟩
theorem SA.end_ {S p : Hp} {a n N E F M : Int} {s : Int → List Int} (R : SA S p a n N s E F M) {m : Int} (m0 : 0 ≤ m) (m1 : m < M) (h : S 2 m = 2) : 0 ≤ S 3 m ∧ S 3 m < E ∧ S 12 (S 3 m) = m := by
  rcases R.2.2.2.2.2.1.2.2.2 m m0 m1 with z | z | z | z <;> first | (exfalso; omega) | exact ⟨by omega, by omega, by omega⟩
theorem SA.beg_ {S p : Hp} {a n N E F M : Int} {s : Int → List Int} (R : SA S p a n N s E F M) {m : Int} (m0 : 0 ≤ m) (m1 : m < M) (h : S 2 m = 1) : 0 ≤ S 3 m ∧ S 3 m < E ∧ S 11 (S 3 m) = m := by
  rcases R.2.2.2.2.2.1.2.2.2 m m0 m1 with z | z | z | z <;> first | (exfalso; omega) | exact ⟨by omega, by omega, by omega⟩
/-- an element that begins within another ends there -/
theorem nest_end {S p : Hp} {a n N E F M e x : Int} {s : Int → List Int} (R : SA S p a n N s E F M) (e0 : 0 ≤ e) (e1 : e < E) (x0 : 0 ≤ x) (x1 : x < E) (h1 : S 11 e < S 11 x) (h2 : S 11 x < S 12 e) : S 12 x < S 12 e ∧ e < x := by
  have be := R.2.2.2.2.2.2.1 e e0 e1
  have bx := R.2.2.2.2.2.2.1 x x0 x1
  have cu := R.2.2.2.2.2.2.2.2
  have par := R.2.2.2.1 x x0 x1
  have t1 : ((S 11 x).toNat : Int) = S 11 x := by omega
  obtain ⟨k, hk⟩ := nest R e0 e1 (S 11 x).toNat (by omega) (by omega)
  have c1 := (cu (S 11 x).toNat (by omega)).1 (by rw [t1]; exact bx.2.2.2.1)
  rw [t1, bx.2.2.2.2.1] at c1
  have le := dsc_le _ _ hk
  have ex : e < x := by omega
  refine ⟨?_, ex⟩
  by_cases h : S 12 x < S 12 e
  · exact h
  · exfalso
    by_cases heq : S 12 x = S 12 e
    · have z1 := bx.2.2.2.2.2.2.1
      have z2 := be.2.2.2.2.2.2.1
      rw [heq] at z1
      omega
    · have t2 : ((S 12 e).toNat : Int) = S 12 e := by omega
      obtain ⟨k', hk'⟩ := nest R x0 x1 (S 12 e).toNat (by omega) (by omega)
      have c2 := (cu (S 12 e).toNat (by omega)).2 (by rw [t2]; exact be.2.2.2.2.2.1)
      rw [t2, be.2.2.2.2.2.2.1] at c2
      have le' := dsc_le _ _ hk'
      omega
/-- behind an element's end, what is around is what was around its begin -/
theorem cu_end {S p : Hp} {a n N E F M x : Int} {s : Int → List Int} (R : SA S p a n N s E F M) (x0 : 0 ≤ x) (x1 : x < E) : cuP (S 2) (S 3) (S 7) (S 12 x + 1).toNat = S 7 x ∧ cuP (S 2) (S 3) (S 7) (S 11 x).toNat = S 7 x := by
  have bx := R.2.2.2.2.2.2.1 x x0 x1
  have cu := R.2.2.2.2.2.2.2.2
  have t1 : ((S 11 x).toNat : Int) = S 11 x := by omega
  have t2 : ((S 12 x).toNat : Int) = S 12 x := by omega
  have c1 := (cu (S 11 x).toNat (by omega)).1 (by rw [t1]; exact bx.2.2.2.1)
  have c2 := (cu (S 12 x).toNat (by omega)).2 (by rw [t2]; exact bx.2.2.2.2.2.1)
  rw [t1, bx.2.2.2.2.1] at c1
  rw [t2, bx.2.2.2.2.2.2.1] at c2
  refine ⟨?_, c1.symm⟩
  rw [show (S 12 x + 1).toNat = (S 12 x).toNat + 1 by omega, cuP_step, t2, if_neg (by omega), if_pos bx.2.2.2.2.2.1, ← c2]
/-- bytes of a piece -/
def itB (S : Hp) (m : Int) : List Int := if S 2 m = 3 then [S 3 m] else wr (S 1) (S 3 m) (S 4 m)
/-- what is not told within a title -/
def hid (V : Hp) (x : Int) : Bool := decide (V 30 x = 0) || decide (V 24 (22 * x) = 3)
/-- the bytes of a title from m on, before they are taken together -/
def tiS (S Y V : Hp) (en : Int) : Nat → Int → List Int
  | 0, _ => []
  | k + 1, m => if en ≤ m then [] else if S 2 m = 1 then (if hid V (S 3 m) = true then tiS S Y V en k (S 12 (S 3 m) + 1) else lbS Y V (S 3 m) ++ tiS S Y V en k (m + 1)) else if S 2 m = 2 then tiS S Y V en k (m + 1) else (if mtF V (cuP (S 2) (S 3) (S 7) m.toNat) = true then [] else itB S m) ++ tiS S Y V en k (m + 1)
theorem tiS_end {S Y V : Hp} {en m : Int} (h : en ≤ m) : ∀ k, tiS S Y V en k m = []
  | 0 => rfl
  | k + 1 => by unfold tiS; rw [if_pos h]
def tiA (S Y V : Hp) (e : Int) : List Int := lbS Y V e ++ tiS S Y V (S 12 e) (S 12 e).toNat (S 11 e + 1)
/-- a title -/
def tiT (S Y V : Hp) (e : Int) : List Int := if V 30 e = 0 then [] else ttF (ttL ([], false) (tiA S Y V e)).1
theorem ttS_ok {s : List Int × Bool} {c : Int} (h : s.1.getLast? ≠ some 32) : (ttS s c).1.getLast? ≠ some 32 := by
  unfold ttS
  split
  · exact h
  · rename_i hc
    split
    · dsimp only
      rw [List.getLast?_append, show [32, c].getLast? = some c from rfl, Option.some_or]
      exact fun z => hc (Or.inr (Option.some.inj z))
    · dsimp only
      rw [List.getLast?_append, List.getLast?_singleton, Option.some_or]
      exact fun z => hc (Or.inr (Option.some.inj z))
theorem ttL_ok : ∀ (b : List Int) (s : List Int × Bool), s.1.getLast? ≠ some 32 → (ttL s b).1.getLast? ≠ some 32
  | [], s, h => h
  | c :: b, s, h => ttL_ok b (ttS s c) (ttS_ok h)
theorem ttC.fin {p : Hp} {a b : Int} {L B : List Int} (h : ttC p a b L (ttL ([], false) B)) : bsL p b (L ++ ttF (ttL ([], false) B).1) := by
  obtain ⟨C, h1, h2⟩ := h
  have ok := ttL_ok B ([], false) (by simp)
  rcases h2 with ⟨z1, -, z3, -⟩ | ⟨-, -, z3⟩
  · have : ttF (ttL ([], false) B).1 = (ttL ([], false) B).1 := by
      unfold ttF
      rw [List.take_of_length_le (by omega), if_neg ok]
    rw [this, ← z3]; exact h1
  · rw [← z3]; exact h1
