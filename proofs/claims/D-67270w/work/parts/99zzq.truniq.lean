set_option maxRecDepth 100000
/-! TREES: source and style make one tree only -/
theorem PV.uniq {S Y : Hp} {E M nsel : Int} {f g : Int → Int} (hf : PV S Y E M nsel f) (hg : PV S Y E M nsel g) (par : ∀ x, 0 ≤ x → x < E → -1 ≤ S 7 x ∧ S 7 x < x) : ∀ e p, 0 ≤ e → e < E → 0 ≤ p → p ≤ 21 → f (22 * e + p) = g (22 * e + p) := by
  have key : ∀ (k : Nat) (e p : Int), e.toNat ≤ k → 0 ≤ e → e < E → 0 ≤ p → p ≤ 21 → f (22 * e + p) = g (22 * e + p) := by
    intro k
    induction k with
    | zero =>
      intro e p hk e0 e1 p0 p1
      have pr := par e e0 e1
      have o : ∀ p, ofV f (S 7 e) p = ofV g (S 7 e) p := fun p => by unfold ofV; rw [if_neg (by omega), if_neg (by omega)]
      rw [hf e p e0 e1 p0 p1, hg e p e0 e1 p0 p1]
      unfold pvE
      rw [o p, o 1]
    | succ k ih =>
      intro e p hk e0 e1 p0 p1
      have pr := par e e0 e1
      have o : ∀ p, 0 ≤ p → p ≤ 21 → ofV f (S 7 e) p = ofV g (S 7 e) p := fun p z0 z1 => by
        unfold ofV
        by_cases h : 0 ≤ S 7 e
        · rw [if_pos h, if_pos h]; exact ih _ p (by omega) h (by omega) z0 z1
        · rw [if_neg h, if_neg h]
      rw [hf e p e0 e1 p0 p1, hg e p e0 e1 p0 p1]
      unfold pvE
      rw [o p p0 p1, o 1 (by decide) (by decide)]
  exact fun e p e0 e1 p0 p1 => key e.toNat e p (Nat.le_refl _) e0 e1 p0 p1
theorem ctS_congr {sh sh' f f' : Int → Int} {j : Int} : ∀ k : Nat, (∀ x : Int, 0 ≤ x → x < k → sh x = sh' x ∧ f (22 * x + 15) = f' (22 * x + 15) ∧ f (22 * x + 16) = f' (22 * x + 16)) → ctS sh f k j = ctS sh' f' k j := by
  intro k
  induction k with
  | zero => intro _; rfl
  | succ k ih =>
    intro h
    have i := ih (fun x x0 x1 => h x x0 (by omega))
    obtain ⟨h1, h2, h3⟩ := h k (by omega) (by omega)
    unfold ctS
    rw [h1, h2, h3, i]
theorem TSp.uniq {S Y V U : Hp} {E M nsel : Int} (hV : TSp S Y V E M nsel) (hU : TSp S Y U E M nsel) (par : ∀ x, 0 ≤ x → x < E → -1 ≤ S 7 x ∧ S 7 x < x) :
    ∀ e, 0 ≤ e → e < E → (∀ p, 0 ≤ p → p ≤ 21 → V 24 (22 * e + p) = U 24 (22 * e + p)) ∧ V 25 e = U 25 e ∧ V 26 e = U 26 e ∧ V 27 e = U 27 e ∧ V 28 e = U 28 e ∧ (∀ b, 30 ≤ b → b ≤ 36 → V b e = U b e) ∧ (V 36 e ≠ 0 → V 29 e = U 29 e) := by
  have pv := PV.uniq hV.2.2.1 hU.2.2.1 par
  have p0 : ∀ e, 0 ≤ e → e < E → V 24 (22 * e) = U 24 (22 * e) := fun e e0 e1 => by
    have := pv e 0 e0 e1 (by decide) (by decide)
    rw [Int.add_zero] at this; exact this
  have fl : ∀ (k : Nat) (e : Int), e.toNat < k → 0 ≤ e → e < E → (∀ b, 30 ≤ b → b ≤ 36 → V b e = U b e) ∧ (V 36 e ≠ 0 → V 29 e = U 29 e) := by
    intro k
    induction k with
    | zero => intro e hk; exact absurd hk (by omega)
    | succ k ih =>
      intro e hk e0 e1
      have pr := par e e0 e1
      obtain ⟨a35, a36, a29, a30, a31, a32, a34, a33⟩ := (hV.2.2.2 e e0 e1).2.2.1
      obtain ⟨b35, b36, b29, b30, b31, b32, b34, b33⟩ := (hU.2.2.2 e e0 e1).2.2.1
      have q : ∀ b, 30 ≤ b → b ≤ 36 → 0 ≤ S 7 e → V b (S 7 e) = U b (S 7 e) := fun b z0 z1 z2 => (ih (S 7 e) (by omega) z2 (by omega)).1 b z0 z1
      have c : cntC (V 36) (S 7) (S 7 e) e.toNat = cntC (U 36) (S 7) (S 7 e) e.toNat := cntC_congr _ (fun j j0 j1 => (ih j (by omega) j0 (by omega)).1 36 (by decide) (by decide))
      have o0 : ok0 V (S 7) e = ok0 U (S 7) e := by
        unfold ok0
        rw [p0 e e0 e1]
        by_cases h : 0 ≤ S 7 e
        · rw [q 30 (by decide) (by decide) h, p0 _ h (by omega)]
        · rw [decide_eq_true (by omega : S 7 e < 0)]; rfl
      have t1 : isTb V (S 7) e = isTb U (S 7) e := by
        unfold isTb
        by_cases h : 0 ≤ S 7 e
        · rw [q 34 (by decide) (by decide) h]
        · rw [decide_eq_false h]; rfl
      have r1 : isRw V (S 7) e = isRw U (S 7) e := by
        unfold isRw
        by_cases h : 0 ≤ S 7 e
        · rw [q 35 (by decide) (by decide) h]
        · rw [decide_eq_false h]; rfl
      have o1 : ok1 V (S 7) e = ok1 U (S 7) e := by unfold ok1; rw [o0, t1, p0 e e0 e1]
      have o2 : ok2 V (S 7) e = ok2 U (S 7) e := by unfold ok2; rw [o1, r1, p0 e e0 e1, c]
      have of : okFl V (S 7) e = okFl U (S 7) e := by
        unfold okFl
        by_cases h : 0 ≤ S 7 e
        · rw [q 31 (by decide) (by decide) h, q 32 (by decide) (by decide) h, q 36 (by decide) (by decide) h]
        · rw [decide_eq_true (by omega : S 7 e < 0)]; rfl
      have e30 : V 30 e = U 30 e := by rw [a30, b30, o2]
      have e31 : V 31 e = U 31 e := by rw [a31, b31, o2, of]
      have e35 : V 35 e = U 35 e := by rw [a35, b35, t1, o1]
      have e36 : V 36 e = U 36 e := by rw [a36, b36, r1, o2]
      have e32 : V 32 e = U 32 e := by rw [a32, b32, e31, p0 e e0 e1]
      have e34 : V 34 e = U 34 e := by rw [a34, b34, e31, p0 e e0 e1]
      have e33 : V 33 e = U 33 e := by rw [a33, b33, e31, p0 e e0 e1]
      refine ⟨fun b z0 z1 => ?_, fun z => ?_⟩
      · rcases (show b = 30 ∨ b = 31 ∨ b = 32 ∨ b = 33 ∨ b = 34 ∨ b = 35 ∨ b = 36 by omega) with rfl | rfl | rfl | rfl | rfl | rfl | rfl
        · exact e30
        · exact e31
        · exact e32
        · exact e33
        · exact e34
        · exact e35
        · exact e36
      · rw [a29 z, b29 (by rw [← e36]; exact z), c]
  intro e e0 e1
  have f := fl (e.toNat + 1) e (by omega) e0 e1
  obtain ⟨a25, a26, -, a28, a27⟩ := hV.2.2.2 e e0 e1
  obtain ⟨b25, b26, -, b28, b27⟩ := hU.2.2.2 e e0 e1
  refine ⟨fun p z0 z1 => pv e p e0 e1 z0 z1, by rw [a25, b25], by rw [a26, b26], ?_, ?_, f⟩
  · rw [a27, b27]
    unfold vlF
    rw [f.1 30 (by decide) (by decide), pv e 15 e0 e1 (by decide) (by decide)]
    have := ctS_congr (j := U 24 (22 * e + 15)) (e.toNat + 1) (fun x x0 x1 => ⟨(fl (x.toNat + 1) x (by omega) x0 (by omega)).1 30 (by decide) (by decide), pv x 15 x0 (by omega) (by decide) (by decide), pv x 16 x0 (by omega) (by decide) (by decide)⟩)
    rw [this]
  · rw [a28, b28]
    exact cntC_congr _ (fun j j0 j1 => (fl (j.toNat + 1) j (by omega) j0 (by omega)).1 36 (by decide) (by decide))
