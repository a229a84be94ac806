set_option maxRecDepth 100000
/-! STYLES: a declaration -/
/-- what is told comes to the tables -/
theorem SY.decl {T : Int → Int} {n N : Int} {s : Int → List Int} {C C' ns na nf nsel nb nt : Int} {p q p' q' : Hp} {a l : Int} (Y : SY T n N s C ns na nf nsel nb nt p q a l) (t1 : nt < 600) (hC : C ≤ C')
    (hp : ∀ b j, a ≤ b → b ≤ a + 27 → ¬ ((b = a ∧ j = 20) ∨ (a + 23 ≤ b ∧ b ≤ a + 26 ∧ j = nt) ∨ (a + 6 ≤ b ∧ b ≤ a + 10) ∨ (b = a + 11 ∧ j = 1) ∨ (b = a + 12 ∧ p (a + 11) 1 ≤ j)) → p' b j = p b j) (hm : p (a + 11) 1 ≤ p' (a + 11) 1 ∧ p' (a + 11) 1 ≤ 16384)
    (hq : ∀ b j, (b = l ∨ l + 3 ≤ b ∧ b ≤ l + 22) → ¬ ((b = l ∧ (j = 7 ∨ j = 8)) ∨ (l + 17 ≤ b ∧ b ≤ l + 20 ∧ j = nt) ∨ (l + 21 ≤ b ∧ b ≤ l + 22)) → q' b j = q b j) (e1 : p' a 20 = nt + 1) (e2 : q' l 7 = nt + 1) (sc : syC T n C' p' q' a l)
    (hd : declO C' (p' (a + 12)) T n (p' (a + 11) 1) (p' (a + 23) nt) (p' (a + 24) nt) (p' (a + 25) nt) (p' (a + 26) nt) (q' (l + 17) nt) (q' (l + 18) nt) (q' (l + 19) nt) (q' (l + 20) nt)) :
    SY T n N s C' ns na nf nsel nb (nt + 1) p' q' a l := by
  obtain ⟨y1, y2, y3, y4, y5, y6, y7⟩ := Y
  have rp : ∀ k : Int, 1 ≤ k → k ≤ 27 → (k < 6 ∨ 12 < k) → (k < 23 ∨ 26 < k) → p' (a + k) = p (a + k) := fun k k0 k1 k2 k3 => funext fun j => hp _ _ (by omega) (by omega) (by omega)
  have rq : ∀ k : Int, 3 ≤ k → k ≤ 16 → q' (l + k) = q (l + k) := fun k k0 k1 => funext fun j => hq _ _ (Or.inr ⟨by omega, by omega⟩) (by omega)
  have pa : ∀ j, j ≠ 20 → p' a j = p a j := fun j hj => hp _ _ (by omega) (by omega) (by omega)
  have ql : ∀ j, j ≠ 7 → j ≠ 8 → q' l j = q l j := fun j hj hk => hq _ _ (Or.inl rfl) (by omega)
  have U : ∀ j, 0 ≤ j → j < p (a + 11) 1 → p' (a + 12) j = p (a + 12) j := fun j j0 j1 => hp _ _ (by omega) (by omega) (by omega)
  refine ⟨?_, sc, ?_, ?_, ?_, ?_, ?_⟩
  · unfold syN at *
    exact ⟨y1.1.kept (fun b b0 b1 => by have := rp (b - a) (by omega) (by omega) (by omega) (by omega); rwa [show a + (b - a) = b by omega] at this), by omega, by omega⟩
  · unfold syS at *
    rw [pa 6 (by decide), ql 4 (by decide) (by decide), rp 13 (by decide) (by decide) (by decide) (by decide), rp 14 (by decide) (by decide) (by decide) (by decide), rp 15 (by decide) (by decide) (by decide) (by decide), rq 6 (by decide) (by decide), rq 7 (by decide) (by decide), rq 8 (by decide) (by decide), rq 9 (by decide) (by decide)]
    exact y3
  · unfold syA at *
    rw [pa 11 (by decide), ql 5 (by decide) (by decide), rp 16 (by decide) (by decide) (by decide) (by decide), rp 17 (by decide) (by decide) (by decide) (by decide), rp 18 (by decide) (by decide) (by decide) (by decide), rp 19 (by decide) (by decide) (by decide) (by decide), rq 10 (by decide) (by decide), rq 11 (by decide) (by decide), rq 12 (by decide) (by decide), rq 13 (by decide) (by decide), rq 14 (by decide) (by decide), rq 15 (by decide) (by decide)]
    obtain ⟨c1, c2, c3, c4⟩ := y4
    exact ⟨c1, c2, c3, fun k k0 k1 => (c4 k k0 k1).mono hm.1 U⟩
  · unfold syL at *
    rw [pa 15 (by decide), ql 3 (by decide) (by decide), rp 20 (by decide) (by decide) (by decide) (by decide), rp 21 (by decide) (by decide) (by decide) (by decide), rp 22 (by decide) (by decide) (by decide) (by decide), rq 4 (by decide) (by decide), rq 5 (by decide) (by decide), rq 6 (by decide) (by decide), rq 9 (by decide) (by decide)]
    exact y5
  · unfold syD at *
    rw [pa 22 (by decide), ql 6 (by decide) (by decide), rp 27 (by decide) (by decide) (by decide) (by decide), rq 16 (by decide) (by decide)]
    obtain ⟨c1, c2, c3, c4, c5, c6, c7, c8, c9, c10, c11⟩ := y6
    refine ⟨c1, c2, e1, e2, c5, by omega, by omega, c8, fun k k0 k1 => ?_, c10, fun k k0 k1 => ?_⟩
    · have := c9 k k0 k1; omega
    · by_cases hk : k = nt
      · subst hk; exact hd
      · have P : ∀ x : Int, 23 ≤ x → x ≤ 26 → p' (a + x) k = p (a + x) k := fun x x0 x1 => hp _ _ (by omega) (by omega) (by omega)
        have Q : ∀ x : Int, 17 ≤ x → x ≤ 20 → q' (l + x) k = q (l + x) k := fun x x0 x1 => hq _ _ (Or.inr ⟨by omega, by omega⟩) (by omega)
        rw [P 23 (by decide) (by decide), P 24 (by decide) (by decide), P 25 (by decide) (by decide), P 26 (by decide) (by decide), Q 17 (by decide) (by decide), Q 18 (by decide) (by decide), Q 19 (by decide) (by decide), Q 20 (by decide) (by decide)]
        have d := (c11 k k0 (by omega)).mono hm.1 U
        obtain ⟨d1, d2, d3, d4, d5, d6⟩ := d
        refine ⟨d1, d2, d3, d4, d5, fun z1 z2 => ?_⟩
        obtain ⟨f1, f2, f3, f4, f5, f6, f7, f8, f9, f10, f11, f12, f13⟩ := d6 z1 z2
        exact ⟨f1, f2, f3, f4, f5, f6, f7, f8, f9, f10, fun z => Int.le_trans (f11 z) hC, f12, f13⟩
  · unfold pgO at *
    rw [pa 23 (by decide), pa 24 (by decide), pa 25 (by decide), pa 26 (by decide), pa 27 (by decide), pa 28 (by decide), rq 3 (by decide) (by decide)]
    exact y7
/-- what a declaration leaves as it is -/
def KD (a : Int) (p p' : Hp) : Prop := ∀ b j, a ≤ b → b ≤ a + 27 → ¬ ((b = a ∧ j = 20) ∨ (a + 23 ≤ b ∧ b ≤ a + 26) ∨ (a + 6 ≤ b ∧ b ≤ a + 12)) → p' b j = p b j
def KE (l : Int) (q q' : Hp) : Prop := ∀ b j, (b = l ∨ l + 3 ≤ b ∧ b ≤ l + 22) → ¬ ((b = l ∧ (j = 7 ∨ j = 8)) ∨ (l + 17 ≤ b ∧ b ≤ l + 22)) → q' b j = q b j
/-- a value is read by both: p, q hold it at nt; v' is what the reference has to write -/
def VO (h1 h2 : Hp) (n : Int) (B T : Int → Int) (a l : Int) (pb qb : Hp) (C nt pr i : Int) (rc rt : (Int × Int) × Hp) : Prop :=
  ∃ p q C' i', rc.1.1 = 0 ∧ rt.1.1 = 0 ∧ i ≤ i' ∧ SS h1 h2 n B T a l p q i' i' rc.2 rt.2 ∧ UB p a i' ∧ C ≤ C' ∧ syC T n C' p q a l ∧
    (∀ b j, a ≤ b → b ≤ a + 27 → ¬ ((a + 24 ≤ b ∧ b ≤ a + 26 ∧ j = nt) ∨ (a + 6 ≤ b ∧ b ≤ a + 10) ∨ (b = a + 11 ∧ j = 1) ∨ (b = a + 12 ∧ pb (a + 11) 1 ≤ j)) → p b j = pb b j) ∧ (pb (a + 11) 1 ≤ p (a + 11) 1 ∧ p (a + 11) 1 ≤ 16384) ∧
    (∀ b j, (b = l ∨ l + 3 ≤ b ∧ b ≤ l + 22) → ¬ ((b = l ∧ j = 8) ∨ (l + 19 ≤ b ∧ b ≤ l + 20 ∧ j = nt) ∨ (l + 21 ≤ b ∧ b ≤ l + 22)) → q b j = qb b j) ∧
    declO C' (p (a + 12)) T n (p (a + 11) 1) pr (p (a + 24) nt) (p (a + 25) nt) (p (a + 26) nt) pr rt.1.2 (q (l + 19) nt) (q (l + 20) nt)
