set_option maxRecDepth 100000
/-! TREES: a source as both sides have it at rest -/
/-- the rows of an object, from a base on -/
def vw (q : Hp) (l : Int) : Hp := fun b => q (l + b)
theorem vw_0 {q : Hp} {l : Int} : vw q l 0 = q l := by unfold vw; rw [Int.add_zero]
theorem vw_k {q : Hp} {l k : Int} : vw q l k = q (l + k) := rfl
/-- the bytes that are told are plain -/
def BYS (S p : Hp) (a n E M : Int) : Prop := BY p (a + 1) n ∧ (∀ m, 0 ≤ m → m < M → S 2 m = 0 → bOK (S 1) (S 3 m) (S 4 m)) ∧ ∀ e x, 0 ≤ e → e < E → 0 ≤ x → x < S 10 e → bOK (S 1) (S 15 (6 * e + x)) (S 16 (6 * e + x))
/-- a source S (as its rows), the component's a -/
def SA (S p : Hp) (a n N : Int) (s : Int → List Int) (E F M : Int) : Prop :=
  (0 ≤ n ∧ n ≤ 3000 ∧ p a 1 = n ∧ S 0 1 = n ∧ (∀ j, 0 ≤ j → j < n → p (a + 1) j = S 1 j) ∧ BYS S p a n E M ∧ S 0 3 = E ∧ S 0 2 = M) ∧ (NM p (a + 2) N s ∧ N ≤ n) ∧
  (p a 4 = E ∧ 0 ≤ E ∧ E ≤ 500 ∧ p a 18 = F ∧ F ≤ n ∧ p a 19 = cntP (S 7) (-1) E.toNat ∧ p (a + 16) E = F) ∧
  (∀ e, 0 ≤ e → e < E → nmO N s (S 1) n (p (a + 7) e) (S 8 e) (S 9 e) ∧ p (a + 8) e = S 7 e ∧ -1 ≤ S 7 e ∧ S 7 e < e ∧ p (a + 9) e = S 5 e ∧ 0 ≤ S 5 e ∧ S 5 e < n ∧ p (a + 11) e = cntP (S 7) (S 7 e) e.toNat + 1 ∧ p (a + 12) e = latP (S 7) (S 7 e) e.toNat ∧ p (a + 13) e = cntP (S 7) e E.toNat ∧ p (a + 10) e = S 6 e ∧ S 5 e < S 6 e ∧ S 6 e ≤ n ∧ elX (S 7) (S 11) e) ∧
  (∀ e, 0 ≤ e → e < E → 0 ≤ p (a + 16) e ∧ 0 ≤ S 10 e ∧ S 10 e ≤ 6 ∧ p (a + 16) (e + 1) = p (a + 16) e + S 10 e ∧ p (a + 16) (e + 1) ≤ F ∧ ∀ x, 0 ≤ x → x < S 10 e → nmO N s (S 1) n (p (a + 17) (p (a + 16) e + x)) (S 13 (6 * e + x)) (S 14 (6 * e + x)) ∧ p (a + 18) (p (a + 16) e + x) = S 15 (6 * e + x) ∧ p (a + 19) (p (a + 16) e + x) = S 16 (6 * e + x) - S 15 (6 * e + x) ∧ 0 ≤ S 15 (6 * e + x) ∧ S 15 (6 * e + x) ≤ S 16 (6 * e + x) ∧ S 16 (6 * e + x) ≤ n) ∧
  (p a 24 = M ∧ 0 ≤ M ∧ M ≤ n ∧ ∀ m, 0 ≤ m → m < M → (p (a + 20) m = 0 ∧ S 2 m = 1 ∧ p (a + 21) m = S 3 m ∧ 0 ≤ S 3 m ∧ S 3 m < E ∧ S 11 (S 3 m) = m) ∨ (p (a + 20) m = 1 ∧ S 2 m = 2 ∧ p (a + 21) m = S 3 m ∧ 0 ≤ S 3 m ∧ S 3 m < E ∧ S 12 (S 3 m) = m) ∨
    (p (a + 20) m = 2 ∧ S 2 m = 0 ∧ p (a + 21) m = S 3 m ∧ 0 ≤ S 3 m ∧ p (a + 22) m = S 4 m - S 3 m ∧ 1 ≤ p (a + 22) m ∧ S 4 m ≤ n) ∨ (p (a + 20) m = 2 ∧ S 2 m = 3 ∧ p (a + 21) m = -1 - S 3 m ∧ (S 3 m = 38 ∨ S 3 m = 60) ∧ p (a + 22) m = 1)) ∧
  (∀ e, 0 ≤ e → e < E → 0 ≤ S 11 e ∧ S 11 e < S 12 e ∧ S 12 e < M ∧ S 2 (S 11 e) = 1 ∧ S 3 (S 11 e) = e ∧ S 2 (S 12 e) = 2 ∧ S 3 (S 12 e) = e ∧ p (a + 15) e = flP (S 2) (S 3) (S 7) e M.toNat) ∧
  (∀ m : Nat, (m : Int) ≤ M → -1 ≤ cuP (S 2) (S 3) (S 7) m ∧ cuP (S 2) (S 3) (S 7) m < E) ∧ ∀ m : Nat, (m : Int) < M → (S 2 m = 1 → S 7 (S 3 m) = cuP (S 2) (S 3) (S 7) m) ∧ (S 2 m = 2 → S 3 m = cuP (S 2) (S 3) (S 7) m)
theorem SRr.abs {n : Int} {p q : Hp} {a l : Int} (R : SRr n p q a l) : ∃ N s E F M, SA (vw q l) p a n N s E F M := by
  obtain ⟨N, s, E, F, M, n0, n1, p1, q1, tx, bb, ⟨y1, y2, y3, y4, y5⟩, e16⟩ := R
  have fle := fs_le y2
  obtain ⟨b1, b2, b3, b4, b5, b6, b7, b8, b9, b10⟩ := y2
  obtain ⟨c1, c2, c3, c4, c5, c6, c7, c8, c9, c10⟩ := y3
  obtain ⟨d1, d2, d3, d4, d5, d6, d7, d8, d9⟩ := y4
  have nx : ∀ e, 0 ≤ e → e < E → (if e + 1 < E then p (a + 16) (e + 1) else F) = p (a + 16) (e + 1) := fun e x0 x1 => by
    by_cases h : e + 1 < E
    · rw [if_pos h]
    · rw [if_neg h, show e + 1 = E by omega, e16]
  refine ⟨N, s, E, F, M, ?_⟩
  unfold SA BYS
  rw [vw_0]
  simp only [vw_k]
  refine ⟨⟨n0, n1, p1, q1, tx, ⟨bb, fun m m0 m1 mk => (c6 m m0 m1 mk).2, fun e x x0 x1 y0 y1 => ((b8 e x0 x1).2.2.2.2.2 x y0 y1).2.2.2.2.2.2⟩, b2, c2⟩, ⟨y1.1, y1.2.2⟩, ⟨b1, b3, b4, b5, b7.1, b9, e16⟩, fun e x0 x1 => ?_, fun e x0 x1 => ?_, ⟨c1, c3, c4, c5⟩, fun e x0 x1 => ?_, c9, c10⟩
  · obtain ⟨⟨g1, g2, g3, g4, g5, g6, g7, g8, g9, g10, g11, g12⟩, -⟩ := b8 e x0 x1
    have cl : clO n M p q a l e := by
      rcases d9 e x0 x1 with ⟨d, z1, z2, -⟩ | z
      · omega
      · exact z
    exact ⟨g1, g2, g3, g4, g5, g6, g7, g8, g9, g10, cl.1, cl.2.1, cl.2.2.1, g12⟩
  · obtain ⟨-, f1, f2, f3, f4, f5⟩ := b8 e x0 x1
    have fl := fle e x0 x1
    rw [nx e x0 x1] at f4 fl
    exact ⟨f1, f2, f3, f4, fl, fun x y0 y1 => by obtain ⟨u1, u2, u3, u4, u5, u6, -⟩ := f5 x y0 y1; exact ⟨u1, u2, u3, u4, u5, u6⟩⟩
  · have cl : clO n M p q a l e := by
      rcases d9 e x0 x1 with ⟨d, z1, z2, -⟩ | z
      · omega
      · exact z
    obtain ⟨h1, h2, h3, h4⟩ := c7 e x0 x1
    exact ⟨h1, cl.2.2.2.1, cl.2.2.2.2.1, h3, h4, cl.2.2.2.2.2.1, cl.2.2.2.2.2.2, c8 e x0 x1⟩
/-- the reference's copy of it -/
def SXt (S q : Hp) (l n E M : Int) : Prop := (q l 1 = n ∧ q l 2 = M ∧ q l 3 = E) ∧ (∀ j, 0 ≤ j → j < n → q (l + 1) j = S 1 j) ∧ (∀ k, 2 ≤ k → k ≤ 4 → ∀ m, 0 ≤ m → m < M → q (l + k) m = S k m) ∧ (∀ k, 5 ≤ k → k ≤ 12 → ∀ e, 0 ≤ e → e < E → q (l + k) e = S k e) ∧ (∀ k, 13 ≤ k → k ≤ 16 → ∀ e x, 0 ≤ e → e < E → 0 ≤ x → x < S 10 e → q (l + k) (6 * e + x) = S k (6 * e + x))
/-- rows copied one by one -/
theorem z_rows {β : Type} {F : Int × Hp → Option ((Int × Hp) ⊕ β)} {h : Hp} {n d m : Int} {g : Int → Int → Int} {Q : β → Prop} (n0 : 0 ≤ n) (m0 : 0 ≤ m)
    (body : ∀ x q, 0 ≤ x → x < n → F2 (fun b j => d ≤ b ∧ b < d + m ∧ 0 ≤ j ∧ j < n) h q → ∃ q', F (x, q) = some (.inl (x + 1, q')) ∧ F2 (fun b j => d ≤ b ∧ b < d + m ∧ j = x) q q' ∧ ∀ k, 0 ≤ k → k < m → q' (d + k) x = g k x)
    (fin : ∀ q, F2 (fun b j => d ≤ b ∧ b < d + m ∧ 0 ≤ j ∧ j < n) h q → (∀ k x, 0 ≤ k → k < m → 0 ≤ x → x < n → q (d + k) x = g k x) → Pz (F (n, q)) (sE (fun _ => False) Q)) : Pz (lp F (0, h)) Q := by
  refine z_lp (fun (s : Int × Hp) => 0 ≤ s.1 ∧ s.1 ≤ n ∧ F2 (fun b j => d ≤ b ∧ b < d + m ∧ 0 ≤ j ∧ j < n) h s.2 ∧ ∀ k x, 0 ≤ k → k < m → 0 ≤ x → x < s.1 → s.2 (d + k) x = g k x) (fun s => (n - s.1).toNat) ⟨Int.le_refl _, n0, F2.refl, fun k x _ _ x0 x1 => by dsimp only at x1; omega⟩ ?_
  rintro ⟨x, q⟩ ⟨x0, x1, Fq, E⟩
  dsimp only at x0 x1 E
  replace Fq : F2 (fun b j => d ≤ b ∧ b < d + m ∧ 0 ≤ j ∧ j < n) h q := Fq
  by_cases hx : x = n
  · subst hx
    refine z_mono (fin q Fq E) (fun r hr => ?_)
    cases r with
    | inl t => exact absurd hr (fun z => z)
    | inr t => exact hr
  · obtain ⟨q', e1, e2, e3⟩ := body x q x0 (by omega) Fq
    rw [e1]
    refine z_some ⟨⟨by dsimp only; omega, by dsimp only; omega, Fq.trans (e2.mono (fun b j z => ⟨z.1, z.2.1, by omega, by omega⟩)), fun k y k0 k1 y0 y1 => ?_⟩, by dsimp only; omega⟩
    dsimp only at y1 ⊢
    by_cases hy : y = x
    · rw [hy]; exact e3 k k0 k1
    · rw [e2 _ _ (by omega)]; exact E k y k0 k1 y0 (by omega)
