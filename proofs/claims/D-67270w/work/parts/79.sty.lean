set_option maxRecDepth 100000
/-! STYLES: what is the same on both sides -/
def wr (T : Int → Int) (p e : Int) : List Int := (List.range (e - p).toNat).map (fun x : Nat => T (p + (x : Int)))
theorem wr_wd {h : Hp} {t p e : Int} : wd h t p (e - p).toNat = wr (h t) p e := rfl
theorem wr_congr {T U : Int → Int} {p e : Int} (h : ∀ x, p ≤ x → x < e → T x = U x) : wr T p e = wr U p e := by
  unfold wr
  apply List.map_congr_left
  intro x hx
  have := List.mem_range.mp hx
  exact h _ (by omega) (by omega)
/-- a name's number on the one side, its place in the text on the other -/
def nmO (N : Int) (s : Int → List Int) (T : Int → Int) (n c p e : Int) : Prop := 0 ≤ c ∧ c < N ∧ 0 ≤ p ∧ p ≤ e ∧ e ≤ n ∧ s c = wr T p e
def stO (U T : Int → Int) (n m f k p e : Int) : Prop := 0 ≤ f ∧ 0 ≤ k ∧ f + k ≤ m ∧ 0 ≤ p ∧ e - p = k ∧ e ≤ n ∧ ∀ x, 0 ≤ x → x < k → U (f + x) = T (p + x)
def stepO (N : Int) (s : Int → List Int) (T : Int → Int) (n c j p e k : Int) : Prop := ((c = -1 ∧ p = -1) ∨ nmO N s T n c p e) ∧ ((j = 0 ∧ k = 0) ∨ (j = 1 ∧ k = 62) ∨ (j = 2 ∧ k = 47) ∨ (j = 3 ∧ k = 43))
def askO (N : Int) (s : Int → List Int) (U T : Int → Int) (n m kd nm f z ts p e tp te nu : Int) : Prop :=
  ts = kd + 1 ∧ 0 ≤ kd ∧ kd ≤ 6 ∧ ((kd = 0 ∨ kd = 1 ∨ kd = 6) → nmO N s T n nm p e) ∧ (kd = 1 → stO U T n m f z tp te) ∧ (kd = 5 → nm = nu)
def vrO (C p v : Int) : Prop := 0 ≤ v ∧ v ≤ 1000000 ∧ (p = 0 → v ≤ 11) ∧ (p = 2 → 1000 ≤ v ∧ v ≤ 200000) ∧ (3 ≤ p ∧ p ≤ 7 → v ≤ 500000) ∧ (p = 8 → v ≤ 3) ∧ (p = 9 ∨ p = 13 ∨ p = 14 ∨ p = 20 → v ≤ 1) ∧ (p = 10 → 1 ≤ v ∧ v ≤ 10000) ∧ (p = 11 ∨ p = 12 → 1 ≤ v ∧ v ≤ 9) ∧ (p = 15 ∨ p = 16 → v ≤ C) ∧ (p = 18 → v ≤ 2) ∧ (p = 19 → v ≤ 9)
def declO (C : Int) (U T : Int → Int) (n m p v z sh p' v' lb le : Int) : Prop :=
  p = p' ∧ 0 ≤ p ∧ p ≤ 21 ∧ (p = 1 → (sh ≠ 0 ∧ v' = -v ∧ 1 ≤ v ∧ v ≤ 1000) ∨ (sh = 0 ∧ v' = v ∧ 1000 ≤ v ∧ v ≤ 100000)) ∧
  (p = 17 → (v = -1 ∧ v' = 0 ∧ lb = 0 ∧ le = 0) ∨ (v' = 1 ∧ stO U T n m v z lb le ∧ ∀ x, lb ≤ x → x < le → 0 ≤ T x)) ∧ (p ≠ 1 → p ≠ 17 → v' = v ∧ vrO C p v)
def wsm (P Q : Int → Int) (f : Int) : Nat → Int
  | 0 => 0
  | k + 1 => wsm P Q f k + (100 * (P (f + k + 1) - P (f + k)) + (if 0 ≤ Q (f + k) then 1 else 0))
theorem wsm_congr {P Q P' Q' : Int → Int} {f : Int} : ∀ k : Nat, (∀ x, f ≤ x → x ≤ f + k → P' x = P x) → (∀ x, f ≤ x → x < f + k → Q' x = Q x) → wsm P' Q' f k = wsm P Q f k := by
  intro k
  induction k with
  | zero => intro _ _; rfl
  | succ k ih =>
    intro h1 h2
    show wsm P' Q' f k + _ = wsm P Q f k + _
    rw [ih (fun x a b => h1 x a (by omega)) (fun x a b => h2 x a (by omega)), h1 (f + k + 1) (by omega) (by omega), h1 (f + k) (by omega) (by omega), h2 (f + k) (by omega) (by omega)]
/-- numbers: names, counters, steps, asks, selectors (first of the rule, all), bodies, what is told -/
abbrev SN : Type := Int × Int × Int × Int × Int × Int × Int × Int
def pgO (hc ht : Hp) (a l : Int) : Prop := (hc a 23 = ht (l + 3) 0 ∧ 10000 ≤ hc a 23 ∧ hc a 23 ≤ 1000000) ∧ (hc a 24 = ht (l + 3) 1 ∧ 10000 ≤ hc a 24 ∧ hc a 24 ≤ 1000000) ∧ (hc a 25 = ht (l + 3) 2 ∧ 1 ≤ hc a 25 ∧ hc a 25 ≤ 4) ∧ (hc a 26 = ht (l + 3) 3 ∧ 0 ≤ hc a 26 ∧ hc a 26 ≤ 100000) ∧ (hc a 27 = ht (l + 3) 4 ∧ 0 ≤ hc a 27 ∧ hc a 27 ≤ 100000) ∧ (hc a 28 = ht (l + 3) 5 ∧ 0 ≤ hc a 28 ∧ hc a 28 ≤ 2)
def syN (T : Int → Int) (n N : Int) (s : Int → List Int) (hc : Hp) (a : Int) : Prop := NM hc (a + 1) N s ∧ 0 ≤ hc (a + 11) 1 ∧ hc (a + 11) 1 ≤ 16384
def syC (T : Int → Int) (n C : Int) (hc ht : Hp) (a l : Int) : Prop := ht l 8 = C ∧ C ≤ 12 ∧ ∃ s, NM hc (a + 6) C s ∧ ∀ k, 0 ≤ k → k < C → 0 ≤ ht (l + 21) k ∧ ht (l + 21) k ≤ ht (l + 22) k ∧ ht (l + 22) k ≤ n ∧ s k = wr T (ht (l + 21) k) (ht (l + 22) k)
def syS (T : Int → Int) (n N : Int) (s : Int → List Int) (ns : Int) (hc ht : Hp) (a l : Int) : Prop := hc a 6 = ns ∧ ht l 4 = ns ∧ 0 ≤ ns ∧ ht (l + 9) 0 = 0 ∧ ∀ k, 0 ≤ k → k < ns → stepO N s T n (hc (a + 13) k) (hc (a + 14) k) (ht (l + 6) k) (ht (l + 7) k) (ht (l + 8) k) ∧ hc (a + 15) k = ht (l + 9) k ∧ 0 ≤ ht (l + 9) k ∧ ht (l + 9) k ≤ ht (l + 9) (k + 1) ∧ ht (l + 9) (k + 1) ≤ ht (l + 9) k + 4
def syA (T : Int → Int) (n N : Int) (s : Int → List Int) (na : Int) (hc ht : Hp) (a l : Int) : Prop := hc a 11 = na ∧ ht l 5 = na ∧ 0 ≤ na ∧ ∀ k, 0 ≤ k → k < na → askO N s (hc (a + 12)) T n (hc (a + 11) 1) (hc (a + 16) k) (hc (a + 17) k) (hc (a + 18) k) (hc (a + 19) k) (ht (l + 10) k) (ht (l + 11) k) (ht (l + 12) k) (ht (l + 13) k) (ht (l + 14) k) (ht (l + 15) k)
def syL (nf nsel nb : Int) (hc ht : Hp) (a l : Int) : Prop := hc a 15 = nsel ∧ ht l 3 = nsel ∧ 0 ≤ nsel ∧ nsel ≤ 120 ∧ ht (l + 4) 0 = 0 ∧ ∀ k, 0 ≤ k → k < nsel → hc (a + 20) k = ht (l + 4) k ∧ 0 ≤ ht (l + 4) k ∧ ht (l + 4) k < ht (l + 4) (k + 1) ∧ ht (l + 4) (k + 1) ≤ ht (l + 4) k + 8 ∧ hc (a + 21) k = wsm (ht (l + 9)) (ht (l + 6)) (ht (l + 4) k) (ht (l + 4) (k + 1) - ht (l + 4) k).toNat ∧ 0 ≤ hc (a + 22) k ∧ hc (a + 22) k ≤ nb ∧ (k < nf → hc (a + 22) k = ht (l + 5) k ∧ hc (a + 22) k < nb) ∧ (nf ≤ k → hc (a + 22) k = nb)
def syD (T : Int → Int) (n C nb nt : Int) (hc ht : Hp) (a l : Int) : Prop := hc a 22 = nb ∧ ht l 6 = nb ∧ hc a 20 = nt ∧ ht l 7 = nt ∧ 0 ≤ nb ∧ 0 ≤ nt ∧ nt ≤ 600 ∧ (∀ k, 0 ≤ k → k < nb → hc (a + 27) k = ht (l + 16) k) ∧ (∀ k, 0 ≤ k → k < nb → 0 ≤ ht (l + 16) k ∧ ht (l + 16) k ≤ ht (l + 16) (k + 1) ∧ ht (l + 16) (k + 1) ≤ nt) ∧ ht (l + 16) 0 = 0 ∧
  ∀ k, 0 ≤ k → k < nt → declO C (hc (a + 12)) T n (hc (a + 11) 1) (hc (a + 23) k) (hc (a + 24) k) (hc (a + 25) k) (hc (a + 26) k) (ht (l + 17) k) (ht (l + 18) k) (ht (l + 19) k) (ht (l + 20) k)
/-- all of it -/
def SY (T : Int → Int) (n N : Int) (s : Int → List Int) (C ns na nf nsel nb nt : Int) (hc ht : Hp) (a l : Int) : Prop :=
  syN T n N s hc a ∧ syC T n C hc ht a l ∧ syS T n N s ns hc ht a l ∧ syA T n N s na hc ht a l ∧ syL nf nsel nb hc ht a l ∧ syD T n C nb nt hc ht a l ∧ pgO hc ht a l
/-- rows that they lie in -/
def eqC (a : Int) (hc hc' : Hp) : Prop := ∀ b, a ≤ b → b ≤ a + 27 → hc' b = hc b
def eqT (l : Int) (ht ht' : Hp) : Prop := ht' l = ht l ∧ ∀ b, l + 3 ≤ b → b ≤ l + 22 → ht' b = ht b
theorem SY.kept {T : Int → Int} {n N : Int} {s : Int → List Int} {C ns na nf nsel nb nt : Int} {hc ht hc' ht' : Hp} {a l : Int} (Y : SY T n N s C ns na nf nsel nb nt hc ht a l) (e : eqC a hc hc') (g : eqT l ht ht') : SY T n N s C ns na nf nsel nb nt hc' ht' a l := by
  obtain ⟨y1, y2, y3, y4, y5, y6, y7⟩ := Y
  have ea := e a (by omega) (by omega)
  have gl := g.1
  have E : ∀ k : Int, 0 ≤ k → k ≤ 27 → hc' (a + k) = hc (a + k) := fun k k0 k1 => e _ (by omega) (by omega)
  have G : ∀ k : Int, 3 ≤ k → k ≤ 22 → ht' (l + k) = ht (l + k) := fun k k0 k1 => g.2 _ (by omega) (by omega)
  have e11 := E 11 (by decide) (by decide)
  have e12 := E 12 (by decide) (by decide)
  refine ⟨?_, ?_, ?_, ?_, ?_, ?_, ?_⟩
  · unfold syN at *
    rw [e11]
    exact ⟨y1.1.kept (fun b b0 b1 => e b (by omega) (by omega)), y1.2⟩
  · unfold syC at *
    rw [gl, G 21 (by decide) (by decide), G 22 (by decide) (by decide)]
    obtain ⟨c1, c2, s, c3, c4⟩ := y2
    exact ⟨c1, c2, s, c3.kept (fun b b0 b1 => e b (by omega) (by omega)), c4⟩
  · unfold syS at *
    rw [ea, gl, E 13 (by decide) (by decide), E 14 (by decide) (by decide), E 15 (by decide) (by decide), G 6 (by decide) (by decide), G 7 (by decide) (by decide), G 8 (by decide) (by decide), G 9 (by decide) (by decide)]
    exact y3
  · unfold syA at *
    rw [ea, gl, e11, e12, E 16 (by decide) (by decide), E 17 (by decide) (by decide), E 18 (by decide) (by decide), E 19 (by decide) (by decide), G 10 (by decide) (by decide), G 11 (by decide) (by decide), G 12 (by decide) (by decide), G 13 (by decide) (by decide), G 14 (by decide) (by decide), G 15 (by decide) (by decide)]
    exact y4
  · unfold syL at *
    rw [ea, gl, E 20 (by decide) (by decide), E 21 (by decide) (by decide), E 22 (by decide) (by decide), G 4 (by decide) (by decide), G 5 (by decide) (by decide), G 6 (by decide) (by decide), G 9 (by decide) (by decide)]
    exact y5
  · unfold syD at *
    rw [ea, gl, e11, e12, E 27 (by decide) (by decide), E 23 (by decide) (by decide), E 24 (by decide) (by decide), E 25 (by decide) (by decide), E 26 (by decide) (by decide), G 16 (by decide) (by decide), G 17 (by decide) (by decide), G 18 (by decide) (by decide), G 19 (by decide) (by decide), G 20 (by decide) (by decide)]
    exact y6
  · unfold pgO at *
    rw [ea, G 3 (by decide) (by decide)]
    exact y7
