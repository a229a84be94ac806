-- needs: 99zzw
set_option maxRecDepth 100000
/-! HYPHENS: the places of a word: the component -/
def exM (T : Hp) (q : Int → Int) (n e : Int) : Prop := T 5 e = n ∧ ∀ j, 0 ≤ j → j < n → T 4 (30 * e + j) = q j + 96
/-- a word may be parted ahead of its letter k -/
def hyP (T : Hp) (np : Int) (sg : Int → List Int) (dt : Int → Int → Int) (q : Int → Int) (n k : Int) : Prop := 1 ≤ k ∧ k < n ∧ T 0 0 ≤ k ∧ T 0 1 ≤ n - k ∧
  ((∃ e, 0 ≤ e ∧ e < T 0 3 ∧ exM T q n e ∧ (∀ e', 0 ≤ e' → e' < e → ¬ exM T q n e') ∧ T 6 (31 * e + k) = 1) ∨ ((∀ e, 0 ≤ e → e < T 0 3 → ¬ exM T q n e) ∧ ∃ M, gdM (ocX np sg q n n 0) sg dt k M ∧ M % 2 = 1))
/-- the component's patterns a -/
def hyC (T h : Hp) (a np : Int) (sg : Int → List Int) (dt : Int → Int → Int) : Prop := HYc h a np sg dt ∧ (∀ p, 0 ≤ p → p < np → 1 ≤ (sg p).length) ∧ (h a 14 = T 0 3 ∧ 0 ≤ T 0 3 ∧ T 0 3 ≤ 60 ∧ ∀ e, 0 ≤ e → e < T 0 3 → (h (a + 9) e = T 5 e ∧ 1 ≤ T 5 e ∧ T 5 e ≤ 30) ∧ ∀ j, 0 ≤ j → j < T 5 e → h (a + 7) (30 * e + j) = T 4 (30 * e + j) ∧ h (a + 8) (31 * e + j) = T 6 (31 * e + j) ∧ (T 6 (31 * e + j) = 0 ∨ T 6 (31 * e + j) = 1)) ∧ (h a 0 = T 0 0 ∧ h a 1 = T 0 1 ∧ 1 ≤ T 0 0 ∧ 1 ≤ T 0 1 ∧ T 0 0 ≤ 9 ∧ T 0 1 ≤ 9)
/-- where places are noted -/
def plW (a d o n : Int) : Int → Int → Prop := fun b j => (b = a + 13 ∧ 0 ≤ j ∧ j ≤ 24000) ∨ (b = d ∧ o ≤ j ∧ j < o + n)
theorem hyC.kept {T h h' : Hp} {a np : Int} {sg : Int → List Int} {dt : Int → Int → Int} (C : hyC T h a np sg dt) (e : ∀ b, a + 1 ≤ b → b ≤ a + 9 → h' b = h b) (e0 : ∀ j, h' a j = h a j) : hyC T h' a np sg dt := by
  obtain ⟨c1, c2, c3, c4⟩ := C
  refine ⟨c1.kept (fun b b0 b1 => e b b0 (by omega)) (e0 6) (e0 9) (e0 10), c2, ?_, by rw [e0, e0]; exact c4⟩
  rw [e0, e (a + 9) (by omega) (by omega), e (a + 7) (by omega) (by omega), e (a + 8) (by omega) (by omega)]
  exact c3
/-- a row of n zeros -/
theorem z_zero {F : Int × Hp → Option ((Int × Hp) ⊕ Hp)} {h : Hp} {d s n : Int} (sn : s ≤ n)
    (body : ∀ x g, s ≤ x → x < n → F2 (fun b j => b = d ∧ s ≤ j ∧ j < n) h g → F (x, g) = some (.inl (x + 1, up g d x 0))) (fin : ∀ g, F (n, g) = some (.inr g)) :
    Pz (lp F (s, h)) (fun h' => F2 (fun b j => b = d ∧ s ≤ j ∧ j < n) h h' ∧ ∀ j, s ≤ j → j < n → h' d j = 0) := by
  refine z_lp (fun (st : Int × Hp) => s ≤ st.1 ∧ st.1 ≤ n ∧ F2 (fun b j => b = d ∧ s ≤ j ∧ j < n) h st.2 ∧ ∀ j, s ≤ j → j < st.1 → st.2 d j = 0) (fun st => (n - st.1).toNat) ⟨Int.le_refl _, sn, F2.refl, fun j j0 j1 => by dsimp only at j1; omega⟩ ?_
  rintro ⟨x, g⟩ ⟨x0, x1, Fg, G⟩
  dsimp only at x0 x1 G
  replace Fg : F2 (fun b j => b = d ∧ s ≤ j ∧ j < n) h g := Fg
  by_cases hx : x = n
  · subst hx
    rw [fin g]
    exact z_some ⟨Fg, G⟩
  · rw [body x g x0 (by omega) Fg]
    refine z_some ⟨⟨by dsimp only; omega, by dsimp only; omega, Fg.put ⟨rfl, x0, by omega⟩, fun j j0 j1 => ?_⟩, by dsimp only; omega⟩
    dsimp only at j1 ⊢
    by_cases hj : j = x
    · rw [hj, up_s]
    · rw [up_j hj]; exact G j j0 (by omega)
theorem c_byPat {h : Hp} {a np n r f d o : Int} {sg : Int → List Int} {dt : Int → Int → Int} {q : Int → Int} (hL : LAY h) (ha : a ∈ in_aX9) (C : HYc h a np sg dt) (hlen : ∀ p, 0 ≤ p → p < np → 1 ≤ (sg p).length) (n0 : 0 ≤ n) (n1 : n ≤ 24000)
    (kr : h r (-2) % 16 = 2) (lr : f + n ≤ h r (-1)) (f0 : 0 ≤ f) (fn : f + n ≤ 30000) (hr : ¬ (a ≤ r ∧ r ≤ a + 13)) (W : wdQ h r f n q) (kd : h d (-2) % 16 = 3) (ld : o + n ≤ h d (-1)) (o0 : 0 ≤ o) (on : o + n ≤ 30000) (hd : ¬ (a ≤ d ∧ d ≤ a + 13)) :
    Pz (m_X9_byPatterns a r f n d o h) (fun h' => F2 (plW a d o n) h h' ∧ (1 ≤ n → h' d o = h d o) ∧ ∀ k, 1 ≤ k → k < n → ∃ M, gdM (ocX np sg q n n 0) sg dt k M ∧ h' d (o + k) = if M % 2 = 1 then 1 else 0) := by
  have h9 := aX9 ha
  have k13 := (ly_X9 hL ha).2.2.2.2.2.2.2.2.2.2.2.2.2
  unfold m_X9_byPatterns
  refine z_lt (z_bind (z_mono (z_zero (d := a + 13) (n := n + 1) (by omega) (fun x g x0 x1 Fg => ?_) (fun g => ?_)) (fun h1 hh1 => ?_)))
  · have Lg := grW_l hL ha (Fg.mono (fun b j z => by unfold grW; omega))
    have g13 := (ly_X9 Lg ha).2.2.2.2.2.2.2.2.2.2.2.2.2
    show m_X9_byPatterns_l3 a n x g = _
    unfold m_X9_byPatterns_l3
    simp only [g13]
    rw [if_neg (by omega), gd_t ⟨by decide, by omega, by omega⟩, pt_e, lt_e, e32 (by omega) (by omega)]
  · show m_X9_byPatterns_l3 a n (n + 1) g = _
    unfold m_X9_byPatterns_l3
    rw [if_pos (by omega)]
  obtain ⟨F1, Z1⟩ := hh1
  have G1 : F2 (grW a) h h1 := F1.mono (fun b j z => by unfold grW; omega)
  have L1 := grW_l hL ha G1
  refine z_lt (z_bind (z_mono (z_lp (Q := fun h' => F2 (grW a) h h' ∧ ∀ k, 0 ≤ k → k ≤ n → gdM (ocX np sg q n n 0) sg dt k (h' (a + 13) k)) (fun (st : Int × Hp) => -1 ≤ st.1 ∧ st.1 ≤ n ∧ F2 (grW a) h st.2 ∧ ∀ k, 0 ≤ k → k ≤ n → gdM (ocX np sg q n st.1 0) sg dt k (st.2 (a + 13) k)) (fun st => (n - st.1).toNat) ⟨Int.le_refl _, by dsimp only; omega, G1, fun k k0 k1 => ?_⟩ ?_) (fun h2 hh2 => ?_)))
  · dsimp only
    rw [Z1 k k0 (by omega)]
    refine ⟨Int.le_refl _, by decide, fun p i x => ?_, Or.inl rfl⟩
    exfalso
    obtain ⟨p0, p1, o, z⟩ := x
    have := o.1
    have := hlen p p0 p1
    omega
  · rintro ⟨s, g⟩ ⟨s0, s1, Fg, G⟩
    dsimp only at s0 s1 G
    replace Fg : F2 (grW a) h g := Fg
    show Pz (m_X9_byPatterns_l26 a r f n s g) _
    unfold m_X9_byPatterns_l26
    by_cases hs : n ≤ s
    · rw [if_pos hs]
      have : s = n := by omega
      subst this
      exact z_some ⟨Fg, G⟩
    rw [if_neg hs]
    have rr : g r = h r := Fg.row (fun j z => by unfold grW at z; omega)
    refine z_lt (z_bind (z_mono (c_walk9 (grW_l hL ha Fg) ha (C.gr Fg) hlen n1 s0 (by omega) (by rw [rr]; exact kr) (by rw [rr]; exact lr) f0 fn hr (by unfold wdQ; rw [rr]; exact W) G) (fun g' hg' => z_lt ?_)))
    rw [e32 (x := s + 1) (by omega) (by omega)]
    exact z_some ⟨⟨show -1 ≤ s + 1 by omega, show s + 1 ≤ n by omega, Fg.trans hg'.1, hg'.2⟩, by dsimp only; omega⟩
  obtain ⟨F2', G2⟩ := hh2
  refine z_lt (z_bind (z_mono (z_lp (Q := fun h' => F2 (plW a d o n) h h' ∧ (1 ≤ n → h' d o = h d o) ∧ ∀ k, 1 ≤ k → k < n → ∃ M, gdM (ocX np sg q n n 0) sg dt k M ∧ h' d (o + k) = if M % 2 = 1 then 1 else 0) (fun (st : Int × Hp) => 1 ≤ st.1 ∧ (st.1 ≤ n ∨ st.1 = 1) ∧ F2 (fun b j => b = d ∧ o + 1 ≤ j ∧ j < o + n) h2 st.2 ∧ ∀ k, 1 ≤ k → k < st.1 → st.2 d (o + k) = if h2 (a + 13) k % 2 = 1 then 1 else 0) (fun st => (n - st.1).toNat) ⟨Int.le_refl _, Or.inr rfl, F2.refl, fun k k0 k1 => by dsimp only at k1; omega⟩ ?_) (fun r hr => z_some hr)))
  rintro ⟨x, g⟩ ⟨x0, x1, Fg, G⟩
  dsimp only at x0 x1 G
  replace Fg : F2 (fun b j => b = d ∧ o + 1 ≤ j ∧ j < o + n) h2 g := Fg
  show Pz (m_X9_byPatterns_l140 a n d o x g) _
  unfold m_X9_byPatterns_l140
  by_cases hx : n ≤ x
  · rw [if_pos hx]
    refine z_some ⟨fun b j nb => ?_, fun n1 => ?_, fun k k0 k1 => ⟨h2 (a + 13) k, G2 k (by omega) (by omega), ?_⟩⟩
    · rw [Fg b j (fun z => nb (Or.inr ⟨z.1, by omega, z.2.2⟩)), F2' b j (fun z => nb (Or.inl z))]
    · rw [Fg d o (fun z => by omega), F2' d o (fun z => by unfold grW at z; omega)]
    · exact G k k0 (by omega)
  rw [if_neg hx]
  have rg : ∀ b, b ≠ d → g b = h2 b := fun b hb => Fg.row (fun j z => hb z.1)
  have L2 := grW_l hL ha F2'
  have k2 := (ly_X9 L2 ha).2.2.2.2.2.2.2.2.2.2.2.2.2
  have m := (G2 x (by omega) (by omega)).1
  have kd' : g d (-2) % 16 = 3 := by rw [Fg d (-2) (fun z => by omega), F2' d (-2) (fun z => by unfold grW at z; omega)]; exact kd
  have ld' : o + n ≤ g d (-1) := by rw [Fg d (-1) (fun z => by omega), F2' d (-1) (fun z => by unfold grW at z; omega)]; exact ld
  simp only [rg a (by omega), k2.1, rg (a + 13) (by omega), k2.2.1, k2.2.2]
  refine z_gd ⟨by decide, by omega, by omega⟩ ?_
  rw [Int.tmod_eq_emod_of_nonneg m]
  have fin : ∀ v, v = (if h2 (a + 13) x % 2 = 1 then 1 else 0) → Pz (m_X9_byPatterns_j171 d x (w32 (o + x)) v g) (sE (fun (st : Int × Hp) => (1 ≤ st.1 ∧ (st.1 ≤ n ∨ st.1 = 1) ∧ F2 (fun b j => b = d ∧ o + 1 ≤ j ∧ j < o + n) h2 st.2 ∧ ∀ k, 1 ≤ k → k < st.1 → st.2 d (o + k) = if h2 (a + 13) k % 2 = 1 then 1 else 0) ∧ (n - st.1).toNat < (n - x).toNat) (fun h' => F2 (plW a d o n) h h' ∧ (1 ≤ n → h' d o = h d o) ∧ ∀ k, 1 ≤ k → k < n → ∃ M, gdM (ocX np sg q n n 0) sg dt k M ∧ h' d (o + k) = if M % 2 = 1 then 1 else 0)) := by
    intro v ev
    unfold m_X9_byPatterns_j171
    rw [e32 (x := o + x) (by omega) (by omega)]
    refine z_gd ⟨kd', by omega, by omega⟩ (z_pt (z_lt ?_))
    rw [e32 (x := x + 1) (by omega) (by omega)]
    refine z_some ⟨⟨show 1 ≤ x + 1 by omega, Or.inl (show x + 1 ≤ n by omega), Fg.put ⟨rfl, by omega, by omega⟩, fun k k0 k1 => ?_⟩, by dsimp only; omega⟩
    dsimp only at k1 ⊢
    by_cases hk : k = x
    · rw [hk, up_s, ev]
    · rw [up_j (by omega)]; exact G k k0 (by omega)
  by_cases hm : h2 (a + 13) x % 2 = 1
  · rw [if_neg (fun z => z hm)]
    exact fin 1 (by rw [if_pos hm])
  · rw [if_pos hm]
    exact fin 0 (by rw [if_neg hm])
