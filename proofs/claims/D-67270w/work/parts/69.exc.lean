set_option maxRecDepth 100000
/-! EXCEPTIONS, both sides -/
/-- the exceptions are the same -/
def EXr (hc ht : Hp) (a l : Int) : Prop := hc a 14 = ht l 3 ∧ 0 ≤ ht l 3 ∧ ht l 3 ≤ 60 ∧ ∀ e, 0 ≤ e → e < ht l 3 → (hc (a + 9) e = ht (l + 5) e ∧ 1 ≤ ht (l + 5) e ∧ ht (l + 5) e ≤ 30) ∧
  ∀ j, 0 ≤ j → j < ht (l + 5) e → hc (a + 7) (30 * e + j) = ht (l + 4) (30 * e + j) ∧ (97 ≤ ht (l + 4) (30 * e + j) ∧ ht (l + 4) (30 * e + j) ≤ 122) ∧ hc (a + 8) (31 * e + j) = ht (l + 6) (31 * e + j) ∧ (ht (l + 6) (31 * e + j) = 0 ∨ ht (l + 6) (31 * e + j) = 1)
def xcW (a : Int) : Int → Int → Prop := fun b j => (b = a + 10 ∨ b = a + 11) ∧ 0 ≤ j
def xtW (l : Int) : Int → Int → Prop := fun b j => (b = l ∧ j = 12) ∨ ((b = l + 7 ∨ b = l + 9) ∧ 0 ≤ j)
def exW (a : Int) : Int → Int → Prop := fun b j => (b = a ∧ j = 14) ∨ (a + 7 ≤ b ∧ b ≤ a + 11 ∧ 0 ≤ j)
def etW (l : Int) : Int → Int → Prop := fun b j => (b = l ∧ (j = 3 ∨ j = 12)) ∨ ((l + 4 ≤ b ∧ b ≤ l + 7 ∨ b = l + 9) ∧ 0 ≤ j)
theorem xc_ex {a : Int} : ∀ b j, xcW a b j → exW a b j := fun b j z => by unfold xcW at z; unfold exW; omega
theorem xt_et {l : Int} : ∀ b j, xtW l b j → etW l b j := fun b j z => by unfold xtW at z; unfold etW; omega
theorem ex_hy {a : Int} : ∀ b j, exW a b j → hyW a b j := fun b j z => by unfold exW at z; unfold hyW; omega
theorem et_tp {l : Int} : ∀ b j, etW l b j → tpW l b j := fun b j z => by unfold etW at z; unfold tpW; omega
/-- while the word of an exception is read -/
def XI (hc ht qc qt : Hp) (a l n : Int) : Prop := F2 (xcW a) hc qc ∧ F2 (xtW l) ht qt ∧ 0 ≤ n ∧ n ≤ 30 ∧ qt l 12 = n ∧ (∀ j, 0 ≤ j → j < n → qc (a + 10) j = qt (l + 7) j ∧ 97 ≤ qt (l + 7) j ∧ qt (l + 7) j ≤ 122) ∧
  (∀ j, 0 ≤ j → j ≤ 30 → qc (a + 11) j = qt (l + 9) j ∧ (qt (l + 9) j = 0 ∨ qt (l + 9) j = 1)) ∧ ∀ j, n < j → j ≤ 30 → qt (l + 9) j = 0
theorem y_xword {hc ht qc qt : Hp} {a l t u fr to : Int} (hL : LAY hc) (hL2 : LAY ht) (ha : a ∈ in_aX9) (hl : l ∈ in_aX21) (rm : RM hc 1 7) (rm2 : RM ht 1 7) (htc : t < a ∨ a + 13 < t) (htt : u < l ∨ l + 9 < u) (t1 : hc t (-2) % 16 = 2) (t2 : to ≤ hc t (-1)) (u1 : ht u (-2) % 16 = 2) (u2 : to ≤ ht u (-1)) (f0 : 0 ≤ fr) (f1 : fr < to) (e1 : to ≤ 4000)
    (hb : ∀ j, fr ≤ j → j < to → hc t j = ht u j) (X : XI hc ht qc qt a l 0) (X0 : qc (a + 11) 0 = 0) :
    Pz (lp (fun (q : Int × Int × Hp) => m_X9_exception_l35 a t fr to q.1 q.2.1 q.2.2) (0, fr + 1, qc)) (fun x => Pz (lp (fun (q : Int × Hp) => m_X21_exception_l34 l u fr to q.1 q.2) (fr + 1, qt)) (fun y =>
      (∃ n q1 q2, x = .inl (n, q1) ∧ y = .inl q2 ∧ XI hc ht q1 q2 a l n ∧ q1 (a + 11) n = 0 ∧ ∀ j, fr + 1 ≤ j → j < to → 33 ≤ hc t j ∧ hc t j ≤ 126) ∨ (∃ rc rt, x = .inr rc ∧ y = .inr rt ∧ ThF 432 fr (xcW a) hc rc ∧ ThF 448 fr (xtW l) ht rt) ∨
      (∃ n q1 rt, x = .inl (n, q1) ∧ y = .inr rt ∧ 1 ≤ n ∧ n ≤ 30 ∧ q1 (a + 11) n ≠ 0 ∧ F2 (xcW a) hc q1 ∧ ThF 448 fr (xtW l) ht rt))) := by
  have h9 := aX9 ha
  have h21 := aX21 hl
  refine y_lp3 (fun (s : Int × Int × Hp) (s' : Int × Hp) => s.2.1 = s'.1 ∧ fr + 1 ≤ s'.1 ∧ s'.1 ≤ to ∧ XI hc ht s.2.2 s'.2 a l s.1 ∧ (s.2.2 (a + 11) s.1 ≠ 0 → s'.1 < to) ∧ ∀ j, fr + 1 ≤ j → j < s'.1 → 33 ≤ hc t j ∧ hc t j ≤ 126) (fun s => (to - s.2.1).toNat) ⟨rfl, by dsimp only; omega, by dsimp only; omega, X, fun z => absurd X0 z, fun j j0 j1 => by dsimp only at j1; omega⟩ ?_
  rintro ⟨n, i, q1⟩ ⟨i', q2⟩ ⟨e, i0, i1, X, X1, XB⟩
  dsimp only at e i0 i1 X1 XB ⊢
  subst e
  replace X : XI hc ht q1 q2 a l n := X
  obtain ⟨F, G, n0, n1, en, W, M, Z⟩ := id X
  have r1 := rm_of rm F (fun j z => by unfold xcW at z; omega)
  have r2 := rm_of rm2 G (fun j z => by unfold xtW at z; omega)
  have L1 := hyW_l hL ha (F.mono (fun b j z => ex_hy b j (xc_ex b j z)))
  have L2 := tpW_l hL2 hl (G.mono (fun b j z => et_tp b j (xt_et b j z)))
  have et : q1 t = hc t := F.row (fun j z => by unfold xcW at z; omega)
  have eu : q2 u = ht u := G.row (fun j z => by unfold xtW at z; omega)
  have thr : ∀ {b b' : Int} {h' h'' : Hp}, Thr 432 fr q1 ((1, b), h') → Thr 448 fr q2 ((1, b'), h'') → ThF 432 fr (xcW a) hc ((1, b), h') ∧ ThF 448 fr (xtW l) ht ((1, b'), h'') := fun z1 z2 => ⟨z1.F F (fun j z => by unfold xcW at z; omega), z2.F G (fun j z => by unfold xtW at z; omega)⟩
  have hbi := hb i (by omega)
  have Mn := M n n0 n1
  unfold m_X9_exception_l35 m_X21_exception_l34 m_X9_exception_j75
  by_cases hc1 : to ≤ i
  · exact z_it hc1 (z_some (z_it hc1 (z_some (Or.inr (Or.inl ⟨_, _, rfl, rfl, Or.inl ⟨n, q1, q2, rfl, rfl, X, by grind, by grind⟩⟩)))))
  · have hci := hbi (by omega)
    (try simp (disch := omega) only [up_a, up_e, up_j, e32, e8, ly_X9 L1 ha, ly_X21 L2 hl, et, eu, en, hci])
    unfold m_X9_exception_j119 m_X21_exception_j149
    try simp (disch := omega) only [up_a, up_e, up_j, e32, e8, en]
    repeat' first
      | with_reducible refine z_lt ?_
      | (with_reducible refine z_pt ?_; try simp (disch := omega) only [up_a, up_e, up_j, e32, e8, en])
      | with_reducible refine z_some ?_
      | with_reducible refine z_gd (by (try simp (disch := omega) only [up_a, up_e, up_j, e32, e8, en]) <;> omega) ?_
      | with_reducible refine z_brk (by assumption) (fun b h1 z => ?_)
      | with_reducible refine z_it (by first | decide | omega) ?_
      | with_reducible refine z_ie (by first | decide | omega) ?_
      | with_reducible refine z_if (fun hq => ?_) (fun hq => ?_)
      | with_reducible refine zc_sm (fun hq => ?_) (fun hq => ?_)
      | with_reducible refine zc_dg (fun hq => ?_) (fun hq => ?_)
      | with_reducible refine zc_bl (fun hq => ?_) (fun hq => ?_)
      | with_reducible refine zt_sm (fun hq => ?_) (fun hq => ?_)
      | with_reducible refine zt_dg (fun hq => ?_) (fun hq => ?_)
      | with_reducible refine zt_bl (fun hq => ?_) (fun hq => ?_)
    all_goals first
      | (exfalso; omega)
      | exact Or.inr (Or.inl ⟨_, _, rfl, rfl, Or.inr (Or.inl ⟨_, _, rfl, rfl, thr ‹_› ‹_›⟩)⟩)
      | skip
    · refine Or.inl ⟨_, _, rfl, rfl, ⟨rfl, ?_, ?_, ⟨?_, ?_, ?_⟩, ?_, ?_⟩, ?_⟩ <;> (try simp (disch := omega) only [up_a, up_e, up_j, e32, e8, en])
      · omega
      · omega
      · exact F.put (by unfold xcW; omega)
      · exact (G.put (by unfold xtW; omega)).put (by unfold xtW; omega)
      · grind [up]
      · grind [up]
      · grind
      · omega
    · refine Or.inl ⟨_, _, rfl, rfl, ⟨rfl, ?_, ?_, ⟨?_, ?_, ?_⟩, ?_, ?_⟩, ?_⟩ <;> (try simp (disch := omega) only [up_a, up_e, up_j, e32, e8, en])
      · omega
      · omega
      · exact F.put (by unfold xcW; omega)
      · exact G.put (by unfold xtW; omega)
      · grind [up]
      · grind [up]
      · grind
      · omega
    · refine Or.inr (Or.inr ⟨_, _, rfl, rfl, z_turn ?_⟩)
      dsimp only
      (try simp (disch := omega) only [up_a, up_e, up_j, e32, e8])
      refine z_it (by omega) (z_some (Or.inr (Or.inr ⟨n, _, _, rfl, rfl, by omega, by omega, ?_, F.put (by unfold xcW; omega), Thr.F ‹_› G (fun j z => by unfold xtW at z; omega)⟩)))
      (try simp (disch := omega) only [up_a, up_e, up_j, e32, e8])
      decide
/-- exception k of the component is a row of n letters, as far as m of them -/
def exS (h : Hp) (a r f n k m : Int) : Prop := h (a + 9) k = n ∧ ∀ j, 0 ≤ j → j < m → h (a + 7) (30 * k + j) = sml (h r (f + j))
theorem exS_0 {h : Hp} {a r f n k : Int} : exS h a r f n k 0 ↔ h (a + 9) k = n := by grind [exS]
theorem exS_s {h : Hp} {a r f n k m : Int} (m0 : 0 ≤ m) : exS h a r f n k (m + 1) ↔ (exS h a r f n k m ∧ h (a + 7) (30 * k + m) = sml (h r (f + m))) := by
  grind [exS]
/-- the first of them, -1 without -/
def exF (h : Hp) (a r f n e : Int) : Prop := (e = -1 ∧ ∀ k, 0 ≤ k → k < h a 14 → ¬ exS h a r f n k n) ∨ (0 ≤ e ∧ e < h a 14 ∧ exS h a r f n e n ∧ ∀ k, 0 ≤ k → k < e → ¬ exS h a r f n k n)
theorem c_exOf {h : Hp} {a r f n : Int} (hL : LAY h) (ha : a ∈ in_aX9) (r1 : h r (-2) % 16 = 2) (f0 : 0 ≤ f) (n0 : 0 ≤ n) (fn : f + n ≤ h r (-1)) (rl : h r (-1) ≤ 100000) (rb : ∀ j, 0 ≤ j → j < n → -128 ≤ h r (f + j) ∧ h r (f + j) ≤ 127) (H0 : 0 ≤ h a 14) (H1 : h a 14 ≤ 60) (H2 : ∀ e, 0 ≤ e → e < h a 14 → h (a + 9) e ≤ 30) :
    Pz (m_X9_exceptionOf a r f n h) (exF h a r f n) := by
  unfold m_X9_exceptionOf
  refine z_lt (z_bind (z_mono (z_lp (Q := exF h a r f n) (fun x => 0 ≤ x ∧ x ≤ h a 14 ∧ ∀ k, 0 ≤ k → k < x → ¬ exS h a r f n k n) (fun x => (h a 14 - x).toNat) (by grind) ?_) (fun r hr => z_some hr)))
  rintro x ⟨x0, x1, x2⟩
  unfold m_X9_exceptionOf_l3
  have inner : ∀ s, x < h a 14 → (s ≠ 0 ↔ h (a + 9) x = n) → Pz (m_X9_exceptionOf_j28 a r f n x s h) (sE (fun t' => t' = x + 1 ∧ ¬ exS h a r f n x n) (fun e => e = x ∧ exS h a r f n x n)) := by
    intro s xl sn
    unfold m_X9_exceptionOf_j28
    refine z_lt (z_bind (z_mono (z_lp (Q := fun v => v ≠ 0 ↔ exS h a r f n x n) (fun q => 0 ≤ q.2 ∧ q.2 ≤ n ∧ (q.1 ≠ 0 ↔ exS h a r f n x q.2)) (fun q => (n - q.2).toNat) (by grind [exS_0]) ?_) (fun v hv => ?_)))
    · rintro ⟨v, y⟩ ⟨y0, y1, y2⟩
      dsimp only at y0 y1 y2 ⊢
      have n30 : v ≠ 0 → n ≤ 30 := by grind [exS]
      have eS := @exS_s h a r f n x y y0
      unfold m_X9_exceptionOf_l33
      refine z_if (fun hc => z_some ?_) (fun hc => z_if (fun hd => z_some ?_) (fun hd => ?_))
      · show _ ↔ _; rw [y2]; have : y = n := by omega
        rw [this]
      · show _ ↔ _; grind [exS]
      · have n31 := n30 hd
        (try simp (disch := omega) only [up_a, up_e, up_j, e32, e8, ly_X9 hL ha])
        have b := rb y y0 (by omega)
        refine z_gd (by omega) (z_gd (by omega) ?_)
        rw [q_X1_small (by omega), Option.bind_some]
        unfold m_X9_exceptionOf_j74
        (try simp (disch := omega) only [up_a, up_e, up_j, e32, e8])
        try simp (disch := omega) only [up_a, up_e, up_j, e32, e8]
        repeat' first
          | with_reducible refine z_lt ?_
          | (with_reducible refine z_pt ?_; try simp (disch := omega) only [up_a, up_e, up_j, e32, e8])
          | with_reducible refine z_some ?_
          | with_reducible refine z_gd (by (try simp (disch := omega) only [up_a, up_e, up_j, e32, e8]) <;> omega) ?_
          | with_reducible refine z_brk (by assumption) (fun b h1 z => ?_)
          | with_reducible refine z_it (by first | decide | omega) ?_
          | with_reducible refine z_ie (by first | decide | omega) ?_
          | with_reducible refine z_if (fun hq => ?_) (fun hq => ?_)
          | with_reducible refine zc_sm (fun hq => ?_) (fun hq => ?_)
          | with_reducible refine zc_dg (fun hq => ?_) (fun hq => ?_)
          | with_reducible refine zc_bl (fun hq => ?_) (fun hq => ?_)
          | with_reducible refine zt_sm (fun hq => ?_) (fun hq => ?_)
          | with_reducible refine zt_dg (fun hq => ?_) (fun hq => ?_)
          | with_reducible refine zt_bl (fun hq => ?_) (fun hq => ?_)
        · simp only [sE]; grind
        · simp only [sE]; grind
    · (try simp (disch := omega) only [up_a, up_e, up_j, e32, e8])
      try simp (disch := omega) only [up_a, up_e, up_j, e32, e8]
      repeat' first
        | with_reducible refine z_lt ?_
        | (with_reducible refine z_pt ?_; try simp (disch := omega) only [up_a, up_e, up_j, e32, e8])
        | with_reducible refine z_some ?_
        | with_reducible refine z_gd (by (try simp (disch := omega) only [up_a, up_e, up_j, e32, e8]) <;> omega) ?_
        | with_reducible refine z_brk (by assumption) (fun b h1 z => ?_)
        | with_reducible refine z_it (by first | decide | omega) ?_
        | with_reducible refine z_ie (by first | decide | omega) ?_
        | with_reducible refine z_if (fun hq => ?_) (fun hq => ?_)
        | with_reducible refine zc_sm (fun hq => ?_) (fun hq => ?_)
        | with_reducible refine zc_dg (fun hq => ?_) (fun hq => ?_)
        | with_reducible refine zc_bl (fun hq => ?_) (fun hq => ?_)
        | with_reducible refine zt_sm (fun hq => ?_) (fun hq => ?_)
        | with_reducible refine zt_dg (fun hq => ?_) (fun hq => ?_)
        | with_reducible refine zt_bl (fun hq => ?_) (fun hq => ?_)
      · simp only [sE]; grind
      · simp only [sE]; grind
  have e9 : x < h a 14 → x < 60 := by omega
  (try simp (disch := omega) only [up_a, up_e, up_j, e32, e8, ly_X9 hL ha])
  try simp (disch := omega) only [up_a, up_e, up_j, e32, e8]
  repeat' first
    | with_reducible refine z_lt ?_
    | (with_reducible refine z_pt ?_; try simp (disch := omega) only [up_a, up_e, up_j, e32, e8])
    | with_reducible refine z_some ?_
    | with_reducible refine z_gd (by (try simp (disch := omega) only [up_a, up_e, up_j, e32, e8]) <;> omega) ?_
    | with_reducible refine z_brk (by assumption) (fun b h1 z => ?_)
    | with_reducible refine z_it (by first | decide | omega) ?_
    | with_reducible refine z_ie (by first | decide | omega) ?_
    | with_reducible refine z_if (fun hq => ?_) (fun hq => ?_)
    | with_reducible refine zc_sm (fun hq => ?_) (fun hq => ?_)
    | with_reducible refine zc_dg (fun hq => ?_) (fun hq => ?_)
    | with_reducible refine zc_bl (fun hq => ?_) (fun hq => ?_)
    | with_reducible refine zt_sm (fun hq => ?_) (fun hq => ?_)
    | with_reducible refine zt_dg (fun hq => ?_) (fun hq => ?_)
    | with_reducible refine zt_bl (fun hq => ?_) (fun hq => ?_)
  · simp only [sE]; grind [exF]
  · refine z_mono (inner 0 (by omega) (by omega)) (fun y hy => ?_)
    cases y <;> simp only [sE] at hy ⊢ <;> grind [exF]
  · refine z_mono (inner 1 (by omega) (by omega)) (fun y hy => ?_)
    cases y <;> simp only [sE] at hy ⊢ <;> grind [exF]
/-- the same for the reference's search -/
def etS (h : Hp) (l n k : Int) : Prop := h (l + 5) k = n ∧ ∀ j, 0 ≤ j → j < n → h (l + 4) (30 * k + j) = h (l + 7) j
theorem wd_same {h : Hp} {t i u j : Int} {k m : Nat} : wd h t i k = wd h u j m ↔ (k = m ∧ ∀ x : Int, 0 ≤ x → x < k → h t (i + x) = h u (j + x)) := by
  constructor
  · intro e
    have e1 : k = m := by have := congrArg List.length e; rwa [wd_len, wd_len] at this
    subst e1
    refine ⟨rfl, fun x x0 x1 => ?_⟩
    have := (wd_eq wd_len).mp e x.toNat (by omega)
    rw [wd_at (by omega), Int.toNat_of_nonneg x0] at this
    exact (Option.some.inj this).symm
  · rintro ⟨rfl, e⟩
    exact (wd_eq wd_len).mpr (fun x hx => by rw [wd_at hx, e x (by omega) (by omega)])
theorem t_xsearch {h : Hp} {l n : Int} (hL : LAY h) (hl : l ∈ in_aX21) (en : h l 12 = n) (n0 : 0 ≤ n) (n1 : n ≤ 30) (H0 : 0 ≤ h l 3) (H1 : h l 3 ≤ 60) (H2 : ∀ e, 0 ≤ e → e < h l 3 → 1 ≤ h (l + 5) e ∧ h (l + 5) e ≤ 30) :
    Pz (lp (fun (q : Int) => m_X21_exception_l174 l q h) 0) (fun e => 0 ≤ e ∧ e ≤ h l 3 ∧ (e < h l 3 → etS h l n e) ∧ ∀ k, 0 ≤ k → k < e → ¬ etS h l n k) := by
  refine z_lp (fun x : Int => 0 ≤ x ∧ x ≤ h l 3 ∧ ∀ k, 0 ≤ k → k < x → ¬ etS h l n k) (fun x => (h l 3 - x).toNat) ⟨by omega, by omega, by grind⟩ ?_
  rintro x ⟨x0, x1, x2⟩
  unfold m_X21_exception_l174
  refine z_if (fun hc => z_some ⟨x0, x1, fun z => by omega, x2⟩) (fun hc => ?_)
  have b := H2 x x0 (by omega)
  (try simp (disch := omega) only [up_a, up_e, up_j, e32, e8, ly_X21 hL hl, en])
  have iff : wd h (l + 4) (30 * x) (30 * x + h (l + 5) x - 30 * x).toNat = wd h (l + 7) 0 (n - 0).toNat ↔ etS h l n x := by
    rw [wd_same]; unfold etS
    constructor
    · rintro ⟨e1, e2⟩
      refine ⟨by omega, fun j j0 j1 => ?_⟩
      rw [e2 j j0 (by omega), Int.zero_add]
    · rintro ⟨e1, e2⟩
      refine ⟨by omega, fun j j0 j1 => ?_⟩
      rw [e2 j j0 (by omega), Int.zero_add]
  have k := ly_X21 hL hl
  refine z_gd (by omega) (z_eqW (q_X18_same (by grind) (by omega) (by omega) (by grind) (by grind) (by grind) (by omega) (by omega) (by grind) (by grind)) (fun e => ?_) (fun e => ?_))
  · exact z_it (by decide) (z_some ⟨x0, x1, fun _ => iff.mp e, x2⟩)
  · replace e : ¬ etS h l n x := fun z => e (iff.mpr z)
    exact z_ie (by decide) (z_lt (z_some ⟨⟨by omega, by omega, by grind⟩, by omega⟩))
def ckW (a e n : Int) : Int → Int → Prop := fun b j => (b = a + 9 ∧ j = e) ∨ (b = a + 7 ∧ 30 * e ≤ j ∧ j < 30 * e + n) ∨ (b = a + 8 ∧ 31 * e ≤ j ∧ j < 31 * e + n)
theorem c_xkeep {h : Hp} {a e n : Int} (hL : LAY h) (ha : a ∈ in_aX9) (e0 : 0 ≤ e) (e1 : e < 60) (n0 : 0 ≤ n) (n1 : n ≤ 30) :
    Pz (m_X9_exception_j201 n a e h) (fun r => r.1 = (0, 0) ∧ F2 (ckW a e n) h r.2 ∧ r.2 (a + 9) e = n ∧ ∀ j, 0 ≤ j → j < n → r.2 (a + 7) (30 * e + j) = h (a + 10) j ∧ r.2 (a + 8) (31 * e + j) = h (a + 11) j) := by
  have h9 := aX9 ha
  unfold m_X9_exception_j201
  (try simp (disch := omega) only [up_a, up_e, up_j, e32, e8, ly_X9 hL ha])
  refine z_gd (by omega) (z_pt (z_lt (z_bind (z_mono (z_lp (Q := fun r : (Int × Int) × Hp => r.1 = (0, 0) ∧ F2 (ckW a e n) h r.2 ∧ r.2 (a + 9) e = n ∧ ∀ j, 0 ≤ j → j < n → r.2 (a + 7) (30 * e + j) = h (a + 10) j ∧ r.2 (a + 8) (31 * e + j) = h (a + 11) j) (fun y : Int × Hp => 0 ≤ y.1 ∧ y.1 ≤ n ∧ F2 (ckW a e n) h y.2 ∧ y.2 (a + 9) e = n ∧ ∀ j, 0 ≤ j → j < y.1 → y.2 (a + 7) (30 * e + j) = h (a + 10) j ∧ y.2 (a + 8) (31 * e + j) = h (a + 11) j) (fun y => (n - y.1).toNat) ⟨by omega, by dsimp only; omega, F2.refl.put (by unfold ckW; omega), up_s _ _ _ _, by grind⟩ ?_) (fun r hr => z_some hr)))))
  rintro ⟨x, q⟩ ⟨x0, x1, F, E, C⟩
  dsimp only at x0 x1 E C ⊢
  replace F : F2 (ckW a e n) h q := F
  have L := hyW_l hL ha (F.mono (fun b j z => by unfold ckW at z; unfold hyW; omega))
  have e10 : q (a + 10) = h (a + 10) := F.row (fun j z => by unfold ckW at z; omega)
  have e11 : q (a + 11) = h (a + 11) := F.row (fun j z => by unfold ckW at z; omega)
  unfold m_X9_exception_l213
  refine z_if (fun hc => z_some ⟨rfl, F, E, by grind⟩) (fun hc => ?_)
  try simp (disch := omega) only [up_a, up_e, up_j, e32, e8, ly_X9 L ha, e10, e11]
  repeat' first
    | with_reducible refine z_lt ?_
    | (with_reducible refine z_pt ?_; try simp (disch := omega) only [up_a, up_e, up_j, e32, e8, ly_X9 L ha, e10, e11])
    | with_reducible refine z_some ?_
    | with_reducible refine z_gd (by (try simp (disch := omega) only [up_a, up_e, up_j, e32, e8, ly_X9 L ha, e10, e11]) <;> omega) ?_
    | with_reducible refine z_brk (by assumption) (fun b h1 z => ?_)
    | with_reducible refine z_it (by first | decide | omega) ?_
    | with_reducible refine z_ie (by first | decide | omega) ?_
    | with_reducible refine z_if (fun hq => ?_) (fun hq => ?_)
    | with_reducible refine zc_sm (fun hq => ?_) (fun hq => ?_)
    | with_reducible refine zc_dg (fun hq => ?_) (fun hq => ?_)
    | with_reducible refine zc_bl (fun hq => ?_) (fun hq => ?_)
    | with_reducible refine zt_sm (fun hq => ?_) (fun hq => ?_)
    | with_reducible refine zt_dg (fun hq => ?_) (fun hq => ?_)
    | with_reducible refine zt_bl (fun hq => ?_) (fun hq => ?_)
  refine ⟨⟨by omega, by dsimp only; omega, ?_, ?_, ?_⟩, by dsimp only; omega⟩ <;> dsimp only
  · exact (F.put (by unfold ckW; omega)).put (by unfold ckW; omega)
  · (try simp (disch := omega) only [up_a, up_e, up_j, e32, e8, E])
  · (try simp (disch := omega) only [up_a, up_e, up_j, e32, e8, ly_X9 L ha, e10, e11])
    grind [up]
def tkW (l e n : Int) : Int → Int → Prop := fun b j => (b = l ∧ j = 3) ∨ (b = l + 5 ∧ j = e) ∨ (b = l + 4 ∧ 30 * e ≤ j ∧ j < 30 * e + n) ∨ (b = l + 6 ∧ 31 * e ≤ j ∧ j < 31 * e + 31)
theorem t_xkeep {h : Hp} {l e n m : Int} (hL : LAY h) (hl : l ∈ in_aX21) (e0 : 0 ≤ e) (e1 : e < 60) (en : h l 12 = n) (n0 : 0 ≤ n) (n1 : n ≤ 30) :
    Pz (m_X21_exception_j263 l e m h) (fun r => r.1 = (0, 0) ∧ F2 (tkW l e n) h r.2 ∧ r.2 l 3 = m ∧ r.2 (l + 5) e = n ∧ (∀ j, 0 ≤ j → j < n → r.2 (l + 4) (30 * e + j) = h (l + 7) j) ∧ ∀ j, 0 ≤ j → j < 31 → r.2 (l + 6) (31 * e + j) = h (l + 9) j) := by
  have h9 := aX21 hl
  unfold m_X21_exception_j263
  refine z_pt ?_
  (try simp (disch := omega) only [up_a, up_e, up_j, e32, e8, ly_X21 hL hl, en])
  refine z_gd (by omega) (z_pt (z_lt (z_bind (z_fill (n := n) (d := l + 4) (s := 30 * e) (g := h (l + 7)) n0 (fun x q x0 x1 F => ?_) (fun q F E => ?_)))))
  · have G : F2 (tkW l e n) h q := ((F2.refl.put (by unfold tkW; omega)).put (by unfold tkW; omega)).trans (F.mono (fun b j z => by unfold tkW; omega))
    have L := tpW_l hL hl (G.mono (fun b j z => by unfold tkW at z; unfold tpW; omega))
    have e7 : q (l + 7) = h (l + 7) := G.row (fun j z => by unfold tkW at z; omega)
    have en2 : q l 12 = n := by rw [G l 12 (fun z => by unfold tkW at z; omega)]; exact en
    show m_X21_exception_l280 l e x q = _
    unfold m_X21_exception_l280
    (try simp (disch := omega) only [up_a, up_e, up_j, e32, e8, ly_X21 L hl, e7, en2])
    rw [if_neg (by omega)]
    unfold gd pt lt_
    rw [if_pos (by omega), if_pos (by omega)]
  · have G : F2 (tkW l e n) h q := ((F2.refl.put (by unfold tkW; omega)).put (by unfold tkW; omega)).trans (F.mono (fun b j z => by unfold tkW; omega))
    have en2 : q l 12 = n := by rw [G l 12 (fun z => by unfold tkW at z; omega)]; exact en
    have e3 : q l 3 = m := by rw [F _ _ (fun z => by omega)]; (try simp (disch := omega) only [up_a, up_e, up_j, e32, e8])
    have e5 : q (l + 5) e = n := by rw [F _ _ (fun z => by omega)]; (try simp (disch := omega) only [up_a, up_e, up_j, e32, e8])
    show Pz (m_X21_exception_l280 l e n q) _
    unfold m_X21_exception_l280
    rw [en2]
    refine z_it (Int.le_refl n) (z_some (z_lt (z_bind (z_fill (n := 31) (d := l + 6) (s := 31 * e) (g := h (l + 9)) (by decide) (fun x q' x0 x1 F' => ?_) (fun q' F' E' => ?_)))))
    · have G' : F2 (tkW l e n) h q' := G.trans (F'.mono (fun b j z => by unfold tkW; omega))
      have L := tpW_l hL hl (G'.mono (fun b j z => by unfold tkW at z; unfold tpW; omega))
      have e9 : q' (l + 9) = h (l + 9) := G'.row (fun j z => by unfold tkW at z; omega)
      show m_X21_exception_l318 l e x q' = _
      unfold m_X21_exception_l318
      (try simp (disch := omega) only [up_a, up_e, up_j, e32, e8, ly_X21 L hl, e9])
      rw [if_neg (by omega)]
      unfold gd pt lt_
      rw [if_pos (by omega), if_pos (by omega)]
    · show Pz (m_X21_exception_l318 l e 31 q') _
      unfold m_X21_exception_l318
      refine z_it (by decide) (z_some (z_some ⟨rfl, G.trans (F'.mono (fun b j z => by unfold tkW; omega)), ?_, ?_, fun j j0 j1 => ?_, fun j j0 j1 => E' j j0 (by omega)⟩)) <;> dsimp only
      · rw [F' _ _ (fun z => by omega)]; exact e3
      · rw [F' _ _ (fun z => by omega)]; exact e5
      · rw [F' _ _ (fun z => by omega)]; exact E j j0 j1
