set_option maxRecDepth 100000
/-! HYPHENS: word by word -/
theorem HYc.kept {h h' : Hp} {a np : Int} {sg : Int → List Int} {dt : Int → Int → Int} (H : HYc h a np sg dt) (e : ∀ b, a + 1 ≤ b → b ≤ a + 6 → h' b = h b) (e6 : h' a 6 = h a 6) (e9 : h' a 9 = h a 9) (e10 : h' a 10 = h a 10) : HYc h' a np sg dt := by
  have t1 := e (a + 1) (by omega) (by omega)
  have t2 := e (a + 2) (by omega) (by omega)
  have t3 := e (a + 3) (by omega) (by omega)
  unfold HYc at *
  rw [e10, e6, e9, e (a + 4) (by omega) (by omega), e (a + 5) (by omega) (by omega), e (a + 6) (by omega) (by omega)]
  obtain ⟨h1, h2, h3, ⟨σ, h4, h5⟩, h6⟩ := H
  exact ⟨h1, h2, h3, ⟨σ, h4.kept t1 t2 t3 e6, h5⟩, h6⟩
theorem HYt.kept {h h' : Hp} {l np : Int} {sg : Int → List Int} {dt : Int → Int → Int} (H : HYt h l np sg dt) (e : ∀ b, l + 1 ≤ b → b ≤ l + 3 → h' b = h b) (e2 : h' l 2 = h l 2) : HYt h' l np sg dt := by
  have t1 := e (l + 1) (by omega) (by omega)
  unfold HYt at *
  rw [e2, e (l + 2) (by omega) (by omega), e (l + 3) (by omega) (by omega)]
  simp only [wd_h t1]
  exact H
/-- what is told of hyphens is the same on both sides -/
def HYr (hc ht : Hp) (a l : Int) : Prop := (∃ np sg dt, HYc hc a np sg dt ∧ HYt ht l np sg dt) ∧ EXr hc ht a l ∧ (hc a 0 = ht l 0 ∧ 1 ≤ ht l 0 ∧ ht l 0 ≤ 9) ∧ (hc a 1 = ht l 1 ∧ 1 ≤ ht l 1 ∧ ht l 1 ≤ 9)
theorem PIX.uniq {np : Int} {sg : Int → List Int} {L : List Int} {p q : Int} (d : ∀ p q, 0 ≤ p → p < q → q < np → sg p ≠ sg q) (h1 : PIX np sg L p) (h2 : PIX np sg L q) : p = q := by
  rcases h1 with ⟨a1, a2, a3⟩ | ⟨a1, a2⟩ <;> rcases h2 with ⟨b1, b2, b3⟩ | ⟨b1, b2⟩
  · rcases Int.lt_trichotomy p q with z | z | z
    · exact absurd (a3.trans b3.symm) (d p q a1 z b2)
    · exact z
    · exact absurd (b3.trans a3.symm) (d q p b1 z a2)
  · exact absurd a3 (b2 p a1 a2)
  · exact absurd b3 (a2 q b1 b2)
  · omega
theorem lets_congr {B C : Int → Int} {s : Int} : ∀ k : Nat, (∀ x : Nat, x < k → B (s + x) = C (s + x)) → lets B s k = lets C s k := by
  intro k
  induction k with
  | zero => intro _; rfl
  | succ k ih =>
    intro h
    unfold lets
    rw [ih (fun x hx => h x (by omega)), h k (by omega)]
theorem dgf_congr {B C : Int → Int} {s : Int} : ∀ k : Nat, (∀ x : Nat, x < k → B (s + x) = C (s + x)) → dgf B s k = dgf C s k := by
  intro k
  induction k with
  | zero => intro _; rfl
  | succ k ih =>
    intro h
    unfold dgf
    rw [ih (fun x hx => h x (by omega)), h k (by omega), lets_congr k (fun x hx => h x (by omega))]
theorem okP_congr {B C : Int → Int} {s : Int} {k : Nat} (h : ∀ x : Nat, x < k → B (s + x) = C (s + x)) (ok : okP B s k) : okP C s k := by
  intro i hi
  have := ok i hi
  unfold okA at *
  have e : dgB B s i ↔ dgB C s i := by
    cases i with
    | zero => exact Iff.rfl
    | succ i => show (48 ≤ B (s + i) ∧ B (s + i) ≤ 57) ↔ (48 ≤ C (s + i) ∧ C (s + i) ≤ 57); rw [h i (by omega)]
  rw [h i hi, e, lets_congr i (fun x hx => h x (by omega))] at this
  exact this
theorem PRt.congr {h : Hp} {l fr np : Int} {sg : Int → List Int} {dt : Int → Int → Int} {B C : Int → Int} {ah be s : Int} {K : Nat} {r : (Int × Int) × Hp} (hB : ∀ x : Nat, x < K → B (s + x) = C (s + x)) (P : PRt h l fr np sg dt B ah be s K r) : PRt h l fr np sg dt C ah be s K r := by
  unfold PRt at *
  rw [lets_congr K hB, dgf_congr K hB] at P
  have e : okP B s K ↔ okP C s K := ⟨okP_congr hB, okP_congr (fun x hx => (hB x hx).symm)⟩
  rw [e] at P
  exact P
/-- a word is taken by both: hyphens stay the same, or both are broken at fr -/
def WDo (hc ht : Hp) (a l t fr to : Int) (rc rt : (Int × Int) × Hp) : Prop :=
  (rc.1 = (0, 0) ∧ rt.1 = (0, 0) ∧ F2 (hyW a) hc rc.2 ∧ F2 (tpW l) ht rt.2 ∧ HYr rc.2 rt.2 a l ∧ rc.2 a 6 ≤ hc a 6 + (to - fr) ∧ ∀ j, fr + 1 ≤ j → j < to → 33 ≤ hc t j ∧ hc t j ≤ 126) ∨ (ThF 432 fr (hyW a) hc rc ∧ ThF 448 fr (tpW l) ht rt)
theorem y_pat {hc ht : Hp} {a l t u fr to : Int} (hL : LAY hc) (hL2 : LAY ht) (ha : a ∈ in_aX9) (hl : l ∈ in_aX21) (rm : RM hc 1 7) (rm2 : RM ht 1 7) (htc : t < a ∨ a + 13 < t) (htt : u < l ∨ l + 9 < u) (t1 : hc t (-2) % 16 = 2) (t2 : to ≤ hc t (-1)) (u1 : ht u (-2) % 16 = 2) (u2 : to ≤ ht u (-1)) (f0 : 0 ≤ fr) (f1 : fr < to) (e1 : to ≤ 4000)
    (hb : ∀ j, fr ≤ j → j < to → hc t j = ht u j) (hN : hc a 6 + (to - fr) + 2 ≤ 4200) (H : HYr hc ht a l) :
    Pr (m_X9_pattern a t fr to hc) (m_X21_pattern l u fr to ht) (fun rc rt => WDo hc ht a l t fr to rc rt ∧ (rc.1 = (0, 0) → 33 ≤ hc t fr ∧ hc t fr ≤ 126)) := by
  have h9 := aX9 ha
  have h21 := aX21 hl
  obtain ⟨⟨np, sg, dt, Hc, Ht⟩, E, d0, d1⟩ := H
  refine y_z (z_mono (c_pat hL ha rm htc t1 t2 f0 f1 e1 hN Hc) (fun rc hrc => z_mono (t_pat hL2 hl rm2 htt u1 u2 f0 f1 e1 Ht) (fun rt hrt => ?_)))
  obtain ⟨ah, be, s, K, a1, a2, a3, a4, P⟩ := hrc
  obtain ⟨ah', be', s', K', b1, b2, b3, b4, P'⟩ := hrt
  rw [← hb fr (by omega) f1] at b1
  rw [← hb (to - 1) (by omega) (by omega)] at b3
  have q1 : ah' = ah := by rw [a1, b1]
  subst q1
  have hah : ah' = 0 ∨ ah' = 1 := by
    by_cases z : hc t fr = 46
    · rw [if_pos z] at a1; omega
    · rw [if_neg z] at a1; omega
  have q2 : s' = s := by omega
  subst q2
  have q3 : be' = be := by rw [a3, b3]
  subst q3
  have q4 : K' = K := by omega
  subst q4
  have hbe : 0 ≤ be' := by rw [a3]; split <;> omega
  replace P' := PRt.congr (C := hc t) (fun x hx => (hb _ (by omega) (by omega)).symm) P'
  have pa : ∀ {r : (Int × Int) × Hp}, ThF 432 fr (paW a) hc r → ThF 432 fr (hyW a) hc r := fun z => z.mono pa_hy
  have tw : ∀ {r : (Int × Int) × Hp}, ThF 448 fr (twW l) ht r → ThF 448 fr (tpW l) ht r := fun z => z.mono tw_tp
  have nz : ∀ {r : (Int × Int) × Hp} {K p : Int} {W : Int → Int → Prop} {h : Hp} {P : Prop}, ThF K p W h r → r.1 = (0, 0) → P := fun z e => by
    have := z.1
    rw [e] at this
    exact absurd this (by decide)
  rcases P with ⟨n1, z1⟩ | ⟨ok, l0, p, p1, p2⟩ <;> rcases P' with ⟨n2, z2⟩ | ⟨ok', l0', p', p1', p2'⟩
  · exact ⟨Or.inr ⟨pa z1, tw z2⟩, nz z1⟩
  · rcases n1 with n1 | n1
    · exact absurd ok' n1
    · omega
  · rcases n2 with n2 | n2
    · exact absurd ok n2
    · omega
  · have pp := PIX.uniq Ht.2.2.2.2 p1 p1'
    subst pp
    rcases p2 with ⟨c1, c2⟩ | ⟨c1, c2, c3, c4, c5⟩ <;> rcases p2' with ⟨d1, d2⟩ | ⟨d1', d2, d3, d4⟩
    · exact ⟨Or.inr ⟨pa c2, tw d2⟩, nz c2⟩
    · omega
    · omega
    · have byt : ∀ j, fr ≤ j → j < to → 33 ≤ hc t j ∧ hc t j ≤ 126 := by
        intro j j0 j1
        by_cases z : j < s'
        · by_cases y : hc t fr = 46
          · have : j = fr := by omega
            rw [this, y]; decide
          · rw [if_neg y] at a1; omega
        · by_cases y : j < s' + K'
          · have := ok (j - s').toNat (by omega)
            unfold okA at this
            have e : s' + ((j - s').toNat : Int) = j := by omega
            rw [e] at this
            omega
          · by_cases x : s' < to ∧ hc t (to - 1) = 46
            · rw [if_pos x] at a3
              have : j = to - 1 := by omega
              rw [this, x.2]; decide
            · rw [if_neg x] at a3; omega
      refine ⟨Or.inl ⟨c2, d2, c3.mono pa_hy, d3.mono tw_tp, ⟨⟨_, _, _, c5, d4⟩, E.kept (c3 _ _ (fun z => by unfold paW at z; omega)) (fun b b0 b1 => c3.row (fun j z => by unfold paW at z; omega)) (d3 _ _ (fun z => by unfold twW at z; omega)) (fun b b0 b1 => d3.row (fun j z => by unfold twW at z; omega)), ?_, ?_⟩, by omega, fun j j0 j1 => byt j (by omega) j1⟩, fun _ => byt fr (by omega) f1⟩
      · rw [c3 _ _ (fun z => by unfold paW at z; omega), d3 _ _ (fun z => by unfold twW at z; omega)]; exact d0
      · rw [c3 _ _ (fun z => by unfold paW at z; omega), d3 _ _ (fun z => by unfold twW at z; omega)]; assumption
theorem y_exw {hc ht : Hp} {a l t u fr to : Int} (hL : LAY hc) (hL2 : LAY ht) (ha : a ∈ in_aX9) (hl : l ∈ in_aX21) (rm : RM hc 1 7) (rm2 : RM ht 1 7) (htc : t < a ∨ a + 13 < t) (htt : u < l ∨ l + 9 < u) (t1 : hc t (-2) % 16 = 2) (t2 : to ≤ hc t (-1)) (u1 : ht u (-2) % 16 = 2) (u2 : to ≤ ht u (-1)) (f0 : 0 ≤ fr) (f1 : fr < to) (e1 : to ≤ 4000)
    (hb : ∀ j, fr ≤ j → j < to → hc t j = ht u j) (H : HYr hc ht a l) :
    Pr (m_X9_exception a t fr to hc) (m_X21_exception l u fr to ht) (WDo hc ht a l t fr to) := by
  have h9 := aX9 ha
  have h21 := aX21 hl
  obtain ⟨⟨np, sg, dt, Hc, Ht⟩, E, d0, d1⟩ := H
  refine y_mono (y_exc hL hL2 ha hl rm rm2 htc htt t1 t2 u1 u2 f0 f1 e1 hb E) (fun rc rt hr => ?_)
  rcases hr with ⟨r1, r2, r3, r4, r5, r6⟩ | ⟨r1, r2⟩
  · refine Or.inl ⟨r1, r2, r3.mono ex_hy, r4.mono et_tp, ⟨⟨np, sg, dt, Hc.kept (fun b b0 b1 => r3.row (fun j z => by unfold exW at z; omega)) (r3 _ _ (fun z => by unfold exW at z; omega)) (r3 _ _ (fun z => by unfold exW at z; omega)) (r3 _ _ (fun z => by unfold exW at z; omega)), Ht.kept (fun b b0 b1 => r4.row (fun j z => by unfold etW at z; omega)) (r4 _ _ (fun z => by unfold etW at z; omega))⟩, r5, ?_, ?_⟩, ?_, r6⟩
    · rw [r3 _ _ (fun z => by unfold exW at z; omega), r4 _ _ (fun z => by unfold etW at z; omega)]; exact d0
    · rw [r3 _ _ (fun z => by unfold exW at z; omega), r4 _ _ (fun z => by unfold etW at z; omega)]; exact d1
    · rw [r3 _ _ (fun z => by unfold exW at z; omega)]; omega
  · exact Or.inr ⟨r1.mono ex_hy, r2.mono et_tp⟩
