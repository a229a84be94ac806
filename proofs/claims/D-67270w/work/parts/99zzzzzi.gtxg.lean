-- needs: 99zzzzzh
set_option maxRecDepth 100000
/-! GATHERING: texts are good; paragraphs as the component keeps them -/
def xG (x : Int × Int × Int) : Prop := 0 ≤ x.1 ∧ x.1 ≤ 127 ∧ 0 ≤ x.2.1 ∧ x.2.1 ≤ 100000 ∧ -1 ≤ x.2.2
def txG (s : TXT) : Prop := (∀ x ∈ s.1, xG x) ∧ (s.1 = [] → s.2 = -1) ∧ s.2 ≤ 100000 ∧ ∀ y, s.1.head? = some y → y.1 ≠ 32
theorem txG_0 : txG ([], -1) := ⟨fun x h => absurd h (List.not_mem_nil), fun _ => rfl, by show (-1 : Int) ≤ 100000; decide, fun y h => by cases h⟩
theorem txG_P {s : TXT} {c z q : Int} (G : txG s) (c0 : 0 ≤ c) (c1 : c ≤ 127) (z0 : 0 ≤ z) (z1 : z ≤ 100000) (q0 : -1 ≤ q) : txG (txP s c z q) := by
  obtain ⟨g1, g2, g3, g4⟩ := G
  unfold txP
  by_cases h : c = 10 ∨ c = 32
  · rw [if_pos h]
    refine ⟨g1, fun e => ?_, ?_, g4⟩
    · dsimp only at e ⊢; rw [if_pos e]
    · dsimp only
      split
      · decide
      · split <;> assumption
  · rw [if_neg h]
    refine ⟨fun x hx => ?_, fun e => ?_, by show (-1 : Int) ≤ 100000; decide, fun y hy => ?_⟩
    · dsimp only at hx
      rcases List.mem_append.mp hx with hx | hx
      · rcases List.mem_append.mp hx with hx | hx
        · exact g1 x hx
        · by_cases h2 : 0 ≤ s.2
          · rw [if_pos h2] at hx
            rw [List.mem_singleton.mp hx]
            exact ⟨by show (0 : Int) ≤ 32; decide, by show (32 : Int) ≤ 127; decide, h2, g3, by show (-1 : Int) ≤ -1; decide⟩
          · rw [if_neg h2] at hx; exact absurd hx (List.not_mem_nil)
      · rw [List.mem_singleton.mp hx]
        exact ⟨c0, c1, z0, z1, q0⟩
    · exact absurd e (by dsimp only; simp)
    · dsimp only at hy
      by_cases hs : s.1 = []
      · rw [hs, g2 hs, if_neg (by decide)] at hy
        have : y = (c, z, q) := by simpa using hy.symm
        rw [this]
        intro w
        exact h (Or.inr w)
      · rw [List.append_assoc] at hy
        cases h1 : s.1 with
        | nil => exact absurd h1 hs
        | cons x L =>
          rw [h1] at hy
          exact g4 y (by rw [h1]; exact hy)
theorem txG_L {n z : Int} (z0 : 0 ≤ z) (z1 : z ≤ 100000) : ∀ (L : List Int) (s : TXT × Int), (∀ c ∈ L, 0 ≤ c ∧ c ≤ 127) → txG s.1 → 0 ≤ s.2 → txG (tzL n z s L).1
  | [], s, _, G, _ => G
  | c :: L, s, h, G, o => by
    show txG (tzL n z (tzP n z s c) L).1
    have hc := h c (List.mem_cons_self)
    refine txG_L z0 z1 L _ (fun x hx => h x (List.mem_cons_of_mem _ hx)) (txG_P G hc.1 hc.2 z0 z1 ?_) ?_
    · split <;> omega
    · unfold tzP; dsimp only; split <;> omega
theorem txG_o {t : TXL} (h : ∀ x ∈ t, xG x) : txO (tpB t) (tpZ t) 0 t.length ∧ ∀ i : Int, 0 ≤ i → i < t.length → -1 ≤ tpQ t i := by
  have key : ∀ i : Int, 0 ≤ i → i < t.length → xG ((t[i.toNat]?).getD (0, 0, 0)) := fun i i0 i1 => by
    rw [List.getElem?_eq_getElem (by omega)]
    exact h _ (List.getElem_mem _)
  refine ⟨fun i i0 i1 => ?_, fun i i0 i1 => (key i i0 i1).2.2.2.2⟩
  obtain ⟨k1, k2, k3, k4, -⟩ := key i i0 i1
  exact ⟨k1, by unfold tpB; omega, k3, k4⟩
theorem txG_h {s : TXT} (G : txG s) (ne : s.1 ≠ []) : tpB s.1 0 ≠ 32 := by
  obtain ⟨g1, g2, g3, g4⟩ := G
  unfold tpB
  cases h : s.1 with
  | nil => exact absurd h ne
  | cons x L =>
    have := g4 x (by rw [h]; rfl)
    show ((x :: L)[(0 : Int).toNat]?.getD (0, 0, 0)).1 ≠ 32
    exact this
/-- breaks of a text with good begin are at most its bytes -/
theorem bkA_n {B : Int → Int} {hy n : Int} {PL : Int → Prop} (hp : ∀ i, PL i → 1 ≤ i) (n1 : 1 ≤ n) (b0 : B 0 ≠ 32) : ((bkA B hy PL n).length : Int) ≤ n := by
  have key : ∀ k : Nat, ((bkL B hy PL (k + 1)).length : Int) ≤ k := by
    intro k
    induction k with
    | zero =>
      rw [bkL_s]
      have : bkK B hy PL ((0 : Nat) : Int) < 0 := by
        unfold bkK
        rw [if_neg (by exact b0), if_neg (fun z => absurd z.1 (by decide)), if_neg (fun z => absurd (hp _ z.2) (by decide))]
        decide
      rw [if_pos this]
      show ((([] : List (Int × Int)) ++ []).length : Int) ≤ 0
      simp
    | succ k ih =>
      rw [bkL_s, List.length_append]
      split <;> simp <;> omega
  unfold bkA
  rw [List.length_append, List.length_singleton]
  have := key (n - 1).toNat
  rw [show (n - 1).toNat + 1 = n.toNat by omega] at this
  omega
/-- breaks, without where the next ones go -/
def bkD (h : Hp) (P R β : Int) (L : List (Int × Int)) : Prop := h P 15 = β ∧ h P 16 = L.length ∧ ∀ b : Int, 1 ≤ b → b ≤ L.length → h (R + 4) (β + b) = (bkAt L b).1 ∧ h (R + 5) (β + b) = (bkAt L b).2 ∧ h (R + 6) (β + b) = bkN L b
def hyO (f : Int → Int) (e : Int) : Int := if ofV f e 9 = 1 then 1 else 0
/-- what a paragraph has of its element -/
def pjF (h : Hp) (f : Int → Int) (A e : Int) : Prop := h A 3 = e ∧ h A 7 = ofV f e 2 ∧ h A 8 = ofV f e 8 ∧ h A 9 = ofV f e 10 ∧ h A 10 = ofV f e 11 ∧ h A 11 = ofV f e 12 ∧ h A 12 = (if ofV f e 13 = 1 then 1 else 0) ∧ h A 13 = (if ofV f e 14 = 1 then 1 else 0) ∧ h A 14 = hyO f e
/-- the breaks of a text -/
noncomputable def BKf (T : Hp) (np : Int) (sg : Int → List Int) (dt : Int → Int → Int) (t : TXL) (hy : Int) : List (Int × Int) := bkA (tpB t) hy (plP T np sg dt (tpB t) t.length) t.length
/-- a paragraph A of book b: text t, of element e -/
def pjC (h : Hp) (f : Int → Int) (W : Int → Int) (K J : Int → Int → Int) (BK : TXL → Int → List (Int × Int)) (b A : Int) (t : TXL) (e : Int) : Prop :=
  pjF h f A e ∧ ∃ τ β, pgC h A (b + 1) τ t.length (tpB t) (tpZ t) ∧ (∀ i : Int, 0 ≤ i → i < t.length → h (b + 4) (τ + i) = tpQ t i) ∧ τ + t.length ≤ h (b + 1) 3 ∧
  bkD h A (b + 1) β (BK t (hyO f e)) ∧ msC h (b + 1) β W K J (tpB t) (tpZ t) (BK t (hyO f e)) (BK t (hyO f e)).length ∧ 0 ≤ β ∧ β + 1 + (BK t (hyO f e)).length ≤ h (b + 1) 12 ∧ ((BK t (hyO f e)).length : Int) ≤ 600
theorem pjC.kept {h h' : Hp} {f W : Int → Int} {K J : Int → Int → Int} {BK : TXL → Int → List (Int × Int)} {b A e : Int} {t : TXL} (C : pjC h f W K J BK b A t e) (eA : ∀ j, (j ≤ 3 ∨ (7 ≤ j ∧ j ≤ 16)) → h' A j = h A j) (m3 : h (b + 1) 3 ≤ h' (b + 1) 3) (m12 : h (b + 1) 12 ≤ h' (b + 1) 12) (e1 : ∀ q j, b + 2 ≤ q → q ≤ b + 4 → j < h (b + 1) 3 → h' q j = h q j) (e2 : ∀ q j, b + 5 ≤ q → q ≤ b + 12 → j < h (b + 1) 12 → h' q j = h q j) : pjC h' f W K J BK b A t e := by
  obtain ⟨⟨f1, f2, f3, f4, f5, f6, f7, f8, f9⟩, τ, β, ⟨p1, p2, p3, p4⟩, q1, q2, ⟨d1, d2, d3⟩, ms, b0, b1, b6⟩ := C
  refine ⟨⟨?_, ?_, ?_, ?_, ?_, ?_, ?_, ?_, ?_⟩, τ, β, ⟨⟨?_, ?_, ?_, ?_⟩, p2, fun i i0 i1 => ?_, p4⟩, fun i i0 i1 => ?_, by omega, ⟨?_, ?_, fun x x0 x1 => ?_⟩, fun x x0 x1 => ?_, b0, by omega, b6⟩
  · rw [eA _ (by omega)]; exact f1
  · rw [eA _ (by omega)]; exact f2
  · rw [eA _ (by omega)]; exact f3
  · rw [eA _ (by omega)]; exact f4
  · rw [eA _ (by omega)]; exact f5
  · rw [eA _ (by omega)]; exact f6
  · rw [eA _ (by omega)]; exact f7
  · rw [eA _ (by omega)]; exact f8
  · rw [eA _ (by omega)]; exact f9
  · rw [eA _ (by omega)]; exact p1.1
  · rw [eA _ (by omega)]; exact p1.2.1
  · rw [eA _ (by omega)]; exact p1.2.2.1
  · rw [eA _ (by omega)]; exact p1.2.2.2
  · rw [e1 _ _ (by omega) (by omega) (by omega), e1 _ _ (by omega) (by omega) (by omega)]; exact p3 i i0 i1
  · rw [e1 _ _ (by omega) (by omega) (by omega)]; exact q1 i i0 i1
  · rw [eA _ (by omega)]; exact d1
  · rw [eA _ (by omega)]; exact d2
  · rw [e2 _ _ (by omega) (by omega) (by omega), e2 _ _ (by omega) (by omega) (by omega), e2 _ _ (by omega) (by omega) (by omega)]; exact d3 x x0 x1
  · obtain ⟨m1, m2, m3, m4, m5⟩ := ms x x0 x1
    rw [e2 _ _ (by omega) (by omega) (by omega), e2 _ _ (by omega) (by omega) (by omega), e2 _ _ (by omega) (by omega) (by omega), e2 _ _ (by omega) (by omega) (by omega), e2 _ _ (by omega) (by omega) (by omega)]
    exact ⟨m1, m2, m3, m4, m5⟩
