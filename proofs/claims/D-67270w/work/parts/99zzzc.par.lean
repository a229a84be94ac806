-- needs: 99zzzb
set_option maxRecDepth 100000
/-! PARAGRAPHS: their letters; where words may be parted: the component -/
/-- a paragraph P of the component with its rows R: n bytes from t on -/
def pgC (h : Hp) (P R t n : Int) (B Z : Int → Int) : Prop := (h P (-2) = 288 ∧ h P 0 = R ∧ h P 1 = t ∧ h P 2 = n) ∧ (0 ≤ t ∧ 0 ≤ n ∧ t + n ≤ 24000) ∧ (∀ i, 0 ≤ i → i < n → h (R + 1) (t + i) = B i ∧ h (R + 2) (t + i) = Z i) ∧ txO B Z 0 n ∧ R ∈ in_aX15 ∧ 983 ≤ P
theorem pgC.kept {h h' : Hp} {P R t n : Int} {B Z : Int → Int} (C : pgC h P R t n B Z) (e0 : ∀ j, j ≤ 2 → h' P j = h P j) (e1 : h' (R + 1) = h (R + 1)) (e2 : h' (R + 2) = h (R + 2)) : pgC h' P R t n B Z := by
  unfold pgC at *
  rw [e0 _ (by decide), e0 _ (by decide), e0 _ (by decide), e0 _ (by decide), e1, e2]
  exact C
theorem q_byteOf28 {h : Hp} {P R t n k : Int} {B Z : Int → Int} (hL : LAY h) (C : pgC h P R t n B Z) (k0 : 0 ≤ k) (k1 : k < n) : m_X28_byteOf P k h = some (B k) := by
  obtain ⟨⟨c0, c1, c2, c3⟩, ⟨c4, c5, c6⟩, c7, c8, c9, c10⟩ := C
  have hR := aX15 c9
  unfold m_X28_byteOf
  have g0 := g_X15_0 hL c9
  simp only [c1, c2, g_X15 hL c9, g0]
  rw [e32 (x := t + k) (by omega) (by omega), gd_t trivial, gd_t ⟨by decide, by omega, by omega⟩, (c7 k k0 k1).1]
theorem q_sizeOf28 {h : Hp} {P R t n k : Int} {B Z : Int → Int} (hL : LAY h) (C : pgC h P R t n B Z) (k0 : 0 ≤ k) (k1 : k < n) : m_X28_sizeOf P k h = some (Z k) := by
  obtain ⟨⟨c0, c1, c2, c3⟩, ⟨c4, c5, c6⟩, c7, c8, c9, c10⟩ := C
  have hR := aX15 c9
  unfold m_X28_sizeOf
  have g0 := g_X15_1 hL c9
  simp only [c1, c2, g_X15 hL c9, g0]
  rw [e32 (x := t + k) (by omega) (by omega), gd_t trivial, gd_t ⟨by decide, by omega, by omega⟩, (c7 k k0 k1).2]
/-- a row of letters, as long as it goes -/
def lrun (B : Int → Int) (n s e : Int) : Prop := 0 ≤ s ∧ s < e ∧ e ≤ n ∧ (∀ j, s ≤ j → j < e → isLt (B j) = true) ∧ (s = 0 ∨ isLt (B (s - 1)) = false) ∧ (e = n ∨ isLt (B e) = false)
def plP (T : Hp) (np : Int) (sg : Int → List Int) (dt : Int → Int → Int) (B : Int → Int) (n i : Int) : Prop := ∃ s e, lrun B n s e ∧ s ≤ i ∧ i < e ∧ hyP T np sg dt (fun k => sml (B (s + k)) - 96) (e - s) (i - s)
theorem lrun_uniq {B : Int → Int} {n s e s' e' i : Int} (a : lrun B n s e) (b : lrun B n s' e') (h1 : s ≤ i) (h2 : i < e) (h3 : s' ≤ i) (h4 : i < e') : s = s' ∧ e = e' := by
  obtain ⟨a0, a1, a2, a3, a4, a5⟩ := a
  obtain ⟨b0, b1, b2, b3, b4, b5⟩ := b
  constructor
  · rcases Int.lt_trichotomy s s' with z | z | z
    · have := a3 (s' - 1) (by omega) (by omega)
      rcases b4 with b4 | b4
      · omega
      · rw [b4] at this; cases this
    · exact z
    · have := b3 (s - 1) (by omega) (by omega)
      rcases a4 with a4 | a4
      · omega
      · rw [a4] at this; cases this
  · rcases Int.lt_trichotomy e e' with z | z | z
    · have := b3 e (by omega) (by omega)
      rcases a5 with a5 | a5
      · omega
      · rw [a5] at this; cases this
    · exact z
    · have := a3 e' (by omega) (by omega)
      rcases b5 with b5 | b5
      · omega
      · rw [b5] at this; cases this
theorem plP_run {T : Hp} {np : Int} {sg : Int → List Int} {dt : Int → Int → Int} {B : Int → Int} {n s e i : Int} (a : lrun B n s e) (h1 : s ≤ i) (h2 : i < e) : plP T np sg dt B n i ↔ hyP T np sg dt (fun k => sml (B (s + k)) - 96) (e - s) (i - s) := by
  constructor
  · rintro ⟨s', e', b, h3, h4, z⟩
    obtain ⟨rfl, rfl⟩ := lrun_uniq a b h1 h2 h3 h4
    exact z
  · intro z
    exact ⟨s, e, a, h1, h2, z⟩
theorem plP_not {T : Hp} {np : Int} {sg : Int → List Int} {dt : Int → Int → Int} {B : Int → Int} {n i : Int} (h : isLt (B i) = false) : ¬ plP T np sg dt B n i := by
  rintro ⟨s, e, a, h1, h2, -⟩
  have := a.2.2.2.1 i h1 h2
  rw [h] at this; cases this
theorem lt_r {c : Int} (h : isLt c = true) : 1 ≤ sml c - 96 ∧ sml c - 96 ≤ 26 ∧ 0 ≤ c ∧ c ≤ 127 := by
  unfold isLt at h
  unfold sml
  have := of_decide_eq_true h
  split <;> omega
