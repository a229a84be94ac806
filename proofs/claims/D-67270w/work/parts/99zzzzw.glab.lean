-- needs: 99zzzzv
set_option maxRecDepth 100000
/-! GATHERING: labels -/
/-- what is written while bytes are told: the text, the order, the counter, the title, small, what is taken -/
def gtW (b a t : Int) : Int → Int → Prop := fun q j => txW t q j ∨ (q = b ∧ (j = 27 ∨ j = 53)) ∨ (q = a ∧ (j = 19 ∨ j = 20)) ∨ (q = a + 15 ∧ j = 1) ∨ (q = a + 16 ∧ 0 ≤ j) ∨ (q = 273 ∧ j = 1) ∨ (q = 274 ∧ 0 ≤ j) ∨ (b + 51 ≤ q ∧ q ≤ b + 53 ∧ 0 ≤ j)
theorem rg14b : ([(262, 264), (266, 268), (270, 272), (200, 200), (217, 217), (274, 274), (343, 345), (408, 410), (473, 475)] : List (Int × Int)).all rgA = true ∧ ([(261, [3, 4, 5, 6]), (265, [3, 4, 5, 6]), (269, [3, 4, 5, 6]), (292, [27, 53]), (357, [27, 53]), (422, [27, 53]), (184, [19, 20]), (201, [19, 20]), (199, [1]), (216, [1]), (273, [1])] : List (Int × List Int)).all rgO = true := by decide +kernel
theorem gtW_l {h h' : Hp} {b a t : Int} (hL : LAY h) (ht : t ∈ in_aX12) (hb : b ∈ in_aX14) (ha : a ∈ in_aX7) (f : F2 (gtW b a t) h h') : LAY h' := by
  have e := aX12 ht
  have e' := aX14' hb
  have e7 := aX7 ha
  have two : ∀ {α : Type} {x y : α} {L : List α}, x ∈ L → x ∈ y :: L := fun h => List.mem_cons_of_mem _ h
  refine lay_W hL f _ _ rg14b.1 rg14b.2 (fun q j z => ?_)
  unfold gtW txW at z
  have A : ∀ (lo hi : Int), (lo, hi) ∈ ([(262, 264), (266, 268), (270, 272), (200, 200), (217, 217), (274, 274), (343, 345), (408, 410), (473, 475)] : List (Int × Int)) → lo ≤ q → q ≤ hi → 0 ≤ j → _ := fun lo hi m h1 h2 h3 => (⟨h3, Or.inl ⟨(lo, hi), m, h1, h2⟩⟩ : 0 ≤ j ∧ ((∃ r ∈ ([(262, 264), (266, 268), (270, 272), (200, 200), (217, 217), (274, 274), (343, 345), (408, 410), (473, 475)] : List (Int × Int)), r.1 ≤ q ∧ q ≤ r.2) ∨ ∃ e ∈ ([(261, [3, 4, 5, 6]), (265, [3, 4, 5, 6]), (269, [3, 4, 5, 6]), (292, [27, 53]), (357, [27, 53]), (422, [27, 53]), (184, [19, 20]), (201, [19, 20]), (199, [1]), (216, [1]), (273, [1])] : List (Int × List Int)), q = e.1 ∧ j ∈ e.2))
  have O : ∀ (x : Int) (J : List Int), (x, J) ∈ ([(261, [3, 4, 5, 6]), (265, [3, 4, 5, 6]), (269, [3, 4, 5, 6]), (292, [27, 53]), (357, [27, 53]), (422, [27, 53]), (184, [19, 20]), (201, [19, 20]), (199, [1]), (216, [1]), (273, [1])] : List (Int × List Int)) → q = x → j ∈ J → 0 ≤ j → _ := fun x J m h1 h2 h3 => (⟨h3, Or.inr ⟨(x, J), m, h1, h2⟩⟩ : 0 ≤ j ∧ ((∃ r ∈ ([(262, 264), (266, 268), (270, 272), (200, 200), (217, 217), (274, 274), (343, 345), (408, 410), (473, 475)] : List (Int × Int)), r.1 ≤ q ∧ q ≤ r.2) ∨ ∃ e ∈ ([(261, [3, 4, 5, 6]), (265, [3, 4, 5, 6]), (269, [3, 4, 5, 6]), (292, [27, 53]), (357, [27, 53]), (422, [27, 53]), (184, [19, 20]), (201, [19, 20]), (199, [1]), (216, [1]), (273, [1])] : List (Int × List Int)), q = e.1 ∧ j ∈ e.2))
  rcases z with (z | z) | z | z | z | z | z | z | z
  · have m4 : j ∈ ([3, 4, 5, 6] : List Int) := by simp; omega
    rcases e with rfl | rfl | rfl
    · exact O 261 _ (by simp) z.1 m4 (by omega)
    · exact O 265 _ (by simp) z.1 m4 (by omega)
    · exact O 269 _ (by simp) z.1 m4 (by omega)
  · rcases e with rfl | rfl | rfl
    · exact A 262 264 (by simp) (by omega) (by omega) z.2.2
    · exact A 266 268 (by simp) (by omega) (by omega) z.2.2
    · exact A 270 272 (by simp) (by omega) (by omega) z.2.2
  · have m4 : j ∈ ([27, 53] : List Int) := by simp; omega
    rcases e' with rfl | rfl | rfl
    · exact O 292 _ (by simp) z.1 m4 (by omega)
    · exact O 357 _ (by simp) z.1 m4 (by omega)
    · exact O 422 _ (by simp) z.1 m4 (by omega)
  · have m4 : j ∈ ([19, 20] : List Int) := by simp; omega
    rcases e7 with rfl | rfl
    · exact O 184 _ (by simp) z.1 m4 (by omega)
    · exact O 201 _ (by simp) z.1 m4 (by omega)
  · have m4 : j ∈ ([1] : List Int) := by simp; omega
    rcases e7 with rfl | rfl
    · exact O 199 _ (by simp) (by omega) m4 (by omega)
    · exact O 216 _ (by simp) (by omega) m4 (by omega)
  · rcases e7 with rfl | rfl
    · exact A 200 200 (by simp) (by omega) (by omega) z.2
    · exact A 217 217 (by simp) (by omega) (by omega) z.2
  · exact O 273 [1] (by simp) z.1 (by simp; omega) (by omega)
  · exact A 274 274 (by simp) (by omega) (by omega) z.2
  · rcases e' with rfl | rfl | rfl
    · exact A 343 345 (by simp) (by omega) (by omega) z.2.2
    · exact A 408 410 (by simp) (by omega) (by omega) z.2.2
    · exact A 473 475 (by simp) (by omega) (by omega) z.2.2
theorem gt_00 {b a t : Int} {h g : Hp} (ht : t ∈ in_aX12) (hb : b ∈ in_aX14) (ha : a ∈ in_aX7) (f : F2 (gtW b a t) h g) : g 0 0 = h 0 0 ∧ g 0 1 = h 0 1 := by
  have ht' := aX12 ht
  have hb' := aX14' hb
  have ha' := aX7 ha
  constructor <;> exact f _ _ (fun z => by unfold gtW txW at z; omega)
theorem gt_rm {b a t : Int} {h g : Hp} {c s : Int} (rm : RM h c s) (ht : t ∈ in_aX12) (hb : b ∈ in_aX14) (ha : a ∈ in_aX7) (f : F2 (gtW b a t) h g) : RM g c s := by
  have ht' := aX12 ht
  have hb' := aX14' hb
  have ha' := aX7 ha
  exact rmF rm f (fun j z => by unfold gtW txW at z; omega)
theorem gt_kx {S Y V p p' : Hp} {b t a sa ya E M : Int} (K : KTR S Y V p a sa ya E M) (hb : b ∈ in_aX14) (ht : t ∈ in_aX12) (f : F2 (gtW b a t) p p') : KTR S Y V p' a sa ya E M := by
  have ht' := aX12 ht
  have hb' := aX14' hb
  have ha := K.lay.2.1
  have ha' := aX7 ha
  exact K.keep (gtW_l K.lay.1 ht hb ha f) (fun x x0 x1 x2 x3 => f.row (fun j z => by unfold gtW txW at z; omega)) (fun j j1 => f _ _ (fun z => by unfold gtW txW at z; omega))
theorem pb_gt {b a t : Int} : ∀ q j, pbW b t q j → gtW b a t q j := fun q j z => z.elim Or.inl (fun w => Or.inr (Or.inl ⟨w.1, Or.inl w.2⟩))
/-- what labels write -/
def glW (b a t : Int) : Int → Int → Prop := fun q j => txW t q j ∨ (q = b ∧ j = 27) ∨ (q = a ∧ (j = 19 ∨ j = 20)) ∨ (q = a + 15 ∧ j = 1) ∨ (q = a + 16 ∧ 0 ≤ j)
theorem gl_gt {b a t : Int} : ∀ q j, glW b a t q j → gtW b a t q j := fun q j z => by
  unfold glW at z
  unfold gtW
  rcases z with z | z | z | z | z
  · exact Or.inl z
  · exact Or.inr (Or.inl ⟨z.1, Or.inl z.2⟩)
  · exact Or.inr (Or.inr (Or.inl z))
  · exact Or.inr (Or.inr (Or.inr (Or.inl z)))
  · exact Or.inr (Or.inr (Or.inr (Or.inr (Or.inl z))))
theorem pb_gl {b a t : Int} : ∀ q j, pbW b t q j → glW b a t q j := fun q j z => z.elim Or.inl (fun w => Or.inr (Or.inl w))
/-- bytes told, within W -/
def PTX (W : Int → Int → Prop) (b t n z : Int) (h : Hp) (s : TXT × Int) (L : List Int) (r : (Int × Int) × Hp) : Prop := (r.1 = (0, 0) ∧ F2 W h r.2 ∧ txC r.2 t (tzL n z s L).1 ∧ r.2 b 27 = (tzL n z s L).2) ∨ (24000 < ((tzL n z s L).1.1.length : Int) ∧ TH W h r)
theorem PU.wide {b a t n z : Int} {h : Hp} {s : TXT × Int} {L : List Int} {r : (Int × Int) × Hp} (p : PU b t n z h s L r) : PTX (gtW b a t) b t n z h s L r := by
  rcases p with ⟨a1, a2, a3, a4⟩ | ⟨a1, a2⟩
  · exact Or.inl ⟨a1, a2.mono pb_gt, a3, a4⟩
  · exact Or.inr ⟨a1, a2.mono pb_gt⟩
theorem PTX.after {b a t n z : Int} {h g : Hp} {s : TXT × Int} {L M : List Int} {r : (Int × Int) × Hp} (ht : t ∈ in_aX12) (hb : b ∈ in_aX14) (ha : a ∈ in_aX7) (f : F2 (gtW b a t) h g) (p : PTX (gtW b a t) b t n z g (tzL n z s L) M r) : PTX (gtW b a t) b t n z h s (L ++ M) r := by
  unfold PTX at p ⊢
  rw [tzL_app]
  rcases p with ⟨a1, a2, a3, a4⟩ | ⟨a1, a2⟩
  · exact Or.inl ⟨a1, f.trans a2, a3, a4⟩
  · exact Or.inr ⟨a1, TH.after f (by rw [(gt_00 ht hb ha f).1]; exact Int.le_refl _) a2⟩
theorem PTX.bad {W : Int → Int → Prop} {b t n z : Int} {h : Hp} {s : TXT × Int} {L M : List Int} {r : (Int × Int) × Hp} (hl : 24000 < ((tzL n z s L).1.1.length : Int)) (x : TH W h r) : PTX W b t n z h s (L ++ M) ((1, r.1.2), r.2) := by
  refine Or.inr ⟨?_, x.r1⟩
  rw [tzL_app]
  have := (tzL_len (n := n) (z := z) M (tzL n z s L)).1
  omega
theorem txC.kept {h h' : Hp} {t : Int} {s : TXT} (X : txC h t s) (e : ∀ k, 0 ≤ k → k ≤ 3 → h' (t + k) = h (t + k)) : txC h' t s := by
  have e0 := e 0 (by decide) (by decide)
  rw [show t + 0 = t by omega] at e0
  unfold txC at *
  rw [e0, e 1 (by decide) (by decide), e 2 (by decide) (by decide), e 3 (by decide) (by decide)]
  exact X
