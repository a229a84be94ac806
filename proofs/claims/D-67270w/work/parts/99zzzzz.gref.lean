-- needs: 99zzzzy
set_option maxRecDepth 100000
/-! GATHERING: references, their bytes -/
theorem KTR.it_by {S Y V p : Hp} {a sa ya E M k : Int} (K : KTR S Y V p a sa ya E M) (k0 : 0 ≤ k) (k1 : k < M) (i1 : S 2 k ≠ 1) (i2 : S 2 k ≠ 2) : ∀ c ∈ itB S k, 0 ≤ c ∧ c ≤ 127 := by
  obtain ⟨z, -, -, z3, z4⟩ := K.item k0 k1 i1 i2
  intro c hc
  obtain ⟨x, hx, rfl⟩ := List.getElem_of_mem hc
  obtain ⟨c', c1, c2, c3, -⟩ := z4 x (by omega)
  rw [List.getElem?_eq_getElem hx] at c1
  rw [Option.some.inj c1]
  exact ⟨c2, c3⟩
theorem KTR.lb_by {S Y V p : Hp} {a sa ya E M e : Int} (K : KTR S Y V p a sa ya E M) (e0 : 0 ≤ e) (e1 : e < E) : ∀ c ∈ lbS Y V e, 0 ≤ c ∧ c ≤ 127 := by
  obtain ⟨n, N, s, F, n', N', s', C, ns, na, nsel, nb, nt, m, T⟩ := K
  exact lbS_by T.2.2.1 T.2.2.2.2 e0 e1
theorem KTR.beg {S Y V p : Hp} {a sa ya E M k : Int} (K : KTR S Y V p a sa ya E M) (k0 : 0 ≤ k) (k1 : k < M) : (S 2 k = 1 ∨ S 2 k = 2 → 0 ≤ S 3 k ∧ S 3 k < E) ∧ (S 2 k = 1 → S 11 (S 3 k) = k) ∧ (S 2 k = 2 → S 12 (S 3 k) = k) ∧ (0 ≤ S 2 k ∧ S 2 k ≤ 3) := by
  obtain ⟨n, N, s, F, n', N', s', C, ns, na, nsel, nb, nt, m, T⟩ := K
  rcases T.2.1.2.2.2.2.2.1.2.2.2 k k0 k1 with z | z | z | z
  · exact ⟨fun _ => ⟨z.2.2.2.1, z.2.2.2.2.1⟩, fun _ => z.2.2.2.2.2, fun y => by omega, by omega⟩
  · exact ⟨fun _ => ⟨z.2.2.2.1, z.2.2.2.2.1⟩, fun y => by omega, fun _ => z.2.2.2.2.2, by omega⟩
  · exact ⟨fun y => by omega, fun y => by omega, fun y => by omega, by omega⟩
  · exact ⟨fun y => by omega, fun y => by omega, fun y => by omega, by omega⟩
theorem KTR.el {S Y V p : Hp} {a sa ya E M e : Int} (K : KTR S Y V p a sa ya E M) (e0 : 0 ≤ e) (e1 : e < E) : 0 ≤ S 11 e ∧ S 11 e < S 12 e ∧ S 12 e < M ∧ S 2 (S 11 e) = 1 ∧ S 3 (S 11 e) = e ∧ S 2 (S 12 e) = 2 ∧ S 3 (S 12 e) = e := by
  obtain ⟨n, N, s, F, n', N', s', C, ns, na, nsel, nb, nt, m, T⟩ := K
  have := T.2.1.2.2.2.2.2.2.1 e e0 e1
  exact ⟨this.1, this.2.1, this.2.2.1, this.2.2.2.1, this.2.2.2.2.1, this.2.2.2.2.2.1, this.2.2.2.2.2.2.1⟩
theorem tiS_by {S Y V p : Hp} {a sa ya E M en : Int} (K : KTR S Y V p a sa ya E M) (hen : en ≤ M) : ∀ (k : Nat) (m : Int), 0 ≤ m → ∀ c ∈ tiS S Y V en k m, 0 ≤ c ∧ c ≤ 127
  | 0, m, _ => fun c hc => absurd hc (List.not_mem_nil)
  | k + 1, m, m0 => by
    intro c hc
    unfold tiS at hc
    split at hc
    · exact absurd hc (List.not_mem_nil)
    · rename_i h1
      have bg := K.beg m0 (by omega)
      split at hc
      · rename_i h2
        have br := bg.1 (Or.inl h2)
        split at hc
        · have := K.el br.1 br.2
          exact tiS_by K hen k _ (by omega) c hc
        · rcases List.mem_append.mp hc with h | h
          · exact K.lb_by br.1 br.2 c h
          · exact tiS_by K hen k _ (by omega) c h
      · split at hc
        · exact tiS_by K hen k _ (by omega) c hc
        · rename_i h2 h3
          rcases List.mem_append.mp hc with h | h
          · split at h
            · exact absurd h (List.not_mem_nil)
            · exact K.it_by m0 (by omega) h2 h3 c h
          · exact tiS_by K hen k _ (by omega) c h
theorem ttL_by : ∀ (L : List Int) (s : List Int × Bool), (∀ c ∈ L, 0 ≤ c ∧ c ≤ 127) → (∀ c ∈ s.1, 0 ≤ c ∧ c ≤ 127) → ∀ c ∈ (ttL s L).1, 0 ≤ c ∧ c ≤ 127
  | [], s, _, hs => hs
  | x :: L, s, hL, hs => by
    have hx := hL x (List.mem_cons_self)
    refine ttL_by L (ttS s x) (fun c hc => hL c (List.mem_cons_of_mem _ hc)) (fun c hc => ?_)
    unfold ttS at hc
    split at hc
    · exact hs c hc
    · split at hc
      · rcases List.mem_append.mp hc with h | h
        · exact hs c h
        · simp only [List.mem_cons, List.not_mem_nil, or_false] at h
          rcases h with rfl | rfl
          · decide
          · exact hx
      · rcases List.mem_append.mp hc with h | h
        · exact hs c h
        · simp only [List.mem_cons, List.not_mem_nil, or_false] at h
          rw [h]; exact hx
theorem tiT_by {S Y V p : Hp} {a sa ya E M e : Int} (K : KTR S Y V p a sa ya E M) (e0 : 0 ≤ e) (e1 : e < E) : (∀ c ∈ tiT S Y V e, 0 ≤ c ∧ c ≤ 127) ∧ (tiT S Y V e).length ≤ 40 := by
  unfold tiT
  split
  · exact ⟨fun c hc => absurd hc (List.not_mem_nil), by decide⟩
  · have el := K.el e0 e1
    constructor
    · intro c hc
      have sub : ∀ x ∈ ttF (ttL ([], false) (tiA S Y V e)).1, x ∈ (ttL ([], false) (tiA S Y V e)).1 := fun x hx => by
        unfold ttF at hx
        split at hx
        · exact List.mem_of_mem_take ((List.dropLast_sublist _).subset hx)
        · exact List.mem_of_mem_take hx
      refine ttL_by _ _ (fun x hx => ?_) (fun x hx => absurd hx (List.not_mem_nil)) c (sub c hc)
      unfold tiA at hx
      rcases List.mem_append.mp hx with h | h
      · exact K.lb_by e0 e1 x h
      · exact tiS_by K (by omega) _ _ (by omega) x h
    · exact ttF_len
/-- what a field of a name points to -/
def tgt (S V : Hp) (E e : Int) (w : List Int) : Int := if fdX S e w < 0 then -1 else if byI S E (fdV S e (fdX S e w)) < 0 then -1 else if V 31 (byI S E (fdV S e (fdX S e w))) = 0 then -1 else byI S E (fdV S e (fdX S e w))
theorem tgt_r {S V : Hp} {E e : Int} {w : List Int} : tgt S V E e w = -1 ∨ (0 ≤ tgt S V E e w ∧ tgt S V E e w < E ∧ V 31 (tgt S V E e w) ≠ 0) := by
  unfold tgt
  split
  · exact Or.inl rfl
  · split
    · exact Or.inl rfl
    · split
      · exact Or.inl rfl
      · rename_i h1 h2 h3
        rcases byI_r (S := S) (E := E) (w := fdV S e (fdX S e w)) with h | h
        · omega
        · exact Or.inr ⟨h.1, h.2, h3⟩
/-- which kind of reference: 0 unknown, 1 page, 2 line, 3 number, 4 title, 5 side -/
def rfK (S V : Hp) (E e : Int) : Int := if tgt S V E e [116, 111] < 0 then 0 else if fdX S e [97, 115] < 0 then 0 else if fdV S e (fdX S e [97, 115]) = [112, 97, 103, 101] then 1 else if fdV S e (fdX S e [97, 115]) = [108, 105, 110, 101] then 2 else if fdV S e (fdX S e [97, 115]) = [110, 117, 109, 98, 101, 114] then 3 else if fdV S e (fdX S e [97, 115]) = [116, 105, 116, 108, 101] then 4 else if fdV S e (fdX S e [97, 115]) = [115, 105, 100, 101] then 5 else 0
/-- the bytes of a reference; Q: pages, first lines, last lines as taken -/
def refB (S Y V Q : Hp) (E e : Int) : List Int :=
  if rfK S V E e = 1 then decL (Q 0 (tgt S V E e [116, 111])).toNat else if rfK S V E e = 2 then decL (Q 1 (tgt S V E e [116, 111])).toNat else
  if rfK S V E e = 3 then fmL (V 24 (22 * tgt S V E e [116, 111] + 18)) (V 27 (tgt S V E e [116, 111])).toNat else if rfK S V E e = 4 then tiT S Y V (tgt S V E e [116, 111]) else
  if rfK S V E e = 5 then (if tgt S V E e [116, 111] < e then [97, 98, 111, 118, 101] else [98, 101, 108, 111, 119]) else [63, 63]
/-- what it takes -/
def refK (S V : Hp) (E e : Int) : List (Int × Int × Int) := if rfK S V E e = 1 then [(e, tgt S V E e [116, 111], 0)] else if rfK S V E e = 2 then [(e, tgt S V E e [116, 111], 1)] else []
/-- pages and lines as taken -/
def qOK (Q : Hp) (E : Int) : Prop := ∀ e, 0 ≤ e → e < E → 0 ≤ Q 0 e ∧ Q 0 e ≤ 10000 ∧ 0 ≤ Q 1 e ∧ Q 1 e ≤ 10000 ∧ -1 ≤ Q 2 e ∧ Q 2 e ≤ 10000
theorem decL_sh {n : Nat} (h : n ≤ 10000) : (decL n).length ≤ 5 := by
  have := decL_len 4 n (by omega)
  omega
theorem KTR.val {S Y V p : Hp} {a sa ya E M e : Int} (K : KTR S Y V p a sa ya E M) (e0 : 0 ≤ e) (e1 : e < E) : 0 ≤ V 27 e ∧ V 27 e ≤ 1000000 := by
  have E5 := K.rng.2.1
  obtain ⟨n, N, s, F, n', N', s', C, ns, na, nsel, nb, nt, m, T⟩ := K
  exact vl_rng (T.2.2.2.2.2.2.2 e e0 e1).2.2.2.2 e1 E5 e0
theorem refB_by {S Y V Q p : Hp} {a sa ya E M e : Int} (K : KTR S Y V p a sa ya E M) (q : qOK Q E) : (∀ c ∈ refB S Y V Q E e, 0 ≤ c ∧ c ≤ 127) ∧ (refB S Y V Q E e).length ≤ 40 := by
  have uk : rfK S V E e ≠ 0 → 0 ≤ tgt S V E e [116, 111] ∧ tgt S V E e [116, 111] < E := fun h => by
    rcases tgt_r (S := S) (V := V) (E := E) (e := e) (w := [116, 111]) with z | z
    · exact absurd (by unfold rfK; rw [if_pos (by omega)]) h
    · exact ⟨z.1, z.2.1⟩
  unfold refB
  split
  · rename_i h
    have := uk (by omega)
    have := q _ this.1 this.2
    exact ⟨decL_by _ _ (Nat.le_refl _), by have := decL_sh (n := (Q 0 (tgt S V E e [116, 111])).toNat) (by omega); omega⟩
  split
  · rename_i h
    have := uk (by omega)
    have := q _ this.1 this.2
    exact ⟨decL_by _ _ (Nat.le_refl _), by have := decL_sh (n := (Q 1 (tgt S V E e [116, 111])).toNat) (by omega); omega⟩
  split
  · rename_i h
    have := uk (by omega)
    have := K.val this.1 this.2
    exact ⟨fmL_by, by have := fmL_len (how := V 24 (22 * tgt S V E e [116, 111] + 18)) (v := (V 27 (tgt S V E e [116, 111])).toNat) (by omega); omega⟩
  split
  · rename_i h
    have := uk (by omega)
    exact tiT_by K this.1 this.2
  split
  · split <;> exact ⟨by decide, by decide⟩
  · exact ⟨by decide, by decide⟩
