set_option maxRecDepth 100000
/-! A PATTERN, read by the reference: all of it -/
theorem lets_r (B : Int → Int) (s : Int) : ∀ k : Nat, ∀ c ∈ lets B s k, 1 ≤ c ∧ c ≤ 26 := by
  intro k
  induction k with
  | zero => intro c hc; cases hc
  | succ k ih =>
    intro c hc
    unfold lets at hc
    split at hc
    · rcases List.mem_append.mp hc with z | z
      · exact ih c z
      · rw [List.mem_singleton] at z; omega
    · exact ih c hc
theorem wd_app {h : Hp} {t i : Int} {a b : Nat} : wd h t i (a + b) = wd h t i a ++ wd h t (i + a) b := by
  unfold wd
  rw [List.range_add, List.map_append, List.map_map]
  congr 1
  apply List.map_congr_left
  intro x _
  show h t (i + ((a + x : Nat) : Int)) = h t (i + a + x)
  congr 1
  omega
theorem pth_wd {q : Hp} {t ah be : Int} {L : List Int} (h0 : ah = 0 ∨ ah = 1) (h1 : be = 0 ∨ be = 1) (rL : ∀ c ∈ L, 1 ≤ c ∧ c ≤ 26) (S : ∀ y : Nat, y < L.length → L[y]? = some (q t (ah + y) - 96)) (S0 : ah = 1 → q t 0 = 46) (S1 : be = 1 → q t (ah + L.length) = 46) :
    wd q t 0 (pth ah be L).length = (pth ah be L).map enc ∧ ((pth ah be L).length : Int) = ah + L.length + be := by
  have m1 : wd q t ah L.length = L.map enc := by
    rw [wd_eq (by rw [List.length_map])]
    intro x hx
    rw [List.getElem?_map, S x hx]
    have := rL _ (List.mem_of_getElem? (S x hx))
    show some (enc (q t (ah + x) - 96)) = _
    unfold enc
    rw [if_neg (by omega)]
    congr 1
    omega
  have w1 : ∀ i, wd q t i 1 = [q t i] := fun i => by unfold wd; simp
  have w0 : ∀ i, wd q t i 0 = [] := fun i => rfl
  unfold pth
  rcases h0 with z | z <;> rcases h1 with y | y
  · subst z y
    simp only [if_true, List.nil_append, List.append_nil]
    exact ⟨m1, by simp⟩
  · subst z y
    rw [if_pos rfl, if_neg (by decide), List.nil_append, List.length_append, List.map_append]
    show wd q t 0 (L.length + 1) = _ ∧ _
    rw [wd_app, m1, w1]
    refine ⟨?_, by push_cast; simp⟩
    congr 1
    show [q t (0 + (L.length : Int))] = [enc 0]
    rw [S1 rfl]; rfl
  · subst z y
    rw [if_neg (by decide), if_pos rfl, List.append_nil, List.length_append, List.map_append]
    show wd q t 0 (1 + L.length) = _ ∧ _
    rw [wd_app, w1, S0 rfl]
    refine ⟨?_, by push_cast; simp⟩
    show [46] ++ wd q t 1 L.length = _
    rw [m1]; rfl
  · subst z y
    rw [if_neg (by decide), List.length_append, List.length_append, List.map_append, List.map_append]
    show wd q t 0 (1 + L.length + 1) = _ ∧ _
    rw [wd_app, wd_app, w1, w1, S0 rfl]
    refine ⟨?_, by push_cast; simp⟩
    show [46] ++ wd q t 1 L.length ++ [q t (0 + ((1 + L.length : Nat) : Int))] = _
    have e : (0 : Int) + ((1 + L.length : Nat) : Int) = 1 + (L.length : Int) := by omega
    rw [m1, e, S1 rfl]; rfl
theorem pth_aho {ah be : Int} {L : List Int} (h0 : ah = 0 ∨ ah = 1) (rL : ∀ c ∈ L, 1 ≤ c ∧ c ≤ 26) (hl : 0 < L.length) : aho (pth ah be L) = ah := by
  unfold aho pth
  rcases h0 with z | z
  · subst z
    cases L with
    | nil => simp at hl
    | cons c L =>
      have := rL c (List.mem_cons_self ..)
      rw [if_pos rfl, List.nil_append, List.cons_append, List.head?_cons, if_neg]
      intro e
      have := Option.some.inj e
      omega
  · subst z
    have e : (if (1 : Int) = 0 then ([] : List Int) else [0]) = [0] := if_neg (by decide)
    rw [e]
    rfl
theorem pth_r {ah be : Int} {L : List Int} (rL : ∀ c ∈ L, 1 ≤ c ∧ c ≤ 26) : ∀ c ∈ pth ah be L, 0 ≤ c ∧ c ≤ 26 := by
  intro c hc
  unfold pth at hc
  rcases List.mem_append.mp hc with hc | hc
  · rcases List.mem_append.mp hc with hc | hc
    · split at hc
      · cases hc
      · rw [List.mem_singleton] at hc; omega
    · have := rL c hc; omega
  · split at hc
    · cases hc
    · rw [List.mem_singleton] at hc; omega
def twW (l : Int) : Int → Int → Prop := fun b j => (b = l ∧ j = 2) ∨ ((l + 1 ≤ b ∧ b ≤ l + 3 ∨ b = l + 7 ∨ b = l + 8) ∧ 0 ≤ j)
theorem tw_tp {l : Int} : ∀ b j, twW l b j → tpW l b j := fun b j z => by unfold twW at z; unfold tpW; omega
theorem now_tw {l : Int} : ∀ b j, nowW l b j → twW l b j := fun b j z => by unfold nowW at z; unfold twW; omega
def PRt (h : Hp) (l fr np : Int) (sg : Int → List Int) (dt : Int → Int → Int) (B : Int → Int) (ah be s : Int) (K : Nat) (r : (Int × Int) × Hp) : Prop :=
  ((¬ okP B s K ∨ (lets B s K).length = 0) ∧ ThF 448 fr (twW l) h r) ∨
  (okP B s K ∧ 0 < (lets B s K).length ∧ ∃ p, PIX np sg (pth ah be (lets B s K)) p ∧ ((p = 300 ∧ ThF 448 fr (twW l) h r) ∨
    (p < 300 ∧ r.1 = (0, 0) ∧ F2 (twW l) h r.2 ∧ HYt r.2 l (if p = np then np + 1 else np) (upF sg p (pth ah be (lets B s K))) (upF dt p (dgf B s K)))))
/-- found or new: it is kept -/
theorem t_pkeep {h q : Hp} {l fr to np ah be s : Int} {sg : Int → List Int} {dt : Int → Int → Int} {B : Int → Int} {K : Nat} {n : Int} (hL : LAY h) (hl : l ∈ in_aX21) (rm : RM h 1 7) (H : HYt h l np sg dt) (h0 : ah = 0 ∨ ah = 1) (h1 : be = 0 ∨ be = 1) (F : F2 (nowW l) h q) (ok : okP B s K) (hl0 : 0 < (lets B s K).length)
    (eL : wd q (l + 7) 0 (pth ah be (lets B s K)).length = (pth ah be (lets B s K)).map enc) (en : n = (pth ah be (lets B s K)).length) (el : ((pth ah be (lets B s K)).length : Int) = ah + (lets B s K).length + be) (D : ∀ j, 0 ≤ j → j < 64 → q (l + 8) j = if ah ≤ j then dgf B s K (j - ah) else 0) (c : Int) (hc : c = (lets B s K).length) :
    Pz (m_X21_pattern_j193 l fr to c to n q) (PRt h l fr np sg dt B ah be s K) := by
  have h9 := aX21 hl
  have l12 := okP_12 K ok
  have LQ := tpW_l hL hl (F.mono now_tp)
  have rq := rm_of rm F (fun j z => by unfold nowW at z; omega)
  have r1 : q (l + 1) = h (l + 1) := F.row (fun j z => by unfold nowW at z; omega)
  have r2 : q (l + 2) = h (l + 2) := F.row (fun j z => by unfold nowW at z; omega)
  have r3 : q (l + 3) = h (l + 3) := F.row (fun j z => by unfold nowW at z; omega)
  have r0 : q l = h l := F.row (fun j z => by unfold nowW at z; omega)
  have HQ : HYt q l np sg dt := by
    unfold HYt at H ⊢
    rw [r0, r2, r3]
    simp only [wd_h r1]
    exact H
  have rL := lets_r B s K
  unfold m_X21_pattern_j193
  refine z_ie (by omega) (z_it rfl (z_lt (z_bind (z_mono (t_psearch LQ hl HQ en (by omega) eL (pth_r rL)) (fun p hp => ?_)))))
  obtain ⟨p1, p2, p3⟩ := hp
  obtain ⟨H1, H2, H3, H4, H5⟩ := HQ
  have kp : ∀ m : Int, p < 300 → m = (if p = np then np + 1 else np) → Pz (m_X21_pattern_j304 l n p m q) (PRt h l fr np sg dt B ah be s K) := by
    intro m hp em
    refine z_mono (t_p304 LQ hl p2 hp (by omega) (by omega)) (fun r hr => Or.inr ⟨ok, hl0, p, p1, Or.inr ⟨hp, hr.1, (F.mono now_tw).trans (hr.2.1.mono (fun b j z => by unfold kpW at z; unfold twW; omega)), ?_⟩⟩)
    obtain ⟨-, G, g1, g2, g3, g4⟩ := hr
    have hm : m ≤ 300 ∧ 0 ≤ m := by
      by_cases z : p = np
      · rw [if_pos z] at em; omega
      · rw [if_neg z] at em; omega
    rw [← em]
    refine ⟨g1, hm.2, hm.1, fun k k0 k1 => ?_, fun k k' k0 k1 k2 => ?_⟩
    · by_cases z : k = p
      · rw [z, upF_s, upF_s]
        refine ⟨?_, by rw [g2, en], by omega, by omega, pth_r rL, fun i i0 i1 => ?_⟩
        · rw [← eL]
          rw [wd_eq wd_len]
          intro x hx
          rw [wd_at hx, g3 x (by omega) (by omega)]
          congr 2
          omega
        · rw [g4 i i0 i1, D i i0 (by omega)]
          unfold dtT
          rw [pth_aho h0 rL hl0, nl_pth, nl_lets]
          by_cases y : ah ≤ i
          · rw [if_pos y]
            by_cases y2 : i ≤ ah + (lets B s K).length
            · rw [if_pos ⟨y, y2⟩]
            · rw [if_neg (fun z => y2 z.2)]; exact dgf_far _ _ _ _ (by omega)
          · rw [if_neg y, if_neg (fun z => y z.1)]
      · rw [upF_n z, upF_n z]
        have kn : k < np := by
          by_cases y : p = np
          · rw [if_pos y] at em; omega
          · rw [if_neg y] at em; omega
        obtain ⟨a1, a2, a3, a4, a5, a6⟩ := H4 k k0 kn
        refine ⟨?_, ?_, a3, a4, a5, fun i i0 i1 => ?_⟩
        · rw [← a1, wd_eq wd_len]
          intro x hx
          rw [wd_at hx, G _ _ (fun y => by unfold kpW at y; omega)]
        · rw [G _ _ (fun y => by unfold kpW at y; omega)]; exact a2
        · rw [G _ _ (fun y => by unfold kpW at y; omega)]; exact a6 i i0 i1
    · have kn : k' < np ∨ (k' = np ∧ p = np) := by
        by_cases y : p = np
        · rw [if_pos y] at em; omega
        · rw [if_neg y] at em; omega
      rcases p1 with ⟨a1, a2, a3⟩ | ⟨a1, a2⟩
      · have e : ∀ x, upF sg p (pth ah be (lets B s K)) x = sg x := fun x => by
          by_cases z : x = p
          · rw [z, upF_s, a3]
          · exact upF_n z
        rw [e, e]; exact H5 k k' k0 k1 (by omega)
      · by_cases z : k' = p
        · rw [z, upF_s, upF_n (by omega)]; exact a2 k k0 (by omega)
        · rw [upF_n z, upF_n (by omega)]; exact H5 k k' k0 k1 (by omega)
  refine z_if (fun ha => ?_) (fun ha => z_brk rq (fun b h' z => z_some (Or.inr ⟨ok, hl0, p, p1, Or.inl ⟨by omega, z.F (F.mono now_tw) (fun j y => by unfold twW at y; omega)⟩⟩)))
  have hp : p < 300 := by omega
  rw [H1]
  refine z_if (fun hb => kp np hp (by rw [if_neg hb])) (fun hb => ?_)
  have e : w32 (p + 1) = np + 1 := by (try simp (disch := omega) only [up_a, up_e, up_j, e32, e8]); omega
  rw [e]
  exact kp (np + 1) hp (by rw [if_pos (by omega)])
