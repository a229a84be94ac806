set_option maxRecDepth 100000
/-! A PATTERN, read by the reference -/
theorem q_X18_same {h : Hp} {t i e u j f : Int} (t1 : h t (-2) % 16 = 2) (i0 : 0 ≤ i) (i1 : i ≤ e) (i2 : e ≤ h t (-1)) (i3 : h t (-1) ≤ 65536) (u1 : h u (-2) % 16 = 2) (j0 : 0 ≤ j) (j1 : j ≤ f) (j2 : f ≤ h u (-1)) (j3 : h u (-1) ≤ 65536) :
    m_X18_same t i e u j f h = some (eqW (wd h t i (e - i).toNat) (wd h u j (f - j).toNat)) := by
  unfold m_X18_same
  rw [e32 (x := e - i) (by omega) (by omega), e32 (x := f - j) (by omega) (by omega)]
  by_cases hc : e - i = f - j
  · rw [if_pos hc]
    have L := cmp_loop (F := fun q => m_X18_same_l16 t i e u j q h) (E := fun x => h t (i + (x : Int)) = h u (j + (x : Int))) (k := (e - i).toNat) (by omega) (fun x hx => by
      unfold m_X18_same_l16
      rw [e32 (x := e - i) (by omega) (by omega)]
      by_cases hx2 : (e - i).toNat ≤ x
      · rw [if_pos (by omega), if_pos hx2]
      · rw [if_neg (by omega), if_neg hx2, e32 (x := i + (x : Int)) (by omega) (by omega), e32 (x := j + (x : Int)) (by omega) (by omega)]
        unfold gd
        rw [if_pos ⟨t1, by omega, by omega⟩, if_pos ⟨u1, by omega, by omega⟩]
        by_cases hE : h t (i + (x : Int)) = h u (j + (x : Int))
        · rw [if_pos hE, if_pos hE]; rfl
        · rw [if_neg hE, if_neg hE])
    obtain ⟨r, e1, e2⟩ := L
    show (lp (fun q => m_X18_same_l16 t i e u j q h) 0).bind (fun x => some x) = _
    rw [e1, Option.bind_some]
    congr 1
    have hw : wd h t i (e - i).toNat = wd h u j (f - j).toNat ↔ ∀ x : Nat, x < (e - i).toNat → h t (i + (x : Int)) = h u (j + (x : Int)) := by
      rw [wd_eq (by rw [wd_len]; omega)]
      constructor
      · intro z x hx
        have := z x hx
        rw [wd_at (by omega)] at this
        exact (Option.some.inj this).symm
      · intro z x hx
        rw [wd_at (by omega), z x hx]
    unfold eqW
    rcases e2 with ⟨e2, e3⟩ | ⟨e2, e3⟩
    · rw [if_pos (hw.mpr e3)]; exact e2
    · rw [if_neg (fun z => e3 (hw.mp z))]; exact e2
  · rw [if_neg hc]
    congr 1
    unfold eqW
    rw [if_neg]
    intro z
    have := congrArg List.length z
    rw [wd_len, wd_len] at this
    omega
theorem z_eqW {α : Type} {o : Option Int} {w b : List Int} {f : Int → Option α} {Q : α → Prop} (e : o = some (eqW w b)) (h1 : w = b → Pz (f 1) Q) (h0 : w ≠ b → Pz (f 0) Q) : Pz (o.bind f) Q := by
  rw [e, Option.bind_some]
  unfold eqW
  by_cases hc : w = b
  · rw [if_pos hc]; exact h1 hc
  · rw [if_neg hc]; exact h0 hc
def enc (c : Int) : Int := if c = 0 then 46 else c + 96
def aho (L : List Int) : Int := if L.head? = some 0 then 1 else 0
def dtT (L : List Int) (D : Int → Int) (i : Int) : Int := if aho L ≤ i ∧ i ≤ aho L + nl L then D (i - aho L) else 0
/-- the patterns that the reference keeps -/
def HYt (h : Hp) (l np : Int) (sg : Int → List Int) (dt : Int → Int → Int) : Prop :=
  h l 2 = np ∧ 0 ≤ np ∧ np ≤ 300 ∧ (∀ p, 0 ≤ p → p < np → wd h (l + 1) (14 * p) (sg p).length = (sg p).map enc ∧ h (l + 2) p = (sg p).length ∧ 1 ≤ (sg p).length ∧ (sg p).length ≤ 14 ∧ (∀ c ∈ sg p, 0 ≤ c ∧ c ≤ 26) ∧ ∀ i, 0 ≤ i → i < 16 → h (l + 3) (16 * p + i) = dtT (sg p) (dt p) i) ∧
  (∀ p q, 0 ≤ p → p < q → q < np → sg p ≠ sg q)
def tpW (l : Int) : Int → Int → Prop := fun b j => l ≤ b ∧ b ≤ l + 9 ∧ 0 ≤ j ∧ (b = l → j = 0 ∨ j = 1 ∨ j = 2 ∨ j = 3 ∨ j = 12)
theorem tpW_l {h h' : Hp} {l : Int} (hL : LAY h) (hl : l ∈ in_aX21) (f : F2 (tpW l) h h') : LAY h' := by
  obtain ⟨k0, ⟨-, k1, -⟩, ⟨-, k2, -⟩, ⟨-, k3, -⟩, ⟨-, k4, -⟩, ⟨-, k5, -⟩, ⟨-, k6, -⟩, ⟨-, k7, -⟩, ⟨-, k8, -⟩, ⟨-, k9, -⟩⟩ := ly_X21 hL hl
  have h9 := aX21 hl
  refine hL.F2 f (fun b j z => ?_)
  obtain ⟨z1, z2, z3, z4⟩ := z
  refine ⟨z3, by omega, ?_⟩
  have : b = l ∨ b = l + 1 ∨ b = l + 2 ∨ b = l + 3 ∨ b = l + 4 ∨ b = l + 5 ∨ b = l + 6 ∨ b = l + 7 ∨ b = l + 8 ∨ b = l + 9 := by omega
  rcases this with rfl | rfl | rfl | rfl | rfl | rfl | rfl | rfl | rfl | rfl
  · rcases z4 rfl with rfl | rfl | rfl | rfl | rfl <;> (rw [k0]; decide)
  · rw [k1]; exact fx_a (by decide) (by decide)
  · rw [k2]; exact fx_a (by decide) (by decide)
  · rw [k3]; exact fx_a (by decide) (by decide)
  · rw [k4]; exact fx_a (by decide) (by decide)
  · rw [k5]; exact fx_a (by decide) (by decide)
  · rw [k6]; exact fx_a (by decide) (by decide)
  · rw [k7]; exact fx_a (by decide) (by decide)
  · rw [k8]; exact fx_a (by decide) (by decide)
  · rw [k9]; exact fx_a (by decide) (by decide)
def nowW (l : Int) : Int → Int → Prop := fun b j => (b = l + 7 ∨ b = l + 8) ∧ 0 ≤ j
theorem now_tp {l : Int} : ∀ b j, nowW l b j → tpW l b j := fun b j z => by unfold nowW at z; unfold tpW; omega
/-- while the reference reads a pattern -/
def PTt (h q : Hp) (l : Int) (B : Int → Int) (s ah : Int) (x : Nat) : Prop :=
  okP B s x ∧ (∀ y : Nat, y < x → B (s + y) ≠ 46) ∧ F2 (nowW l) h q ∧ (∀ y : Nat, y < (lets B s x).length → (lets B s x)[y]? = some (q (l + 7) (ah + y) - 96)) ∧ (ah = 1 → q (l + 7) 0 = 46) ∧
  ∀ j, 0 ≤ j → j < 64 → q (l + 8) j = if ah ≤ j then dgf B s x (j - ah) else 0
theorem t_ploop {h q0 : Hp} {l t s to fr ah : Int} {M : Nat} (hL : LAY h) (hl : l ∈ in_aX21) (rm : RM h 1 7) (ht : t < l ∨ l + 9 < t) (ht1 : h t (-2) % 16 = 2) (ht2 : to ≤ h t (-1)) (s0 : 0 ≤ s) (he : to = s + M) (e1 : to ≤ 4000) (hah : ah = 0 ∨ ah = 1) (P : PTt h q0 l (h t) s ah 0) :
    Pz (lp (fun (q : Int × Int × Int × Int × Hp) => m_X21_pattern_l60 l t fr to q.1 q.2.1 q.2.2.1 q.2.2.2.1 q.2.2.2.2) (s, ah, 0, 0, q0)) (sE (fun y : Int × Int × Int × Hp => ∃ x : Nat, x ≤ M ∧ y.1 = s + x ∧ y.2.2.1 = (lets (h t) s x).length ∧ y.2.1 = ah + (lets (h t) s x).length ∧ PTt h y.2.2.2 l (h t) s ah x ∧ (x < M → h t (s + x) = 46)) (fun r => (∃ x : Nat, x < M ∧ ¬ okA (h t) s x ∧ h t (s + x) ≠ 46) ∧ ThF 448 fr (nowW l) h r)) := by
  have h9 := aX21 hl
  refine z_lp (fun y : Int × Int × Int × Int × Hp => ∃ x : Nat, x ≤ M ∧ y.1 = s + x ∧ y.2.2.1 = (lets (h t) s x).length ∧ y.2.1 = ah + (lets (h t) s x).length ∧ (y.2.2.2.1 ≠ 0 ↔ dgB (h t) s x) ∧ PTt h y.2.2.2.2 l (h t) s ah x) (fun y => (to - y.1).toNat) ⟨0, by omega, by dsimp only; omega, rfl, by show ah = ah + (0 : Int); omega, ⟨fun z => absurd rfl z, fun z => z.elim⟩, P⟩ ?_
  rintro ⟨k, n, c, d, q⟩ ⟨x, x1, e1', e2, e3, e4, P'⟩
  dsimp only at e1' e2 e3 e4
  replace P' : PTt h q l (h t) s ah x := P'
  subst e1' e2 e3
  have P2 := P'
  obtain ⟨ok, nd, F, S, S0, D⟩ := P'
  have L := tpW_l hL hl (F.mono now_tp)
  have rq := rm_of rm F (fun j z => by unfold nowW at z; omega)
  have et : q t = h t := F.row (fun j z => by unfold nowW at z; omega)
  obtain ⟨-, -, -, -, -, -, -, ⟨g1, g2, g3⟩, ⟨g4, g5, g6⟩, -⟩ := ly_X21 L hl
  have lk := okP_12 x ok
  show Pz (m_X21_pattern_l60 l t fr to (s + x) (ah + (lets (h t) s x).length) (lets (h t) s x).length d q) _
  unfold m_X21_pattern_l60
  refine z_if (fun hc => z_some ⟨x, x1, rfl, rfl, rfl, P2, fun z => by omega⟩) (fun hc => ?_)
  rw [et]
  refine z_gd (by (try simp (disch := omega) only [up_a, up_e, up_j, e32, e8]) <;> omega) (z_if (fun hd => z_some ⟨x, x1, rfl, rfl, rfl, P2, fun _ => hd⟩) (fun hd => ?_))
  have xM : x < M := by omega
  refine zt_dg (fun hg => ?_) (fun hg => ?_)
  · refine z_ie (by decide) (z_if (fun hz => ?_) (fun hz => z_brk rq (fun b h' z => z_some ⟨⟨x, xM, fun y => ?_, hd⟩, z.F F (fun j z => by unfold nowW at z; omega)⟩)))
    · refine z_gd (by (try simp (disch := omega) only [up_a, up_e, up_j, e32, e8, g4, g5, g6]) <;> omega) (z_pt (z_lt ?_))
      unfold m_X21_pattern_j166
      obtain ⟨q1, q2⟩ := lets_dg hg
      (try simp (disch := omega) only [up_a, up_e, up_j, e32, e8, g4])
      refine z_lt (z_some ⟨⟨x + 1, by omega, by dsimp only; omega, by dsimp only; rw [q1], by dsimp only; rw [q1], ⟨fun _ => hg, fun _ => by show (1 : Int) ≠ 0; decide⟩, okP_s ok (Or.inl ⟨hg.1, hg.2, fun z => e4.mpr z hz⟩), fun y hy => ?_, ?_, fun y hy => ?_, fun z => ?_, fun j j0 j1 => ?_⟩, ?_⟩) <;> try dsimp only
      · by_cases z : y = x
        · rw [z]; exact hd
        · exact nd y (by omega)
      · exact F.put (by unfold nowW; omega)
      · rw [q1] at hy ⊢
        rw [up_a (by omega)]; exact S y hy
      · rw [up_a (by omega)]; exact S0 z
      · rw [q2]
        dsimp only
        by_cases z : j = ah + (lets (h t) s x).length
        · rw [up_e rfl z, if_pos (by omega), if_pos (by omega)]
        · rw [up_j z, D j j0 j1]
          by_cases y : ah ≤ j
          · rw [if_pos y, if_pos y, if_neg (by omega)]
          · rw [if_neg y, if_neg y]
      · omega
    · rcases y with ⟨-, -, y3⟩ | ⟨y1, y2, -⟩
      · exact y3 (e4.mp hz)
      · omega
  · refine z_it rfl (zt_sm (fun hs => ?_) (fun hs => ?_))
    · refine z_ie (by decide) (z_if (fun hz => ?_) (fun hz => z_brk rq (fun b h' z => z_some ⟨⟨x, xM, fun y => ?_, hd⟩, z.F F (fun j z => by unfold nowW at z; omega)⟩)))
      · refine z_gd (by (try simp (disch := omega) only [up_a, up_e, up_j, e32, e8, g1, g2, g3]) <;> omega) (z_pt (z_lt (z_lt (z_lt ?_))))
        unfold m_X21_pattern_j166
        obtain ⟨q1, q2⟩ := lets_sm hs
        have ll : ((lets (h t) s (x + 1)).length : Int) = (lets (h t) s x).length + 1 := by rw [q1, List.length_append]; simp
        (try simp (disch := omega) only [up_a, up_e, up_j, e32, e8, g1])
        refine z_lt (z_some ⟨⟨x + 1, by omega, by dsimp only; omega, by dsimp only; omega, by dsimp only; omega, ?_, okP_s ok (Or.inr ⟨hs.1, hs.2, by omega⟩), fun y hy => ?_, ?_, fun y hy => ?_, fun z => ?_, fun j j0 j1 => ?_⟩, ?_⟩) <;> try dsimp only
        · unfold dgB; omega
        · by_cases z : y = x
          · rw [z]; exact hd
          · exact nd y (by omega)
        · exact F.put (by unfold nowW; omega)
        · rw [q1]
          by_cases z : y = (lets (h t) s x).length
          · rw [z, List.getElem?_concat_length, up_e rfl rfl]
          · rw [List.getElem?_append_left (by omega), up_j (by omega)]; exact S y (by omega)
        · rw [up_j (by omega)]; exact S0 z
        · rw [q2, up_a (by omega)]; exact D j j0 j1
        · omega
      · rcases y with ⟨y1, y2, -⟩ | ⟨-, -, y3⟩
        · omega
        · omega
    · refine z_it rfl (z_brk rq (fun b h' z => z_some ⟨⟨x, xM, fun y => ?_, hd⟩, z.F F (fun j z => by unfold nowW at z; omega)⟩))
      rcases y with ⟨y1, y2, -⟩ | ⟨y1, y2, -⟩
      · exact hg ⟨y1, y2⟩
      · exact hs ⟨y1, y2⟩
