/-! what is asked of signs -/
theorem q_X2_isEnd {h : Hp} {a : Int} {q : Int × Int × Int × Int} (A : AtC h a q) : m_X2_isEnd a h = some (if q.1 = 0 then 1 else 0) := by
  unfold m_X2_isEnd
  rw [A.1]
  by_cases hc : q.1 = 0
  · rw [if_neg (fun z => z hc), if_pos hc]
  · rw [if_pos hc, if_neg hc]
theorem q_X2_isByte {h : Hp} {a c : Int} {q : Int × Int × Int × Int} (A : AtC h a q) : m_X2_isByte a c h = some (if q.1 = 4 ∧ q.2.2.2 = c then 1 else 0) := by
  unfold m_X2_isByte
  rw [A.1]
  by_cases hc : q.1 = 4
  · rw [if_neg (fun z => z hc), A.2.2.2.2.2 (Or.inr hc)]
    by_cases hd : q.2.2.2 = c
    · rw [if_neg (fun z => z hd), if_pos ⟨hc, hd⟩]
    · rw [if_pos hd, if_neg (fun z => hd z.2)]
  · rw [if_pos hc, if_neg (fun z => hc z.1)]
theorem kT4 {k : Int} : kT k = 4 ↔ k = 4 ∨ k = 5 := by
  unfold kT
  by_cases h0 : k = 0
  · rw [if_pos h0]; omega
  · rw [if_neg h0]
    by_cases h5 : k = 5
    · rw [if_pos h5]; omega
    · rw [if_neg h5]; omega
theorem kTe {k c : Int} (h1 : 1 ≤ c) (h2 : c ≤ 3) : kT k = c ↔ k = c := by
  unfold kT
  by_cases h0 : k = 0
  · rw [if_pos h0]; omega
  · rw [if_neg h0]
    by_cases h5 : k = 5
    · rw [if_pos h5]; omega
    · rw [if_neg h5]
theorem kT5 {k : Int} (h1 : k ≤ 5) : kT k = 5 ↔ k = 0 := by
  unfold kT
  by_cases h0 : k = 0
  · rw [if_pos h0]; omega
  · rw [if_neg h0]
    by_cases h5 : k = 5
    · rw [if_pos h5]; omega
    · rw [if_neg h5]; omega
theorem q_X20_isByte {h : Hp} {a c : Int} {q : Int × Int × Int × Int} (A : AtT h a q) (hc : isPl c = true) : m_X20_isByte a c h = some (if q.1 = 4 ∧ q.2.2.2 = c then 1 else 0) := by
  unfold m_X20_isByte
  rw [A.1]
  by_cases h4 : q.1 = 4
  · rw [if_neg (fun z => z (kT4.mpr (Or.inl h4))), A.2.2.2.2.2.1 h4]
    by_cases hd : q.2.2.2 = c
    · rw [if_neg (fun z => z hd), if_pos ⟨h4, hd⟩]
    · rw [if_pos hd, if_neg (fun z => hd z.2)]
  · rw [if_neg (show ¬ (q.1 = 4 ∧ q.2.2.2 = c) from fun z => h4 z.1)]
    by_cases h5 : q.1 = 5
    · have := A.2.2.2.2.2.2 h5
      rw [if_neg (fun z => z (kT4.mpr (Or.inr h5))), if_pos (fun z => by rw [z, hc] at this; cases this)]
    · rw [if_pos (fun z => by rcases kT4.mp z with z | z <;> omega)]
/-- is the sign that word? -/
noncomputable def isW (h : Hp) (t : Int) (q : Int × Int × Int × Int) (b : List Int) : Int := if q.1 = 1 then eqW (wd h t q.2.1 (q.2.2.1 - q.2.1).toNat) b else 0
theorem q_X20_isName {h : Hp} {a t n s : Int} {q : Int × Int × Int × Int} {b : List Int} (x : TX h a t n) (A : AtT h a q) (hq : TkOK n q) (hs : strB s = some b) (hl : h t (-1) ≤ 65536) : m_X20_isName a s h = some (isW h t q b) := by
  unfold m_X20_isName isW
  rw [A.1]
  by_cases h1 : q.1 = 1
  · have hk := hq.2.2.2.2.2.2.1 h1
    have he := hq.2.2.2.1 (by omega)
    rw [if_neg (fun z => z ((kTe (by omega) (by omega)).mpr h1)), if_pos h1, x.1, A.2.1, A.2.2.1, q_X18_is hs x.2.2.1 hq.1 (by omega) (Int.le_trans he x.2.2.2.1) hl, Option.bind_some]
    unfold eqW
    split
    · rfl
    · rfl
  · rw [if_pos (fun z => h1 ((kTe (by omega) (by omega)).mp z)), if_neg h1]
theorem q_X2_isName {h : Hp} {a t n s : Int} {q : Int × Int × Int × Int} {b : List Int} (x : TX h a t n) (A : AtC h a q) (hq : TkOK n q) (hs : strB s = some b) : m_X2_isName a s h = some (isW h t q b) := by
  have hl := strB_l hs
  unfold m_X2_isName isW
  rw [A.1]
  by_cases h1 : q.1 = 1
  · have hk := hq.2.2.2.2.2.2.1 h1
    have he := hq.2.2.2.1 (by omega)
    have hn := x.2.2.2.2.2
    obtain ⟨g5, g6⟩ := A.2.2.2.1 h1
    have hp := hq.1
    rw [if_neg (fun z => z h1), if_pos h1, q_slen hs, Option.bind_some, g6]
    by_cases hc : q.2.2.1 - q.2.1 = (b.length : Int)
    · rw [if_pos hc]
      have hkl : (q.2.2.1 - q.2.1).toNat = b.length := by omega
      have L := cmp_loop (F := fun z => m_X2_isName_l23 a s z h) (E := fun y => b[y]? = some (h t (q.2.1 + (y : Int)))) (k := b.length) (by omega) (fun y hy => by
        unfold m_X2_isName_l23
        rw [g6, g5, x.1]
        by_cases hy2 : b.length ≤ y
        · rw [if_pos (by omega), if_pos hy2]
        · rw [if_neg (by omega), if_neg hy2, e32 (x := q.2.1 + (y : Int)) (by omega) (by omega)]
          have hb : b[y]? = some b[y] := List.getElem?_eq_getElem (by omega)
          have hle := x.2.2.2.1
          unfold gd
          rw [if_pos ⟨x.2.2.1, by omega, by omega⟩, q_sat hs hb, Option.bind_some]
          by_cases hE : h t (q.2.1 + (y : Int)) = b[y]
          · rw [if_pos hE, if_pos (by rw [hb, hE])]
            rfl
          · rw [if_neg hE, if_neg (fun z => hE (by rw [hb] at z; exact (Option.some.inj z).symm))])
      obtain ⟨r, e1, e2⟩ := L
      show (lp (fun z => m_X2_isName_l23 a s z h) 0).bind (fun x => some x) = _
      rw [e1, Option.bind_some]
      congr 1
      unfold eqW
      rcases e2 with ⟨e2, e3⟩ | ⟨e2, e3⟩
      · rw [if_pos ((wd_eq hkl.symm).mpr (by rw [hkl]; exact e3))]; exact e2
      · rw [if_neg (fun z => e3 (by have := (wd_eq hkl.symm).mp z; rw [hkl] at this; exact this))]; exact e2
    · rw [if_neg hc]
      congr 1
      unfold eqW
      rw [if_neg]
      intro z
      have := congrArg List.length z
      rw [wd_len] at this
      omega
  · rw [if_pos h1, if_neg h1]
/-- room for c cells of s slots in all -/
def RM (h : Hp) (c s : Int) : Prop := h 0 0 + c ≤ 130538 ∧ h 0 1 + s ≤ 8696812 ∧ 982 ≤ h 0 0 ∧ 0 ≤ h 0 1
/-- what the making of new cells changes -/
def nwW (h : Hp) : Int → Int → Prop := fun b _ => b = 0 ∨ h 0 0 < b
theorem nw_new {h : Hp} {K n : Int} : nw h K n (h 0 0 + 1) (-2) = K ∧ ∀ j, 0 ≤ j → nw h K n (h 0 0 + 1) j = 0 := by
  unfold nw
  refine ⟨by rw [if_pos rfl, if_pos rfl], fun j hj => by rw [if_pos rfl, if_neg (by omega), if_neg (by omega)]⟩
theorem nw_F2 {h : Hp} {K n : Int} : F2 (nwW h) h (nw h K n) := by
  intro b j hb
  have h1 : ¬ b = h 0 0 + 1 := fun z => hb (Or.inr (by omega))
  have h2 : ¬ b = 0 := fun z => hb (Or.inl z)
  unfold nw
  rw [if_neg h1, if_neg (fun z => h2 z.1), if_neg (fun z => h2 z.1)]
/-- something broken was thrown: K the exception's kind, p the place that it tells -/
def Thr (K p : Int) (h : Hp) (r : (Int × Int) × Hp) : Prop := r.1.1 = 1 ∧ 0 < r.1.2 ∧ h 0 0 < r.1.2 ∧ r.2 r.1.2 (-2) = K ∧ r.2 r.1.2 0 = p ∧ F2 (nwW h) h r.2 ∧ r.2 0 0 = h 0 0 + 1 ∧ r.2 0 1 = h 0 1 + 7
theorem nwCnt {h : Hp} {K n : Int} (h0 : 0 ≤ h 0 0) : nw h K n 0 0 = h 0 0 + 1 ∧ nw h K n 0 1 = h 0 1 + n := by
  unfold nw
  constructor
  · rw [if_neg (by omega), if_pos ⟨rfl, rfl⟩]
  · rw [if_neg (by omega), if_neg (fun z => absurd z.2 (by decide)), if_pos ⟨rfl, rfl⟩]
theorem brk {h : Hp} {K a p : Int} (rm : RM h 1 7) (ha : 1 ≤ a) (ha2 : a ≤ 982) (hp : h a 4 = p) : Pz (al h K 7 fun b h0 => (x_broken b (h0 a 4) h0).bind fun h8 => some (b, h8)) (fun r => 0 < r.1 ∧ h 0 0 < r.1 ∧ r.2 r.1 (-2) = K ∧ r.2 r.1 0 = p ∧ F2 (nwW h) h r.2 ∧ r.2 0 0 = h 0 0 + 1 ∧ r.2 0 1 = h 0 1 + 7) := by
  obtain ⟨r1, r2, r3, r4⟩ := rm
  refine z_al ⟨by omega, by omega, by omega, by omega⟩ ?_
  obtain ⟨n1, n2⟩ := nw_new (h := h) (K := K) (n := 7)
  have hp' : nw h K 7 a 4 = p := by
    rw [nw_F2 a 4 (fun z => by rcases z with z | z <;> omega)]; exact hp
  rw [hp']
  unfold x_broken
  rw [if_pos (n2 1 (by omega)), Option.bind_some]
  obtain ⟨n3, n4⟩ := nwCnt (h := h) (K := K) (n := 7) (by omega)
  refine z_some ⟨by show 0 < h 0 0 + 1; omega, by show h 0 0 < h 0 0 + 1; omega, ?_, up_s _ _ _ _, nw_F2.put (Or.inr (by omega)), by show up (nw h K 7) (h 0 0 + 1) 0 p 0 0 = _; rw [up_a (by omega)]; exact n3, by show up (nw h K 7) (h 0 0 + 1) 0 p 0 1 = _; rw [up_a (by omega)]; exact n4⟩
  show up (nw h K 7) (h 0 0 + 1) 0 p (h 0 0 + 1) (-2) = K
  rw [up_i (by omega)]; exact n1
theorem brkT {h : Hp} {K a p : Int} {f : Int → Hp → Option ((Int × Int) × Hp)} {Q : (Int × Int) × Hp → Prop} {m : Option (Int × Hp)} (hm : m = al h K 7 fun b h0 => (x_broken b (h0 a 4) h0).bind fun h8 => some (b, h8)) (hf : f = fun v h9 => gd (0 < v) (some ((1, v), h9))) (rm : RM h 1 7) (ha : 1 ≤ a) (ha2 : a ≤ 982) (hp : h a 4 = p) (hQ : ∀ r, Thr K p h r → Q r) : Pz (bW m f) Q := by
  subst hm hf
  refine z_bW (z_mono (brk rm ha ha2 hp) (fun r hr => ?_))
  refine z_gd hr.1 (z_some (hQ _ ⟨rfl, hr.1, hr.2.1, hr.2.2.1, hr.2.2.2.1, hr.2.2.2.2⟩))
/-- take: the sign, if it is that byte -/
theorem c_take {h : Hp} {a t n c : Int} {q : Int × Int × Int × Int} (x : TX h a t n) (A : AtC h a q) (hq : TkOK n q) : Pz (m_X2_take a c h) (fun r => (r.1 = 1 ∧ (q.1 = 4 ∧ q.2.2.2 = c) ∧ F2 (nxW a) h r.2 ∧ AtC r.2 a (tk (Bt h t n) q.2.2.1)) ∨ (r.1 = 0 ∧ ¬ (q.1 = 4 ∧ q.2.2.2 = c) ∧ r.2 = h)) := by
  unfold m_X2_take
  rw [q_X2_isByte A, Option.bind_some]
  by_cases hc : q.1 = 4 ∧ q.2.2.2 = c
  · rw [if_pos hc]
    refine z_ie (by decide) (z_bind (z_mono (c_next x A.2.2.1 (Int.le_trans hq.1 hq.2.2.1) (hq.2.2.2.1 (by omega))) (fun h' hh => z_some (Or.inl ⟨rfl, hc, hh.1, hh.2⟩))))
  · rw [if_neg hc]
    exact z_it rfl (z_some (Or.inr ⟨rfl, hc, rfl⟩))
theorem c_need {h : Hp} {a t n c : Int} {q : Int × Int × Int × Int} (x : TX h a t n) (A : AtC h a q) (hq : TkOK n q) (rm : RM h 1 7) (ha : 1 ≤ a) (ha2 : a ≤ 982) : Pz (m_X2_need a c h) (fun r => ((q.1 = 4 ∧ q.2.2.2 = c) ∧ r.1 = (0, 0) ∧ F2 (nxW a) h r.2 ∧ AtC r.2 a (tk (Bt h t n) q.2.2.1)) ∨ (¬ (q.1 = 4 ∧ q.2.2.2 = c) ∧ Thr 432 q.2.1 h r)) := by
  unfold m_X2_need
  refine z_bW (z_mono (c_take x A hq) (fun r hr => ?_))
  rcases hr with ⟨r1, r2, r3, r4⟩ | ⟨r1, r2, r3⟩
  · rw [r1]
    exact z_it (by decide) (z_some (Or.inl ⟨r2, rfl, r3, r4⟩))
  · rw [r1, r3]
    exact z_ie (fun z => z rfl) (brkT rfl rfl rm ha ha2 A.2.1 (fun r hr => Or.inr ⟨r2, hr⟩))
theorem c_needKind {h : Hp} {a t n k : Int} {q : Int × Int × Int × Int} (x : TX h a t n) (A : AtC h a q) (rm : RM h 1 7) (ha : 1 ≤ a) (ha2 : a ≤ 982) : Pz (m_X2_needKind a k h) (fun r => (q.1 = k ∧ r = ((0, 0), h)) ∨ (q.1 ≠ k ∧ Thr 432 q.2.1 h r)) := by
  unfold m_X2_needKind
  rw [A.1]
  refine z_if (fun hc => z_some (Or.inl ⟨hc, rfl⟩)) (fun hc => brkT rfl rfl rm ha ha2 A.2.1 (fun r hr => Or.inr ⟨hc, hr⟩))
theorem c_needNumber {h : Hp} {a t n lo hi : Int} {q : Int × Int × Int × Int} (x : TX h a t n) (A : AtC h a q) (hq : TkOK n q) (rm : RM h 1 7) (ha : 1 ≤ a) (ha2 : a ≤ 982) : Pz (m_X2_needNumber a lo hi h) (fun r => ((q.1 = 2 ∧ lo ≤ q.2.2.2 ∧ q.2.2.2 ≤ hi) ∧ r.1 = (0, q.2.2.2) ∧ F2 (nxW a) h r.2 ∧ AtC r.2 a (tk (Bt h t n) q.2.2.1)) ∨ (¬ (q.1 = 2 ∧ lo ≤ q.2.2.2 ∧ q.2.2.2 ≤ hi) ∧ Thr 432 q.2.1 h r)) := by
  unfold m_X2_needNumber
  rw [A.1]
  refine z_if (fun h1 => brkT rfl rfl rm ha ha2 A.2.1 (fun r hr => Or.inr ⟨fun z => h1 z.1, hr⟩)) (fun h1 => ?_)
  have h1 : q.1 = 2 := Classical.not_not.mp h1
  rw [A.2.2.2.2.2 (Or.inl h1)]
  refine z_if (fun h2 => brkT rfl rfl rm ha ha2 A.2.1 (fun r hr => Or.inr ⟨fun z => by omega, hr⟩)) (fun h2 => ?_)
  refine z_if (fun h3 => ?_) (fun h3 => brkT rfl rfl rm ha ha2 A.2.1 (fun r hr => Or.inr ⟨fun z => by omega, hr⟩))
  exact z_lt (z_bind (z_mono (c_next x A.2.2.1 (Int.le_trans hq.1 hq.2.2.1) (hq.2.2.2.1 (by omega))) (fun h' hh => z_some (Or.inl ⟨⟨h1, by omega, h3⟩, rfl, hh.1, hh.2⟩))))
theorem t_need {h : Hp} {a t n c : Int} {q : Int × Int × Int × Int} (x : TX h a t n) (A : AtT h a q) (hq : TkOK n q) (hc : isPl c = true) (rm : RM h 1 7) (ha : 1 ≤ a) (ha2 : a ≤ 982) : Pz (m_X20_need a c h) (fun r => ((q.1 = 4 ∧ q.2.2.2 = c) ∧ r.1 = (0, 0) ∧ F2 (nxW a) h r.2 ∧ AtT r.2 a (tk (Bt h t n) q.2.2.1)) ∨ (¬ (q.1 = 4 ∧ q.2.2.2 = c) ∧ Thr 448 q.2.1 h r)) := by
  unfold m_X20_need
  rw [q_X20_isByte A hc, Option.bind_some]
  by_cases hd : q.1 = 4 ∧ q.2.2.2 = c
  · rw [if_pos hd]
    refine z_it (by decide) (z_bind (z_mono (t_next x A.2.2.2.1 (Int.le_trans hq.1 hq.2.2.1) (hq.2.2.2.1 (by omega))) (fun h' hh => z_some (Or.inl ⟨hd, rfl, hh.1, hh.2⟩))))
  · rw [if_neg hd]
    exact z_ie (fun z => z rfl) (brkT rfl rfl rm ha ha2 A.2.1 (fun r hr => Or.inr ⟨hd, hr⟩))
theorem t_needNumber {h : Hp} {a t n lo hi : Int} {q : Int × Int × Int × Int} (x : TX h a t n) (A : AtT h a q) (hq : TkOK n q) (rm : RM h 1 7) (ha : 1 ≤ a) (ha2 : a ≤ 982) : Pz (m_X20_needNumber a lo hi h) (fun r => ((q.1 = 2 ∧ lo ≤ q.2.2.2 ∧ q.2.2.2 ≤ hi) ∧ r.1 = (0, q.2.2.2) ∧ F2 (nxW a) h r.2 ∧ AtT r.2 a (tk (Bt h t n) q.2.2.1)) ∨ (¬ (q.1 = 2 ∧ lo ≤ q.2.2.2 ∧ q.2.2.2 ≤ hi) ∧ Thr 448 q.2.1 h r)) := by
  unfold m_X20_needNumber
  rw [A.1]
  refine z_if (fun h1 => brkT rfl rfl rm ha ha2 A.2.1 (fun r hr => Or.inr ⟨fun z => h1 ((kTe (by omega) (by omega)).mpr z.1), hr⟩)) (fun h1 => ?_)
  have h1 : q.1 = 2 := (kTe (by omega) (by omega)).mp (Classical.not_not.mp h1)
  rw [A.2.2.2.2.1 h1]
  refine z_if (fun h2 => brkT rfl rfl rm ha ha2 A.2.1 (fun r hr => Or.inr ⟨fun z => by omega, hr⟩)) (fun h2 => ?_)
  refine z_if (fun h3 => ?_) (fun h3 => brkT rfl rfl rm ha ha2 A.2.1 (fun r hr => Or.inr ⟨fun z => by omega, hr⟩))
  exact z_lt (z_bind (z_mono (t_next x A.2.2.2.1 (Int.le_trans hq.1 hq.2.2.1) (hq.2.2.2.1 (by omega))) (fun h' hh => z_some (Or.inl ⟨⟨h1, by omega, h3⟩, rfl, hh.1, hh.2⟩))))
