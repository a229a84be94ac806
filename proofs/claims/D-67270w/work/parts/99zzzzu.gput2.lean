-- needs: 99zzzzt 99zzr
set_option maxRecDepth 100000
/-! GATHERING: bytes come to a text -/
/-- n: counted, z: size; the text and the order -/
def tzP (n z : Int) (s : TXT × Int) (c : Int) : TXT × Int := (txP s.1 c z (if n = 0 then -1 else s.2), if n = 0 ∨ c = 10 ∨ c = 32 then s.2 else s.2 + 1)
def tzL (n z : Int) (s : TXT × Int) (L : List Int) : TXT × Int := L.foldl (tzP n z) s
theorem tzL_app {n z : Int} {s : TXT × Int} {L M : List Int} : tzL n z s (L ++ M) = tzL n z (tzL n z s L) M := List.foldl_append
theorem tzL_one {n z : Int} {s : TXT × Int} {c : Int} : tzL n z s [c] = tzP n z s c := rfl
theorem txP_len {s : TXT} {c z q : Int} : s.1.length ≤ (txP s c z q).1.length := by
  unfold txP
  split
  · exact Nat.le_refl _
  · simp only [List.length_append]; omega
theorem tzL_len {n z : Int} : ∀ (L : List Int) (s : TXT × Int), s.1.1.length ≤ (tzL n z s L).1.1.length ∧ s.2 ≤ (tzL n z s L).2 ∧ (tzL n z s L).2 ≤ s.2 + L.length
  | [], s => ⟨Nat.le_refl _, Int.le_refl _, by simp [tzL]⟩
  | c :: L, s => by
    have h := tzL_len (n := n) (z := z) L (tzP n z s c)
    have e : tzL n z s (c :: L) = tzL n z (tzP n z s c) L := rfl
    have h1 : s.1.1.length ≤ (tzP n z s c).1.1.length := txP_len
    have h2 : s.2 ≤ (tzP n z s c).2 ∧ (tzP n z s c).2 ≤ s.2 + 1 := by
      show s.2 ≤ (if n = 0 ∨ c = 10 ∨ c = 32 then s.2 else s.2 + 1) ∧ (if n = 0 ∨ c = 10 ∨ c = 32 then s.2 else s.2 + 1) ≤ s.2 + 1
      split <;> omega
    rw [e, List.length_cons]
    omega
/-- the component puts bytes -/
def PU (b t n z : Int) (h : Hp) (s : TXT × Int) (L : List Int) (r : (Int × Int) × Hp) : Prop := (r.1 = (0, 0) ∧ F2 (pbW b t) h r.2 ∧ txC r.2 t (tzL n z s L).1 ∧ r.2 b 27 = (tzL n z s L).2) ∨ (24000 < ((tzL n z s L).1.1.length : Int) ∧ TH (pbW b t) h r)
theorem pb_00 {b t : Int} {h g : Hp} (ht : t ∈ in_aX12) (hb : b ∈ in_aX14) (f : F2 (pbW b t) h g) : g 0 0 = h 0 0 ∧ g 0 1 = h 0 1 := by
  have ht' := aX12 ht
  have hb' := aX14' hb
  constructor <;> exact f _ _ (fun z => by unfold pbW txW at z; omega)
theorem pb_rm {b t : Int} {h g : Hp} {c s : Int} (rm : RM h c s) (ht : t ∈ in_aX12) (hb : b ∈ in_aX14) (f : F2 (pbW b t) h g) : RM g c s := by
  have ht' := aX12 ht
  have hb' := aX14' hb
  exact rmF rm f (fun j z => by unfold pbW txW at z; omega)
theorem TH.r1 {W : Int → Int → Prop} {h : Hp} {r : (Int × Int) × Hp} (x : TH W h r) : TH W h ((1, r.1.2), r.2) := by
  have e := x.one
  rcases r with ⟨⟨r1, r2⟩, r3⟩
  dsimp only at e ⊢
  rw [e] at x
  exact x
/-- one after the other -/
theorem PU.step {b t n z : Int} {h g : Hp} {s : TXT × Int} {L M : List Int} {r : (Int × Int) × Hp} (ht : t ∈ in_aX12) (hb : b ∈ in_aX14) (f : F2 (pbW b t) h g) (p : PU b t n z g (tzL n z s L) M r) : PU b t n z h s (L ++ M) r := by
  unfold PU at p ⊢
  rw [tzL_app]
  rcases p with ⟨a1, a2, a3, a4⟩ | ⟨a1, a2⟩
  · exact Or.inl ⟨a1, f.trans a2, a3, a4⟩
  · exact Or.inr ⟨a1, TH.after f (by rw [(pb_00 ht hb f).1]; exact Int.le_refl _) a2⟩
theorem PU.bad {b t n z : Int} {h : Hp} {s : TXT × Int} {L M : List Int} {r : (Int × Int) × Hp} (hl : 24000 < ((tzL n z s L).1.1.length : Int)) (x : TH (pbW b t) h r) : PU b t n z h s (L ++ M) ((1, r.1.2), r.2) := by
  refine Or.inr ⟨?_, x.r1⟩
  rw [tzL_app]
  have := (tzL_len (n := n) (z := z) M (tzL n z s L)).1
  omega
theorem c_putAll14 {h : Hp} {b t v z n : Int} {s : TXT × Int} {L : List Int} (hL : LAY h) (ht : t ∈ in_aX12) (hb : b ∈ in_aX14) (hv : v ∈ in_aX5) (hv2 : v = 273 ∨ v < 260) (cap : (L.length : Int) ≤ h (v + 1) (-1)) (rm : RM h 1 6) (X : txC h t s.1) (D : bsL h v L) (by_ : ∀ c ∈ L, 0 ≤ c ∧ c ≤ 127) (z0 : 0 ≤ z) (eo : h b 27 = s.2) (o0 : 0 ≤ s.2 ∧ s.2 + L.length ≤ 1000000000) :
    Pz (m_X14_putAll b t v z n h) (PU b t n z h s L) := by
  have ht' := aX12 ht
  have hb' := aX14' hb
  unfold m_X14_putAll
  refine z_lt (z_bind (z_mono (z_lp (Q := PU b t n z h s L) (fun (q : Int × Hp) => ∃ x : Nat, q.1 = x ∧ x ≤ L.length ∧ F2 (pbW b t) h q.2 ∧ txC q.2 t (tzL n z s (L.take x)).1 ∧ q.2 b 27 = (tzL n z s (L.take x)).2) (fun q => ((L.length : Int) - q.1).toNat) ⟨0, rfl, Nat.zero_le _, F2.refl, X, eo⟩ ?_) (fun r hr => z_some hr)))
  rintro ⟨y, g⟩ ⟨x, ey, x1, Fg, Xg, og⟩
  dsimp only at ey Xg og
  subst ey
  replace Fg : F2 (pbW b t) h g := Fg
  have Lg := pbW_l hL ht hb Fg
  have k5 := ly_X5 Lg hv
  have D' : bsL g v L := D.kept (Fg _ _ (by unfold pbW txW; omega)) (Fg.row (fun j z => by unfold pbW txW at z; omega))
  have cap' : g (v + 1) (-1) = h (v + 1) (-1) := Fg _ _ (by unfold pbW txW; omega)
  show Pz (m_X14_putAll_l3 b t v z n x g) _
  unfold m_X14_putAll_l3
  simp only [k5.1, k5.2, D'.1]
  refine z_gd trivial ?_
  by_cases hx : (L.length : Int) ≤ x
  · have : x = L.length := by omega
    subst this
    rw [List.take_length] at Xg og
    exact z_it hx (z_some (Or.inl ⟨rfl, Fg, Xg, og⟩))
  · have ex := (wd_eq rfl).mp D'.2 x (by omega)
    rw [Int.zero_add] at ex
    have rg := by_ _ (List.mem_of_getElem? ex)
    have tk := take_at ex
    have ln := tzL_len (n := n) (z := z) (L.take x) s
    have lt : ((L.take x).length : Int) ≤ L.length := by rw [List.length_take]; omega
    refine z_ie hx (z_gd ⟨by decide, by omega, by omega⟩ (z_bT (z_mono (c_put14 (n := n) (z := z) Lg ht hb (pb_rm rm ht hb Fg) Xg (by omega) (by omega) z0 og (by omega)) (fun r hr => ?_))))
    rcases hr with ⟨e, f, X', o'⟩ | ⟨hl, xx⟩
    · refine Or.inl ⟨by rw [e], z_lt (z_some ?_)⟩
      rw [e32 (by omega) (by omega)]
      refine ⟨⟨x + 1, by simp, by omega, Fg.trans f, ?_, ?_⟩, by dsimp only; omega⟩
      · dsimp only
        rw [tk, tzL_app]; exact X'
      · dsimp only
        rw [tk, tzL_app]; exact o'
    · refine Or.inr ⟨by rw [xx.one]; decide, z_some ?_⟩
      have e2 : L = L.take (x + 1) ++ L.drop (x + 1) := (List.take_append_drop _ _).symm
      show PU b t n z h s L ((1, r.1.2), r.2)
      rw [e2]
      refine PU.bad ?_ (TH.after Fg (by rw [(pb_00 ht hb Fg).1]; exact Int.le_refl _) xx)
      rw [tk, tzL_app]; exact hl
