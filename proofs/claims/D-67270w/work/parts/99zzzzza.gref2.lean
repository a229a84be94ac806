-- needs: 99zzzzz
set_option maxRecDepth 100000
/-! GATHERING: references, by the component -/
theorem g_274 {h : Hp} (hL : LAY h) : h 274 (-1) = 24064 := (hL.2.1 273 _ rfl).2
theorem m273 : (273 : Int) ∈ in_aX5 := by decide
theorem b5_gt {b a t : Int} : ∀ q j, b5W 273 q j → gtW b a t q j := fun q j z => by
  unfold b5W at z
  unfold gtW
  rcases z with z | z
  · exact Or.inr (Or.inr (Or.inr (Or.inr (Or.inr (Or.inl z)))))
  · exact Or.inr (Or.inr (Or.inr (Or.inr (Or.inr (Or.inr (Or.inl ⟨by omega, z.2⟩))))))
theorem tl_gt {b a t : Int} : ∀ q j, tlW a 273 q j → gtW b a t q j := fun q j z => by
  unfold tlW ttW at z
  rcases z with (z | z) | z | z
  · exact b5_gt q j z
  · exact Or.inr (Or.inr (Or.inl z))
  · exact Or.inr (Or.inr (Or.inr (Or.inl z)))
  · exact Or.inr (Or.inr (Or.inr (Or.inr (Or.inl z))))
theorem c_str5 {p : Hp} {v w cap : Int} {L B : List Int} (hs : strB w = some B) (hL : LAY p) (hb : v ∈ in_aX5) (D : bsL p v L) (hc : p (v + 1) (-1) = cap) (hl : (L.length : Int) + B.length ≤ cap) (hc2 : cap ≤ 100000) (by_ : ∀ c ∈ B, 0 ≤ c ∧ c ≤ 127) : Pz (m_X5_string v w p) (puts v p L B) := by
  have h2 := strB_l hs
  unfold m_X5_string
  refine z_lt (z_bind (z_mono (z_lp (Q := puts v p L B) (fun (q : Int × Hp) => ∃ x : Nat, q.1 = x ∧ x ≤ B.length ∧ F2 (b5W v) p q.2 ∧ bsL q.2 v (L ++ B.take x)) (fun q => ((B.length : Int) - q.1).toNat) ⟨0, rfl, Nat.zero_le _, F2.refl, by simpa using D⟩ ?_) (fun r hr => z_some hr)))
  rintro ⟨y, g⟩ ⟨x, ey, x1, Fg, Dg⟩
  dsimp only at ey Dg
  subst ey
  replace Fg : F2 (b5W v) p g := Fg
  have Lg := b5W_l hL hb Fg
  show Pz (m_X5_string_l2 v w x g) _
  unfold m_X5_string_l2
  rw [q_slen hs, Option.bind_some]
  by_cases hx : (B.length : Int) ≤ x
  · have : x = B.length := by omega
    subst this
    rw [List.take_length] at Dg
    exact z_it hx (z_some ⟨rfl, Fg, Dg⟩)
  · have hb2 : B[x]? = some B[x] := List.getElem?_eq_getElem (by omega)
    have rg := by_ _ (List.mem_of_getElem? hb2)
    refine z_ie hx ?_
    rw [q_sat hs hb2, Option.bind_some]
    have ck := cap_k Fg
    have lt : (B.take x).length = x := by rw [List.length_take]; omega
    refine puts_bT (c_add5 Lg hb Dg (by rw [ck, hc, List.length_append, lt]; omega) (by omega) (by omega) (by omega)) (fun p' f h => z_lt (z_some ?_))
    rw [e32 (by omega) (by omega)]
    refine ⟨⟨x + 1, by simp, by omega, Fg.trans f, ?_⟩, by dsimp only; omega⟩
    dsimp only
    rw [take_at hb2, ← List.append_assoc]
    exact h
theorem q_small14 {h : Hp} {b : Int} (hL : LAY h) (hb : b ∈ in_aX14) : m_X14_small b h = some (273, up h 273 1 0) ∧ bsL (up h 273 1 0) 273 [] ∧ F2 (b5W 273) h (up h 273 1 0) := by
  have hb' := rX14 hb
  have b0 : h b 0 = 256 := (ly_X14 hL hb).2.1.1
  have g0 : h 256 (-2) = 160 := (g10 hL).1
  have g4 : h 256 4 = 273 := by have := ly_X10 hL; simp_all
  refine ⟨?_, ⟨by rw [up_s]; rfl, rfl⟩, F2.refl.put (Or.inl ⟨rfl, rfl⟩)⟩
  unfold m_X14_small
  have b0' : up h 273 1 0 b 0 = 256 := by rw [up_a (by omega)]; exact b0
  have g0' : up h 273 1 0 256 (-2) = 160 := by rw [up_a (by decide)]; exact g0
  have g4' : up h 273 1 0 256 4 = 273 := by rw [up_a (by decide)]; exact g4
  rw [b0, g4, gd_t g0, gd_t (g_X5 hL m273), pt_e, b0', g4', gd_t g0']
/-- what was taken is noted -/
def tkC (h : Hp) (b : Int) (L : List (Int × Int × Int)) : Prop := h b 53 = L.length ∧ ∀ i : Int, 0 ≤ i → i < L.length → h (b + 51) i = tpB L i ∧ h (b + 52) i = tpZ L i ∧ h (b + 53) i = tpQ L i
def tnW (b : Int) : Int → Int → Prop := fun q j => (q = b ∧ j = 53) ∨ (b + 51 ≤ q ∧ q ≤ b + 53 ∧ 0 ≤ j)
theorem tn_gt {b a t : Int} : ∀ q j, tnW b q j → gtW b a t q j := fun q j z => by
  unfold tnW at z
  unfold gtW
  rcases z with z | z
  · exact Or.inr (Or.inl ⟨z.1, Or.inr z.2⟩)
  · exact Or.inr (Or.inr (Or.inr (Or.inr (Or.inr (Or.inr (Or.inr z))))))
theorem tkC.kept {h g : Hp} {b : Int} {L : List (Int × Int × Int)} (T : tkC h b L) (e : g b 53 = h b 53) (e2 : ∀ k, 51 ≤ k → k ≤ 53 → g (b + k) = h (b + k)) : tkC g b L := by
  unfold tkC at *
  rw [e, e2 51 (by decide) (by decide), e2 52 (by decide) (by decide), e2 53 (by decide) (by decide)]
  exact T
theorem c_takes {h : Hp} {b x e k : Int} {L : List (Int × Int × Int)} (hL : LAY h) (hb : b ∈ in_aX14) (T : tkC h b L) (hl : (L.length : Int) < 2320) : Pz (m_X14_takes b x e k h) (fun g => F2 (tnW b) h g ∧ tkC g b (L ++ [(x, e, k)])) := by
  have hb' := rX14 hb
  obtain ⟨t1, t2⟩ := T
  have lay : ∀ {g}, F2 (tnW b) h g → LAY g := fun f => gtW_l (a := 184) (t := 261) hL (by decide) hb (by decide) (f.mono tn_gt)
  unfold m_X14_takes
  have k50 := g_X14_50 hL hb
  simp only [k50.1, k50.2.1, k50.2.2, t1]
  refine z_gd ⟨by decide, by omega, by omega⟩ (z_pt ?_)
  have F1 : F2 (tnW b) h (up h (b + 51) L.length x) := F2.refl.put (by unfold tnW; omega)
  have n1 : up h (b + 51) L.length x b 53 = L.length := by rw [up_a (by omega)]; exact t1
  have v1 : up h (b + 51) L.length x (b + 51) L.length = x := up_s _ _ _ _
  have o1 : ∀ i : Int, 0 ≤ i → i < L.length → up h (b + 51) L.length x (b + 51) i = tpB L i ∧ up h (b + 51) L.length x (b + 52) i = tpZ L i ∧ up h (b + 51) L.length x (b + 53) i = tpQ L i := fun i i0 i1 => by
    rw [up_j (by omega), up_j (by omega), up_j (by omega)]; exact t2 i i0 i1
  generalize up h (b + 51) L.length x = g1 at F1 n1 v1 o1 ⊢
  have k51 := g_X14_51 (lay F1) hb
  simp only [k51.1, k51.2.1, k51.2.2, n1]
  refine z_gd ⟨by decide, by omega, by omega⟩ (z_pt ?_)
  have F2_ : F2 (tnW b) h (up g1 (b + 52) L.length e) := F1.put (by unfold tnW; omega)
  have n2 : up g1 (b + 52) L.length e b 53 = L.length := by rw [up_a (by omega)]; exact n1
  have v2 : up g1 (b + 52) L.length e (b + 51) L.length = x := by rw [up_a (by omega)]; exact v1
  have v2' : up g1 (b + 52) L.length e (b + 52) L.length = e := up_s _ _ _ _
  have o2 : ∀ i : Int, 0 ≤ i → i < L.length → up g1 (b + 52) L.length e (b + 51) i = tpB L i ∧ up g1 (b + 52) L.length e (b + 52) i = tpZ L i ∧ up g1 (b + 52) L.length e (b + 53) i = tpQ L i := fun i i0 i1 => by
    rw [up_j (by omega), up_j (by omega), up_j (by omega)]; exact o1 i i0 i1
  generalize up g1 (b + 52) L.length e = g2 at F2_ n2 v2 v2' o2 ⊢
  have k52 := g_X14_52 (lay F2_) hb
  simp only [k52.1, k52.2.1, k52.2.2, n2]
  refine z_gd ⟨by decide, by omega, by omega⟩ (z_pt (z_pt ?_))
  rw [show up g2 (b + 53) L.length k b 53 = L.length by rw [up_a (by omega)]; exact n2, e32 (x := (L.length : Int) + 1) (by omega) (by omega)]
  refine z_some ⟨(F2_.put (by unfold tnW; omega)).put (by unfold tnW; omega), ?_, fun i i0 i1 => ?_⟩
  · rw [up_s, List.length_append, List.length_singleton]
    omega
  · rw [List.length_append, List.length_singleton] at i1
    have ne : ∀ c, 1 ≤ c → ∀ v, up (up g2 (b + 53) L.length k) b 53 v (b + c) i = up g2 (b + 53) L.length k (b + c) i := fun c c0 v => up_a (by omega)
    rw [ne 51 (by decide), ne 52 (by decide), ne 53 (by decide)]
    by_cases hi : i = L.length
    · obtain ⟨p1, p2, p3⟩ := tp_new (x := (x, e, k)) hi
      rw [p1, p2, p3, hi, up_a (by omega), up_a (by omega), up_s]
      exact ⟨v2, v2', rfl⟩
    · obtain ⟨p1, p2, p3⟩ := tp_old (U := [(x, e, k)]) i0 (show i < L.length by omega)
      rw [p1, p2, p3]
      obtain ⟨u1, u2, u3⟩ := o2 i i0 (by omega)
      exact ⟨(up_a (by omega)).trans u1, (up_a (by omega)).trans u2, (up_j hi).trans u3⟩
