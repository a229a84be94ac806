-- needs: 99zzzk
set_option maxRecDepth 100000
/-! BREAKS: the reference notes one -/
def pgT (h : Hp) (s p F n : Int) (B Z : Int → Int) : Prop := (h (s + 53) p = F ∧ h (s + 54) p = F + n) ∧ (0 ≤ p ∧ p < 1200 ∧ 0 ≤ F ∧ 0 ≤ n ∧ F + n ≤ 24000) ∧ (∀ i, 0 ≤ i → i < n → h (s + 50) (F + i) = B i ∧ h (s + 51) (F + i) = Z i) ∧ txO B Z 0 n
theorem pgT.kept {h h' : Hp} {s p F n : Int} {B Z : Int → Int} (C : pgT h s p F n B Z) (e : ∀ b, s + 50 ≤ b → b ≤ s + 54 → h' b = h b) : pgT h' s p F n B Z := by
  unfold pgT at *
  rw [e (s + 53) (by omega) (by omega), e (s + 54) (by omega) (by omega), e (s + 50) (by omega) (by omega), e (s + 51) (by omega) (by omega)]
  exact C
/-- breaks L are noted from β on -/
def bkT (h : Hp) (s p F β : Int) (W : Int → Int) (K J : Int → Int → Int) (B Z : Int → Int) (L : List (Int × Int)) : Prop := h (s + 58) p = L.length ∧ h (s + 59) p = β ∧ ∀ b : Int, 1 ≤ b → b ≤ L.length → h (s + 66) (β + b - 1) = (bkAt L b).1 ∧ h (s + 67) (β + b - 1) = F + (bkAt L b).2 ∧ h (s + 68) (β + b - 1) = bkP W K J B Z L b ∧ h (s + 69) (β + b - 1) = bkG W Z L b ∧ h (s + 70) (β + b - 1) = bkH W Z L b
def bzV (s y : Int) : Int → Int → Prop := fun b j => s + 66 ≤ b ∧ b ≤ s + 70 ∧ j = y
def bzW (s p y : Int) : Int → Int → Prop := fun b j => (b = s + 58 ∧ j = p) ∨ (s + 66 ≤ b ∧ b ≤ s + 70 ∧ j = y)
theorem rgS {s : Int} (hs : s ∈ in_aX25) : ([(s + 50, s + 143), (s + 144, s + 144), (s + 151, s + 153)] : List (Int × Int)).all rgA = true := by
  rcases aX25 hs with rfl | rfl <;> decide +kernel
/-- the reference writes in its rows -/
theorem seW_l {W : Int → Int → Prop} {h h' : Hp} {s : Int} (hL : LAY h) (hs : s ∈ in_aX25) (f : F2 W h h') (hW : ∀ b j, W b j → s + 50 ≤ b ∧ b ≤ s + 144 ∧ 0 ≤ j) : LAY h' :=
  lay_W hL f _ [] (rgS hs) rfl (fun b j z => by
    obtain ⟨z1, z2, z3⟩ := hW b j z
    refine ⟨z3, Or.inl ?_⟩
    by_cases hb : b ≤ s + 143
    · exact ⟨_, List.mem_cons_self, by dsimp only; omega, by dsimp only; omega⟩
    · exact ⟨_, List.mem_cons_of_mem _ List.mem_cons_self, by dsimp only; omega, by dsimp only; omega⟩)
theorem exc0' {h : Hp} {K : Int} {Q : (Int × Int) × Hp → Prop} (rm : RM h 1 6) (k : ∀ r, Thy K h r → Q r) : Pz (al h K 6 fun a4 h4 => (x_init0 a4 h4).bind fun h8 => some ((1, a4), h8)) Q := by
  refine z_mono (exc0 (Q := Thy K h) rm (fun r r1 r2 r3 r4 r5 r6 r7 => ⟨r1, r2, r3, r4, r5, r6, r7⟩)) k
theorem bk_old {W : Int → Int} {K J : Int → Int → Int} {B Z : Int → Int} {L M : List (Int × Int)} {b : Int} (b0 : 1 ≤ b) (b1 : b ≤ L.length) : bkP W K J B Z (L ++ M) b = bkP W K J B Z L b ∧ bkG W Z (L ++ M) b = bkG W Z L b ∧ bkH W Z (L ++ M) b = bkH W Z L b := by
  unfold bkP bkG bkH
  rw [bkAt_old b0 b1, bkN_old (by omega) (by omega)]
  exact ⟨rfl, rfl, rfl⟩
theorem bk_new {W : Int → Int} {K J : Int → Int → Int} {B Z : Int → Int} {L : List (Int × Int)} {κ e b : Int} (eb : b = L.length + 1) : bkP W K J B Z (L ++ [(κ, e)]) b = wdS W K J B Z (bkN L L.length) e ∧ bkG W Z (L ++ [(κ, e)]) b = (if κ = 0 then shrW (Z e) (W 32) else 0) ∧ bkH W Z (L ++ [(κ, e)]) b = (if κ = 1 then shrW (Z (e - 1)) (W 45) else 0) := by
  unfold bkP bkG bkH
  rw [bkAt_last eb, bkN_old (by omega) (by omega), show b - 1 = (L.length : Int) by omega]
  exact ⟨rfl, rfl, rfl⟩
theorem t_breaksAt {h : Hp} {s l p F n β κ e : Int} {W : Int → Int} {K J : Int → Int → Int} {B Z : Int → Int} {L : List (Int × Int)} (hL : LAY h) (rm : RM h 1 6) (hs : s ∈ in_aX25) (hl : l ∈ in_aX19) (es : h s 2 = l) (Rf : foR W K J) (Ft : foT h l W K J) (C : pgT h s p F n B Z) (T : bkT h s p F β W K J B Z L) (β0 : 0 ≤ β) (βn : β + L.length < 25208) (l6 : (L.length : Int) ≤ 600)
    (ne : bkN L L.length ≤ e) (n0 : 0 ≤ bkN L L.length) (en : e ≤ n) (k0 : κ = 0 → e < n) (k1 : κ = 1 → 1 ≤ e) (κ0 : 0 ≤ κ) (κ3 : κ ≤ 3) :
    Pz (m_X25_breaksAt s p κ (F + e) (F + bkN L L.length) (F + e) h) (fun r => (r.1 = (0, 0) ∧ (L.length : Int) < 600 ∧ F2 (bzW s p (β + L.length)) h r.2 ∧ bkT r.2 s p F β W K J B Z (L ++ [(κ, e)])) ∨ (600 ≤ (L.length : Int) ∧ Thy 464 h r)) := by
  have hs' : 671 ≤ s ∧ s ≤ 825 := by have := aX25 hs; omega
  have hl' : 497 ≤ l ∧ l ≤ 505 := by have := aX19 hl; omega
  obtain ⟨⟨p1, p2⟩, ⟨p3, p4, p5, p6, p7⟩, p8, p9⟩ := id C
  obtain ⟨t1, t2, t3⟩ := id T
  unfold m_X25_breaksAt
  have c15 := g_X25_15 hL hs
  have c16 := g_X25_16 hL hs
  have c23 := g_X25_23 hL hs
  simp only [c15, c16, c23, t1, t2]
  refine z_gd ⟨by decide, p3, by omega⟩ ?_
  by_cases h6 : (L.length : Int) = 600
  · rw [if_neg (fun z => z h6)]
    exact exc0' rm (fun r hr => Or.inr ⟨by omega, hr⟩)
  rw [if_pos h6]
  refine z_gd ⟨by decide, p3, by omega⟩ (z_lt ?_)
  rw [e32 (x := β + (L.length : Int)) (by omega) (by omega)]
  obtain ⟨ew, wr⟩ : ∃ w, w = wdS W K J B Z (bkN L L.length) e := ⟨_, rfl⟩
  have keep : ∀ {g}, F2 (bzV s (β + L.length)) h g → LAY g ∧ g s 2 = l ∧ foT g l W K J ∧ pgT g s p F n B Z := fun {g} Fg => by
    have Lg := seW_l hL hs Fg (fun b j z => by unfold bzV at z; omega)
    refine ⟨Lg, by rw [Fg s 2 (fun z => by unfold bzV at z; omega)]; exact es, ?_, C.kept (fun b b0 b1 => Fg.row (fun j z => by unfold bzV at z; omega))⟩
    unfold foT at *
    rw [Fg.row (b := l + 1) (fun j z => by unfold bzV at z; omega)]
    refine ⟨Ft.1, fun a b a0 a1 b0 b1 => ?_⟩
    obtain ⟨f1, f2⟩ := Ft.2 a b a0 a1 b0 b1
    have rr : ∀ c, l ≤ c → c ≤ l + 7 → g c = h c := fun c c0 c1 => Fg.row (fun j z => by unfold bzV at z; omega)
    have k19 := ly_X19 hL hl
    have fd : ∀ c x y, l ≤ c → c ≤ l + 7 → m_X19_find c x y g = m_X19_find c x y h := fun c x y c0 c1 => by unfold m_X19_find m_X19_find_l2; rw [rr c c0 c1]
    constructor
    · rw [← f1]; unfold m_X19_kernOf
      rw [rr l (by omega) (by omega), k19.2.2.2.1.1, k19.2.2.2.2.1.1, fd (l + 3) _ _ (by omega) (by omega), rr (l + 4) (by omega) (by omega)]
    · rw [← f2]; unfold m_X19_joinOf
      rw [rr l (by omega) (by omega), k19.2.2.2.2.2.1.1, k19.2.2.2.2.2.2.1.1, fd (l + 5) _ _ (by omega) (by omega), rr (l + 6) (by omega) (by omega)]
  refine z_gd ⟨by decide, by omega, by omega⟩ (z_pt ?_)
  generalize hy : β + (L.length : Int) = y at *
  have F1 : F2 (bzV s y) h (up h (s + 66) y κ) := F2.refl.put ⟨by omega, by omega, rfl⟩
  have v1 : up h (s + 66) y κ (s + 66) y = κ := up_s _ _ _ _
  generalize up h (s + 66) y κ = g1 at F1 v1 ⊢
  obtain ⟨L1, -⟩ := keep F1
  have c24 := g_X25_24 L1 hs
  simp only [c24]
  refine z_gd ⟨by decide, by omega, by omega⟩ (z_pt ?_)
  have F2_ : F2 (bzV s y) h (up g1 (s + 67) y (F + e)) := F1.put ⟨by omega, by omega, rfl⟩
  have v1' : up g1 (s + 67) y (F + e) (s + 66) y = κ := by rw [up_a (by omega)]; exact v1
  have v2 : up g1 (s + 67) y (F + e) (s + 67) y = F + e := up_s _ _ _ _
  clear F1 L1 v1
  generalize up g1 (s + 67) y (F + e) = g2 at F2_ v1' v2 ⊢
  obtain ⟨L2, s2, Ft2, C2⟩ := keep F2_
  obtain ⟨ewd, -⟩ := t_wide (t := F) (a := bkN L L.length) (c := e) L2 hs hl s2 Rf Ft2 (fun i i0 i1 => p9 i (by omega) (by omega)) (by omega) (by omega) ne (fun i i0 i1 => C2.2.2.1 i (by omega) (by omega))
  rw [ewd, Option.bind_some]
  have c25 := g_X25_25 L2 hs
  simp only [c25]
  refine z_gd ⟨by decide, by omega, by omega⟩ (z_pt ?_)
  have F3 : F2 (bzV s y) h (up g2 (s + 68) y (wdS W K J B Z (bkN L L.length) e)) := F2_.put ⟨by omega, by omega, rfl⟩
  have v1 : up g2 (s + 68) y (wdS W K J B Z (bkN L L.length) e) (s + 66) y = κ := by rw [up_a (by omega)]; exact v1'
  have v2' : up g2 (s + 68) y (wdS W K J B Z (bkN L L.length) e) (s + 67) y = F + e := by rw [up_a (by omega)]; exact v2
  have v3 : up g2 (s + 68) y (wdS W K J B Z (bkN L L.length) e) (s + 68) y = wdS W K J B Z (bkN L L.length) e := up_s _ _ _ _
  clear F2_ L2 v1' v2 ewd c25 s2 Ft2 C2
  generalize up g2 (s + 68) y (wdS W K J B Z (bkN L L.length) e) = g3 at F3 v1 v2' v3 ⊢
  obtain ⟨L3, s3, Ft3, C3⟩ := keep F3
  -- the hyphen
  have hyp : ∀ g' G, F2 (bzV s y) h g' → g' (s + 66) y = κ → g' (s + 67) y = F + e → g' (s + 68) y = wdS W K J B Z (bkN L L.length) e → G = (if κ = 0 then shrW (Z e) (W 32) else 0) → Pz (m_X25_breaksAt_j103 y s p κ (F + e) (s + 69) G g') (fun r => (r.1 = (0, 0) ∧ (L.length : Int) < 600 ∧ F2 (bzW s p y) h r.2 ∧ bkT r.2 s p F β W K J B Z (L ++ [(κ, e)])) ∨ (600 ≤ (L.length : Int) ∧ Thy 464 h r)) := by
    intro g' G F' w1 w2 w3 hG
    obtain ⟨L', s', Ft', C'⟩ := keep F'
    have c26 := g_X25_26 L' hs
    unfold m_X25_breaksAt_j103
    simp only [c26]
    refine z_gd ⟨by decide, by omega, by omega⟩ (z_pt ?_)
    have F4 : F2 (bzV s y) h (up g' (s + 69) y G) := F'.put ⟨by omega, by omega, rfl⟩
    have u1 : up g' (s + 69) y G (s + 66) y = κ := by rw [up_a (by omega)]; exact w1
    have u2 : up g' (s + 69) y G (s + 67) y = F + e := by rw [up_a (by omega)]; exact w2
    have u3 : up g' (s + 69) y G (s + 68) y = wdS W K J B Z (bkN L L.length) e := by rw [up_a (by omega)]; exact w3
    have u4 : up g' (s + 69) y G (s + 69) y = G := up_s _ _ _ _
    generalize up g' (s + 69) y G = g4 at F4 u1 u2 u3 u4 ⊢
    obtain ⟨L4, s4, Ft4, C4⟩ := keep F4
    have fin : ∀ H, H = (if κ = 1 then shrW (Z (e - 1)) (W 45) else 0) → Pz (m_X25_breaksAt_j144 s p y (s + 70) H g4) (fun r => (r.1 = (0, 0) ∧ (L.length : Int) < 600 ∧ F2 (bzW s p y) h r.2 ∧ bkT r.2 s p F β W K J B Z (L ++ [(κ, e)])) ∨ (600 ≤ (L.length : Int) ∧ Thy 464 h r)) := by
      intro H hH
      unfold m_X25_breaksAt_j144
      have c27 := g_X25_27 L4 hs
      simp only [c27]
      refine z_gd ⟨by decide, by omega, by omega⟩ (z_pt ?_)
      have F5 : F2 (bzV s y) h (up g4 (s + 70) y H) := F4.put ⟨by omega, by omega, rfl⟩
      have x1 : up g4 (s + 70) y H (s + 66) y = κ := by rw [up_a (by omega)]; exact u1
      have x2 : up g4 (s + 70) y H (s + 67) y = F + e := by rw [up_a (by omega)]; exact u2
      have x3 : up g4 (s + 70) y H (s + 68) y = wdS W K J B Z (bkN L L.length) e := by rw [up_a (by omega)]; exact u3
      have x4 : up g4 (s + 70) y H (s + 69) y = G := by rw [up_a (by omega)]; exact u4
      have x5 : up g4 (s + 70) y H (s + 70) y = H := up_s _ _ _ _
      generalize up g4 (s + 70) y H = g5 at F5 x1 x2 x3 x4 x5 ⊢
      obtain ⟨L5, -⟩ := keep F5
      have c15' := g_X25_15 L5 hs
      have q15 : g5 (s + 58) p = L.length := by rw [F5 (s + 58) p (fun z => by unfold bzV at z; omega)]; exact t1
      have q16 : g5 (s + 59) p = β := by rw [F5 (s + 59) p (fun z => by unfold bzV at z; omega)]; exact t2
      simp only [c15', q15]
      rw [e32 (x := (L.length : Int) + 1) (by omega) (by omega)]
      refine z_gd ⟨by decide, p3, by omega⟩ (z_pt (z_some (Or.inl ⟨rfl, by omega, ?_, ?_⟩)))
      · exact (F5.mono (fun b j z => Or.inr z)).put (Or.inl ⟨rfl, rfl⟩)
      · have ll : (((L ++ [(κ, e)]).length : Nat) : Int) = L.length + 1 := by rw [List.length_append]; rfl
        refine ⟨?_, ?_, fun b b0 b1 => ?_⟩ <;> dsimp only
        · rw [up_s, ll]
        · rw [up_a (by omega)]; exact q16
        · rw [up_a (by omega), up_a (by omega), up_a (by omega), up_a (by omega), up_a (by omega)]
          rw [ll] at b1
          by_cases hb : b ≤ L.length
          · obtain ⟨o1, o2, o3⟩ := bk_old (W := W) (K := K) (J := J) (B := B) (Z := Z) (M := [(κ, e)]) b0 hb
            rw [bkAt_old b0 hb, o1, o2, o3]
            have hb2 : β + b - 1 ≠ y := by omega
            rw [F5 _ _ (fun z => hb2 z.2.2), F5 _ _ (fun z => hb2 z.2.2), F5 _ _ (fun z => hb2 z.2.2), F5 _ _ (fun z => hb2 z.2.2), F5 _ _ (fun z => hb2 z.2.2)]
            exact t3 b b0 hb
          · have eb : b = L.length + 1 := by omega
            obtain ⟨o1, o2, o3⟩ := bk_new (W := W) (K := K) (J := J) (B := B) (Z := Z) (κ := κ) (e := e) eb
            rw [bkAt_last eb, o1, o2, o3, show β + b - 1 = y by omega, x1, x2, x3, x4, x5, ← hG, ← hH]
            exact ⟨rfl, rfl, rfl, rfl, rfl⟩
    by_cases h1 : κ = 1
    · rw [if_neg (fun z => z h1)]
      have c6 := g_X25_6 L4 hs
      have c27 := g_X25_27 L4 hs
      have k19 := ly_X19 L4 hl
      obtain ⟨-, -, z0, z1⟩ := p9 (e - 1) (by have := k1 h1; omega) (by omega)
      have w := Rf.1 45 (by decide) (by decide)
      have mm := mul_r z0 z1 w.1 w.2
      have td := td_r (m := 500000) mm.1 (by omega)
      have sv : shrW (Z (e - 1)) (W 45) = Int.tdiv (Z (e - 1) * W 45) 1000 := by unfold shrW; rw [if_pos w.1]
      simp only [c6, s4, k19.1, k19.2.1, Ft4.1 45 (by decide) (by decide), c27.1]
      rw [e32 (x := F + e - 1) (by omega) (by omega), show F + e - 1 = F + (e - 1) by omega, (C4.2.2.1 (e - 1) (by have := k1 h1; omega) (by omega)).2, e64 (x := Z (e - 1) * W 45) (by omega) (by omega), e64 (x := Int.tdiv (Z (e - 1) * W 45) 1000) (by omega) (by omega), ← sv]
      refine z_gd ⟨by decide, by have := k1 h1; omega, by omega⟩ (z_gd trivial (z_gd ⟨by decide, by decide, by decide⟩ ?_))
      exact fin _ (by rw [if_pos h1])
    · rw [if_pos h1, (g_X25_27 L4 hs).1]
      exact fin 0 (by rw [if_neg h1])
  by_cases h0 : κ = 0
  · rw [if_neg (fun z => z h0)]
    have c6 := g_X25_6 L3 hs
    have c26 := g_X25_26 L3 hs
    have k19 := ly_X19 L3 hl
    obtain ⟨-, -, z0, z1⟩ := p9 e (by omega) (k0 h0)
    have w := Rf.1 32 (by decide) (by decide)
    have mm := mul_r z0 z1 w.1 w.2
    have td := td_r (m := 500000) mm.1 (by omega)
    have sv : shrW (Z e) (W 32) = Int.tdiv (Z e * W 32) 1000 := by unfold shrW; rw [if_pos w.1]
    simp only [c6, s3, k19.1, k19.2.1, Ft3.1 32 (by decide) (by decide), c26.1]
    rw [(C3.2.2.1 e (by omega) (k0 h0)).2, e64 (x := Z e * W 32) (by omega) (by omega), e64 (x := Int.tdiv (Z e * W 32) 1000) (by omega) (by omega), ← sv]
    refine z_gd ⟨by decide, by omega, by omega⟩ (z_gd trivial (z_gd ⟨by decide, by decide, by decide⟩ ?_))
    exact hyp g3 _ F3 v1 v2' v3 (by rw [if_pos h0])
  · rw [if_pos h0, (g_X25_26 L3 hs).1]
    exact hyp g3 0 F3 v1 v2' v3 (by rw [if_neg h0])
