-- needs: 99zzzn
set_option maxRecDepth 100000
/-! BREAKS: the reference parts a paragraph: all of it -/
def brW (s p β : Int) : Int → Int → Prop := fun b j => (b = s + 58 ∧ j = p) ∨ (s + 66 ≤ b ∧ b ≤ s + 70 ∧ β ≤ j)
theorem foT.kept {h h' : Hp} {l : Int} {W : Int → Int} {K J : Int → Int → Int} (hL : LAY h) (hl : l ∈ in_aX19) (Ft : foT h l W K J) (rr : ∀ c, l ≤ c → c ≤ l + 7 → h' c = h c) : foT h' l W K J := by
  unfold foT at *
  rw [rr (l + 1) (by omega) (by omega)]
  refine ⟨Ft.1, fun a b a0 a1 b0 b1 => ?_⟩
  obtain ⟨f1, f2⟩ := Ft.2 a b a0 a1 b0 b1
  have k19 := ly_X19 hL hl
  have fd : ∀ c x y, l ≤ c → c ≤ l + 7 → m_X19_find c x y h' = m_X19_find c x y h := fun c x y c0 c1 => by unfold m_X19_find m_X19_find_l2; rw [rr c c0 c1]
  constructor
  · rw [← f1]; unfold m_X19_kernOf
    rw [rr l (by omega) (by omega), k19.2.2.2.1.1, k19.2.2.2.2.1.1, fd (l + 3) _ _ (by omega) (by omega), rr (l + 4) (by omega) (by omega)]
  · rw [← f2]; unfold m_X19_joinOf
    rw [rr l (by omega) (by omega), k19.2.2.2.2.2.1.1, k19.2.2.2.2.2.2.1.1, fd (l + 5) _ _ (by omega) (by omega), rr (l + 6) (by omega) (by omega)]
theorem t_bkLoop {h : Hp} {s l p F n β hy : Int} {W : Int → Int} {K J : Int → Int → Int} {B Z : Int → Int} {PL : Int → Prop} (hL : LAY h) (rm : RM h 1 6) (hs : s ∈ in_aX25) (hl : l ∈ in_aX19) (es : h s 2 = l) (Rf : foR W K J) (Ft : foT h l W K J) (C : pgT h s p F n B Z) (T : bkT h s p F β W K J B Z []) (β0 : 0 ≤ β) (βn : β + n + 2 < 25208)
    (hp : ∀ i, PL i → 1 ≤ i ∧ isLt (B (i - 1)) = true) (mk : ∀ i, 0 ≤ i → i < n → is01 (h (s + 131) (F + i)) (hy ≠ 0 ∧ PL i)) :
    Pz (lp (fun (q : Int × Int × Hp) => m_X25_part_l206 s p q.1 q.2.1 q.2.2) (F, F, h)) (sE (fun (r : Int × Hp) => r.1 = F + bkN (bkL B hy PL n.toNat) (bkL B hy PL n.toNat).length ∧ F2 (brW s p β) h r.2 ∧ bkT r.2 s p F β W K J B Z (bkL B hy PL n.toNat) ∧ ((bkL B hy PL n.toNat).length : Int) ≤ 600) (fun r => 600 < ((bkL B hy PL n.toNat).length : Int) ∧ ∃ g, F2 (brW s p β) h g ∧ Thy 464 g r)) := by
  have hs' : 671 ≤ s ∧ s ≤ 825 := by have := aX25 hs; omega
  have hl' : 497 ≤ l ∧ l ≤ 505 := by have := aX19 hl; omega
  obtain ⟨⟨p1, p2⟩, ⟨p3, p4, p5, p6, p7⟩, p8, p9⟩ := id C
  have keep : ∀ {g}, F2 (brW s p β) h g → LAY g ∧ pgT g s p F n B Z ∧ RM g 1 6 ∧ g s 2 = l ∧ foT g l W K J ∧ g (s + 131) = h (s + 131) := fun {g} Fg => ⟨seW_l hL hs Fg (fun b j z => by unfold brW at z; omega), C.kept (fun b b0 b1 => Fg.row (fun j z => by unfold brW at z; omega)), rmF rm Fg (fun j z => by unfold brW at z; omega), by rw [Fg s 2 (fun z => by unfold brW at z; omega)]; exact es, Ft.kept hL hl (fun c c0 c1 => Fg.row (fun j z => by unfold brW at z; omega)), Fg.row (fun j z => by unfold brW at z; omega)⟩
  have hp1 : ∀ i, PL i → 1 ≤ i := fun i z => (hp i z).1
  have hp2 : ∀ i, PL i → isLt (B (i - 1)) = true := fun i z => (hp i z).2
  refine z_lp (fun (q : Int × Int × Hp) => ∃ k, q.2.1 = F + k ∧ 0 ≤ k ∧ k ≤ n ∧ q.1 = F + bkN (bkR B hy PL n k) (bkR B hy PL n k).length ∧ F2 (brW s p β) h q.2.2 ∧ bkT q.2.2 s p F β W K J B Z (bkR B hy PL n k) ∧ ((bkR B hy PL n k).length : Int) ≤ 600) (fun q => (F + n - q.2.1).toNat) ⟨0, (Int.add_zero _).symm, Int.le_refl _, p6, ?_, F2.refl, by rw [bkR_0 hp1]; exact T, by rw [bkR_0 hp1]; decide⟩ ?_
  · rw [bkR_0 hp1]; exact (Int.add_zero _).symm
  rintro ⟨st, x, g⟩ ⟨k, ex, k0, k1, est, Fg, G, l6⟩
  dsimp only at ex est G
  replace Fg : F2 (brW s p β) h g := Fg
  obtain ⟨Lg, Cg, rg, sg2, Fg', mg⟩ := keep Fg
  obtain ⟨o1, o2, o3⟩ := bkR_o (B := B) (hy := hy) (PL := PL) hp1 k0 k1
  show Pz (m_X25_part_l206 s p st x g) _
  have c11 := g_X25_11 Lg hs
  have c5 := g_X25_5 Lg hs
  have c102 := g_X25_102 Lg hs
  unfold m_X25_part_l206
  simp only [c11, Cg.1.2, c5, ex]
  refine z_gd ⟨by decide, p3, by omega⟩ ?_
  by_cases hn : n ≤ k
  · rw [if_pos (by omega)]
    have : k = n := by omega
    subst this
    rw [bkR_n] at est G l6
    exact z_some ⟨est, Fg, G, l6⟩
  rw [if_neg (by omega), e32 (x := F + k + 1) (by omega) (by omega)]
  -- go on with k + 1
  have next : ∀ g' st', F2 (brW s p β) h g' → bkT g' s p F β W K J B Z (bkR B hy PL n (k + 1)) → ((bkR B hy PL n (k + 1)).length : Int) ≤ 600 → st' = F + bkN (bkR B hy PL n (k + 1)) (bkR B hy PL n (k + 1)).length → Pz (m_X25_part_j359 (F + k) st' g') (sE (fun (q : Int × Int × Hp) => (∃ k, q.2.1 = F + k ∧ 0 ≤ k ∧ k ≤ n ∧ q.1 = F + bkN (bkR B hy PL n k) (bkR B hy PL n k).length ∧ F2 (brW s p β) h q.2.2 ∧ bkT q.2.2 s p F β W K J B Z (bkR B hy PL n k) ∧ ((bkR B hy PL n k).length : Int) ≤ 600) ∧ (F + n - q.2.1).toNat < (F + n - (F + k)).toNat) (sE (fun (r : Int × Hp) => r.1 = F + bkN (bkL B hy PL n.toNat) (bkL B hy PL n.toNat).length ∧ F2 (brW s p β) h r.2 ∧ bkT r.2 s p F β W K J B Z (bkL B hy PL n.toNat) ∧ ((bkL B hy PL n.toNat).length : Int) ≤ 600) (fun r => 600 < ((bkL B hy PL n.toNat).length : Int) ∧ ∃ g, F2 (brW s p β) h g ∧ Thy 464 g r))) := by
    intro g' st' F' T' l6' e'
    unfold m_X25_part_j359
    refine z_lt ?_
    rw [e32 (x := F + k + 1) (by omega) (by omega)]
    exact z_some ⟨⟨k + 1, by dsimp only; omega, by omega, by omega, e', F', T', l6'⟩, by dsimp only; omega⟩
  -- a break is told
  have tell : ∀ κ e, (κ = 0 ∧ e = k ∨ (κ = 1 ∨ κ = 2) ∧ e = k + 1 ∧ e < n) → bkR B hy PL n (k + 1) = bkR B hy PL n k ++ [(κ, e)] → Pz (bT (m_X25_breaksAt s p κ (F + e) st (F + e) g) (fun _ h271 => lt_ (w32 (F + k + 1)) fun x3_278 => m_X25_part_j359 (F + k) x3_278 h271) (fun a_ h_ => some (.inr (.inr ((1, a_), h_))))) (sE (fun (q : Int × Int × Hp) => (∃ k, q.2.1 = F + k ∧ 0 ≤ k ∧ k ≤ n ∧ q.1 = F + bkN (bkR B hy PL n k) (bkR B hy PL n k).length ∧ F2 (brW s p β) h q.2.2 ∧ bkT q.2.2 s p F β W K J B Z (bkR B hy PL n k) ∧ ((bkR B hy PL n k).length : Int) ≤ 600) ∧ (F + n - q.2.1).toNat < (F + n - (F + k)).toNat) (sE (fun (r : Int × Hp) => r.1 = F + bkN (bkL B hy PL n.toNat) (bkL B hy PL n.toNat).length ∧ F2 (brW s p β) h r.2 ∧ bkT r.2 s p F β W K J B Z (bkL B hy PL n.toNat) ∧ ((bkL B hy PL n.toNat).length : Int) ≤ 600) (fun r => 600 < ((bkL B hy PL n.toNat).length : Int) ∧ ∃ g, F2 (brW s p β) h g ∧ Thy 464 g r))) := by
    intro κ e hκ eR
    rw [est]
    have ll : ((bkR B hy PL n (k + 1)).length : Int) = (bkR B hy PL n k).length + 1 := by rw [eR, List.length_append]; rfl
    refine z_bT (z_mono (t_breaksAt Lg rg hs hl sg2 Rf Fg' Cg G β0 (by omega) l6 (by omega) o2 (by omega) (by omega) (by omega) (by omega) (by omega)) (fun r hr => ?_))
    rcases hr with ⟨r1, r2, r3, r4⟩ | ⟨r1, r2⟩
    · refine Or.inl ⟨by rw [r1], z_lt ?_⟩
      rw [e32 (x := F + k + 1) (by omega) (by omega)]
      rw [← eR] at r4
      refine next r.2 (F + k + 1) (Fg.trans (r3.mono (fun b j z => by unfold bzW at z; unfold brW; omega))) r4 (by omega) ?_
      rw [eR]
      unfold bkN
      rw [if_neg (by rw [List.length_append]; dsimp only [List.length_cons, List.length_nil]; omega), bkAt_last (by rw [List.length_append]; rfl)]
      dsimp only
      rcases hκ with ⟨rfl, rfl⟩ | ⟨hκ, rfl, -⟩
      · rw [if_pos rfl]; omega
      · rw [if_neg (by omega)]; omega
    · refine Or.inr ⟨by rw [r2.1]; decide, z_some ⟨?_, g, Fg, rfl, r2.2⟩⟩
      have := bkR_le (B := B) (hy := hy) (PL := PL) (n := n) (k := k + 1) (by omega) (by omega)
      omega
  have Bk := (Cg.2.2.1 k k0 (by omega)).1
  have Zk : ∀ la, (la = 1 ∧ (k + 1 = n ∨ B (k + 1) = 32)) ∨ (la = 0 ∧ k + 1 < n ∧ B (k + 1) ≠ 32) → Pz (m_X25_part_j249 s p st (F + k) la g) (sE (fun (q : Int × Int × Hp) => (∃ k, q.2.1 = F + k ∧ 0 ≤ k ∧ k ≤ n ∧ q.1 = F + bkN (bkR B hy PL n k) (bkR B hy PL n k).length ∧ F2 (brW s p β) h q.2.2 ∧ bkT q.2.2 s p F β W K J B Z (bkR B hy PL n k) ∧ ((bkR B hy PL n k).length : Int) ≤ 600) ∧ (F + n - q.2.1).toNat < (F + n - (F + k)).toNat) (sE (fun (r : Int × Hp) => r.1 = F + bkN (bkL B hy PL n.toNat) (bkL B hy PL n.toNat).length ∧ F2 (brW s p β) h r.2 ∧ bkT r.2 s p F β W K J B Z (bkL B hy PL n.toNat) ∧ ((bkL B hy PL n.toNat).length : Int) ≤ 600) (fun r => 600 < ((bkL B hy PL n.toNat).length : Int) ∧ ∃ g, F2 (brW s p β) h g ∧ Thy 464 g r))) := by
    intro la hla
    unfold m_X25_part_j249
    simp only [c5, Bk]
    refine z_gd ⟨by decide, by omega, by omega⟩ ?_
    by_cases h32 : B k = 32
    · rw [if_neg (fun z => z h32)]
      exact tell 0 k (Or.inl ⟨rfl, rfl⟩) (bkR_glue hp2 k0 (by omega) h32)
    rw [if_pos h32]
    rcases hla with ⟨rfl, hla⟩ | ⟨rfl, k2, h33⟩
    · rw [if_pos (by decide)]
      unfold m_X25_part_j322
      rw [if_pos (by decide)]
      have e := bkR_last (B := B) (hy := hy) (PL := PL) k0 (show k < n by omega) h32 hla
      exact next g st Fg (by rw [e]; exact G) (by rw [e]; exact l6) (by rw [e]; exact est)
    · rw [if_neg (by decide)]
      have e := bkR_next (B := B) (hy := hy) (PL := PL) k0 h32 k2 h33
      rw [e32 (x := F + k + 1) (by omega) (by omega), show F + k + 1 = F + (k + 1) by omega]
      by_cases h45 : B k = 45
      · rw [if_neg (fun z => z h45)]
        have kk : bkK B hy PL (k + 1) = 2 := by unfold bkK; rw [if_neg h33, if_pos ⟨by omega, by rw [show k + 1 - 1 = k by omega]; exact h45⟩]
        rw [kk, if_neg (by decide)] at e
        have := tell 2 (k + 1) (Or.inr ⟨Or.inr rfl, rfl, k2⟩) e
        rw [e32 (x := F + k + 1) (by omega) (by omega), show F + k + 1 = F + (k + 1) by omega] at this
        exact this
      rw [if_pos h45]
      unfold m_X25_part_j322
      rw [if_neg (by decide), e32 (x := F + k + 1) (by omega) (by omega), show F + k + 1 = F + (k + 1) by omega]
      simp only [c102, mg]
      refine z_gd ⟨by decide, by omega, by omega⟩ ?_
      rcases mk (k + 1) (by omega) k2 with ⟨v1, v2⟩ | ⟨v1, v2⟩
      · rw [if_neg (by omega)]
        have kk : bkK B hy PL (k + 1) = 1 := by unfold bkK; rw [if_neg h33, if_neg (fun z => h45 (by have := z.2; rw [show k + 1 - 1 = k by omega] at this; exact this)), if_pos v2]
        rw [kk, if_neg (by decide)] at e
        have := tell 1 (k + 1) (Or.inr ⟨Or.inl rfl, rfl, k2⟩) e
        rw [e32 (x := F + k + 1) (by omega) (by omega), show F + k + 1 = F + (k + 1) by omega] at this
        exact this
      · rw [if_pos v1]
        have kk : bkK B hy PL (k + 1) = -1 := by unfold bkK; rw [if_neg h33, if_neg (fun z => h45 (by have := z.2; rw [show k + 1 - 1 = k by omega] at this; exact this)), if_neg v2]
        rw [kk, if_pos (by decide), List.append_nil] at e
        exact next g st Fg (by rw [e]; exact G) (by rw [e]; exact l6) (by rw [e]; exact est)
  unfold m_X25_part_j244
  by_cases hk : k + 1 = n
  · rw [if_pos (by omega)]
    exact Zk 1 (Or.inl ⟨rfl, Or.inl hk⟩)
  · rw [if_neg (by omega)]
    refine z_gd ⟨by decide, by omega, by omega⟩ ?_
    rw [show F + k + 1 = F + (k + 1) by omega, (Cg.2.2.1 (k + 1) (by omega) (by omega)).1]
    by_cases h33 : B (k + 1) = 32
    · rw [if_neg (fun z => z h33)]
      exact Zk 1 (Or.inl ⟨rfl, Or.inr h33⟩)
    · rw [if_pos h33]
      exact Zk 0 (Or.inr ⟨rfl, by omega, h33⟩)
