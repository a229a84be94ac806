set_option maxRecDepth 100000
/-! EXCEPTIONS, all of it -/
theorem y_bind {α β γ δ : Type} {o : Option α} {u : Option β} {f : α → Option γ} {g : β → Option δ} {Q : γ → δ → Prop} (h : Pr o u (fun x y => Pr (f x) (g y) Q)) : Pr (o.bind f) (u.bind g) Q := by
  obtain ⟨x, y, a, b, x', y', c, d, e⟩ := h
  exact ⟨x', y', by rw [a]; exact c, by rw [b]; exact d, e⟩
/-- what comes of an exception -/
def EXo (hc ht : Hp) (a l t fr to : Int) (rc rt : (Int × Int) × Hp) : Prop :=
  (rc.1 = (0, 0) ∧ rt.1 = (0, 0) ∧ F2 (exW a) hc rc.2 ∧ F2 (etW l) ht rt.2 ∧ EXr rc.2 rt.2 a l ∧ ∀ j, fr + 1 ≤ j → j < to → 33 ≤ hc t j ∧ hc t j ≤ 126) ∨ (ThF 432 fr (exW a) hc rc ∧ ThF 448 fr (etW l) ht rt)
theorem ThF.mono {K p : Int} {W V : Int → Int → Prop} {h : Hp} {r : (Int × Int) × Hp} (z : ThF K p W h r) (m : ∀ b j, W b j → V b j) : ThF K p V h r := by
  obtain ⟨z1, z2, z3, z4, z5, z6, z7, z8⟩ := z
  exact ⟨z1, z2, z3, z4, z5, z6.mono (fun b j y => y.imp (m b j) id), z7, z8⟩
theorem EXr.kept {hc ht hc' ht' : Hp} {a l : Int} (E : EXr hc ht a l) (e1 : hc' a 14 = hc a 14) (e2 : ∀ b, a + 7 ≤ b → b ≤ a + 9 → hc' b = hc b) (e3 : ht' l 3 = ht l 3) (e4 : ∀ b, l + 4 ≤ b → b ≤ l + 6 → ht' b = ht b) : EXr hc' ht' a l := by
  unfold EXr at *
  rw [e1, e3, e2 (a + 7) (by omega) (by omega), e2 (a + 8) (by omega) (by omega), e2 (a + 9) (by omega) (by omega), e4 (l + 4) (by omega) (by omega), e4 (l + 5) (by omega) (by omega), e4 (l + 6) (by omega) (by omega)]
  exact E
/-- both keep it at the same place -/
theorem EXr.keep {q1 q2 r1 r2 : Hp} {a l e n m : Int} (h9 : a = 228 ∨ a = 242) (h21 : l = 513 ∨ l = 523) (E : EXr q1 q2 a l) (n2 : n ≤ 30) (W : ∀ j, 0 ≤ j → j < n → q1 (a + 10) j = q2 (l + 7) j ∧ 97 ≤ q2 (l + 7) j ∧ q2 (l + 7) j ≤ 122) (M : ∀ j, 0 ≤ j → j ≤ 30 → q1 (a + 11) j = q2 (l + 9) j ∧ (q2 (l + 9) j = 0 ∨ q2 (l + 9) j = 1)) (n1 : 1 ≤ n) (e0 : 0 ≤ e) (em : e < m) (m1 : m ≤ 60) (hm : m = q2 l 3 ∨ (m = q2 l 3 + 1 ∧ e = q2 l 3))
    (c1 : F2 (fun b j => ckW a e n b j ∨ (b = a ∧ j = 14)) q1 r1) (c2 : r1 (a + 9) e = n) (c3 : ∀ j, 0 ≤ j → j < n → r1 (a + 7) (30 * e + j) = q1 (a + 10) j ∧ r1 (a + 8) (31 * e + j) = q1 (a + 11) j) (c4 : r1 a 14 = m)
    (t1 : F2 (tkW l e n) q2 r2) (t2 : r2 l 3 = m) (t3 : r2 (l + 5) e = n) (t4 : ∀ j, 0 ≤ j → j < n → r2 (l + 4) (30 * e + j) = q2 (l + 7) j) (t5 : ∀ j, 0 ≤ j → j < 31 → r2 (l + 6) (31 * e + j) = q2 (l + 9) j) : EXr r1 r2 a l := by
  obtain ⟨E1, E2, E3, E4⟩ := E
  refine ⟨by rw [c4, t2], by omega, by omega, fun k k0 k1 => ?_⟩
  rw [t2] at k1
  by_cases hk : k = e
  · subst hk
    rw [c2, t3]
    refine ⟨⟨rfl, by omega, by omega⟩, fun j j0 j1 => ?_⟩
    have w := W j j0 (by omega)
    have mm := M j j0 (by omega)
    rw [(c3 j j0 (by omega)).1, (c3 j j0 (by omega)).2, t4 j j0 (by omega), t5 j j0 (by omega)]
    exact ⟨w.1, w.2, mm.1, mm.2⟩
  · have hk2 := E4 k k0 (by omega)
    rw [c1 _ _ (fun z => by unfold ckW at z; omega), t1 _ _ (fun z => by unfold tkW at z; omega)]
    refine ⟨hk2.1, fun j j0 j1 => ?_⟩
    have l30 := hk2.1.2.2
    rw [c1 _ _ (fun z => by unfold ckW at z; omega), t1 _ _ (fun z => by unfold tkW at z; omega), c1 _ _ (fun z => by unfold ckW at z; omega), t1 _ _ (fun z => by unfold tkW at z; omega)]
    exact hk2.2 j j0 j1
theorem y_exc {hc ht : Hp} {a l t u fr to : Int} (hL : LAY hc) (hL2 : LAY ht) (ha : a ∈ in_aX9) (hl : l ∈ in_aX21) (rm : RM hc 1 7) (rm2 : RM ht 1 7) (htc : t < a ∨ a + 13 < t) (htt : u < l ∨ l + 9 < u) (t1 : hc t (-2) % 16 = 2) (t2 : to ≤ hc t (-1)) (u1 : ht u (-2) % 16 = 2) (u2 : to ≤ ht u (-1)) (f0 : 0 ≤ fr) (f1 : fr < to) (e1 : to ≤ 4000)
    (hb : ∀ j, fr ≤ j → j < to → hc t j = ht u j) (E : EXr hc ht a l) :
    Pr (m_X9_exception a t fr to hc) (m_X21_exception l u fr to ht) (EXo hc ht a l t fr to) := by
  have h9 := aX9 ha
  have h21 := aX21 hl
  unfold m_X9_exception m_X21_exception
  refine yl_lt (yl_lt (yl_bind (z_fill (n := 31) (d := a + 11) (s := 0) (g := fun _ => 0) (by decide) (fun x q x0 x1 F => ?_) (fun q F Z => ?_))))
  · have L := hyW_l hL ha (F.mono (fun b j z => by unfold hyW; omega))
    show m_X9_exception_l6 a x q = _
    unfold m_X9_exception_l6
    (try simp (disch := omega) only [up_a, up_e, up_j, e32, e8, ly_X9 L ha])
    unfold gd pt lt_
    rw [if_pos (by omega), if_neg (by omega), if_pos (by omega), Int.zero_add]
  have L := hyW_l hL ha (F.mono (fun b j z => by unfold hyW; omega))
  show Pz (m_X9_exception_l6 a 31 q) _
  unfold m_X9_exception_l6
  (try simp (disch := omega) only [up_a, up_e, up_j, e32, e8, ly_X9 L ha])
  refine z_gd (by decide) (z_it (by decide) (z_some (yl_lt ?_)))
  refine yr_pt (yr_lt (yr_bind (z_fill (n := 64) (d := l + 9) (s := 0) (g := fun _ => 0) (by decide) (fun x p x0 x1 G => ?_) (fun p G Y => ?_))))
  · have L := tpW_l hL2 hl ((F2.refl.put (show tpW l l 12 by unfold tpW; omega)).trans (G.mono (fun b j z => by unfold tpW; omega)))
    show m_X21_exception_l8 l x p = _
    unfold m_X21_exception_l8
    (try simp (disch := omega) only [up_a, up_e, up_j, e32, e8, ly_X21 L hl])
    unfold gd pt lt_
    rw [if_neg (by omega), if_pos (by omega), Int.zero_add]
  show Pz (m_X21_exception_l8 l 64 p) _
  unfold m_X21_exception_l8
  refine z_it (by decide) (z_some (yr_lt ?_))
  have F' : F2 (xcW a) hc q := F.mono (fun b j z => by unfold xcW; omega)
  have G' : F2 (xtW l) ht p := (F2.refl.put (by unfold xtW; omega)).trans (G.mono (fun b j z => by unfold xtW; omega))
  have p12 : p l 12 = 0 := by rw [G _ _ (fun z => by omega)]; (try simp (disch := omega) only [up_a, up_e, up_j, e32, e8])
  have X0 : XI hc ht q p a l 0 := ⟨F', G', by omega, by omega, p12, fun j j0 j1 => by omega, fun j j0 j1 => by have a1 := Z j j0 (by omega); have a2 := Y j j0 (by omega); rw [Int.zero_add] at a1 a2; rw [a1, a2]; exact ⟨rfl, Or.inl rfl⟩, fun j j0 j1 => by have a2 := Y j (by omega) (by omega); rw [Int.zero_add] at a2; exact a2⟩
  refine y_bind (y_mono (y_z (y_xword hL hL2 ha hl rm rm2 htc htt t1 t2 u1 u2 f0 f1 e1 hb X0 (by have a1 := Z 0 (by decide) (by decide); rw [Int.zero_add] at a1; exact a1))) (fun x y hxy => ?_))
  have up1 : ∀ {rc rt : (Int × Int) × Hp}, ThF 432 fr (xcW a) hc rc → ThF 448 fr (xtW l) ht rt → EXo hc ht a l t fr to rc rt := fun z1 z2 => Or.inr ⟨z1.mono xc_ex, z2.mono xt_et⟩
  rcases hxy with ⟨n, q1, q2, rfl, rfl, X, Xn, XB⟩ | ⟨rc, rt, rfl, rfl, z1, z2⟩ | ⟨n, q1, rt, rfl, rfl, n0, n1, Xn, F1, z2⟩
  · simp only [sE]
    obtain ⟨F1, G1, n0, n1, en, W, M, -⟩ := id X
    have L1 := hyW_l hL ha (F1.mono (fun b j z => ex_hy b j (xc_ex b j z)))
    have L2 := tpW_l hL2 hl (G1.mono (fun b j z => et_tp b j (xt_et b j z)))
    have r1 := rm_of rm F1 (fun j z => by unfold xcW at z; omega)
    have r2 := rm_of rm2 G1 (fun j z => by unfold xtW at z; omega)
    have E' : EXr q1 q2 a l := E.kept (F1 _ _ (fun z => by unfold xcW at z; omega)) (fun b b0 b1 => F1.row (fun j z => by unfold xcW at z; omega)) (G1 _ _ (fun z => by unfold xtW at z; omega)) (fun b b0 b1 => G1.row (fun j z => by unfold xtW at z; omega))
    rw [en]
    by_cases hn : n = 0
    · refine y_z (z_it hn (z_brk r1 (fun b h1 z => z_some (z_ie (by omega) (z_brk r2 (fun b' h2 z' => z_some (up1 (z.F F1 (fun j z => by unfold xcW at z; omega)) (z'.F G1 (fun j z => by unfold xtW at z; omega)))))))))
    · refine yl_ie hn (yr_it hn ?_)
      obtain ⟨E1, E2, E3, E4⟩ := id E'
      (try simp (disch := omega) only [up_a, up_e, up_j, e32, e8, ly_X9 L1 ha])
      refine yl_gd (by omega) (yl_it Xn (yl_bind (z_mono (c_exOf L1 ha (by rw [(ly_X9 L1 ha).2.2.2.2.2.2.2.2.2.2.1.2.1]; decide) (by decide) n0 (by rw [(ly_X9 L1 ha).2.2.2.2.2.2.2.2.2.2.1.2.2]; omega) (by rw [(ly_X9 L1 ha).2.2.2.2.2.2.2.2.2.2.1.2.2]; decide) (fun j j0 j1 => by have := W j j0 j1; rw [Int.zero_add]; omega) (by omega) (by omega) (fun e e0 e1 => by have := (E4 e e0 (by omega)).1; omega)) (fun e he => ?_))))
      refine yr_lt (yr_bind (z_mono (t_xsearch L2 hl en n0 n1 E2 E3 (fun e e0 e1 => (E4 e e0 e1).1.2)) (fun e' he' => ?_)))
      have sm : ∀ k, 0 ≤ k → k < q2 l 3 → (exS q1 a (a + 10) 0 n k n ↔ etS q2 l n k) := by
        intro k k0 k1
        have b1 := E4 k k0 k1
        unfold exS etS
        rw [b1.1.1]
        refine and_congr_right (fun en => forall_congr' fun j => imp_congr_right fun j0 => imp_congr_right fun j1 => ?_)
        have b2 := b1.2 j j0 (by omega)
        have b3 := W j j0 j1
        rw [b2.1, Int.zero_add, b3.1]
        unfold sml
        rw [if_neg (by omega)]
      have same : (e = -1 ∧ e' = q2 l 3) ∨ (0 ≤ e ∧ e' = e ∧ e < q2 l 3) := by
        obtain ⟨h1, h2, h3, h4⟩ := he'
        unfold exF at he
        rw [E1] at he
        rcases he with ⟨rfl, he⟩ | ⟨g0, g1, g2, g3⟩
        · refine Or.inl ⟨rfl, ?_⟩
          by_cases z : e' < q2 l 3
          · exact absurd ((sm e' h1 z).mpr (h3 z)) (he e' h1 z)
          · omega
        · refine Or.inr ⟨g0, ?_, g1⟩
          rcases Int.lt_trichotomy e e' with z | z | z
          · exact absurd ((sm e g0 g1).mp g2) (h4 e g0 z)
          · exact z.symm
          · exact absurd ((sm e' h1 (by omega)).mpr (h3 (by omega))) (g3 e' h1 z)
      have keep : ∀ {k m : Int} {p1 : Hp}, 0 ≤ k → k < m → m ≤ 60 → (m = q2 l 3 ∨ (m = q2 l 3 + 1 ∧ k = q2 l 3)) → LAY p1 → F2 (fun b j => b = a ∧ j = 14) q1 p1 → p1 a 14 = m → Pr (m_X9_exception_j201 n a k p1) (m_X21_exception_j263 l k m q2) (EXo hc ht a l t fr to) := by
        intro k m p1 k0 km m6 hm LP FP pm
        refine y_z (z_mono (c_xkeep LP ha k0 (by omega) n0 n1) (fun rc hrc => z_mono (t_xkeep L2 hl k0 (by omega) en n0 n1) (fun rt hrt => ?_)))
        obtain ⟨a1, a2, a3, a4⟩ := hrc
        obtain ⟨b1, b2, b3, b4, b5, b6⟩ := hrt
        have p10 : p1 (a + 10) = q1 (a + 10) := FP.row (fun j z => by omega)
        have p11 : p1 (a + 11) = q1 (a + 11) := FP.row (fun j z => by omega)
        rw [p10, p11] at a4
        have a2' : F2 (fun b j => ckW a k n b j ∨ (b = a ∧ j = 14)) q1 rc.2 := (FP.mono (fun b j z => Or.inr z)).trans (a2.mono (fun b j z => Or.inl z))
        refine Or.inl ⟨a1, b1, ?_, ?_, E'.keep h9 h21 n1 W M (by omega) k0 km m6 hm a2' a3 a4 (by rw [a2 _ _ (fun z => by unfold ckW at z; omega)]; exact pm) b2 b3 b4 b5 b6, XB⟩
        · exact ((F1.mono xc_ex).trans (FP.mono (fun b j z => by unfold exW; omega))).trans (a2.mono (fun b j z => by unfold ckW at z; unfold exW; omega))
        · exact (G1.mono xt_et).trans (b2.mono (fun b j z => by unfold tkW at z; unfold etW; omega))
      rw [E1]
      rcases same with ⟨rfl, rfl⟩ | ⟨g0, rfl, g1⟩
      · refine yl_ie (by decide) ?_
        by_cases h60 : q2 l 3 = 60
        · refine y_z (z_ie (by omega) (z_brk r1 (fun b h1 z => z_some (z_ie (by omega) (z_brk r2 (fun b' h2 z' => z_some (up1 (z.F F1 (fun j z => by unfold xcW at z; omega)) (z'.F G1 (fun j z => by unfold xtW at z; omega)))))))))
        · refine yl_it h60 (yl_lt (yl_pt (yr_it h60 (yr_ie (by omega) ?_))))
          (try simp (disch := omega) only [up_a, up_e, up_j, e32, e8])
          exact keep (by omega) (by omega) (by omega) (Or.inr ⟨rfl, rfl⟩) (hyW_l L1 ha (F2.refl.put (by unfold hyW; omega))) (F2.refl.put ⟨rfl, rfl⟩) (up_s _ _ _ _)
      · exact yl_it g0 (yr_it (by omega) (yr_it (by omega) (keep g0 (by omega) (by omega) (Or.inl rfl) L1 F2.refl E1)))
  · exact y_some (up1 z1 z2)
  · simp only [sE]
    have L1 := hyW_l hL ha (F1.mono (fun b j z => ex_hy b j (xc_ex b j z)))
    have r1 := rm_of rm F1 (fun j z => by unfold xcW at z; omega)
    (try simp (disch := omega) only [up_a, up_e, up_j, e32, e8, ly_X9 L1 ha])
    exact y_z (z_ie (by omega) (z_gd (by omega) (z_ie Xn (z_brk r1 (fun b h1 z => z_some (z_some (up1 (z.F F1 (fun j z => by unfold xcW at z; omega)) z2)))))))
