set_option maxRecDepth 100000
def k_X14_putAll : List (Nat × Instr × Nat) := [(0, .iconst 0, 1), (1, .istore 5, 2), (3, .iload 5, 2), (5, .aload_n 2, 1), (6, .getfield 257, 3), (9, .if_icmp .ge 24, 3), (12, .aload_n 0, 1), (13, .aload_n 1, 1), (14, .aload_n 2, 1), (15, .getfield 260, 3), (18, .iload 5, 2), (20, .baload, 1), (21, .iload_n 3, 1), (22, .iload 4, 2), (24, .invokevirtual 264, 3), (27, .iinc 5 1, 3), (30, .goto (-27), 3), (33, .return_, 1)]
theorem t_X14_putAll : ∀ q ∈ k_X14_putAll, decode cX14_putAll q.1 = .ok q.2 := dl_all (by decide +kernel)
noncomputable def m_X14_putAll_l3 (a0 a1 a2 a3 a4 x5_3 : Int) (h_3 : Hp) : Option ((Int × Hp) ⊕ (((Int × Int) × Hp))) :=
  gd (h_3 a2 (-2) = 80) (if (h_3 a2 1) ≤ x5_3 then (some (.inr ((0, 0), h_3)))
  else (gd (h_3 (h_3 a2 0) (-2) % 16 = 2 ∧ (0 : Int) ≤ x5_3 ∧ x5_3 < h_3 (h_3 a2 0) (-1)) (bT (m_X14_put a0 a1 (h_3 (h_3 a2 0) x5_3) a3 a4 h_3) (fun _ h24 =>
  lt_ (w32 (x5_3 + 1)) fun x5_27 =>
  some (.inl (x5_27, h24))) (fun a_ h_ => some (.inr ((1, a_), h_))))))
noncomputable def m_X14_putAll (a0 a1 a2 a3 a4 : Int) (h : Hp) : Option ((Int × Int) × Hp) :=
  lt_ 0 fun x5_1 =>
  (lp (fun (q : Int × Hp) => m_X14_putAll_l3 a0 a1 a2 a3 a4 q.1 q.2) (x5_1, h)).bind (fun (x : (Int × Int) × Hp) => some x)
theorem s_X14_putAll {l : Launch} [NoTr l] {D : SD} {a0 a1 a2 a3 a4 : Int} {h : Hp} (hk : h a0 (-2) = 224) (r3 : r32 a3) (r4 : (a4 = 0 ∨ a4 = 1)) {r : (Int × Int) × Hp} (hm : m_X14_putAll a0 a1 a2 a3 a4 h = some r) : Sim l D yX14_putAll (Cond.code yX14_putAll cX14_putAll 6 (Option.none : Option Jvm.ClassFile.FieldType)) 12 451 [rv D a0, rv D a1, rv D a2, iv a3, iv a4] h 0 r := by
  refine Sim.of (fin := fun (v : (Int × Int) × Hp) => v) (lsE := [(0, rv D a0), (1, rv D a1), (2, rv D a2), (3, iv a3), (4, iv a4)]) hm rfl cwS_code (la_r (la_r (la_r (la_i (la_i la_n))))) (ll_r (ll_r (ll_r (ll_i (ll_i ll_n))))) ?_
  intro p e s m below meth c X hcw hmm hcc hnm hname
  have hno := noh hcw hnm hmm hcc
  unfold m_X14_putAll
  refine g_iconst (pc := 0) X (n := 0) (dl_at t_X14_putAll 0 rfl) ?_
  refine g_ltz (Or.inl rfl) fun x5_1 r5_1 => ?_
  refine g_istoreN (pc := 1) X (i := 5) (x := x5_1) (b := 4) (w := iv a4) (rest := [(0, rv D a0), (1, rv D a1), (2, rv D a2), (3, iv a3)]) (Nat.le_of_ble_eq_true rfl) [4, 0, 1, 2, 3] rfl (by decide) rfl rfl (dl_at t_X14_putAll 1 rfl) ?_
  refine g_ls (ls2 := [(0, rv D a0), (1, rv D a1), (2, rv D a2), (3, iv a3), (4, iv a4), (5, iv x5_1)]) [2, 3, 4, 5, 1, 0] rfl ?_
  refine g_loop0F (fun (q : Int × Hp) => [(0, rv D a0), (1, rv D a1), (2, rv D a2), (3, iv a3), (4, iv a4), (5, iv q.1)]) (fun (q : Int × Hp) => q.2) (fun (q : Int × Hp) => r32 q.1 ∧ Ext h q.2) (x5_1, h) ⟨(r32_z r5_1), (Ext.refl _)⟩ ?_ (fun _ => rfl)
  · rintro ⟨x5_3, h_3⟩ ⟨r5_3, E_3⟩
    try dsimp only
    unfold m_X14_putAll_l3
    refine g_iload (pc := 3) X (i := 5) (q := 5) (x := x5_3) rfl (dl_at t_X14_putAll 2 rfl) ?_
    refine g_aload_n (pc := 5) X (j := 2) (i := 2) (q := 2) (x := a2) rfl rfl (dl_at t_X14_putAll 3 rfl) ?_
    refine g_gd fun k6 => ?_
    refine r_getiN (pc := 6) X fX5_1 k6 (nw_in q507 rfl) (dl_at t_X14_putAll 4 rfl) fun g6 => ?_
    refine g_icmpge (pc := 9) X r5_3 g6 (off := 24) (tgt := 33) rfl (dl_at t_X14_putAll 5 rfl) (fun _ => ?_) (fun _ => ?_)
    · exact g_at fun Q hQ => (g_vret (pc := 33) X (v := 0) rfl rfl (dl_at t_X14_putAll 17 rfl)) _ Q rfl hQ
    refine g_aload_n (pc := 12) X (j := 0) (i := 0) (q := 0) (x := a0) rfl rfl (dl_at t_X14_putAll 6 rfl) ?_
    refine g_aload_n (pc := 13) X (j := 1) (i := 1) (q := 1) (x := a1) rfl rfl (dl_at t_X14_putAll 7 rfl) ?_
    refine g_aload_n (pc := 14) X (j := 2) (i := 2) (q := 2) (x := a2) rfl rfl (dl_at t_X14_putAll 8 rfl) ?_
    refine r_getrN (pc := 15) X fX5_0 k6 (nw_in q501 rfl) (dl_at t_X14_putAll 9 rfl) ?_
    refine g_iload (pc := 18) X (i := 5) (q := 5) (x := x5_3) rfl (dl_at t_X14_putAll 10 rfl) ?_
    refine g_gd fun k20 => ?_
    refine g_bald (pc := 20) X r5_3 k20 (dl_at t_X14_putAll 11 rfl) fun g20 => ?_
    refine g_iload_n (pc := 21) X (j := 3) (i := 3) (q := 3) (x := a3) rfl rfl (dl_at t_X14_putAll 12 rfl) ?_
    refine g_iload (pc := 22) X (i := 4) (q := 4) (x := a4) rfl (dl_at t_X14_putAll 13 rfl) ?_
    have k24 := kx E_3 (by decide) hk
    refine r_callTv (pc := 24) X (fun _ hv => s_X14_put k24 (r32_b g20) r3 r4 hv) cw_code q2697 q368 (in_Vk X (As := [rv D a1, iv (h_3 (h_3 a2 0) x5_3), iv a3, iv a4]) kX14 k24 (Or.inl q2694) q2696 qs142 cw_code q2697 ⟨by decide, by decide⟩ rfl (dl_at t_X14_putAll 14 rfl)) (dl_at t_X14_putAll 14 rfl) (cat24 (st := []) (Nat.le_of_ble_eq_true rfl)) (Nat.le_of_ble_eq_true rfl) (Nat.le_of_ble_eq_true rfl) (fun v24 h24 E24 => ?_) (fun _ _ ha _ => gt_at fun Q hQ => gt_out (Q := Q) X rfl ha (hno _) _ Q rfl hQ)
    refine r_iincN (pc := 27) X (i := 5) (q := 5) (n := 1) (x := x5_3) (b := 4) (w := iv a4) (rest := [(0, rv D a0), (1, rv D a1), (2, rv D a2), (3, iv a3)]) rfl r5_3 (r32_c rfl) (Nat.le_of_ble_eq_true rfl) [4, 0, 1, 2, 3] rfl (by decide) rfl rfl (dl_at t_X14_putAll 15 rfl) fun x5_27 r5_27 => ?_
    refine g_goto (pc := 30) X (off := (-27)) (tgt := 3) rfl (dl_at t_X14_putAll 16 rfl) ?_
    refine g_ls (ls2 := [(0, rv D a0), (1, rv D a1), (2, rv D a2), (3, iv a3), (4, iv a4), (5, iv x5_27)]) [2, 3, 4, 5, 1, 0] rfl ?_
    exact g_at fun Q hQ => hQ ⟨r5_27, (E_3.trans E24)⟩
def k_X6_byId : List (Nat × Instr × Nat) := [(0, .iconst 0, 1), (1, .istore 4, 2), (3, .iload 4, 2), (5, .aload_n 0, 1), (6, .getfield 96, 3), (9, .if_icmp .ge 39, 3), (12, .aload_n 0, 1), (13, .iload 4, 2), (15, .ldc 226, 2), (17, .invokevirtual 228, 3), (20, .istore 5, 2), (22, .iload 5, 2), (24, .ifCond .lt 18, 3), (27, .aload_n 0, 1), (28, .iload 5, 2), (30, .aload_n 1, 1), (31, .iload_n 2, 1), (32, .iload_n 3, 1), (33, .invokevirtual 232, 3), (36, .ifCond .eq 6, 3), (39, .iload 4, 2), (41, .ireturn, 1), (42, .iinc 4 1, 3), (45, .goto (-42), 3), (48, .iconst (-1), 1), (49, .ireturn, 1)]
theorem t_X6_byId : ∀ q ∈ k_X6_byId, decode cX6_byId q.1 = .ok q.2 := dl_all (by decide +kernel)
noncomputable def m_X6_byId_j42 (x4_3 : Int) : Option ((Int) ⊕ ((Int))) :=
  lt_ (w32 (x4_3 + 1)) fun x4_42 =>
  some (.inl x4_42)
noncomputable def m_X6_byId_l3 (a0 a1 a2 a3 x4_3 : Int) (h : Hp) : Option ((Int) ⊕ ((Int))) :=
  if (h a0 4) ≤ x4_3 then (some (.inr (-1)))
  else ((m_X6_fieldOf a0 x4_3 (-19) h).bind fun v17 =>
  if v17 < 0 then (m_X6_byId_j42 x4_3)
  else ((m_X6_isField a0 v17 a1 a2 a3 h).bind fun v33 =>
  if v33 = 0 then (m_X6_byId_j42 x4_3)
  else (some (.inr x4_3))))
noncomputable def m_X6_byId (a0 a1 a2 a3 : Int) (h : Hp) : Option (Int) :=
  lt_ 0 fun x4_1 =>
  (lp (fun (q : Int) => m_X6_byId_l3 a0 a1 a2 a3 q h) x4_1).bind (fun (x : Int) => some x)
theorem s_X6_byId {l : Launch} [NoTr l] {D : SD} {a0 a1 a2 a3 : Int} {h : Hp} (hk : h a0 (-2) = 96) (r2 : r32 a2) (r3 : r32 a3) {r : Int} (hm : m_X6_byId a0 a1 a2 a3 h = some r) : Sim l D yX6_byId (Cond.code yX6_byId cX6_byId 6 (Option.some Jvm.ClassFile.FieldType.int)) 6 279 [rv D a0, rv D a1, iv a2, iv a3] h 1 ((0, r), h) := by
  refine Sim.of (fin := fun (v : Int) => ((0, v), h)) (lsE := [(0, rv D a0), (1, rv D a1), (2, iv a2), (3, iv a3)]) hm rfl cwS_code (la_r (la_r (la_i (la_i la_n)))) (ll_r (ll_r (ll_i (ll_i ll_n)))) ?_
  intro p e s m below meth c X hcw hmm hcc hnm hname
  unfold m_X6_byId
  refine g_iconst (pc := 0) X (n := 0) (dl_at t_X6_byId 0 rfl) ?_
  refine g_ltz (Or.inl rfl) fun x4_1 r4_1 => ?_
  refine g_istoreN (pc := 1) X (i := 4) (x := x4_1) (b := 3) (w := iv a3) (rest := [(0, rv D a0), (1, rv D a1), (2, iv a2)]) (Nat.le_of_ble_eq_true rfl) [3, 0, 1, 2] rfl (by decide) rfl rfl (dl_at t_X6_byId 1 rfl) ?_
  refine g_ls (ls2 := [(0, rv D a0), (1, rv D a1), (2, iv a2), (3, iv a3), (4, iv x4_1)]) [2, 3, 4, 1, 0] rfl ?_
  refine g_loop0F (fun (q : Int) => [(0, rv D a0), (1, rv D a1), (2, iv a2), (3, iv a3), (4, iv q)]) (fun (q : Int) => h) (fun (q : Int) => r32 q) x4_1 (r32_z r4_1) ?_ (fun _ => rfl)
  · rintro x4_3 r4_3
    try dsimp only
    unfold m_X6_byId_l3
    refine g_iload (pc := 3) X (i := 4) (q := 4) (x := x4_3) rfl (dl_at t_X6_byId 2 rfl) ?_
    refine g_aload_n (pc := 5) X (j := 0) (i := 0) (q := 0) (x := a0) rfl rfl (dl_at t_X6_byId 3 rfl) ?_
    refine r_geti (pc := 6) X fX6_4 hk q655 (dl_at t_X6_byId 4 rfl) fun g6 => ?_
    refine g_icmpge (pc := 9) X r4_3 g6 (off := 39) (tgt := 48) rfl (dl_at t_X6_byId 5 rfl) (fun _ => ?_) (fun _ => ?_)
    · refine g_iconst (pc := 48) X (n := (-1)) (dl_at t_X6_byId 24 rfl) ?_
      exact g_at fun Q hQ => (g_iret (pc := 49) X (r32_c rfl) rfl rfl (dl_at t_X6_byId 25 rfl)) _ Q rfl hQ
    refine g_aload_n (pc := 12) X (j := 0) (i := 0) (q := 0) (x := a0) rfl rfl (dl_at t_X6_byId 6 rfl) ?_
    refine g_iload (pc := 13) X (i := 4) (q := 4) (x := x4_3) rfl (dl_at t_X6_byId 7 rfl) ?_
    refine g_ldcS (pc := 15) X (index := 226) (id := (-19)) 17 rfl rfl (dl_at t_X6_byId 8 rfl) ?_
    refine r_callRi (pc := 17) X (fun _ hv => s_X6_fieldOf hk r4_3 hv) cw_code q2394 q360 (in_Vk X (As := [iv x4_3, rv D (-19)]) kX6 hk (Or.inl q2712) q2393 qs97 cw_code q2394 ⟨by decide, by decide⟩ rfl (dl_at t_X6_byId 9 rfl)) (dl_at t_X6_byId 9 rfl) (cat24 (st := []) (Nat.le_of_ble_eq_true rfl)) (Nat.le_of_ble_eq_true rfl) (Nat.le_of_ble_eq_true rfl) fun v17 g17 => ?_
    refine g_istoreN (pc := 20) X (i := 5) (x := v17) (b := 4) (w := iv x4_3) (rest := [(0, rv D a0), (1, rv D a1), (2, iv a2), (3, iv a3)]) (Nat.le_of_ble_eq_true rfl) [4, 0, 1, 2, 3] rfl (by decide) rfl rfl (dl_at t_X6_byId 10 rfl) ?_
    refine g_iload (pc := 22) X (i := 5) (q := 0) (x := v17) rfl (dl_at t_X6_byId 11 rfl) ?_
    refine g_join (γ := Unit) (fun q => True) 42 (fun q => [(0, rv D a0), (1, rv D a1), (2, iv a2), (3, iv a3), (4, iv x4_3)]) (fun q => []) (fun q => h) (fun q => m_X6_byId_j42 x4_3) ?_ ?_
    · rintro _ _
      try dsimp only
      unfold m_X6_byId_j42
      refine r_iincN (pc := 42) X (i := 4) (q := 4) (n := 1) (x := x4_3) (b := 3) (w := iv a3) (rest := [(0, rv D a0), (1, rv D a1), (2, iv a2)]) rfl r4_3 (r32_c rfl) (Nat.le_of_ble_eq_true rfl) [3, 0, 1, 2] rfl (by decide) rfl rfl (dl_at t_X6_byId 22 rfl) fun x4_42 r4_42 => ?_
      refine g_goto (pc := 45) X (off := (-42)) (tgt := 3) rfl (dl_at t_X6_byId 23 rfl) ?_
      refine g_ls (ls2 := [(0, rv D a0), (1, rv D a1), (2, iv a2), (3, iv a3), (4, iv x4_42)]) [2, 3, 4, 1, 0] rfl ?_
      exact g_at fun Q hQ => hQ r4_42
    intro J42
    refine g_iflt (pc := 24) X g17 (off := 18) (tgt := 42) rfl (dl_at t_X6_byId 12 rfl) (fun _ => ?_) (fun _ => ?_)
    · refine g_ls (ls2 := [(0, rv D a0), (1, rv D a1), (2, iv a2), (3, iv a3), (4, iv x4_3)]) [2, 3, 4, 5, 1] rfl ?_
      exact J42 () trivial
    refine g_aload_n (pc := 27) X (j := 0) (i := 0) (q := 2) (x := a0) rfl rfl (dl_at t_X6_byId 13 rfl) ?_
    refine g_iload (pc := 28) X (i := 5) (q := 0) (x := v17) rfl (dl_at t_X6_byId 14 rfl) ?_
    refine g_aload_n (pc := 30) X (j := 1) (i := 1) (q := 3) (x := a1) rfl rfl (dl_at t_X6_byId 15 rfl) ?_
    refine g_iload_n (pc := 31) X (j := 2) (i := 2) (q := 4) (x := a2) rfl rfl (dl_at t_X6_byId 16 rfl) ?_
    refine g_iload_n (pc := 32) X (j := 3) (i := 3) (q := 5) (x := a3) rfl rfl (dl_at t_X6_byId 17 rfl) ?_
    refine r_callRz (pc := 33) X (fun _ hv => s_X6_isField hk g17 r2 r3 hv) cw_code q2321 q360 (in_Vk X (As := [iv v17, rv D a1, iv a2, iv a3]) kX6 hk (Or.inl q2713) q2320 qs82 cw_code q2321 ⟨by decide, by decide⟩ rfl (dl_at t_X6_byId 18 rfl)) (dl_at t_X6_byId 18 rfl) (cat24 (st := []) (Nat.le_of_ble_eq_true rfl)) (Nat.le_of_ble_eq_true rfl) (Nat.le_of_ble_eq_true rfl) fun v33 g33 => ?_
    refine g_ifeq (pc := 36) X (r32_z g33) (off := 6) (tgt := 42) rfl (dl_at t_X6_byId 19 rfl) (fun _ => ?_) (fun _ => ?_)
    · refine g_ls (ls2 := [(0, rv D a0), (1, rv D a1), (2, iv a2), (3, iv a3), (4, iv x4_3)]) [2, 3, 4, 5, 1] rfl ?_
      exact J42 () trivial
    refine g_iload (pc := 39) X (i := 4) (q := 1) (x := x4_3) rfl (dl_at t_X6_byId 20 rfl) ?_
    exact g_at fun Q hQ => (g_iret (pc := 41) X r4_3 rfl rfl (dl_at t_X6_byId 21 rfl)) _ Q rfl hQ
def k_X14_isTarget : List (Nat × Instr × Nat) := [(0, .iload_n 1, 1), (1, .ifCond .lt 19, 3), (4, .aload_n 0, 1), (5, .getfield 158, 3), (8, .getfield 476, 3), (11, .iload_n 1, 1), (12, .baload, 1), (13, .ifCond .eq 7, 3), (16, .iconst 1, 1), (17, .goto 4, 3), (20, .iconst 0, 1), (21, .ireturn, 1)]
theorem t_X14_isTarget : ∀ q ∈ k_X14_isTarget, decode cX14_isTarget q.1 = .ok q.2 := dl_all (by decide +kernel)
noncomputable def m_X14_isTarget (a0 a1 : Int) (h : Hp) : Option (Int) :=
  if a1 < 0 then (some 0)
  else (gd (h (h a0 2) (-2) = 112) (gd (h (h (h a0 2) 7) (-2) % 16 = 3 ∧ (0 : Int) ≤ a1 ∧ a1 < h (h (h a0 2) 7) (-1)) (if (h (h (h a0 2) 7) a1) = 0 then (some 0)
  else (some 1))))
theorem s_X14_isTarget {l : Launch} [NoTr l] {D : SD} {a0 a1 : Int} {h : Hp} (hk : h a0 (-2) = 224) (r1 : r32 a1) {r : Int} (hm : m_X14_isTarget a0 a1 h = some r) : Sim l D yX14_isTarget (Cond.code yX14_isTarget cX14_isTarget 2 (Option.some Jvm.ClassFile.FieldType.boolean)) 0 0 [rv D a0, iv a1] h 3 ((0, r), h) := by
  refine Sim.of (fin := fun (v : Int) => ((0, v), h)) (lsE := [(0, rv D a0), (1, iv a1)]) hm rfl cwS_code (la_r (la_i la_n)) (ll_r (ll_i ll_n)) ?_
  intro p e s m below meth c X hcw hmm hcc hnm hname
  unfold m_X14_isTarget
  refine g_iload_n (pc := 0) X (j := 1) (i := 1) (q := 1) (x := a1) rfl rfl (dl_at t_X14_isTarget 0 rfl) ?_
  refine g_iflt (pc := 1) X r1 (off := 19) (tgt := 20) rfl (dl_at t_X14_isTarget 1 rfl) (fun _ => ?_) (fun _ => ?_)
  · refine g_iconst (pc := 20) X (n := 0) (dl_at t_X14_isTarget 10 rfl) ?_
    exact g_zret (pc := 21) X (Or.inl rfl) rfl rfl (dl_at t_X14_isTarget 11 rfl)
  refine g_aload_n (pc := 4) X (j := 0) (i := 0) (q := 0) (x := a0) rfl rfl (dl_at t_X14_isTarget 2 rfl) ?_
  refine r_getr (pc := 5) X fX14_2 hk q1243 (dl_at t_X14_isTarget 3 rfl) ?_
  refine g_gd fun k8 => ?_
  refine r_getrN (pc := 8) X fX7_7 k8 (nw_in q794 rfl) (dl_at t_X14_isTarget 4 rfl) ?_
  refine g_iload_n (pc := 11) X (j := 1) (i := 1) (q := 1) (x := a1) rfl rfl (dl_at t_X14_isTarget 5 rfl) ?_
  refine g_gd fun k12 => ?_
  refine g_zald (pc := 12) X r1 k12 (dl_at t_X14_isTarget 6 rfl) fun g12 => ?_
  refine g_ifeq (pc := 13) X (r32_z g12) (off := 7) (tgt := 20) rfl (dl_at t_X14_isTarget 7 rfl) (fun _ => ?_) (fun _ => ?_)
  · refine g_iconst (pc := 20) X (n := 0) (dl_at t_X14_isTarget 10 rfl) ?_
    exact g_zret (pc := 21) X (Or.inl rfl) rfl rfl (dl_at t_X14_isTarget 11 rfl)
  refine g_iconst (pc := 16) X (n := 1) (dl_at t_X14_isTarget 8 rfl) ?_
  refine g_goto (pc := 17) X (off := 4) (tgt := 21) rfl (dl_at t_X14_isTarget 9 rfl) ?_
  exact g_zret (pc := 21) X (Or.inr rfl) rfl rfl (dl_at t_X14_isTarget 11 rfl)
def k_X5_string : List (Nat × Instr × Nat) := [(0, .iconst 0, 1), (1, .istore_n 2, 1), (2, .iload_n 2, 1), (3, .aload_n 1, 1), (4, .invokevirtual 37, 3), (7, .if_icmp .ge 18, 3), (10, .aload_n 0, 1), (11, .aload_n 1, 1), (12, .iload_n 2, 1), (13, .invokevirtual 43, 3), (16, .invokevirtual 23, 3), (19, .iinc 2 1, 3), (22, .goto (-20), 3), (25, .return_, 1)]
theorem t_X5_string : ∀ q ∈ k_X5_string, decode cX5_string q.1 = .ok q.2 := dl_all (by decide +kernel)
noncomputable def m_X5_string_l2 (a0 a1 x2_2 : Int) (h_2 : Hp) : Option ((Int × Hp) ⊕ (((Int × Int) × Hp))) :=
  (x_slen a1).bind fun v4 =>
  if v4 ≤ x2_2 then (some (.inr ((0, 0), h_2)))
  else ((x_sat a1 x2_2).bind fun v13 =>
  bT (m_X5_add a0 v13 h_2) (fun _ h16 =>
  lt_ (w32 (x2_2 + 1)) fun x2_19 =>
  some (.inl (x2_19, h16))) (fun a_ h_ => some (.inr ((1, a_), h_))))
noncomputable def m_X5_string (a0 a1 : Int) (h : Hp) : Option ((Int × Int) × Hp) :=
  lt_ 0 fun x2_1 =>
  (lp (fun (q : Int × Hp) => m_X5_string_l2 a0 a1 q.1 q.2) (x2_1, h)).bind (fun (x : (Int × Int) × Hp) => some x)
theorem s_X5_string {l : Launch} [NoTr l] {D : SD} {a0 a1 : Int} {h : Hp} (hk : h a0 (-2) = 80) {r : (Int × Int) × Hp} (hm : m_X5_string a0 a1 h = some r) : Sim l D yX5_string (Cond.code yX5_string cX5_string 3 (Option.none : Option Jvm.ClassFile.FieldType)) 11 409 [rv D a0, rv D a1] h 0 r := by
  refine Sim.of (fin := fun (v : (Int × Int) × Hp) => v) (lsE := [(0, rv D a0), (1, rv D a1)]) hm rfl cwS_code (la_r (la_r la_n)) (ll_r (ll_r ll_n)) ?_
  intro p e s m below meth c X hcw hmm hcc hnm hname
  have hno := noh hcw hnm hmm hcc
  unfold m_X5_string
  refine g_iconst (pc := 0) X (n := 0) (dl_at t_X5_string 0 rfl) ?_
  refine g_ltz (Or.inl rfl) fun x2_1 r2_1 => ?_
  refine g_istore_nN (pc := 1) X (j := 2) (i := 2) (x := x2_1) (b := 1) (w := rv D a1) (rest := [(0, rv D a0)]) rfl (Nat.le_of_ble_eq_true rfl) [1, 0] rfl (by decide) rv_cat rfl (dl_at t_X5_string 1 rfl) ?_
  refine g_ls (ls2 := [(0, rv D a0), (1, rv D a1), (2, iv x2_1)]) [2, 1, 0] rfl ?_
  refine g_loop0F (fun (q : Int × Hp) => [(0, rv D a0), (1, rv D a1), (2, iv q.1)]) (fun (q : Int × Hp) => q.2) (fun (q : Int × Hp) => r32 q.1 ∧ Ext h q.2) (x2_1, h) ⟨(r32_z r2_1), (Ext.refl _)⟩ ?_ (fun _ => rfl)
  · rintro ⟨x2_2, h_2⟩ ⟨r2_2, E_2⟩
    try dsimp only
    unfold m_X5_string_l2
    refine g_iload_n (pc := 2) X (j := 2) (i := 2) (q := 2) (x := x2_2) rfl rfl (dl_at t_X5_string 2 rfl) ?_
    refine g_aload_n (pc := 3) X (j := 1) (i := 1) (q := 1) (x := a1) rfl rfl (dl_at t_X5_string 3 rfl) ?_
    refine r_slen (pc := 4) X q2727 (cat24 (st := [iv x2_2]) (Nat.le_of_ble_eq_true rfl)) (Nat.le_of_ble_eq_true rfl) (Nat.le_of_ble_eq_true rfl) (dl_at t_X5_string 4 rfl) fun v4 g4 => ?_
    refine g_icmpge (pc := 7) X r2_2 g4 (off := 18) (tgt := 25) rfl (dl_at t_X5_string 5 rfl) (fun _ => ?_) (fun _ => ?_)
    · exact g_at fun Q hQ => (g_vret (pc := 25) X (v := 0) rfl rfl (dl_at t_X5_string 13 rfl)) _ Q rfl hQ
    refine g_aload_n (pc := 10) X (j := 0) (i := 0) (q := 0) (x := a0) rfl rfl (dl_at t_X5_string 6 rfl) ?_
    refine g_aload_n (pc := 11) X (j := 1) (i := 1) (q := 1) (x := a1) rfl rfl (dl_at t_X5_string 7 rfl) ?_
    refine g_iload_n (pc := 12) X (j := 2) (i := 2) (q := 2) (x := x2_2) rfl rfl (dl_at t_X5_string 8 rfl) ?_
    refine r_sat (pc := 13) X r2_2 q2728 (cat24 (st := [rv D a0]) (Nat.le_of_ble_eq_true rfl)) (Nat.le_of_ble_eq_true rfl) (Nat.le_of_ble_eq_true rfl) (dl_at t_X5_string 9 rfl) fun v13 g13 => ?_
    have k16 := kx E_2 (by decide) hk
    refine r_callTv (pc := 16) X (fun _ hv => s_X5_add k16 g13 hv) cw_code q2038 q359 (in_Vk X (As := [iv v13]) kX5 k16 (Or.inl q2035) q2037 qs44 cw_code q2038 ⟨by decide, by decide⟩ rfl (dl_at t_X5_string 10 rfl)) (dl_at t_X5_string 10 rfl) (cat24 (st := []) (Nat.le_of_ble_eq_true rfl)) (Nat.le_of_ble_eq_true rfl) (Nat.le_of_ble_eq_true rfl) (fun v16 h16 E16 => ?_) (fun _ _ ha _ => gt_at fun Q hQ => gt_out (Q := Q) X rfl ha (hno _) _ Q rfl hQ)
    refine r_iincN (pc := 19) X (i := 2) (q := 2) (n := 1) (x := x2_2) (b := 1) (w := rv D a1) (rest := [(0, rv D a0)]) rfl r2_2 (r32_c rfl) (Nat.le_of_ble_eq_true rfl) [1, 0] rfl (by decide) rv_cat rfl (dl_at t_X5_string 11 rfl) fun x2_19 r2_19 => ?_
    refine g_goto (pc := 22) X (off := (-20)) (tgt := 2) rfl (dl_at t_X5_string 12 rfl) ?_
    refine g_ls (ls2 := [(0, rv D a0), (1, rv D a1), (2, iv x2_19)]) [2, 1, 0] rfl ?_
    exact g_at fun Q hQ => hQ ⟨r2_19, (E_2.trans E16)⟩
def k_X14_takes : List (Nat × Instr × Nat) := [(0, .aload_n 0, 1), (1, .getfield 111, 3), (4, .aload_n 0, 1), (5, .getfield 214, 3), (8, .iload_n 1, 1), (9, .iastore, 1), (10, .aload_n 0, 1), (11, .getfield 114, 3), (14, .aload_n 0, 1), (15, .getfield 214, 3), (18, .iload_n 2, 1), (19, .iastore, 1), (20, .aload_n 0, 1), (21, .getfield 117, 3), (24, .aload_n 0, 1), (25, .getfield 214, 3), (28, .iload_n 3, 1), (29, .iastore, 1), (30, .aload_n 0, 1), (31, .dup, 1), (32, .getfield 214, 3), (35, .iconst 1, 1), (36, .iadd, 1), (37, .putfield 214, 3), (40, .return_, 1)]
theorem t_X14_takes : ∀ q ∈ k_X14_takes, decode cX14_takes q.1 = .ok q.2 := dl_all (by decide +kernel)
noncomputable def m_X14_takes (a0 a1 a2 a3 : Int) (h : Hp) : Option (Hp) :=
  gd (h (h a0 50) (-2) % 16 = 1 ∧ (0 : Int) ≤ (h a0 53) ∧ (h a0 53) < h (h a0 50) (-1)) (pt h (h a0 50) (h a0 53) a1 fun h9 =>
  gd (h9 (h9 a0 51) (-2) % 16 = 1 ∧ (0 : Int) ≤ (h9 a0 53) ∧ (h9 a0 53) < h9 (h9 a0 51) (-1)) (pt h9 (h9 a0 51) (h9 a0 53) a2 fun h19 =>
  gd (h19 (h19 a0 52) (-2) % 16 = 1 ∧ (0 : Int) ≤ (h19 a0 53) ∧ (h19 a0 53) < h19 (h19 a0 52) (-1)) (pt h19 (h19 a0 52) (h19 a0 53) a3 fun h29 =>
  pt h29 a0 53 (w32 ((h29 a0 53) + 1)) fun h37 =>
  some h37)))
theorem s_X14_takes {l : Launch} [NoTr l] {D : SD} {a0 a1 a2 a3 : Int} {h : Hp} (hk : h a0 (-2) = 224) (r1 : r32 a1) (r2 : r32 a2) (r3 : r32 a3) {r : Hp} (hm : m_X14_takes a0 a1 a2 a3 h = some r) : Sim l D yX14_takes (Cond.code yX14_takes cX14_takes 4 (Option.none : Option Jvm.ClassFile.FieldType)) 0 0 [rv D a0, iv a1, iv a2, iv a3] h 0 ((0, 0), r) := by
  refine Sim.of (fin := fun (v : Hp) => ((0, 0), v)) (lsE := [(0, rv D a0), (1, iv a1), (2, iv a2), (3, iv a3)]) hm rfl cwS_code (la_r (la_i (la_i (la_i la_n)))) (ll_r (ll_i (ll_i (ll_i ll_n)))) ?_
  intro p e s m below meth c X hcw hmm hcc hnm hname
  unfold m_X14_takes
  refine g_aload_n (pc := 0) X (j := 0) (i := 0) (q := 0) (x := a0) rfl rfl (dl_at t_X14_takes 0 rfl) ?_
  refine r_getr (pc := 1) X fX14_50 hk q1312 (dl_at t_X14_takes 1 rfl) ?_
  refine g_aload_n (pc := 4) X (j := 0) (i := 0) (q := 0) (x := a0) rfl rfl (dl_at t_X14_takes 2 rfl) ?_
  refine r_geti (pc := 5) X fX14_53 hk q1315 (dl_at t_X14_takes 3 rfl) fun g5 => ?_
  refine g_iload_n (pc := 8) X (j := 1) (i := 1) (q := 1) (x := a1) rfl rfl (dl_at t_X14_takes 4 rfl) ?_
  refine g_gd fun k9 => ?_
  refine r_iast (pc := 9) X g5 r1 k9 (dl_at t_X14_takes 5 rfl) (fun h9 E9 => ?_)
  refine g_aload_n (pc := 10) X (j := 0) (i := 0) (q := 0) (x := a0) rfl rfl (dl_at t_X14_takes 6 rfl) ?_
  have k11 := kx E9 (by decide) hk
  refine r_getr (pc := 11) X fX14_51 k11 q1313 (dl_at t_X14_takes 7 rfl) ?_
  refine g_aload_n (pc := 14) X (j := 0) (i := 0) (q := 0) (x := a0) rfl rfl (dl_at t_X14_takes 8 rfl) ?_
  refine r_geti (pc := 15) X fX14_53 k11 q1315 (dl_at t_X14_takes 9 rfl) fun g15 => ?_
  refine g_iload_n (pc := 18) X (j := 2) (i := 2) (q := 2) (x := a2) rfl rfl (dl_at t_X14_takes 10 rfl) ?_
  refine g_gd fun k19 => ?_
  refine r_iast (pc := 19) X g15 r2 k19 (dl_at t_X14_takes 11 rfl) (fun h19 E19 => ?_)
  refine g_aload_n (pc := 20) X (j := 0) (i := 0) (q := 0) (x := a0) rfl rfl (dl_at t_X14_takes 12 rfl) ?_
  have k21 := kx E19 (by decide) k11
  refine r_getr (pc := 21) X fX14_52 k21 q1314 (dl_at t_X14_takes 13 rfl) ?_
  refine g_aload_n (pc := 24) X (j := 0) (i := 0) (q := 0) (x := a0) rfl rfl (dl_at t_X14_takes 14 rfl) ?_
  refine r_geti (pc := 25) X fX14_53 k21 q1315 (dl_at t_X14_takes 15 rfl) fun g25 => ?_
  refine g_iload_n (pc := 28) X (j := 3) (i := 3) (q := 3) (x := a3) rfl rfl (dl_at t_X14_takes 16 rfl) ?_
  refine g_gd fun k29 => ?_
  refine r_iast (pc := 29) X g25 r3 k29 (dl_at t_X14_takes 17 rfl) (fun h29 E29 => ?_)
  refine g_aload_n (pc := 30) X (j := 0) (i := 0) (q := 0) (x := a0) rfl rfl (dl_at t_X14_takes 18 rfl) ?_
  refine g_dup (pc := 31) X rv_cat (dl_at t_X14_takes 19 rfl) ?_
  have k32 := kx E29 (by decide) k21
  refine r_geti (pc := 32) X fX14_53 k32 q1315 (dl_at t_X14_takes 20 rfl) fun g32 => ?_
  refine g_iconst (pc := 35) X (n := 1) (dl_at t_X14_takes 21 rfl) ?_
  refine g_iadd (pc := 36) X g32 (r32_c rfl) (dl_at t_X14_takes 22 rfl) ?_
  refine r_puti (pc := 37) X fX14_53 k32 q1315 rfl (dl_at t_X14_takes 23 rfl) (r32_w _) (fun h37 E37 => ?_)
  exact g_vret (pc := 40) X (v := 0) rfl rfl (dl_at t_X14_takes 24 rfl)
def k_X14_linesText : List (Nat × Instr × Nat) := [(0, .aload_n 0, 1), (1, .iload_n 2, 1), (2, .invokevirtual 586, 3), (5, .ifCond .ne 11, 3), (8, .aload_n 3, 1), (9, .ldc_w 589, 3), (12, .invokevirtual 591, 3), (15, .return_, 1), (16, .aload_n 3, 1), (17, .aload_n 0, 1), (18, .getfield 98, 3), (21, .iload_n 2, 1), (22, .iaload, 1), (23, .i2l, 1), (24, .invokevirtual 522, 3), (27, .aload_n 0, 1), (28, .getfield 101, 3), (31, .iload_n 2, 1), (32, .iaload, 1), (33, .ifCond .lt 20, 3), (36, .aload_n 3, 1), (37, .bipush 45, 2), (39, .invokevirtual 526, 3), (42, .aload_n 3, 1), (43, .aload_n 0, 1), (44, .getfield 101, 3), (47, .iload_n 2, 1), (48, .iaload, 1), (49, .i2l, 1), (50, .invokevirtual 522, 3), (53, .aload_n 0, 1), (54, .iload_n 1, 1), (55, .iload_n 2, 1), (56, .iconst 2, 1), (57, .invokevirtual 595, 3), (60, .return_, 1)]
theorem t_X14_linesText : ∀ q ∈ k_X14_linesText, decode cX14_linesText q.1 = .ok q.2 := dl_all (by decide +kernel)
noncomputable def m_X14_linesText (a0 a1 a2 a3 : Int) (h : Hp) : Option ((Int × Int) × Hp) :=
  (m_X14_isTarget a0 a2 h).bind fun v2 =>
  if v2 ≠ 0 then (gd (h (h a0 41) (-2) % 16 = 1 ∧ (0 : Int) ≤ a2 ∧ a2 < h (h a0 41) (-1)) (gd (h a3 (-2) = 80) (bT (m_X5_number 24 a3 (h (h a0 41) a2) h) (fun _ h24 =>
  gd (h24 (h24 a0 42) (-2) % 16 = 1 ∧ (0 : Int) ≤ a2 ∧ a2 < h24 (h24 a0 42) (-1)) (if (h24 (h24 a0 42) a2) < 0 then ((m_X14_takes a0 a1 a2 2 h24).bind fun h57 =>
  some ((0, 0), h57))
  else (bT (m_X5_add a3 45 h24) (fun _ h39 =>
  gd (h39 (h39 a0 42) (-2) % 16 = 1 ∧ (0 : Int) ≤ a2 ∧ a2 < h39 (h39 a0 42) (-1)) (bT (m_X5_number 24 a3 (h39 (h39 a0 42) a2) h39) (fun _ h50 =>
  (m_X14_takes a0 a1 a2 2 h50).bind fun h57_1 =>
  some ((0, 0), h57_1)) (fun a_ h_ => some ((1, a_), h_)))) (fun a_ h_ => some ((1, a_), h_))))) (fun a_ h_ => some ((1, a_), h_)))))
  else (gd (h a3 (-2) = 80) (bT (m_X5_string a3 (-3) h) (fun _ h12 =>
  some ((0, 0), h12)) (fun a_ h_ => some ((1, a_), h_))))
theorem s_X14_linesText {l : Launch} [NoTr l] {D : SD} {a0 a1 a2 a3 : Int} {h : Hp} (hk : h a0 (-2) = 224) (r1 : r32 a1) (r2 : r32 a2) {r : (Int × Int) × Hp} (hm : m_X14_linesText a0 a1 a2 a3 h = some r) : Sim l D yX14_linesText (Cond.code yX14_linesText cX14_linesText 4 (Option.none : Option Jvm.ClassFile.FieldType)) 36 1359 [rv D a0, iv a1, iv a2, rv D a3] h 0 r := by
  refine Sim.of (fin := fun (v : (Int × Int) × Hp) => v) (lsE := [(0, rv D a0), (1, iv a1), (2, iv a2), (3, rv D a3)]) hm rfl cwS_code (la_r (la_i (la_i (la_r la_n)))) (ll_r (ll_i (ll_i (ll_r ll_n)))) ?_
  intro p e s m below meth c X hcw hmm hcc hnm hname
  have hno := noh hcw hnm hmm hcc
  unfold m_X14_linesText
  refine g_aload_n (pc := 0) X (j := 0) (i := 0) (q := 0) (x := a0) rfl rfl (dl_at t_X14_linesText 0 rfl) ?_
  refine g_iload_n (pc := 1) X (j := 2) (i := 2) (q := 2) (x := a2) rfl rfl (dl_at t_X14_linesText 1 rfl) ?_
  refine r_callRz (pc := 2) X (fun _ hv => s_X14_isTarget hk r2 hv) cw_code q2721 q368 (in_Vk X (As := [iv a2]) kX14 hk (Or.inl q2718) q2720 qs146 cw_code q2721 ⟨by decide, by decide⟩ rfl (dl_at t_X14_linesText 2 rfl)) (dl_at t_X14_linesText 2 rfl) (cat24 (st := []) (Nat.le_of_ble_eq_true rfl)) (Nat.le_of_ble_eq_true rfl) (Nat.le_of_ble_eq_true rfl) fun v2 g2 => ?_
  refine g_ifne (pc := 5) X (r32_z g2) (off := 11) (tgt := 16) rfl (dl_at t_X14_linesText 3 rfl) (fun _ => ?_) (fun _ => ?_)
  · refine g_aload_n (pc := 16) X (j := 3) (i := 3) (q := 3) (x := a3) rfl rfl (dl_at t_X14_linesText 8 rfl) ?_
    refine g_aload_n (pc := 17) X (j := 0) (i := 0) (q := 0) (x := a0) rfl rfl (dl_at t_X14_linesText 9 rfl) ?_
    refine r_getr (pc := 18) X fX14_41 hk q1302 (dl_at t_X14_linesText 10 rfl) ?_
    refine g_iload_n (pc := 21) X (j := 2) (i := 2) (q := 2) (x := a2) rfl rfl (dl_at t_X14_linesText 11 rfl) ?_
    refine g_gd fun k22 => ?_
    refine g_iald (pc := 22) X r2 k22 (dl_at t_X14_linesText 12 rfl) fun g22 => ?_
    refine g_i2l (pc := 23) X g22 (dl_at t_X14_linesText 13 rfl) ?_
    refine g_gd fun k24 => ?_
    refine r_callTv (pc := 24) X (fun _ hv => s_X5_number (d := 24) k24 (r64_of g22) hv) cw_code q2441 q359 (in_Vk X (As := [jv (h (h a0 41) a2)]) kX5 k24 (Or.inr ⟨_, nw_in q2685 rfl⟩) q2440 qs105 cw_code q2441 ⟨by decide, by decide⟩ rfl (dl_at t_X14_linesText 14 rfl)) (dl_at t_X14_linesText 14 rfl) (cat24 (st := []) (Nat.le_of_ble_eq_true rfl)) (Nat.le_of_ble_eq_true rfl) (Nat.le_of_ble_eq_true rfl) (fun v24 h24 E24 => ?_) (fun _ _ ha _ => gt_at fun Q hQ => gt_out (Q := Q) X rfl ha (hno _) _ Q rfl hQ)
    refine g_aload_n (pc := 27) X (j := 0) (i := 0) (q := 0) (x := a0) rfl rfl (dl_at t_X14_linesText 15 rfl) ?_
    have k28 := kx E24 (by decide) hk
    refine r_getr (pc := 28) X fX14_42 k28 q1303 (dl_at t_X14_linesText 16 rfl) ?_
    refine g_iload_n (pc := 31) X (j := 2) (i := 2) (q := 2) (x := a2) rfl rfl (dl_at t_X14_linesText 17 rfl) ?_
    refine g_gd fun k32 => ?_
    refine g_iald (pc := 32) X r2 k32 (dl_at t_X14_linesText 18 rfl) fun g32 => ?_
    refine g_iflt (pc := 33) X g32 (off := 20) (tgt := 53) rfl (dl_at t_X14_linesText 19 rfl) (fun _ => ?_) (fun _ => ?_)
    · refine g_aload_n (pc := 53) X (j := 0) (i := 0) (q := 0) (x := a0) rfl rfl (dl_at t_X14_linesText 30 rfl) ?_
      refine g_iload_n (pc := 54) X (j := 1) (i := 1) (q := 1) (x := a1) rfl rfl (dl_at t_X14_linesText 31 rfl) ?_
      refine g_iload_n (pc := 55) X (j := 2) (i := 2) (q := 2) (x := a2) rfl rfl (dl_at t_X14_linesText 32 rfl) ?_
      refine g_iconst (pc := 56) X (n := 2) (dl_at t_X14_linesText 33 rfl) ?_
      refine r_callV (pc := 57) X (fun _ hv => s_X14_takes k28 r1 r2 (r32_c rfl) hv) cw_code q2732 q368 (in_Vk X (As := [iv a1, iv a2, iv 2]) kX14 k28 (Or.inl q2729) q2731 qs148 cw_code q2732 ⟨by decide, by decide⟩ rfl (dl_at t_X14_linesText 34 rfl)) (dl_at t_X14_linesText 34 rfl) (cat24 (st := []) (Nat.le_of_ble_eq_true rfl)) (Nat.le_of_ble_eq_true rfl) (Nat.le_of_ble_eq_true rfl) fun h57 E57 => ?_
      exact g_vret (pc := 60) X (v := 0) rfl rfl (dl_at t_X14_linesText 35 rfl)
    refine g_aload_n (pc := 36) X (j := 3) (i := 3) (q := 3) (x := a3) rfl rfl (dl_at t_X14_linesText 20 rfl) ?_
    refine g_bipush (pc := 37) X (n := 45) rfl (dl_at t_X14_linesText 21 rfl) ?_
    have k39 := kx E24 (by decide) k24
    refine r_callTv (pc := 39) X (fun _ hv => s_X5_add k39 (r32_c rfl) hv) cw_code q2038 q359 (in_Vk X (As := [iv 45]) kX5 k39 (Or.inr ⟨_, nw_in q2704 rfl⟩) q2037 qs44 cw_code q2038 ⟨by decide, by decide⟩ rfl (dl_at t_X14_linesText 22 rfl)) (dl_at t_X14_linesText 22 rfl) (cat24 (st := []) (Nat.le_of_ble_eq_true rfl)) (Nat.le_of_ble_eq_true rfl) (Nat.le_of_ble_eq_true rfl) (fun v39 h39 E39 => ?_) (fun _ _ ha _ => gt_at fun Q hQ => gt_out (Q := Q) X rfl ha (hno _) _ Q rfl hQ)
    refine g_aload_n (pc := 42) X (j := 3) (i := 3) (q := 3) (x := a3) rfl rfl (dl_at t_X14_linesText 23 rfl) ?_
    refine g_aload_n (pc := 43) X (j := 0) (i := 0) (q := 0) (x := a0) rfl rfl (dl_at t_X14_linesText 24 rfl) ?_
    have k44 := kx E39 (by decide) k28
    refine r_getr (pc := 44) X fX14_42 k44 q1303 (dl_at t_X14_linesText 25 rfl) ?_
    refine g_iload_n (pc := 47) X (j := 2) (i := 2) (q := 2) (x := a2) rfl rfl (dl_at t_X14_linesText 26 rfl) ?_
    refine g_gd fun k48 => ?_
    refine g_iald (pc := 48) X r2 k48 (dl_at t_X14_linesText 27 rfl) fun g48 => ?_
    refine g_i2l (pc := 49) X g48 (dl_at t_X14_linesText 28 rfl) ?_
    have k50 := kx E39 (by decide) k39
    refine r_callTv (pc := 50) X (fun _ hv => s_X5_number (d := 24) k50 (r64_of g48) hv) cw_code q2441 q359 (in_Vk X (As := [jv (h39 (h39 a0 42) a2)]) kX5 k50 (Or.inr ⟨_, nw_in q2685 rfl⟩) q2440 qs105 cw_code q2441 ⟨by decide, by decide⟩ rfl (dl_at t_X14_linesText 29 rfl)) (dl_at t_X14_linesText 29 rfl) (cat24 (st := []) (Nat.le_of_ble_eq_true rfl)) (Nat.le_of_ble_eq_true rfl) (Nat.le_of_ble_eq_true rfl) (fun v50 h50 E50 => ?_) (fun _ _ ha _ => gt_at fun Q hQ => gt_out (Q := Q) X rfl ha (hno _) _ Q rfl hQ)
    refine g_aload_n (pc := 53) X (j := 0) (i := 0) (q := 0) (x := a0) rfl rfl (dl_at t_X14_linesText 30 rfl) ?_
    refine g_iload_n (pc := 54) X (j := 1) (i := 1) (q := 1) (x := a1) rfl rfl (dl_at t_X14_linesText 31 rfl) ?_
    refine g_iload_n (pc := 55) X (j := 2) (i := 2) (q := 2) (x := a2) rfl rfl (dl_at t_X14_linesText 32 rfl) ?_
    refine g_iconst (pc := 56) X (n := 2) (dl_at t_X14_linesText 33 rfl) ?_
    have k57 := kx E50 (by decide) k44
    refine r_callV (pc := 57) X (fun _ hv => s_X14_takes k57 r1 r2 (r32_c rfl) hv) cw_code q2732 q368 (in_Vk X (As := [iv a1, iv a2, iv 2]) kX14 k57 (Or.inl q2729) q2731 qs148 cw_code q2732 ⟨by decide, by decide⟩ rfl (dl_at t_X14_linesText 34 rfl)) (dl_at t_X14_linesText 34 rfl) (cat24 (st := []) (Nat.le_of_ble_eq_true rfl)) (Nat.le_of_ble_eq_true rfl) (Nat.le_of_ble_eq_true rfl) fun h57_1 E57_1 => ?_
    exact g_vret (pc := 60) X (v := 0) rfl rfl (dl_at t_X14_linesText 35 rfl)
  refine g_aload_n (pc := 8) X (j := 3) (i := 3) (q := 3) (x := a3) rfl rfl (dl_at t_X14_linesText 4 rfl) ?_
  refine g_ldcSw (pc := 9) X (index := 589) (id := (-3)) 1 rfl rfl (dl_at t_X14_linesText 5 rfl) ?_
  refine g_gd fun k12 => ?_
  refine r_callTv (pc := 12) X (fun _ hv => s_X5_string k12 hv) cw_code q2726 q359 (in_Vk X (As := [rv D (-3)]) kX5 k12 (Or.inr ⟨_, nw_in q2723 rfl⟩) q2725 qs147 cw_code q2726 ⟨by decide, by decide⟩ rfl (dl_at t_X14_linesText 6 rfl)) (dl_at t_X14_linesText 6 rfl) (cat24 (st := []) (Nat.le_of_ble_eq_true rfl)) (Nat.le_of_ble_eq_true rfl) (Nat.le_of_ble_eq_true rfl) (fun v12 h12 E12 => ?_) (fun _ _ ha _ => gt_at fun Q hQ => gt_out (Q := Q) X rfl ha (hno _) _ Q rfl hQ)
  exact g_vret (pc := 15) X (v := 0) rfl rfl (dl_at t_X14_linesText 7 rfl)
def k_X14_label : List (Nat × Instr × Nat) := [(0, .aload_n 0, 1), (1, .getfield 158, 3), (4, .iload_n 1, 1), (5, .invokevirtual 449, 3), (8, .istore_n 2, 1), (9, .aload_n 0, 1), (10, .invokevirtual 441, 3), (13, .astore_n 3, 1), (14, .aload_n 0, 1), (15, .iload_n 1, 1), (16, .iconst 1, 1), (17, .invokevirtual 283, 3), (20, .istore 4, 2), (22, .iconst 0, 1), (23, .istore 5, 2), (25, .iload 5, 2), (27, .iload_n 2, 1), (28, .if_icmp .ge 78, 3), (31, .aload_n 0, 1), (32, .getfield 158, 3), (35, .iload_n 1, 1), (36, .iload 5, 2), (38, .invokevirtual 452, 3), (41, .istore 6, 2), (43, .iload 6, 2), (45, .bipush 35, 2), (47, .if_icmp .ne 32, 3), (50, .aload_n 0, 1), (51, .aload_n 3, 1), (52, .aload_n 0, 1), (53, .getfield 158, 3), (56, .getfield 455, 3), (59, .iload 4, 2), (61, .aload_n 0, 1), (62, .getfield 410, 3), (65, .ifCond .ne 7, 3), (68, .iconst 1, 1), (69, .goto 4, 3), (72, .iconst 0, 1), (73, .invokevirtual 458, 3), (76, .goto 24, 3), (79, .aload_n 0, 1), (80, .aload_n 3, 1), (81, .iload 6, 2), (83, .iload 4, 2), (85, .aload_n 0, 1), (86, .getfield 410, 3), (89, .ifCond .ne 7, 3), (92, .iconst 1, 1), (93, .goto 4, 3), (96, .iconst 0, 1), (97, .invokevirtual 264, 3), (100, .iinc 5 1, 3), (103, .goto (-78), 3), (106, .return_, 1)]
theorem t_X14_label : ∀ q ∈ k_X14_label, decode cX14_label q.1 = .ok q.2 := dl_all (by decide +kernel)
noncomputable def m_X14_label_j100 (x5_25 : Int) (h_100 : Hp) : Option ((Int × Hp) ⊕ (((Int × Int) × Hp))) :=
  lt_ (w32 (x5_25 + 1)) fun x5_100 =>
  some (.inl (x5_100, h_100))
noncomputable def m_X14_label_j97 (v38 x5_25 a0 v10 v17 s4_97 : Int) (h_25 : Hp) : Option ((Int × Hp) ⊕ (((Int × Int) × Hp))) :=
  bT (m_X14_put a0 v10 v38 v17 s4_97 h_25) (fun _ h97 =>
  m_X14_label_j100 x5_25 h97) (fun a_ h_ => some (.inr ((1, a_), h_)))
noncomputable def m_X14_label_j73 (x5_25 a0 v10 v17 s2_73 s4_73 : Int) (h_25 : Hp) : Option ((Int × Hp) ⊕ (((Int × Int) × Hp))) :=
  bT (m_X14_putAll a0 v10 s2_73 v17 s4_73 h_25) (fun _ h73 =>
  m_X14_label_j100 x5_25 h73) (fun a_ h_ => some (.inr ((1, a_), h_)))
noncomputable def m_X14_label_l25 (a0 a1 v5 v10 v17 x5_25 : Int) (h_25 : Hp) : Option ((Int × Hp) ⊕ (((Int × Int) × Hp))) :=
  if v5 ≤ x5_25 then (some (.inr ((0, 0), h_25)))
  else (gd (h_25 (h_25 a0 2) (-2) = 112) ((m_X7_labelByte (h_25 a0 2) a1 x5_25 h_25).bind fun v38 =>
  if v38 ≠ 35 then (if (h_25 a0 46) ≠ 0 then (m_X14_label_j97 v38 x5_25 a0 v10 v17 0 h_25)
  else (m_X14_label_j97 v38 x5_25 a0 v10 v17 1 h_25))
  else (if (h_25 a0 46) ≠ 0 then (m_X14_label_j73 x5_25 a0 v10 v17 (h_25 (h_25 a0 2) 18) 0 h_25)
  else (m_X14_label_j73 x5_25 a0 v10 v17 (h_25 (h_25 a0 2) 18) 1 h_25))))
noncomputable def m_X14_label (a0 a1 : Int) (h : Hp) : Option ((Int × Int) × Hp) :=
  gd (h (h a0 2) (-2) = 112) (bT (m_X7_labelOf (h a0 2) a1 h) (fun v5 h5 =>
  (m_X14_open_2 a0 h5).bind fun v10 =>
  (m_X14_property a0 a1 1 h5).bind fun v17 =>
  lt_ 0 fun x5_23 =>
  (lp (fun (q : Int × Hp) => m_X14_label_l25 a0 a1 v5 v10 v17 q.1 q.2) (x5_23, h5)).bind (fun (x : (Int × Int) × Hp) => some x)) (fun a_ h_ => some ((1, a_), h_)))
theorem s_X14_label {l : Launch} [NoTr l] {D : SD} {a0 a1 : Int} {h : Hp} (hk : h a0 (-2) = 224) (r1 : r32 a1) {r : (Int × Int) × Hp} (hm : m_X14_label a0 a1 h = some r) : Sim l D yX14_label (Cond.code yX14_label cX14_label 7 (Option.none : Option Jvm.ClassFile.FieldType)) 39 1472 [rv D a0, iv a1] h 0 r := by
  refine Sim.of (fin := fun (v : (Int × Int) × Hp) => v) (lsE := [(0, rv D a0), (1, iv a1)]) hm rfl cwS_code (la_r (la_i la_n)) (ll_r (ll_i ll_n)) ?_
  intro p e s m below meth c X hcw hmm hcc hnm hname
  have hno := noh hcw hnm hmm hcc
  unfold m_X14_label
  refine g_aload_n (pc := 0) X (j := 0) (i := 0) (q := 0) (x := a0) rfl rfl (dl_at t_X14_label 0 rfl) ?_
  refine r_getr (pc := 1) X fX14_2 hk q1243 (dl_at t_X14_label 1 rfl) ?_
  refine g_iload_n (pc := 4) X (j := 1) (i := 1) (q := 1) (x := a1) rfl rfl (dl_at t_X14_label 2 rfl) ?_
  refine g_gd fun k5 => ?_
  refine r_callTi (pc := 5) X (fun _ hv => s_X7_labelOf k5 r1 hv) cw_code q2412 q361 (in_Vk X (As := [iv a1]) kX7 k5 (Or.inr ⟨_, nw_in q2737 rfl⟩) q2411 qs101 cw_code q2412 ⟨by decide, by decide⟩ rfl (dl_at t_X14_label 3 rfl)) (dl_at t_X14_label 3 rfl) (cat24 (st := []) (Nat.le_of_ble_eq_true rfl)) (Nat.le_of_ble_eq_true rfl) (Nat.le_of_ble_eq_true rfl) (fun v5 h5 g5 E5 => ?_) (fun _ _ ha _ => gt_at fun Q hQ => gt_out (Q := Q) X rfl ha (hno _) _ Q rfl hQ)
  refine g_istore_nN (pc := 8) X (j := 2) (i := 2) (x := v5) (b := 1) (w := iv a1) (rest := [(0, rv D a0)]) rfl (Nat.le_of_ble_eq_true rfl) [1, 0] rfl (by decide) rfl rfl (dl_at t_X14_label 4 rfl) ?_
  refine g_aload_n (pc := 9) X (j := 0) (i := 0) (q := 2) (x := a0) rfl rfl (dl_at t_X14_label 5 rfl) ?_
  have k10 := kx E5 (by decide) hk
  refine r_callRr (pc := 10) X (fun _ hv => s_X14_open_2 k10 hv) cw_code q2689 q368 (in_Vk X (As := []) kX14 k10 (Or.inl q2686) q2688 qs140 cw_code q2689 ⟨by decide, by decide⟩ rfl (dl_at t_X14_label 6 rfl)) (dl_at t_X14_label 6 rfl) (cat24 (st := []) (Nat.le_of_ble_eq_true rfl)) (Nat.le_of_ble_eq_true rfl) (Nat.le_of_ble_eq_true rfl) fun v10 => ?_
  refine g_astore_nN (pc := 13) X (j := 3) (i := 3) (x := v10) (b := 2) (w := iv v5) (rest := [(1, iv a1), (0, rv D a0)]) rfl (Nat.le_of_ble_eq_true rfl) [0, 1, 2] rfl (by decide) rfl rfl (dl_at t_X14_label 7 rfl) ?_
  refine g_aload_n (pc := 14) X (j := 0) (i := 0) (q := 3) (x := a0) rfl rfl (dl_at t_X14_label 8 rfl) ?_
  refine g_iload_n (pc := 15) X (j := 1) (i := 1) (q := 2) (x := a1) rfl rfl (dl_at t_X14_label 9 rfl) ?_
  refine g_iconst (pc := 16) X (n := 1) (dl_at t_X14_label 10 rfl) ?_
  refine r_callRi (pc := 17) X (fun _ hv => s_X14_property k10 r1 (r32_c rfl) hv) cw_code q2504 q368 (in_Vk X (As := [iv a1, iv 1]) kX14 k10 (Or.inl q2501) q2503 qs119 cw_code q2504 ⟨by decide, by decide⟩ rfl (dl_at t_X14_label 11 rfl)) (dl_at t_X14_label 11 rfl) (cat24 (st := []) (Nat.le_of_ble_eq_true rfl)) (Nat.le_of_ble_eq_true rfl) (Nat.le_of_ble_eq_true rfl) fun v17 g17 => ?_
  refine g_istoreN (pc := 20) X (i := 4) (x := v17) (b := 3) (w := rv D v10) (rest := [(2, iv v5), (1, iv a1), (0, rv D a0)]) (Nat.le_of_ble_eq_true rfl) [0, 1, 2, 3] rfl (by decide) rv_cat rfl (dl_at t_X14_label 12 rfl) ?_
  refine g_iconst (pc := 22) X (n := 0) (dl_at t_X14_label 13 rfl) ?_
  refine g_ltz (Or.inl rfl) fun x5_23 r5_23 => ?_
  refine g_istoreN (pc := 23) X (i := 5) (x := x5_23) (b := 4) (w := iv v17) (rest := [(3, rv D v10), (2, iv v5), (1, iv a1), (0, rv D a0)]) (Nat.le_of_ble_eq_true rfl) [0, 1, 2, 3, 4] rfl (by decide) rfl rfl (dl_at t_X14_label 14 rfl) ?_
  refine g_ls (ls2 := [(0, rv D a0), (1, iv a1), (2, iv v5), (3, rv D v10), (4, iv v17), (5, iv x5_23)]) [5, 4, 3, 2, 1, 0] rfl ?_
  refine g_loop0F (fun (q : Int × Hp) => [(0, rv D a0), (1, iv a1), (2, iv v5), (3, rv D v10), (4, iv v17), (5, iv q.1)]) (fun (q : Int × Hp) => q.2) (fun (q : Int × Hp) => r32 q.1 ∧ Ext h5 q.2) (x5_23, h5) ⟨(r32_z r5_23), (Ext.refl _)⟩ ?_ (fun _ => rfl)
  · rintro ⟨x5_25, h_25⟩ ⟨r5_25, E_25⟩
    try dsimp only
    unfold m_X14_label_l25
    refine g_iload (pc := 25) X (i := 5) (q := 5) (x := x5_25) rfl (dl_at t_X14_label 15 rfl) ?_
    refine g_iload_n (pc := 27) X (j := 2) (i := 2) (q := 2) (x := v5) rfl rfl (dl_at t_X14_label 16 rfl) ?_
    refine g_icmpge (pc := 28) X r5_25 g5 (off := 78) (tgt := 106) rfl (dl_at t_X14_label 17 rfl) (fun _ => ?_) (fun _ => ?_)
    · exact g_at fun Q hQ => (g_vret (pc := 106) X (v := 0) rfl rfl (dl_at t_X14_label 54 rfl)) _ Q rfl hQ
    refine g_aload_n (pc := 31) X (j := 0) (i := 0) (q := 0) (x := a0) rfl rfl (dl_at t_X14_label 18 rfl) ?_
    have k32 := kx E_25 (by decide) k10
    refine r_getr (pc := 32) X fX14_2 k32 q1243 (dl_at t_X14_label 19 rfl) ?_
    refine g_iload_n (pc := 35) X (j := 1) (i := 1) (q := 1) (x := a1) rfl rfl (dl_at t_X14_label 20 rfl) ?_
    refine g_iload (pc := 36) X (i := 5) (q := 5) (x := x5_25) rfl (dl_at t_X14_label 21 rfl) ?_
    refine g_gd fun k38 => ?_
    refine r_callRi (pc := 38) X (fun _ hv => s_X7_labelByte k38 r1 r5_25 hv) cw_code q2453 q361 (in_Vk X (As := [iv a1, iv x5_25]) kX7 k38 (Or.inr ⟨_, nw_in q2738 rfl⟩) q2452 qs107 cw_code q2453 ⟨by decide, by decide⟩ rfl (dl_at t_X14_label 22 rfl)) (dl_at t_X14_label 22 rfl) (cat24 (st := []) (Nat.le_of_ble_eq_true rfl)) (Nat.le_of_ble_eq_true rfl) (Nat.le_of_ble_eq_true rfl) fun v38 g38 => ?_
    refine g_istoreN (pc := 41) X (i := 6) (x := v38) (b := 5) (w := iv x5_25) (rest := [(0, rv D a0), (1, iv a1), (2, iv v5), (3, rv D v10), (4, iv v17)]) (Nat.le_of_ble_eq_true rfl) [5, 0, 1, 2, 3, 4] rfl (by decide) rfl rfl (dl_at t_X14_label 23 rfl) ?_
    refine g_iload (pc := 43) X (i := 6) (q := 0) (x := v38) rfl (dl_at t_X14_label 24 rfl) ?_
    refine g_bipush (pc := 45) X (n := 35) rfl (dl_at t_X14_label 25 rfl) ?_
    refine g_join (γ := Hp) (fun q => Ext h_25 q) 100 (fun q => [(0, rv D a0), (1, iv a1), (2, iv v5), (3, rv D v10), (4, iv v17), (5, iv x5_25)]) (fun q => []) (fun q => q) (fun q => m_X14_label_j100 x5_25 q) ?_ ?_
    · rintro h_100 E_100
      try dsimp only
      unfold m_X14_label_j100
      refine r_iincN (pc := 100) X (i := 5) (q := 5) (n := 1) (x := x5_25) (b := 4) (w := iv v17) (rest := [(0, rv D a0), (1, iv a1), (2, iv v5), (3, rv D v10)]) rfl r5_25 (r32_c rfl) (Nat.le_of_ble_eq_true rfl) [4, 0, 1, 2, 3] rfl (by decide) rfl rfl (dl_at t_X14_label 52 rfl) fun x5_100 r5_100 => ?_
      refine g_goto (pc := 103) X (off := (-78)) (tgt := 25) rfl (dl_at t_X14_label 53 rfl) ?_
      refine g_ls (ls2 := [(0, rv D a0), (1, iv a1), (2, iv v5), (3, rv D v10), (4, iv v17), (5, iv x5_100)]) [2, 3, 4, 5, 1, 0] rfl ?_
      exact g_at fun Q hQ => hQ ⟨r5_100, (E_25.trans E_100)⟩
    intro J100
    refine g_icmpne (pc := 47) X g38 (r32_c rfl) (off := 32) (tgt := 79) rfl (dl_at t_X14_label 26 rfl) (fun _ => ?_) (fun _ => ?_)
    · refine g_aload_n (pc := 79) X (j := 0) (i := 0) (q := 2) (x := a0) rfl rfl (dl_at t_X14_label 41 rfl) ?_
      refine g_aload_n (pc := 80) X (j := 3) (i := 3) (q := 5) (x := v10) rfl rfl (dl_at t_X14_label 42 rfl) ?_
      refine g_iload (pc := 81) X (i := 6) (q := 0) (x := v38) rfl (dl_at t_X14_label 43 rfl) ?_
      refine g_iload (pc := 83) X (i := 4) (q := 6) (x := v17) rfl (dl_at t_X14_label 44 rfl) ?_
      refine g_aload_n (pc := 85) X (j := 0) (i := 0) (q := 2) (x := a0) rfl rfl (dl_at t_X14_label 45 rfl) ?_
      refine r_getz (pc := 86) X fX14_46 k32 q1308 (dl_at t_X14_label 46 rfl) fun g86 => ?_
      refine g_join (γ := Int) (fun q => (q = 0 ∨ q = 1)) 97 (fun q => [(0, rv D a0), (1, iv a1), (2, iv v5), (3, rv D v10), (4, iv v17), (5, iv x5_25)]) (fun q => [iv q, iv v17, iv v38, rv D v10, rv D a0]) (fun q => h_25) (fun q => m_X14_label_j97 v38 x5_25 a0 v10 v17 q h_25) ?_ ?_
      · rintro s4_97 rs4_97
        try dsimp only
        unfold m_X14_label_j97
        refine r_callTv (pc := 97) X (fun _ hv => s_X14_put k32 g38 g17 rs4_97 hv) cw_code q2697 q368 (in_Vk X (As := [rv D v10, iv v38, iv v17, iv s4_97]) kX14 k32 (Or.inl q2694) q2696 qs142 cw_code q2697 ⟨by decide, by decide⟩ rfl (dl_at t_X14_label 51 rfl)) (dl_at t_X14_label 51 rfl) (cat24 (st := []) (Nat.le_of_ble_eq_true rfl)) (Nat.le_of_ble_eq_true rfl) (Nat.le_of_ble_eq_true rfl) (fun v97 h97 E97 => ?_) (fun _ _ ha _ => gt_at fun Q hQ => gt_out (Q := Q) X rfl ha (hno _) _ Q rfl hQ)
        exact J100 h97 E97
      intro J97
      refine g_ifne (pc := 89) X (r32_z g86) (off := 7) (tgt := 96) rfl (dl_at t_X14_label 47 rfl) (fun _ => ?_) (fun _ => ?_)
      · refine g_iconst (pc := 96) X (n := 0) (dl_at t_X14_label 50 rfl) ?_
        refine g_ls (ls2 := [(0, rv D a0), (1, iv a1), (2, iv v5), (3, rv D v10), (4, iv v17), (5, iv x5_25)]) [2, 3, 4, 5, 6, 1] rfl ?_
        exact J97 0 (Or.inl rfl)
      refine g_iconst (pc := 92) X (n := 1) (dl_at t_X14_label 48 rfl) ?_
      refine g_goto (pc := 93) X (off := 4) (tgt := 97) rfl (dl_at t_X14_label 49 rfl) ?_
      refine g_ls (ls2 := [(0, rv D a0), (1, iv a1), (2, iv v5), (3, rv D v10), (4, iv v17), (5, iv x5_25)]) [2, 3, 4, 5, 6, 1] rfl ?_
      exact J97 1 (Or.inr rfl)
    refine g_aload_n (pc := 50) X (j := 0) (i := 0) (q := 2) (x := a0) rfl rfl (dl_at t_X14_label 27 rfl) ?_
    refine g_aload_n (pc := 51) X (j := 3) (i := 3) (q := 5) (x := v10) rfl rfl (dl_at t_X14_label 28 rfl) ?_
    refine g_aload_n (pc := 52) X (j := 0) (i := 0) (q := 2) (x := a0) rfl rfl (dl_at t_X14_label 29 rfl) ?_
    refine r_getr (pc := 53) X fX14_2 k32 q1243 (dl_at t_X14_label 30 rfl) ?_
    refine r_getrN (pc := 56) X fX7_18 k38 (nw_in q810 rfl) (dl_at t_X14_label 31 rfl) ?_
    refine g_iload (pc := 59) X (i := 4) (q := 6) (x := v17) rfl (dl_at t_X14_label 32 rfl) ?_
    refine g_aload_n (pc := 61) X (j := 0) (i := 0) (q := 2) (x := a0) rfl rfl (dl_at t_X14_label 33 rfl) ?_
    refine r_getz (pc := 62) X fX14_46 k32 q1308 (dl_at t_X14_label 34 rfl) fun g62 => ?_
    refine g_join (γ := Int × Int) (fun q => (q.2 = 0 ∨ q.2 = 1)) 73 (fun q => [(0, rv D a0), (1, iv a1), (2, iv v5), (3, rv D v10), (4, iv v17), (5, iv x5_25)]) (fun q => [iv q.2, iv v17, rv D q.1, rv D v10, rv D a0]) (fun q => h_25) (fun q => m_X14_label_j73 x5_25 a0 v10 v17 q.1 q.2 h_25) ?_ ?_
    · rintro ⟨s2_73, s4_73⟩ rs4_73
      try dsimp only
      unfold m_X14_label_j73
      refine r_callTv (pc := 73) X (fun _ hv => s_X14_putAll k32 g17 rs4_73 hv) cw_code q2693 q368 (in_Vk X (As := [rv D v10, rv D s2_73, iv v17, iv s4_73]) kX14 k32 (Or.inl q2690) q2692 qs141 cw_code q2693 ⟨by decide, by decide⟩ rfl (dl_at t_X14_label 39 rfl)) (dl_at t_X14_label 39 rfl) (cat24 (st := []) (Nat.le_of_ble_eq_true rfl)) (Nat.le_of_ble_eq_true rfl) (Nat.le_of_ble_eq_true rfl) (fun v73 h73 E73 => ?_) (fun _ _ ha _ => gt_at fun Q hQ => gt_out (Q := Q) X rfl ha (hno _) _ Q rfl hQ)
      refine g_goto (pc := 76) X (off := 24) (tgt := 100) rfl (dl_at t_X14_label 40 rfl) ?_
      exact J100 h73 E73
    intro J73
    refine g_ifne (pc := 65) X (r32_z g62) (off := 7) (tgt := 72) rfl (dl_at t_X14_label 35 rfl) (fun _ => ?_) (fun _ => ?_)
    · refine g_iconst (pc := 72) X (n := 0) (dl_at t_X14_label 38 rfl) ?_
      refine g_ls (ls2 := [(0, rv D a0), (1, iv a1), (2, iv v5), (3, rv D v10), (4, iv v17), (5, iv x5_25)]) [2, 3, 4, 5, 6, 1] rfl ?_
      exact J73 ((h_25 (h_25 a0 2) 18), 0) (Or.inl rfl)
    refine g_iconst (pc := 68) X (n := 1) (dl_at t_X14_label 36 rfl) ?_
    refine g_goto (pc := 69) X (off := 4) (tgt := 73) rfl (dl_at t_X14_label 37 rfl) ?_
    refine g_ls (ls2 := [(0, rv D a0), (1, iv a1), (2, iv v5), (3, rv D v10), (4, iv v17), (5, iv x5_25)]) [2, 3, 4, 5, 6, 1] rfl ?_
    exact J73 ((h_25 (h_25 a0 2) 18), 1) (Or.inr rfl)
def k_X14_beginNote : List (Nat × Instr × Nat) := [(0, .aload_n 0, 1), (1, .getfield 208, 3), (4, .bipush 120, 2), (6, .if_icmp .ge 7, 3), (9, .iconst 1, 1), (10, .goto 4, 3), (13, .iconst 0, 1), (14, .invokestatic 296, 3), (17, .aload_n 0, 1), (18, .getfield 80, 3), (21, .aload_n 0, 1), (22, .getfield 208, 3), (25, .iload_n 1, 1), (26, .iastore, 1), (27, .aload_n 0, 1), (28, .dup, 1), (29, .getfield 208, 3), (32, .iconst 1, 1), (33, .iadd, 1), (34, .putfield 208, 3), (37, .aload_n 0, 1), (38, .invokevirtual 519, 3), (41, .astore_n 2, 1), (42, .aload_n 2, 1), (43, .aload_n 0, 1), (44, .getfield 208, 3), (47, .i2l, 1), (48, .invokevirtual 522, 3), (51, .aload_n 0, 1), (52, .aload_n 0, 1), (53, .invokevirtual 441, 3), (56, .aload_n 2, 1), (57, .aload_n 0, 1), (58, .aload_n 0, 1), (59, .getfield 173, 3), (62, .getfield 431, 3), (65, .iload_n 1, 1), (66, .iaload, 1), (67, .iconst 1, 1), (68, .invokevirtual 283, 3), (71, .iconst 1, 1), (72, .invokevirtual 458, 3), (75, .aload_n 0, 1), (76, .getfield 154, 3), (79, .getfield 407, 3), (82, .invokevirtual 367, 3), (85, .aload_n 0, 1), (86, .iconst 1, 1), (87, .putfield 410, 3), (90, .aload_n 2, 1), (91, .bipush 32, 2), (93, .invokevirtual 526, 3), (96, .aload_n 0, 1), (97, .getfield 173, 3), (100, .iload_n 1, 1), (101, .ldc_w 529, 3), (104, .invokevirtual 531, 3), (107, .istore_n 3, 1), (108, .iload_n 3, 1), (109, .ifCond .lt 47, 3), (112, .aload_n 0, 1), (113, .iload_n 1, 1), (114, .aload_n 0, 1), (115, .getfield 173, 3), (118, .aload_n 0, 1), (119, .getfield 173, 3), (122, .getfield 535, 3), (125, .aload_n 0, 1), (126, .getfield 173, 3), (129, .getfield 536, 3), (132, .iload_n 3, 1), (133, .iaload, 1), (134, .aload_n 0, 1), (135, .getfield 173, 3), (138, .getfield 539, 3), (141, .iload_n 3, 1), (142, .iaload, 1), (143, .invokevirtual 542, 3), (146, .aload_n 2, 1), (147, .invokevirtual 546, 3), (150, .aload_n 2, 1), (151, .bipush 32, 2), (153, .invokevirtual 526, 3), (156, .aload_n 0, 1), (157, .aload_n 0, 1), (158, .getfield 154, 3), (161, .getfield 407, 3), (164, .aload_n 2, 1), (165, .aload_n 0, 1), (166, .iload_n 1, 1), (167, .iconst 1, 1), (168, .invokevirtual 283, 3), (171, .iconst 0, 1), (172, .invokevirtual 458, 3), (175, .aload_n 0, 1), (176, .iload_n 1, 1), (177, .invokevirtual 492, 3), (180, .return_, 1)]
theorem t_X14_beginNote : ∀ q ∈ k_X14_beginNote, decode cX14_beginNote q.1 = .ok q.2 := dl_all (by decide +kernel)
noncomputable def m_X14_beginNote_j156 (v38 a1 a0 : Int) (h_156 : Hp) : Option ((Int × Int) × Hp) :=
  gd (h_156 (h_156 a0 0) (-2) = 160) ((m_X14_property a0 a1 1 h_156).bind fun v168 =>
  bT (m_X14_putAll a0 (h_156 (h_156 a0 0) 3) v38 v168 0 h_156) (fun _ h172 =>
  bT (m_X14_label a0 a1 h172) (fun _ h177 =>
  some ((0, 0), h177)) (fun a_ h_ => some ((1, a_), h_))) (fun a_ h_ => some ((1, a_), h_)))
noncomputable def m_X14_beginNote_j14 (a0 a1 s0_14 : Int) (h : Hp) : Option ((Int × Int) × Hp) :=
  bT (m_X1_room s0_14 h) (fun _ h14 =>
  gd (h14 (h14 a0 33) (-2) % 16 = 1 ∧ (0 : Int) ≤ (h14 a0 36) ∧ (h14 a0 36) < h14 (h14 a0 33) (-1)) (pt h14 (h14 a0 33) (h14 a0 36) a1 fun h26 =>
  pt h26 a0 36 (w32 ((h26 a0 36) + 1)) fun h34 =>
  bW (m_X14_small a0 h34) fun v38 h38 =>
  gd (h38 v38 (-2) = 80) (bT (m_X5_number 24 v38 (h38 a0 36) h38) (fun _ h48 =>
  (m_X14_open_2 a0 h48).bind fun v53 =>
  gd (h48 (h48 a0 6) (-2) = 96) (gd (h48 (h48 (h48 a0 6) 6) (-2) % 16 = 1 ∧ (0 : Int) ≤ a1 ∧ a1 < h48 (h48 (h48 a0 6) 6) (-1)) ((m_X14_property a0 (h48 (h48 (h48 a0 6) 6) a1) 1 h48).bind fun v68 =>
  bT (m_X14_putAll a0 v53 v38 v68 1 h48) (fun _ h72 =>
  gd (h72 (h72 a0 0) (-2) = 160) (gd (h72 (h72 (h72 a0 0) 3) (-2) = 192) ((m_X12_clear (h72 (h72 a0 0) 3) h72).bind fun h82 =>
  pt h82 a0 46 1 fun h87 =>
  bT (m_X5_add v38 32 h87) (fun _ h93 =>
  gd (h93 (h93 a0 6) (-2) = 96) ((m_X6_fieldOf (h93 a0 6) a1 (-2) h93).bind fun v104 =>
  if v104 < 0 then (m_X14_beginNote_j156 v38 a1 a0 h93)
  else (gd (h93 (h93 (h93 a0 6) 16) (-2) % 16 = 1 ∧ (0 : Int) ≤ v104 ∧ v104 < h93 (h93 (h93 a0 6) 16) (-1)) (gd (h93 (h93 (h93 a0 6) 17) (-2) % 16 = 1 ∧ (0 : Int) ≤ v104 ∧ v104 < h93 (h93 (h93 a0 6) 17) (-1)) ((m_X6_byId (h93 a0 6) (h93 (h93 a0 6) 0) (h93 (h93 (h93 a0 6) 16) v104) (h93 (h93 (h93 a0 6) 17) v104) h93).bind fun v143 =>
  bT (m_X14_linesText a0 a1 v143 v38 h93) (fun _ h147 =>
  bT (m_X5_add v38 32 h147) (fun _ h153 =>
  m_X14_beginNote_j156 v38 a1 a0 h153) (fun a_ h_ => some ((1, a_), h_))) (fun a_ h_ => some ((1, a_), h_))))))) (fun a_ h_ => some ((1, a_), h_))))) (fun a_ h_ => some ((1, a_), h_))))) (fun a_ h_ => some ((1, a_), h_))))) (fun a_ h_ => some ((1, a_), h_))
noncomputable def m_X14_beginNote (a0 a1 : Int) (h : Hp) : Option ((Int × Int) × Hp) :=
  if 120 ≤ (h a0 36) then (m_X14_beginNote_j14 a0 a1 0 h)
  else (m_X14_beginNote_j14 a0 a1 1 h)
theorem s_X14_beginNote {l : Launch} [NoTr l] {D : SD} {a0 a1 : Int} {h : Hp} (hk : h a0 (-2) = 224) (r1 : r32 a1) {r : (Int × Int) × Hp} (hm : m_X14_beginNote a0 a1 h = some r) : Sim l D yX14_beginNote (Cond.code yX14_beginNote cX14_beginNote 4 (Option.none : Option Jvm.ClassFile.FieldType)) 40 1514 [rv D a0, iv a1] h 0 r := by
  refine Sim.of (fin := fun (v : (Int × Int) × Hp) => v) (lsE := [(0, rv D a0), (1, iv a1)]) hm rfl cwS_code (la_r (la_i la_n)) (ll_r (ll_i ll_n)) ?_
  intro p e s m below meth c X hcw hmm hcc hnm hname
  have hno := noh hcw hnm hmm hcc
  unfold m_X14_beginNote
  refine g_aload_n (pc := 0) X (j := 0) (i := 0) (q := 0) (x := a0) rfl rfl (dl_at t_X14_beginNote 0 rfl) ?_
  refine r_geti (pc := 1) X fX14_36 hk q1293 (dl_at t_X14_beginNote 1 rfl) fun g1 => ?_
  refine g_bipush (pc := 4) X (n := 120) rfl (dl_at t_X14_beginNote 2 rfl) ?_
  refine g_join (γ := Int) (fun q => (q = 0 ∨ q = 1)) 14 (fun q => [(0, rv D a0), (1, iv a1)]) (fun q => [iv q]) (fun q => h) (fun q => m_X14_beginNote_j14 a0 a1 q h) ?_ ?_
  · rintro s0_14 rs0_14
    try dsimp only
    unfold m_X14_beginNote_j14
    refine r_callTv (pc := 14) X (fun _ hv => s_X1_room rs0_14 hv) cw_code q1653 q355 (in_Sc X (As := [iv s0_14]) (Or.inr ⟨_, nw_in q2522 rfl⟩) q1652 q355 q1653 ⟨by decide, by decide⟩ rfl (dl_at t_X14_beginNote 7 rfl)) (dl_at t_X14_beginNote 7 rfl) (cat24 (st := []) (Nat.le_of_ble_eq_true rfl)) (Nat.le_of_ble_eq_true rfl) (Nat.le_of_ble_eq_true rfl) (fun v14 h14 E14 => ?_) (fun _ _ ha _ => gt_at fun Q hQ => gt_out (Q := Q) X rfl ha (hno _) _ Q rfl hQ)
    refine g_aload_n (pc := 17) X (j := 0) (i := 0) (q := 0) (x := a0) rfl rfl (dl_at t_X14_beginNote 8 rfl) ?_
    have k18 := kx E14 (by decide) hk
    refine r_getr (pc := 18) X fX14_33 k18 q1288 (dl_at t_X14_beginNote 9 rfl) ?_
    refine g_aload_n (pc := 21) X (j := 0) (i := 0) (q := 0) (x := a0) rfl rfl (dl_at t_X14_beginNote 10 rfl) ?_
    refine r_geti (pc := 22) X fX14_36 k18 q1293 (dl_at t_X14_beginNote 11 rfl) fun g22 => ?_
    refine g_iload_n (pc := 25) X (j := 1) (i := 1) (q := 1) (x := a1) rfl rfl (dl_at t_X14_beginNote 12 rfl) ?_
    refine g_gd fun k26 => ?_
    refine r_iast (pc := 26) X g22 r1 k26 (dl_at t_X14_beginNote 13 rfl) (fun h26 E26 => ?_)
    refine g_aload_n (pc := 27) X (j := 0) (i := 0) (q := 0) (x := a0) rfl rfl (dl_at t_X14_beginNote 14 rfl) ?_
    refine g_dup (pc := 28) X rv_cat (dl_at t_X14_beginNote 15 rfl) ?_
    have k29 := kx E26 (by decide) k18
    refine r_geti (pc := 29) X fX14_36 k29 q1293 (dl_at t_X14_beginNote 16 rfl) fun g29 => ?_
    refine g_iconst (pc := 32) X (n := 1) (dl_at t_X14_beginNote 17 rfl) ?_
    refine g_iadd (pc := 33) X g29 (r32_c rfl) (dl_at t_X14_beginNote 18 rfl) ?_
    refine r_puti (pc := 34) X fX14_36 k29 q1293 rfl (dl_at t_X14_beginNote 19 rfl) (r32_w _) (fun h34 E34 => ?_)
    refine g_aload_n (pc := 37) X (j := 0) (i := 0) (q := 0) (x := a0) rfl rfl (dl_at t_X14_beginNote 20 rfl) ?_
    have k38 := kx E34 (by decide) k29
    refine r_callWr (pc := 38) X (fun _ hv => s_X14_small k38 hv) cw_code q2684 q368 (in_Vk X (As := []) kX14 k38 (Or.inl q2681) q2683 qs139 cw_code q2684 ⟨by decide, by decide⟩ rfl (dl_at t_X14_beginNote 21 rfl)) (dl_at t_X14_beginNote 21 rfl) (cat24 (st := []) (Nat.le_of_ble_eq_true rfl)) (Nat.le_of_ble_eq_true rfl) (Nat.le_of_ble_eq_true rfl) fun v38 h38 E38 => ?_
    refine g_astore_nN (pc := 41) X (j := 2) (i := 2) (x := v38) (b := 1) (w := iv a1) (rest := [(0, rv D a0)]) rfl (Nat.le_of_ble_eq_true rfl) [1, 0] rfl (by decide) rfl rfl (dl_at t_X14_beginNote 22 rfl) ?_
    refine g_aload_n (pc := 42) X (j := 2) (i := 2) (q := 0) (x := v38) rfl rfl (dl_at t_X14_beginNote 23 rfl) ?_
    refine g_aload_n (pc := 43) X (j := 0) (i := 0) (q := 2) (x := a0) rfl rfl (dl_at t_X14_beginNote 24 rfl) ?_
    have k44 := kx E38 (by decide) k38
    refine r_geti (pc := 44) X fX14_36 k44 q1293 (dl_at t_X14_beginNote 25 rfl) fun g44 => ?_
    refine g_i2l (pc := 47) X g44 (dl_at t_X14_beginNote 26 rfl) ?_
    refine g_gd fun k48 => ?_
    refine r_callTv (pc := 48) X (fun _ hv => s_X5_number (d := 24) k48 (r64_of g44) hv) cw_code q2441 q359 (in_Vk X (As := [jv (h38 a0 36)]) kX5 k48 (Or.inr ⟨_, nw_in q2685 rfl⟩) q2440 qs105 cw_code q2441 ⟨by decide, by decide⟩ rfl (dl_at t_X14_beginNote 27 rfl)) (dl_at t_X14_beginNote 27 rfl) (cat24 (st := []) (Nat.le_of_ble_eq_true rfl)) (Nat.le_of_ble_eq_true rfl) (Nat.le_of_ble_eq_true rfl) (fun v48 h48 E48 => ?_) (fun _ _ ha _ => gt_at fun Q hQ => gt_out (Q := Q) X rfl ha (hno _) _ Q rfl hQ)
    refine g_aload_n (pc := 51) X (j := 0) (i := 0) (q := 2) (x := a0) rfl rfl (dl_at t_X14_beginNote 28 rfl) ?_
    refine g_aload_n (pc := 52) X (j := 0) (i := 0) (q := 2) (x := a0) rfl rfl (dl_at t_X14_beginNote 29 rfl) ?_
    have k53 := kx E48 (by decide) k44
    refine r_callRr (pc := 53) X (fun _ hv => s_X14_open_2 k53 hv) cw_code q2689 q368 (in_Vk X (As := []) kX14 k53 (Or.inl q2686) q2688 qs140 cw_code q2689 ⟨by decide, by decide⟩ rfl (dl_at t_X14_beginNote 30 rfl)) (dl_at t_X14_beginNote 30 rfl) (cat24 (st := [rv D a0]) (Nat.le_of_ble_eq_true rfl)) (Nat.le_of_ble_eq_true rfl) (Nat.le_of_ble_eq_true rfl) fun v53 => ?_
    refine g_aload_n (pc := 56) X (j := 2) (i := 2) (q := 0) (x := v38) rfl rfl (dl_at t_X14_beginNote 31 rfl) ?_
    refine g_aload_n (pc := 57) X (j := 0) (i := 0) (q := 2) (x := a0) rfl rfl (dl_at t_X14_beginNote 32 rfl) ?_
    refine g_aload_n (pc := 58) X (j := 0) (i := 0) (q := 2) (x := a0) rfl rfl (dl_at t_X14_beginNote 33 rfl) ?_
    refine r_getr (pc := 59) X fX14_6 k53 q1249 (dl_at t_X14_beginNote 34 rfl) ?_
    refine g_gd fun k62 => ?_
    refine r_getrN (pc := 62) X fX6_6 k62 (nw_in q661 rfl) (dl_at t_X14_beginNote 35 rfl) ?_
    refine g_iload_n (pc := 65) X (j := 1) (i := 1) (q := 1) (x := a1) rfl rfl (dl_at t_X14_beginNote 36 rfl) ?_
    refine g_gd fun k66 => ?_
    refine g_iald (pc := 66) X r1 k66 (dl_at t_X14_beginNote 37 rfl) fun g66 => ?_
    refine g_iconst (pc := 67) X (n := 1) (dl_at t_X14_beginNote 38 rfl) ?_
    refine r_callRi (pc := 68) X (fun _ hv => s_X14_property k53 g66 (r32_c rfl) hv) cw_code q2504 q368 (in_Vk X (As := [iv (h48 (h48 (h48 a0 6) 6) a1), iv 1]) kX14 k53 (Or.inl q2501) q2503 qs119 cw_code q2504 ⟨by decide, by decide⟩ rfl (dl_at t_X14_beginNote 39 rfl)) (dl_at t_X14_beginNote 39 rfl) (cat24 (st := [rv D v38, rv D v53, rv D a0]) (Nat.le_of_ble_eq_true rfl)) (Nat.le_of_ble_eq_true rfl) (Nat.le_of_ble_eq_true rfl) fun v68 g68 => ?_
    refine g_iconst (pc := 71) X (n := 1) (dl_at t_X14_beginNote 40 rfl) ?_
    refine r_callTv (pc := 72) X (fun _ hv => s_X14_putAll k53 g68 (Or.inr rfl) hv) cw_code q2693 q368 (in_Vk X (As := [rv D v53, rv D v38, iv v68, iv 1]) kX14 k53 (Or.inl q2690) q2692 qs141 cw_code q2693 ⟨by decide, by decide⟩ rfl (dl_at t_X14_beginNote 41 rfl)) (dl_at t_X14_beginNote 41 rfl) (cat24 (st := []) (Nat.le_of_ble_eq_true rfl)) (Nat.le_of_ble_eq_true rfl) (Nat.le_of_ble_eq_true rfl) (fun v72 h72 E72 => ?_) (fun _ _ ha _ => gt_at fun Q hQ => gt_out (Q := Q) X rfl ha (hno _) _ Q rfl hQ)
    refine g_aload_n (pc := 75) X (j := 0) (i := 0) (q := 2) (x := a0) rfl rfl (dl_at t_X14_beginNote 42 rfl) ?_
    have k76 := kx E72 (by decide) k53
    refine r_getr (pc := 76) X fX14_0 k76 q1241 (dl_at t_X14_beginNote 43 rfl) ?_
    refine g_gd fun k79 => ?_
    refine r_getrN (pc := 79) X fX10_3 k79 (nw_in q1043 rfl) (dl_at t_X14_beginNote 44 rfl) ?_
    refine g_gd fun k82 => ?_
    refine r_callV (pc := 82) X (fun _ hv => s_X12_clear k82 hv) cw_code q2480 q366 (in_Vk X (As := []) kX12 k82 (Or.inr ⟨_, nw_in q2477 rfl⟩) q2479 qs113 cw_code q2480 ⟨by decide, by decide⟩ rfl (dl_at t_X14_beginNote 45 rfl)) (dl_at t_X14_beginNote 45 rfl) (cat24 (st := []) (Nat.le_of_ble_eq_true rfl)) (Nat.le_of_ble_eq_true rfl) (Nat.le_of_ble_eq_true rfl) fun h82 E82 => ?_
    refine g_aload_n (pc := 85) X (j := 0) (i := 0) (q := 2) (x := a0) rfl rfl (dl_at t_X14_beginNote 46 rfl) ?_
    refine g_iconst (pc := 86) X (n := 1) (dl_at t_X14_beginNote 47 rfl) ?_
    have k87 := kx E82 (by decide) k76
    refine r_putz (pc := 87) X fX14_46 k87 q1308 rfl (dl_at t_X14_beginNote 48 rfl) (Or.inr rfl) (fun h87 E87 => ?_)
    refine g_aload_n (pc := 90) X (j := 2) (i := 2) (q := 0) (x := v38) rfl rfl (dl_at t_X14_beginNote 49 rfl) ?_
    refine g_bipush (pc := 91) X (n := 32) rfl (dl_at t_X14_beginNote 50 rfl) ?_
    have k93 := kx (E48.trans (E72.trans (E82.trans E87))) (by decide) k48
    refine r_callTv (pc := 93) X (fun _ hv => s_X5_add k93 (r32_c rfl) hv) cw_code q2038 q359 (in_Vk X (As := [iv 32]) kX5 k93 (Or.inr ⟨_, nw_in q2704 rfl⟩) q2037 qs44 cw_code q2038 ⟨by decide, by decide⟩ rfl (dl_at t_X14_beginNote 51 rfl)) (dl_at t_X14_beginNote 51 rfl) (cat24 (st := []) (Nat.le_of_ble_eq_true rfl)) (Nat.le_of_ble_eq_true rfl) (Nat.le_of_ble_eq_true rfl) (fun v93 h93 E93 => ?_) (fun _ _ ha _ => gt_at fun Q hQ => gt_out (Q := Q) X rfl ha (hno _) _ Q rfl hQ)
    refine g_aload_n (pc := 96) X (j := 0) (i := 0) (q := 2) (x := a0) rfl rfl (dl_at t_X14_beginNote 52 rfl) ?_
    have k97 := kx (E87.trans E93) (by decide) k87
    refine r_getr (pc := 97) X fX14_6 k97 q1249 (dl_at t_X14_beginNote 53 rfl) ?_
    refine g_iload_n (pc := 100) X (j := 1) (i := 1) (q := 1) (x := a1) rfl rfl (dl_at t_X14_beginNote 54 rfl) ?_
    refine g_ldcSw (pc := 101) X (index := 529) (id := (-2)) 0 rfl rfl (dl_at t_X14_beginNote 55 rfl) ?_
    refine g_gd fun k104 => ?_
    refine r_callRi (pc := 104) X (fun _ hv => s_X6_fieldOf k104 r1 hv) cw_code q2394 q360 (in_Vk X (As := [iv a1, rv D (-2)]) kX6 k104 (Or.inr ⟨_, nw_in q2706 rfl⟩) q2393 qs97 cw_code q2394 ⟨by decide, by decide⟩ rfl (dl_at t_X14_beginNote 56 rfl)) (dl_at t_X14_beginNote 56 rfl) (cat24 (st := []) (Nat.le_of_ble_eq_true rfl)) (Nat.le_of_ble_eq_true rfl) (Nat.le_of_ble_eq_true rfl) fun v104 g104 => ?_
    refine g_istore_nN (pc := 107) X (j := 3) (i := 3) (x := v104) (b := 2) (w := rv D v38) (rest := [(1, iv a1), (0, rv D a0)]) rfl (Nat.le_of_ble_eq_true rfl) [0, 1, 2] rfl (by decide) rv_cat rfl (dl_at t_X14_beginNote 57 rfl) ?_
    refine g_iload_n (pc := 108) X (j := 3) (i := 3) (q := 0) (x := v104) rfl rfl (dl_at t_X14_beginNote 58 rfl) ?_
    refine g_join (γ := Hp) (fun q => Ext h93 q) 156 (fun q => [(0, rv D a0), (1, iv a1), (2, rv D v38)]) (fun q => []) (fun q => q) (fun q => m_X14_beginNote_j156 v38 a1 a0 q) ?_ ?_
    · rintro h_156 E_156
      try dsimp only
      unfold m_X14_beginNote_j156
      refine g_aload_n (pc := 156) X (j := 0) (i := 0) (q := 0) (x := a0) rfl rfl (dl_at t_X14_beginNote 83 rfl) ?_
      refine g_aload_n (pc := 157) X (j := 0) (i := 0) (q := 0) (x := a0) rfl rfl (dl_at t_X14_beginNote 84 rfl) ?_
      have k158 := kx E_156 (by decide) k97
      refine r_getr (pc := 158) X fX14_0 k158 q1241 (dl_at t_X14_beginNote 85 rfl) ?_
      refine g_gd fun k161 => ?_
      refine r_getrN (pc := 161) X fX10_3 k161 (nw_in q1043 rfl) (dl_at t_X14_beginNote 86 rfl) ?_
      refine g_aload_n (pc := 164) X (j := 2) (i := 2) (q := 2) (x := v38) rfl rfl (dl_at t_X14_beginNote 87 rfl) ?_
      refine g_aload_n (pc := 165) X (j := 0) (i := 0) (q := 0) (x := a0) rfl rfl (dl_at t_X14_beginNote 88 rfl) ?_
      refine g_iload_n (pc := 166) X (j := 1) (i := 1) (q := 1) (x := a1) rfl rfl (dl_at t_X14_beginNote 89 rfl) ?_
      refine g_iconst (pc := 167) X (n := 1) (dl_at t_X14_beginNote 90 rfl) ?_
      refine r_callRi (pc := 168) X (fun _ hv => s_X14_property k158 r1 (r32_c rfl) hv) cw_code q2504 q368 (in_Vk X (As := [iv a1, iv 1]) kX14 k158 (Or.inl q2501) q2503 qs119 cw_code q2504 ⟨by decide, by decide⟩ rfl (dl_at t_X14_beginNote 91 rfl)) (dl_at t_X14_beginNote 91 rfl) (cat24 (st := [rv D v38, rv D (h_156 (h_156 a0 0) 3), rv D a0]) (Nat.le_of_ble_eq_true rfl)) (Nat.le_of_ble_eq_true rfl) (Nat.le_of_ble_eq_true rfl) fun v168 g168 => ?_
      refine g_iconst (pc := 171) X (n := 0) (dl_at t_X14_beginNote 92 rfl) ?_
      refine r_callTv (pc := 172) X (fun _ hv => s_X14_putAll k158 g168 (Or.inl rfl) hv) cw_code q2693 q368 (in_Vk X (As := [rv D (h_156 (h_156 a0 0) 3), rv D v38, iv v168, iv 0]) kX14 k158 (Or.inl q2690) q2692 qs141 cw_code q2693 ⟨by decide, by decide⟩ rfl (dl_at t_X14_beginNote 93 rfl)) (dl_at t_X14_beginNote 93 rfl) (cat24 (st := []) (Nat.le_of_ble_eq_true rfl)) (Nat.le_of_ble_eq_true rfl) (Nat.le_of_ble_eq_true rfl) (fun v172 h172 E172 => ?_) (fun _ _ ha _ => gt_at fun Q hQ => gt_out (Q := Q) X rfl ha (hno _) _ Q rfl hQ)
      refine g_aload_n (pc := 175) X (j := 0) (i := 0) (q := 0) (x := a0) rfl rfl (dl_at t_X14_beginNote 94 rfl) ?_
      refine g_iload_n (pc := 176) X (j := 1) (i := 1) (q := 1) (x := a1) rfl rfl (dl_at t_X14_beginNote 95 rfl) ?_
      have k177 := kx E172 (by decide) k158
      refine r_callTv (pc := 177) X (fun _ hv => s_X14_label k177 r1 hv) cw_code q2736 q368 (in_Vk X (As := [iv a1]) kX14 k177 (Or.inl q2733) q2735 qs149 cw_code q2736 ⟨by decide, by decide⟩ rfl (dl_at t_X14_beginNote 96 rfl)) (dl_at t_X14_beginNote 96 rfl) (cat24 (st := []) (Nat.le_of_ble_eq_true rfl)) (Nat.le_of_ble_eq_true rfl) (Nat.le_of_ble_eq_true rfl) (fun v177 h177 E177 => ?_) (fun _ _ ha _ => gt_at fun Q hQ => gt_out (Q := Q) X rfl ha (hno _) _ Q rfl hQ)
      exact g_vret (pc := 180) X (v := 0) rfl rfl (dl_at t_X14_beginNote 97 rfl)
    intro J156
    refine g_iflt (pc := 109) X g104 (off := 47) (tgt := 156) rfl (dl_at t_X14_beginNote 59 rfl) (fun _ => ?_) (fun _ => ?_)
    · refine g_ls (ls2 := [(0, rv D a0), (1, iv a1), (2, rv D v38)]) [3, 2, 1] rfl ?_
      exact J156 h93 (Ext.refl _)
    refine g_aload_n (pc := 112) X (j := 0) (i := 0) (q := 3) (x := a0) rfl rfl (dl_at t_X14_beginNote 60 rfl) ?_
    refine g_iload_n (pc := 113) X (j := 1) (i := 1) (q := 2) (x := a1) rfl rfl (dl_at t_X14_beginNote 61 rfl) ?_
    refine g_aload_n (pc := 114) X (j := 0) (i := 0) (q := 3) (x := a0) rfl rfl (dl_at t_X14_beginNote 62 rfl) ?_
    refine r_getr (pc := 115) X fX14_6 k97 q1249 (dl_at t_X14_beginNote 63 rfl) ?_
    refine g_aload_n (pc := 118) X (j := 0) (i := 0) (q := 3) (x := a0) rfl rfl (dl_at t_X14_beginNote 64 rfl) ?_
    refine r_getr (pc := 119) X fX14_6 k97 q1249 (dl_at t_X14_beginNote 65 rfl) ?_
    refine r_getrN (pc := 122) X fX6_0 k104 (nw_in q648 rfl) (dl_at t_X14_beginNote 66 rfl) ?_
    refine g_aload_n (pc := 125) X (j := 0) (i := 0) (q := 3) (x := a0) rfl rfl (dl_at t_X14_beginNote 67 rfl) ?_
    refine r_getr (pc := 126) X fX14_6 k97 q1249 (dl_at t_X14_beginNote 68 rfl) ?_
    refine r_getrN (pc := 129) X fX6_16 k104 (nw_in q681 rfl) (dl_at t_X14_beginNote 69 rfl) ?_
    refine g_iload_n (pc := 132) X (j := 3) (i := 3) (q := 0) (x := v104) rfl rfl (dl_at t_X14_beginNote 70 rfl) ?_
    refine g_gd fun k133 => ?_
    refine g_iald (pc := 133) X g104 k133 (dl_at t_X14_beginNote 71 rfl) fun g133 => ?_
    refine g_aload_n (pc := 134) X (j := 0) (i := 0) (q := 3) (x := a0) rfl rfl (dl_at t_X14_beginNote 72 rfl) ?_
    refine r_getr (pc := 135) X fX14_6 k97 q1249 (dl_at t_X14_beginNote 73 rfl) ?_
    refine r_getrN (pc := 138) X fX6_17 k104 (nw_in q684 rfl) (dl_at t_X14_beginNote 74 rfl) ?_
    refine g_iload_n (pc := 141) X (j := 3) (i := 3) (q := 0) (x := v104) rfl rfl (dl_at t_X14_beginNote 75 rfl) ?_
    refine g_gd fun k142 => ?_
    refine g_iald (pc := 142) X g104 k142 (dl_at t_X14_beginNote 76 rfl) fun g142 => ?_
    refine r_callRi (pc := 143) X (fun _ hv => s_X6_byId k104 g133 g142 hv) cw_code q2710 q360 (in_Vk X (As := [rv D (h93 (h93 a0 6) 0), iv (h93 (h93 (h93 a0 6) 16) v104), iv (h93 (h93 (h93 a0 6) 17) v104)]) kX6 k104 (Or.inr ⟨_, nw_in q2707 rfl⟩) q2709 qs144 cw_code q2710 ⟨by decide, by decide⟩ rfl (dl_at t_X14_beginNote 77 rfl)) (dl_at t_X14_beginNote 77 rfl) (cat24 (st := [iv a1, rv D a0]) (Nat.le_of_ble_eq_true rfl)) (Nat.le_of_ble_eq_true rfl) (Nat.le_of_ble_eq_true rfl) fun v143 g143 => ?_
    refine g_aload_n (pc := 146) X (j := 2) (i := 2) (q := 1) (x := v38) rfl rfl (dl_at t_X14_beginNote 78 rfl) ?_
    refine r_callTv (pc := 147) X (fun _ hv => s_X14_linesText k97 r1 g143 hv) cw_code q2717 q368 (in_Vk X (As := [iv a1, iv v143, rv D v38]) kX14 k97 (Or.inl q2714) q2716 qs145 cw_code q2717 ⟨by decide, by decide⟩ rfl (dl_at t_X14_beginNote 79 rfl)) (dl_at t_X14_beginNote 79 rfl) (cat24 (st := []) (Nat.le_of_ble_eq_true rfl)) (Nat.le_of_ble_eq_true rfl) (Nat.le_of_ble_eq_true rfl) (fun v147 h147 E147 => ?_) (fun _ _ ha _ => gt_at fun Q hQ => gt_out (Q := Q) X rfl ha (hno _) _ Q rfl hQ)
    refine g_aload_n (pc := 150) X (j := 2) (i := 2) (q := 1) (x := v38) rfl rfl (dl_at t_X14_beginNote 80 rfl) ?_
    refine g_bipush (pc := 151) X (n := 32) rfl (dl_at t_X14_beginNote 81 rfl) ?_
    have k153 := kx (E93.trans E147) (by decide) k93
    refine r_callTv (pc := 153) X (fun _ hv => s_X5_add k153 (r32_c rfl) hv) cw_code q2038 q359 (in_Vk X (As := [iv 32]) kX5 k153 (Or.inr ⟨_, nw_in q2704 rfl⟩) q2037 qs44 cw_code q2038 ⟨by decide, by decide⟩ rfl (dl_at t_X14_beginNote 82 rfl)) (dl_at t_X14_beginNote 82 rfl) (cat24 (st := []) (Nat.le_of_ble_eq_true rfl)) (Nat.le_of_ble_eq_true rfl) (Nat.le_of_ble_eq_true rfl) (fun v153 h153 E153 => ?_) (fun _ _ ha _ => gt_at fun Q hQ => gt_out (Q := Q) X rfl ha (hno _) _ Q rfl hQ)
    refine g_ls (ls2 := [(0, rv D a0), (1, iv a1), (2, rv D v38)]) [3, 2, 1] rfl ?_
    exact J156 h153 (E147.trans E153)
  intro J14
  refine g_icmpge (pc := 6) X g1 (r32_c rfl) (off := 7) (tgt := 13) rfl (dl_at t_X14_beginNote 3 rfl) (fun _ => ?_) (fun _ => ?_)
  · refine g_iconst (pc := 13) X (n := 0) (dl_at t_X14_beginNote 6 rfl) ?_
    exact J14 0 (Or.inl rfl)
  refine g_iconst (pc := 9) X (n := 1) (dl_at t_X14_beginNote 4 rfl) ?_
  refine g_goto (pc := 10) X (off := 4) (tgt := 14) rfl (dl_at t_X14_beginNote 5 rfl) ?_
  exact J14 1 (Or.inr rfl)
def k_X13_clear : List (Nat × Instr × Nat) := [(0, .aload_n 0, 1), (1, .iconst 0, 1), (2, .putfield 22, 3), (5, .return_, 1)]
theorem t_X13_clear : ∀ q ∈ k_X13_clear, decode cX13_clear q.1 = .ok q.2 := dl_all (by decide +kernel)
noncomputable def m_X13_clear (a0 : Int) (h : Hp) : Option (Hp) :=
  pt h a0 3 0 fun h2 =>
  some h2
theorem s_X13_clear {l : Launch} [NoTr l] {D : SD} {a0 : Int} {h : Hp} (hk : h a0 (-2) = 208) {r : Hp} (hm : m_X13_clear a0 h = some r) : Sim l D yX13_clear (Cond.code yX13_clear cX13_clear 1 (Option.none : Option Jvm.ClassFile.FieldType)) 0 0 [rv D a0] h 0 ((0, 0), r) := by
  refine Sim.of (fin := fun (v : Hp) => ((0, 0), v)) (lsE := [(0, rv D a0)]) hm rfl cwS_code (la_r la_n) (ll_r ll_n) ?_
  intro p e s m below meth c X hcw hmm hcc hnm hname
  unfold m_X13_clear
  refine g_aload_n (pc := 0) X (j := 0) (i := 0) (q := 0) (x := a0) rfl rfl (dl_at t_X13_clear 0 rfl) ?_
  refine g_iconst (pc := 1) X (n := 0) (dl_at t_X13_clear 1 rfl) ?_
  refine r_puti (pc := 2) X fX13_3 hk q1025 rfl (dl_at t_X13_clear 2 rfl) (r32_c rfl) (fun h2 E2 => ?_)
  exact g_vret (pc := 5) X (v := 0) rfl rfl (dl_at t_X13_clear 3 rfl)
def k_X14_contents : List (Nat × Instr × Nat) := [(0, .aload_n 0, 1), (1, .invokevirtual 383, 3), (4, .istore_n 1, 1), (5, .iconst 0, 1), (6, .istore_n 2, 1), (7, .iload_n 2, 1), (8, .aload_n 0, 1), (9, .getfield 158, 3), (12, .getfield 223, 3), (15, .if_icmp .ge 115, 3), (18, .aload_n 0, 1), (19, .iload_n 2, 1), (20, .bipush 19, 2), (22, .invokevirtual 283, 3), (25, .istore_n 3, 1), (26, .aload_n 0, 1), (27, .getfield 158, 3), (30, .getfield 476, 3), (33, .iload_n 2, 1), (34, .baload, 1), (35, .ifCond .eq 89, 3), (38, .iload_n 3, 1), (39, .ifCond .ne 6, 3), (42, .goto 82, 3), (45, .aload_n 0, 1), (46, .invokevirtual 519, 3), (49, .astore 4, 2), (51, .aload_n 0, 1), (52, .getfield 158, 3), (55, .iload_n 2, 1), (56, .aload 4, 2), (58, .invokevirtual 617, 3), (61, .aload 4, 2), (63, .bipush 32, 2), (65, .invokevirtual 526, 3), (68, .aload 4, 2), (70, .aload_n 0, 1), (71, .getfield 95, 3), (74, .iload_n 2, 1), (75, .iaload, 1), (76, .i2l, 1), (77, .invokevirtual 522, 3), (80, .aload_n 0, 1), (81, .aload_n 0, 1), (82, .getfield 154, 3), (85, .getfield 375, 3), (88, .aload 4, 2), (90, .aload_n 0, 1), (91, .iload_n 1, 1), (92, .iconst 1, 1), (93, .invokevirtual 283, 3), (96, .iconst 1, 1), (97, .invokevirtual 458, 3), (100, .aload_n 0, 1), (101, .aload_n 0, 1), (102, .iconst 4, 1), (103, .invokevirtual 289, 3), (106, .sipush 10000, 3), (109, .iload_n 3, 1), (110, .iconst 1, 1), (111, .isub, 1), (112, .imul, 1), (113, .iadd, 1), (114, .invokevirtual 379, 3), (117, .aload_n 0, 1), (118, .iload_n 1, 1), (119, .iload_n 2, 1), (120, .iconst 0, 1), (121, .invokevirtual 595, 3), (124, .iinc 2 1, 3), (127, .goto (-120), 3), (130, .return_, 1)]
theorem t_X14_contents : ∀ q ∈ k_X14_contents, decode cX14_contents q.1 = .ok q.2 := dl_all (by decide +kernel)
noncomputable def m_X14_contents_j124 (x2_7 : Int) (h_124 : Hp) : Option ((Int × Hp) ⊕ (((Int × Int) × Hp))) :=
  lt_ (w32 (x2_7 + 1)) fun x2_124 =>
  some (.inl (x2_124, h_124))
noncomputable def m_X14_contents_l7 (a0 v1 x2_7 : Int) (h_7 : Hp) : Option ((Int × Hp) ⊕ (((Int × Int) × Hp))) :=
  gd (h_7 (h_7 a0 2) (-2) = 112) (if (h_7 (h_7 a0 2) 2) ≤ x2_7 then (some (.inr ((0, 0), h_7)))
  else ((m_X14_property a0 x2_7 19 h_7).bind fun v22 =>
  gd (h_7 (h_7 (h_7 a0 2) 7) (-2) % 16 = 3 ∧ (0 : Int) ≤ x2_7 ∧ x2_7 < h_7 (h_7 (h_7 a0 2) 7) (-1)) (if (h_7 (h_7 (h_7 a0 2) 7) x2_7) = 0 then (m_X14_contents_j124 x2_7 h_7)
  else (if v22 ≠ 0 then (bW (m_X14_small a0 h_7) fun v46 h46 =>
  gd (h46 (h46 a0 2) (-2) = 112) (bT (m_X7_title (h46 a0 2) x2_7 v46 h46) (fun _ h58 =>
  gd (h58 v46 (-2) = 80) (bT (m_X5_add v46 32 h58) (fun _ h65 =>
  gd (h65 (h65 a0 40) (-2) % 16 = 1 ∧ (0 : Int) ≤ x2_7 ∧ x2_7 < h65 (h65 a0 40) (-1)) (bT (m_X5_number 24 v46 (h65 (h65 a0 40) x2_7) h65) (fun _ h77 =>
  gd (h77 (h77 a0 0) (-2) = 160) ((m_X14_property a0 v1 1 h77).bind fun v93 =>
  bT (m_X14_putAll a0 (h77 (h77 a0 0) 1) v46 v93 1 h77) (fun _ h97 =>
  (m_X14_inset a0 4 h97).bind fun v103 =>
  bT (m_X14_flushAs a0 (w32 (v103 + (w32 (10000 * (w32 (v22 - 1)))))) h97) (fun _ h114 =>
  (m_X14_takes a0 v1 x2_7 0 h114).bind fun h121 =>
  m_X14_contents_j124 x2_7 h121) (fun a_ h_ => some (.inr ((1, a_), h_)))) (fun a_ h_ => some (.inr ((1, a_), h_))))) (fun a_ h_ => some (.inr ((1, a_), h_))))) (fun a_ h_ => some (.inr ((1, a_), h_))))) (fun a_ h_ => some (.inr ((1, a_), h_)))))
  else (m_X14_contents_j124 x2_7 h_7)))))
noncomputable def m_X14_contents (a0 : Int) (h : Hp) : Option ((Int × Int) × Hp) :=
  (m_X14_block a0 h).bind fun v1 =>
  lt_ 0 fun x2_6 =>
  (lp (fun (q : Int × Hp) => m_X14_contents_l7 a0 v1 q.1 q.2) (x2_6, h)).bind (fun (x : (Int × Int) × Hp) => some x)
theorem s_X14_contents {l : Launch} [NoTr l] {D : SD} {a0 : Int} {h : Hp} (hk : h a0 (-2) = 224) {r : (Int × Int) × Hp} (hm : m_X14_contents a0 h = some r) : Sim l D yX14_contents (Cond.code yX14_contents cX14_contents 5 (Option.none : Option Jvm.ClassFile.FieldType)) 41 1558 [rv D a0] h 0 r := by
  refine Sim.of (fin := fun (v : (Int × Int) × Hp) => v) (lsE := [(0, rv D a0)]) hm rfl cwS_code (la_r la_n) (ll_r ll_n) ?_
  intro p e s m below meth c X hcw hmm hcc hnm hname
  have hno := noh hcw hnm hmm hcc
  unfold m_X14_contents
  refine g_aload_n (pc := 0) X (j := 0) (i := 0) (q := 0) (x := a0) rfl rfl (dl_at t_X14_contents 0 rfl) ?_
  refine r_callRi (pc := 1) X (fun _ hv => s_X14_block hk hv) cw_code q2513 q368 (in_Vk X (As := []) kX14 hk (Or.inl q2510) q2512 qs121 cw_code q2513 ⟨by decide, by decide⟩ rfl (dl_at t_X14_contents 1 rfl)) (dl_at t_X14_contents 1 rfl) (cat24 (st := []) (Nat.le_of_ble_eq_true rfl)) (Nat.le_of_ble_eq_true rfl) (Nat.le_of_ble_eq_true rfl) fun v1 g1 => ?_
  refine g_istore_nN (pc := 4) X (j := 1) (i := 1) (x := v1) (b := 0) (w := rv D a0) (rest := []) rfl (Nat.le_of_ble_eq_true rfl) [0] rfl (by decide) rv_cat rfl (dl_at t_X14_contents 2 rfl) ?_
  refine g_iconst (pc := 5) X (n := 0) (dl_at t_X14_contents 3 rfl) ?_
  refine g_ltz (Or.inl rfl) fun x2_6 r2_6 => ?_
  refine g_istore_nN (pc := 6) X (j := 2) (i := 2) (x := x2_6) (b := 1) (w := iv v1) (rest := [(0, rv D a0)]) rfl (Nat.le_of_ble_eq_true rfl) [0, 1] rfl (by decide) rfl rfl (dl_at t_X14_contents 4 rfl) ?_
  refine g_ls (ls2 := [(0, rv D a0), (1, iv v1), (2, iv x2_6)]) [2, 1, 0] rfl ?_
  refine g_loop0F (fun (q : Int × Hp) => [(0, rv D a0), (1, iv v1), (2, iv q.1)]) (fun (q : Int × Hp) => q.2) (fun (q : Int × Hp) => r32 q.1 ∧ Ext h q.2) (x2_6, h) ⟨(r32_z r2_6), (Ext.refl _)⟩ ?_ (fun _ => rfl)
  · rintro ⟨x2_7, h_7⟩ ⟨r2_7, E_7⟩
    try dsimp only
    unfold m_X14_contents_l7
    refine g_iload_n (pc := 7) X (j := 2) (i := 2) (q := 2) (x := x2_7) rfl rfl (dl_at t_X14_contents 5 rfl) ?_
    refine g_aload_n (pc := 8) X (j := 0) (i := 0) (q := 0) (x := a0) rfl rfl (dl_at t_X14_contents 6 rfl) ?_
    have k9 := kx E_7 (by decide) hk
    refine r_getr (pc := 9) X fX14_2 k9 q1243 (dl_at t_X14_contents 7 rfl) ?_
    refine g_gd fun k12 => ?_
    refine r_getiN (pc := 12) X fX7_2 k12 (nw_in q785 rfl) (dl_at t_X14_contents 8 rfl) fun g12 => ?_
    refine g_icmpge (pc := 15) X r2_7 g12 (off := 115) (tgt := 130) rfl (dl_at t_X14_contents 9 rfl) (fun _ => ?_) (fun _ => ?_)
    · exact g_at fun Q hQ => (g_vret (pc := 130) X (v := 0) rfl rfl (dl_at t_X14_contents 71 rfl)) _ Q rfl hQ
    refine g_aload_n (pc := 18) X (j := 0) (i := 0) (q := 0) (x := a0) rfl rfl (dl_at t_X14_contents 10 rfl) ?_
    refine g_iload_n (pc := 19) X (j := 2) (i := 2) (q := 2) (x := x2_7) rfl rfl (dl_at t_X14_contents 11 rfl) ?_
    refine g_bipush (pc := 20) X (n := 19) rfl (dl_at t_X14_contents 12 rfl) ?_
    refine r_callRi (pc := 22) X (fun _ hv => s_X14_property k9 r2_7 (r32_c rfl) hv) cw_code q2504 q368 (in_Vk X (As := [iv x2_7, iv 19]) kX14 k9 (Or.inl q2501) q2503 qs119 cw_code q2504 ⟨by decide, by decide⟩ rfl (dl_at t_X14_contents 13 rfl)) (dl_at t_X14_contents 13 rfl) (cat24 (st := []) (Nat.le_of_ble_eq_true rfl)) (Nat.le_of_ble_eq_true rfl) (Nat.le_of_ble_eq_true rfl) fun v22 g22 => ?_
    refine g_istore_nN (pc := 25) X (j := 3) (i := 3) (x := v22) (b := 2) (w := iv x2_7) (rest := [(0, rv D a0), (1, iv v1)]) rfl (Nat.le_of_ble_eq_true rfl) [2, 0, 1] rfl (by decide) rfl rfl (dl_at t_X14_contents 14 rfl) ?_
    refine g_aload_n (pc := 26) X (j := 0) (i := 0) (q := 2) (x := a0) rfl rfl (dl_at t_X14_contents 15 rfl) ?_
    refine r_getr (pc := 27) X fX14_2 k9 q1243 (dl_at t_X14_contents 16 rfl) ?_
    refine r_getrN (pc := 30) X fX7_7 k12 (nw_in q794 rfl) (dl_at t_X14_contents 17 rfl) ?_
    refine g_iload_n (pc := 33) X (j := 2) (i := 2) (q := 1) (x := x2_7) rfl rfl (dl_at t_X14_contents 18 rfl) ?_
    refine g_gd fun k34 => ?_
    refine g_zald (pc := 34) X r2_7 k34 (dl_at t_X14_contents 19 rfl) fun g34 => ?_
    refine g_join (γ := Hp) (fun q => Ext h_7 q) 124 (fun q => [(0, rv D a0), (1, iv v1), (2, iv x2_7)]) (fun q => []) (fun q => q) (fun q => m_X14_contents_j124 x2_7 q) ?_ ?_
    · rintro h_124 E_124
      try dsimp only
      unfold m_X14_contents_j124
      refine r_iincN (pc := 124) X (i := 2) (q := 2) (n := 1) (x := x2_7) (b := 1) (w := iv v1) (rest := [(0, rv D a0)]) rfl r2_7 (r32_c rfl) (Nat.le_of_ble_eq_true rfl) [1, 0] rfl (by decide) rfl rfl (dl_at t_X14_contents 69 rfl) fun x2_124 r2_124 => ?_
      refine g_goto (pc := 127) X (off := (-120)) (tgt := 7) rfl (dl_at t_X14_contents 70 rfl) ?_
      refine g_ls (ls2 := [(0, rv D a0), (1, iv v1), (2, iv x2_124)]) [2, 1, 0] rfl ?_
      exact g_at fun Q hQ => hQ ⟨r2_124, (E_7.trans E_124)⟩
    intro J124
    refine g_ifeq (pc := 35) X (r32_z g34) (off := 89) (tgt := 124) rfl (dl_at t_X14_contents 20 rfl) (fun _ => ?_) (fun _ => ?_)
    · refine g_ls (ls2 := [(0, rv D a0), (1, iv v1), (2, iv x2_7)]) [2, 3, 1] rfl ?_
      exact J124 h_7 (Ext.refl _)
    refine g_iload_n (pc := 38) X (j := 3) (i := 3) (q := 0) (x := v22) rfl rfl (dl_at t_X14_contents 21 rfl) ?_
    refine g_ifne (pc := 39) X g22 (off := 6) (tgt := 45) rfl (dl_at t_X14_contents 22 rfl) (fun _ => ?_) (fun _ => ?_)
    · refine g_aload_n (pc := 45) X (j := 0) (i := 0) (q := 2) (x := a0) rfl rfl (dl_at t_X14_contents 24 rfl) ?_
      refine r_callWr (pc := 46) X (fun _ hv => s_X14_small k9 hv) cw_code q2684 q368 (in_Vk X (As := []) kX14 k9 (Or.inl q2681) q2683 qs139 cw_code q2684 ⟨by decide, by decide⟩ rfl (dl_at t_X14_contents 25 rfl)) (dl_at t_X14_contents 25 rfl) (cat24 (st := []) (Nat.le_of_ble_eq_true rfl)) (Nat.le_of_ble_eq_true rfl) (Nat.le_of_ble_eq_true rfl) fun v46 h46 E46 => ?_
      refine g_astoreN (pc := 49) X (i := 4) (x := v46) (b := 3) (w := iv v22) (rest := [(2, iv x2_7), (0, rv D a0), (1, iv v1)]) (Nat.le_of_ble_eq_true rfl) [0, 1, 2, 3] rfl (by decide) rfl rfl (dl_at t_X14_contents 26 rfl) ?_
      refine g_aload_n (pc := 51) X (j := 0) (i := 0) (q := 3) (x := a0) rfl rfl (dl_at t_X14_contents 27 rfl) ?_
      have k52 := kx E46 (by decide) k9
      refine r_getr (pc := 52) X fX14_2 k52 q1243 (dl_at t_X14_contents 28 rfl) ?_
      refine g_iload_n (pc := 55) X (j := 2) (i := 2) (q := 2) (x := x2_7) rfl rfl (dl_at t_X14_contents 29 rfl) ?_
      refine g_aload (pc := 56) X (i := 4) (q := 0) (x := v46) rfl (dl_at t_X14_contents 30 rfl) ?_
      refine g_gd fun k58 => ?_
      refine r_callTv (pc := 58) X (fun _ hv => s_X7_title k58 r2_7 hv) cw_code q2404 q361 (in_Vk X (As := [iv x2_7, rv D v46]) kX7 k58 (Or.inr ⟨_, nw_in q2747 rfl⟩) q2403 qs99 cw_code q2404 ⟨by decide, by decide⟩ rfl (dl_at t_X14_contents 31 rfl)) (dl_at t_X14_contents 31 rfl) (cat24 (st := []) (Nat.le_of_ble_eq_true rfl)) (Nat.le_of_ble_eq_true rfl) (Nat.le_of_ble_eq_true rfl) (fun v58 h58 E58 => ?_) (fun _ _ ha _ => gt_at fun Q hQ => gt_out (Q := Q) X rfl ha (hno _) _ Q rfl hQ)
      refine g_aload (pc := 61) X (i := 4) (q := 0) (x := v46) rfl (dl_at t_X14_contents 32 rfl) ?_
      refine g_bipush (pc := 63) X (n := 32) rfl (dl_at t_X14_contents 33 rfl) ?_
      refine g_gd fun k65 => ?_
      refine r_callTv (pc := 65) X (fun _ hv => s_X5_add k65 (r32_c rfl) hv) cw_code q2038 q359 (in_Vk X (As := [iv 32]) kX5 k65 (Or.inr ⟨_, nw_in q2704 rfl⟩) q2037 qs44 cw_code q2038 ⟨by decide, by decide⟩ rfl (dl_at t_X14_contents 34 rfl)) (dl_at t_X14_contents 34 rfl) (cat24 (st := []) (Nat.le_of_ble_eq_true rfl)) (Nat.le_of_ble_eq_true rfl) (Nat.le_of_ble_eq_true rfl) (fun v65 h65 E65 => ?_) (fun _ _ ha _ => gt_at fun Q hQ => gt_out (Q := Q) X rfl ha (hno _) _ Q rfl hQ)
      refine g_aload (pc := 68) X (i := 4) (q := 0) (x := v46) rfl (dl_at t_X14_contents 35 rfl) ?_
      refine g_aload_n (pc := 70) X (j := 0) (i := 0) (q := 3) (x := a0) rfl rfl (dl_at t_X14_contents 36 rfl) ?_
      have k71 := kx (E58.trans E65) (by decide) k52
      refine r_getr (pc := 71) X fX14_40 k71 q1301 (dl_at t_X14_contents 37 rfl) ?_
      refine g_iload_n (pc := 74) X (j := 2) (i := 2) (q := 2) (x := x2_7) rfl rfl (dl_at t_X14_contents 38 rfl) ?_
      refine g_gd fun k75 => ?_
      refine g_iald (pc := 75) X r2_7 k75 (dl_at t_X14_contents 39 rfl) fun g75 => ?_
      refine g_i2l (pc := 76) X g75 (dl_at t_X14_contents 40 rfl) ?_
      have k77 := kx E65 (by decide) k65
      refine r_callTv (pc := 77) X (fun _ hv => s_X5_number (d := 24) k77 (r64_of g75) hv) cw_code q2441 q359 (in_Vk X (As := [jv (h65 (h65 a0 40) x2_7)]) kX5 k77 (Or.inr ⟨_, nw_in q2685 rfl⟩) q2440 qs105 cw_code q2441 ⟨by decide, by decide⟩ rfl (dl_at t_X14_contents 41 rfl)) (dl_at t_X14_contents 41 rfl) (cat24 (st := []) (Nat.le_of_ble_eq_true rfl)) (Nat.le_of_ble_eq_true rfl) (Nat.le_of_ble_eq_true rfl) (fun v77 h77 E77 => ?_) (fun _ _ ha _ => gt_at fun Q hQ => gt_out (Q := Q) X rfl ha (hno _) _ Q rfl hQ)
      refine g_aload_n (pc := 80) X (j := 0) (i := 0) (q := 3) (x := a0) rfl rfl (dl_at t_X14_contents 42 rfl) ?_
      refine g_aload_n (pc := 81) X (j := 0) (i := 0) (q := 3) (x := a0) rfl rfl (dl_at t_X14_contents 43 rfl) ?_
      have k82 := kx E77 (by decide) k71
      refine r_getr (pc := 82) X fX14_0 k82 q1241 (dl_at t_X14_contents 44 rfl) ?_
      refine g_gd fun k85 => ?_
      refine r_getrN (pc := 85) X fX10_1 k85 (nw_in q1039 rfl) (dl_at t_X14_contents 45 rfl) ?_
      refine g_aload (pc := 88) X (i := 4) (q := 0) (x := v46) rfl (dl_at t_X14_contents 46 rfl) ?_
      refine g_aload_n (pc := 90) X (j := 0) (i := 0) (q := 3) (x := a0) rfl rfl (dl_at t_X14_contents 47 rfl) ?_
      refine g_iload_n (pc := 91) X (j := 1) (i := 1) (q := 4) (x := v1) rfl rfl (dl_at t_X14_contents 48 rfl) ?_
      refine g_iconst (pc := 92) X (n := 1) (dl_at t_X14_contents 49 rfl) ?_
      refine r_callRi (pc := 93) X (fun _ hv => s_X14_property k82 g1 (r32_c rfl) hv) cw_code q2504 q368 (in_Vk X (As := [iv v1, iv 1]) kX14 k82 (Or.inl q2501) q2503 qs119 cw_code q2504 ⟨by decide, by decide⟩ rfl (dl_at t_X14_contents 50 rfl)) (dl_at t_X14_contents 50 rfl) (cat24 (st := [rv D v46, rv D (h77 (h77 a0 0) 1), rv D a0]) (Nat.le_of_ble_eq_true rfl)) (Nat.le_of_ble_eq_true rfl) (Nat.le_of_ble_eq_true rfl) fun v93 g93 => ?_
      refine g_iconst (pc := 96) X (n := 1) (dl_at t_X14_contents 51 rfl) ?_
      refine r_callTv (pc := 97) X (fun _ hv => s_X14_putAll k82 g93 (Or.inr rfl) hv) cw_code q2693 q368 (in_Vk X (As := [rv D (h77 (h77 a0 0) 1), rv D v46, iv v93, iv 1]) kX14 k82 (Or.inl q2690) q2692 qs141 cw_code q2693 ⟨by decide, by decide⟩ rfl (dl_at t_X14_contents 52 rfl)) (dl_at t_X14_contents 52 rfl) (cat24 (st := []) (Nat.le_of_ble_eq_true rfl)) (Nat.le_of_ble_eq_true rfl) (Nat.le_of_ble_eq_true rfl) (fun v97 h97 E97 => ?_) (fun _ _ ha _ => gt_at fun Q hQ => gt_out (Q := Q) X rfl ha (hno _) _ Q rfl hQ)
      refine g_aload_n (pc := 100) X (j := 0) (i := 0) (q := 3) (x := a0) rfl rfl (dl_at t_X14_contents 53 rfl) ?_
      refine g_aload_n (pc := 101) X (j := 0) (i := 0) (q := 3) (x := a0) rfl rfl (dl_at t_X14_contents 54 rfl) ?_
      refine g_iconst (pc := 102) X (n := 4) (dl_at t_X14_contents 55 rfl) ?_
      have k103 := kx E97 (by decide) k82
      refine r_callRi (pc := 103) X (fun _ hv => s_X14_inset k103 (r32_c rfl) hv) cw_code q2500 q368 (in_Vk X (As := [iv 4]) kX14 k103 (Or.inl q2497) q2499 qs118 cw_code q2500 ⟨by decide, by decide⟩ rfl (dl_at t_X14_contents 56 rfl)) (dl_at t_X14_contents 56 rfl) (cat24 (st := [rv D a0]) (Nat.le_of_ble_eq_true rfl)) (Nat.le_of_ble_eq_true rfl) (Nat.le_of_ble_eq_true rfl) fun v103 g103 => ?_
      refine g_sipush (pc := 106) X (n := 10000) rfl (dl_at t_X14_contents 57 rfl) ?_
      refine g_iload_n (pc := 109) X (j := 3) (i := 3) (q := 1) (x := v22) rfl rfl (dl_at t_X14_contents 58 rfl) ?_
      refine g_iconst (pc := 110) X (n := 1) (dl_at t_X14_contents 59 rfl) ?_
      refine g_isub (pc := 111) X g22 (r32_c rfl) (dl_at t_X14_contents 60 rfl) ?_
      refine g_imul (pc := 112) X (r32_c rfl) (r32_w _) (dl_at t_X14_contents 61 rfl) ?_
      refine g_iadd (pc := 113) X g103 (r32_w _) (dl_at t_X14_contents 62 rfl) ?_
      refine r_callTv (pc := 114) X (fun _ hv => s_X14_flushAs k103 (r32_w _) hv) cw_code q2509 q368 (in_Vk X (As := [iv (w32 (v103 + (w32 (10000 * (w32 (v22 - 1))))))]) kX14 k103 (Or.inl q2506) q2508 qs120 cw_code q2509 ⟨by decide, by decide⟩ rfl (dl_at t_X14_contents 63 rfl)) (dl_at t_X14_contents 63 rfl) (cat24 (st := []) (Nat.le_of_ble_eq_true rfl)) (Nat.le_of_ble_eq_true rfl) (Nat.le_of_ble_eq_true rfl) (fun v114 h114 E114 => ?_) (fun _ _ ha _ => gt_at fun Q hQ => gt_out (Q := Q) X rfl ha (hno _) _ Q rfl hQ)
      refine g_aload_n (pc := 117) X (j := 0) (i := 0) (q := 3) (x := a0) rfl rfl (dl_at t_X14_contents 64 rfl) ?_
      refine g_iload_n (pc := 118) X (j := 1) (i := 1) (q := 4) (x := v1) rfl rfl (dl_at t_X14_contents 65 rfl) ?_
      refine g_iload_n (pc := 119) X (j := 2) (i := 2) (q := 2) (x := x2_7) rfl rfl (dl_at t_X14_contents 66 rfl) ?_
      refine g_iconst (pc := 120) X (n := 0) (dl_at t_X14_contents 67 rfl) ?_
      have k121 := kx E114 (by decide) k103
      refine r_callV (pc := 121) X (fun _ hv => s_X14_takes k121 g1 r2_7 (r32_c rfl) hv) cw_code q2732 q368 (in_Vk X (As := [iv v1, iv x2_7, iv 0]) kX14 k121 (Or.inl q2729) q2731 qs148 cw_code q2732 ⟨by decide, by decide⟩ rfl (dl_at t_X14_contents 68 rfl)) (dl_at t_X14_contents 68 rfl) (cat24 (st := []) (Nat.le_of_ble_eq_true rfl)) (Nat.le_of_ble_eq_true rfl) (Nat.le_of_ble_eq_true rfl) fun h121 E121 => ?_
      refine g_ls (ls2 := [(0, rv D a0), (1, iv v1), (2, iv x2_7)]) [3, 4, 2] rfl ?_
      exact J124 h121 (E46.trans (E58.trans (E65.trans (E77.trans (E97.trans (E114.trans E121))))))
    refine g_goto (pc := 42) X (off := 82) (tgt := 124) rfl (dl_at t_X14_contents 23 rfl) ?_
    refine g_ls (ls2 := [(0, rv D a0), (1, iv v1), (2, iv x2_7)]) [2, 3, 1] rfl ?_
    exact J124 h_7 (Ext.refl _)
def k_X16_write : List (Nat × Instr × Nat) := [(0, .aload_n 0, 1), (1, .getfield 34, 3), (4, .iload_n 1, 1), (5, .iaload, 1), (6, .istore 4, 2), (8, .aload_n 3, 1), (9, .aload_n 0, 1), (10, .getfield 24, 3), (13, .getfield 106, 3), (16, .aload_n 0, 1), (17, .getfield 28, 3), (20, .iload 4, 2), (22, .iaload, 1), (23, .aload_n 0, 1), (24, .getfield 31, 3), (27, .iload 4, 2), (29, .iaload, 1), (30, .invokevirtual 83, 3), (33, .iconst 0, 1), (34, .istore 5, 2), (36, .iconst 0, 1), (37, .istore 6, 2), (39, .iload 6, 2), (41, .aload_n 0, 1), (42, .getfield 44, 3), (45, .if_icmp .ge 69, 3), (48, .aload_n 0, 1), (49, .getfield 15, 3), (52, .iload 6, 2), (54, .iaload, 1), (55, .iload 4, 2), (57, .if_icmp .eq 6, 3), (60, .goto 48, 3), (63, .aload_n 2, 1), (64, .aload_n 0, 1), (65, .getfield 9, 3), (68, .iload 6, 2), (70, .iaload, 1), (71, .iaload, 1), (72, .istore 7, 2), (74, .iload 5, 2), (76, .ifCond .le 20, 3), (79, .aload_n 0, 1), (80, .getfield 37, 3), (83, .iload 5, 2), (85, .iconst 1, 1), (86, .isub, 1), (87, .iaload, 1), (88, .iload 7, 2), (90, .if_icmp .ne 6, 3), (93, .goto 15, 3), (96, .aload_n 0, 1), (97, .getfield 37, 3), (100, .iload 5, 2), (102, .iload 7, 2), (104, .iastore, 1), (105, .iinc 5 1, 3), (108, .iinc 6 1, 3), (111, .goto (-72), 3), (114, .iconst 0, 1), (115, .istore 6, 2), (117, .iload 6, 2), (119, .iload 5, 2), (121, .if_icmp .ge 114, 3), (124, .iload 6, 2), (126, .istore 7, 2), (128, .iload 7, 2), (130, .iconst 1, 1), (131, .iadd, 1), (132, .iload 5, 2), (134, .if_icmp .ge 30, 3), (137, .aload_n 0, 1), (138, .getfield 37, 3), (141, .iload 7, 2), (143, .iconst 1, 1), (144, .iadd, 1), (145, .iaload, 1), (146, .aload_n 0, 1), (147, .getfield 37, 3), (150, .iload 7, 2), (152, .iaload, 1), (153, .iconst 1, 1), (154, .iadd, 1), (155, .if_icmp .ne 9, 3), (158, .iinc 7 1, 3), (161, .goto (-33), 3), (164, .iload 7, 2), (166, .iload 6, 2), (168, .isub, 1), (169, .iconst 2, 1), (170, .if_icmp .ge 7, 3), (173, .iload 6, 2), (175, .istore 7, 2), (177, .aload_n 3, 1), (178, .bipush 44, 2), (180, .invokevirtual 113, 3), (183, .aload_n 3, 1), (184, .bipush 32, 2), (186, .invokevirtual 113, 3), (189, .aload_n 3, 1), (190, .aload_n 0, 1), (191, .getfield 37, 3), (194, .iload 6, 2), (196, .iaload, 1), (197, .i2l, 1), (198, .invokevirtual 115, 3), (201, .iload 7, 2), (203, .iload 6, 2), (205, .if_icmp .le 21, 3), (208, .aload_n 3, 1), (209, .bipush 45, 2), (211, .invokevirtual 113, 3), (214, .aload_n 3, 1), (215, .aload_n 0, 1), (216, .getfield 37, 3), (219, .iload 7, 2), (221, .iaload, 1), (222, .i2l, 1), (223, .invokevirtual 115, 3), (226, .iload 7, 2), (228, .iconst 1, 1), (229, .iadd, 1), (230, .istore 6, 2), (232, .goto (-115), 3), (235, .return_, 1)]
theorem t_X16_write : ∀ q ∈ k_X16_write, decode cX16_write q.1 = .ok q.2 := dl_all (by decide +kernel)
noncomputable def m_X16_write_j108 (x6_39 x5_108 : Int) (h_108 : Hp) : Option ((Int × Int × Hp) ⊕ ((Int × Hp))) :=
  lt_ (w32 (x6_39 + 1)) fun x6_108 =>
  some (.inl (x5_108, x6_108, h_108))
noncomputable def m_X16_write_j96 (x7_72 x6_39 a0 x5_39 : Int) (h_39 : Hp) : Option ((Int × Int × Hp) ⊕ ((Int × Hp))) :=
  gd (h_39 (h_39 a0 8) (-2) % 16 = 1 ∧ (0 : Int) ≤ x5_39 ∧ x5_39 < h_39 (h_39 a0 8) (-1)) (pt h_39 (h_39 a0 8) x5_39 x7_72 fun h104 =>
  lt_ (w32 (x5_39 + 1)) fun x5_105 =>
  m_X16_write_j108 x6_39 x5_105 h104)
noncomputable def m_X16_write_l39 (a0 a2 x4_6 x5_39 x6_39 : Int) (h_39 : Hp) : Option ((Int × Int × Hp) ⊕ ((Int × Hp))) :=
  if (h_39 a0 3) ≤ x6_39 then (some (.inr (x5_39, h_39)))
  else (gd (h_39 (h_39 a0 2) (-2) % 16 = 1 ∧ (0 : Int) ≤ x6_39 ∧ x6_39 < h_39 (h_39 a0 2) (-1)) (if (h_39 (h_39 a0 2) x6_39) = x4_6 then (gd (h_39 (h_39 a0 1) (-2) % 16 = 1 ∧ (0 : Int) ≤ x6_39 ∧ x6_39 < h_39 (h_39 a0 1) (-1)) (gd (h_39 a2 (-2) % 16 = 1 ∧ (0 : Int) ≤ (h_39 (h_39 a0 1) x6_39) ∧ (h_39 (h_39 a0 1) x6_39) < h_39 a2 (-1)) (lt_ (h_39 a2 (h_39 (h_39 a0 1) x6_39)) fun x7_72 =>
  if x5_39 ≤ 0 then (m_X16_write_j96 x7_72 x6_39 a0 x5_39 h_39)
  else (gd (h_39 (h_39 a0 8) (-2) % 16 = 1 ∧ (0 : Int) ≤ (w32 (x5_39 - 1)) ∧ (w32 (x5_39 - 1)) < h_39 (h_39 a0 8) (-1)) (if (h_39 (h_39 a0 8) (w32 (x5_39 - 1))) ≠ x7_72 then (m_X16_write_j96 x7_72 x6_39 a0 x5_39 h_39)
  else (m_X16_write_j108 x6_39 x5_39 h_39))))))
  else (m_X16_write_j108 x6_39 x5_39 h_39)))
noncomputable def m_X16_write_l128 (a0 x5_114 x7_128 : Int) (h_117 : Hp) : Option ((Int) ⊕ ((Int))) :=
  if x5_114 ≤ (w32 (x7_128 + 1)) then (some (.inr x7_128))
  else (gd (h_117 (h_117 a0 8) (-2) % 16 = 1 ∧ (0 : Int) ≤ (w32 (x7_128 + 1)) ∧ (w32 (x7_128 + 1)) < h_117 (h_117 a0 8) (-1)) (gd (h_117 (h_117 a0 8) (-2) % 16 = 1 ∧ (0 : Int) ≤ x7_128 ∧ x7_128 < h_117 (h_117 a0 8) (-1)) (if (h_117 (h_117 a0 8) (w32 (x7_128 + 1))) ≠ (w32 ((h_117 (h_117 a0 8) x7_128) + 1)) then (some (.inr x7_128))
  else (lt_ (w32 (x7_128 + 1)) fun x7_158 =>
  some (.inl x7_158)))))
noncomputable def m_X16_write_j226 (x7_177 : Int) (h_226 : Hp) : Option ((Int × Hp) ⊕ (((Int × Int) × Hp))) :=
  lt_ (w32 (x7_177 + 1)) fun x6_230 =>
  some (.inl (x6_230, h_226))
noncomputable def m_X16_write_j177 (a0 a3 x6_117 x7_177 : Int) (h_117 : Hp) : Option ((Int × Hp) ⊕ (((Int × Int) × Hp))) :=
  bT (m_X5_add a3 44 h_117) (fun _ h180 =>
  bT (m_X5_add a3 32 h180) (fun _ h186 =>
  gd (h186 (h186 a0 8) (-2) % 16 = 1 ∧ (0 : Int) ≤ x6_117 ∧ x6_117 < h186 (h186 a0 8) (-1)) (bT (m_X5_number 24 a3 (h186 (h186 a0 8) x6_117) h186) (fun _ h198 =>
  if x7_177 ≤ x6_117 then (m_X16_write_j226 x7_177 h198)
  else (bT (m_X5_add a3 45 h198) (fun _ h211 =>
  gd (h211 (h211 a0 8) (-2) % 16 = 1 ∧ (0 : Int) ≤ x7_177 ∧ x7_177 < h211 (h211 a0 8) (-1)) (bT (m_X5_number 24 a3 (h211 (h211 a0 8) x7_177) h211) (fun _ h223 =>
  m_X16_write_j226 x7_177 h223) (fun a_ h_ => some (.inr ((1, a_), h_))))) (fun a_ h_ => some (.inr ((1, a_), h_))))) (fun a_ h_ => some (.inr ((1, a_), h_))))) (fun a_ h_ => some (.inr ((1, a_), h_)))) (fun a_ h_ => some (.inr ((1, a_), h_)))
noncomputable def m_X16_write_l117 (a0 a3 x5_114 x6_117 : Int) (h_117 : Hp) : Option ((Int × Hp) ⊕ (((Int × Int) × Hp))) :=
  if x5_114 ≤ x6_117 then (some (.inr ((0, 0), h_117)))
  else ((lp (fun (q : Int) => m_X16_write_l128 a0 x5_114 q h_117) x6_117).bind (fun (y164 : Int) => if 2 ≤ (w32 (y164 - x6_117)) then (m_X16_write_j177 a0 a3 x6_117 y164 h_117)
  else (m_X16_write_j177 a0 a3 x6_117 x6_117 h_117)))
noncomputable def m_X16_write (a0 a1 a2 a3 : Int) (h : Hp) : Option ((Int × Int) × Hp) :=
  gd (h (h a0 7) (-2) % 16 = 1 ∧ (0 : Int) ≤ a1 ∧ a1 < h (h a0 7) (-1)) (lt_ (h (h a0 7) a1) fun x4_6 =>
  gd (h (h a0 4) (-2) = 80) (gd (h (h a0 5) (-2) % 16 = 1 ∧ (0 : Int) ≤ x4_6 ∧ x4_6 < h (h a0 5) (-1)) (gd (h (h a0 6) (-2) % 16 = 1 ∧ (0 : Int) ≤ x4_6 ∧ x4_6 < h (h a0 6) (-1)) (gd (h a3 (-2) = 80) (bT (m_X5_addAll a3 (h (h a0 4) 0) (h (h a0 5) x4_6) (h (h a0 6) x4_6) h) (fun _ h30 =>
  lt_ 0 fun x5_34 =>
  lt_ 0 fun x6_37 =>
  (lp (fun (q : Int × Int × Hp) => m_X16_write_l39 a0 a2 x4_6 q.1 q.2.1 q.2.2) (x5_34, x6_37, h30)).bind (fun (y114 : Int × Hp) => lt_ 0 fun x6_115 =>
  (lp (fun (q : Int × Hp) => m_X16_write_l117 a0 a3 y114.1 q.1 q.2) (x6_115, y114.2)).bind (fun (x : (Int × Int) × Hp) => some x))) (fun a_ h_ => some ((1, a_), h_)))))))
theorem s_X16_write {l : Launch} [NoTr l] {D : SD} {a0 a1 a2 a3 : Int} {h : Hp} (hk : h a0 (-2) = 256) (r1 : r32 a1) {r : (Int × Int) × Hp} (hm : m_X16_write a0 a1 a2 a3 h = some r) : Sim l D yX16_write (Cond.code yX16_write cX16_write 8 (Option.none : Option Jvm.ClassFile.FieldType)) 36 1359 [rv D a0, iv a1, rv D a2, rv D a3] h 0 r := by
  refine Sim.of (fin := fun (v : (Int × Int) × Hp) => v) (lsE := [(0, rv D a0), (1, iv a1), (2, rv D a2), (3, rv D a3)]) hm rfl cwS_code (la_r (la_i (la_r (la_r la_n)))) (ll_r (ll_i (ll_r (ll_r ll_n)))) ?_
  intro p e s m below meth c X hcw hmm hcc hnm hname
  have hno := noh hcw hnm hmm hcc
  unfold m_X16_write
  refine g_aload_n (pc := 0) X (j := 0) (i := 0) (q := 0) (x := a0) rfl rfl (dl_at t_X16_write 0 rfl) ?_
  refine r_getr (pc := 1) X fX16_7 hk q1215 (dl_at t_X16_write 1 rfl) ?_
  refine g_iload_n (pc := 4) X (j := 1) (i := 1) (q := 1) (x := a1) rfl rfl (dl_at t_X16_write 2 rfl) ?_
  refine g_gd fun k5 => ?_
  refine g_iald (pc := 5) X r1 k5 (dl_at t_X16_write 3 rfl) fun g5 => ?_
  refine g_lti g5 fun x4_6 r4_6 => ?_
  refine g_istoreN (pc := 6) X (i := 4) (x := x4_6) (b := 3) (w := rv D a3) (rest := [(0, rv D a0), (2, rv D a2)]) (Nat.le_of_ble_eq_true rfl) [3, 0, 2] rfl (by decide) rv_cat rfl (dl_at t_X16_write 4 rfl) ?_
  refine g_aload_n (pc := 8) X (j := 3) (i := 3) (q := 1) (x := a3) rfl rfl (dl_at t_X16_write 5 rfl) ?_
  refine g_aload_n (pc := 9) X (j := 0) (i := 0) (q := 2) (x := a0) rfl rfl (dl_at t_X16_write 6 rfl) ?_
  refine r_getr (pc := 10) X fX16_4 hk q1212 (dl_at t_X16_write 7 rfl) ?_
  refine g_gd fun k13 => ?_
  refine r_getrN (pc := 13) X fX5_0 k13 (nw_in q500 rfl) (dl_at t_X16_write 8 rfl) ?_
  refine g_aload_n (pc := 16) X (j := 0) (i := 0) (q := 2) (x := a0) rfl rfl (dl_at t_X16_write 9 rfl) ?_
  refine r_getr (pc := 17) X fX16_5 hk q1213 (dl_at t_X16_write 10 rfl) ?_
  refine g_iload (pc := 20) X (i := 4) (q := 0) (x := x4_6) rfl (dl_at t_X16_write 11 rfl) ?_
  refine g_gd fun k22 => ?_
  refine g_iald (pc := 22) X r4_6 k22 (dl_at t_X16_write 12 rfl) fun g22 => ?_
  refine g_aload_n (pc := 23) X (j := 0) (i := 0) (q := 2) (x := a0) rfl rfl (dl_at t_X16_write 13 rfl) ?_
  refine r_getr (pc := 24) X fX16_6 hk q1214 (dl_at t_X16_write 14 rfl) ?_
  refine g_iload (pc := 27) X (i := 4) (q := 0) (x := x4_6) rfl (dl_at t_X16_write 15 rfl) ?_
  refine g_gd fun k29 => ?_
  refine g_iald (pc := 29) X r4_6 k29 (dl_at t_X16_write 16 rfl) fun g29 => ?_
  refine g_gd fun k30 => ?_
  refine r_callTv (pc := 30) X (fun _ hv => s_X5_addAll k30 g22 g29 hv) cw_code q2034 q359 (in_Vk X (As := [rv D (h (h a0 4) 0), iv (h (h a0 5) x4_6), iv (h (h a0 6) x4_6)]) kX5 k30 (Or.inr ⟨_, nw_in q2400 rfl⟩) q2033 qs43 cw_code q2034 ⟨by decide, by decide⟩ rfl (dl_at t_X16_write 17 rfl)) (dl_at t_X16_write 17 rfl) (cat24 (st := []) (Nat.le_of_ble_eq_true rfl)) (Nat.le_of_ble_eq_true rfl) (Nat.le_of_ble_eq_true rfl) (fun v30 h30 E30 => ?_) (fun _ _ ha _ => gt_at fun Q hQ => gt_out (Q := Q) X rfl ha (hno _) _ Q rfl hQ)
  refine g_iconst (pc := 33) X (n := 0) (dl_at t_X16_write 18 rfl) ?_
  refine g_ltz (Or.inl rfl) fun x5_34 r5_34 => ?_
  refine g_istoreN (pc := 34) X (i := 5) (x := x5_34) (b := 4) (w := iv x4_6) (rest := [(3, rv D a3), (0, rv D a0), (2, rv D a2)]) (Nat.le_of_ble_eq_true rfl) [0, 1, 2, 3] rfl (by decide) rfl rfl (dl_at t_X16_write 19 rfl) ?_
  refine g_iconst (pc := 36) X (n := 0) (dl_at t_X16_write 20 rfl) ?_
  refine g_ltz (Or.inl rfl) fun x6_37 r6_37 => ?_
  refine g_istoreN (pc := 37) X (i := 6) (x := x6_37) (b := 5) (w := iv x5_34) (rest := [(4, iv x4_6), (3, rv D a3), (0, rv D a0), (2, rv D a2)]) (Nat.le_of_ble_eq_true rfl) [0, 1, 2, 3, 4] rfl (by decide) rfl rfl (dl_at t_X16_write 21 rfl) ?_
  refine g_ls (ls2 := [(0, rv D a0), (2, rv D a2), (3, rv D a3), (4, iv x4_6), (5, iv x5_34), (6, iv x6_37)]) [4, 5, 3, 2, 1, 0] rfl ?_
  refine g_loop1 (fun (q : Int × Int × Hp) => [(0, rv D a0), (2, rv D a2), (3, rv D a3), (4, iv x4_6), (5, iv q.1), (6, iv q.2.1)]) (fun (q : Int × Int × Hp) => q.2.2) (fun (q : Int × Int × Hp) => r32 q.1 ∧ r32 q.2.1 ∧ Ext h30 q.2.2) 114 (fun (y114 : Int × Hp) => [(0, rv D a0), (3, rv D a3), (5, iv y114.1)]) (fun (y114 : Int × Hp) => y114.2) (fun (y114 : Int × Hp) => r32 y114.1 ∧ Ext h30 y114.2) (x5_34, x6_37, h30) ⟨(r32_z r5_34), (r32_z r6_37), (Ext.refl _)⟩ ?_ ?_
  · rintro ⟨x5_39, x6_39, h_39⟩ ⟨r5_39, r6_39, E_39⟩
    try dsimp only
    unfold m_X16_write_l39
    refine g_iload (pc := 39) X (i := 6) (q := 5) (x := x6_39) rfl (dl_at t_X16_write 22 rfl) ?_
    refine g_aload_n (pc := 41) X (j := 0) (i := 0) (q := 0) (x := a0) rfl rfl (dl_at t_X16_write 23 rfl) ?_
    have k42 := kx (E30.trans E_39) (by decide) hk
    refine r_geti (pc := 42) X fX16_3 k42 q1210 (dl_at t_X16_write 24 rfl) fun g42 => ?_
    refine g_icmpge (pc := 45) X r6_39 g42 (off := 69) (tgt := 114) rfl (dl_at t_X16_write 25 rfl) (fun _ => ?_) (fun _ => ?_)
    · refine g_ls (ls2 := [(0, rv D a0), (3, rv D a3), (5, iv x5_39)]) [0, 2, 4] rfl ?_
      exact g_at fun Q hQ => hQ ⟨r5_39, E_39⟩
    refine g_aload_n (pc := 48) X (j := 0) (i := 0) (q := 0) (x := a0) rfl rfl (dl_at t_X16_write 26 rfl) ?_
    refine r_getr (pc := 49) X fX16_2 k42 q1209 (dl_at t_X16_write 27 rfl) ?_
    refine g_iload (pc := 52) X (i := 6) (q := 5) (x := x6_39) rfl (dl_at t_X16_write 28 rfl) ?_
    refine g_gd fun k54 => ?_
    refine g_iald (pc := 54) X r6_39 k54 (dl_at t_X16_write 29 rfl) fun g54 => ?_
    refine g_iload (pc := 55) X (i := 4) (q := 3) (x := x4_6) rfl (dl_at t_X16_write 30 rfl) ?_
    refine g_join (γ := Int × Hp) (fun q => r32 q.1 ∧ Ext h_39 q.2) 108 (fun q => [(0, rv D a0), (2, rv D a2), (3, rv D a3), (4, iv x4_6), (5, iv q.1), (6, iv x6_39)]) (fun q => []) (fun q => q.2) (fun q => m_X16_write_j108 x6_39 q.1 q.2) ?_ ?_
    · rintro ⟨x5_108, h_108⟩ ⟨r5_108, E_108⟩
      try dsimp only
      unfold m_X16_write_j108
      refine r_iincN (pc := 108) X (i := 6) (q := 5) (n := 1) (x := x6_39) (b := 5) (w := iv x5_108) (rest := [(0, rv D a0), (2, rv D a2), (3, rv D a3), (4, iv x4_6)]) rfl r6_39 (r32_c rfl) (Nat.le_of_ble_eq_true rfl) [4, 0, 1, 2, 3] rfl (by decide) rfl rfl (dl_at t_X16_write 57 rfl) fun x6_108 r6_108 => ?_
      refine g_goto (pc := 111) X (off := (-72)) (tgt := 39) rfl (dl_at t_X16_write 58 rfl) ?_
      refine g_ls (ls2 := [(0, rv D a0), (2, rv D a2), (3, rv D a3), (4, iv x4_6), (5, iv x5_108), (6, iv x6_108)]) [2, 3, 4, 5, 1, 0] rfl ?_
      exact g_at fun Q hQ => hQ ⟨r5_108, r6_108, (E_39.trans E_108)⟩
    intro J108
    refine g_icmpeq (pc := 57) X g54 r4_6 (off := 6) (tgt := 63) rfl (dl_at t_X16_write 31 rfl) (fun _ => ?_) (fun _ => ?_)
    · refine g_aload_n (pc := 63) X (j := 2) (i := 2) (q := 1) (x := a2) rfl rfl (dl_at t_X16_write 33 rfl) ?_
      refine g_aload_n (pc := 64) X (j := 0) (i := 0) (q := 0) (x := a0) rfl rfl (dl_at t_X16_write 34 rfl) ?_
      refine r_getr (pc := 65) X fX16_1 k42 q1207 (dl_at t_X16_write 35 rfl) ?_
      refine g_iload (pc := 68) X (i := 6) (q := 5) (x := x6_39) rfl (dl_at t_X16_write 36 rfl) ?_
      refine g_gd fun k70 => ?_
      refine g_iald (pc := 70) X r6_39 k70 (dl_at t_X16_write 37 rfl) fun g70 => ?_
      refine g_gd fun k71 => ?_
      refine g_iald (pc := 71) X g70 k71 (dl_at t_X16_write 38 rfl) fun g71 => ?_
      refine g_lti g71 fun x7_72 r7_72 => ?_
      refine g_istoreN (pc := 72) X (i := 7) (x := x7_72) (b := 6) (w := iv x6_39) (rest := [(0, rv D a0), (2, rv D a2), (3, rv D a3), (4, iv x4_6), (5, iv x5_39)]) (Nat.le_of_ble_eq_true rfl) [5, 0, 1, 2, 3, 4] rfl (by decide) rfl rfl (dl_at t_X16_write 39 rfl) ?_
      refine g_iload (pc := 74) X (i := 5) (q := 6) (x := x5_39) rfl (dl_at t_X16_write 40 rfl) ?_
      refine g_join (γ := Unit) (fun q => True) 96 (fun q => [(0, rv D a0), (2, rv D a2), (3, rv D a3), (4, iv x4_6), (5, iv x5_39), (6, iv x6_39), (7, iv x7_72)]) (fun q => []) (fun q => h_39) (fun q => m_X16_write_j96 x7_72 x6_39 a0 x5_39 h_39) ?_ ?_
      · rintro _ _
        try dsimp only
        unfold m_X16_write_j96
        refine g_aload_n (pc := 96) X (j := 0) (i := 0) (q := 0) (x := a0) rfl rfl (dl_at t_X16_write 51 rfl) ?_
        refine r_getr (pc := 97) X fX16_8 k42 q1216 (dl_at t_X16_write 52 rfl) ?_
        refine g_iload (pc := 100) X (i := 5) (q := 4) (x := x5_39) rfl (dl_at t_X16_write 53 rfl) ?_
        refine g_iload (pc := 102) X (i := 7) (q := 6) (x := x7_72) rfl (dl_at t_X16_write 54 rfl) ?_
        refine g_gd fun k104 => ?_
        refine r_iast (pc := 104) X r5_39 r7_72 k104 (dl_at t_X16_write 55 rfl) (fun h104 E104 => ?_)
        refine r_iincN (pc := 105) X (i := 5) (q := 4) (n := 1) (x := x5_39) (b := 4) (w := iv x4_6) (rest := [(0, rv D a0), (2, rv D a2), (3, rv D a3), (6, iv x6_39)]) rfl r5_39 (r32_c rfl) (Nat.le_of_ble_eq_true rfl) [3, 0, 1, 2, 5] rfl (by decide) rfl rfl (dl_at t_X16_write 56 rfl) fun x5_105 r5_105 => ?_
        refine g_ls (ls2 := [(0, rv D a0), (2, rv D a2), (3, rv D a3), (4, iv x4_6), (5, iv x5_105), (6, iv x6_39)]) [2, 3, 4, 1, 0, 5] rfl ?_
        exact J108 (x5_105, h104) ⟨r5_105, E104⟩
      intro J96
      refine g_ifle (pc := 76) X r5_39 (off := 20) (tgt := 96) rfl (dl_at t_X16_write 41 rfl) (fun _ => ?_) (fun _ => ?_)
      · refine g_ls (ls2 := [(0, rv D a0), (2, rv D a2), (3, rv D a3), (4, iv x4_6), (5, iv x5_39), (6, iv x6_39), (7, iv x7_72)]) [2, 3, 4, 5, 6, 1, 0] rfl ?_
        exact J96 () trivial
      refine g_aload_n (pc := 79) X (j := 0) (i := 0) (q := 2) (x := a0) rfl rfl (dl_at t_X16_write 42 rfl) ?_
      refine r_getr (pc := 80) X fX16_8 k42 q1216 (dl_at t_X16_write 43 rfl) ?_
      refine g_iload (pc := 83) X (i := 5) (q := 6) (x := x5_39) rfl (dl_at t_X16_write 44 rfl) ?_
      refine g_iconst (pc := 85) X (n := 1) (dl_at t_X16_write 45 rfl) ?_
      refine g_isub (pc := 86) X r5_39 (r32_c rfl) (dl_at t_X16_write 46 rfl) ?_
      refine g_gd fun k87 => ?_
      refine g_iald (pc := 87) X (r32_w _) k87 (dl_at t_X16_write 47 rfl) fun g87 => ?_
      refine g_iload (pc := 88) X (i := 7) (q := 0) (x := x7_72) rfl (dl_at t_X16_write 48 rfl) ?_
      refine g_icmpne (pc := 90) X g87 r7_72 (off := 6) (tgt := 96) rfl (dl_at t_X16_write 49 rfl) (fun _ => ?_) (fun _ => ?_)
      · refine g_ls (ls2 := [(0, rv D a0), (2, rv D a2), (3, rv D a3), (4, iv x4_6), (5, iv x5_39), (6, iv x6_39), (7, iv x7_72)]) [2, 3, 4, 5, 6, 1, 0] rfl ?_
        exact J96 () trivial
      refine g_goto (pc := 93) X (off := 15) (tgt := 108) rfl (dl_at t_X16_write 50 rfl) ?_
      refine g_ls (ls2 := [(0, rv D a0), (2, rv D a2), (3, rv D a3), (4, iv x4_6), (5, iv x5_39), (6, iv x6_39)]) [2, 3, 4, 5, 6, 1] rfl ?_
      exact J108 (x5_39, h_39) ⟨r5_39, (Ext.refl _)⟩
    refine g_goto (pc := 60) X (off := 48) (tgt := 108) rfl (dl_at t_X16_write 32 rfl) ?_
    exact J108 (x5_39, h_39) ⟨r5_39, (Ext.refl _)⟩
  · rintro ⟨x5_114, h_114⟩ ⟨r5_114, E_114⟩
    try dsimp only [sE]
    refine g_iconst (pc := 114) X (n := 0) (dl_at t_X16_write 59 rfl) ?_
    refine g_ltz (Or.inl rfl) fun x6_115 r6_115 => ?_
    refine g_istoreN (pc := 115) X (i := 6) (x := x6_115) (b := 5) (w := iv x5_114) (rest := [(0, rv D a0), (3, rv D a3)]) (Nat.le_of_ble_eq_true rfl) [2, 0, 1] rfl (by decide) rfl rfl (dl_at t_X16_write 60 rfl) ?_
    refine g_ls (ls2 := [(0, rv D a0), (3, rv D a3), (5, iv x5_114), (6, iv x6_115)]) [2, 3, 1, 0] rfl ?_
    refine g_loop0F (fun (q : Int × Hp) => [(0, rv D a0), (3, rv D a3), (5, iv x5_114), (6, iv q.1)]) (fun (q : Int × Hp) => q.2) (fun (q : Int × Hp) => r32 q.1 ∧ Ext h_114 q.2) (x6_115, h_114) ⟨(r32_z r6_115), (Ext.refl _)⟩ ?_ (fun _ => rfl)
    · rintro ⟨x6_117, h_117⟩ ⟨r6_117, E_117⟩
      try dsimp only
      unfold m_X16_write_l117
      refine g_iload (pc := 117) X (i := 6) (q := 3) (x := x6_117) rfl (dl_at t_X16_write 61 rfl) ?_
      refine g_iload (pc := 119) X (i := 5) (q := 2) (x := x5_114) rfl (dl_at t_X16_write 62 rfl) ?_
      refine g_icmpge (pc := 121) X r6_117 r5_114 (off := 114) (tgt := 235) rfl (dl_at t_X16_write 63 rfl) (fun _ => ?_) (fun _ => ?_)
      · exact g_at fun Q hQ => (g_vret (pc := 235) X (v := 0) rfl rfl (dl_at t_X16_write 124 rfl)) _ Q rfl hQ
      refine g_iload (pc := 124) X (i := 6) (q := 3) (x := x6_117) rfl (dl_at t_X16_write 64 rfl) ?_
      refine g_istoreN (pc := 126) X (i := 7) (x := x6_117) (b := 6) (w := iv x6_117) (rest := [(0, rv D a0), (3, rv D a3), (5, iv x5_114)]) (Nat.le_of_ble_eq_true rfl) [3, 0, 1, 2] rfl (by decide) rfl rfl (dl_at t_X16_write 65 rfl) ?_
      refine g_ls (ls2 := [(0, rv D a0), (3, rv D a3), (5, iv x5_114), (6, iv x6_117), (7, iv x6_117)]) [2, 3, 4, 1, 0] rfl ?_
      refine g_loop1 (fun (q : Int) => [(0, rv D a0), (3, rv D a3), (5, iv x5_114), (6, iv x6_117), (7, iv q)]) (fun (q : Int) => h_117) (fun (q : Int) => r32 q) 164 (fun (y164 : Int) => [(0, rv D a0), (3, rv D a3), (5, iv x5_114), (6, iv x6_117), (7, iv y164)]) (fun (y164 : Int) => h_117) (fun (y164 : Int) => r32 y164) x6_117 r6_117 ?_ ?_
      · rintro x7_128 r7_128
        try dsimp only
        unfold m_X16_write_l128
        refine g_iload (pc := 128) X (i := 7) (q := 4) (x := x7_128) rfl (dl_at t_X16_write 66 rfl) ?_
        refine g_iconst (pc := 130) X (n := 1) (dl_at t_X16_write 67 rfl) ?_
        refine g_iadd (pc := 131) X r7_128 (r32_c rfl) (dl_at t_X16_write 68 rfl) ?_
        refine g_iload (pc := 132) X (i := 5) (q := 2) (x := x5_114) rfl (dl_at t_X16_write 69 rfl) ?_
        refine g_icmpge (pc := 134) X (r32_w _) r5_114 (off := 30) (tgt := 164) rfl (dl_at t_X16_write 70 rfl) (fun _ => ?_) (fun _ => ?_)
        · exact g_at fun Q hQ => hQ r7_128
        refine g_aload_n (pc := 137) X (j := 0) (i := 0) (q := 0) (x := a0) rfl rfl (dl_at t_X16_write 71 rfl) ?_
        have k138 := kx (E30.trans (E_114.trans E_117)) (by decide) hk
        refine r_getr (pc := 138) X fX16_8 k138 q1216 (dl_at t_X16_write 72 rfl) ?_
        refine g_iload (pc := 141) X (i := 7) (q := 4) (x := x7_128) rfl (dl_at t_X16_write 73 rfl) ?_
        refine g_iconst (pc := 143) X (n := 1) (dl_at t_X16_write 74 rfl) ?_
        refine g_iadd (pc := 144) X r7_128 (r32_c rfl) (dl_at t_X16_write 75 rfl) ?_
        refine g_gd fun k145 => ?_
        refine g_iald (pc := 145) X (r32_w _) k145 (dl_at t_X16_write 76 rfl) fun g145 => ?_
        refine g_aload_n (pc := 146) X (j := 0) (i := 0) (q := 0) (x := a0) rfl rfl (dl_at t_X16_write 77 rfl) ?_
        refine r_getr (pc := 147) X fX16_8 k138 q1216 (dl_at t_X16_write 78 rfl) ?_
        refine g_iload (pc := 150) X (i := 7) (q := 4) (x := x7_128) rfl (dl_at t_X16_write 79 rfl) ?_
        refine g_gd fun k152 => ?_
        refine g_iald (pc := 152) X r7_128 k152 (dl_at t_X16_write 80 rfl) fun g152 => ?_
        refine g_iconst (pc := 153) X (n := 1) (dl_at t_X16_write 81 rfl) ?_
        refine g_iadd (pc := 154) X g152 (r32_c rfl) (dl_at t_X16_write 82 rfl) ?_
        refine g_icmpne (pc := 155) X g145 (r32_w _) (off := 9) (tgt := 164) rfl (dl_at t_X16_write 83 rfl) (fun _ => ?_) (fun _ => ?_)
        · exact g_at fun Q hQ => hQ r7_128
        refine r_iincN (pc := 158) X (i := 7) (q := 4) (n := 1) (x := x7_128) (b := 6) (w := iv x6_117) (rest := [(0, rv D a0), (3, rv D a3), (5, iv x5_114)]) rfl r7_128 (r32_c rfl) (Nat.le_of_ble_eq_true rfl) [3, 0, 1, 2] rfl (by decide) rfl rfl (dl_at t_X16_write 84 rfl) fun x7_158 r7_158 => ?_
        refine g_goto (pc := 161) X (off := (-33)) (tgt := 128) rfl (dl_at t_X16_write 85 rfl) ?_
        refine g_ls (ls2 := [(0, rv D a0), (3, rv D a3), (5, iv x5_114), (6, iv x6_117), (7, iv x7_158)]) [2, 3, 4, 1, 0] rfl ?_
        exact g_at fun Q hQ => hQ r7_158
      · rintro x7_164 r7_164
        try dsimp only [sE]
        refine g_iload (pc := 164) X (i := 7) (q := 4) (x := x7_164) rfl (dl_at t_X16_write 86 rfl) ?_
        refine g_iload (pc := 166) X (i := 6) (q := 3) (x := x6_117) rfl (dl_at t_X16_write 87 rfl) ?_
        refine g_isub (pc := 168) X r7_164 r6_117 (dl_at t_X16_write 88 rfl) ?_
        refine g_iconst (pc := 169) X (n := 2) (dl_at t_X16_write 89 rfl) ?_
        refine g_join (γ := Int) (fun q => r32 q) 177 (fun q => [(0, rv D a0), (3, rv D a3), (5, iv x5_114), (6, iv x6_117), (7, iv q)]) (fun q => []) (fun q => h_117) (fun q => m_X16_write_j177 a0 a3 x6_117 q h_117) ?_ ?_
        · rintro x7_177 r7_177
          try dsimp only
          unfold m_X16_write_j177
          refine g_aload_n (pc := 177) X (j := 3) (i := 3) (q := 1) (x := a3) rfl rfl (dl_at t_X16_write 93 rfl) ?_
          refine g_bipush (pc := 178) X (n := 44) rfl (dl_at t_X16_write 94 rfl) ?_
          have k180 := kx (E30.trans (E_114.trans E_117)) (by decide) k30
          refine r_callTv (pc := 180) X (fun _ hv => s_X5_add k180 (r32_c rfl) hv) cw_code q2038 q359 (in_Vk X (As := [iv 44]) kX5 k180 (Or.inr ⟨_, nw_in q2756 rfl⟩) q2037 qs44 cw_code q2038 ⟨by decide, by decide⟩ rfl (dl_at t_X16_write 95 rfl)) (dl_at t_X16_write 95 rfl) (cat24 (st := []) (Nat.le_of_ble_eq_true rfl)) (Nat.le_of_ble_eq_true rfl) (Nat.le_of_ble_eq_true rfl) (fun v180 h180 E180 => ?_) (fun _ _ ha _ => gt_at fun Q hQ => gt_out (Q := Q) X rfl ha (hno _) _ Q rfl hQ)
          refine g_aload_n (pc := 183) X (j := 3) (i := 3) (q := 1) (x := a3) rfl rfl (dl_at t_X16_write 96 rfl) ?_
          refine g_bipush (pc := 184) X (n := 32) rfl (dl_at t_X16_write 97 rfl) ?_
          have k186 := kx E180 (by decide) k180
          refine r_callTv (pc := 186) X (fun _ hv => s_X5_add k186 (r32_c rfl) hv) cw_code q2038 q359 (in_Vk X (As := [iv 32]) kX5 k186 (Or.inr ⟨_, nw_in q2756 rfl⟩) q2037 qs44 cw_code q2038 ⟨by decide, by decide⟩ rfl (dl_at t_X16_write 98 rfl)) (dl_at t_X16_write 98 rfl) (cat24 (st := []) (Nat.le_of_ble_eq_true rfl)) (Nat.le_of_ble_eq_true rfl) (Nat.le_of_ble_eq_true rfl) (fun v186 h186 E186 => ?_) (fun _ _ ha _ => gt_at fun Q hQ => gt_out (Q := Q) X rfl ha (hno _) _ Q rfl hQ)
          refine g_aload_n (pc := 189) X (j := 3) (i := 3) (q := 1) (x := a3) rfl rfl (dl_at t_X16_write 99 rfl) ?_
          refine g_aload_n (pc := 190) X (j := 0) (i := 0) (q := 0) (x := a0) rfl rfl (dl_at t_X16_write 100 rfl) ?_
          have k191 := kx (E30.trans (E_114.trans (E_117.trans (E180.trans E186)))) (by decide) hk
          refine r_getr (pc := 191) X fX16_8 k191 q1216 (dl_at t_X16_write 101 rfl) ?_
          refine g_iload (pc := 194) X (i := 6) (q := 3) (x := x6_117) rfl (dl_at t_X16_write 102 rfl) ?_
          refine g_gd fun k196 => ?_
          refine g_iald (pc := 196) X r6_117 k196 (dl_at t_X16_write 103 rfl) fun g196 => ?_
          refine g_i2l (pc := 197) X g196 (dl_at t_X16_write 104 rfl) ?_
          have k198 := kx E186 (by decide) k186
          refine r_callTv (pc := 198) X (fun _ hv => s_X5_number (d := 24) k198 (r64_of g196) hv) cw_code q2441 q359 (in_Vk X (As := [jv (h186 (h186 a0 8) x6_117)]) kX5 k198 (Or.inr ⟨_, nw_in q2757 rfl⟩) q2440 qs105 cw_code q2441 ⟨by decide, by decide⟩ rfl (dl_at t_X16_write 105 rfl)) (dl_at t_X16_write 105 rfl) (cat24 (st := []) (Nat.le_of_ble_eq_true rfl)) (Nat.le_of_ble_eq_true rfl) (Nat.le_of_ble_eq_true rfl) (fun v198 h198 E198 => ?_) (fun _ _ ha _ => gt_at fun Q hQ => gt_out (Q := Q) X rfl ha (hno _) _ Q rfl hQ)
          refine g_iload (pc := 201) X (i := 7) (q := 4) (x := x7_177) rfl (dl_at t_X16_write 106 rfl) ?_
          refine g_iload (pc := 203) X (i := 6) (q := 3) (x := x6_117) rfl (dl_at t_X16_write 107 rfl) ?_
          refine g_join (γ := Hp) (fun q => Ext h198 q) 226 (fun q => [(0, rv D a0), (3, rv D a3), (5, iv x5_114), (7, iv x7_177)]) (fun q => []) (fun q => q) (fun q => m_X16_write_j226 x7_177 q) ?_ ?_
          · rintro h_226 E_226
            try dsimp only
            unfold m_X16_write_j226
            refine g_iload (pc := 226) X (i := 7) (q := 3) (x := x7_177) rfl (dl_at t_X16_write 119 rfl) ?_
            refine g_iconst (pc := 228) X (n := 1) (dl_at t_X16_write 120 rfl) ?_
            refine g_iadd (pc := 229) X r7_177 (r32_c rfl) (dl_at t_X16_write 121 rfl) ?_
            refine g_lti (r32_w _) fun x6_230 r6_230 => ?_
            refine g_istoreN (pc := 230) X (i := 6) (x := x6_230) (b := 5) (w := iv x5_114) (rest := [(0, rv D a0), (3, rv D a3)]) (Nat.le_of_ble_eq_true rfl) [2, 0, 1] rfl (by decide) rfl rfl (dl_at t_X16_write 122 rfl) ?_
            refine g_goto (pc := 232) X (off := (-115)) (tgt := 117) rfl (dl_at t_X16_write 123 rfl) ?_
            refine g_ls (ls2 := [(0, rv D a0), (3, rv D a3), (5, iv x5_114), (6, iv x6_230)]) [2, 3, 1, 0] rfl ?_
            exact g_at fun Q hQ => hQ ⟨r6_230, (E_117.trans (E180.trans (E186.trans (E198.trans E_226))))⟩
          intro J226
          refine g_icmple (pc := 205) X r7_177 r6_117 (off := 21) (tgt := 226) rfl (dl_at t_X16_write 108 rfl) (fun _ => ?_) (fun _ => ?_)
          · refine g_ls (ls2 := [(0, rv D a0), (3, rv D a3), (5, iv x5_114), (7, iv x7_177)]) [0, 1, 2, 4] rfl ?_
            exact J226 h198 (Ext.refl _)
          refine g_aload_n (pc := 208) X (j := 3) (i := 3) (q := 1) (x := a3) rfl rfl (dl_at t_X16_write 109 rfl) ?_
          refine g_bipush (pc := 209) X (n := 45) rfl (dl_at t_X16_write 110 rfl) ?_
          have k211 := kx E198 (by decide) k198
          refine r_callTv (pc := 211) X (fun _ hv => s_X5_add k211 (r32_c rfl) hv) cw_code q2038 q359 (in_Vk X (As := [iv 45]) kX5 k211 (Or.inr ⟨_, nw_in q2756 rfl⟩) q2037 qs44 cw_code q2038 ⟨by decide, by decide⟩ rfl (dl_at t_X16_write 111 rfl)) (dl_at t_X16_write 111 rfl) (cat24 (st := []) (Nat.le_of_ble_eq_true rfl)) (Nat.le_of_ble_eq_true rfl) (Nat.le_of_ble_eq_true rfl) (fun v211 h211 E211 => ?_) (fun _ _ ha _ => gt_at fun Q hQ => gt_out (Q := Q) X rfl ha (hno _) _ Q rfl hQ)
          refine g_aload_n (pc := 214) X (j := 3) (i := 3) (q := 1) (x := a3) rfl rfl (dl_at t_X16_write 112 rfl) ?_
          refine g_aload_n (pc := 215) X (j := 0) (i := 0) (q := 0) (x := a0) rfl rfl (dl_at t_X16_write 113 rfl) ?_
          have k216 := kx (E198.trans E211) (by decide) k191
          refine r_getr (pc := 216) X fX16_8 k216 q1216 (dl_at t_X16_write 114 rfl) ?_
          refine g_iload (pc := 219) X (i := 7) (q := 4) (x := x7_177) rfl (dl_at t_X16_write 115 rfl) ?_
          refine g_gd fun k221 => ?_
          refine g_iald (pc := 221) X r7_177 k221 (dl_at t_X16_write 116 rfl) fun g221 => ?_
          refine g_i2l (pc := 222) X g221 (dl_at t_X16_write 117 rfl) ?_
          have k223 := kx E211 (by decide) k211
          refine r_callTv (pc := 223) X (fun _ hv => s_X5_number (d := 24) k223 (r64_of g221) hv) cw_code q2441 q359 (in_Vk X (As := [jv (h211 (h211 a0 8) x7_177)]) kX5 k223 (Or.inr ⟨_, nw_in q2757 rfl⟩) q2440 qs105 cw_code q2441 ⟨by decide, by decide⟩ rfl (dl_at t_X16_write 118 rfl)) (dl_at t_X16_write 118 rfl) (cat24 (st := []) (Nat.le_of_ble_eq_true rfl)) (Nat.le_of_ble_eq_true rfl) (Nat.le_of_ble_eq_true rfl) (fun v223 h223 E223 => ?_) (fun _ _ ha _ => gt_at fun Q hQ => gt_out (Q := Q) X rfl ha (hno _) _ Q rfl hQ)
          refine g_ls (ls2 := [(0, rv D a0), (3, rv D a3), (5, iv x5_114), (7, iv x7_177)]) [0, 1, 2, 4] rfl ?_
          exact J226 h223 (E211.trans E223)
        intro J177
        refine g_icmpge (pc := 170) X (r32_w _) (r32_c rfl) (off := 7) (tgt := 177) rfl (dl_at t_X16_write 90 rfl) (fun _ => ?_) (fun _ => ?_)
        · exact J177 x7_164 r7_164
        refine g_iload (pc := 173) X (i := 6) (q := 3) (x := x6_117) rfl (dl_at t_X16_write 91 rfl) ?_
        refine g_istoreN (pc := 175) X (i := 7) (x := x6_117) (b := 6) (w := iv x6_117) (rest := [(0, rv D a0), (3, rv D a3), (5, iv x5_114)]) (Nat.le_of_ble_eq_true rfl) [3, 0, 1, 2] rfl (by decide) rfl rfl (dl_at t_X16_write 92 rfl) ?_
        refine g_ls (ls2 := [(0, rv D a0), (3, rv D a3), (5, iv x5_114), (6, iv x6_117), (7, iv x6_117)]) [2, 3, 4, 1, 0] rfl ?_
        exact J177 x6_117 r6_117
def k_X14_index : List (Nat × Instr × Nat) := [(0, .aload_n 0, 1), (1, .invokevirtual 383, 3), (4, .istore_n 1, 1), (5, .iconst 0, 1), (6, .istore_n 2, 1), (7, .iload_n 2, 1), (8, .aload_n 0, 1), (9, .getfield 107, 3), (12, .getfield 625, 3), (15, .if_icmp .ge 55, 3), (18, .aload_n 0, 1), (19, .invokevirtual 519, 3), (22, .astore_n 3, 1), (23, .aload_n 0, 1), (24, .getfield 107, 3), (27, .iload_n 2, 1), (28, .aload_n 0, 1), (29, .getfield 95, 3), (32, .aload_n 3, 1), (33, .invokevirtual 626, 3), (36, .aload_n 0, 1), (37, .aload_n 0, 1), (38, .getfield 154, 3), (41, .getfield 375, 3), (44, .aload_n 3, 1), (45, .aload_n 0, 1), (46, .iload_n 1, 1), (47, .iconst 1, 1), (48, .invokevirtual 283, 3), (51, .iconst 1, 1), (52, .invokevirtual 458, 3), (55, .aload_n 0, 1), (56, .aload_n 0, 1), (57, .iconst 4, 1), (58, .invokevirtual 289, 3), (61, .invokevirtual 379, 3), (64, .iinc 2 1, 3), (67, .goto (-60), 3), (70, .aload_n 0, 1), (71, .iload_n 1, 1), (72, .iload_n 1, 1), (73, .iconst 3, 1), (74, .invokevirtual 595, 3), (77, .return_, 1)]
theorem t_X14_index : ∀ q ∈ k_X14_index, decode cX14_index q.1 = .ok q.2 := dl_all (by decide +kernel)
noncomputable def m_X14_index_l7 (a0 v1 x2_7 : Int) (h_7 : Hp) : Option ((Int × Hp) ⊕ (((Int × Int) × Hp))) :=
  gd (h_7 (h_7 a0 43) (-2) = 256) (if (h_7 (h_7 a0 43) 9) ≤ x2_7 then ((m_X14_takes a0 v1 v1 3 h_7).bind fun h74 =>
  some (.inr ((0, 0), h74)))
  else (bW (m_X14_small a0 h_7) fun v19 h19 =>
  gd (h19 (h19 a0 43) (-2) = 256) (bT (m_X16_write (h19 a0 43) x2_7 (h19 a0 40) v19 h19) (fun _ h33 =>
  gd (h33 (h33 a0 0) (-2) = 160) ((m_X14_property a0 v1 1 h33).bind fun v48 =>
  bT (m_X14_putAll a0 (h33 (h33 a0 0) 1) v19 v48 1 h33) (fun _ h52 =>
  (m_X14_inset a0 4 h52).bind fun v58 =>
  bT (m_X14_flushAs a0 v58 h52) (fun _ h61 =>
  lt_ (w32 (x2_7 + 1)) fun x2_64 =>
  some (.inl (x2_64, h61))) (fun a_ h_ => some (.inr ((1, a_), h_)))) (fun a_ h_ => some (.inr ((1, a_), h_))))) (fun a_ h_ => some (.inr ((1, a_), h_))))))
noncomputable def m_X14_index (a0 : Int) (h : Hp) : Option ((Int × Int) × Hp) :=
  (m_X14_block a0 h).bind fun v1 =>
  lt_ 0 fun x2_6 =>
  (lp (fun (q : Int × Hp) => m_X14_index_l7 a0 v1 q.1 q.2) (x2_6, h)).bind (fun (x : (Int × Int) × Hp) => some x)
theorem s_X14_index {l : Launch} [NoTr l] {D : SD} {a0 : Int} {h : Hp} (hk : h a0 (-2) = 224) {r : (Int × Int) × Hp} (hm : m_X14_index a0 h = some r) : Sim l D yX14_index (Cond.code yX14_index cX14_index 4 (Option.none : Option Jvm.ClassFile.FieldType)) 37 1402 [rv D a0] h 0 r := by
  refine Sim.of (fin := fun (v : (Int × Int) × Hp) => v) (lsE := [(0, rv D a0)]) hm rfl cwS_code (la_r la_n) (ll_r ll_n) ?_
  intro p e s m below meth c X hcw hmm hcc hnm hname
  have hno := noh hcw hnm hmm hcc
  unfold m_X14_index
  refine g_aload_n (pc := 0) X (j := 0) (i := 0) (q := 0) (x := a0) rfl rfl (dl_at t_X14_index 0 rfl) ?_
  refine r_callRi (pc := 1) X (fun _ hv => s_X14_block hk hv) cw_code q2513 q368 (in_Vk X (As := []) kX14 hk (Or.inl q2510) q2512 qs121 cw_code q2513 ⟨by decide, by decide⟩ rfl (dl_at t_X14_index 1 rfl)) (dl_at t_X14_index 1 rfl) (cat24 (st := []) (Nat.le_of_ble_eq_true rfl)) (Nat.le_of_ble_eq_true rfl) (Nat.le_of_ble_eq_true rfl) fun v1 g1 => ?_
  refine g_istore_nN (pc := 4) X (j := 1) (i := 1) (x := v1) (b := 0) (w := rv D a0) (rest := []) rfl (Nat.le_of_ble_eq_true rfl) [0] rfl (by decide) rv_cat rfl (dl_at t_X14_index 2 rfl) ?_
  refine g_iconst (pc := 5) X (n := 0) (dl_at t_X14_index 3 rfl) ?_
  refine g_ltz (Or.inl rfl) fun x2_6 r2_6 => ?_
  refine g_istore_nN (pc := 6) X (j := 2) (i := 2) (x := x2_6) (b := 1) (w := iv v1) (rest := [(0, rv D a0)]) rfl (Nat.le_of_ble_eq_true rfl) [0, 1] rfl (by decide) rfl rfl (dl_at t_X14_index 4 rfl) ?_
  refine g_ls (ls2 := [(0, rv D a0), (1, iv v1), (2, iv x2_6)]) [2, 1, 0] rfl ?_
  refine g_loop0F (fun (q : Int × Hp) => [(0, rv D a0), (1, iv v1), (2, iv q.1)]) (fun (q : Int × Hp) => q.2) (fun (q : Int × Hp) => r32 q.1 ∧ Ext h q.2) (x2_6, h) ⟨(r32_z r2_6), (Ext.refl _)⟩ ?_ (fun _ => rfl)
  · rintro ⟨x2_7, h_7⟩ ⟨r2_7, E_7⟩
    try dsimp only
    unfold m_X14_index_l7
    refine g_iload_n (pc := 7) X (j := 2) (i := 2) (q := 2) (x := x2_7) rfl rfl (dl_at t_X14_index 5 rfl) ?_
    refine g_aload_n (pc := 8) X (j := 0) (i := 0) (q := 0) (x := a0) rfl rfl (dl_at t_X14_index 6 rfl) ?_
    have k9 := kx E_7 (by decide) hk
    refine r_getr (pc := 9) X fX14_43 k9 q1304 (dl_at t_X14_index 7 rfl) ?_
    refine g_gd fun k12 => ?_
    refine r_getiN (pc := 12) X fX16_9 k12 (nw_in q1219 rfl) (dl_at t_X14_index 8 rfl) fun g12 => ?_
    refine g_icmpge (pc := 15) X r2_7 g12 (off := 55) (tgt := 70) rfl (dl_at t_X14_index 9 rfl) (fun _ => ?_) (fun _ => ?_)
    · refine g_aload_n (pc := 70) X (j := 0) (i := 0) (q := 0) (x := a0) rfl rfl (dl_at t_X14_index 38 rfl) ?_
      refine g_iload_n (pc := 71) X (j := 1) (i := 1) (q := 1) (x := v1) rfl rfl (dl_at t_X14_index 39 rfl) ?_
      refine g_iload_n (pc := 72) X (j := 1) (i := 1) (q := 1) (x := v1) rfl rfl (dl_at t_X14_index 40 rfl) ?_
      refine g_iconst (pc := 73) X (n := 3) (dl_at t_X14_index 41 rfl) ?_
      refine r_callV (pc := 74) X (fun _ hv => s_X14_takes k9 g1 g1 (r32_c rfl) hv) cw_code q2732 q368 (in_Vk X (As := [iv v1, iv v1, iv 3]) kX14 k9 (Or.inl q2729) q2731 qs148 cw_code q2732 ⟨by decide, by decide⟩ rfl (dl_at t_X14_index 42 rfl)) (dl_at t_X14_index 42 rfl) (cat24 (st := []) (Nat.le_of_ble_eq_true rfl)) (Nat.le_of_ble_eq_true rfl) (Nat.le_of_ble_eq_true rfl) fun h74 E74 => ?_
      exact g_at fun Q hQ => (g_vret (pc := 77) X (v := 0) rfl rfl (dl_at t_X14_index 43 rfl)) _ Q rfl hQ
    refine g_aload_n (pc := 18) X (j := 0) (i := 0) (q := 0) (x := a0) rfl rfl (dl_at t_X14_index 10 rfl) ?_
    refine r_callWr (pc := 19) X (fun _ hv => s_X14_small k9 hv) cw_code q2684 q368 (in_Vk X (As := []) kX14 k9 (Or.inl q2681) q2683 qs139 cw_code q2684 ⟨by decide, by decide⟩ rfl (dl_at t_X14_index 11 rfl)) (dl_at t_X14_index 11 rfl) (cat24 (st := []) (Nat.le_of_ble_eq_true rfl)) (Nat.le_of_ble_eq_true rfl) (Nat.le_of_ble_eq_true rfl) fun v19 h19 E19 => ?_
    refine g_astore_nN (pc := 22) X (j := 3) (i := 3) (x := v19) (b := 2) (w := iv x2_7) (rest := [(0, rv D a0), (1, iv v1)]) rfl (Nat.le_of_ble_eq_true rfl) [2, 0, 1] rfl (by decide) rfl rfl (dl_at t_X14_index 12 rfl) ?_
    refine g_aload_n (pc := 23) X (j := 0) (i := 0) (q := 2) (x := a0) rfl rfl (dl_at t_X14_index 13 rfl) ?_
    have k24 := kx E19 (by decide) k9
    refine r_getr (pc := 24) X fX14_43 k24 q1304 (dl_at t_X14_index 14 rfl) ?_
    refine g_iload_n (pc := 27) X (j := 2) (i := 2) (q := 1) (x := x2_7) rfl rfl (dl_at t_X14_index 15 rfl) ?_
    refine g_aload_n (pc := 28) X (j := 0) (i := 0) (q := 2) (x := a0) rfl rfl (dl_at t_X14_index 16 rfl) ?_
    refine r_getr (pc := 29) X fX14_40 k24 q1301 (dl_at t_X14_index 17 rfl) ?_
    refine g_aload_n (pc := 32) X (j := 3) (i := 3) (q := 0) (x := v19) rfl rfl (dl_at t_X14_index 18 rfl) ?_
    refine g_gd fun k33 => ?_
    refine r_callTv (pc := 33) X (fun _ hv => s_X16_write k33 r2_7 hv) cw_code q2755 q370 (in_Vk X (As := [iv x2_7, rv D (h19 a0 40), rv D v19]) kX16 k33 (Or.inr ⟨_, nw_in q2752 rfl⟩) q2754 qs153 cw_code q2755 ⟨by decide, by decide⟩ rfl (dl_at t_X14_index 19 rfl)) (dl_at t_X14_index 19 rfl) (cat24 (st := []) (Nat.le_of_ble_eq_true rfl)) (Nat.le_of_ble_eq_true rfl) (Nat.le_of_ble_eq_true rfl) (fun v33 h33 E33 => ?_) (fun _ _ ha _ => gt_at fun Q hQ => gt_out (Q := Q) X rfl ha (hno _) _ Q rfl hQ)
    refine g_aload_n (pc := 36) X (j := 0) (i := 0) (q := 2) (x := a0) rfl rfl (dl_at t_X14_index 20 rfl) ?_
    refine g_aload_n (pc := 37) X (j := 0) (i := 0) (q := 2) (x := a0) rfl rfl (dl_at t_X14_index 21 rfl) ?_
    have k38 := kx E33 (by decide) k24
    refine r_getr (pc := 38) X fX14_0 k38 q1241 (dl_at t_X14_index 22 rfl) ?_
    refine g_gd fun k41 => ?_
    refine r_getrN (pc := 41) X fX10_1 k41 (nw_in q1039 rfl) (dl_at t_X14_index 23 rfl) ?_
    refine g_aload_n (pc := 44) X (j := 3) (i := 3) (q := 0) (x := v19) rfl rfl (dl_at t_X14_index 24 rfl) ?_
    refine g_aload_n (pc := 45) X (j := 0) (i := 0) (q := 2) (x := a0) rfl rfl (dl_at t_X14_index 25 rfl) ?_
    refine g_iload_n (pc := 46) X (j := 1) (i := 1) (q := 3) (x := v1) rfl rfl (dl_at t_X14_index 26 rfl) ?_
    refine g_iconst (pc := 47) X (n := 1) (dl_at t_X14_index 27 rfl) ?_
    refine r_callRi (pc := 48) X (fun _ hv => s_X14_property k38 g1 (r32_c rfl) hv) cw_code q2504 q368 (in_Vk X (As := [iv v1, iv 1]) kX14 k38 (Or.inl q2501) q2503 qs119 cw_code q2504 ⟨by decide, by decide⟩ rfl (dl_at t_X14_index 28 rfl)) (dl_at t_X14_index 28 rfl) (cat24 (st := [rv D v19, rv D (h33 (h33 a0 0) 1), rv D a0]) (Nat.le_of_ble_eq_true rfl)) (Nat.le_of_ble_eq_true rfl) (Nat.le_of_ble_eq_true rfl) fun v48 g48 => ?_
    refine g_iconst (pc := 51) X (n := 1) (dl_at t_X14_index 29 rfl) ?_
    refine r_callTv (pc := 52) X (fun _ hv => s_X14_putAll k38 g48 (Or.inr rfl) hv) cw_code q2693 q368 (in_Vk X (As := [rv D (h33 (h33 a0 0) 1), rv D v19, iv v48, iv 1]) kX14 k38 (Or.inl q2690) q2692 qs141 cw_code q2693 ⟨by decide, by decide⟩ rfl (dl_at t_X14_index 30 rfl)) (dl_at t_X14_index 30 rfl) (cat24 (st := []) (Nat.le_of_ble_eq_true rfl)) (Nat.le_of_ble_eq_true rfl) (Nat.le_of_ble_eq_true rfl) (fun v52 h52 E52 => ?_) (fun _ _ ha _ => gt_at fun Q hQ => gt_out (Q := Q) X rfl ha (hno _) _ Q rfl hQ)
    refine g_aload_n (pc := 55) X (j := 0) (i := 0) (q := 2) (x := a0) rfl rfl (dl_at t_X14_index 31 rfl) ?_
    refine g_aload_n (pc := 56) X (j := 0) (i := 0) (q := 2) (x := a0) rfl rfl (dl_at t_X14_index 32 rfl) ?_
    refine g_iconst (pc := 57) X (n := 4) (dl_at t_X14_index 33 rfl) ?_
    have k58 := kx E52 (by decide) k38
    refine r_callRi (pc := 58) X (fun _ hv => s_X14_inset k58 (r32_c rfl) hv) cw_code q2500 q368 (in_Vk X (As := [iv 4]) kX14 k58 (Or.inl q2497) q2499 qs118 cw_code q2500 ⟨by decide, by decide⟩ rfl (dl_at t_X14_index 34 rfl)) (dl_at t_X14_index 34 rfl) (cat24 (st := [rv D a0]) (Nat.le_of_ble_eq_true rfl)) (Nat.le_of_ble_eq_true rfl) (Nat.le_of_ble_eq_true rfl) fun v58 g58 => ?_
    refine r_callTv (pc := 61) X (fun _ hv => s_X14_flushAs k58 g58 hv) cw_code q2509 q368 (in_Vk X (As := [iv v58]) kX14 k58 (Or.inl q2506) q2508 qs120 cw_code q2509 ⟨by decide, by decide⟩ rfl (dl_at t_X14_index 35 rfl)) (dl_at t_X14_index 35 rfl) (cat24 (st := []) (Nat.le_of_ble_eq_true rfl)) (Nat.le_of_ble_eq_true rfl) (Nat.le_of_ble_eq_true rfl) (fun v61 h61 E61 => ?_) (fun _ _ ha _ => gt_at fun Q hQ => gt_out (Q := Q) X rfl ha (hno _) _ Q rfl hQ)
    refine r_iincN (pc := 64) X (i := 2) (q := 1) (n := 1) (x := x2_7) (b := 1) (w := iv v1) (rest := [(0, rv D a0)]) rfl r2_7 (r32_c rfl) (Nat.le_of_ble_eq_true rfl) [3, 2] rfl (by decide) rfl rfl (dl_at t_X14_index 36 rfl) fun x2_64 r2_64 => ?_
    refine g_goto (pc := 67) X (off := (-60)) (tgt := 7) rfl (dl_at t_X14_index 37 rfl) ?_
    refine g_ls (ls2 := [(0, rv D a0), (1, iv v1), (2, iv x2_64)]) [2, 1, 0] rfl ?_
    exact g_at fun Q hQ => hQ ⟨r2_64, (E_7.trans (E19.trans (E33.trans (E52.trans E61))))⟩
def k_X6_isField_2 : List (Nat × Instr × Nat) := [(0, .aload_n 0, 1), (1, .getfield 62, 3), (4, .iload_n 1, 1), (5, .iaload, 1), (6, .aload_n 2, 1), (7, .invokevirtual 159, 3), (10, .if_icmp .eq 5, 3), (13, .iconst 0, 1), (14, .ireturn, 1), (15, .iconst 0, 1), (16, .istore_n 3, 1), (17, .iload_n 3, 1), (18, .aload_n 2, 1), (19, .invokevirtual 159, 3), (22, .if_icmp .ge 32, 3), (25, .aload_n 0, 1), (26, .getfield 9, 3), (29, .aload_n 0, 1), (30, .getfield 59, 3), (33, .iload_n 1, 1), (34, .iaload, 1), (35, .iload_n 3, 1), (36, .iadd, 1), (37, .baload, 1), (38, .aload_n 2, 1), (39, .iload_n 3, 1), (40, .invokevirtual 163, 3), (43, .if_icmp .eq 5, 3), (46, .iconst 0, 1), (47, .ireturn, 1), (48, .iinc 3 1, 3), (51, .goto (-34), 3), (54, .iconst 1, 1), (55, .ireturn, 1)]
theorem t_X6_isField_2 : ∀ q ∈ k_X6_isField_2, decode cX6_isField_2 q.1 = .ok q.2 := dl_all (by decide +kernel)
noncomputable def m_X6_isField_2_l17 (a0 a1 a2 x3_17 : Int) (h : Hp) : Option ((Int) ⊕ ((Int))) :=
  (x_slen a2).bind fun v19 =>
  if v19 ≤ x3_17 then (some (.inr 1))
  else (gd (h (h a0 16) (-2) % 16 = 1 ∧ (0 : Int) ≤ a1 ∧ a1 < h (h a0 16) (-1)) (gd (h (h a0 0) (-2) % 16 = 2 ∧ (0 : Int) ≤ (w32 ((h (h a0 16) a1) + x3_17)) ∧ (w32 ((h (h a0 16) a1) + x3_17)) < h (h a0 0) (-1)) ((x_sat a2 x3_17).bind fun v40 =>
  if (h (h a0 0) (w32 ((h (h a0 16) a1) + x3_17))) = v40 then (lt_ (w32 (x3_17 + 1)) fun x3_48 =>
  some (.inl x3_48))
  else (some (.inr 0)))))
noncomputable def m_X6_isField_2 (a0 a1 a2 : Int) (h : Hp) : Option (Int) :=
  gd (h (h a0 17) (-2) % 16 = 1 ∧ (0 : Int) ≤ a1 ∧ a1 < h (h a0 17) (-1)) ((x_slen a2).bind fun v7 =>
  if (h (h a0 17) a1) = v7 then (lt_ 0 fun x3_16 =>
  (lp (fun (q : Int) => m_X6_isField_2_l17 a0 a1 a2 q h) x3_16).bind (fun (x : Int) => some x))
  else (some 0))
theorem s_X6_isField_2 {l : Launch} [NoTr l] {D : SD} {a0 a1 a2 : Int} {h : Hp} (hk : h a0 (-2) = 96) (r1 : r32 a1) {r : Int} (hm : m_X6_isField_2 a0 a1 a2 h = some r) : Sim l D yX6_isField_2 (Cond.code yX6_isField_2 cX6_isField_2 4 (Option.some Jvm.ClassFile.FieldType.boolean)) 4 200 [rv D a0, iv a1, rv D a2] h 3 ((0, r), h) := by
  refine Sim.of (fin := fun (v : Int) => ((0, v), h)) (lsE := [(0, rv D a0), (1, iv a1), (2, rv D a2)]) hm rfl cwS_code (la_r (la_i (la_r la_n))) (ll_r (ll_i (ll_r ll_n))) ?_
  intro p e s m below meth c X hcw hmm hcc hnm hname
  unfold m_X6_isField_2
  refine g_aload_n (pc := 0) X (j := 0) (i := 0) (q := 0) (x := a0) rfl rfl (dl_at t_X6_isField_2 0 rfl) ?_
  refine r_getr (pc := 1) X fX6_17 hk q682 (dl_at t_X6_isField_2 1 rfl) ?_
  refine g_iload_n (pc := 4) X (j := 1) (i := 1) (q := 1) (x := a1) rfl rfl (dl_at t_X6_isField_2 2 rfl) ?_
  refine g_gd fun k5 => ?_
  refine g_iald (pc := 5) X r1 k5 (dl_at t_X6_isField_2 3 rfl) fun g5 => ?_
  refine g_aload_n (pc := 6) X (j := 2) (i := 2) (q := 2) (x := a2) rfl rfl (dl_at t_X6_isField_2 4 rfl) ?_
  refine r_slen (pc := 7) X q2180 (cat24 (st := [iv (h (h a0 17) a1)]) (Nat.le_of_ble_eq_true rfl)) (Nat.le_of_ble_eq_true rfl) (Nat.le_of_ble_eq_true rfl) (dl_at t_X6_isField_2 5 rfl) fun v7 g7 => ?_
  refine g_icmpeq (pc := 10) X g5 g7 (off := 5) (tgt := 15) rfl (dl_at t_X6_isField_2 6 rfl) (fun _ => ?_) (fun _ => ?_)
  · refine g_iconst (pc := 15) X (n := 0) (dl_at t_X6_isField_2 9 rfl) ?_
    refine g_ltz (Or.inl rfl) fun x3_16 r3_16 => ?_
    refine g_istore_nN (pc := 16) X (j := 3) (i := 3) (x := x3_16) (b := 2) (w := rv D a2) (rest := [(0, rv D a0), (1, iv a1)]) rfl (Nat.le_of_ble_eq_true rfl) [2, 0, 1] rfl (by decide) rv_cat rfl (dl_at t_X6_isField_2 10 rfl) ?_
    refine g_ls (ls2 := [(0, rv D a0), (1, iv a1), (2, rv D a2), (3, iv x3_16)]) [2, 3, 1, 0] rfl ?_
    refine g_loop0F (fun (q : Int) => [(0, rv D a0), (1, iv a1), (2, rv D a2), (3, iv q)]) (fun (q : Int) => h) (fun (q : Int) => r32 q) x3_16 (r32_z r3_16) ?_ (fun _ => rfl)
    · rintro x3_17 r3_17
      try dsimp only
      unfold m_X6_isField_2_l17
      refine g_iload_n (pc := 17) X (j := 3) (i := 3) (q := 3) (x := x3_17) rfl rfl (dl_at t_X6_isField_2 11 rfl) ?_
      refine g_aload_n (pc := 18) X (j := 2) (i := 2) (q := 2) (x := a2) rfl rfl (dl_at t_X6_isField_2 12 rfl) ?_
      refine r_slen (pc := 19) X q2180 (cat24 (st := [iv x3_17]) (Nat.le_of_ble_eq_true rfl)) (Nat.le_of_ble_eq_true rfl) (Nat.le_of_ble_eq_true rfl) (dl_at t_X6_isField_2 13 rfl) fun v19 g19 => ?_
      refine g_icmpge (pc := 22) X r3_17 g19 (off := 32) (tgt := 54) rfl (dl_at t_X6_isField_2 14 rfl) (fun _ => ?_) (fun _ => ?_)
      · refine g_iconst (pc := 54) X (n := 1) (dl_at t_X6_isField_2 32 rfl) ?_
        exact g_at fun Q hQ => (g_zret (pc := 55) X (Or.inr rfl) rfl rfl (dl_at t_X6_isField_2 33 rfl)) _ Q rfl hQ
      refine g_aload_n (pc := 25) X (j := 0) (i := 0) (q := 0) (x := a0) rfl rfl (dl_at t_X6_isField_2 15 rfl) ?_
      refine r_getr (pc := 26) X fX6_0 hk q645 (dl_at t_X6_isField_2 16 rfl) ?_
      refine g_aload_n (pc := 29) X (j := 0) (i := 0) (q := 0) (x := a0) rfl rfl (dl_at t_X6_isField_2 17 rfl) ?_
      refine r_getr (pc := 30) X fX6_16 hk q679 (dl_at t_X6_isField_2 18 rfl) ?_
      refine g_iload_n (pc := 33) X (j := 1) (i := 1) (q := 1) (x := a1) rfl rfl (dl_at t_X6_isField_2 19 rfl) ?_
      refine g_gd fun k34 => ?_
      refine g_iald (pc := 34) X r1 k34 (dl_at t_X6_isField_2 20 rfl) fun g34 => ?_
      refine g_iload_n (pc := 35) X (j := 3) (i := 3) (q := 3) (x := x3_17) rfl rfl (dl_at t_X6_isField_2 21 rfl) ?_
      refine g_iadd (pc := 36) X g34 r3_17 (dl_at t_X6_isField_2 22 rfl) ?_
      refine g_gd fun k37 => ?_
      refine g_bald (pc := 37) X (r32_w _) k37 (dl_at t_X6_isField_2 23 rfl) fun g37 => ?_
      refine g_aload_n (pc := 38) X (j := 2) (i := 2) (q := 2) (x := a2) rfl rfl (dl_at t_X6_isField_2 24 rfl) ?_
      refine g_iload_n (pc := 39) X (j := 3) (i := 3) (q := 3) (x := x3_17) rfl rfl (dl_at t_X6_isField_2 25 rfl) ?_
      refine r_sat (pc := 40) X r3_17 q2181 (cat24 (st := [iv (h (h a0 0) (w32 ((h (h a0 16) a1) + x3_17)))]) (Nat.le_of_ble_eq_true rfl)) (Nat.le_of_ble_eq_true rfl) (Nat.le_of_ble_eq_true rfl) (dl_at t_X6_isField_2 26 rfl) fun v40 g40 => ?_
      refine g_icmpeq (pc := 43) X (r32_b g37) g40 (off := 5) (tgt := 48) rfl (dl_at t_X6_isField_2 27 rfl) (fun _ => ?_) (fun _ => ?_)
      · refine r_iincN (pc := 48) X (i := 3) (q := 3) (n := 1) (x := x3_17) (b := 2) (w := rv D a2) (rest := [(0, rv D a0), (1, iv a1)]) rfl r3_17 (r32_c rfl) (Nat.le_of_ble_eq_true rfl) [2, 0, 1] rfl (by decide) rv_cat rfl (dl_at t_X6_isField_2 30 rfl) fun x3_48 r3_48 => ?_
        refine g_goto (pc := 51) X (off := (-34)) (tgt := 17) rfl (dl_at t_X6_isField_2 31 rfl) ?_
        refine g_ls (ls2 := [(0, rv D a0), (1, iv a1), (2, rv D a2), (3, iv x3_48)]) [2, 3, 1, 0] rfl ?_
        exact g_at fun Q hQ => hQ r3_48
      refine g_iconst (pc := 46) X (n := 0) (dl_at t_X6_isField_2 28 rfl) ?_
      exact g_at fun Q hQ => (g_zret (pc := 47) X (Or.inl rfl) rfl rfl (dl_at t_X6_isField_2 29 rfl)) _ Q rfl hQ
  refine g_iconst (pc := 13) X (n := 0) (dl_at t_X6_isField_2 7 rfl) ?_
  exact g_zret (pc := 14) X (Or.inl rfl) rfl rfl (dl_at t_X6_isField_2 8 rfl)
def k_X14_reference : List (Nat × Instr × Nat) := [(0, .aload_n 0, 1), (1, .invokevirtual 519, 3), (4, .astore_n 2, 1), (5, .aload_n 0, 1), (6, .getfield 173, 3), (9, .iload_n 1, 1), (10, .ldc_w 598, 3), (13, .invokevirtual 531, 3), (16, .istore_n 3, 1), (17, .iload_n 3, 1), (18, .ifCond .ge 7, 3), (21, .iconst (-1), 1), (22, .goto 35, 3), (25, .aload_n 0, 1), (26, .getfield 173, 3), (29, .aload_n 0, 1), (30, .getfield 173, 3), (33, .getfield 535, 3), (36, .aload_n 0, 1), (37, .getfield 173, 3), (40, .getfield 536, 3), (43, .iload_n 3, 1), (44, .iaload, 1), (45, .aload_n 0, 1), (46, .getfield 173, 3), (49, .getfield 539, 3), (52, .iload_n 3, 1), (53, .iaload, 1), (54, .invokevirtual 542, 3), (57, .istore 4, 2), (59, .aload_n 0, 1), (60, .getfield 173, 3), (63, .iload_n 1, 1), (64, .ldc_w 600, 3), (67, .invokevirtual 531, 3), (70, .istore 5, 2), (72, .aload_n 0, 1), (73, .iload 4, 2), (75, .invokevirtual 586, 3), (78, .ifCond .eq 8, 3), (81, .iload 5, 2), (83, .ifCond .ge 13, 3), (86, .aload_n 2, 1), (87, .ldc_w 589, 3), (90, .invokevirtual 591, 3), (93, .goto 179, 3), (96, .aload_n 0, 1), (97, .getfield 173, 3), (100, .iload 5, 2), (102, .ldc_w 602, 3), (105, .invokevirtual 604, 3), (108, .ifCond .eq 26, 3), (111, .aload_n 2, 1), (112, .aload_n 0, 1), (113, .getfield 95, 3), (116, .iload 4, 2), (118, .iaload, 1), (119, .i2l, 1), (120, .invokevirtual 522, 3), (123, .aload_n 0, 1), (124, .iload_n 1, 1), (125, .iload 4, 2), (127, .iconst 0, 1), (128, .invokevirtual 595, 3), (131, .goto 141, 3), (134, .aload_n 0, 1), (135, .getfield 173, 3), (138, .iload 5, 2), (140, .ldc_w 608, 3), (143, .invokevirtual 604, 3), (146, .ifCond .eq 26, 3), (149, .aload_n 2, 1), (150, .aload_n 0, 1), (151, .getfield 98, 3), (154, .iload 4, 2), (156, .iaload, 1), (157, .i2l, 1), (158, .invokevirtual 522, 3), (161, .aload_n 0, 1), (162, .iload_n 1, 1), (163, .iload 4, 2), (165, .iconst 1, 1), (166, .invokevirtual 595, 3), (169, .goto 103, 3), (172, .aload_n 0, 1), (173, .getfield 173, 3), (176, .iload 5, 2), (178, .ldc_w 610, 3), (181, .invokevirtual 604, 3), (184, .ifCond .eq 16, 3), (187, .aload_n 0, 1), (188, .getfield 158, 3), (191, .iload 4, 2), (193, .aload_n 2, 1), (194, .invokevirtual 611, 3), (197, .goto 75, 3), (200, .aload_n 0, 1), (201, .getfield 173, 3), (204, .iload 5, 2), (206, .ldc_w 615, 3), (209, .invokevirtual 604, 3), (212, .ifCond .eq 16, 3), (215, .aload_n 0, 1), (216, .getfield 158, 3), (219, .iload 4, 2), (221, .aload_n 2, 1), (222, .invokevirtual 617, 3), (225, .goto 47, 3), (228, .aload_n 0, 1), (229, .getfield 173, 3), (232, .iload 5, 2), (234, .ldc_w 619, 3), (237, .invokevirtual 604, 3), (240, .ifCond .eq 25, 3), (243, .aload_n 2, 1), (244, .iload 4, 2), (246, .iload_n 1, 1), (247, .if_icmp .ge 9, 3), (250, .ldc_w 621, 3), (253, .goto 6, 3), (256, .ldc_w 623, 3), (259, .invokevirtual 591, 3), (262, .goto 10, 3), (265, .aload_n 2, 1), (266, .ldc_w 589, 3), (269, .invokevirtual 591, 3), (272, .aload_n 0, 1), (273, .aload_n 0, 1), (274, .invokevirtual 441, 3), (277, .aload_n 2, 1), (278, .aload_n 0, 1), (279, .iload_n 1, 1), (280, .iconst 1, 1), (281, .invokevirtual 283, 3), (284, .aload_n 0, 1), (285, .getfield 410, 3), (288, .ifCond .ne 7, 3), (291, .iconst 1, 1), (292, .goto 4, 3), (295, .iconst 0, 1), (296, .invokevirtual 458, 3), (299, .return_, 1)]
theorem t_X14_reference : ∀ q ∈ k_X14_reference, decode cX14_reference q.1 = .ok q.2 := dl_all (by decide +kernel)
noncomputable def m_X14_reference_j272 (a0 a1 v1 : Int) (h_272 : Hp) : Option ((Int × Int) × Hp) :=
  (m_X14_open_2 a0 h_272).bind fun v274 =>
  (m_X14_property a0 a1 1 h_272).bind fun v281 =>
  if (h_272 a0 46) ≠ 0 then (bT (m_X14_putAll a0 v274 v1 v281 0 h_272) (fun _ h296 =>
  some ((0, 0), h296)) (fun a_ h_ => some ((1, a_), h_)))
  else (bT (m_X14_putAll a0 v274 v1 v281 1 h_272) (fun _ h296_1 =>
  some ((0, 0), h296_1)) (fun a_ h_ => some ((1, a_), h_)))
noncomputable def m_X14_reference_j86 (a0 a1 v1 : Int) (h1 : Hp) : Option ((Int × Int) × Hp) :=
  gd (h1 v1 (-2) = 80) (bT (m_X5_string v1 (-3) h1) (fun _ h90 =>
  m_X14_reference_j272 a0 a1 v1 h90) (fun a_ h_ => some ((1, a_), h_)))
noncomputable def m_X14_reference_j259 (a0 a1 v1 s1_259 : Int) (h1 : Hp) : Option ((Int × Int) × Hp) :=
  gd (h1 v1 (-2) = 80) (bT (m_X5_string v1 s1_259 h1) (fun _ h259 =>
  m_X14_reference_j272 a0 a1 v1 h259) (fun a_ h_ => some ((1, a_), h_)))
noncomputable def m_X14_reference_j57 (v1 a1 a0 s0_57 : Int) (h1 : Hp) : Option ((Int × Int) × Hp) :=
  (m_X6_fieldOf (h1 a0 6) a1 (-5) h1).bind fun v67 =>
  (m_X14_isTarget a0 s0_57 h1).bind fun v75 =>
  if v75 = 0 then (m_X14_reference_j86 a0 a1 v1 h1)
  else (if 0 ≤ v67 then ((m_X6_isField_2 (h1 a0 6) v67 (-6) h1).bind fun v105 =>
  if v105 = 0 then ((m_X6_isField_2 (h1 a0 6) v67 (-7) h1).bind fun v143 =>
  if v143 = 0 then ((m_X6_isField_2 (h1 a0 6) v67 (-8) h1).bind fun v181 =>
  if v181 = 0 then ((m_X6_isField_2 (h1 a0 6) v67 (-9) h1).bind fun v209 =>
  if v209 = 0 then ((m_X6_isField_2 (h1 a0 6) v67 (-10) h1).bind fun v237 =>
  if v237 = 0 then (gd (h1 v1 (-2) = 80) (bT (m_X5_string v1 (-3) h1) (fun _ h269 =>
  m_X14_reference_j272 a0 a1 v1 h269) (fun a_ h_ => some ((1, a_), h_))))
  else (if a1 ≤ s0_57 then (m_X14_reference_j259 a0 a1 v1 (-12) h1)
  else (m_X14_reference_j259 a0 a1 v1 (-11) h1)))
  else (gd (h1 (h1 a0 2) (-2) = 112) (bT (m_X7_title (h1 a0 2) s0_57 v1 h1) (fun _ h222 =>
  m_X14_reference_j272 a0 a1 v1 h222) (fun a_ h_ => some ((1, a_), h_)))))
  else (gd (h1 (h1 a0 2) (-2) = 112) (bT (m_X7_value (h1 a0 2) s0_57 v1 h1) (fun _ h194 =>
  m_X14_reference_j272 a0 a1 v1 h194) (fun a_ h_ => some ((1, a_), h_)))))
  else (gd (h1 (h1 a0 41) (-2) % 16 = 1 ∧ (0 : Int) ≤ s0_57 ∧ s0_57 < h1 (h1 a0 41) (-1)) (gd (h1 v1 (-2) = 80) (bT (m_X5_number 24 v1 (h1 (h1 a0 41) s0_57) h1) (fun _ h158 =>
  (m_X14_takes a0 a1 s0_57 1 h158).bind fun h166 =>
  m_X14_reference_j272 a0 a1 v1 h166) (fun a_ h_ => some ((1, a_), h_))))))
  else (gd (h1 (h1 a0 40) (-2) % 16 = 1 ∧ (0 : Int) ≤ s0_57 ∧ s0_57 < h1 (h1 a0 40) (-1)) (gd (h1 v1 (-2) = 80) (bT (m_X5_number 24 v1 (h1 (h1 a0 40) s0_57) h1) (fun _ h120 =>
  (m_X14_takes a0 a1 s0_57 0 h120).bind fun h128 =>
  m_X14_reference_j272 a0 a1 v1 h128) (fun a_ h_ => some ((1, a_), h_))))))
  else (m_X14_reference_j86 a0 a1 v1 h1))
noncomputable def m_X14_reference (a0 a1 : Int) (h : Hp) : Option ((Int × Int) × Hp) :=
  bW (m_X14_small a0 h) fun v1 h1 =>
  gd (h1 (h1 a0 6) (-2) = 96) ((m_X6_fieldOf (h1 a0 6) a1 (-4) h1).bind fun v13 =>
  if 0 ≤ v13 then (gd (h1 (h1 (h1 a0 6) 16) (-2) % 16 = 1 ∧ (0 : Int) ≤ v13 ∧ v13 < h1 (h1 (h1 a0 6) 16) (-1)) (gd (h1 (h1 (h1 a0 6) 17) (-2) % 16 = 1 ∧ (0 : Int) ≤ v13 ∧ v13 < h1 (h1 (h1 a0 6) 17) (-1)) ((m_X6_byId (h1 a0 6) (h1 (h1 a0 6) 0) (h1 (h1 (h1 a0 6) 16) v13) (h1 (h1 (h1 a0 6) 17) v13) h1).bind fun v54 =>
  m_X14_reference_j57 v1 a1 a0 v54 h1)))
  else (m_X14_reference_j57 v1 a1 a0 (-1) h1))
theorem s_X14_reference {l : Launch} [NoTr l] {D : SD} {a0 a1 : Int} {h : Hp} (hk : h a0 (-2) = 224) (r1 : r32 a1) {r : (Int × Int) × Hp} (hm : m_X14_reference a0 a1 h = some r) : Sim l D yX14_reference (Cond.code yX14_reference cX14_reference 6 (Option.none : Option Jvm.ClassFile.FieldType)) 41 1558 [rv D a0, iv a1] h 0 r := by
  refine Sim.of (fin := fun (v : (Int × Int) × Hp) => v) (lsE := [(0, rv D a0), (1, iv a1)]) hm rfl cwS_code (la_r (la_i la_n)) (ll_r (ll_i ll_n)) ?_
  intro p e s m below meth c X hcw hmm hcc hnm hname
  have hno := noh hcw hnm hmm hcc
  unfold m_X14_reference
  refine g_aload_n (pc := 0) X (j := 0) (i := 0) (q := 0) (x := a0) rfl rfl (dl_at t_X14_reference 0 rfl) ?_
  refine r_callWr (pc := 1) X (fun _ hv => s_X14_small hk hv) cw_code q2684 q368 (in_Vk X (As := []) kX14 hk (Or.inl q2681) q2683 qs139 cw_code q2684 ⟨by decide, by decide⟩ rfl (dl_at t_X14_reference 1 rfl)) (dl_at t_X14_reference 1 rfl) (cat24 (st := []) (Nat.le_of_ble_eq_true rfl)) (Nat.le_of_ble_eq_true rfl) (Nat.le_of_ble_eq_true rfl) fun v1 h1 E1 => ?_
  refine g_astore_nN (pc := 4) X (j := 2) (i := 2) (x := v1) (b := 1) (w := iv a1) (rest := [(0, rv D a0)]) rfl (Nat.le_of_ble_eq_true rfl) [1, 0] rfl (by decide) rfl rfl (dl_at t_X14_reference 2 rfl) ?_
  refine g_aload_n (pc := 5) X (j := 0) (i := 0) (q := 2) (x := a0) rfl rfl (dl_at t_X14_reference 3 rfl) ?_
  have k6 := kx E1 (by decide) hk
  refine r_getr (pc := 6) X fX14_6 k6 q1249 (dl_at t_X14_reference 4 rfl) ?_
  refine g_iload_n (pc := 9) X (j := 1) (i := 1) (q := 1) (x := a1) rfl rfl (dl_at t_X14_reference 5 rfl) ?_
  refine g_ldcSw (pc := 10) X (index := 598) (id := (-4)) 2 rfl rfl (dl_at t_X14_reference 6 rfl) ?_
  refine g_gd fun k13 => ?_
  refine r_callRi (pc := 13) X (fun _ hv => s_X6_fieldOf k13 r1 hv) cw_code q2394 q360 (in_Vk X (As := [iv a1, rv D (-4)]) kX6 k13 (Or.inr ⟨_, nw_in q2706 rfl⟩) q2393 qs97 cw_code q2394 ⟨by decide, by decide⟩ rfl (dl_at t_X14_reference 7 rfl)) (dl_at t_X14_reference 7 rfl) (cat24 (st := []) (Nat.le_of_ble_eq_true rfl)) (Nat.le_of_ble_eq_true rfl) (Nat.le_of_ble_eq_true rfl) fun v13 g13 => ?_
  refine g_istore_nN (pc := 16) X (j := 3) (i := 3) (x := v13) (b := 2) (w := rv D v1) (rest := [(1, iv a1), (0, rv D a0)]) rfl (Nat.le_of_ble_eq_true rfl) [0, 1, 2] rfl (by decide) rv_cat rfl (dl_at t_X14_reference 8 rfl) ?_
  refine g_iload_n (pc := 17) X (j := 3) (i := 3) (q := 0) (x := v13) rfl rfl (dl_at t_X14_reference 9 rfl) ?_
  refine g_join (γ := Int) (fun q => r32 q) 57 (fun q => [(0, rv D a0), (1, iv a1), (2, rv D v1)]) (fun q => [iv q]) (fun q => h1) (fun q => m_X14_reference_j57 v1 a1 a0 q h1) ?_ ?_
  · rintro s0_57 rs0_57
    try dsimp only
    unfold m_X14_reference_j57
    refine g_istore (pc := 57) X (i := 4) (x := s0_57) (rest := [(0, rv D a0), (1, iv a1), (2, rv D v1)]) (Nat.le_of_ble_eq_true rfl) [0, 1, 2] rfl rfl (dl_at t_X14_reference 29 rfl) ?_
    refine g_aload_n (pc := 59) X (j := 0) (i := 0) (q := 1) (x := a0) rfl rfl (dl_at t_X14_reference 30 rfl) ?_
    refine r_getr (pc := 60) X fX14_6 k6 q1249 (dl_at t_X14_reference 31 rfl) ?_
    refine g_iload_n (pc := 63) X (j := 1) (i := 1) (q := 2) (x := a1) rfl rfl (dl_at t_X14_reference 32 rfl) ?_
    refine g_ldcSw (pc := 64) X (index := 600) (id := (-5)) 3 rfl rfl (dl_at t_X14_reference 33 rfl) ?_
    refine r_callRi (pc := 67) X (fun _ hv => s_X6_fieldOf k13 r1 hv) cw_code q2394 q360 (in_Vk X (As := [iv a1, rv D (-5)]) kX6 k13 (Or.inr ⟨_, nw_in q2706 rfl⟩) q2393 qs97 cw_code q2394 ⟨by decide, by decide⟩ rfl (dl_at t_X14_reference 34 rfl)) (dl_at t_X14_reference 34 rfl) (cat24 (st := []) (Nat.le_of_ble_eq_true rfl)) (Nat.le_of_ble_eq_true rfl) (Nat.le_of_ble_eq_true rfl) fun v67 g67 => ?_
    refine g_istoreN (pc := 70) X (i := 5) (x := v67) (b := 4) (w := iv s0_57) (rest := [(0, rv D a0), (1, iv a1), (2, rv D v1)]) (Nat.le_of_ble_eq_true rfl) [0, 1, 2, 3] rfl (by decide) rfl rfl (dl_at t_X14_reference 35 rfl) ?_
    refine g_aload_n (pc := 72) X (j := 0) (i := 0) (q := 2) (x := a0) rfl rfl (dl_at t_X14_reference 36 rfl) ?_
    refine g_iload (pc := 73) X (i := 4) (q := 1) (x := s0_57) rfl (dl_at t_X14_reference 37 rfl) ?_
    refine r_callRz (pc := 75) X (fun _ hv => s_X14_isTarget k6 rs0_57 hv) cw_code q2721 q368 (in_Vk X (As := [iv s0_57]) kX14 k6 (Or.inl q2718) q2720 qs146 cw_code q2721 ⟨by decide, by decide⟩ rfl (dl_at t_X14_reference 38 rfl)) (dl_at t_X14_reference 38 rfl) (cat24 (st := []) (Nat.le_of_ble_eq_true rfl)) (Nat.le_of_ble_eq_true rfl) (Nat.le_of_ble_eq_true rfl) fun v75 g75 => ?_
    refine g_join (γ := Hp) (fun q => Ext h1 q) 272 (fun q => [(0, rv D a0), (1, iv a1), (2, rv D v1)]) (fun q => []) (fun q => q) (fun q => m_X14_reference_j272 a0 a1 v1 q) ?_ ?_
    · rintro h_272 E_272
      try dsimp only
      unfold m_X14_reference_j272
      refine g_aload_n (pc := 272) X (j := 0) (i := 0) (q := 0) (x := a0) rfl rfl (dl_at t_X14_reference 126 rfl) ?_
      refine g_aload_n (pc := 273) X (j := 0) (i := 0) (q := 0) (x := a0) rfl rfl (dl_at t_X14_reference 127 rfl) ?_
      have k274 := kx E_272 (by decide) k6
      refine r_callRr (pc := 274) X (fun _ hv => s_X14_open_2 k274 hv) cw_code q2689 q368 (in_Vk X (As := []) kX14 k274 (Or.inl q2686) q2688 qs140 cw_code q2689 ⟨by decide, by decide⟩ rfl (dl_at t_X14_reference 128 rfl)) (dl_at t_X14_reference 128 rfl) (cat24 (st := [rv D a0]) (Nat.le_of_ble_eq_true rfl)) (Nat.le_of_ble_eq_true rfl) (Nat.le_of_ble_eq_true rfl) fun v274 => ?_
      refine g_aload_n (pc := 277) X (j := 2) (i := 2) (q := 2) (x := v1) rfl rfl (dl_at t_X14_reference 129 rfl) ?_
      refine g_aload_n (pc := 278) X (j := 0) (i := 0) (q := 0) (x := a0) rfl rfl (dl_at t_X14_reference 130 rfl) ?_
      refine g_iload_n (pc := 279) X (j := 1) (i := 1) (q := 1) (x := a1) rfl rfl (dl_at t_X14_reference 131 rfl) ?_
      refine g_iconst (pc := 280) X (n := 1) (dl_at t_X14_reference 132 rfl) ?_
      refine r_callRi (pc := 281) X (fun _ hv => s_X14_property k274 r1 (r32_c rfl) hv) cw_code q2504 q368 (in_Vk X (As := [iv a1, iv 1]) kX14 k274 (Or.inl q2501) q2503 qs119 cw_code q2504 ⟨by decide, by decide⟩ rfl (dl_at t_X14_reference 133 rfl)) (dl_at t_X14_reference 133 rfl) (cat24 (st := [rv D v1, rv D v274, rv D a0]) (Nat.le_of_ble_eq_true rfl)) (Nat.le_of_ble_eq_true rfl) (Nat.le_of_ble_eq_true rfl) fun v281 g281 => ?_
      refine g_aload_n (pc := 284) X (j := 0) (i := 0) (q := 0) (x := a0) rfl rfl (dl_at t_X14_reference 134 rfl) ?_
      refine r_getz (pc := 285) X fX14_46 k274 q1308 (dl_at t_X14_reference 135 rfl) fun g285 => ?_
      refine g_ifne (pc := 288) X (r32_z g285) (off := 7) (tgt := 295) rfl (dl_at t_X14_reference 136 rfl) (fun _ => ?_) (fun _ => ?_)
      · refine g_iconst (pc := 295) X (n := 0) (dl_at t_X14_reference 139 rfl) ?_
        refine r_callTv (pc := 296) X (fun _ hv => s_X14_putAll k274 g281 (Or.inl rfl) hv) cw_code q2693 q368 (in_Vk X (As := [rv D v274, rv D v1, iv v281, iv 0]) kX14 k274 (Or.inl q2690) q2692 qs141 cw_code q2693 ⟨by decide, by decide⟩ rfl (dl_at t_X14_reference 140 rfl)) (dl_at t_X14_reference 140 rfl) (cat24 (st := []) (Nat.le_of_ble_eq_true rfl)) (Nat.le_of_ble_eq_true rfl) (Nat.le_of_ble_eq_true rfl) (fun v296 h296 E296 => ?_) (fun _ _ ha _ => gt_at fun Q hQ => gt_out (Q := Q) X rfl ha (hno _) _ Q rfl hQ)
        exact g_vret (pc := 299) X (v := 0) rfl rfl (dl_at t_X14_reference 141 rfl)
      refine g_iconst (pc := 291) X (n := 1) (dl_at t_X14_reference 137 rfl) ?_
      refine g_goto (pc := 292) X (off := 4) (tgt := 296) rfl (dl_at t_X14_reference 138 rfl) ?_
      refine r_callTv (pc := 296) X (fun _ hv => s_X14_putAll k274 g281 (Or.inr rfl) hv) cw_code q2693 q368 (in_Vk X (As := [rv D v274, rv D v1, iv v281, iv 1]) kX14 k274 (Or.inl q2690) q2692 qs141 cw_code q2693 ⟨by decide, by decide⟩ rfl (dl_at t_X14_reference 140 rfl)) (dl_at t_X14_reference 140 rfl) (cat24 (st := []) (Nat.le_of_ble_eq_true rfl)) (Nat.le_of_ble_eq_true rfl) (Nat.le_of_ble_eq_true rfl) (fun v296_1 h296_1 E296_1 => ?_) (fun _ _ ha _ => gt_at fun Q hQ => gt_out (Q := Q) X rfl ha (hno _) _ Q rfl hQ)
      exact g_vret (pc := 299) X (v := 0) rfl rfl (dl_at t_X14_reference 141 rfl)
    intro J272
    refine g_join (γ := Unit) (fun q => True) 86 (fun q => [(0, rv D a0), (1, iv a1), (2, rv D v1)]) (fun q => []) (fun q => h1) (fun q => m_X14_reference_j86 a0 a1 v1 h1) ?_ ?_
    · rintro _ _
      try dsimp only
      unfold m_X14_reference_j86
      refine g_aload_n (pc := 86) X (j := 2) (i := 2) (q := 2) (x := v1) rfl rfl (dl_at t_X14_reference 42 rfl) ?_
      refine g_ldcSw (pc := 87) X (index := 589) (id := (-3)) 1 rfl rfl (dl_at t_X14_reference 43 rfl) ?_
      refine g_gd fun k90 => ?_
      refine r_callTv (pc := 90) X (fun _ hv => s_X5_string k90 hv) cw_code q2726 q359 (in_Vk X (As := [rv D (-3)]) kX5 k90 (Or.inr ⟨_, nw_in q2723 rfl⟩) q2725 qs147 cw_code q2726 ⟨by decide, by decide⟩ rfl (dl_at t_X14_reference 44 rfl)) (dl_at t_X14_reference 44 rfl) (cat24 (st := []) (Nat.le_of_ble_eq_true rfl)) (Nat.le_of_ble_eq_true rfl) (Nat.le_of_ble_eq_true rfl) (fun v90 h90 E90 => ?_) (fun _ _ ha _ => gt_at fun Q hQ => gt_out (Q := Q) X rfl ha (hno _) _ Q rfl hQ)
      refine g_goto (pc := 93) X (off := 179) (tgt := 272) rfl (dl_at t_X14_reference 45 rfl) ?_
      exact J272 h90 E90
    intro J86
    refine g_ifeq (pc := 78) X (r32_z g75) (off := 8) (tgt := 86) rfl (dl_at t_X14_reference 39 rfl) (fun _ => ?_) (fun _ => ?_)
    · refine g_ls (ls2 := [(0, rv D a0), (1, iv a1), (2, rv D v1)]) [2, 3, 4] rfl ?_
      exact J86 () trivial
    refine g_iload (pc := 81) X (i := 5) (q := 0) (x := v67) rfl (dl_at t_X14_reference 40 rfl) ?_
    refine g_ifge (pc := 83) X g67 (off := 13) (tgt := 96) rfl (dl_at t_X14_reference 41 rfl) (fun _ => ?_) (fun _ => ?_)
    · refine g_aload_n (pc := 96) X (j := 0) (i := 0) (q := 2) (x := a0) rfl rfl (dl_at t_X14_reference 46 rfl) ?_
      refine r_getr (pc := 97) X fX14_6 k6 q1249 (dl_at t_X14_reference 47 rfl) ?_
      refine g_iload (pc := 100) X (i := 5) (q := 0) (x := v67) rfl (dl_at t_X14_reference 48 rfl) ?_
      refine g_ldcSw (pc := 102) X (index := 602) (id := (-6)) 4 rfl rfl (dl_at t_X14_reference 49 rfl) ?_
      refine r_callRz (pc := 105) X (fun _ hv => s_X6_isField_2 k13 g67 hv) cw_code q2768 q360 (in_Vk X (As := [iv v67, rv D (-6)]) kX6 k13 (Or.inr ⟨_, nw_in q2765 rfl⟩) q2767 qs155 cw_code q2768 ⟨by decide, by decide⟩ rfl (dl_at t_X14_reference 50 rfl)) (dl_at t_X14_reference 50 rfl) (cat24 (st := []) (Nat.le_of_ble_eq_true rfl)) (Nat.le_of_ble_eq_true rfl) (Nat.le_of_ble_eq_true rfl) fun v105 g105 => ?_
      refine g_ifeq (pc := 108) X (r32_z g105) (off := 26) (tgt := 134) rfl (dl_at t_X14_reference 51 rfl) (fun _ => ?_) (fun _ => ?_)
      · refine g_aload_n (pc := 134) X (j := 0) (i := 0) (q := 2) (x := a0) rfl rfl (dl_at t_X14_reference 65 rfl) ?_
        refine r_getr (pc := 135) X fX14_6 k6 q1249 (dl_at t_X14_reference 66 rfl) ?_
        refine g_iload (pc := 138) X (i := 5) (q := 0) (x := v67) rfl (dl_at t_X14_reference 67 rfl) ?_
        refine g_ldcSw (pc := 140) X (index := 608) (id := (-7)) 5 rfl rfl (dl_at t_X14_reference 68 rfl) ?_
        refine r_callRz (pc := 143) X (fun _ hv => s_X6_isField_2 k13 g67 hv) cw_code q2768 q360 (in_Vk X (As := [iv v67, rv D (-7)]) kX6 k13 (Or.inr ⟨_, nw_in q2765 rfl⟩) q2767 qs155 cw_code q2768 ⟨by decide, by decide⟩ rfl (dl_at t_X14_reference 69 rfl)) (dl_at t_X14_reference 69 rfl) (cat24 (st := []) (Nat.le_of_ble_eq_true rfl)) (Nat.le_of_ble_eq_true rfl) (Nat.le_of_ble_eq_true rfl) fun v143 g143 => ?_
        refine g_ifeq (pc := 146) X (r32_z g143) (off := 26) (tgt := 172) rfl (dl_at t_X14_reference 70 rfl) (fun _ => ?_) (fun _ => ?_)
        · refine g_aload_n (pc := 172) X (j := 0) (i := 0) (q := 2) (x := a0) rfl rfl (dl_at t_X14_reference 84 rfl) ?_
          refine r_getr (pc := 173) X fX14_6 k6 q1249 (dl_at t_X14_reference 85 rfl) ?_
          refine g_iload (pc := 176) X (i := 5) (q := 0) (x := v67) rfl (dl_at t_X14_reference 86 rfl) ?_
          refine g_ldcSw (pc := 178) X (index := 610) (id := (-8)) 6 rfl rfl (dl_at t_X14_reference 87 rfl) ?_
          refine r_callRz (pc := 181) X (fun _ hv => s_X6_isField_2 k13 g67 hv) cw_code q2768 q360 (in_Vk X (As := [iv v67, rv D (-8)]) kX6 k13 (Or.inr ⟨_, nw_in q2765 rfl⟩) q2767 qs155 cw_code q2768 ⟨by decide, by decide⟩ rfl (dl_at t_X14_reference 88 rfl)) (dl_at t_X14_reference 88 rfl) (cat24 (st := []) (Nat.le_of_ble_eq_true rfl)) (Nat.le_of_ble_eq_true rfl) (Nat.le_of_ble_eq_true rfl) fun v181 g181 => ?_
          refine g_ifeq (pc := 184) X (r32_z g181) (off := 16) (tgt := 200) rfl (dl_at t_X14_reference 89 rfl) (fun _ => ?_) (fun _ => ?_)
          · refine g_aload_n (pc := 200) X (j := 0) (i := 0) (q := 2) (x := a0) rfl rfl (dl_at t_X14_reference 96 rfl) ?_
            refine r_getr (pc := 201) X fX14_6 k6 q1249 (dl_at t_X14_reference 97 rfl) ?_
            refine g_iload (pc := 204) X (i := 5) (q := 0) (x := v67) rfl (dl_at t_X14_reference 98 rfl) ?_
            refine g_ldcSw (pc := 206) X (index := 615) (id := (-9)) 7 rfl rfl (dl_at t_X14_reference 99 rfl) ?_
            refine r_callRz (pc := 209) X (fun _ hv => s_X6_isField_2 k13 g67 hv) cw_code q2768 q360 (in_Vk X (As := [iv v67, rv D (-9)]) kX6 k13 (Or.inr ⟨_, nw_in q2765 rfl⟩) q2767 qs155 cw_code q2768 ⟨by decide, by decide⟩ rfl (dl_at t_X14_reference 100 rfl)) (dl_at t_X14_reference 100 rfl) (cat24 (st := []) (Nat.le_of_ble_eq_true rfl)) (Nat.le_of_ble_eq_true rfl) (Nat.le_of_ble_eq_true rfl) fun v209 g209 => ?_
            refine g_ifeq (pc := 212) X (r32_z g209) (off := 16) (tgt := 228) rfl (dl_at t_X14_reference 101 rfl) (fun _ => ?_) (fun _ => ?_)
            · refine g_aload_n (pc := 228) X (j := 0) (i := 0) (q := 2) (x := a0) rfl rfl (dl_at t_X14_reference 108 rfl) ?_
              refine r_getr (pc := 229) X fX14_6 k6 q1249 (dl_at t_X14_reference 109 rfl) ?_
              refine g_iload (pc := 232) X (i := 5) (q := 0) (x := v67) rfl (dl_at t_X14_reference 110 rfl) ?_
              refine g_ldcSw (pc := 234) X (index := 619) (id := (-10)) 8 rfl rfl (dl_at t_X14_reference 111 rfl) ?_
              refine r_callRz (pc := 237) X (fun _ hv => s_X6_isField_2 k13 g67 hv) cw_code q2768 q360 (in_Vk X (As := [iv v67, rv D (-10)]) kX6 k13 (Or.inr ⟨_, nw_in q2765 rfl⟩) q2767 qs155 cw_code q2768 ⟨by decide, by decide⟩ rfl (dl_at t_X14_reference 112 rfl)) (dl_at t_X14_reference 112 rfl) (cat24 (st := []) (Nat.le_of_ble_eq_true rfl)) (Nat.le_of_ble_eq_true rfl) (Nat.le_of_ble_eq_true rfl) fun v237 g237 => ?_
              refine g_ifeq (pc := 240) X (r32_z g237) (off := 25) (tgt := 265) rfl (dl_at t_X14_reference 113 rfl) (fun _ => ?_) (fun _ => ?_)
              · refine g_aload_n (pc := 265) X (j := 2) (i := 2) (q := 4) (x := v1) rfl rfl (dl_at t_X14_reference 123 rfl) ?_
                refine g_ldcSw (pc := 266) X (index := 589) (id := (-3)) 1 rfl rfl (dl_at t_X14_reference 124 rfl) ?_
                refine g_gd fun k269 => ?_
                refine r_callTv (pc := 269) X (fun _ hv => s_X5_string k269 hv) cw_code q2726 q359 (in_Vk X (As := [rv D (-3)]) kX5 k269 (Or.inr ⟨_, nw_in q2723 rfl⟩) q2725 qs147 cw_code q2726 ⟨by decide, by decide⟩ rfl (dl_at t_X14_reference 125 rfl)) (dl_at t_X14_reference 125 rfl) (cat24 (st := []) (Nat.le_of_ble_eq_true rfl)) (Nat.le_of_ble_eq_true rfl) (Nat.le_of_ble_eq_true rfl) (fun v269 h269 E269 => ?_) (fun _ _ ha _ => gt_at fun Q hQ => gt_out (Q := Q) X rfl ha (hno _) _ Q rfl hQ)
                refine g_ls (ls2 := [(0, rv D a0), (1, iv a1), (2, rv D v1)]) [2, 3, 4] rfl ?_
                exact J272 h269 E269
              refine g_aload_n (pc := 243) X (j := 2) (i := 2) (q := 4) (x := v1) rfl rfl (dl_at t_X14_reference 114 rfl) ?_
              refine g_iload (pc := 244) X (i := 4) (q := 1) (x := s0_57) rfl (dl_at t_X14_reference 115 rfl) ?_
              refine g_iload_n (pc := 246) X (j := 1) (i := 1) (q := 3) (x := a1) rfl rfl (dl_at t_X14_reference 116 rfl) ?_
              refine g_join (γ := Int) (fun q => True) 259 (fun q => [(0, rv D a0), (1, iv a1), (2, rv D v1)]) (fun q => [rv D q, rv D v1]) (fun q => h1) (fun q => m_X14_reference_j259 a0 a1 v1 q h1) ?_ ?_
              · rintro s1_259 _
                try dsimp only
                unfold m_X14_reference_j259
                refine g_gd fun k259 => ?_
                refine r_callTv (pc := 259) X (fun _ hv => s_X5_string k259 hv) cw_code q2726 q359 (in_Vk X (As := [rv D s1_259]) kX5 k259 (Or.inr ⟨_, nw_in q2723 rfl⟩) q2725 qs147 cw_code q2726 ⟨by decide, by decide⟩ rfl (dl_at t_X14_reference 121 rfl)) (dl_at t_X14_reference 121 rfl) (cat24 (st := []) (Nat.le_of_ble_eq_true rfl)) (Nat.le_of_ble_eq_true rfl) (Nat.le_of_ble_eq_true rfl) (fun v259 h259 E259 => ?_) (fun _ _ ha _ => gt_at fun Q hQ => gt_out (Q := Q) X rfl ha (hno _) _ Q rfl hQ)
                refine g_goto (pc := 262) X (off := 10) (tgt := 272) rfl (dl_at t_X14_reference 122 rfl) ?_
                exact J272 h259 E259
              intro J259
              refine g_icmpge (pc := 247) X rs0_57 r1 (off := 9) (tgt := 256) rfl (dl_at t_X14_reference 117 rfl) (fun _ => ?_) (fun _ => ?_)
              · refine g_ldcSw (pc := 256) X (index := 623) (id := (-12)) 10 rfl rfl (dl_at t_X14_reference 120 rfl) ?_
                refine g_ls (ls2 := [(0, rv D a0), (1, iv a1), (2, rv D v1)]) [2, 3, 4] rfl ?_
                exact J259 (-12) trivial
              refine g_ldcSw (pc := 250) X (index := 621) (id := (-11)) 9 rfl rfl (dl_at t_X14_reference 118 rfl) ?_
              refine g_goto (pc := 253) X (off := 6) (tgt := 259) rfl (dl_at t_X14_reference 119 rfl) ?_
              refine g_ls (ls2 := [(0, rv D a0), (1, iv a1), (2, rv D v1)]) [2, 3, 4] rfl ?_
              exact J259 (-11) trivial
            refine g_aload_n (pc := 215) X (j := 0) (i := 0) (q := 2) (x := a0) rfl rfl (dl_at t_X14_reference 102 rfl) ?_
            refine r_getr (pc := 216) X fX14_2 k6 q1243 (dl_at t_X14_reference 103 rfl) ?_
            refine g_iload (pc := 219) X (i := 4) (q := 1) (x := s0_57) rfl (dl_at t_X14_reference 104 rfl) ?_
            refine g_aload_n (pc := 221) X (j := 2) (i := 2) (q := 4) (x := v1) rfl rfl (dl_at t_X14_reference 105 rfl) ?_
            refine g_gd fun k222 => ?_
            refine r_callTv (pc := 222) X (fun _ hv => s_X7_title k222 rs0_57 hv) cw_code q2404 q361 (in_Vk X (As := [iv s0_57, rv D v1]) kX7 k222 (Or.inr ⟨_, nw_in q2747 rfl⟩) q2403 qs99 cw_code q2404 ⟨by decide, by decide⟩ rfl (dl_at t_X14_reference 106 rfl)) (dl_at t_X14_reference 106 rfl) (cat24 (st := []) (Nat.le_of_ble_eq_true rfl)) (Nat.le_of_ble_eq_true rfl) (Nat.le_of_ble_eq_true rfl) (fun v222 h222 E222 => ?_) (fun _ _ ha _ => gt_at fun Q hQ => gt_out (Q := Q) X rfl ha (hno _) _ Q rfl hQ)
            refine g_goto (pc := 225) X (off := 47) (tgt := 272) rfl (dl_at t_X14_reference 107 rfl) ?_
            refine g_ls (ls2 := [(0, rv D a0), (1, iv a1), (2, rv D v1)]) [2, 3, 4] rfl ?_
            exact J272 h222 E222
          refine g_aload_n (pc := 187) X (j := 0) (i := 0) (q := 2) (x := a0) rfl rfl (dl_at t_X14_reference 90 rfl) ?_
          refine r_getr (pc := 188) X fX14_2 k6 q1243 (dl_at t_X14_reference 91 rfl) ?_
          refine g_iload (pc := 191) X (i := 4) (q := 1) (x := s0_57) rfl (dl_at t_X14_reference 92 rfl) ?_
          refine g_aload_n (pc := 193) X (j := 2) (i := 2) (q := 4) (x := v1) rfl rfl (dl_at t_X14_reference 93 rfl) ?_
          refine g_gd fun k194 => ?_
          refine r_callTv (pc := 194) X (fun _ hv => s_X7_value k194 rs0_57 hv) cw_code q2424 q361 (in_Vk X (As := [iv s0_57, rv D v1]) kX7 k194 (Or.inr ⟨_, nw_in q2771 rfl⟩) q2423 qs104 cw_code q2424 ⟨by decide, by decide⟩ rfl (dl_at t_X14_reference 94 rfl)) (dl_at t_X14_reference 94 rfl) (cat24 (st := []) (Nat.le_of_ble_eq_true rfl)) (Nat.le_of_ble_eq_true rfl) (Nat.le_of_ble_eq_true rfl) (fun v194 h194 E194 => ?_) (fun _ _ ha _ => gt_at fun Q hQ => gt_out (Q := Q) X rfl ha (hno _) _ Q rfl hQ)
          refine g_goto (pc := 197) X (off := 75) (tgt := 272) rfl (dl_at t_X14_reference 95 rfl) ?_
          refine g_ls (ls2 := [(0, rv D a0), (1, iv a1), (2, rv D v1)]) [2, 3, 4] rfl ?_
          exact J272 h194 E194
        refine g_aload_n (pc := 149) X (j := 2) (i := 2) (q := 4) (x := v1) rfl rfl (dl_at t_X14_reference 71 rfl) ?_
        refine g_aload_n (pc := 150) X (j := 0) (i := 0) (q := 2) (x := a0) rfl rfl (dl_at t_X14_reference 72 rfl) ?_
        refine r_getr (pc := 151) X fX14_41 k6 q1302 (dl_at t_X14_reference 73 rfl) ?_
        refine g_iload (pc := 154) X (i := 4) (q := 1) (x := s0_57) rfl (dl_at t_X14_reference 74 rfl) ?_
        refine g_gd fun k156 => ?_
        refine g_iald (pc := 156) X rs0_57 k156 (dl_at t_X14_reference 75 rfl) fun g156 => ?_
        refine g_i2l (pc := 157) X g156 (dl_at t_X14_reference 76 rfl) ?_
        refine g_gd fun k158 => ?_
        refine r_callTv (pc := 158) X (fun _ hv => s_X5_number (d := 24) k158 (r64_of g156) hv) cw_code q2441 q359 (in_Vk X (As := [jv (h1 (h1 a0 41) s0_57)]) kX5 k158 (Or.inr ⟨_, nw_in q2685 rfl⟩) q2440 qs105 cw_code q2441 ⟨by decide, by decide⟩ rfl (dl_at t_X14_reference 77 rfl)) (dl_at t_X14_reference 77 rfl) (cat24 (st := []) (Nat.le_of_ble_eq_true rfl)) (Nat.le_of_ble_eq_true rfl) (Nat.le_of_ble_eq_true rfl) (fun v158 h158 E158 => ?_) (fun _ _ ha _ => gt_at fun Q hQ => gt_out (Q := Q) X rfl ha (hno _) _ Q rfl hQ)
        refine g_aload_n (pc := 161) X (j := 0) (i := 0) (q := 2) (x := a0) rfl rfl (dl_at t_X14_reference 78 rfl) ?_
        refine g_iload_n (pc := 162) X (j := 1) (i := 1) (q := 3) (x := a1) rfl rfl (dl_at t_X14_reference 79 rfl) ?_
        refine g_iload (pc := 163) X (i := 4) (q := 1) (x := s0_57) rfl (dl_at t_X14_reference 80 rfl) ?_
        refine g_iconst (pc := 165) X (n := 1) (dl_at t_X14_reference 81 rfl) ?_
        have k166 := kx E158 (by decide) k6
        refine r_callV (pc := 166) X (fun _ hv => s_X14_takes k166 r1 rs0_57 (r32_c rfl) hv) cw_code q2732 q368 (in_Vk X (As := [iv a1, iv s0_57, iv 1]) kX14 k166 (Or.inl q2729) q2731 qs148 cw_code q2732 ⟨by decide, by decide⟩ rfl (dl_at t_X14_reference 82 rfl)) (dl_at t_X14_reference 82 rfl) (cat24 (st := []) (Nat.le_of_ble_eq_true rfl)) (Nat.le_of_ble_eq_true rfl) (Nat.le_of_ble_eq_true rfl) fun h166 E166 => ?_
        refine g_goto (pc := 169) X (off := 103) (tgt := 272) rfl (dl_at t_X14_reference 83 rfl) ?_
        refine g_ls (ls2 := [(0, rv D a0), (1, iv a1), (2, rv D v1)]) [2, 3, 4] rfl ?_
        exact J272 h166 (E158.trans E166)
      refine g_aload_n (pc := 111) X (j := 2) (i := 2) (q := 4) (x := v1) rfl rfl (dl_at t_X14_reference 52 rfl) ?_
      refine g_aload_n (pc := 112) X (j := 0) (i := 0) (q := 2) (x := a0) rfl rfl (dl_at t_X14_reference 53 rfl) ?_
      refine r_getr (pc := 113) X fX14_40 k6 q1301 (dl_at t_X14_reference 54 rfl) ?_
      refine g_iload (pc := 116) X (i := 4) (q := 1) (x := s0_57) rfl (dl_at t_X14_reference 55 rfl) ?_
      refine g_gd fun k118 => ?_
      refine g_iald (pc := 118) X rs0_57 k118 (dl_at t_X14_reference 56 rfl) fun g118 => ?_
      refine g_i2l (pc := 119) X g118 (dl_at t_X14_reference 57 rfl) ?_
      refine g_gd fun k120 => ?_
      refine r_callTv (pc := 120) X (fun _ hv => s_X5_number (d := 24) k120 (r64_of g118) hv) cw_code q2441 q359 (in_Vk X (As := [jv (h1 (h1 a0 40) s0_57)]) kX5 k120 (Or.inr ⟨_, nw_in q2685 rfl⟩) q2440 qs105 cw_code q2441 ⟨by decide, by decide⟩ rfl (dl_at t_X14_reference 58 rfl)) (dl_at t_X14_reference 58 rfl) (cat24 (st := []) (Nat.le_of_ble_eq_true rfl)) (Nat.le_of_ble_eq_true rfl) (Nat.le_of_ble_eq_true rfl) (fun v120 h120 E120 => ?_) (fun _ _ ha _ => gt_at fun Q hQ => gt_out (Q := Q) X rfl ha (hno _) _ Q rfl hQ)
      refine g_aload_n (pc := 123) X (j := 0) (i := 0) (q := 2) (x := a0) rfl rfl (dl_at t_X14_reference 59 rfl) ?_
      refine g_iload_n (pc := 124) X (j := 1) (i := 1) (q := 3) (x := a1) rfl rfl (dl_at t_X14_reference 60 rfl) ?_
      refine g_iload (pc := 125) X (i := 4) (q := 1) (x := s0_57) rfl (dl_at t_X14_reference 61 rfl) ?_
      refine g_iconst (pc := 127) X (n := 0) (dl_at t_X14_reference 62 rfl) ?_
      have k128 := kx E120 (by decide) k6
      refine r_callV (pc := 128) X (fun _ hv => s_X14_takes k128 r1 rs0_57 (r32_c rfl) hv) cw_code q2732 q368 (in_Vk X (As := [iv a1, iv s0_57, iv 0]) kX14 k128 (Or.inl q2729) q2731 qs148 cw_code q2732 ⟨by decide, by decide⟩ rfl (dl_at t_X14_reference 63 rfl)) (dl_at t_X14_reference 63 rfl) (cat24 (st := []) (Nat.le_of_ble_eq_true rfl)) (Nat.le_of_ble_eq_true rfl) (Nat.le_of_ble_eq_true rfl) fun h128 E128 => ?_
      refine g_goto (pc := 131) X (off := 141) (tgt := 272) rfl (dl_at t_X14_reference 64 rfl) ?_
      refine g_ls (ls2 := [(0, rv D a0), (1, iv a1), (2, rv D v1)]) [2, 3, 4] rfl ?_
      exact J272 h128 (E120.trans E128)
    refine g_ls (ls2 := [(0, rv D a0), (1, iv a1), (2, rv D v1)]) [2, 3, 4] rfl ?_
    exact J86 () trivial
  intro J57
  refine g_ifge (pc := 18) X g13 (off := 7) (tgt := 25) rfl (dl_at t_X14_reference 10 rfl) (fun _ => ?_) (fun _ => ?_)
  · refine g_aload_n (pc := 25) X (j := 0) (i := 0) (q := 3) (x := a0) rfl rfl (dl_at t_X14_reference 13 rfl) ?_
    refine r_getr (pc := 26) X fX14_6 k6 q1249 (dl_at t_X14_reference 14 rfl) ?_
    refine g_aload_n (pc := 29) X (j := 0) (i := 0) (q := 3) (x := a0) rfl rfl (dl_at t_X14_reference 15 rfl) ?_
    refine r_getr (pc := 30) X fX14_6 k6 q1249 (dl_at t_X14_reference 16 rfl) ?_
    refine r_getrN (pc := 33) X fX6_0 k13 (nw_in q648 rfl) (dl_at t_X14_reference 17 rfl) ?_
    refine g_aload_n (pc := 36) X (j := 0) (i := 0) (q := 3) (x := a0) rfl rfl (dl_at t_X14_reference 18 rfl) ?_
    refine r_getr (pc := 37) X fX14_6 k6 q1249 (dl_at t_X14_reference 19 rfl) ?_
    refine r_getrN (pc := 40) X fX6_16 k13 (nw_in q681 rfl) (dl_at t_X14_reference 20 rfl) ?_
    refine g_iload_n (pc := 43) X (j := 3) (i := 3) (q := 0) (x := v13) rfl rfl (dl_at t_X14_reference 21 rfl) ?_
    refine g_gd fun k44 => ?_
    refine g_iald (pc := 44) X g13 k44 (dl_at t_X14_reference 22 rfl) fun g44 => ?_
    refine g_aload_n (pc := 45) X (j := 0) (i := 0) (q := 3) (x := a0) rfl rfl (dl_at t_X14_reference 23 rfl) ?_
    refine r_getr (pc := 46) X fX14_6 k6 q1249 (dl_at t_X14_reference 24 rfl) ?_
    refine r_getrN (pc := 49) X fX6_17 k13 (nw_in q684 rfl) (dl_at t_X14_reference 25 rfl) ?_
    refine g_iload_n (pc := 52) X (j := 3) (i := 3) (q := 0) (x := v13) rfl rfl (dl_at t_X14_reference 26 rfl) ?_
    refine g_gd fun k53 => ?_
    refine g_iald (pc := 53) X g13 k53 (dl_at t_X14_reference 27 rfl) fun g53 => ?_
    refine r_callRi (pc := 54) X (fun _ hv => s_X6_byId k13 g44 g53 hv) cw_code q2710 q360 (in_Vk X (As := [rv D (h1 (h1 a0 6) 0), iv (h1 (h1 (h1 a0 6) 16) v13), iv (h1 (h1 (h1 a0 6) 17) v13)]) kX6 k13 (Or.inr ⟨_, nw_in q2707 rfl⟩) q2709 qs144 cw_code q2710 ⟨by decide, by decide⟩ rfl (dl_at t_X14_reference 28 rfl)) (dl_at t_X14_reference 28 rfl) (cat24 (st := []) (Nat.le_of_ble_eq_true rfl)) (Nat.le_of_ble_eq_true rfl) (Nat.le_of_ble_eq_true rfl) fun v54 g54 => ?_
    refine g_ls (ls2 := [(0, rv D a0), (1, iv a1), (2, rv D v1)]) [3, 2, 1] rfl ?_
    exact J57 v54 g54
  refine g_iconst (pc := 21) X (n := (-1)) (dl_at t_X14_reference 11 rfl) ?_
  refine g_goto (pc := 22) X (off := 35) (tgt := 57) rfl (dl_at t_X14_reference 12 rfl) ?_
  refine g_ls (ls2 := [(0, rv D a0), (1, iv a1), (2, rv D v1)]) [3, 2, 1] rfl ?_
  exact J57 (-1) (r32_c rfl)
def k_X14_begin_2 : List (Nat × Instr × Nat) := [(0, .aload_n 0, 1), (1, .getfield 68, 3), (4, .iload_n 1, 1), (5, .aload_n 0, 1), (6, .getfield 205, 3), (9, .iastore, 1), (10, .aload_n 0, 1), (11, .getfield 158, 3), (14, .getfield 462, 3), (17, .iload_n 1, 1), (18, .baload, 1), (19, .ifCond .ne 4, 3), (22, .return_, 1), (23, .aload_n 0, 1), (24, .getfield 158, 3), (27, .iload_n 1, 1), (28, .invokevirtual 465, 3), (31, .ifCond .eq 8, 3), (34, .aload_n 0, 1), (35, .iload_n 1, 1), (36, .invokevirtual 468, 3), (39, .aload_n 0, 1), (40, .getfield 158, 3), (43, .getfield 470, 3), (46, .iload_n 1, 1), (47, .iaload, 1), (96, .aload_n 0, 1), (97, .iload_n 1, 1), (98, .invokevirtual 473, 3), (101, .goto 168, 3), (104, .aload_n 0, 1), (105, .getfield 158, 3), (108, .getfield 476, 3), (111, .iload_n 1, 1), (112, .baload, 1), (113, .ifCond .eq 156, 3), (116, .aload_n 0, 1), (117, .getfield 211, 3), (120, .bipush 40, 2), (122, .if_icmp .ge 7, 3), (125, .iconst 1, 1), (126, .goto 4, 3), (129, .iconst 0, 1), (130, .invokestatic 296, 3), (133, .aload_n 0, 1), (134, .getfield 89, 3), (137, .aload_n 0, 1), (138, .getfield 211, 3), (141, .iload_n 1, 1), (142, .iastore, 1), (143, .aload_n 0, 1), (144, .dup, 1), (145, .getfield 211, 3), (148, .iconst 1, 1), (149, .iadd, 1), (150, .putfield 211, 3), (153, .goto 116, 3), (156, .aload_n 0, 1), (157, .iconst 0, 1), (158, .putfield 479, 3), (161, .aload_n 0, 1), (162, .aload_n 0, 1), (163, .getfield 199, 3), (166, .putfield 482, 3), (169, .aload_n 0, 1), (170, .getfield 154, 3), (173, .getfield 485, 3), (176, .invokevirtual 489, 3), (179, .goto 90, 3), (182, .aload_n 0, 1), (183, .getfield 47, 3), (186, .aload_n 0, 1), (187, .getfield 199, 3), (190, .iconst 0, 1), (191, .iastore, 1), (192, .goto 77, 3), (195, .aload_n 0, 1), (196, .iconst 1, 1), (197, .putfield 413, 3), (200, .aload_n 0, 1), (201, .getfield 154, 3), (204, .getfield 404, 3), (207, .invokevirtual 367, 3), (210, .aload_n 0, 1), (211, .iload_n 1, 1), (212, .invokevirtual 492, 3), (215, .goto 54, 3), (218, .aload_n 0, 1), (219, .getfield 158, 3), (222, .getfield 476, 3), (225, .iload_n 1, 1), (226, .baload, 1), (227, .ifCond .eq 42, 3), (230, .aload_n 0, 1), (231, .invokevirtual 495, 3), (234, .goto 35, 3), (237, .aload_n 0, 1), (238, .getfield 158, 3), (241, .getfield 476, 3), (244, .iload_n 1, 1), (245, .baload, 1), (246, .ifCond .eq 23, 3), (249, .aload_n 0, 1), (250, .invokevirtual 498, 3), (253, .goto 16, 3), (256, .aload_n 0, 1), (257, .iload_n 1, 1), (258, .invokevirtual 501, 3), (261, .goto 8, 3), (264, .aload_n 0, 1), (265, .iload_n 1, 1), (266, .invokevirtual 492, 3), (269, .return_, 1)]
theorem t_X14_begin_2 : ∀ q ∈ k_X14_begin_2, decode cX14_begin_2 q.1 = .ok q.2 := dl_all (by decide +kernel)
theorem dS_X14_begin_2_48 : decode cX14_begin_2 48 = .ok (.tableswitch 216 3 10 #[48, 56, 108, 134, 147, 170, 189, 208], 48) := by decide +kernel
noncomputable def m_X14_begin_2_j130 (a0 a1 s0_130 : Int) (h_39 : Hp) : Option ((Int × Int) × Hp) :=
  bT (m_X1_room s0_130 h_39) (fun _ h130 =>
  gd (h130 (h130 a0 37) (-2) % 16 = 1 ∧ (0 : Int) ≤ (h130 a0 39) ∧ (h130 a0 39) < h130 (h130 a0 37) (-1)) (pt h130 (h130 a0 37) (h130 a0 39) a1 fun h142 =>
  pt h142 a0 39 (w32 ((h142 a0 39) + 1)) fun h150 =>
  some ((0, 0), h150))) (fun a_ h_ => some ((1, a_), h_))
noncomputable def m_X14_begin_2_j39 (a0 a1 : Int) (h_39 : Hp) : Option ((Int × Int) × Hp) :=
  gd (h_39 (h_39 a0 2) (-2) = 112) (gd (h_39 (h_39 (h_39 a0 2) 8) (-2) % 16 = 1 ∧ (0 : Int) ≤ a1 ∧ a1 < h_39 (h_39 (h_39 a0 2) 8) (-1)) (if (h_39 (h_39 (h_39 a0 2) 8) a1) = 3 then (bT (m_X14_beginNote a0 a1 h_39) (fun _ h98 =>
  some ((0, 0), h98)) (fun a_ h_ => some ((1, a_), h_)))
  else (if (h_39 (h_39 (h_39 a0 2) 8) a1) = 4 then (gd (h_39 (h_39 (h_39 a0 2) 7) (-2) % 16 = 3 ∧ (0 : Int) ≤ a1 ∧ a1 < h_39 (h_39 (h_39 a0 2) 7) (-1)) (if (h_39 (h_39 (h_39 a0 2) 7) a1) = 0 then (some ((0, 0), h_39))
  else (if 40 ≤ (h_39 a0 39) then (m_X14_begin_2_j130 a0 a1 0 h_39)
  else (m_X14_begin_2_j130 a0 a1 1 h_39))))
  else (if (h_39 (h_39 (h_39 a0 2) 8) a1) = 5 then (pt h_39 a0 48 0 fun h158 =>
  pt h158 a0 49 (h158 a0 23) fun h166 =>
  gd (h166 (h166 a0 0) (-2) = 160) (gd (h166 (h166 (h166 a0 0) 5) (-2) = 208) ((m_X13_clear (h166 (h166 a0 0) 5) h166).bind fun h176 =>
  some ((0, 0), h176))))
  else (if (h_39 (h_39 (h_39 a0 2) 8) a1) = 6 then (gd (h_39 (h_39 a0 19) (-2) % 16 = 1 ∧ (0 : Int) ≤ (h_39 a0 23) ∧ (h_39 a0 23) < h_39 (h_39 a0 19) (-1)) (pt h_39 (h_39 a0 19) (h_39 a0 23) 0 fun h191 =>
  some ((0, 0), h191)))
  else (if (h_39 (h_39 (h_39 a0 2) 8) a1) = 7 then (pt h_39 a0 47 1 fun h197 =>
  gd (h197 (h197 a0 0) (-2) = 160) (gd (h197 (h197 (h197 a0 0) 2) (-2) = 192) ((m_X12_clear (h197 (h197 a0 0) 2) h197).bind fun h207 =>
  bT (m_X14_label a0 a1 h207) (fun _ h212 =>
  some ((0, 0), h212)) (fun a_ h_ => some ((1, a_), h_)))))
  else (if (h_39 (h_39 (h_39 a0 2) 8) a1) = 8 then (gd (h_39 (h_39 (h_39 a0 2) 7) (-2) % 16 = 3 ∧ (0 : Int) ≤ a1 ∧ a1 < h_39 (h_39 (h_39 a0 2) 7) (-1)) (if (h_39 (h_39 (h_39 a0 2) 7) a1) = 0 then (some ((0, 0), h_39))
  else (bT (m_X14_contents a0 h_39) (fun _ h231 =>
  some ((0, 0), h231)) (fun a_ h_ => some ((1, a_), h_)))))
  else (if (h_39 (h_39 (h_39 a0 2) 8) a1) = 9 then (gd (h_39 (h_39 (h_39 a0 2) 7) (-2) % 16 = 3 ∧ (0 : Int) ≤ a1 ∧ a1 < h_39 (h_39 (h_39 a0 2) 7) (-1)) (if (h_39 (h_39 (h_39 a0 2) 7) a1) = 0 then (some ((0, 0), h_39))
  else (bT (m_X14_index a0 h_39) (fun _ h250 =>
  some ((0, 0), h250)) (fun a_ h_ => some ((1, a_), h_)))))
  else (if (h_39 (h_39 (h_39 a0 2) 8) a1) = 10 then (bT (m_X14_reference a0 a1 h_39) (fun _ h258 =>
  some ((0, 0), h258)) (fun a_ h_ => some ((1, a_), h_)))
  else (bT (m_X14_label a0 a1 h_39) (fun _ h266 =>
  some ((0, 0), h266)) (fun a_ h_ => some ((1, a_), h_))))))))))))
noncomputable def m_X14_begin_2 (a0 a1 : Int) (h : Hp) : Option ((Int × Int) × Hp) :=
  gd (h (h a0 29) (-2) % 16 = 1 ∧ (0 : Int) ≤ a1 ∧ a1 < h (h a0 29) (-1)) (pt h (h a0 29) a1 (h a0 27) fun h9 =>
  gd (h9 (h9 a0 2) (-2) = 112) (gd (h9 (h9 (h9 a0 2) 6) (-2) % 16 = 3 ∧ (0 : Int) ≤ a1 ∧ a1 < h9 (h9 (h9 a0 2) 6) (-1)) (if (h9 (h9 (h9 a0 2) 6) a1) ≠ 0 then ((m_X7_isBlock (h9 a0 2) a1 h9).bind fun v28 =>
  if v28 = 0 then (m_X14_begin_2_j39 a0 a1 h9)
  else (bT (m_X14_open a0 a1 h9) (fun _ h36 =>
  m_X14_begin_2_j39 a0 a1 h36) (fun a_ h_ => some ((1, a_), h_))))
  else (some ((0, 0), h9)))))
theorem s_X14_begin_2 {l : Launch} [NoTr l] {D : SD} {a0 a1 : Int} {h : Hp} (hk : h a0 (-2) = 224) (r1 : r32 a1) {r : (Int × Int) × Hp} (hm : m_X14_begin_2 a0 a1 h = some r) : Sim l D yX14_begin_2 (Cond.code yX14_begin_2 cX14_begin_2 2 (Option.none : Option Jvm.ClassFile.FieldType)) 42 1599 [rv D a0, iv a1] h 0 r := by
  refine Sim.of (fin := fun (v : (Int × Int) × Hp) => v) (lsE := [(0, rv D a0), (1, iv a1)]) hm rfl cwS_code (la_r (la_i la_n)) (ll_r (ll_i ll_n)) ?_
  intro p e s m below meth c X hcw hmm hcc hnm hname
  have hno := noh hcw hnm hmm hcc
  unfold m_X14_begin_2
  refine g_aload_n (pc := 0) X (j := 0) (i := 0) (q := 0) (x := a0) rfl rfl (dl_at t_X14_begin_2 0 rfl) ?_
  refine r_getr (pc := 1) X fX14_29 hk q1282 (dl_at t_X14_begin_2 1 rfl) ?_
  refine g_iload_n (pc := 4) X (j := 1) (i := 1) (q := 1) (x := a1) rfl rfl (dl_at t_X14_begin_2 2 rfl) ?_
  refine g_aload_n (pc := 5) X (j := 0) (i := 0) (q := 0) (x := a0) rfl rfl (dl_at t_X14_begin_2 3 rfl) ?_
  refine r_geti (pc := 6) X fX14_27 hk q1280 (dl_at t_X14_begin_2 4 rfl) fun g6 => ?_
  refine g_gd fun k9 => ?_
  refine r_iast (pc := 9) X r1 g6 k9 (dl_at t_X14_begin_2 5 rfl) (fun h9 E9 => ?_)
  refine g_aload_n (pc := 10) X (j := 0) (i := 0) (q := 0) (x := a0) rfl rfl (dl_at t_X14_begin_2 6 rfl) ?_
  have k11 := kx E9 (by decide) hk
  refine r_getr (pc := 11) X fX14_2 k11 q1243 (dl_at t_X14_begin_2 7 rfl) ?_
  refine g_gd fun k14 => ?_
  refine r_getrN (pc := 14) X fX7_6 k14 (nw_in q790 rfl) (dl_at t_X14_begin_2 8 rfl) ?_
  refine g_iload_n (pc := 17) X (j := 1) (i := 1) (q := 1) (x := a1) rfl rfl (dl_at t_X14_begin_2 9 rfl) ?_
  refine g_gd fun k18 => ?_
  refine g_zald (pc := 18) X r1 k18 (dl_at t_X14_begin_2 10 rfl) fun g18 => ?_
  refine g_ifne (pc := 19) X (r32_z g18) (off := 4) (tgt := 23) rfl (dl_at t_X14_begin_2 11 rfl) (fun _ => ?_) (fun _ => ?_)
  · refine g_aload_n (pc := 23) X (j := 0) (i := 0) (q := 0) (x := a0) rfl rfl (dl_at t_X14_begin_2 13 rfl) ?_
    refine r_getr (pc := 24) X fX14_2 k11 q1243 (dl_at t_X14_begin_2 14 rfl) ?_
    refine g_iload_n (pc := 27) X (j := 1) (i := 1) (q := 1) (x := a1) rfl rfl (dl_at t_X14_begin_2 15 rfl) ?_
    refine r_callRz (pc := 28) X (fun _ hv => s_X7_isBlock k14 r1 hv) cw_code q2488 q361 (in_Vk X (As := [iv a1]) kX7 k14 (Or.inr ⟨_, nw_in q2485 rfl⟩) q2487 qs115 cw_code q2488 ⟨by decide, by decide⟩ rfl (dl_at t_X14_begin_2 16 rfl)) (dl_at t_X14_begin_2 16 rfl) (cat24 (st := []) (Nat.le_of_ble_eq_true rfl)) (Nat.le_of_ble_eq_true rfl) (Nat.le_of_ble_eq_true rfl) fun v28 g28 => ?_
    refine g_join (γ := Hp) (fun q => Ext h9 q) 39 (fun q => [(0, rv D a0), (1, iv a1)]) (fun q => []) (fun q => q) (fun q => m_X14_begin_2_j39 a0 a1 q) ?_ ?_
    · rintro h_39 E_39
      try dsimp only
      unfold m_X14_begin_2_j39
      refine g_aload_n (pc := 39) X (j := 0) (i := 0) (q := 0) (x := a0) rfl rfl (dl_at t_X14_begin_2 21 rfl) ?_
      have k40 := kx E_39 (by decide) k11
      refine r_getr (pc := 40) X fX14_2 k40 q1243 (dl_at t_X14_begin_2 22 rfl) ?_
      refine g_gd fun k43 => ?_
      refine r_getrN (pc := 43) X fX7_8 k43 (nw_in q798 rfl) (dl_at t_X14_begin_2 23 rfl) ?_
      refine g_iload_n (pc := 46) X (j := 1) (i := 1) (q := 1) (x := a1) rfl rfl (dl_at t_X14_begin_2 24 rfl) ?_
      refine g_gd fun k47 => ?_
      refine g_iald (pc := 47) X r1 k47 (dl_at t_X14_begin_2 25 rfl) fun g47 => ?_
      refine g_case (fun w48 => ?_) (fun nw48 => ?_)
      · refine g_tabIn (pc := 48) X (off := 48) (tgt := 96) g47 w48 (by decide) (by decide) rfl rfl dS_X14_begin_2_48 ?_
        refine g_aload_n (pc := 96) X (j := 0) (i := 0) (q := 0) (x := a0) rfl rfl (dl_at t_X14_begin_2 26 rfl) ?_
        refine g_iload_n (pc := 97) X (j := 1) (i := 1) (q := 1) (x := a1) rfl rfl (dl_at t_X14_begin_2 27 rfl) ?_
        refine r_callTv (pc := 98) X (fun _ hv => s_X14_beginNote k40 r1 hv) cw_code q2680 q368 (in_Vk X (As := [iv a1]) kX14 k40 (Or.inl q2677) q2679 qs138 cw_code q2680 ⟨by decide, by decide⟩ rfl (dl_at t_X14_begin_2 28 rfl)) (dl_at t_X14_begin_2 28 rfl) (cat24 (st := []) (Nat.le_of_ble_eq_true rfl)) (Nat.le_of_ble_eq_true rfl) (Nat.le_of_ble_eq_true rfl) (fun v98 h98 E98 => ?_) (fun _ _ ha _ => gt_at fun Q hQ => gt_out (Q := Q) X rfl ha (hno _) _ Q rfl hQ)
        refine g_goto (pc := 101) X (off := 168) (tgt := 269) rfl (dl_at t_X14_begin_2 29 rfl) ?_
        exact g_vret (pc := 269) X (v := 0) rfl rfl (dl_at t_X14_begin_2 112 rfl)
      refine g_case (fun w48_1 => ?_) (fun nw48_1 => ?_)
      · refine g_tabIn (pc := 48) X (off := 56) (tgt := 104) g47 w48_1 (by decide) (by decide) rfl rfl dS_X14_begin_2_48 ?_
        refine g_aload_n (pc := 104) X (j := 0) (i := 0) (q := 0) (x := a0) rfl rfl (dl_at t_X14_begin_2 30 rfl) ?_
        refine r_getr (pc := 105) X fX14_2 k40 q1243 (dl_at t_X14_begin_2 31 rfl) ?_
        refine r_getrN (pc := 108) X fX7_7 k43 (nw_in q794 rfl) (dl_at t_X14_begin_2 32 rfl) ?_
        refine g_iload_n (pc := 111) X (j := 1) (i := 1) (q := 1) (x := a1) rfl rfl (dl_at t_X14_begin_2 33 rfl) ?_
        refine g_gd fun k112 => ?_
        refine g_zald (pc := 112) X r1 k112 (dl_at t_X14_begin_2 34 rfl) fun g112 => ?_
        refine g_ifeq (pc := 113) X (r32_z g112) (off := 156) (tgt := 269) rfl (dl_at t_X14_begin_2 35 rfl) (fun _ => ?_) (fun _ => ?_)
        · exact g_vret (pc := 269) X (v := 0) rfl rfl (dl_at t_X14_begin_2 112 rfl)
        refine g_aload_n (pc := 116) X (j := 0) (i := 0) (q := 0) (x := a0) rfl rfl (dl_at t_X14_begin_2 36 rfl) ?_
        refine r_geti (pc := 117) X fX14_39 k40 q1299 (dl_at t_X14_begin_2 37 rfl) fun g117 => ?_
        refine g_bipush (pc := 120) X (n := 40) rfl (dl_at t_X14_begin_2 38 rfl) ?_
        refine g_join (γ := Int) (fun q => (q = 0 ∨ q = 1)) 130 (fun q => [(0, rv D a0), (1, iv a1)]) (fun q => [iv q]) (fun q => h_39) (fun q => m_X14_begin_2_j130 a0 a1 q h_39) ?_ ?_
        · rintro s0_130 rs0_130
          try dsimp only
          unfold m_X14_begin_2_j130
          refine r_callTv (pc := 130) X (fun _ hv => s_X1_room rs0_130 hv) cw_code q1653 q355 (in_Sc X (As := [iv s0_130]) (Or.inr ⟨_, nw_in q2522 rfl⟩) q1652 q355 q1653 ⟨by decide, by decide⟩ rfl (dl_at t_X14_begin_2 43 rfl)) (dl_at t_X14_begin_2 43 rfl) (cat24 (st := []) (Nat.le_of_ble_eq_true rfl)) (Nat.le_of_ble_eq_true rfl) (Nat.le_of_ble_eq_true rfl) (fun v130 h130 E130 => ?_) (fun _ _ ha _ => gt_at fun Q hQ => gt_out (Q := Q) X rfl ha (hno _) _ Q rfl hQ)
          refine g_aload_n (pc := 133) X (j := 0) (i := 0) (q := 0) (x := a0) rfl rfl (dl_at t_X14_begin_2 44 rfl) ?_
          have k134 := kx E130 (by decide) k40
          refine r_getr (pc := 134) X fX14_37 k134 q1295 (dl_at t_X14_begin_2 45 rfl) ?_
          refine g_aload_n (pc := 137) X (j := 0) (i := 0) (q := 0) (x := a0) rfl rfl (dl_at t_X14_begin_2 46 rfl) ?_
          refine r_geti (pc := 138) X fX14_39 k134 q1299 (dl_at t_X14_begin_2 47 rfl) fun g138 => ?_
          refine g_iload_n (pc := 141) X (j := 1) (i := 1) (q := 1) (x := a1) rfl rfl (dl_at t_X14_begin_2 48 rfl) ?_
          refine g_gd fun k142 => ?_
          refine r_iast (pc := 142) X g138 r1 k142 (dl_at t_X14_begin_2 49 rfl) (fun h142 E142 => ?_)
          refine g_aload_n (pc := 143) X (j := 0) (i := 0) (q := 0) (x := a0) rfl rfl (dl_at t_X14_begin_2 50 rfl) ?_
          refine g_dup (pc := 144) X rv_cat (dl_at t_X14_begin_2 51 rfl) ?_
          have k145 := kx E142 (by decide) k134
          refine r_geti (pc := 145) X fX14_39 k145 q1299 (dl_at t_X14_begin_2 52 rfl) fun g145 => ?_
          refine g_iconst (pc := 148) X (n := 1) (dl_at t_X14_begin_2 53 rfl) ?_
          refine g_iadd (pc := 149) X g145 (r32_c rfl) (dl_at t_X14_begin_2 54 rfl) ?_
          refine r_puti (pc := 150) X fX14_39 k145 q1299 rfl (dl_at t_X14_begin_2 55 rfl) (r32_w _) (fun h150 E150 => ?_)
          refine g_goto (pc := 153) X (off := 116) (tgt := 269) rfl (dl_at t_X14_begin_2 56 rfl) ?_
          exact g_vret (pc := 269) X (v := 0) rfl rfl (dl_at t_X14_begin_2 112 rfl)
        intro J130
        refine g_icmpge (pc := 122) X g117 (r32_c rfl) (off := 7) (tgt := 129) rfl (dl_at t_X14_begin_2 39 rfl) (fun _ => ?_) (fun _ => ?_)
        · refine g_iconst (pc := 129) X (n := 0) (dl_at t_X14_begin_2 42 rfl) ?_
          exact J130 0 (Or.inl rfl)
        refine g_iconst (pc := 125) X (n := 1) (dl_at t_X14_begin_2 40 rfl) ?_
        refine g_goto (pc := 126) X (off := 4) (tgt := 130) rfl (dl_at t_X14_begin_2 41 rfl) ?_
        exact J130 1 (Or.inr rfl)
      refine g_case (fun w48_2 => ?_) (fun nw48_2 => ?_)
      · refine g_tabIn (pc := 48) X (off := 108) (tgt := 156) g47 w48_2 (by decide) (by decide) rfl rfl dS_X14_begin_2_48 ?_
        refine g_aload_n (pc := 156) X (j := 0) (i := 0) (q := 0) (x := a0) rfl rfl (dl_at t_X14_begin_2 57 rfl) ?_
        refine g_iconst (pc := 157) X (n := 0) (dl_at t_X14_begin_2 58 rfl) ?_
        refine r_puti (pc := 158) X fX14_48 k40 q1310 rfl (dl_at t_X14_begin_2 59 rfl) (r32_c rfl) (fun h158 E158 => ?_)
        refine g_aload_n (pc := 161) X (j := 0) (i := 0) (q := 0) (x := a0) rfl rfl (dl_at t_X14_begin_2 60 rfl) ?_
        refine g_aload_n (pc := 162) X (j := 0) (i := 0) (q := 0) (x := a0) rfl rfl (dl_at t_X14_begin_2 61 rfl) ?_
        have k163 := kx E158 (by decide) k40
        refine r_geti (pc := 163) X fX14_23 k163 q1276 (dl_at t_X14_begin_2 62 rfl) fun g163 => ?_
        refine r_puti (pc := 166) X fX14_49 k163 q1311 rfl (dl_at t_X14_begin_2 63 rfl) g163 (fun h166 E166 => ?_)
        refine g_aload_n (pc := 169) X (j := 0) (i := 0) (q := 0) (x := a0) rfl rfl (dl_at t_X14_begin_2 64 rfl) ?_
        have k170 := kx E166 (by decide) k163
        refine r_getr (pc := 170) X fX14_0 k170 q1241 (dl_at t_X14_begin_2 65 rfl) ?_
        refine g_gd fun k173 => ?_
        refine r_getrN (pc := 173) X fX10_5 k173 (nw_in q1048 rfl) (dl_at t_X14_begin_2 66 rfl) ?_
        refine g_gd fun k176 => ?_
        refine r_callV (pc := 176) X (fun _ hv => s_X13_clear k176 hv) cw_code q2742 q367 (in_Vk X (As := []) kX13 k176 (Or.inr ⟨_, nw_in q2739 rfl⟩) q2741 qs150 cw_code q2742 ⟨by decide, by decide⟩ rfl (dl_at t_X14_begin_2 67 rfl)) (dl_at t_X14_begin_2 67 rfl) (cat24 (st := []) (Nat.le_of_ble_eq_true rfl)) (Nat.le_of_ble_eq_true rfl) (Nat.le_of_ble_eq_true rfl) fun h176 E176 => ?_
        refine g_goto (pc := 179) X (off := 90) (tgt := 269) rfl (dl_at t_X14_begin_2 68 rfl) ?_
        exact g_vret (pc := 269) X (v := 0) rfl rfl (dl_at t_X14_begin_2 112 rfl)
      refine g_case (fun w48_3 => ?_) (fun nw48_3 => ?_)
      · refine g_tabIn (pc := 48) X (off := 134) (tgt := 182) g47 w48_3 (by decide) (by decide) rfl rfl dS_X14_begin_2_48 ?_
        refine g_aload_n (pc := 182) X (j := 0) (i := 0) (q := 0) (x := a0) rfl rfl (dl_at t_X14_begin_2 69 rfl) ?_
        refine r_getr (pc := 183) X fX14_19 k40 q1271 (dl_at t_X14_begin_2 70 rfl) ?_
        refine g_aload_n (pc := 186) X (j := 0) (i := 0) (q := 0) (x := a0) rfl rfl (dl_at t_X14_begin_2 71 rfl) ?_
        refine r_geti (pc := 187) X fX14_23 k40 q1276 (dl_at t_X14_begin_2 72 rfl) fun g187 => ?_
        refine g_iconst (pc := 190) X (n := 0) (dl_at t_X14_begin_2 73 rfl) ?_
        refine g_gd fun k191 => ?_
        refine r_iast (pc := 191) X g187 (r32_c rfl) k191 (dl_at t_X14_begin_2 74 rfl) (fun h191 E191 => ?_)
        refine g_goto (pc := 192) X (off := 77) (tgt := 269) rfl (dl_at t_X14_begin_2 75 rfl) ?_
        exact g_vret (pc := 269) X (v := 0) rfl rfl (dl_at t_X14_begin_2 112 rfl)
      refine g_case (fun w48_4 => ?_) (fun nw48_4 => ?_)
      · refine g_tabIn (pc := 48) X (off := 147) (tgt := 195) g47 w48_4 (by decide) (by decide) rfl rfl dS_X14_begin_2_48 ?_
        refine g_aload_n (pc := 195) X (j := 0) (i := 0) (q := 0) (x := a0) rfl rfl (dl_at t_X14_begin_2 76 rfl) ?_
        refine g_iconst (pc := 196) X (n := 1) (dl_at t_X14_begin_2 77 rfl) ?_
        refine r_putz (pc := 197) X fX14_47 k40 q1309 rfl (dl_at t_X14_begin_2 78 rfl) (Or.inr rfl) (fun h197 E197 => ?_)
        refine g_aload_n (pc := 200) X (j := 0) (i := 0) (q := 0) (x := a0) rfl rfl (dl_at t_X14_begin_2 79 rfl) ?_
        have k201 := kx E197 (by decide) k40
        refine r_getr (pc := 201) X fX14_0 k201 q1241 (dl_at t_X14_begin_2 80 rfl) ?_
        refine g_gd fun k204 => ?_
        refine r_getrN (pc := 204) X fX10_2 k204 (nw_in q1041 rfl) (dl_at t_X14_begin_2 81 rfl) ?_
        refine g_gd fun k207 => ?_
        refine r_callV (pc := 207) X (fun _ hv => s_X12_clear k207 hv) cw_code q2480 q366 (in_Vk X (As := []) kX12 k207 (Or.inr ⟨_, nw_in q2477 rfl⟩) q2479 qs113 cw_code q2480 ⟨by decide, by decide⟩ rfl (dl_at t_X14_begin_2 82 rfl)) (dl_at t_X14_begin_2 82 rfl) (cat24 (st := []) (Nat.le_of_ble_eq_true rfl)) (Nat.le_of_ble_eq_true rfl) (Nat.le_of_ble_eq_true rfl) fun h207 E207 => ?_
        refine g_aload_n (pc := 210) X (j := 0) (i := 0) (q := 0) (x := a0) rfl rfl (dl_at t_X14_begin_2 83 rfl) ?_
        refine g_iload_n (pc := 211) X (j := 1) (i := 1) (q := 1) (x := a1) rfl rfl (dl_at t_X14_begin_2 84 rfl) ?_
        have k212 := kx E207 (by decide) k201
        refine r_callTv (pc := 212) X (fun _ hv => s_X14_label k212 r1 hv) cw_code q2736 q368 (in_Vk X (As := [iv a1]) kX14 k212 (Or.inl q2733) q2735 qs149 cw_code q2736 ⟨by decide, by decide⟩ rfl (dl_at t_X14_begin_2 85 rfl)) (dl_at t_X14_begin_2 85 rfl) (cat24 (st := []) (Nat.le_of_ble_eq_true rfl)) (Nat.le_of_ble_eq_true rfl) (Nat.le_of_ble_eq_true rfl) (fun v212 h212 E212 => ?_) (fun _ _ ha _ => gt_at fun Q hQ => gt_out (Q := Q) X rfl ha (hno _) _ Q rfl hQ)
        refine g_goto (pc := 215) X (off := 54) (tgt := 269) rfl (dl_at t_X14_begin_2 86 rfl) ?_
        exact g_vret (pc := 269) X (v := 0) rfl rfl (dl_at t_X14_begin_2 112 rfl)
      refine g_case (fun w48_5 => ?_) (fun nw48_5 => ?_)
      · refine g_tabIn (pc := 48) X (off := 170) (tgt := 218) g47 w48_5 (by decide) (by decide) rfl rfl dS_X14_begin_2_48 ?_
        refine g_aload_n (pc := 218) X (j := 0) (i := 0) (q := 0) (x := a0) rfl rfl (dl_at t_X14_begin_2 87 rfl) ?_
        refine r_getr (pc := 219) X fX14_2 k40 q1243 (dl_at t_X14_begin_2 88 rfl) ?_
        refine r_getrN (pc := 222) X fX7_7 k43 (nw_in q794 rfl) (dl_at t_X14_begin_2 89 rfl) ?_
        refine g_iload_n (pc := 225) X (j := 1) (i := 1) (q := 1) (x := a1) rfl rfl (dl_at t_X14_begin_2 90 rfl) ?_
        refine g_gd fun k226 => ?_
        refine g_zald (pc := 226) X r1 k226 (dl_at t_X14_begin_2 91 rfl) fun g226 => ?_
        refine g_ifeq (pc := 227) X (r32_z g226) (off := 42) (tgt := 269) rfl (dl_at t_X14_begin_2 92 rfl) (fun _ => ?_) (fun _ => ?_)
        · exact g_vret (pc := 269) X (v := 0) rfl rfl (dl_at t_X14_begin_2 112 rfl)
        refine g_aload_n (pc := 230) X (j := 0) (i := 0) (q := 0) (x := a0) rfl rfl (dl_at t_X14_begin_2 93 rfl) ?_
        refine r_callTv (pc := 231) X (fun _ hv => s_X14_contents k40 hv) cw_code q2746 q368 (in_Vk X (As := []) kX14 k40 (Or.inl q2743) q2745 qs151 cw_code q2746 ⟨by decide, by decide⟩ rfl (dl_at t_X14_begin_2 94 rfl)) (dl_at t_X14_begin_2 94 rfl) (cat24 (st := []) (Nat.le_of_ble_eq_true rfl)) (Nat.le_of_ble_eq_true rfl) (Nat.le_of_ble_eq_true rfl) (fun v231 h231 E231 => ?_) (fun _ _ ha _ => gt_at fun Q hQ => gt_out (Q := Q) X rfl ha (hno _) _ Q rfl hQ)
        refine g_goto (pc := 234) X (off := 35) (tgt := 269) rfl (dl_at t_X14_begin_2 95 rfl) ?_
        exact g_vret (pc := 269) X (v := 0) rfl rfl (dl_at t_X14_begin_2 112 rfl)
      refine g_case (fun w48_6 => ?_) (fun nw48_6 => ?_)
      · refine g_tabIn (pc := 48) X (off := 189) (tgt := 237) g47 w48_6 (by decide) (by decide) rfl rfl dS_X14_begin_2_48 ?_
        refine g_aload_n (pc := 237) X (j := 0) (i := 0) (q := 0) (x := a0) rfl rfl (dl_at t_X14_begin_2 96 rfl) ?_
        refine r_getr (pc := 238) X fX14_2 k40 q1243 (dl_at t_X14_begin_2 97 rfl) ?_
        refine r_getrN (pc := 241) X fX7_7 k43 (nw_in q794 rfl) (dl_at t_X14_begin_2 98 rfl) ?_
        refine g_iload_n (pc := 244) X (j := 1) (i := 1) (q := 1) (x := a1) rfl rfl (dl_at t_X14_begin_2 99 rfl) ?_
        refine g_gd fun k245 => ?_
        refine g_zald (pc := 245) X r1 k245 (dl_at t_X14_begin_2 100 rfl) fun g245 => ?_
        refine g_ifeq (pc := 246) X (r32_z g245) (off := 23) (tgt := 269) rfl (dl_at t_X14_begin_2 101 rfl) (fun _ => ?_) (fun _ => ?_)
        · exact g_vret (pc := 269) X (v := 0) rfl rfl (dl_at t_X14_begin_2 112 rfl)
        refine g_aload_n (pc := 249) X (j := 0) (i := 0) (q := 0) (x := a0) rfl rfl (dl_at t_X14_begin_2 102 rfl) ?_
        refine r_callTv (pc := 250) X (fun _ hv => s_X14_index k40 hv) cw_code q2751 q368 (in_Vk X (As := []) kX14 k40 (Or.inl q2748) q2750 qs152 cw_code q2751 ⟨by decide, by decide⟩ rfl (dl_at t_X14_begin_2 103 rfl)) (dl_at t_X14_begin_2 103 rfl) (cat24 (st := []) (Nat.le_of_ble_eq_true rfl)) (Nat.le_of_ble_eq_true rfl) (Nat.le_of_ble_eq_true rfl) (fun v250 h250 E250 => ?_) (fun _ _ ha _ => gt_at fun Q hQ => gt_out (Q := Q) X rfl ha (hno _) _ Q rfl hQ)
        refine g_goto (pc := 253) X (off := 16) (tgt := 269) rfl (dl_at t_X14_begin_2 104 rfl) ?_
        exact g_vret (pc := 269) X (v := 0) rfl rfl (dl_at t_X14_begin_2 112 rfl)
      refine g_case (fun w48_7 => ?_) (fun nw48_7 => ?_)
      · refine g_tabIn (pc := 48) X (off := 208) (tgt := 256) g47 w48_7 (by decide) (by decide) rfl rfl dS_X14_begin_2_48 ?_
        refine g_aload_n (pc := 256) X (j := 0) (i := 0) (q := 0) (x := a0) rfl rfl (dl_at t_X14_begin_2 105 rfl) ?_
        refine g_iload_n (pc := 257) X (j := 1) (i := 1) (q := 1) (x := a1) rfl rfl (dl_at t_X14_begin_2 106 rfl) ?_
        refine r_callTv (pc := 258) X (fun _ hv => s_X14_reference k40 r1 hv) cw_code q2761 q368 (in_Vk X (As := [iv a1]) kX14 k40 (Or.inl q2758) q2760 qs154 cw_code q2761 ⟨by decide, by decide⟩ rfl (dl_at t_X14_begin_2 107 rfl)) (dl_at t_X14_begin_2 107 rfl) (cat24 (st := []) (Nat.le_of_ble_eq_true rfl)) (Nat.le_of_ble_eq_true rfl) (Nat.le_of_ble_eq_true rfl) (fun v258 h258 E258 => ?_) (fun _ _ ha _ => gt_at fun Q hQ => gt_out (Q := Q) X rfl ha (hno _) _ Q rfl hQ)
        refine g_goto (pc := 261) X (off := 8) (tgt := 269) rfl (dl_at t_X14_begin_2 108 rfl) ?_
        exact g_vret (pc := 269) X (v := 0) rfl rfl (dl_at t_X14_begin_2 112 rfl)
      have w48_8 : ¬ (h_39 (h_39 (h_39 a0 2) 8) a1) ∈ ([3, 4, 5, 6, 7, 8, 9, 10] : List Int) := by simp only [List.mem_cons, List.not_mem_nil, or_false, not_or] at *; simp only [*, not_false_eq_true, and_self]
      refine g_tabElse (pc := 48) X (tgt := 264) [3, 4, 5, 6, 7, 8, 9, 10] g47 w48_8 rfl rfl dS_X14_begin_2_48 ?_
      refine g_aload_n (pc := 264) X (j := 0) (i := 0) (q := 0) (x := a0) rfl rfl (dl_at t_X14_begin_2 109 rfl) ?_
      refine g_iload_n (pc := 265) X (j := 1) (i := 1) (q := 1) (x := a1) rfl rfl (dl_at t_X14_begin_2 110 rfl) ?_
      refine r_callTv (pc := 266) X (fun _ hv => s_X14_label k40 r1 hv) cw_code q2736 q368 (in_Vk X (As := [iv a1]) kX14 k40 (Or.inl q2733) q2735 qs149 cw_code q2736 ⟨by decide, by decide⟩ rfl (dl_at t_X14_begin_2 111 rfl)) (dl_at t_X14_begin_2 111 rfl) (cat24 (st := []) (Nat.le_of_ble_eq_true rfl)) (Nat.le_of_ble_eq_true rfl) (Nat.le_of_ble_eq_true rfl) (fun v266 h266 E266 => ?_) (fun _ _ ha _ => gt_at fun Q hQ => gt_out (Q := Q) X rfl ha (hno _) _ Q rfl hQ)
      exact g_vret (pc := 269) X (v := 0) rfl rfl (dl_at t_X14_begin_2 112 rfl)
    intro J39
    refine g_ifeq (pc := 31) X (r32_z g28) (off := 8) (tgt := 39) rfl (dl_at t_X14_begin_2 17 rfl) (fun _ => ?_) (fun _ => ?_)
    · exact J39 h9 (Ext.refl _)
    refine g_aload_n (pc := 34) X (j := 0) (i := 0) (q := 0) (x := a0) rfl rfl (dl_at t_X14_begin_2 18 rfl) ?_
    refine g_iload_n (pc := 35) X (j := 1) (i := 1) (q := 1) (x := a1) rfl rfl (dl_at t_X14_begin_2 19 rfl) ?_
    refine r_callTv (pc := 36) X (fun _ hv => s_X14_open k11 r1 hv) cw_code q2492 q368 (in_Vk X (As := [iv a1]) kX14 k11 (Or.inl q2489) q2491 qs116 cw_code q2492 ⟨by decide, by decide⟩ rfl (dl_at t_X14_begin_2 20 rfl)) (dl_at t_X14_begin_2 20 rfl) (cat24 (st := []) (Nat.le_of_ble_eq_true rfl)) (Nat.le_of_ble_eq_true rfl) (Nat.le_of_ble_eq_true rfl) (fun v36 h36 E36 => ?_) (fun _ _ ha _ => gt_at fun Q hQ => gt_out (Q := Q) X rfl ha (hno _) _ Q rfl hQ)
    exact J39 h36 E36
  exact g_vret (pc := 22) X (v := 0) rfl rfl (dl_at t_X14_begin_2 12 rfl)
def k_X14_endNote : List (Nat × Instr × Nat) := [(0, .aload_n 0, 1), (1, .iconst 0, 1), (2, .putfield 410, 3), (5, .aload_n 0, 1), (6, .aload_n 0, 1), (7, .getfield 154, 3), (10, .getfield 407, 3), (13, .iload_n 1, 1), (14, .invokevirtual 368, 3), (17, .astore_n 2, 1), (18, .aload_n 2, 1), (19, .aload_n 0, 1), (20, .getfield 168, 3), (23, .getfield 284, 3), (26, .putfield 393, 3), (29, .aload_n 0, 1), (30, .getfield 83, 3), (33, .aload_n 0, 1), (34, .getfield 208, 3), (37, .iconst 1, 1), (38, .isub, 1), (39, .aload_n 2, 1), (40, .aastore, 1), (41, .return_, 1)]
theorem t_X14_endNote : ∀ q ∈ k_X14_endNote, decode cX14_endNote q.1 = .ok q.2 := dl_all (by decide +kernel)
noncomputable def m_X14_endNote (a0 a1 : Int) (h : Hp) : Option ((Int × Int) × Hp) :=
  pt h a0 46 0 fun h2 =>
  gd (h2 (h2 a0 0) (-2) = 160) (bT (m_X14_paragraph a0 (h2 (h2 a0 0) 3) a1 h2) (fun v14 h14 =>
  gd (h14 (h14 a0 3) (-2) = 48) (gd (h14 v14 (-2) = 288) (pt h14 v14 4 (h14 (h14 a0 3) 23) fun h26 =>
  gd (h26 (h26 a0 34) (-2) % 16 = 9 ∧ (0 : Int) ≤ (w32 ((h26 a0 36) - 1)) ∧ (w32 ((h26 a0 36) - 1)) < h26 (h26 a0 34) (-1)) (pt h26 (h26 a0 34) (w32 ((h26 a0 36) - 1)) v14 fun h40 =>
  some ((0, 0), h40))))) (fun a_ h_ => some ((1, a_), h_)))
theorem s_X14_endNote {l : Launch} [NoTr l] {D : SD} {a0 a1 : Int} {h : Hp} (hk : h a0 (-2) = 224) (r1 : r32 a1) {r : (Int × Int) × Hp} (hm : m_X14_endNote a0 a1 h = some r) : Sim l D yX14_endNote (Cond.code yX14_endNote cX14_endNote 3 (Option.none : Option Jvm.ClassFile.FieldType)) 13 490 [rv D a0, iv a1] h 0 r := by
  refine Sim.of (fin := fun (v : (Int × Int) × Hp) => v) (lsE := [(0, rv D a0), (1, iv a1)]) hm rfl cwS_code (la_r (la_i la_n)) (ll_r (ll_i ll_n)) ?_
  intro p e s m below meth c X hcw hmm hcc hnm hname
  have hno := noh hcw hnm hmm hcc
  unfold m_X14_endNote
  refine g_aload_n (pc := 0) X (j := 0) (i := 0) (q := 0) (x := a0) rfl rfl (dl_at t_X14_endNote 0 rfl) ?_
  refine g_iconst (pc := 1) X (n := 0) (dl_at t_X14_endNote 1 rfl) ?_
  refine r_putz (pc := 2) X fX14_46 hk q1308 rfl (dl_at t_X14_endNote 2 rfl) (Or.inl rfl) (fun h2 E2 => ?_)
  refine g_aload_n (pc := 5) X (j := 0) (i := 0) (q := 0) (x := a0) rfl rfl (dl_at t_X14_endNote 3 rfl) ?_
  refine g_aload_n (pc := 6) X (j := 0) (i := 0) (q := 0) (x := a0) rfl rfl (dl_at t_X14_endNote 4 rfl) ?_
  have k7 := kx E2 (by decide) hk
  refine r_getr (pc := 7) X fX14_0 k7 q1241 (dl_at t_X14_endNote 5 rfl) ?_
  refine g_gd fun k10 => ?_
  refine r_getrN (pc := 10) X fX10_3 k10 (nw_in q1043 rfl) (dl_at t_X14_endNote 6 rfl) ?_
  refine g_iload_n (pc := 13) X (j := 1) (i := 1) (q := 1) (x := a1) rfl rfl (dl_at t_X14_endNote 7 rfl) ?_
  refine r_callTr (pc := 14) X (fun _ hv => s_X14_paragraph k7 r1 hv) cw_code q2521 q368 (in_Vk X (As := [rv D (h2 (h2 a0 0) 3), iv a1]) kX14 k7 (Or.inl q2518) q2520 qs123 cw_code q2521 ⟨by decide, by decide⟩ rfl (dl_at t_X14_endNote 8 rfl)) (dl_at t_X14_endNote 8 rfl) (cat24 (st := []) (Nat.le_of_ble_eq_true rfl)) (Nat.le_of_ble_eq_true rfl) (Nat.le_of_ble_eq_true rfl) (fun v14 h14 E14 => ?_) (fun _ _ ha _ => gt_at fun Q hQ => gt_out (Q := Q) X rfl ha (hno _) _ Q rfl hQ)
  refine g_astore_n (pc := 17) X (j := 2) (i := 2) (x := v14) (rest := [(0, rv D a0)]) rfl (Nat.le_of_ble_eq_true rfl) [0] rfl rfl (dl_at t_X14_endNote 9 rfl) ?_
  refine g_aload_n (pc := 18) X (j := 2) (i := 2) (q := 0) (x := v14) rfl rfl (dl_at t_X14_endNote 10 rfl) ?_
  refine g_aload_n (pc := 19) X (j := 0) (i := 0) (q := 1) (x := a0) rfl rfl (dl_at t_X14_endNote 11 rfl) ?_
  have k20 := kx E14 (by decide) k7
  refine r_getr (pc := 20) X fX14_3 k20 q1245 (dl_at t_X14_endNote 12 rfl) ?_
  refine g_gd fun k23 => ?_
  refine r_getiN (pc := 23) X fX3_23 k23 (nw_in q565 rfl) (dl_at t_X14_endNote 13 rfl) fun g23 => ?_
  refine g_gd fun k26 => ?_
  refine r_putiN (pc := 26) X fX28_4 k26 (nw_in q2539 rfl) rfl (dl_at t_X14_endNote 14 rfl) g23 (fun h26 E26 => ?_)
  refine g_aload_n (pc := 29) X (j := 0) (i := 0) (q := 1) (x := a0) rfl rfl (dl_at t_X14_endNote 15 rfl) ?_
  have k30 := kx E26 (by decide) k20
  refine r_getr (pc := 30) X fX14_34 k30 q1290 (dl_at t_X14_endNote 16 rfl) ?_
  refine g_aload_n (pc := 33) X (j := 0) (i := 0) (q := 1) (x := a0) rfl rfl (dl_at t_X14_endNote 17 rfl) ?_
  refine r_geti (pc := 34) X fX14_36 k30 q1293 (dl_at t_X14_endNote 18 rfl) fun g34 => ?_
  refine g_iconst (pc := 37) X (n := 1) (dl_at t_X14_endNote 19 rfl) ?_
  refine g_isub (pc := 38) X g34 (r32_c rfl) (dl_at t_X14_endNote 20 rfl) ?_
  refine g_aload_n (pc := 39) X (j := 2) (i := 2) (q := 0) (x := v14) rfl rfl (dl_at t_X14_endNote 21 rfl) ?_
  have k40 := kx E26 (by decide) k26
  refine g_gd fun k40_1 => ?_
  refine r_aast (pc := 40) X 9 (Nat.le_of_ble_eq_true rfl) (Nat.le_of_ble_eq_true rfl) (r32_w _) rfl rfl k40 k40_1 (dl_at t_X14_endNote 22 rfl) (fun h40 E40 => ?_)
  exact g_vret (pc := 41) X (v := 0) rfl rfl (dl_at t_X14_endNote 23 rfl)
def k_X28_parts : List (Nat × Instr × Nat) := [(0, .aload_n 0, 1), (1, .getfield 9, 3), (4, .getfield 44, 3), (7, .aload_n 0, 1), (8, .getfield 35, 3), (11, .iload_n 1, 1), (12, .iadd, 1), (13, .laload, 1), (14, .lreturn, 1)]
theorem t_X28_parts : ∀ q ∈ k_X28_parts, decode cX28_parts q.1 = .ok q.2 := dl_all (by decide +kernel)
noncomputable def m_X28_parts (a0 a1 : Int) (h : Hp) : Option (Int) :=
  gd (h (h a0 0) (-2) = 240) (gd (h (h (h a0 0) 8) (-2) % 16 = 4 ∧ (0 : Int) ≤ (w32 ((h a0 15) + a1)) ∧ (w32 ((h a0 15) + a1)) < h (h (h a0 0) 8) (-1)) (some (h (h (h a0 0) 8) (w32 ((h a0 15) + a1)))))
theorem s_X28_parts {l : Launch} [NoTr l] {D : SD} {a0 a1 : Int} {h : Hp} (hk : h a0 (-2) = 288) (r1 : r32 a1) {r : Int} (hm : m_X28_parts a0 a1 h = some r) : Sim l D yX28_parts (Cond.code yX28_parts cX28_parts 2 (Option.some Jvm.ClassFile.FieldType.long)) 0 0 [rv D a0, iv a1] h 4 ((0, r), h) := by
  refine Sim.of (fin := fun (v : Int) => ((0, v), h)) (lsE := [(0, rv D a0), (1, iv a1)]) hm rfl cwS_code (la_r (la_i la_n)) (ll_r (ll_i ll_n)) ?_
  intro p e s m below meth c X hcw hmm hcc hnm hname
  unfold m_X28_parts
  refine g_aload_n (pc := 0) X (j := 0) (i := 0) (q := 0) (x := a0) rfl rfl (dl_at t_X28_parts 0 rfl) ?_
  refine r_getr (pc := 1) X fX28_0 hk q2528 (dl_at t_X28_parts 1 rfl) ?_
  refine g_gd fun k4 => ?_
  refine r_getrN (pc := 4) X fX15_8 k4 (nw_in q1147 rfl) (dl_at t_X28_parts 2 rfl) ?_
  refine g_aload_n (pc := 7) X (j := 0) (i := 0) (q := 0) (x := a0) rfl rfl (dl_at t_X28_parts 3 rfl) ?_
  refine r_geti (pc := 8) X fX28_15 hk q2557 (dl_at t_X28_parts 4 rfl) fun g8 => ?_
  refine g_iload_n (pc := 11) X (j := 1) (i := 1) (q := 1) (x := a1) rfl rfl (dl_at t_X28_parts 5 rfl) ?_
  refine g_iadd (pc := 12) X g8 r1 (dl_at t_X28_parts 6 rfl) ?_
  refine g_gd fun k13 => ?_
  refine g_lald (pc := 13) X (r32_w _) k13 (dl_at t_X28_parts 7 rfl) fun g13 => ?_
  exact g_lret (pc := 14) X g13 rfl rfl (dl_at t_X28_parts 8 rfl)
def k_X28_widest : List (Nat × Instr × Nat) := [(0, .lconst 0, 1), (1, .lstore_n 1, 1), (2, .iconst 1, 1), (3, .istore_n 3, 1), (4, .iload_n 3, 1), (5, .aload_n 0, 1), (6, .getfield 75, 3), (9, .if_icmp .gt 50, 3), (12, .aload_n 0, 1), (13, .iload_n 3, 1), (14, .invokevirtual 145, 3), (17, .aload_n 0, 1), (18, .iload_n 3, 1), (19, .iconst 1, 1), (20, .isub, 1), (21, .invokevirtual 145, 3), (24, .lsub, 1), (25, .aload_n 0, 1), (26, .getfield 9, 3), (29, .getfield 139, 3), (32, .aload_n 0, 1), (33, .getfield 35, 3), (36, .iload_n 3, 1), (37, .iadd, 1), (38, .iaload, 1), (39, .i2l, 1), (40, .ladd, 1), (41, .lstore 4, 2), (43, .lload 4, 2), (45, .lload_n 1, 1), (46, .lcmp, 1), (47, .ifCond .le 6, 3), (50, .lload 4, 2), (52, .lstore_n 1, 1), (53, .iinc 3 1, 3), (56, .goto (-52), 3), (59, .lload_n 1, 1), (60, .lreturn, 1)]
theorem t_X28_widest : ∀ q ∈ k_X28_widest, decode cX28_widest q.1 = .ok q.2 := dl_all (by decide +kernel)
noncomputable def m_X28_widest_j53 (x3_4 x1_53 : Int) : Option ((Int × Int) ⊕ ((Int))) :=
  lt_ (w32 (x3_4 + 1)) fun x3_53 =>
  some (.inl (x1_53, x3_53))
noncomputable def m_X28_widest_l4 (a0 x1_4 x3_4 : Int) (h : Hp) : Option ((Int × Int) ⊕ ((Int))) :=
  if (h a0 16) < x3_4 then (some (.inr x1_4))
  else ((m_X28_parts a0 x3_4 h).bind fun v14 =>
  (m_X28_parts a0 (w32 (x3_4 - 1)) h).bind fun v21 =>
  gd (h (h a0 0) (-2) = 240) (gd (h (h (h a0 0) 7) (-2) % 16 = 1 ∧ (0 : Int) ≤ (w32 ((h a0 15) + x3_4)) ∧ (w32 ((h a0 15) + x3_4)) < h (h (h a0 0) 7) (-1)) (lt_ (w64 ((w64 (v14 - v21)) + (h (h (h a0 0) 7) (w32 ((h a0 15) + x3_4))))) fun x4_41 =>
  if (lcmp_ x4_41 x1_4) ≤ 0 then (m_X28_widest_j53 x3_4 x1_4)
  else (m_X28_widest_j53 x3_4 x4_41))))
noncomputable def m_X28_widest (a0 : Int) (h : Hp) : Option (Int) :=
  lt_ 0 fun x1_1 =>
  lt_ 1 fun x3_3 =>
  (lp (fun (q : Int × Int) => m_X28_widest_l4 a0 q.1 q.2 h) (x1_1, x3_3)).bind (fun (x : Int) => some x)
theorem s_X28_widest {l : Launch} [NoTr l] {D : SD} {a0 : Int} {h : Hp} (hk : h a0 (-2) = 288) {r : Int} (hm : m_X28_widest a0 h = some r) : Sim l D yX28_widest (Cond.code yX28_widest cX28_widest 6 (Option.some Jvm.ClassFile.FieldType.long)) 1 37 [rv D a0] h 4 ((0, r), h) := by
  refine Sim.of (fin := fun (v : Int) => ((0, v), h)) (lsE := [(0, rv D a0)]) hm rfl cwS_code (la_r la_n) (ll_r ll_n) ?_
  intro p e s m below meth c X hcw hmm hcc hnm hname
  unfold m_X28_widest
  refine g_lconst0 (pc := 0) X (dl_at t_X28_widest 0 rfl) ?_
  refine g_ltl (r64_c rfl) fun x1_1 r1_1 => ?_
  refine g_lstore_nN (pc := 1) X (j := 1) (i := 1) (x := x1_1) (b := 0) (w := rv D a0) (rest := []) rfl (Nat.le_of_ble_eq_true rfl) [0] rfl (by decide) (by decide) rv_cat rfl (dl_at t_X28_widest 1 rfl) ?_
  refine g_iconst (pc := 2) X (n := 1) (dl_at t_X28_widest 2 rfl) ?_
  refine g_ltz (Or.inr rfl) fun x3_3 r3_3 => ?_
  refine g_istore_n (pc := 3) X (j := 3) (i := 3) (x := x3_3) (rest := [(1, jv x1_1), (0, rv D a0)]) rfl (Nat.le_of_ble_eq_true rfl) [0, 1] rfl rfl (dl_at t_X28_widest 3 rfl) ?_
  refine g_ls (ls2 := [(0, rv D a0), (1, jv x1_1), (3, iv x3_3)]) [2, 1, 0] rfl ?_
  refine g_loop0F (fun (q : Int × Int) => [(0, rv D a0), (1, jv q.1), (3, iv q.2)]) (fun (q : Int × Int) => h) (fun (q : Int × Int) => r64 q.1 ∧ r32 q.2) (x1_1, x3_3) ⟨r1_1, (r32_z r3_3)⟩ ?_ (fun _ => rfl)
  · rintro ⟨x1_4, x3_4⟩ ⟨r1_4, r3_4⟩
    try dsimp only
    unfold m_X28_widest_l4
    refine g_iload_n (pc := 4) X (j := 3) (i := 3) (q := 2) (x := x3_4) rfl rfl (dl_at t_X28_widest 4 rfl) ?_
    refine g_aload_n (pc := 5) X (j := 0) (i := 0) (q := 0) (x := a0) rfl rfl (dl_at t_X28_widest 5 rfl) ?_
    refine r_geti (pc := 6) X fX28_16 hk q2558 (dl_at t_X28_widest 6 rfl) fun g6 => ?_
    refine g_icmpgt (pc := 9) X r3_4 g6 (off := 50) (tgt := 59) rfl (dl_at t_X28_widest 7 rfl) (fun _ => ?_) (fun _ => ?_)
    · refine g_lload_n (pc := 59) X (j := 1) (i := 1) (q := 1) (x := x1_4) rfl rfl (dl_at t_X28_widest 36 rfl) ?_
      exact g_at fun Q hQ => (g_lret (pc := 60) X r1_4 rfl rfl (dl_at t_X28_widest 37 rfl)) _ Q rfl hQ
    refine g_aload_n (pc := 12) X (j := 0) (i := 0) (q := 0) (x := a0) rfl rfl (dl_at t_X28_widest 8 rfl) ?_
    refine g_iload_n (pc := 13) X (j := 3) (i := 3) (q := 2) (x := x3_4) rfl rfl (dl_at t_X28_widest 9 rfl) ?_
    refine r_callRl (pc := 14) X (fun _ hv => s_X28_parts hk r3_4 hv) cw_code q2795 q396 (in_Vk X (As := [iv x3_4]) kX28 hk (Or.inl q2792) q2794 qs160 cw_code q2795 ⟨by decide, by decide⟩ rfl (dl_at t_X28_widest 10 rfl)) (dl_at t_X28_widest 10 rfl) (cat24 (st := []) (Nat.le_of_ble_eq_true rfl)) (Nat.le_of_ble_eq_true rfl) (Nat.le_of_ble_eq_true rfl) fun v14 g14 => ?_
    refine g_aload_n (pc := 17) X (j := 0) (i := 0) (q := 0) (x := a0) rfl rfl (dl_at t_X28_widest 11 rfl) ?_
    refine g_iload_n (pc := 18) X (j := 3) (i := 3) (q := 2) (x := x3_4) rfl rfl (dl_at t_X28_widest 12 rfl) ?_
    refine g_iconst (pc := 19) X (n := 1) (dl_at t_X28_widest 13 rfl) ?_
    refine g_isub (pc := 20) X r3_4 (r32_c rfl) (dl_at t_X28_widest 14 rfl) ?_
    refine r_callRl (pc := 21) X (fun _ hv => s_X28_parts hk (r32_w _) hv) cw_code q2795 q396 (in_Vk X (As := [iv (w32 (x3_4 - 1))]) kX28 hk (Or.inl q2792) q2794 qs160 cw_code q2795 ⟨by decide, by decide⟩ rfl (dl_at t_X28_widest 15 rfl)) (dl_at t_X28_widest 15 rfl) (cat24 (st := [jv v14]) (Nat.le_of_ble_eq_true rfl)) (Nat.le_of_ble_eq_true rfl) (Nat.le_of_ble_eq_true rfl) fun v21 g21 => ?_
    refine g_lsub (pc := 24) X g14 g21 (dl_at t_X28_widest 16 rfl) ?_
    refine g_aload_n (pc := 25) X (j := 0) (i := 0) (q := 0) (x := a0) rfl rfl (dl_at t_X28_widest 17 rfl) ?_
    refine r_getr (pc := 26) X fX28_0 hk q2528 (dl_at t_X28_widest 18 rfl) ?_
    refine g_gd fun k29 => ?_
    refine r_getrN (pc := 29) X fX15_7 k29 (nw_in q1145 rfl) (dl_at t_X28_widest 19 rfl) ?_
    refine g_aload_n (pc := 32) X (j := 0) (i := 0) (q := 0) (x := a0) rfl rfl (dl_at t_X28_widest 20 rfl) ?_
    refine r_geti (pc := 33) X fX28_15 hk q2557 (dl_at t_X28_widest 21 rfl) fun g33 => ?_
    refine g_iload_n (pc := 36) X (j := 3) (i := 3) (q := 2) (x := x3_4) rfl rfl (dl_at t_X28_widest 22 rfl) ?_
    refine g_iadd (pc := 37) X g33 r3_4 (dl_at t_X28_widest 23 rfl) ?_
    refine g_gd fun k38 => ?_
    refine g_iald (pc := 38) X (r32_w _) k38 (dl_at t_X28_widest 24 rfl) fun g38 => ?_
    refine g_i2l (pc := 39) X g38 (dl_at t_X28_widest 25 rfl) ?_
    refine g_ladd (pc := 40) X (r64_w _) (r64_of g38) (dl_at t_X28_widest 26 rfl) ?_
    refine g_ltl (r64_w _) fun x4_41 r4_41 => ?_
    refine g_lstoreN (pc := 41) X (i := 4) (x := x4_41) (b := 3) (w := iv x3_4) (rest := [(0, rv D a0), (1, jv x1_4)]) (Nat.le_of_ble_eq_true rfl) [2, 0, 1] rfl (by decide) (by decide) rfl rfl (dl_at t_X28_widest 27 rfl) ?_
    refine g_lload (pc := 43) X (i := 4) (q := 0) (x := x4_41) rfl (dl_at t_X28_widest 28 rfl) ?_
    refine g_lload_n (pc := 45) X (j := 1) (i := 1) (q := 3) (x := x1_4) rfl rfl (dl_at t_X28_widest 29 rfl) ?_
    refine g_lcmp (pc := 46) X r4_41 r1_4 (dl_at t_X28_widest 30 rfl) ?_
    refine g_join (γ := Int) (fun q => r64 q) 53 (fun q => [(0, rv D a0), (1, jv q), (3, iv x3_4)]) (fun q => []) (fun q => h) (fun q => m_X28_widest_j53 x3_4 q) ?_ ?_
    · rintro x1_53 r1_53
      try dsimp only
      unfold m_X28_widest_j53
      refine r_iinc (pc := 53) X (i := 3) (q := 2) (n := 1) (x := x3_4) (rest := [(0, rv D a0), (1, jv x1_53)]) rfl r3_4 (r32_c rfl) (Nat.le_of_ble_eq_true rfl) [0, 1] rfl rfl (dl_at t_X28_widest 34 rfl) fun x3_53 r3_53 => ?_
      refine g_goto (pc := 56) X (off := (-52)) (tgt := 4) rfl (dl_at t_X28_widest 35 rfl) ?_
      refine g_ls (ls2 := [(0, rv D a0), (1, jv x1_53), (3, iv x3_53)]) [1, 2, 0] rfl ?_
      exact g_at fun Q hQ => hQ ⟨r1_53, r3_53⟩
    intro J53
    refine g_ifle (pc := 47) X (r32_lcmp _ _) (off := 6) (tgt := 53) rfl (dl_at t_X28_widest 31 rfl) (fun _ => ?_) (fun _ => ?_)
    · refine g_ls (ls2 := [(0, rv D a0), (1, jv x1_4), (3, iv x3_4)]) [2, 3, 1] rfl ?_
      exact J53 x1_4 r1_4
    refine g_lload (pc := 50) X (i := 4) (q := 0) (x := x4_41) rfl (dl_at t_X28_widest 32 rfl) ?_
    refine g_lstore_nN (pc := 52) X (j := 1) (i := 1) (x := x4_41) (b := 0) (w := rv D a0) (rest := [(3, iv x3_4)]) rfl (Nat.le_of_ble_eq_true rfl) [2, 1] rfl (by decide) (by decide) rv_cat rfl (dl_at t_X28_widest 33 rfl) ?_
    refine g_ls (ls2 := [(0, rv D a0), (1, jv x4_41), (3, iv x3_4)]) [1, 0, 2] rfl ?_
    exact J53 x4_41 r4_41
def k_X28_glues : List (Nat × Instr × Nat) := [(0, .aload_n 0, 1), (1, .getfield 9, 3), (4, .getfield 48, 3), (7, .aload_n 0, 1), (8, .getfield 35, 3), (11, .iload_n 1, 1), (12, .iadd, 1), (13, .laload, 1), (14, .lreturn, 1)]
theorem t_X28_glues : ∀ q ∈ k_X28_glues, decode cX28_glues q.1 = .ok q.2 := dl_all (by decide +kernel)
noncomputable def m_X28_glues (a0 a1 : Int) (h : Hp) : Option (Int) :=
  gd (h (h a0 0) (-2) = 240) (gd (h (h (h a0 0) 9) (-2) % 16 = 4 ∧ (0 : Int) ≤ (w32 ((h a0 15) + a1)) ∧ (w32 ((h a0 15) + a1)) < h (h (h a0 0) 9) (-1)) (some (h (h (h a0 0) 9) (w32 ((h a0 15) + a1)))))
theorem s_X28_glues {l : Launch} [NoTr l] {D : SD} {a0 a1 : Int} {h : Hp} (hk : h a0 (-2) = 288) (r1 : r32 a1) {r : Int} (hm : m_X28_glues a0 a1 h = some r) : Sim l D yX28_glues (Cond.code yX28_glues cX28_glues 2 (Option.some Jvm.ClassFile.FieldType.long)) 0 0 [rv D a0, iv a1] h 4 ((0, r), h) := by
  refine Sim.of (fin := fun (v : Int) => ((0, v), h)) (lsE := [(0, rv D a0), (1, iv a1)]) hm rfl cwS_code (la_r (la_i la_n)) (ll_r (ll_i ll_n)) ?_
  intro p e s m below meth c X hcw hmm hcc hnm hname
  unfold m_X28_glues
  refine g_aload_n (pc := 0) X (j := 0) (i := 0) (q := 0) (x := a0) rfl rfl (dl_at t_X28_glues 0 rfl) ?_
  refine r_getr (pc := 1) X fX28_0 hk q2528 (dl_at t_X28_glues 1 rfl) ?_
  refine g_gd fun k4 => ?_
  refine r_getrN (pc := 4) X fX15_9 k4 (nw_in q1149 rfl) (dl_at t_X28_glues 2 rfl) ?_
  refine g_aload_n (pc := 7) X (j := 0) (i := 0) (q := 0) (x := a0) rfl rfl (dl_at t_X28_glues 3 rfl) ?_
  refine r_geti (pc := 8) X fX28_15 hk q2557 (dl_at t_X28_glues 4 rfl) fun g8 => ?_
  refine g_iload_n (pc := 11) X (j := 1) (i := 1) (q := 1) (x := a1) rfl rfl (dl_at t_X28_glues 5 rfl) ?_
  refine g_iadd (pc := 12) X g8 r1 (dl_at t_X28_glues 6 rfl) ?_
  refine g_gd fun k13 => ?_
  refine g_lald (pc := 13) X (r32_w _) k13 (dl_at t_X28_glues 7 rfl) fun g13 => ?_
  exact g_lret (pc := 14) X g13 rfl rfl (dl_at t_X28_glues 8 rfl)
def k_X28_whole : List (Nat × Instr × Nat) := [(0, .aload_n 0, 1), (1, .aload_n 0, 1), (2, .getfield 75, 3), (5, .invokevirtual 145, 3), (8, .aload_n 0, 1), (9, .aload_n 0, 1), (10, .getfield 75, 3), (13, .invokevirtual 152, 3), (16, .ladd, 1), (17, .lreturn, 1)]
theorem t_X28_whole : ∀ q ∈ k_X28_whole, decode cX28_whole q.1 = .ok q.2 := dl_all (by decide +kernel)
noncomputable def m_X28_whole (a0 : Int) (h : Hp) : Option (Int) :=
  (m_X28_parts a0 (h a0 16) h).bind fun v5 =>
  (m_X28_glues a0 (h a0 16) h).bind fun v13 =>
  some (w64 (v5 + v13))
theorem s_X28_whole {l : Launch} [NoTr l] {D : SD} {a0 : Int} {h : Hp} (hk : h a0 (-2) = 288) {r : Int} (hm : m_X28_whole a0 h = some r) : Sim l D yX28_whole (Cond.code yX28_whole cX28_whole 1 (Option.some Jvm.ClassFile.FieldType.long)) 1 37 [rv D a0] h 4 ((0, r), h) := by
  refine Sim.of (fin := fun (v : Int) => ((0, v), h)) (lsE := [(0, rv D a0)]) hm rfl cwS_code (la_r la_n) (ll_r ll_n) ?_
  intro p e s m below meth c X hcw hmm hcc hnm hname
  unfold m_X28_whole
  refine g_aload_n (pc := 0) X (j := 0) (i := 0) (q := 0) (x := a0) rfl rfl (dl_at t_X28_whole 0 rfl) ?_
  refine g_aload_n (pc := 1) X (j := 0) (i := 0) (q := 0) (x := a0) rfl rfl (dl_at t_X28_whole 1 rfl) ?_
  refine r_geti (pc := 2) X fX28_16 hk q2558 (dl_at t_X28_whole 2 rfl) fun g2 => ?_
  refine r_callRl (pc := 5) X (fun _ hv => s_X28_parts hk g2 hv) cw_code q2795 q396 (in_Vk X (As := [iv (h a0 16)]) kX28 hk (Or.inl q2792) q2794 qs160 cw_code q2795 ⟨by decide, by decide⟩ rfl (dl_at t_X28_whole 3 rfl)) (dl_at t_X28_whole 3 rfl) (cat24 (st := []) (Nat.le_of_ble_eq_true rfl)) (Nat.le_of_ble_eq_true rfl) (Nat.le_of_ble_eq_true rfl) fun v5 g5 => ?_
  refine g_aload_n (pc := 8) X (j := 0) (i := 0) (q := 0) (x := a0) rfl rfl (dl_at t_X28_whole 4 rfl) ?_
  refine g_aload_n (pc := 9) X (j := 0) (i := 0) (q := 0) (x := a0) rfl rfl (dl_at t_X28_whole 5 rfl) ?_
  refine r_geti (pc := 10) X fX28_16 hk q2558 (dl_at t_X28_whole 6 rfl) fun g10 => ?_
  refine r_callRl (pc := 13) X (fun _ hv => s_X28_glues hk g10 hv) cw_code q2803 q396 (in_Vk X (As := [iv (h a0 16)]) kX28 hk (Or.inl q2800) q2802 qs162 cw_code q2803 ⟨by decide, by decide⟩ rfl (dl_at t_X28_whole 7 rfl)) (dl_at t_X28_whole 7 rfl) (cat24 (st := [jv v5]) (Nat.le_of_ble_eq_true rfl)) (Nat.le_of_ble_eq_true rfl) (Nat.le_of_ble_eq_true rfl) fun v13 g13 => ?_
  refine g_ladd (pc := 16) X g5 g13 (dl_at t_X28_whole 8 rfl) ?_
  exact g_lret (pc := 17) X (r64_w _) rfl rfl (dl_at t_X28_whole 9 rfl)
def k_X13_cell : List (Nat × Instr × Nat) := [(0, .aload_n 0, 1), (1, .getfield 22, 3), (4, .iload_n 1, 1), (5, .if_icmp .gt 40, 3), (8, .aload_n 0, 1), (9, .getfield 9, 3), (12, .aload_n 0, 1), (13, .getfield 22, 3), (16, .ldc2_w 26, 3), (19, .lastore, 1), (20, .aload_n 0, 1), (21, .getfield 15, 3), (24, .aload_n 0, 1), (25, .getfield 22, 3), (28, .ldc2_w 26, 3), (31, .lastore, 1), (32, .aload_n 0, 1), (33, .dup, 1), (34, .getfield 22, 3), (37, .iconst 1, 1), (38, .iadd, 1), (39, .putfield 22, 3), (42, .goto (-42), 3), (45, .lload_n 2, 1), (46, .aload_n 0, 1), (47, .getfield 9, 3), (50, .iload_n 1, 1), (51, .laload, 1), (52, .lcmp, 1), (53, .ifCond .le 10, 3), (56, .aload_n 0, 1), (57, .getfield 9, 3), (60, .iload_n 1, 1), (61, .lload_n 2, 1), (62, .lastore, 1), (63, .lload 4, 2), (65, .aload_n 0, 1), (66, .getfield 15, 3), (69, .iload_n 1, 1), (70, .laload, 1), (71, .lcmp, 1), (72, .ifCond .le 11, 3), (75, .aload_n 0, 1), (76, .getfield 15, 3), (79, .iload_n 1, 1), (80, .lload 4, 2), (82, .lastore, 1), (83, .return_, 1)]
theorem t_X13_cell : ∀ q ∈ k_X13_cell, decode cX13_cell q.1 = .ok q.2 := dl_all (by decide +kernel)
noncomputable def m_X13_cell_l0 (a0 a1 : Int) (h_0 : Hp) : Option ((Hp) ⊕ ((Hp))) :=
  if a1 < (h_0 a0 3) then (some (.inr h_0))
  else (gd (h_0 (h_0 a0 0) (-2) % 16 = 4 ∧ (0 : Int) ≤ (h_0 a0 3) ∧ (h_0 a0 3) < h_0 (h_0 a0 0) (-1)) (pt h_0 (h_0 a0 0) (h_0 a0 3) 1000 fun h19 =>
  gd (h19 (h19 a0 1) (-2) % 16 = 4 ∧ (0 : Int) ≤ (h19 a0 3) ∧ (h19 a0 3) < h19 (h19 a0 1) (-1)) (pt h19 (h19 a0 1) (h19 a0 3) 1000 fun h31 =>
  pt h31 a0 3 (w32 ((h31 a0 3) + 1)) fun h39 =>
  some (.inl h39))))
noncomputable def m_X13_cell_j63 (a0 a1 a4 : Int) (h_63 : Hp) : Option (Hp) :=
  gd (h_63 (h_63 a0 1) (-2) % 16 = 4 ∧ (0 : Int) ≤ a1 ∧ a1 < h_63 (h_63 a0 1) (-1)) (if (lcmp_ a4 (h_63 (h_63 a0 1) a1)) ≤ 0 then (some h_63)
  else (pt h_63 (h_63 a0 1) a1 a4 fun h82 =>
  some h82))
noncomputable def m_X13_cell (a0 a1 a2 a4 : Int) (h : Hp) : Option (Hp) :=
  (lp (fun (q : Hp) => m_X13_cell_l0 a0 a1 q) h).bind (fun (y45 : Hp) => gd (y45 (y45 a0 0) (-2) % 16 = 4 ∧ (0 : Int) ≤ a1 ∧ a1 < y45 (y45 a0 0) (-1)) (if (lcmp_ a2 (y45 (y45 a0 0) a1)) ≤ 0 then (m_X13_cell_j63 a0 a1 a4 y45)
  else (pt y45 (y45 a0 0) a1 a2 fun h62 =>
  m_X13_cell_j63 a0 a1 a4 h62)))
theorem s_X13_cell {l : Launch} [NoTr l] {D : SD} {a0 a1 a2 a4 : Int} {h : Hp} (hk : h a0 (-2) = 208) (r1 : r32 a1) (r2 : r64 a2) (r4 : r64 a4) {r : Hp} (hm : m_X13_cell a0 a1 a2 a4 h = some r) : Sim l D yX13_cell (Cond.code yX13_cell cX13_cell 6 (Option.none : Option Jvm.ClassFile.FieldType)) 0 0 [rv D a0, iv a1, jv a2, jv a4] h 0 ((0, 0), r) := by
  refine Sim.of (fin := fun (v : Hp) => ((0, 0), v)) (lsE := [(0, rv D a0), (1, iv a1), (2, jv a2), (4, jv a4)]) hm rfl cwS_code (la_r (la_i (la_j (la_j la_n)))) (ll_r (ll_i (ll_j (ll_j ll_n)))) ?_
  intro p e s m below meth c X hcw hmm hcc hnm hname
  unfold m_X13_cell
  refine g_loop1 (fun (q : Hp) => [(0, rv D a0), (1, iv a1), (2, jv a2), (4, jv a4)]) (fun (q : Hp) => q) (fun (q : Hp) => Ext h q) 45 (fun (y45 : Hp) => [(0, rv D a0), (1, iv a1), (2, jv a2), (4, jv a4)]) (fun (y45 : Hp) => y45) (fun (y45 : Hp) => Ext h y45) h (Ext.refl _) ?_ ?_
  · rintro h_0 E_0
    try dsimp only
    unfold m_X13_cell_l0
    refine g_aload_n (pc := 0) X (j := 0) (i := 0) (q := 0) (x := a0) rfl rfl (dl_at t_X13_cell 0 rfl) ?_
    have k1 := kx E_0 (by decide) hk
    refine r_geti (pc := 1) X fX13_3 k1 q1025 (dl_at t_X13_cell 1 rfl) fun g1 => ?_
    refine g_iload_n (pc := 4) X (j := 1) (i := 1) (q := 1) (x := a1) rfl rfl (dl_at t_X13_cell 2 rfl) ?_
    refine g_icmpgt (pc := 5) X g1 r1 (off := 40) (tgt := 45) rfl (dl_at t_X13_cell 3 rfl) (fun _ => ?_) (fun _ => ?_)
    · exact g_at fun Q hQ => hQ E_0
    refine g_aload_n (pc := 8) X (j := 0) (i := 0) (q := 0) (x := a0) rfl rfl (dl_at t_X13_cell 4 rfl) ?_
    refine r_getr (pc := 9) X fX13_0 k1 q1021 (dl_at t_X13_cell 5 rfl) ?_
    refine g_aload_n (pc := 12) X (j := 0) (i := 0) (q := 0) (x := a0) rfl rfl (dl_at t_X13_cell 6 rfl) ?_
    refine r_geti (pc := 13) X fX13_3 k1 q1025 (dl_at t_X13_cell 7 rfl) fun g13 => ?_
    refine g_ldc2 (pc := 16) X (index := 26) (n := 1000) q2808 (dl_at t_X13_cell 8 rfl) ?_
    refine g_gd fun k19 => ?_
    refine r_last (pc := 19) X g13 (r64_c rfl) k19 (dl_at t_X13_cell 9 rfl) (fun h19 E19 => ?_)
    refine g_aload_n (pc := 20) X (j := 0) (i := 0) (q := 0) (x := a0) rfl rfl (dl_at t_X13_cell 10 rfl) ?_
    have k21 := kx E19 (by decide) k1
    refine r_getr (pc := 21) X fX13_1 k21 q1022 (dl_at t_X13_cell 11 rfl) ?_
    refine g_aload_n (pc := 24) X (j := 0) (i := 0) (q := 0) (x := a0) rfl rfl (dl_at t_X13_cell 12 rfl) ?_
    refine r_geti (pc := 25) X fX13_3 k21 q1025 (dl_at t_X13_cell 13 rfl) fun g25 => ?_
    refine g_ldc2 (pc := 28) X (index := 26) (n := 1000) q2808 (dl_at t_X13_cell 14 rfl) ?_
    refine g_gd fun k31 => ?_
    refine r_last (pc := 31) X g25 (r64_c rfl) k31 (dl_at t_X13_cell 15 rfl) (fun h31 E31 => ?_)
    refine g_aload_n (pc := 32) X (j := 0) (i := 0) (q := 0) (x := a0) rfl rfl (dl_at t_X13_cell 16 rfl) ?_
    refine g_dup (pc := 33) X rv_cat (dl_at t_X13_cell 17 rfl) ?_
    have k34 := kx E31 (by decide) k21
    refine r_geti (pc := 34) X fX13_3 k34 q1025 (dl_at t_X13_cell 18 rfl) fun g34 => ?_
    refine g_iconst (pc := 37) X (n := 1) (dl_at t_X13_cell 19 rfl) ?_
    refine g_iadd (pc := 38) X g34 (r32_c rfl) (dl_at t_X13_cell 20 rfl) ?_
    refine r_puti (pc := 39) X fX13_3 k34 q1025 rfl (dl_at t_X13_cell 21 rfl) (r32_w _) (fun h39 E39 => ?_)
    refine g_goto (pc := 42) X (off := (-42)) (tgt := 0) rfl (dl_at t_X13_cell 22 rfl) ?_
    exact g_at fun Q hQ => hQ (E_0.trans (E19.trans (E31.trans E39)))
  · rintro h_45 E_45
    try dsimp only [sE]
    refine g_lload_n (pc := 45) X (j := 2) (i := 2) (q := 2) (x := a2) rfl rfl (dl_at t_X13_cell 23 rfl) ?_
    refine g_aload_n (pc := 46) X (j := 0) (i := 0) (q := 0) (x := a0) rfl rfl (dl_at t_X13_cell 24 rfl) ?_
    have k47 := kx E_45 (by decide) hk
    refine r_getr (pc := 47) X fX13_0 k47 q1021 (dl_at t_X13_cell 25 rfl) ?_
    refine g_iload_n (pc := 50) X (j := 1) (i := 1) (q := 1) (x := a1) rfl rfl (dl_at t_X13_cell 26 rfl) ?_
    refine g_gd fun k51 => ?_
    refine g_lald (pc := 51) X r1 k51 (dl_at t_X13_cell 27 rfl) fun g51 => ?_
    refine g_lcmp (pc := 52) X r2 g51 (dl_at t_X13_cell 28 rfl) ?_
    refine g_join (γ := Hp) (fun q => Ext h_45 q) 63 (fun q => [(0, rv D a0), (1, iv a1), (4, jv a4)]) (fun q => []) (fun q => q) (fun q => m_X13_cell_j63 a0 a1 a4 q) ?_ ?_
    · rintro h_63 E_63
      try dsimp only
      unfold m_X13_cell_j63
      refine g_lload (pc := 63) X (i := 4) (q := 2) (x := a4) rfl (dl_at t_X13_cell 35 rfl) ?_
      refine g_aload_n (pc := 65) X (j := 0) (i := 0) (q := 0) (x := a0) rfl rfl (dl_at t_X13_cell 36 rfl) ?_
      have k66 := kx E_63 (by decide) k47
      refine r_getr (pc := 66) X fX13_1 k66 q1022 (dl_at t_X13_cell 37 rfl) ?_
      refine g_iload_n (pc := 69) X (j := 1) (i := 1) (q := 1) (x := a1) rfl rfl (dl_at t_X13_cell 38 rfl) ?_
      refine g_gd fun k70 => ?_
      refine g_lald (pc := 70) X r1 k70 (dl_at t_X13_cell 39 rfl) fun g70 => ?_
      refine g_lcmp (pc := 71) X r4 g70 (dl_at t_X13_cell 40 rfl) ?_
      refine g_ifle (pc := 72) X (r32_lcmp _ _) (off := 11) (tgt := 83) rfl (dl_at t_X13_cell 41 rfl) (fun _ => ?_) (fun _ => ?_)
      · exact g_vret (pc := 83) X (v := 0) rfl rfl (dl_at t_X13_cell 47 rfl)
      refine g_aload_n (pc := 75) X (j := 0) (i := 0) (q := 0) (x := a0) rfl rfl (dl_at t_X13_cell 42 rfl) ?_
      refine r_getr (pc := 76) X fX13_1 k66 q1022 (dl_at t_X13_cell 43 rfl) ?_
      refine g_iload_n (pc := 79) X (j := 1) (i := 1) (q := 1) (x := a1) rfl rfl (dl_at t_X13_cell 44 rfl) ?_
      refine g_lload (pc := 80) X (i := 4) (q := 2) (x := a4) rfl (dl_at t_X13_cell 45 rfl) ?_
      refine r_last (pc := 82) X r1 r4 k70 (dl_at t_X13_cell 46 rfl) (fun h82 E82 => ?_)
      exact g_vret (pc := 83) X (v := 0) rfl rfl (dl_at t_X13_cell 47 rfl)
    intro J63
    refine g_ifle (pc := 53) X (r32_lcmp _ _) (off := 10) (tgt := 63) rfl (dl_at t_X13_cell 29 rfl) (fun _ => ?_) (fun _ => ?_)
    · refine g_ls (ls2 := [(0, rv D a0), (1, iv a1), (4, jv a4)]) [0, 1, 3] rfl ?_
      exact J63 h_45 (Ext.refl _)
    refine g_aload_n (pc := 56) X (j := 0) (i := 0) (q := 0) (x := a0) rfl rfl (dl_at t_X13_cell 30 rfl) ?_
    refine r_getr (pc := 57) X fX13_0 k47 q1021 (dl_at t_X13_cell 31 rfl) ?_
    refine g_iload_n (pc := 60) X (j := 1) (i := 1) (q := 1) (x := a1) rfl rfl (dl_at t_X13_cell 32 rfl) ?_
    refine g_lload_n (pc := 61) X (j := 2) (i := 2) (q := 2) (x := a2) rfl rfl (dl_at t_X13_cell 33 rfl) ?_
    refine r_last (pc := 62) X r1 r2 k51 (dl_at t_X13_cell 34 rfl) (fun h62 E62 => ?_)
    refine g_ls (ls2 := [(0, rv D a0), (1, iv a1), (4, jv a4)]) [0, 1, 3] rfl ?_
    exact J63 h62 E62
def k_X14_endCell : List (Nat × Instr × Nat) := [(0, .aload_n 0, 1), (1, .iconst 0, 1), (2, .putfield 413, 3), (5, .aload_n 0, 1), (6, .getfield 47, 3), (9, .aload_n 0, 1), (10, .getfield 199, 3), (13, .iaload, 1), (14, .istore_n 2, 1), (15, .aload_n 0, 1), (16, .getfield 47, 3), (19, .aload_n 0, 1), (20, .getfield 199, 3), (23, .dup2, 1), (24, .iaload, 1), (25, .iconst 1, 1), (26, .iadd, 1), (27, .iastore, 1), (28, .aload_n 0, 1), (29, .getfield 50, 3), (32, .bipush 8, 2), (34, .aload_n 0, 1), (35, .getfield 199, 3), (38, .imul, 1), (39, .iload_n 2, 1), (40, .iadd, 1), (41, .iconst (-1), 1), (42, .iastore, 1), (43, .aload_n 0, 1), (44, .getfield 154, 3), (47, .getfield 404, 3), (50, .getfield 250, 3), (53, .ifCond .ne 14, 3), (56, .aload_n 0, 1), (57, .getfield 154, 3), (60, .getfield 404, 3), (63, .invokevirtual 367, 3), (66, .return_, 1), (67, .aload_n 0, 1), (68, .aload_n 0, 1), (69, .getfield 154, 3), (72, .getfield 404, 3), (75, .iload_n 1, 1), (76, .invokevirtual 387, 3), (79, .astore_n 3, 1), (80, .aload_n 0, 1), (81, .getfield 50, 3), (84, .bipush 8, 2), (86, .aload_n 0, 1), (87, .getfield 199, 3), (90, .imul, 1), (91, .iload_n 2, 1), (92, .iadd, 1), (93, .aload_n 0, 1), (94, .getfield 193, 3), (97, .iconst 1, 1), (98, .isub, 1), (99, .iastore, 1), (100, .aload_n 0, 1), (101, .getfield 154, 3), (104, .getfield 550, 3), (107, .aload_n 0, 1), (108, .getfield 479, 3), (111, .aload_n 0, 1), (112, .getfield 193, 3), (115, .iconst 1, 1), (116, .isub, 1), (117, .iastore, 1), (118, .aload_n 0, 1), (119, .getfield 154, 3), (122, .getfield 553, 3), (125, .aload_n 0, 1), (126, .getfield 479, 3), (129, .iload_n 2, 1), (130, .iastore, 1), (131, .aload_n 0, 1), (132, .dup, 1), (133, .getfield 479, 3), (136, .iconst 1, 1), (137, .iadd, 1), (138, .putfield 479, 3), (141, .aload_n 0, 1), (142, .getfield 154, 3), (145, .getfield 485, 3), (148, .iload_n 2, 1), (149, .aload_n 3, 1), (150, .invokevirtual 556, 3), (153, .aload_n 3, 1), (154, .invokevirtual 560, 3), (157, .invokevirtual 563, 3), (160, .return_, 1)]
theorem t_X14_endCell : ∀ q ∈ k_X14_endCell, decode cX14_endCell q.1 = .ok q.2 := dl_all (by decide +kernel)
noncomputable def m_X14_endCell (a0 a1 : Int) (h : Hp) : Option ((Int × Int) × Hp) :=
  pt h a0 47 0 fun h2 =>
  gd (h2 (h2 a0 19) (-2) % 16 = 1 ∧ (0 : Int) ≤ (h2 a0 23) ∧ (h2 a0 23) < h2 (h2 a0 19) (-1)) (lt_ (h2 (h2 a0 19) (h2 a0 23)) fun x2_14 =>
  pt h2 (h2 a0 19) (h2 a0 23) (w32 ((h2 (h2 a0 19) (h2 a0 23)) + 1)) fun h27 =>
  gd (h27 (h27 a0 20) (-2) % 16 = 1 ∧ (0 : Int) ≤ (w32 ((w32 (8 * (h27 a0 23))) + x2_14)) ∧ (w32 ((w32 (8 * (h27 a0 23))) + x2_14)) < h27 (h27 a0 20) (-1)) (pt h27 (h27 a0 20) (w32 ((w32 (8 * (h27 a0 23))) + x2_14)) (-1) fun h42 =>
  gd (h42 (h42 a0 0) (-2) = 160) (gd (h42 (h42 (h42 a0 0) 2) (-2) = 192) (if (h42 (h42 (h42 a0 0) 2) 6) ≠ 0 then (bT (m_X14_flowParagraph a0 (h42 (h42 a0 0) 2) a1 h42) (fun v76 h76 =>
  gd (h76 (h76 a0 20) (-2) % 16 = 1 ∧ (0 : Int) ≤ (w32 ((w32 (8 * (h76 a0 23))) + x2_14)) ∧ (w32 ((w32 (8 * (h76 a0 23))) + x2_14)) < h76 (h76 a0 20) (-1)) (pt h76 (h76 a0 20) (w32 ((w32 (8 * (h76 a0 23))) + x2_14)) (w32 ((h76 a0 11) - 1)) fun h99 =>
  gd (h99 (h99 a0 0) (-2) = 160) (gd (h99 (h99 (h99 a0 0) 7) (-2) % 16 = 1 ∧ (0 : Int) ≤ (h99 a0 48) ∧ (h99 a0 48) < h99 (h99 (h99 a0 0) 7) (-1)) (pt h99 (h99 (h99 a0 0) 7) (h99 a0 48) (w32 ((h99 a0 11) - 1)) fun h117 =>
  gd (h117 (h117 a0 0) (-2) = 160) (gd (h117 (h117 (h117 a0 0) 8) (-2) % 16 = 1 ∧ (0 : Int) ≤ (h117 a0 48) ∧ (h117 a0 48) < h117 (h117 (h117 a0 0) 8) (-1)) (pt h117 (h117 (h117 a0 0) 8) (h117 a0 48) x2_14 fun h130 =>
  pt h130 a0 48 (w32 ((h130 a0 48) + 1)) fun h138 =>
  gd (h138 (h138 a0 0) (-2) = 160) (gd (h138 v76 (-2) = 288) ((m_X28_widest v76 h138).bind fun v150 =>
  (m_X28_whole v76 h138).bind fun v154 =>
  gd (h138 (h138 (h138 a0 0) 5) (-2) = 208) ((m_X13_cell (h138 (h138 a0 0) 5) x2_14 v150 v154 h138).bind fun h157 =>
  some ((0, 0), h157)))))))))) (fun a_ h_ => some ((1, a_), h_)))
  else ((m_X12_clear (h42 (h42 a0 0) 2) h42).bind fun h63 =>
  some ((0, 0), h63))))))
theorem s_X14_endCell {l : Launch} [NoTr l] {D : SD} {a0 a1 : Int} {h : Hp} (hk : h a0 (-2) = 224) (r1 : r32 a1) {r : (Int × Int) × Hp} (hm : m_X14_endCell a0 a1 h = some r) : Sim l D yX14_endCell (Cond.code yX14_endCell cX14_endCell 4 (Option.none : Option Jvm.ClassFile.FieldType)) 14 529 [rv D a0, iv a1] h 0 r := by
  refine Sim.of (fin := fun (v : (Int × Int) × Hp) => v) (lsE := [(0, rv D a0), (1, iv a1)]) hm rfl cwS_code (la_r (la_i la_n)) (ll_r (ll_i ll_n)) ?_
  intro p e s m below meth c X hcw hmm hcc hnm hname
  have hno := noh hcw hnm hmm hcc
  unfold m_X14_endCell
  refine g_aload_n (pc := 0) X (j := 0) (i := 0) (q := 0) (x := a0) rfl rfl (dl_at t_X14_endCell 0 rfl) ?_
  refine g_iconst (pc := 1) X (n := 0) (dl_at t_X14_endCell 1 rfl) ?_
  refine r_putz (pc := 2) X fX14_47 hk q1309 rfl (dl_at t_X14_endCell 2 rfl) (Or.inl rfl) (fun h2 E2 => ?_)
  refine g_aload_n (pc := 5) X (j := 0) (i := 0) (q := 0) (x := a0) rfl rfl (dl_at t_X14_endCell 3 rfl) ?_
  have k6 := kx E2 (by decide) hk
  refine r_getr (pc := 6) X fX14_19 k6 q1271 (dl_at t_X14_endCell 4 rfl) ?_
  refine g_aload_n (pc := 9) X (j := 0) (i := 0) (q := 0) (x := a0) rfl rfl (dl_at t_X14_endCell 5 rfl) ?_
  refine r_geti (pc := 10) X fX14_23 k6 q1276 (dl_at t_X14_endCell 6 rfl) fun g10 => ?_
  refine g_gd fun k13 => ?_
  refine g_iald (pc := 13) X g10 k13 (dl_at t_X14_endCell 7 rfl) fun g13 => ?_
  refine g_lti g13 fun x2_14 r2_14 => ?_
  refine g_istore_nN (pc := 14) X (j := 2) (i := 2) (x := x2_14) (b := 1) (w := iv a1) (rest := [(0, rv D a0)]) rfl (Nat.le_of_ble_eq_true rfl) [1, 0] rfl (by decide) rfl rfl (dl_at t_X14_endCell 8 rfl) ?_
  refine g_aload_n (pc := 15) X (j := 0) (i := 0) (q := 2) (x := a0) rfl rfl (dl_at t_X14_endCell 9 rfl) ?_
  refine r_getr (pc := 16) X fX14_19 k6 q1271 (dl_at t_X14_endCell 10 rfl) ?_
  refine g_aload_n (pc := 19) X (j := 0) (i := 0) (q := 2) (x := a0) rfl rfl (dl_at t_X14_endCell 11 rfl) ?_
  refine r_geti (pc := 20) X fX14_23 k6 q1276 (dl_at t_X14_endCell 12 rfl) fun g20 => ?_
  refine g_dup2 (pc := 23) X rfl rv_cat (dl_at t_X14_endCell 13 rfl) ?_
  refine g_iald (pc := 24) X g20 k13 (dl_at t_X14_endCell 14 rfl) fun g24 => ?_
  refine g_iconst (pc := 25) X (n := 1) (dl_at t_X14_endCell 15 rfl) ?_
  refine g_iadd (pc := 26) X g24 (r32_c rfl) (dl_at t_X14_endCell 16 rfl) ?_
  refine r_iast (pc := 27) X g20 (r32_w _) k13 (dl_at t_X14_endCell 17 rfl) (fun h27 E27 => ?_)
  refine g_aload_n (pc := 28) X (j := 0) (i := 0) (q := 2) (x := a0) rfl rfl (dl_at t_X14_endCell 18 rfl) ?_
  have k29 := kx E27 (by decide) k6
  refine r_getr (pc := 29) X fX14_20 k29 q1272 (dl_at t_X14_endCell 19 rfl) ?_
  refine g_bipush (pc := 32) X (n := 8) rfl (dl_at t_X14_endCell 20 rfl) ?_
  refine g_aload_n (pc := 34) X (j := 0) (i := 0) (q := 2) (x := a0) rfl rfl (dl_at t_X14_endCell 21 rfl) ?_
  refine r_geti (pc := 35) X fX14_23 k29 q1276 (dl_at t_X14_endCell 22 rfl) fun g35 => ?_
  refine g_imul (pc := 38) X (r32_c rfl) g35 (dl_at t_X14_endCell 23 rfl) ?_
  refine g_iload_n (pc := 39) X (j := 2) (i := 2) (q := 0) (x := x2_14) rfl rfl (dl_at t_X14_endCell 24 rfl) ?_
  refine g_iadd (pc := 40) X (r32_w _) r2_14 (dl_at t_X14_endCell 25 rfl) ?_
  refine g_iconst (pc := 41) X (n := (-1)) (dl_at t_X14_endCell 26 rfl) ?_
  refine g_gd fun k42 => ?_
  refine r_iast (pc := 42) X (r32_w _) (r32_c rfl) k42 (dl_at t_X14_endCell 27 rfl) (fun h42 E42 => ?_)
  refine g_aload_n (pc := 43) X (j := 0) (i := 0) (q := 2) (x := a0) rfl rfl (dl_at t_X14_endCell 28 rfl) ?_
  have k44 := kx E42 (by decide) k29
  refine r_getr (pc := 44) X fX14_0 k44 q1241 (dl_at t_X14_endCell 29 rfl) ?_
  refine g_gd fun k47 => ?_
  refine r_getrN (pc := 47) X fX10_2 k47 (nw_in q1041 rfl) (dl_at t_X14_endCell 30 rfl) ?_
  refine g_gd fun k50 => ?_
  refine r_getzN (pc := 50) X fX12_6 k50 (nw_in q997 rfl) (dl_at t_X14_endCell 31 rfl) fun g50 => ?_
  refine g_ifne (pc := 53) X (r32_z g50) (off := 14) (tgt := 67) rfl (dl_at t_X14_endCell 32 rfl) (fun _ => ?_) (fun _ => ?_)
  · refine g_aload_n (pc := 67) X (j := 0) (i := 0) (q := 2) (x := a0) rfl rfl (dl_at t_X14_endCell 38 rfl) ?_
    refine g_aload_n (pc := 68) X (j := 0) (i := 0) (q := 2) (x := a0) rfl rfl (dl_at t_X14_endCell 39 rfl) ?_
    refine r_getr (pc := 69) X fX14_0 k44 q1241 (dl_at t_X14_endCell 40 rfl) ?_
    refine r_getrN (pc := 72) X fX10_2 k47 (nw_in q1041 rfl) (dl_at t_X14_endCell 41 rfl) ?_
    refine g_iload_n (pc := 75) X (j := 1) (i := 1) (q := 1) (x := a1) rfl rfl (dl_at t_X14_endCell 42 rfl) ?_
    refine r_callTr (pc := 76) X (fun _ hv => s_X14_flowParagraph k44 r1 hv) cw_code q2517 q368 (in_Vk X (As := [rv D (h42 (h42 a0 0) 2), iv a1]) kX14 k44 (Or.inl q2514) q2516 qs122 cw_code q2517 ⟨by decide, by decide⟩ rfl (dl_at t_X14_endCell 43 rfl)) (dl_at t_X14_endCell 43 rfl) (cat24 (st := []) (Nat.le_of_ble_eq_true rfl)) (Nat.le_of_ble_eq_true rfl) (Nat.le_of_ble_eq_true rfl) (fun v76 h76 E76 => ?_) (fun _ _ ha _ => gt_at fun Q hQ => gt_out (Q := Q) X rfl ha (hno _) _ Q rfl hQ)
    refine g_astore_nN (pc := 79) X (j := 3) (i := 3) (x := v76) (b := 2) (w := iv x2_14) (rest := [(0, rv D a0)]) rfl (Nat.le_of_ble_eq_true rfl) [0, 2] rfl (by decide) rfl rfl (dl_at t_X14_endCell 44 rfl) ?_
    refine g_aload_n (pc := 80) X (j := 0) (i := 0) (q := 2) (x := a0) rfl rfl (dl_at t_X14_endCell 45 rfl) ?_
    have k81 := kx E76 (by decide) k44
    refine r_getr (pc := 81) X fX14_20 k81 q1272 (dl_at t_X14_endCell 46 rfl) ?_
    refine g_bipush (pc := 84) X (n := 8) rfl (dl_at t_X14_endCell 47 rfl) ?_
    refine g_aload_n (pc := 86) X (j := 0) (i := 0) (q := 2) (x := a0) rfl rfl (dl_at t_X14_endCell 48 rfl) ?_
    refine r_geti (pc := 87) X fX14_23 k81 q1276 (dl_at t_X14_endCell 49 rfl) fun g87 => ?_
    refine g_imul (pc := 90) X (r32_c rfl) g87 (dl_at t_X14_endCell 50 rfl) ?_
    refine g_iload_n (pc := 91) X (j := 2) (i := 2) (q := 1) (x := x2_14) rfl rfl (dl_at t_X14_endCell 51 rfl) ?_
    refine g_iadd (pc := 92) X (r32_w _) r2_14 (dl_at t_X14_endCell 52 rfl) ?_
    refine g_aload_n (pc := 93) X (j := 0) (i := 0) (q := 2) (x := a0) rfl rfl (dl_at t_X14_endCell 53 rfl) ?_
    refine r_geti (pc := 94) X fX14_11 k81 q1258 (dl_at t_X14_endCell 54 rfl) fun g94 => ?_
    refine g_iconst (pc := 97) X (n := 1) (dl_at t_X14_endCell 55 rfl) ?_
    refine g_isub (pc := 98) X g94 (r32_c rfl) (dl_at t_X14_endCell 56 rfl) ?_
    refine g_gd fun k99 => ?_
    refine r_iast (pc := 99) X (r32_w _) (r32_w _) k99 (dl_at t_X14_endCell 57 rfl) (fun h99 E99 => ?_)
    refine g_aload_n (pc := 100) X (j := 0) (i := 0) (q := 2) (x := a0) rfl rfl (dl_at t_X14_endCell 58 rfl) ?_
    have k101 := kx E99 (by decide) k81
    refine r_getr (pc := 101) X fX14_0 k101 q1241 (dl_at t_X14_endCell 59 rfl) ?_
    refine g_gd fun k104 => ?_
    refine r_getrN (pc := 104) X fX10_7 k104 (nw_in q1052 rfl) (dl_at t_X14_endCell 60 rfl) ?_
    refine g_aload_n (pc := 107) X (j := 0) (i := 0) (q := 2) (x := a0) rfl rfl (dl_at t_X14_endCell 61 rfl) ?_
    refine r_geti (pc := 108) X fX14_48 k101 q1310 (dl_at t_X14_endCell 62 rfl) fun g108 => ?_
    refine g_aload_n (pc := 111) X (j := 0) (i := 0) (q := 2) (x := a0) rfl rfl (dl_at t_X14_endCell 63 rfl) ?_
    refine r_geti (pc := 112) X fX14_11 k101 q1258 (dl_at t_X14_endCell 64 rfl) fun g112 => ?_
    refine g_iconst (pc := 115) X (n := 1) (dl_at t_X14_endCell 65 rfl) ?_
    refine g_isub (pc := 116) X g112 (r32_c rfl) (dl_at t_X14_endCell 66 rfl) ?_
    refine g_gd fun k117 => ?_
    refine r_iast (pc := 117) X g108 (r32_w _) k117 (dl_at t_X14_endCell 67 rfl) (fun h117 E117 => ?_)
    refine g_aload_n (pc := 118) X (j := 0) (i := 0) (q := 2) (x := a0) rfl rfl (dl_at t_X14_endCell 68 rfl) ?_
    have k119 := kx E117 (by decide) k101
    refine r_getr (pc := 119) X fX14_0 k119 q1241 (dl_at t_X14_endCell 69 rfl) ?_
    refine g_gd fun k122 => ?_
    refine r_getrN (pc := 122) X fX10_8 k122 (nw_in q1054 rfl) (dl_at t_X14_endCell 70 rfl) ?_
    refine g_aload_n (pc := 125) X (j := 0) (i := 0) (q := 2) (x := a0) rfl rfl (dl_at t_X14_endCell 71 rfl) ?_
    refine r_geti (pc := 126) X fX14_48 k119 q1310 (dl_at t_X14_endCell 72 rfl) fun g126 => ?_
    refine g_iload_n (pc := 129) X (j := 2) (i := 2) (q := 1) (x := x2_14) rfl rfl (dl_at t_X14_endCell 73 rfl) ?_
    refine g_gd fun k130 => ?_
    refine r_iast (pc := 130) X g126 r2_14 k130 (dl_at t_X14_endCell 74 rfl) (fun h130 E130 => ?_)
    refine g_aload_n (pc := 131) X (j := 0) (i := 0) (q := 2) (x := a0) rfl rfl (dl_at t_X14_endCell 75 rfl) ?_
    refine g_dup (pc := 132) X rv_cat (dl_at t_X14_endCell 76 rfl) ?_
    have k133 := kx E130 (by decide) k119
    refine r_geti (pc := 133) X fX14_48 k133 q1310 (dl_at t_X14_endCell 77 rfl) fun g133 => ?_
    refine g_iconst (pc := 136) X (n := 1) (dl_at t_X14_endCell 78 rfl) ?_
    refine g_iadd (pc := 137) X g133 (r32_c rfl) (dl_at t_X14_endCell 79 rfl) ?_
    refine r_puti (pc := 138) X fX14_48 k133 q1310 rfl (dl_at t_X14_endCell 80 rfl) (r32_w _) (fun h138 E138 => ?_)
    refine g_aload_n (pc := 141) X (j := 0) (i := 0) (q := 2) (x := a0) rfl rfl (dl_at t_X14_endCell 81 rfl) ?_
    have k142 := kx E138 (by decide) k133
    refine r_getr (pc := 142) X fX14_0 k142 q1241 (dl_at t_X14_endCell 82 rfl) ?_
    refine g_gd fun k145 => ?_
    refine r_getrN (pc := 145) X fX10_5 k145 (nw_in q1048 rfl) (dl_at t_X14_endCell 83 rfl) ?_
    refine g_iload_n (pc := 148) X (j := 2) (i := 2) (q := 1) (x := x2_14) rfl rfl (dl_at t_X14_endCell 84 rfl) ?_
    refine g_aload_n (pc := 149) X (j := 3) (i := 3) (q := 0) (x := v76) rfl rfl (dl_at t_X14_endCell 85 rfl) ?_
    refine g_gd fun k150 => ?_
    refine r_callRl (pc := 150) X (fun _ hv => s_X28_widest k150 hv) cw_code q2791 q396 (in_Vk X (As := []) kX28 k150 (Or.inr ⟨_, nw_in q2788 rfl⟩) q2790 qs159 cw_code q2791 ⟨by decide, by decide⟩ rfl (dl_at t_X14_endCell 86 rfl)) (dl_at t_X14_endCell 86 rfl) (cat24 (st := [iv x2_14, rv D (h138 (h138 a0 0) 5)]) (Nat.le_of_ble_eq_true rfl)) (Nat.le_of_ble_eq_true rfl) (Nat.le_of_ble_eq_true rfl) fun v150 g150 => ?_
    refine g_aload_n (pc := 153) X (j := 3) (i := 3) (q := 0) (x := v76) rfl rfl (dl_at t_X14_endCell 87 rfl) ?_
    refine r_callRl (pc := 154) X (fun _ hv => s_X28_whole k150 hv) cw_code q2799 q396 (in_Vk X (As := []) kX28 k150 (Or.inr ⟨_, nw_in q2796 rfl⟩) q2798 qs161 cw_code q2799 ⟨by decide, by decide⟩ rfl (dl_at t_X14_endCell 88 rfl)) (dl_at t_X14_endCell 88 rfl) (cat24 (st := [jv v150, iv x2_14, rv D (h138 (h138 a0 0) 5)]) (Nat.le_of_ble_eq_true rfl)) (Nat.le_of_ble_eq_true rfl) (Nat.le_of_ble_eq_true rfl) fun v154 g154 => ?_
    refine g_gd fun k157 => ?_
    refine r_callV (pc := 157) X (fun _ hv => s_X13_cell k157 r2_14 g150 g154 hv) cw_code q2807 q367 (in_Vk X (As := [iv x2_14, jv v150, jv v154]) kX13 k157 (Or.inr ⟨_, nw_in q2804 rfl⟩) q2806 qs163 cw_code q2807 ⟨by decide, by decide⟩ rfl (dl_at t_X14_endCell 89 rfl)) (dl_at t_X14_endCell 89 rfl) (cat24 (st := []) (Nat.le_of_ble_eq_true rfl)) (Nat.le_of_ble_eq_true rfl) (Nat.le_of_ble_eq_true rfl) fun h157 E157 => ?_
    exact g_vret (pc := 160) X (v := 0) rfl rfl (dl_at t_X14_endCell 90 rfl)
  refine g_aload_n (pc := 56) X (j := 0) (i := 0) (q := 2) (x := a0) rfl rfl (dl_at t_X14_endCell 33 rfl) ?_
  refine r_getr (pc := 57) X fX14_0 k44 q1241 (dl_at t_X14_endCell 34 rfl) ?_
  refine r_getrN (pc := 60) X fX10_2 k47 (nw_in q1041 rfl) (dl_at t_X14_endCell 35 rfl) ?_
  refine r_callV (pc := 63) X (fun _ hv => s_X12_clear k50 hv) cw_code q2480 q366 (in_Vk X (As := []) kX12 k50 (Or.inr ⟨_, nw_in q2477 rfl⟩) q2479 qs113 cw_code q2480 ⟨by decide, by decide⟩ rfl (dl_at t_X14_endCell 36 rfl)) (dl_at t_X14_endCell 36 rfl) (cat24 (st := []) (Nat.le_of_ble_eq_true rfl)) (Nat.le_of_ble_eq_true rfl) (Nat.le_of_ble_eq_true rfl) fun h63 E63 => ?_
  exact g_vret (pc := 66) X (v := 0) rfl rfl (dl_at t_X14_endCell 37 rfl)
def k_X14_endRow : List (Nat × Instr × Nat) := [(0, .iconst 0, 1), (1, .istore_n 2, 1), (2, .iconst 0, 1), (3, .istore_n 3, 1), (4, .iload_n 3, 1), (5, .aload_n 0, 1), (6, .getfield 47, 3), (9, .aload_n 0, 1), (10, .getfield 199, 3), (13, .iaload, 1), (14, .if_icmp .ge 36, 3), (17, .iload_n 2, 1), (18, .ifCond .ne 20, 3), (21, .aload_n 0, 1), (22, .getfield 50, 3), (25, .bipush 8, 2), (27, .aload_n 0, 1), (28, .getfield 199, 3), (31, .imul, 1), (32, .iload_n 3, 1), (33, .iadd, 1), (34, .iaload, 1), (35, .ifCond .lt 7, 3), (38, .iconst 1, 1), (39, .goto 4, 3), (42, .iconst 0, 1), (43, .istore_n 2, 1), (44, .iinc 3 1, 3), (47, .goto (-43), 3), (50, .iload_n 2, 1), (51, .ifCond .ne 4, 3), (54, .return_, 1), (55, .iconst 0, 1), (56, .istore_n 3, 1), (57, .iload_n 3, 1), (58, .aload_n 0, 1), (59, .getfield 47, 3), (62, .aload_n 0, 1), (63, .getfield 199, 3), (66, .iaload, 1), (67, .if_icmp .ge 26, 3), (70, .aload_n 0, 1), (71, .getfield 154, 3), (74, .getfield 485, 3), (77, .iload_n 3, 1), (78, .ldc2_w 566, 3), (81, .ldc2_w 566, 3), (84, .invokevirtual 563, 3), (87, .iinc 3 1, 3), (90, .goto (-33), 3), (93, .aload_n 0, 1), (94, .getfield 56, 3), (97, .aload_n 0, 1), (98, .getfield 199, 3), (101, .iload_n 1, 1), (102, .iastore, 1), (103, .aload_n 0, 1), (104, .iconst (-1), 1), (105, .aload_n 0, 1), (106, .getfield 199, 3), (109, .isub, 1), (110, .invokevirtual 394, 3), (113, .aload_n 0, 1), (114, .dup, 1), (115, .getfield 199, 3), (118, .iconst 1, 1), (119, .iadd, 1), (120, .putfield 199, 3), (123, .return_, 1)]
theorem t_X14_endRow : ∀ q ∈ k_X14_endRow, decode cX14_endRow q.1 = .ok q.2 := dl_all (by decide +kernel)
noncomputable def m_X14_endRow_j43 (x3_4 s0_43 : Int) : Option ((Int × Int) ⊕ ((Int))) :=
  lt_ (w32 (x3_4 + 1)) fun x3_44 =>
  some (.inl (s0_43, x3_44))
noncomputable def m_X14_endRow_j38 (x3_4 : Int) : Option ((Int × Int) ⊕ ((Int))) :=
  m_X14_endRow_j43 x3_4 1
noncomputable def m_X14_endRow_l4 (a0 x2_4 x3_4 : Int) (h : Hp) : Option ((Int × Int) ⊕ ((Int))) :=
  gd (h (h a0 19) (-2) % 16 = 1 ∧ (0 : Int) ≤ (h a0 23) ∧ (h a0 23) < h (h a0 19) (-1)) (if (h (h a0 19) (h a0 23)) ≤ x3_4 then (some (.inr x2_4))
  else (if x2_4 ≠ 0 then (m_X14_endRow_j38 x3_4)
  else (gd (h (h a0 20) (-2) % 16 = 1 ∧ (0 : Int) ≤ (w32 ((w32 (8 * (h a0 23))) + x3_4)) ∧ (w32 ((w32 (8 * (h a0 23))) + x3_4)) < h (h a0 20) (-1)) (if (h (h a0 20) (w32 ((w32 (8 * (h a0 23))) + x3_4))) < 0 then (m_X14_endRow_j43 x3_4 0)
  else (m_X14_endRow_j38 x3_4)))))
noncomputable def m_X14_endRow_l57 (a0 x3_57 : Int) (h_57 : Hp) : Option ((Int × Hp) ⊕ ((Hp))) :=
  gd (h_57 (h_57 a0 19) (-2) % 16 = 1 ∧ (0 : Int) ≤ (h_57 a0 23) ∧ (h_57 a0 23) < h_57 (h_57 a0 19) (-1)) (if (h_57 (h_57 a0 19) (h_57 a0 23)) ≤ x3_57 then (some (.inr h_57))
  else (gd (h_57 (h_57 a0 0) (-2) = 160) (gd (h_57 (h_57 (h_57 a0 0) 5) (-2) = 208) ((m_X13_cell (h_57 (h_57 a0 0) 5) x3_57 1000 1000 h_57).bind fun h84 =>
  lt_ (w32 (x3_57 + 1)) fun x3_87 =>
  some (.inl (x3_87, h84))))))
noncomputable def m_X14_endRow (a0 a1 : Int) (h : Hp) : Option (Hp) :=
  lt_ 0 fun x2_1 =>
  lt_ 0 fun x3_3 =>
  (lp (fun (q : Int × Int) => m_X14_endRow_l4 a0 q.1 q.2 h) (x2_1, x3_3)).bind (fun (y50 : Int) => if y50 ≠ 0 then (lt_ 0 fun x3_56 =>
  (lp (fun (q : Int × Hp) => m_X14_endRow_l57 a0 q.1 q.2) (x3_56, h)).bind (fun (y93 : Hp) => gd (y93 (y93 a0 22) (-2) % 16 = 1 ∧ (0 : Int) ≤ (y93 a0 23) ∧ (y93 a0 23) < y93 (y93 a0 22) (-1)) (pt y93 (y93 a0 22) (y93 a0 23) a1 fun h102 =>
  (m_X14_item a0 (w32 ((-1) - (h102 a0 23))) h102).bind fun h110 =>
  pt h110 a0 23 (w32 ((h110 a0 23) + 1)) fun h120 =>
  some h120)))
  else (some h))
theorem s_X14_endRow {l : Launch} [NoTr l] {D : SD} {a0 a1 : Int} {h : Hp} (hk : h a0 (-2) = 224) (r1 : r32 a1) {r : Hp} (hm : m_X14_endRow a0 a1 h = some r) : Sim l D yX14_endRow (Cond.code yX14_endRow cX14_endRow 4 (Option.none : Option Jvm.ClassFile.FieldType)) 1 41 [rv D a0, iv a1] h 0 ((0, 0), r) := by
  refine Sim.of (fin := fun (v : Hp) => ((0, 0), v)) (lsE := [(0, rv D a0), (1, iv a1)]) hm rfl cwS_code (la_r (la_i la_n)) (ll_r (ll_i ll_n)) ?_
  intro p e s m below meth c X hcw hmm hcc hnm hname
  unfold m_X14_endRow
  refine g_iconst (pc := 0) X (n := 0) (dl_at t_X14_endRow 0 rfl) ?_
  refine g_ltz (Or.inl rfl) fun x2_1 r2_1 => ?_
  refine g_istore_nN (pc := 1) X (j := 2) (i := 2) (x := x2_1) (b := 1) (w := iv a1) (rest := [(0, rv D a0)]) rfl (Nat.le_of_ble_eq_true rfl) [1, 0] rfl (by decide) rfl rfl (dl_at t_X14_endRow 1 rfl) ?_
  refine g_iconst (pc := 2) X (n := 0) (dl_at t_X14_endRow 2 rfl) ?_
  refine g_ltz (Or.inl rfl) fun x3_3 r3_3 => ?_
  refine g_istore_nN (pc := 3) X (j := 3) (i := 3) (x := x3_3) (b := 2) (w := iv x2_1) (rest := [(1, iv a1), (0, rv D a0)]) rfl (Nat.le_of_ble_eq_true rfl) [0, 1, 2] rfl (by decide) rfl rfl (dl_at t_X14_endRow 3 rfl) ?_
  refine g_ls (ls2 := [(0, rv D a0), (1, iv a1), (2, iv x2_1), (3, iv x3_3)]) [3, 2, 1, 0] rfl ?_
  refine g_loop1 (fun (q : Int × Int) => [(0, rv D a0), (1, iv a1), (2, iv q.1), (3, iv q.2)]) (fun (q : Int × Int) => h) (fun (q : Int × Int) => (q.1 = 0 ∨ q.1 = 1) ∧ r32 q.2) 50 (fun (y50 : Int) => [(0, rv D a0), (1, iv a1), (2, iv y50)]) (fun (y50 : Int) => h) (fun (y50 : Int) => (y50 = 0 ∨ y50 = 1)) (x2_1, x3_3) ⟨r2_1, (r32_z r3_3)⟩ ?_ ?_
  · rintro ⟨x2_4, x3_4⟩ ⟨r2_4, r3_4⟩
    try dsimp only
    unfold m_X14_endRow_l4
    refine g_iload_n (pc := 4) X (j := 3) (i := 3) (q := 3) (x := x3_4) rfl rfl (dl_at t_X14_endRow 4 rfl) ?_
    refine g_aload_n (pc := 5) X (j := 0) (i := 0) (q := 0) (x := a0) rfl rfl (dl_at t_X14_endRow 5 rfl) ?_
    refine r_getr (pc := 6) X fX14_19 hk q1271 (dl_at t_X14_endRow 6 rfl) ?_
    refine g_aload_n (pc := 9) X (j := 0) (i := 0) (q := 0) (x := a0) rfl rfl (dl_at t_X14_endRow 7 rfl) ?_
    refine r_geti (pc := 10) X fX14_23 hk q1276 (dl_at t_X14_endRow 8 rfl) fun g10 => ?_
    refine g_gd fun k13 => ?_
    refine g_iald (pc := 13) X g10 k13 (dl_at t_X14_endRow 9 rfl) fun g13 => ?_
    refine g_icmpge (pc := 14) X r3_4 g13 (off := 36) (tgt := 50) rfl (dl_at t_X14_endRow 10 rfl) (fun _ => ?_) (fun _ => ?_)
    · refine g_ls (ls2 := [(0, rv D a0), (1, iv a1), (2, iv x2_4)]) [0, 1, 2] rfl ?_
      exact g_at fun Q hQ => hQ r2_4
    refine g_iload_n (pc := 17) X (j := 2) (i := 2) (q := 2) (x := x2_4) rfl rfl (dl_at t_X14_endRow 11 rfl) ?_
    refine g_join (γ := Int) (fun q => (q = 0 ∨ q = 1)) 43 (fun q => [(0, rv D a0), (1, iv a1), (3, iv x3_4)]) (fun q => [iv q]) (fun q => h) (fun q => m_X14_endRow_j43 x3_4 q) ?_ ?_
    · rintro s0_43 rs0_43
      try dsimp only
      unfold m_X14_endRow_j43
      refine g_istore_nN (pc := 43) X (j := 2) (i := 2) (x := s0_43) (b := 1) (w := iv a1) (rest := [(0, rv D a0), (3, iv x3_4)]) rfl (Nat.le_of_ble_eq_true rfl) [1, 0, 2] rfl (by decide) rfl rfl (dl_at t_X14_endRow 26 rfl) ?_
      refine r_iincN (pc := 44) X (i := 3) (q := 3) (n := 1) (x := x3_4) (b := 2) (w := iv s0_43) (rest := [(1, iv a1), (0, rv D a0)]) rfl r3_4 (r32_c rfl) (Nat.le_of_ble_eq_true rfl) [0, 1, 2] rfl (by decide) rfl rfl (dl_at t_X14_endRow 27 rfl) fun x3_44 r3_44 => ?_
      refine g_goto (pc := 47) X (off := (-43)) (tgt := 4) rfl (dl_at t_X14_endRow 28 rfl) ?_
      refine g_ls (ls2 := [(0, rv D a0), (1, iv a1), (2, iv s0_43), (3, iv x3_44)]) [3, 2, 1, 0] rfl ?_
      exact g_at fun Q hQ => hQ ⟨rs0_43, r3_44⟩
    intro J43
    refine g_join (γ := Unit) (fun q => True) 38 (fun q => [(0, rv D a0), (1, iv a1), (3, iv x3_4)]) (fun q => []) (fun q => h) (fun q => m_X14_endRow_j38 x3_4) ?_ ?_
    · rintro _ _
      try dsimp only
      unfold m_X14_endRow_j38
      refine g_iconst (pc := 38) X (n := 1) (dl_at t_X14_endRow 23 rfl) ?_
      refine g_goto (pc := 39) X (off := 4) (tgt := 43) rfl (dl_at t_X14_endRow 24 rfl) ?_
      exact J43 1 (Or.inr rfl)
    intro J38
    refine g_ifne (pc := 18) X (r32_z r2_4) (off := 20) (tgt := 38) rfl (dl_at t_X14_endRow 12 rfl) (fun _ => ?_) (fun _ => ?_)
    · refine g_ls (ls2 := [(0, rv D a0), (1, iv a1), (3, iv x3_4)]) [0, 1, 3] rfl ?_
      exact J38 () trivial
    refine g_aload_n (pc := 21) X (j := 0) (i := 0) (q := 0) (x := a0) rfl rfl (dl_at t_X14_endRow 13 rfl) ?_
    refine r_getr (pc := 22) X fX14_20 hk q1272 (dl_at t_X14_endRow 14 rfl) ?_
    refine g_bipush (pc := 25) X (n := 8) rfl (dl_at t_X14_endRow 15 rfl) ?_
    refine g_aload_n (pc := 27) X (j := 0) (i := 0) (q := 0) (x := a0) rfl rfl (dl_at t_X14_endRow 16 rfl) ?_
    refine r_geti (pc := 28) X fX14_23 hk q1276 (dl_at t_X14_endRow 17 rfl) fun g28 => ?_
    refine g_imul (pc := 31) X (r32_c rfl) g28 (dl_at t_X14_endRow 18 rfl) ?_
    refine g_iload_n (pc := 32) X (j := 3) (i := 3) (q := 3) (x := x3_4) rfl rfl (dl_at t_X14_endRow 19 rfl) ?_
    refine g_iadd (pc := 33) X (r32_w _) r3_4 (dl_at t_X14_endRow 20 rfl) ?_
    refine g_gd fun k34 => ?_
    refine g_iald (pc := 34) X (r32_w _) k34 (dl_at t_X14_endRow 21 rfl) fun g34 => ?_
    refine g_iflt (pc := 35) X g34 (off := 7) (tgt := 42) rfl (dl_at t_X14_endRow 22 rfl) (fun _ => ?_) (fun _ => ?_)
    · refine g_iconst (pc := 42) X (n := 0) (dl_at t_X14_endRow 25 rfl) ?_
      refine g_ls (ls2 := [(0, rv D a0), (1, iv a1), (3, iv x3_4)]) [0, 1, 3] rfl ?_
      exact J43 0 (Or.inl rfl)
    refine g_ls (ls2 := [(0, rv D a0), (1, iv a1), (3, iv x3_4)]) [0, 1, 3] rfl ?_
    exact J38 () trivial
  · rintro x2_50 r2_50
    try dsimp only [sE]
    refine g_iload_n (pc := 50) X (j := 2) (i := 2) (q := 2) (x := x2_50) rfl rfl (dl_at t_X14_endRow 29 rfl) ?_
    refine g_ifne (pc := 51) X (r32_z r2_50) (off := 4) (tgt := 55) rfl (dl_at t_X14_endRow 30 rfl) (fun _ => ?_) (fun _ => ?_)
    · refine g_iconst (pc := 55) X (n := 0) (dl_at t_X14_endRow 32 rfl) ?_
      refine g_ltz (Or.inl rfl) fun x3_56 r3_56 => ?_
      refine g_istore_n (pc := 56) X (j := 3) (i := 3) (x := x3_56) (rest := [(0, rv D a0), (1, iv a1)]) rfl (Nat.le_of_ble_eq_true rfl) [0, 1] rfl rfl (dl_at t_X14_endRow 33 rfl) ?_
      refine g_ls (ls2 := [(0, rv D a0), (1, iv a1), (3, iv x3_56)]) [1, 2, 0] rfl ?_
      refine g_loop1 (fun (q : Int × Hp) => [(0, rv D a0), (1, iv a1), (3, iv q.1)]) (fun (q : Int × Hp) => q.2) (fun (q : Int × Hp) => r32 q.1 ∧ Ext h q.2) 93 (fun (y93 : Hp) => [(0, rv D a0), (1, iv a1)]) (fun (y93 : Hp) => y93) (fun (y93 : Hp) => Ext h y93) (x3_56, h) ⟨(r32_z r3_56), (Ext.refl _)⟩ ?_ ?_
      · rintro ⟨x3_57, h_57⟩ ⟨r3_57, E_57⟩
        try dsimp only
        unfold m_X14_endRow_l57
        refine g_iload_n (pc := 57) X (j := 3) (i := 3) (q := 2) (x := x3_57) rfl rfl (dl_at t_X14_endRow 34 rfl) ?_
        refine g_aload_n (pc := 58) X (j := 0) (i := 0) (q := 0) (x := a0) rfl rfl (dl_at t_X14_endRow 35 rfl) ?_
        have k59 := kx E_57 (by decide) hk
        refine r_getr (pc := 59) X fX14_19 k59 q1271 (dl_at t_X14_endRow 36 rfl) ?_
        refine g_aload_n (pc := 62) X (j := 0) (i := 0) (q := 0) (x := a0) rfl rfl (dl_at t_X14_endRow 37 rfl) ?_
        refine r_geti (pc := 63) X fX14_23 k59 q1276 (dl_at t_X14_endRow 38 rfl) fun g63 => ?_
        refine g_gd fun k66 => ?_
        refine g_iald (pc := 66) X g63 k66 (dl_at t_X14_endRow 39 rfl) fun g66 => ?_
        refine g_icmpge (pc := 67) X r3_57 g66 (off := 26) (tgt := 93) rfl (dl_at t_X14_endRow 40 rfl) (fun _ => ?_) (fun _ => ?_)
        · refine g_ls (ls2 := [(0, rv D a0), (1, iv a1)]) [0, 1] rfl ?_
          exact g_at fun Q hQ => hQ E_57
        refine g_aload_n (pc := 70) X (j := 0) (i := 0) (q := 0) (x := a0) rfl rfl (dl_at t_X14_endRow 41 rfl) ?_
        refine r_getr (pc := 71) X fX14_0 k59 q1241 (dl_at t_X14_endRow 42 rfl) ?_
        refine g_gd fun k74 => ?_
        refine r_getrN (pc := 74) X fX10_5 k74 (nw_in q1048 rfl) (dl_at t_X14_endRow 43 rfl) ?_
        refine g_iload_n (pc := 77) X (j := 3) (i := 3) (q := 2) (x := x3_57) rfl rfl (dl_at t_X14_endRow 44 rfl) ?_
        refine g_ldc2 (pc := 78) X (index := 566) (n := 1000) q2813 (dl_at t_X14_endRow 45 rfl) ?_
        refine g_ldc2 (pc := 81) X (index := 566) (n := 1000) q2813 (dl_at t_X14_endRow 46 rfl) ?_
        refine g_gd fun k84 => ?_
        refine r_callV (pc := 84) X (fun _ hv => s_X13_cell k84 r3_57 (r64_c rfl) (r64_c rfl) hv) cw_code q2807 q367 (in_Vk X (As := [iv x3_57, jv 1000, jv 1000]) kX13 k84 (Or.inr ⟨_, nw_in q2804 rfl⟩) q2806 qs163 cw_code q2807 ⟨by decide, by decide⟩ rfl (dl_at t_X14_endRow 47 rfl)) (dl_at t_X14_endRow 47 rfl) (cat24 (st := []) (Nat.le_of_ble_eq_true rfl)) (Nat.le_of_ble_eq_true rfl) (Nat.le_of_ble_eq_true rfl) fun h84 E84 => ?_
        refine r_iinc (pc := 87) X (i := 3) (q := 2) (n := 1) (x := x3_57) (rest := [(0, rv D a0), (1, iv a1)]) rfl r3_57 (r32_c rfl) (Nat.le_of_ble_eq_true rfl) [0, 1] rfl rfl (dl_at t_X14_endRow 48 rfl) fun x3_87 r3_87 => ?_
        refine g_goto (pc := 90) X (off := (-33)) (tgt := 57) rfl (dl_at t_X14_endRow 49 rfl) ?_
        refine g_ls (ls2 := [(0, rv D a0), (1, iv a1), (3, iv x3_87)]) [1, 2, 0] rfl ?_
        exact g_at fun Q hQ => hQ ⟨r3_87, (E_57.trans E84)⟩
      · rintro h_93 E_93
        try dsimp only [sE]
        refine g_aload_n (pc := 93) X (j := 0) (i := 0) (q := 0) (x := a0) rfl rfl (dl_at t_X14_endRow 50 rfl) ?_
        have k94 := kx E_93 (by decide) hk
        refine r_getr (pc := 94) X fX14_22 k94 q1275 (dl_at t_X14_endRow 51 rfl) ?_
        refine g_aload_n (pc := 97) X (j := 0) (i := 0) (q := 0) (x := a0) rfl rfl (dl_at t_X14_endRow 52 rfl) ?_
        refine r_geti (pc := 98) X fX14_23 k94 q1276 (dl_at t_X14_endRow 53 rfl) fun g98 => ?_
        refine g_iload_n (pc := 101) X (j := 1) (i := 1) (q := 1) (x := a1) rfl rfl (dl_at t_X14_endRow 54 rfl) ?_
        refine g_gd fun k102 => ?_
        refine r_iast (pc := 102) X g98 r1 k102 (dl_at t_X14_endRow 55 rfl) (fun h102 E102 => ?_)
        refine g_aload_n (pc := 103) X (j := 0) (i := 0) (q := 0) (x := a0) rfl rfl (dl_at t_X14_endRow 56 rfl) ?_
        refine g_iconst (pc := 104) X (n := (-1)) (dl_at t_X14_endRow 57 rfl) ?_
        refine g_aload_n (pc := 105) X (j := 0) (i := 0) (q := 0) (x := a0) rfl rfl (dl_at t_X14_endRow 58 rfl) ?_
        have k106 := kx E102 (by decide) k94
        refine r_geti (pc := 106) X fX14_23 k106 q1276 (dl_at t_X14_endRow 59 rfl) fun g106 => ?_
        refine g_isub (pc := 109) X (r32_c rfl) g106 (dl_at t_X14_endRow 60 rfl) ?_
        refine r_callV (pc := 110) X (fun _ hv => s_X14_item k106 (r32_w _) hv) cw_code q2676 q368 (in_Vk X (As := [iv (w32 ((-1) - (h102 a0 23)))]) kX14 k106 (Or.inl q2673) q2675 qs137 cw_code q2676 ⟨by decide, by decide⟩ rfl (dl_at t_X14_endRow 61 rfl)) (dl_at t_X14_endRow 61 rfl) (cat24 (st := []) (Nat.le_of_ble_eq_true rfl)) (Nat.le_of_ble_eq_true rfl) (Nat.le_of_ble_eq_true rfl) fun h110 E110 => ?_
        refine g_aload_n (pc := 113) X (j := 0) (i := 0) (q := 0) (x := a0) rfl rfl (dl_at t_X14_endRow 62 rfl) ?_
        refine g_dup (pc := 114) X rv_cat (dl_at t_X14_endRow 63 rfl) ?_
        have k115 := kx E110 (by decide) k106
        refine r_geti (pc := 115) X fX14_23 k115 q1276 (dl_at t_X14_endRow 64 rfl) fun g115 => ?_
        refine g_iconst (pc := 118) X (n := 1) (dl_at t_X14_endRow 65 rfl) ?_
        refine g_iadd (pc := 119) X g115 (r32_c rfl) (dl_at t_X14_endRow 66 rfl) ?_
        refine r_puti (pc := 120) X fX14_23 k115 q1276 rfl (dl_at t_X14_endRow 67 rfl) (r32_w _) (fun h120 E120 => ?_)
        exact g_vret (pc := 123) X (v := 0) rfl rfl (dl_at t_X14_endRow 68 rfl)
    exact g_vret (pc := 54) X (v := 0) rfl rfl (dl_at t_X14_endRow 31 rfl)
def k_X13_sum : List (Nat × Instr × Nat) := [(0, .lconst 0, 1), (1, .lstore_n 2, 1), (2, .iconst 0, 1), (3, .istore 4, 2), (5, .iload 4, 2), (7, .iload_n 1, 1), (8, .if_icmp .ge 16, 3), (11, .lload_n 2, 1), (12, .aload_n 0, 1), (13, .iload 4, 2), (15, .laload, 1), (16, .ladd, 1), (17, .lstore_n 2, 1), (18, .iinc 4 1, 3), (21, .goto (-16), 3), (24, .lload_n 2, 1), (25, .lreturn, 1)]
theorem t_X13_sum : ∀ q ∈ k_X13_sum, decode cX13_sum q.1 = .ok q.2 := dl_all (by decide +kernel)
noncomputable def m_X13_sum_l5 (a0 a1 x2_5 x4_5 : Int) (h : Hp) : Option ((Int × Int) ⊕ ((Int))) :=
  if a1 ≤ x4_5 then (some (.inr x2_5))
  else (gd (h a0 (-2) % 16 = 4 ∧ (0 : Int) ≤ x4_5 ∧ x4_5 < h a0 (-1)) (lt_ (w64 (x2_5 + (h a0 x4_5))) fun x2_17 =>
  lt_ (w32 (x4_5 + 1)) fun x4_18 =>
  some (.inl (x2_17, x4_18))))
noncomputable def m_X13_sum (a0 a1 : Int) (h : Hp) : Option (Int) :=
  lt_ 0 fun x2_1 =>
  lt_ 0 fun x4_3 =>
  (lp (fun (q : Int × Int) => m_X13_sum_l5 a0 a1 q.1 q.2 h) (x2_1, x4_3)).bind (fun (x : Int) => some x)
theorem s_X13_sum {l : Launch} [NoTr l] {D : SD} {a0 a1 : Int} {h : Hp} (r1 : r32 a1) {r : Int} (hm : m_X13_sum a0 a1 h = some r) : Sim l D yX13_sum (Cond.code yX13_sum cX13_sum 5 (Option.some Jvm.ClassFile.FieldType.long)) 0 0 [rv D a0, iv a1] h 4 ((0, r), h) := by
  refine Sim.of (fin := fun (v : Int) => ((0, v), h)) (lsE := [(0, rv D a0), (1, iv a1)]) hm rfl cwS_code (la_r (la_i la_n)) (ll_r (ll_i ll_n)) ?_
  intro p e s m below meth c X hcw hmm hcc hnm hname
  unfold m_X13_sum
  refine g_lconst0 (pc := 0) X (dl_at t_X13_sum 0 rfl) ?_
  refine g_ltl (r64_c rfl) fun x2_1 r2_1 => ?_
  refine g_lstore_nN (pc := 1) X (j := 2) (i := 2) (x := x2_1) (b := 1) (w := iv a1) (rest := [(0, rv D a0)]) rfl (Nat.le_of_ble_eq_true rfl) [1, 0] rfl (by decide) (by decide) rfl rfl (dl_at t_X13_sum 1 rfl) ?_
  refine g_iconst (pc := 2) X (n := 0) (dl_at t_X13_sum 2 rfl) ?_
  refine g_ltz (Or.inl rfl) fun x4_3 r4_3 => ?_
  refine g_istore (pc := 3) X (i := 4) (x := x4_3) (rest := [(2, jv x2_1), (1, iv a1), (0, rv D a0)]) (Nat.le_of_ble_eq_true rfl) [0, 1, 2] rfl rfl (dl_at t_X13_sum 3 rfl) ?_
  refine g_ls (ls2 := [(0, rv D a0), (1, iv a1), (2, jv x2_1), (4, iv x4_3)]) [3, 2, 1, 0] rfl ?_
  refine g_loop0F (fun (q : Int × Int) => [(0, rv D a0), (1, iv a1), (2, jv q.1), (4, iv q.2)]) (fun (q : Int × Int) => h) (fun (q : Int × Int) => r64 q.1 ∧ r32 q.2) (x2_1, x4_3) ⟨r2_1, (r32_z r4_3)⟩ ?_ (fun _ => rfl)
  · rintro ⟨x2_5, x4_5⟩ ⟨r2_5, r4_5⟩
    try dsimp only
    unfold m_X13_sum_l5
    refine g_iload (pc := 5) X (i := 4) (q := 3) (x := x4_5) rfl (dl_at t_X13_sum 4 rfl) ?_
    refine g_iload_n (pc := 7) X (j := 1) (i := 1) (q := 1) (x := a1) rfl rfl (dl_at t_X13_sum 5 rfl) ?_
    refine g_icmpge (pc := 8) X r4_5 r1 (off := 16) (tgt := 24) rfl (dl_at t_X13_sum 6 rfl) (fun _ => ?_) (fun _ => ?_)
    · refine g_lload_n (pc := 24) X (j := 2) (i := 2) (q := 2) (x := x2_5) rfl rfl (dl_at t_X13_sum 15 rfl) ?_
      exact g_at fun Q hQ => (g_lret (pc := 25) X r2_5 rfl rfl (dl_at t_X13_sum 16 rfl)) _ Q rfl hQ
    refine g_lload_n (pc := 11) X (j := 2) (i := 2) (q := 2) (x := x2_5) rfl rfl (dl_at t_X13_sum 7 rfl) ?_
    refine g_aload_n (pc := 12) X (j := 0) (i := 0) (q := 0) (x := a0) rfl rfl (dl_at t_X13_sum 8 rfl) ?_
    refine g_iload (pc := 13) X (i := 4) (q := 3) (x := x4_5) rfl (dl_at t_X13_sum 9 rfl) ?_
    refine g_gd fun k15 => ?_
    refine g_lald (pc := 15) X r4_5 k15 (dl_at t_X13_sum 10 rfl) fun g15 => ?_
    refine g_ladd (pc := 16) X r2_5 g15 (dl_at t_X13_sum 11 rfl) ?_
    refine g_ltl (r64_w _) fun x2_17 r2_17 => ?_
    refine g_lstore_nN (pc := 17) X (j := 2) (i := 2) (x := x2_17) (b := 1) (w := iv a1) (rest := [(0, rv D a0), (4, iv x4_5)]) rfl (Nat.le_of_ble_eq_true rfl) [1, 0, 3] rfl (by decide) (by decide) rfl rfl (dl_at t_X13_sum 12 rfl) ?_
    refine r_iinc (pc := 18) X (i := 4) (q := 3) (n := 1) (x := x4_5) (rest := [(2, jv x2_17), (1, iv a1), (0, rv D a0)]) rfl r4_5 (r32_c rfl) (Nat.le_of_ble_eq_true rfl) [0, 1, 2] rfl rfl (dl_at t_X13_sum 13 rfl) fun x4_18 r4_18 => ?_
    refine g_goto (pc := 21) X (off := (-16)) (tgt := 5) rfl (dl_at t_X13_sum 14 rfl) ?_
    refine g_ls (ls2 := [(0, rv D a0), (1, iv a1), (2, jv x2_17), (4, iv x4_18)]) [3, 2, 1, 0] rfl ?_
    exact g_at fun Q hQ => hQ ⟨r2_17, r4_18⟩
def k_X13_share : List (Nat × Instr × Nat) := [(0, .aload_n 0, 1), (1, .getfield 22, 3), (4, .ifCond .ne 4, 3), (7, .return_, 1), (8, .aload_n 0, 1), (9, .getfield 15, 3), (12, .aload_n 0, 1), (13, .getfield 22, 3), (16, .invokestatic 28, 3), (19, .lstore_n 2, 1), (20, .aload_n 0, 1), (21, .getfield 9, 3), (24, .aload_n 0, 1), (25, .getfield 22, 3), (28, .invokestatic 28, 3), (31, .lstore 4, 2), (33, .lconst 0, 1), (34, .lstore 6, 2), (36, .iconst 0, 1), (37, .istore 8, 2), (39, .iload 8, 2), (41, .aload_n 0, 1), (42, .getfield 22, 3), (45, .if_icmp .ge 118, 3), (48, .lload_n 2, 1), (49, .iload_n 1, 1), (50, .i2l, 1), (51, .lcmp, 1), (52, .ifCond .gt 26, 3), (55, .aload_n 0, 1), (56, .getfield 15, 3), (59, .iload 8, 2), (61, .laload, 1), (62, .iload_n 1, 1), (63, .i2l, 1), (64, .lload_n 2, 1), (65, .lsub, 1), (66, .aload_n 0, 1), (67, .getfield 22, 3), (70, .i2l, 1), (71, .ldiv, 1), (72, .ladd, 1), (73, .lstore 9, 2), (75, .goto 65, 3), (78, .lload 4, 2), (80, .iload_n 1, 1), (81, .i2l, 1), (82, .lcmp, 1), (83, .ifCond .gt 42, 3), (86, .aload_n 0, 1), (87, .getfield 9, 3), (90, .iload 8, 2), (92, .laload, 1), (93, .iload_n 1, 1), (94, .i2l, 1), (95, .lload 4, 2), (97, .lsub, 1), (98, .aload_n 0, 1), (99, .getfield 15, 3), (102, .iload 8, 2), (104, .laload, 1), (105, .aload_n 0, 1), (106, .getfield 9, 3), (109, .iload 8, 2), (111, .laload, 1), (112, .lsub, 1), (113, .lmul, 1), (114, .lload_n 2, 1), (115, .lload 4, 2), (117, .lsub, 1), (118, .ldiv, 1), (119, .ladd, 1), (120, .lstore 9, 2), (122, .goto 18, 3), (125, .iload_n 1, 1), (126, .i2l, 1), (127, .aload_n 0, 1), (128, .getfield 9, 3), (131, .iload 8, 2), (133, .laload, 1), (134, .lmul, 1), (135, .lload 4, 2), (137, .ldiv, 1), (138, .lstore 9, 2), (140, .aload_n 0, 1), (141, .getfield 18, 3), (144, .iload 8, 2), (146, .lload 9, 2), (148, .l2i, 1), (149, .iastore, 1), (150, .lload 6, 2), (152, .lload 9, 2), (154, .ladd, 1), (155, .lstore 6, 2), (157, .iinc 8 1, 3), (160, .goto (-121), 3), (163, .iconst 0, 1), (164, .istore 8, 2), (166, .iload 8, 2), (168, .aload_n 0, 1), (169, .getfield 22, 3), (172, .if_icmp .ge 34, 3), (175, .lload 6, 2), (177, .iload_n 1, 1), (178, .i2l, 1), (179, .lcmp, 1), (180, .ifCond .ge 26, 3), (183, .aload_n 0, 1), (184, .getfield 18, 3), (187, .iload 8, 2), (189, .dup2, 1), (190, .iaload, 1), (191, .iconst 1, 1), (192, .iadd, 1), (193, .iastore, 1), (194, .lload 6, 2), (196, .lconst 1, 1), (197, .ladd, 1), (198, .lstore 6, 2), (200, .iinc 8 1, 3), (203, .goto (-37), 3), (206, .return_, 1)]
theorem t_X13_share : ∀ q ∈ k_X13_share, decode cX13_share q.1 = .ok q.2 := dl_all (by decide +kernel)
noncomputable def m_X13_share_j140 (a0 x6_39 x8_39 x9_140 : Int) (h_39 : Hp) : Option ((Int × Int × Hp) ⊕ ((Int × Hp))) :=
  gd (h_39 (h_39 a0 2) (-2) % 16 = 1 ∧ (0 : Int) ≤ x8_39 ∧ x8_39 < h_39 (h_39 a0 2) (-1)) (pt h_39 (h_39 a0 2) x8_39 (w32 x9_140) fun h149 =>
  lt_ (w64 (x6_39 + x9_140)) fun x6_155 =>
  lt_ (w32 (x8_39 + 1)) fun x8_157 =>
  some (.inl (x6_155, x8_157, h149)))
noncomputable def m_X13_share_l39 (a0 a1 v16 v28 x6_39 x8_39 : Int) (h_39 : Hp) : Option ((Int × Int × Hp) ⊕ ((Int × Hp))) :=
  if (h_39 a0 3) ≤ x8_39 then (some (.inr (x6_39, h_39)))
  else (if 0 < (lcmp_ v16 a1) then (if 0 < (lcmp_ v28 a1) then (gd (h_39 (h_39 a0 0) (-2) % 16 = 4 ∧ (0 : Int) ≤ x8_39 ∧ x8_39 < h_39 (h_39 a0 0) (-1)) (gd (v28 ≠ 0) (lt_ (w64 (Int.tdiv (w64 (a1 * (h_39 (h_39 a0 0) x8_39))) v28)) fun x9_138 =>
  m_X13_share_j140 a0 x6_39 x8_39 x9_138 h_39)))
  else (gd (h_39 (h_39 a0 0) (-2) % 16 = 4 ∧ (0 : Int) ≤ x8_39 ∧ x8_39 < h_39 (h_39 a0 0) (-1)) (gd (h_39 (h_39 a0 1) (-2) % 16 = 4 ∧ (0 : Int) ≤ x8_39 ∧ x8_39 < h_39 (h_39 a0 1) (-1)) (gd ((w64 (v16 - v28)) ≠ 0) (lt_ (w64 ((h_39 (h_39 a0 0) x8_39) + (w64 (Int.tdiv (w64 ((w64 (a1 - v28)) * (w64 ((h_39 (h_39 a0 1) x8_39) - (h_39 (h_39 a0 0) x8_39))))) (w64 (v16 - v28)))))) fun x9_120 =>
  m_X13_share_j140 a0 x6_39 x8_39 x9_120 h_39)))))
  else (gd (h_39 (h_39 a0 1) (-2) % 16 = 4 ∧ (0 : Int) ≤ x8_39 ∧ x8_39 < h_39 (h_39 a0 1) (-1)) (gd ((h_39 a0 3) ≠ 0) (lt_ (w64 ((h_39 (h_39 a0 1) x8_39) + (w64 (Int.tdiv (w64 (a1 - v16)) (h_39 a0 3))))) fun x9_73 =>
  m_X13_share_j140 a0 x6_39 x8_39 x9_73 h_39))))
noncomputable def m_X13_share_l166 (a0 a1 x6_166 x8_166 : Int) (h_166 : Hp) : Option ((Int × Int × Hp) ⊕ ((Hp))) :=
  if (h_166 a0 3) ≤ x8_166 then (some (.inr h_166))
  else (if 0 ≤ (lcmp_ x6_166 a1) then (some (.inr h_166))
  else (gd (h_166 (h_166 a0 2) (-2) % 16 = 1 ∧ (0 : Int) ≤ x8_166 ∧ x8_166 < h_166 (h_166 a0 2) (-1)) (pt h_166 (h_166 a0 2) x8_166 (w32 ((h_166 (h_166 a0 2) x8_166) + 1)) fun h193 =>
  lt_ (w64 (x6_166 + 1)) fun x6_198 =>
  lt_ (w32 (x8_166 + 1)) fun x8_200 =>
  some (.inl (x6_198, x8_200, h193)))))
noncomputable def m_X13_share (a0 a1 : Int) (h : Hp) : Option (Hp) :=
  if (h a0 3) ≠ 0 then ((m_X13_sum (h a0 1) (h a0 3) h).bind fun v16 =>
  (m_X13_sum (h a0 0) (h a0 3) h).bind fun v28 =>
  lt_ 0 fun x6_34 =>
  lt_ 0 fun x8_37 =>
  (lp (fun (q : Int × Int × Hp) => m_X13_share_l39 a0 a1 v16 v28 q.1 q.2.1 q.2.2) (x6_34, x8_37, h)).bind (fun (y163 : Int × Hp) => lt_ 0 fun x8_164 =>
  (lp (fun (q : Int × Int × Hp) => m_X13_share_l166 a0 a1 q.1 q.2.1 q.2.2) (y163.1, x8_164, y163.2)).bind (fun (x : Hp) => some x)))
  else (some h)
theorem s_X13_share {l : Launch} [NoTr l] {D : SD} {a0 a1 : Int} {h : Hp} (hk : h a0 (-2) = 208) (r1 : r32 a1) {r : Hp} (hm : m_X13_share a0 a1 h = some r) : Sim l D yX13_share (Cond.code yX13_share cX13_share 11 (Option.none : Option Jvm.ClassFile.FieldType)) 1 40 [rv D a0, iv a1] h 0 ((0, 0), r) := by
  refine Sim.of (fin := fun (v : Hp) => ((0, 0), v)) (lsE := [(0, rv D a0), (1, iv a1)]) hm rfl cwS_code (la_r (la_i la_n)) (ll_r (ll_i ll_n)) ?_
  intro p e s m below meth c X hcw hmm hcc hnm hname
  unfold m_X13_share
  refine g_aload_n (pc := 0) X (j := 0) (i := 0) (q := 0) (x := a0) rfl rfl (dl_at t_X13_share 0 rfl) ?_
  refine r_geti (pc := 1) X fX13_3 hk q1025 (dl_at t_X13_share 1 rfl) fun g1 => ?_
  refine g_ifne (pc := 4) X g1 (off := 4) (tgt := 8) rfl (dl_at t_X13_share 2 rfl) (fun _ => ?_) (fun _ => ?_)
  · refine g_aload_n (pc := 8) X (j := 0) (i := 0) (q := 0) (x := a0) rfl rfl (dl_at t_X13_share 4 rfl) ?_
    refine r_getr (pc := 9) X fX13_1 hk q1022 (dl_at t_X13_share 5 rfl) ?_
    refine g_aload_n (pc := 12) X (j := 0) (i := 0) (q := 0) (x := a0) rfl rfl (dl_at t_X13_share 6 rfl) ?_
    refine r_geti (pc := 13) X fX13_3 hk q1025 (dl_at t_X13_share 7 rfl) fun g13 => ?_
    refine r_callRl (pc := 16) X (fun _ hv => s_X13_sum g13 hv) cw_code q2824 q367 (in_Sc X (As := [rv D (h a0 1), iv (h a0 3)]) (Or.inl q2822) q2823 q367 q2824 ⟨by decide, by decide⟩ rfl (dl_at t_X13_share 8 rfl)) (dl_at t_X13_share 8 rfl) (cat24 (st := []) (Nat.le_of_ble_eq_true rfl)) (Nat.le_of_ble_eq_true rfl) (Nat.le_of_ble_eq_true rfl) fun v16 g16 => ?_
    refine g_lstore_nN (pc := 19) X (j := 2) (i := 2) (x := v16) (b := 1) (w := iv a1) (rest := [(0, rv D a0)]) rfl (Nat.le_of_ble_eq_true rfl) [1, 0] rfl (by decide) (by decide) rfl rfl (dl_at t_X13_share 9 rfl) ?_
    refine g_aload_n (pc := 20) X (j := 0) (i := 0) (q := 2) (x := a0) rfl rfl (dl_at t_X13_share 10 rfl) ?_
    refine r_getr (pc := 21) X fX13_0 hk q1021 (dl_at t_X13_share 11 rfl) ?_
    refine g_aload_n (pc := 24) X (j := 0) (i := 0) (q := 2) (x := a0) rfl rfl (dl_at t_X13_share 12 rfl) ?_
    refine r_geti (pc := 25) X fX13_3 hk q1025 (dl_at t_X13_share 13 rfl) fun g25 => ?_
    refine r_callRl (pc := 28) X (fun _ hv => s_X13_sum g25 hv) cw_code q2824 q367 (in_Sc X (As := [rv D (h a0 0), iv (h a0 3)]) (Or.inl q2822) q2823 q367 q2824 ⟨by decide, by decide⟩ rfl (dl_at t_X13_share 14 rfl)) (dl_at t_X13_share 14 rfl) (cat24 (st := []) (Nat.le_of_ble_eq_true rfl)) (Nat.le_of_ble_eq_true rfl) (Nat.le_of_ble_eq_true rfl) fun v28 g28 => ?_
    refine g_lstore (pc := 31) X (i := 4) (x := v28) (rest := [(2, jv v16), (1, iv a1), (0, rv D a0)]) (Nat.le_of_ble_eq_true rfl) [0, 1, 2] rfl rfl (dl_at t_X13_share 15 rfl) ?_
    refine g_lconst0 (pc := 33) X (dl_at t_X13_share 16 rfl) ?_
    refine g_ltl (r64_c rfl) fun x6_34 r6_34 => ?_
    refine g_lstore (pc := 34) X (i := 6) (x := x6_34) (rest := [(4, jv v28), (2, jv v16), (1, iv a1), (0, rv D a0)]) (Nat.le_of_ble_eq_true rfl) [0, 1, 2, 3] rfl rfl (dl_at t_X13_share 17 rfl) ?_
    refine g_iconst (pc := 36) X (n := 0) (dl_at t_X13_share 18 rfl) ?_
    refine g_ltz (Or.inl rfl) fun x8_37 r8_37 => ?_
    refine g_istore (pc := 37) X (i := 8) (x := x8_37) (rest := [(6, jv x6_34), (4, jv v28), (2, jv v16), (1, iv a1), (0, rv D a0)]) (Nat.le_of_ble_eq_true rfl) [0, 1, 2, 3, 4] rfl rfl (dl_at t_X13_share 19 rfl) ?_
    refine g_ls (ls2 := [(0, rv D a0), (1, iv a1), (2, jv v16), (4, jv v28), (6, jv x6_34), (8, iv x8_37)]) [5, 4, 3, 2, 1, 0] rfl ?_
    refine g_loop1 (fun (q : Int × Int × Hp) => [(0, rv D a0), (1, iv a1), (2, jv v16), (4, jv v28), (6, jv q.1), (8, iv q.2.1)]) (fun (q : Int × Int × Hp) => q.2.2) (fun (q : Int × Int × Hp) => r64 q.1 ∧ r32 q.2.1 ∧ Ext h q.2.2) 163 (fun (y163 : Int × Hp) => [(0, rv D a0), (1, iv a1), (6, jv y163.1)]) (fun (y163 : Int × Hp) => y163.2) (fun (y163 : Int × Hp) => r64 y163.1 ∧ Ext h y163.2) (x6_34, x8_37, h) ⟨r6_34, (r32_z r8_37), (Ext.refl _)⟩ ?_ ?_
    · rintro ⟨x6_39, x8_39, h_39⟩ ⟨r6_39, r8_39, E_39⟩
      try dsimp only
      unfold m_X13_share_l39
      refine g_iload (pc := 39) X (i := 8) (q := 5) (x := x8_39) rfl (dl_at t_X13_share 20 rfl) ?_
      refine g_aload_n (pc := 41) X (j := 0) (i := 0) (q := 0) (x := a0) rfl rfl (dl_at t_X13_share 21 rfl) ?_
      have k42 := kx E_39 (by decide) hk
      refine r_geti (pc := 42) X fX13_3 k42 q1025 (dl_at t_X13_share 22 rfl) fun g42 => ?_
      refine g_icmpge (pc := 45) X r8_39 g42 (off := 118) (tgt := 163) rfl (dl_at t_X13_share 23 rfl) (fun _ => ?_) (fun _ => ?_)
      · refine g_ls (ls2 := [(0, rv D a0), (1, iv a1), (6, jv x6_39)]) [0, 1, 4] rfl ?_
        exact g_at fun Q hQ => hQ ⟨r6_39, E_39⟩
      refine g_lload_n (pc := 48) X (j := 2) (i := 2) (q := 2) (x := v16) rfl rfl (dl_at t_X13_share 24 rfl) ?_
      refine g_iload_n (pc := 49) X (j := 1) (i := 1) (q := 1) (x := a1) rfl rfl (dl_at t_X13_share 25 rfl) ?_
      refine g_i2l (pc := 50) X r1 (dl_at t_X13_share 26 rfl) ?_
      refine g_lcmp (pc := 51) X g16 (r64_of r1) (dl_at t_X13_share 27 rfl) ?_
      refine g_join (γ := Int) (fun q => r64 q) 140 (fun q => [(0, rv D a0), (1, iv a1), (2, jv v16), (4, jv v28), (6, jv x6_39), (8, iv x8_39), (9, jv q)]) (fun q => []) (fun q => h_39) (fun q => m_X13_share_j140 a0 x6_39 x8_39 q h_39) ?_ ?_
      · rintro x9_140 r9_140
        try dsimp only
        unfold m_X13_share_j140
        refine g_aload_n (pc := 140) X (j := 0) (i := 0) (q := 0) (x := a0) rfl rfl (dl_at t_X13_share 84 rfl) ?_
        refine r_getr (pc := 141) X fX13_2 k42 q1023 (dl_at t_X13_share 85 rfl) ?_
        refine g_iload (pc := 144) X (i := 8) (q := 5) (x := x8_39) rfl (dl_at t_X13_share 86 rfl) ?_
        refine g_lload (pc := 146) X (i := 9) (q := 6) (x := x9_140) rfl (dl_at t_X13_share 87 rfl) ?_
        refine g_l2i (pc := 148) X r9_140 (dl_at t_X13_share 88 rfl) ?_
        refine g_gd fun k149 => ?_
        refine r_iast (pc := 149) X r8_39 (r32_w _) k149 (dl_at t_X13_share 89 rfl) (fun h149 E149 => ?_)
        refine g_lload (pc := 150) X (i := 6) (q := 4) (x := x6_39) rfl (dl_at t_X13_share 90 rfl) ?_
        refine g_lload (pc := 152) X (i := 9) (q := 6) (x := x9_140) rfl (dl_at t_X13_share 91 rfl) ?_
        refine g_ladd (pc := 154) X r6_39 r9_140 (dl_at t_X13_share 92 rfl) ?_
        refine g_ltl (r64_w _) fun x6_155 r6_155 => ?_
        refine g_lstore (pc := 155) X (i := 6) (x := x6_155) (rest := [(0, rv D a0), (1, iv a1), (2, jv v16), (4, jv v28), (8, iv x8_39)]) (Nat.le_of_ble_eq_true rfl) [0, 1, 2, 3, 5] rfl rfl (dl_at t_X13_share 93 rfl) ?_
        refine r_iinc (pc := 157) X (i := 8) (q := 5) (n := 1) (x := x8_39) (rest := [(6, jv x6_155), (0, rv D a0), (1, iv a1), (2, jv v16), (4, jv v28)]) rfl r8_39 (r32_c rfl) (Nat.le_of_ble_eq_true rfl) [0, 1, 2, 3, 4] rfl rfl (dl_at t_X13_share 94 rfl) fun x8_157 r8_157 => ?_
        refine g_goto (pc := 160) X (off := (-121)) (tgt := 39) rfl (dl_at t_X13_share 95 rfl) ?_
        refine g_ls (ls2 := [(0, rv D a0), (1, iv a1), (2, jv v16), (4, jv v28), (6, jv x6_155), (8, iv x8_157)]) [2, 3, 4, 5, 1, 0] rfl ?_
        exact g_at fun Q hQ => hQ ⟨r6_155, r8_157, (E_39.trans E149)⟩
      intro J140
      refine g_ifgt (pc := 52) X (r32_lcmp _ _) (off := 26) (tgt := 78) rfl (dl_at t_X13_share 28 rfl) (fun _ => ?_) (fun _ => ?_)
      · refine g_lload (pc := 78) X (i := 4) (q := 3) (x := v28) rfl (dl_at t_X13_share 44 rfl) ?_
        refine g_iload_n (pc := 80) X (j := 1) (i := 1) (q := 1) (x := a1) rfl rfl (dl_at t_X13_share 45 rfl) ?_
        refine g_i2l (pc := 81) X r1 (dl_at t_X13_share 46 rfl) ?_
        refine g_lcmp (pc := 82) X g28 (r64_of r1) (dl_at t_X13_share 47 rfl) ?_
        refine g_ifgt (pc := 83) X (r32_lcmp _ _) (off := 42) (tgt := 125) rfl (dl_at t_X13_share 48 rfl) (fun _ => ?_) (fun _ => ?_)
        · refine g_iload_n (pc := 125) X (j := 1) (i := 1) (q := 1) (x := a1) rfl rfl (dl_at t_X13_share 74 rfl) ?_
          refine g_i2l (pc := 126) X r1 (dl_at t_X13_share 75 rfl) ?_
          refine g_aload_n (pc := 127) X (j := 0) (i := 0) (q := 0) (x := a0) rfl rfl (dl_at t_X13_share 76 rfl) ?_
          refine r_getr (pc := 128) X fX13_0 k42 q1021 (dl_at t_X13_share 77 rfl) ?_
          refine g_iload (pc := 131) X (i := 8) (q := 5) (x := x8_39) rfl (dl_at t_X13_share 78 rfl) ?_
          refine g_gd fun k133 => ?_
          refine g_lald (pc := 133) X r8_39 k133 (dl_at t_X13_share 79 rfl) fun g133 => ?_
          refine g_lmul (pc := 134) X (r64_of r1) g133 (dl_at t_X13_share 80 rfl) ?_
          refine g_lload (pc := 135) X (i := 4) (q := 3) (x := v28) rfl (dl_at t_X13_share 81 rfl) ?_
          refine g_gd fun z137 => ?_
          refine g_ldiv (pc := 137) X (r64_w _) g28 z137 (dl_at t_X13_share 82 rfl) ?_
          refine g_ltl (r64_w _) fun x9_138 r9_138 => ?_
          refine g_lstoreN (pc := 138) X (i := 9) (x := x9_138) (b := 8) (w := iv x8_39) (rest := [(0, rv D a0), (1, iv a1), (2, jv v16), (4, jv v28), (6, jv x6_39)]) (Nat.le_of_ble_eq_true rfl) [5, 0, 1, 2, 3, 4] rfl (by decide) (by decide) rfl rfl (dl_at t_X13_share 83 rfl) ?_
          refine g_ls (ls2 := [(0, rv D a0), (1, iv a1), (2, jv v16), (4, jv v28), (6, jv x6_39), (8, iv x8_39), (9, jv x9_138)]) [2, 3, 4, 5, 6, 1, 0] rfl ?_
          exact J140 x9_138 r9_138
        refine g_aload_n (pc := 86) X (j := 0) (i := 0) (q := 0) (x := a0) rfl rfl (dl_at t_X13_share 49 rfl) ?_
        refine r_getr (pc := 87) X fX13_0 k42 q1021 (dl_at t_X13_share 50 rfl) ?_
        refine g_iload (pc := 90) X (i := 8) (q := 5) (x := x8_39) rfl (dl_at t_X13_share 51 rfl) ?_
        refine g_gd fun k92 => ?_
        refine g_lald (pc := 92) X r8_39 k92 (dl_at t_X13_share 52 rfl) fun g92 => ?_
        refine g_iload_n (pc := 93) X (j := 1) (i := 1) (q := 1) (x := a1) rfl rfl (dl_at t_X13_share 53 rfl) ?_
        refine g_i2l (pc := 94) X r1 (dl_at t_X13_share 54 rfl) ?_
        refine g_lload (pc := 95) X (i := 4) (q := 3) (x := v28) rfl (dl_at t_X13_share 55 rfl) ?_
        refine g_lsub (pc := 97) X (r64_of r1) g28 (dl_at t_X13_share 56 rfl) ?_
        refine g_aload_n (pc := 98) X (j := 0) (i := 0) (q := 0) (x := a0) rfl rfl (dl_at t_X13_share 57 rfl) ?_
        refine r_getr (pc := 99) X fX13_1 k42 q1022 (dl_at t_X13_share 58 rfl) ?_
        refine g_iload (pc := 102) X (i := 8) (q := 5) (x := x8_39) rfl (dl_at t_X13_share 59 rfl) ?_
        refine g_gd fun k104 => ?_
        refine g_lald (pc := 104) X r8_39 k104 (dl_at t_X13_share 60 rfl) fun g104 => ?_
        refine g_aload_n (pc := 105) X (j := 0) (i := 0) (q := 0) (x := a0) rfl rfl (dl_at t_X13_share 61 rfl) ?_
        refine r_getr (pc := 106) X fX13_0 k42 q1021 (dl_at t_X13_share 62 rfl) ?_
        refine g_iload (pc := 109) X (i := 8) (q := 5) (x := x8_39) rfl (dl_at t_X13_share 63 rfl) ?_
        refine g_lald (pc := 111) X r8_39 k92 (dl_at t_X13_share 64 rfl) fun g111 => ?_
        refine g_lsub (pc := 112) X g104 g111 (dl_at t_X13_share 65 rfl) ?_
        refine g_lmul (pc := 113) X (r64_w _) (r64_w _) (dl_at t_X13_share 66 rfl) ?_
        refine g_lload_n (pc := 114) X (j := 2) (i := 2) (q := 2) (x := v16) rfl rfl (dl_at t_X13_share 67 rfl) ?_
        refine g_lload (pc := 115) X (i := 4) (q := 3) (x := v28) rfl (dl_at t_X13_share 68 rfl) ?_
        refine g_lsub (pc := 117) X g16 g28 (dl_at t_X13_share 69 rfl) ?_
        refine g_gd fun z118 => ?_
        refine g_ldiv (pc := 118) X (r64_w _) (r64_w _) z118 (dl_at t_X13_share 70 rfl) ?_
        refine g_ladd (pc := 119) X g92 (r64_w _) (dl_at t_X13_share 71 rfl) ?_
        refine g_ltl (r64_w _) fun x9_120 r9_120 => ?_
        refine g_lstoreN (pc := 120) X (i := 9) (x := x9_120) (b := 8) (w := iv x8_39) (rest := [(0, rv D a0), (1, iv a1), (2, jv v16), (4, jv v28), (6, jv x6_39)]) (Nat.le_of_ble_eq_true rfl) [5, 0, 1, 2, 3, 4] rfl (by decide) (by decide) rfl rfl (dl_at t_X13_share 72 rfl) ?_
        refine g_goto (pc := 122) X (off := 18) (tgt := 140) rfl (dl_at t_X13_share 73 rfl) ?_
        refine g_ls (ls2 := [(0, rv D a0), (1, iv a1), (2, jv v16), (4, jv v28), (6, jv x6_39), (8, iv x8_39), (9, jv x9_120)]) [2, 3, 4, 5, 6, 1, 0] rfl ?_
        exact J140 x9_120 r9_120
      refine g_aload_n (pc := 55) X (j := 0) (i := 0) (q := 0) (x := a0) rfl rfl (dl_at t_X13_share 29 rfl) ?_
      refine r_getr (pc := 56) X fX13_1 k42 q1022 (dl_at t_X13_share 30 rfl) ?_
      refine g_iload (pc := 59) X (i := 8) (q := 5) (x := x8_39) rfl (dl_at t_X13_share 31 rfl) ?_
      refine g_gd fun k61 => ?_
      refine g_lald (pc := 61) X r8_39 k61 (dl_at t_X13_share 32 rfl) fun g61 => ?_
      refine g_iload_n (pc := 62) X (j := 1) (i := 1) (q := 1) (x := a1) rfl rfl (dl_at t_X13_share 33 rfl) ?_
      refine g_i2l (pc := 63) X r1 (dl_at t_X13_share 34 rfl) ?_
      refine g_lload_n (pc := 64) X (j := 2) (i := 2) (q := 2) (x := v16) rfl rfl (dl_at t_X13_share 35 rfl) ?_
      refine g_lsub (pc := 65) X (r64_of r1) g16 (dl_at t_X13_share 36 rfl) ?_
      refine g_aload_n (pc := 66) X (j := 0) (i := 0) (q := 0) (x := a0) rfl rfl (dl_at t_X13_share 37 rfl) ?_
      refine r_geti (pc := 67) X fX13_3 k42 q1025 (dl_at t_X13_share 38 rfl) fun g67 => ?_
      refine g_i2l (pc := 70) X g67 (dl_at t_X13_share 39 rfl) ?_
      refine g_gd fun z71 => ?_
      refine g_ldiv (pc := 71) X (r64_w _) (r64_of g67) z71 (dl_at t_X13_share 40 rfl) ?_
      refine g_ladd (pc := 72) X g61 (r64_w _) (dl_at t_X13_share 41 rfl) ?_
      refine g_ltl (r64_w _) fun x9_73 r9_73 => ?_
      refine g_lstoreN (pc := 73) X (i := 9) (x := x9_73) (b := 8) (w := iv x8_39) (rest := [(0, rv D a0), (1, iv a1), (2, jv v16), (4, jv v28), (6, jv x6_39)]) (Nat.le_of_ble_eq_true rfl) [5, 0, 1, 2, 3, 4] rfl (by decide) (by decide) rfl rfl (dl_at t_X13_share 42 rfl) ?_
      refine g_goto (pc := 75) X (off := 65) (tgt := 140) rfl (dl_at t_X13_share 43 rfl) ?_
      refine g_ls (ls2 := [(0, rv D a0), (1, iv a1), (2, jv v16), (4, jv v28), (6, jv x6_39), (8, iv x8_39), (9, jv x9_73)]) [2, 3, 4, 5, 6, 1, 0] rfl ?_
      exact J140 x9_73 r9_73
    · rintro ⟨x6_163, h_163⟩ ⟨r6_163, E_163⟩
      try dsimp only [sE]
      refine g_iconst (pc := 163) X (n := 0) (dl_at t_X13_share 96 rfl) ?_
      refine g_ltz (Or.inl rfl) fun x8_164 r8_164 => ?_
      refine g_istore (pc := 164) X (i := 8) (x := x8_164) (rest := [(0, rv D a0), (1, iv a1), (6, jv x6_163)]) (Nat.le_of_ble_eq_true rfl) [0, 1, 2] rfl rfl (dl_at t_X13_share 97 rfl) ?_
      refine g_ls (ls2 := [(0, rv D a0), (1, iv a1), (6, jv x6_163), (8, iv x8_164)]) [1, 2, 3, 0] rfl ?_
      refine g_loop0F (fun (q : Int × Int × Hp) => [(0, rv D a0), (1, iv a1), (6, jv q.1), (8, iv q.2.1)]) (fun (q : Int × Int × Hp) => q.2.2) (fun (q : Int × Int × Hp) => r64 q.1 ∧ r32 q.2.1 ∧ Ext h_163 q.2.2) (x6_163, x8_164, h_163) ⟨r6_163, (r32_z r8_164), (Ext.refl _)⟩ ?_ (fun _ => rfl)
      · rintro ⟨x6_166, x8_166, h_166⟩ ⟨r6_166, r8_166, E_166⟩
        try dsimp only
        unfold m_X13_share_l166
        refine g_iload (pc := 166) X (i := 8) (q := 3) (x := x8_166) rfl (dl_at t_X13_share 98 rfl) ?_
        refine g_aload_n (pc := 168) X (j := 0) (i := 0) (q := 0) (x := a0) rfl rfl (dl_at t_X13_share 99 rfl) ?_
        have k169 := kx (E_163.trans E_166) (by decide) hk
        refine r_geti (pc := 169) X fX13_3 k169 q1025 (dl_at t_X13_share 100 rfl) fun g169 => ?_
        refine g_icmpge (pc := 172) X r8_166 g169 (off := 34) (tgt := 206) rfl (dl_at t_X13_share 101 rfl) (fun _ => ?_) (fun _ => ?_)
        · exact g_at fun Q hQ => (g_vret (pc := 206) X (v := 0) rfl rfl (dl_at t_X13_share 121 rfl)) _ Q rfl hQ
        refine g_lload (pc := 175) X (i := 6) (q := 2) (x := x6_166) rfl (dl_at t_X13_share 102 rfl) ?_
        refine g_iload_n (pc := 177) X (j := 1) (i := 1) (q := 1) (x := a1) rfl rfl (dl_at t_X13_share 103 rfl) ?_
        refine g_i2l (pc := 178) X r1 (dl_at t_X13_share 104 rfl) ?_
        refine g_lcmp (pc := 179) X r6_166 (r64_of r1) (dl_at t_X13_share 105 rfl) ?_
        refine g_ifge (pc := 180) X (r32_lcmp _ _) (off := 26) (tgt := 206) rfl (dl_at t_X13_share 106 rfl) (fun _ => ?_) (fun _ => ?_)
        · exact g_at fun Q hQ => (g_vret (pc := 206) X (v := 0) rfl rfl (dl_at t_X13_share 121 rfl)) _ Q rfl hQ
        refine g_aload_n (pc := 183) X (j := 0) (i := 0) (q := 0) (x := a0) rfl rfl (dl_at t_X13_share 107 rfl) ?_
        refine r_getr (pc := 184) X fX13_2 k169 q1023 (dl_at t_X13_share 108 rfl) ?_
        refine g_iload (pc := 187) X (i := 8) (q := 3) (x := x8_166) rfl (dl_at t_X13_share 109 rfl) ?_
        refine g_dup2 (pc := 189) X rfl rv_cat (dl_at t_X13_share 110 rfl) ?_
        refine g_gd fun k190 => ?_
        refine g_iald (pc := 190) X r8_166 k190 (dl_at t_X13_share 111 rfl) fun g190 => ?_
        refine g_iconst (pc := 191) X (n := 1) (dl_at t_X13_share 112 rfl) ?_
        refine g_iadd (pc := 192) X g190 (r32_c rfl) (dl_at t_X13_share 113 rfl) ?_
        refine r_iast (pc := 193) X r8_166 (r32_w _) k190 (dl_at t_X13_share 114 rfl) (fun h193 E193 => ?_)
        refine g_lload (pc := 194) X (i := 6) (q := 2) (x := x6_166) rfl (dl_at t_X13_share 115 rfl) ?_
        refine g_lconst1 (pc := 196) X (dl_at t_X13_share 116 rfl) ?_
        refine g_ladd (pc := 197) X r6_166 (r64_c rfl) (dl_at t_X13_share 117 rfl) ?_
        refine g_ltl (r64_w _) fun x6_198 r6_198 => ?_
        refine g_lstore (pc := 198) X (i := 6) (x := x6_198) (rest := [(0, rv D a0), (1, iv a1), (8, iv x8_166)]) (Nat.le_of_ble_eq_true rfl) [0, 1, 3] rfl rfl (dl_at t_X13_share 118 rfl) ?_
        refine r_iinc (pc := 200) X (i := 8) (q := 3) (n := 1) (x := x8_166) (rest := [(6, jv x6_198), (0, rv D a0), (1, iv a1)]) rfl r8_166 (r32_c rfl) (Nat.le_of_ble_eq_true rfl) [0, 1, 2] rfl rfl (dl_at t_X13_share 119 rfl) fun x8_200 r8_200 => ?_
        refine g_goto (pc := 203) X (off := (-37)) (tgt := 166) rfl (dl_at t_X13_share 120 rfl) ?_
        refine g_ls (ls2 := [(0, rv D a0), (1, iv a1), (6, jv x6_198), (8, iv x8_200)]) [2, 3, 1, 0] rfl ?_
        exact g_at fun Q hQ => hQ ⟨r6_198, r8_200, (E_166.trans E193)⟩
  exact g_vret (pc := 7) X (v := 0) rfl rfl (dl_at t_X13_share 3 rfl)
def k_X14_endTable : List (Nat × Instr × Nat) := [(0, .aload_n 0, 1), (1, .iconst 4, 1), (2, .invokevirtual 289, 3), (5, .istore_n 1, 1), (6, .aload_n 0, 1), (7, .getfield 154, 3), (10, .getfield 485, 3), (13, .astore_n 2, 1), (14, .aload_n 2, 1), (15, .aload_n 0, 1), (16, .iload_n 1, 1), (17, .invokevirtual 390, 3), (20, .invokevirtual 568, 3), (23, .aload_n 0, 1), (24, .getfield 154, 3), (27, .getfield 571, 3), (30, .iconst 0, 1), (31, .iload_n 1, 1), (32, .iastore, 1), (33, .iconst 0, 1), (34, .istore_n 3, 1), (35, .iload_n 3, 1), (36, .aload_n 2, 1), (37, .getfield 574, 3), (40, .if_icmp .ge 36, 3), (43, .aload_n 0, 1), (44, .getfield 154, 3), (47, .getfield 571, 3), (50, .iload_n 3, 1), (51, .iconst 1, 1), (52, .iadd, 1), (53, .aload_n 0, 1), (54, .getfield 154, 3), (57, .getfield 571, 3), (60, .iload_n 3, 1), (61, .iaload, 1), (62, .aload_n 2, 1), (63, .getfield 575, 3), (66, .iload_n 3, 1), (67, .iaload, 1), (68, .iadd, 1), (69, .iastore, 1), (70, .iinc 3 1, 3), (73, .goto (-38), 3), (76, .iconst 0, 1), (77, .istore_n 3, 1), (78, .iload_n 3, 1), (79, .aload_n 0, 1), (80, .getfield 479, 3), (83, .if_icmp .ge 82, 3), (86, .aload_n 0, 1), (87, .getfield 154, 3), (90, .getfield 553, 3), (93, .iload_n 3, 1), (94, .iaload, 1), (95, .istore 4, 2), (97, .aload_n 0, 1), (98, .getfield 24, 3), (101, .aload_n 0, 1), (102, .getfield 154, 3), (105, .getfield 550, 3), (108, .iload_n 3, 1), (109, .iaload, 1), (110, .aaload, 1), (111, .astore 5, 2), (113, .aload 5, 2), (115, .aload_n 0, 1), (116, .getfield 154, 3), (119, .getfield 571, 3), (122, .iload 4, 2), (124, .iaload, 1), (125, .putfield 330, 3), (128, .aload 5, 2), (130, .aload_n 2, 1), (131, .getfield 575, 3), (134, .iload 4, 2), (136, .iaload, 1), (137, .sipush 1000, 3), (140, .if_icmp .ge 9, 3), (143, .sipush 1000, 3), (146, .goto 10, 3), (149, .aload_n 2, 1), (150, .getfield 575, 3), (153, .iload 4, 2), (155, .iaload, 1), (156, .putfield 393, 3), (159, .iinc 3 1, 3), (162, .goto (-84), 3), (165, .aload_n 0, 1), (166, .getfield 482, 3), (169, .istore_n 3, 1), (170, .iload_n 3, 1), (171, .aload_n 0, 1), (172, .getfield 199, 3), (175, .if_icmp .ge 16, 3), (178, .aload_n 0, 1), (179, .getfield 53, 3), (182, .iload_n 3, 1), (183, .iload_n 1, 1), (184, .iastore, 1), (185, .iinc 3 1, 3), (188, .goto (-18), 3), (191, .return_, 1)]
theorem t_X14_endTable : ∀ q ∈ k_X14_endTable, decode cX14_endTable q.1 = .ok q.2 := dl_all (by decide +kernel)
noncomputable def m_X14_endTable_l35 (a0 x2_13 x3_35 : Int) (h_35 : Hp) : Option ((Int × Hp) ⊕ ((Hp))) :=
  if (h_35 x2_13 3) ≤ x3_35 then (some (.inr h_35))
  else (gd (h_35 (h_35 a0 0) (-2) = 160) (gd (h_35 (h_35 (h_35 a0 0) 9) (-2) % 16 = 1 ∧ (0 : Int) ≤ x3_35 ∧ x3_35 < h_35 (h_35 (h_35 a0 0) 9) (-1)) (gd (h_35 (h_35 x2_13 2) (-2) % 16 = 1 ∧ (0 : Int) ≤ x3_35 ∧ x3_35 < h_35 (h_35 x2_13 2) (-1)) (gd (h_35 (h_35 (h_35 a0 0) 9) (-2) % 16 = 1 ∧ (0 : Int) ≤ (w32 (x3_35 + 1)) ∧ (w32 (x3_35 + 1)) < h_35 (h_35 (h_35 a0 0) 9) (-1)) (pt h_35 (h_35 (h_35 a0 0) 9) (w32 (x3_35 + 1)) (w32 ((h_35 (h_35 (h_35 a0 0) 9) x3_35) + (h_35 (h_35 x2_13 2) x3_35))) fun h69 =>
  lt_ (w32 (x3_35 + 1)) fun x3_70 =>
  some (.inl (x3_70, h69)))))))
noncomputable def m_X14_endTable_j156 (x5_111 x3_78 s1_156 : Int) (h125 : Hp) : Option ((Int × Hp) ⊕ ((Hp))) :=
  pt h125 x5_111 4 s1_156 fun h156 =>
  lt_ (w32 (x3_78 + 1)) fun x3_159 =>
  some (.inl (x3_159, h156))
noncomputable def m_X14_endTable_l78 (a0 x2_13 x3_78 : Int) (h_78 : Hp) : Option ((Int × Hp) ⊕ ((Hp))) :=
  if (h_78 a0 48) ≤ x3_78 then (some (.inr h_78))
  else (gd (h_78 (h_78 a0 0) (-2) = 160) (gd (h_78 (h_78 (h_78 a0 0) 8) (-2) % 16 = 1 ∧ (0 : Int) ≤ x3_78 ∧ x3_78 < h_78 (h_78 (h_78 a0 0) 8) (-1)) (lt_ (h_78 (h_78 (h_78 a0 0) 8) x3_78) fun x4_95 =>
  gd (h_78 (h_78 (h_78 a0 0) 7) (-2) % 16 = 1 ∧ (0 : Int) ≤ x3_78 ∧ x3_78 < h_78 (h_78 (h_78 a0 0) 7) (-1)) (gd (h_78 (h_78 a0 10) (-2) % 16 = 9 ∧ (0 : Int) ≤ (h_78 (h_78 (h_78 a0 0) 7) x3_78) ∧ (h_78 (h_78 (h_78 a0 0) 7) x3_78) < h_78 (h_78 a0 10) (-1)) (lt_ (h_78 (h_78 a0 10) (h_78 (h_78 (h_78 a0 0) 7) x3_78)) fun x5_111 =>
  gd (h_78 (h_78 (h_78 a0 0) 9) (-2) % 16 = 1 ∧ (0 : Int) ≤ x4_95 ∧ x4_95 < h_78 (h_78 (h_78 a0 0) 9) (-1)) (gd (h_78 x5_111 (-2) = 288) (pt h_78 x5_111 5 (h_78 (h_78 (h_78 a0 0) 9) x4_95) fun h125 =>
  gd (h125 (h125 x2_13 2) (-2) % 16 = 1 ∧ (0 : Int) ≤ x4_95 ∧ x4_95 < h125 (h125 x2_13 2) (-1)) (if 1000 ≤ (h125 (h125 x2_13 2) x4_95) then (m_X14_endTable_j156 x5_111 x3_78 (h125 (h125 x2_13 2) x4_95) h125)
  else (m_X14_endTable_j156 x5_111 x3_78 1000 h125)))))))))
noncomputable def m_X14_endTable_l170 (a0 v2 x3_170 : Int) (h_170 : Hp) : Option ((Int × Hp) ⊕ ((Hp))) :=
  if (h_170 a0 23) ≤ x3_170 then (some (.inr h_170))
  else (gd (h_170 (h_170 a0 21) (-2) % 16 = 1 ∧ (0 : Int) ≤ x3_170 ∧ x3_170 < h_170 (h_170 a0 21) (-1)) (pt h_170 (h_170 a0 21) x3_170 v2 fun h184 =>
  lt_ (w32 (x3_170 + 1)) fun x3_185 =>
  some (.inl (x3_185, h184))))
noncomputable def m_X14_endTable (a0 : Int) (h : Hp) : Option (Hp) :=
  (m_X14_inset a0 4 h).bind fun v2 =>
  gd (h (h a0 0) (-2) = 160) (lt_ (h (h a0 0) 5) fun x2_13 =>
  (m_X14_fullWidth a0 v2 h).bind fun v17 =>
  gd (h x2_13 (-2) = 208) ((m_X13_share x2_13 v17 h).bind fun h20 =>
  gd (h20 (h20 a0 0) (-2) = 160) (gd (h20 (h20 (h20 a0 0) 9) (-2) % 16 = 1 ∧ (0 : Int) ≤ 0 ∧ 0 < h20 (h20 (h20 a0 0) 9) (-1)) (pt h20 (h20 (h20 a0 0) 9) 0 v2 fun h32 =>
  lt_ 0 fun x3_34 =>
  (lp (fun (q : Int × Hp) => m_X14_endTable_l35 a0 x2_13 q.1 q.2) (x3_34, h32)).bind (fun (y76 : Hp) => lt_ 0 fun x3_77 =>
  (lp (fun (q : Int × Hp) => m_X14_endTable_l78 a0 x2_13 q.1 q.2) (x3_77, y76)).bind (fun (y165 : Hp) => lt_ (y165 a0 49) fun x3_169 =>
  (lp (fun (q : Int × Hp) => m_X14_endTable_l170 a0 v2 q.1 q.2) (x3_169, y165)).bind (fun (x : Hp) => some x)))))))
theorem s_X14_endTable {l : Launch} [NoTr l] {D : SD} {a0 : Int} {h : Hp} (hk : h a0 (-2) = 224) {r : Hp} (hm : m_X14_endTable a0 h = some r) : Sim l D yX14_endTable (Cond.code yX14_endTable cX14_endTable 6 (Option.none : Option Jvm.ClassFile.FieldType)) 5 189 [rv D a0] h 0 ((0, 0), r) := by
  refine Sim.of (fin := fun (v : Hp) => ((0, 0), v)) (lsE := [(0, rv D a0)]) hm rfl cwS_code (la_r la_n) (ll_r ll_n) ?_
  intro p e s m below meth c X hcw hmm hcc hnm hname
  unfold m_X14_endTable
  refine g_aload_n (pc := 0) X (j := 0) (i := 0) (q := 0) (x := a0) rfl rfl (dl_at t_X14_endTable 0 rfl) ?_
  refine g_iconst (pc := 1) X (n := 4) (dl_at t_X14_endTable 1 rfl) ?_
  refine r_callRi (pc := 2) X (fun _ hv => s_X14_inset hk (r32_c rfl) hv) cw_code q2500 q368 (in_Vk X (As := [iv 4]) kX14 hk (Or.inl q2497) q2499 qs118 cw_code q2500 ⟨by decide, by decide⟩ rfl (dl_at t_X14_endTable 2 rfl)) (dl_at t_X14_endTable 2 rfl) (cat24 (st := []) (Nat.le_of_ble_eq_true rfl)) (Nat.le_of_ble_eq_true rfl) (Nat.le_of_ble_eq_true rfl) fun v2 g2 => ?_
  refine g_istore_nN (pc := 5) X (j := 1) (i := 1) (x := v2) (b := 0) (w := rv D a0) (rest := []) rfl (Nat.le_of_ble_eq_true rfl) [0] rfl (by decide) rv_cat rfl (dl_at t_X14_endTable 3 rfl) ?_
  refine g_aload_n (pc := 6) X (j := 0) (i := 0) (q := 1) (x := a0) rfl rfl (dl_at t_X14_endTable 4 rfl) ?_
  refine r_getr (pc := 7) X fX14_0 hk q1241 (dl_at t_X14_endTable 5 rfl) ?_
  refine g_gd fun k10 => ?_
  refine r_getrN (pc := 10) X fX10_5 k10 (nw_in q1048 rfl) (dl_at t_X14_endTable 6 rfl) ?_
  refine g_ltr fun x2_13 => ?_
  refine g_astore_nN (pc := 13) X (j := 2) (i := 2) (x := x2_13) (b := 1) (w := iv v2) (rest := [(0, rv D a0)]) rfl (Nat.le_of_ble_eq_true rfl) [0, 1] rfl (by decide) rfl rfl (dl_at t_X14_endTable 7 rfl) ?_
  refine g_aload_n (pc := 14) X (j := 2) (i := 2) (q := 0) (x := x2_13) rfl rfl (dl_at t_X14_endTable 8 rfl) ?_
  refine g_aload_n (pc := 15) X (j := 0) (i := 0) (q := 2) (x := a0) rfl rfl (dl_at t_X14_endTable 9 rfl) ?_
  refine g_iload_n (pc := 16) X (j := 1) (i := 1) (q := 1) (x := v2) rfl rfl (dl_at t_X14_endTable 10 rfl) ?_
  refine r_callRi (pc := 17) X (fun _ hv => s_X14_fullWidth hk g2 hv) cw_code q2672 q368 (in_Vk X (As := [iv v2]) kX14 hk (Or.inl q2669) q2671 qs136 cw_code q2672 ⟨by decide, by decide⟩ rfl (dl_at t_X14_endTable 11 rfl)) (dl_at t_X14_endTable 11 rfl) (cat24 (st := [rv D x2_13]) (Nat.le_of_ble_eq_true rfl)) (Nat.le_of_ble_eq_true rfl) (Nat.le_of_ble_eq_true rfl) fun v17 g17 => ?_
  refine g_gd fun k20 => ?_
  refine r_callV (pc := 20) X (fun _ hv => s_X13_share k20 g17 hv) cw_code q2821 q367 (in_Vk X (As := [iv v17]) kX13 k20 (Or.inr ⟨_, nw_in q2818 rfl⟩) q2820 qs166 cw_code q2821 ⟨by decide, by decide⟩ rfl (dl_at t_X14_endTable 12 rfl)) (dl_at t_X14_endTable 12 rfl) (cat24 (st := []) (Nat.le_of_ble_eq_true rfl)) (Nat.le_of_ble_eq_true rfl) (Nat.le_of_ble_eq_true rfl) fun h20 E20 => ?_
  refine g_aload_n (pc := 23) X (j := 0) (i := 0) (q := 2) (x := a0) rfl rfl (dl_at t_X14_endTable 13 rfl) ?_
  have k24 := kx E20 (by decide) hk
  refine r_getr (pc := 24) X fX14_0 k24 q1241 (dl_at t_X14_endTable 14 rfl) ?_
  refine g_gd fun k27 => ?_
  refine r_getrN (pc := 27) X fX10_9 k27 (nw_in q1056 rfl) (dl_at t_X14_endTable 15 rfl) ?_
  refine g_iconst (pc := 30) X (n := 0) (dl_at t_X14_endTable 16 rfl) ?_
  refine g_iload_n (pc := 31) X (j := 1) (i := 1) (q := 1) (x := v2) rfl rfl (dl_at t_X14_endTable 17 rfl) ?_
  refine g_gd fun k32 => ?_
  refine r_iast (pc := 32) X (r32_c rfl) g2 k32 (dl_at t_X14_endTable 18 rfl) (fun h32 E32 => ?_)
  refine g_iconst (pc := 33) X (n := 0) (dl_at t_X14_endTable 19 rfl) ?_
  refine g_ltz (Or.inl rfl) fun x3_34 r3_34 => ?_
  refine g_istore_nN (pc := 34) X (j := 3) (i := 3) (x := x3_34) (b := 2) (w := rv D x2_13) (rest := [(1, iv v2), (0, rv D a0)]) rfl (Nat.le_of_ble_eq_true rfl) [0, 1, 2] rfl (by decide) rv_cat rfl (dl_at t_X14_endTable 20 rfl) ?_
  refine g_ls (ls2 := [(0, rv D a0), (1, iv v2), (2, rv D x2_13), (3, iv x3_34)]) [3, 2, 1, 0] rfl ?_
  refine g_loop1 (fun (q : Int × Hp) => [(0, rv D a0), (1, iv v2), (2, rv D x2_13), (3, iv q.1)]) (fun (q : Int × Hp) => q.2) (fun (q : Int × Hp) => r32 q.1 ∧ Ext h32 q.2) 76 (fun (y76 : Hp) => [(0, rv D a0), (1, iv v2), (2, rv D x2_13)]) (fun (y76 : Hp) => y76) (fun (y76 : Hp) => Ext h32 y76) (x3_34, h32) ⟨(r32_z r3_34), (Ext.refl _)⟩ ?_ ?_
  · rintro ⟨x3_35, h_35⟩ ⟨r3_35, E_35⟩
    try dsimp only
    unfold m_X14_endTable_l35
    refine g_iload_n (pc := 35) X (j := 3) (i := 3) (q := 3) (x := x3_35) rfl rfl (dl_at t_X14_endTable 21 rfl) ?_
    refine g_aload_n (pc := 36) X (j := 2) (i := 2) (q := 2) (x := x2_13) rfl rfl (dl_at t_X14_endTable 22 rfl) ?_
    have k37 := kx (E20.trans (E32.trans E_35)) (by decide) k20
    refine r_getiN (pc := 37) X fX13_3 k37 (nw_in q1026 rfl) (dl_at t_X14_endTable 23 rfl) fun g37 => ?_
    refine g_icmpge (pc := 40) X r3_35 g37 (off := 36) (tgt := 76) rfl (dl_at t_X14_endTable 24 rfl) (fun _ => ?_) (fun _ => ?_)
    · refine g_ls (ls2 := [(0, rv D a0), (1, iv v2), (2, rv D x2_13)]) [0, 1, 2] rfl ?_
      exact g_at fun Q hQ => hQ E_35
    refine g_aload_n (pc := 43) X (j := 0) (i := 0) (q := 0) (x := a0) rfl rfl (dl_at t_X14_endTable 25 rfl) ?_
    have k44 := kx (E32.trans E_35) (by decide) k24
    refine r_getr (pc := 44) X fX14_0 k44 q1241 (dl_at t_X14_endTable 26 rfl) ?_
    refine g_gd fun k47 => ?_
    refine r_getrN (pc := 47) X fX10_9 k47 (nw_in q1056 rfl) (dl_at t_X14_endTable 27 rfl) ?_
    refine g_iload_n (pc := 50) X (j := 3) (i := 3) (q := 3) (x := x3_35) rfl rfl (dl_at t_X14_endTable 28 rfl) ?_
    refine g_iconst (pc := 51) X (n := 1) (dl_at t_X14_endTable 29 rfl) ?_
    refine g_iadd (pc := 52) X r3_35 (r32_c rfl) (dl_at t_X14_endTable 30 rfl) ?_
    refine g_aload_n (pc := 53) X (j := 0) (i := 0) (q := 0) (x := a0) rfl rfl (dl_at t_X14_endTable 31 rfl) ?_
    refine r_getr (pc := 54) X fX14_0 k44 q1241 (dl_at t_X14_endTable 32 rfl) ?_
    refine r_getrN (pc := 57) X fX10_9 k47 (nw_in q1056 rfl) (dl_at t_X14_endTable 33 rfl) ?_
    refine g_iload_n (pc := 60) X (j := 3) (i := 3) (q := 3) (x := x3_35) rfl rfl (dl_at t_X14_endTable 34 rfl) ?_
    refine g_gd fun k61 => ?_
    refine g_iald (pc := 61) X r3_35 k61 (dl_at t_X14_endTable 35 rfl) fun g61 => ?_
    refine g_aload_n (pc := 62) X (j := 2) (i := 2) (q := 2) (x := x2_13) rfl rfl (dl_at t_X14_endTable 36 rfl) ?_
    refine r_getrN (pc := 63) X fX13_2 k37 (nw_in q1024 rfl) (dl_at t_X14_endTable 37 rfl) ?_
    refine g_iload_n (pc := 66) X (j := 3) (i := 3) (q := 3) (x := x3_35) rfl rfl (dl_at t_X14_endTable 38 rfl) ?_
    refine g_gd fun k67 => ?_
    refine g_iald (pc := 67) X r3_35 k67 (dl_at t_X14_endTable 39 rfl) fun g67 => ?_
    refine g_iadd (pc := 68) X g61 g67 (dl_at t_X14_endTable 40 rfl) ?_
    refine g_gd fun k69 => ?_
    refine r_iast (pc := 69) X (r32_w _) (r32_w _) k69 (dl_at t_X14_endTable 41 rfl) (fun h69 E69 => ?_)
    refine r_iincN (pc := 70) X (i := 3) (q := 3) (n := 1) (x := x3_35) (b := 2) (w := rv D x2_13) (rest := [(0, rv D a0), (1, iv v2)]) rfl r3_35 (r32_c rfl) (Nat.le_of_ble_eq_true rfl) [2, 0, 1] rfl (by decide) rv_cat rfl (dl_at t_X14_endTable 42 rfl) fun x3_70 r3_70 => ?_
    refine g_goto (pc := 73) X (off := (-38)) (tgt := 35) rfl (dl_at t_X14_endTable 43 rfl) ?_
    refine g_ls (ls2 := [(0, rv D a0), (1, iv v2), (2, rv D x2_13), (3, iv x3_70)]) [2, 3, 1, 0] rfl ?_
    exact g_at fun Q hQ => hQ ⟨r3_70, (E_35.trans E69)⟩
  · rintro h_76 E_76
    try dsimp only [sE]
    refine g_iconst (pc := 76) X (n := 0) (dl_at t_X14_endTable 44 rfl) ?_
    refine g_ltz (Or.inl rfl) fun x3_77 r3_77 => ?_
    refine g_istore_nN (pc := 77) X (j := 3) (i := 3) (x := x3_77) (b := 2) (w := rv D x2_13) (rest := [(0, rv D a0), (1, iv v2)]) rfl (Nat.le_of_ble_eq_true rfl) [2, 0, 1] rfl (by decide) rv_cat rfl (dl_at t_X14_endTable 45 rfl) ?_
    refine g_ls (ls2 := [(0, rv D a0), (1, iv v2), (2, rv D x2_13), (3, iv x3_77)]) [2, 3, 1, 0] rfl ?_
    refine g_loop1 (fun (q : Int × Hp) => [(0, rv D a0), (1, iv v2), (2, rv D x2_13), (3, iv q.1)]) (fun (q : Int × Hp) => q.2) (fun (q : Int × Hp) => r32 q.1 ∧ Ext h_76 q.2) 165 (fun (y165 : Hp) => [(0, rv D a0), (1, iv v2)]) (fun (y165 : Hp) => y165) (fun (y165 : Hp) => Ext h_76 y165) (x3_77, h_76) ⟨(r32_z r3_77), (Ext.refl _)⟩ ?_ ?_
    · rintro ⟨x3_78, h_78⟩ ⟨r3_78, E_78⟩
      try dsimp only
      unfold m_X14_endTable_l78
      refine g_iload_n (pc := 78) X (j := 3) (i := 3) (q := 3) (x := x3_78) rfl rfl (dl_at t_X14_endTable 46 rfl) ?_
      refine g_aload_n (pc := 79) X (j := 0) (i := 0) (q := 0) (x := a0) rfl rfl (dl_at t_X14_endTable 47 rfl) ?_
      have k80 := kx (E32.trans (E_76.trans E_78)) (by decide) k24
      refine r_geti (pc := 80) X fX14_48 k80 q1310 (dl_at t_X14_endTable 48 rfl) fun g80 => ?_
      refine g_icmpge (pc := 83) X r3_78 g80 (off := 82) (tgt := 165) rfl (dl_at t_X14_endTable 49 rfl) (fun _ => ?_) (fun _ => ?_)
      · refine g_ls (ls2 := [(0, rv D a0), (1, iv v2)]) [0, 1] rfl ?_
        exact g_at fun Q hQ => hQ E_78
      refine g_aload_n (pc := 86) X (j := 0) (i := 0) (q := 0) (x := a0) rfl rfl (dl_at t_X14_endTable 50 rfl) ?_
      refine r_getr (pc := 87) X fX14_0 k80 q1241 (dl_at t_X14_endTable 51 rfl) ?_
      refine g_gd fun k90 => ?_
      refine r_getrN (pc := 90) X fX10_8 k90 (nw_in q1054 rfl) (dl_at t_X14_endTable 52 rfl) ?_
      refine g_iload_n (pc := 93) X (j := 3) (i := 3) (q := 3) (x := x3_78) rfl rfl (dl_at t_X14_endTable 53 rfl) ?_
      refine g_gd fun k94 => ?_
      refine g_iald (pc := 94) X r3_78 k94 (dl_at t_X14_endTable 54 rfl) fun g94 => ?_
      refine g_lti g94 fun x4_95 r4_95 => ?_
      refine g_istoreN (pc := 95) X (i := 4) (x := x4_95) (b := 3) (w := iv x3_78) (rest := [(0, rv D a0), (1, iv v2), (2, rv D x2_13)]) (Nat.le_of_ble_eq_true rfl) [3, 0, 1, 2] rfl (by decide) rfl rfl (dl_at t_X14_endTable 55 rfl) ?_
      refine g_aload_n (pc := 97) X (j := 0) (i := 0) (q := 2) (x := a0) rfl rfl (dl_at t_X14_endTable 56 rfl) ?_
      refine r_getr (pc := 98) X fX14_10 k80 q1256 (dl_at t_X14_endTable 57 rfl) ?_
      refine g_aload_n (pc := 101) X (j := 0) (i := 0) (q := 2) (x := a0) rfl rfl (dl_at t_X14_endTable 58 rfl) ?_
      refine r_getr (pc := 102) X fX14_0 k80 q1241 (dl_at t_X14_endTable 59 rfl) ?_
      refine r_getrN (pc := 105) X fX10_7 k90 (nw_in q1052 rfl) (dl_at t_X14_endTable 60 rfl) ?_
      refine g_iload_n (pc := 108) X (j := 3) (i := 3) (q := 1) (x := x3_78) rfl rfl (dl_at t_X14_endTable 61 rfl) ?_
      refine g_gd fun k109 => ?_
      refine g_iald (pc := 109) X r3_78 k109 (dl_at t_X14_endTable 62 rfl) fun g109 => ?_
      refine g_gd fun k110 => ?_
      refine g_aald (pc := 110) X 9 (Nat.le_of_ble_eq_true rfl) (Nat.le_of_ble_eq_true rfl) g109 rfl k110 (dl_at t_X14_endTable 63 rfl) ?_
      refine g_ltr fun x5_111 => ?_
      refine g_astoreN (pc := 111) X (i := 5) (x := x5_111) (b := 4) (w := iv x4_95) (rest := [(3, iv x3_78), (0, rv D a0), (1, iv v2), (2, rv D x2_13)]) (Nat.le_of_ble_eq_true rfl) [0, 1, 2, 3, 4] rfl (by decide) rfl rfl (dl_at t_X14_endTable 64 rfl) ?_
      refine g_aload (pc := 113) X (i := 5) (q := 0) (x := x5_111) rfl (dl_at t_X14_endTable 65 rfl) ?_
      refine g_aload_n (pc := 115) X (j := 0) (i := 0) (q := 3) (x := a0) rfl rfl (dl_at t_X14_endTable 66 rfl) ?_
      refine r_getr (pc := 116) X fX14_0 k80 q1241 (dl_at t_X14_endTable 67 rfl) ?_
      refine r_getrN (pc := 119) X fX10_9 k90 (nw_in q1056 rfl) (dl_at t_X14_endTable 68 rfl) ?_
      refine g_iload (pc := 122) X (i := 4) (q := 1) (x := x4_95) rfl (dl_at t_X14_endTable 69 rfl) ?_
      refine g_gd fun k124 => ?_
      refine g_iald (pc := 124) X r4_95 k124 (dl_at t_X14_endTable 70 rfl) fun g124 => ?_
      refine g_gd fun k125 => ?_
      refine r_putiN (pc := 125) X fX28_5 k125 (nw_in q2541 rfl) rfl (dl_at t_X14_endTable 71 rfl) g124 (fun h125 E125 => ?_)
      refine g_aload (pc := 128) X (i := 5) (q := 0) (x := x5_111) rfl (dl_at t_X14_endTable 72 rfl) ?_
      refine g_aload_n (pc := 130) X (j := 2) (i := 2) (q := 5) (x := x2_13) rfl rfl (dl_at t_X14_endTable 73 rfl) ?_
      have k131 := kx (E20.trans (E32.trans (E_76.trans (E_78.trans E125)))) (by decide) k20
      refine r_getrN (pc := 131) X fX13_2 k131 (nw_in q1024 rfl) (dl_at t_X14_endTable 74 rfl) ?_
      refine g_iload (pc := 134) X (i := 4) (q := 1) (x := x4_95) rfl (dl_at t_X14_endTable 75 rfl) ?_
      refine g_gd fun k136 => ?_
      refine g_iald (pc := 136) X r4_95 k136 (dl_at t_X14_endTable 76 rfl) fun g136 => ?_
      refine g_sipush (pc := 137) X (n := 1000) rfl (dl_at t_X14_endTable 77 rfl) ?_
      refine g_join (γ := Int) (fun q => r32 q) 156 (fun q => [(0, rv D a0), (1, iv v2), (2, rv D x2_13), (3, iv x3_78)]) (fun q => [iv q, rv D x5_111]) (fun q => h125) (fun q => m_X14_endTable_j156 x5_111 x3_78 q h125) ?_ ?_
      · rintro s1_156 rs1_156
        try dsimp only
        unfold m_X14_endTable_j156
        have k156 := kx E125 (by decide) k125
        refine r_putiN (pc := 156) X fX28_4 k156 (nw_in q2539 rfl) rfl (dl_at t_X14_endTable 85 rfl) rs1_156 (fun h156 E156 => ?_)
        refine r_iincN (pc := 159) X (i := 3) (q := 3) (n := 1) (x := x3_78) (b := 2) (w := rv D x2_13) (rest := [(0, rv D a0), (1, iv v2)]) rfl r3_78 (r32_c rfl) (Nat.le_of_ble_eq_true rfl) [2, 0, 1] rfl (by decide) rv_cat rfl (dl_at t_X14_endTable 86 rfl) fun x3_159 r3_159 => ?_
        refine g_goto (pc := 162) X (off := (-84)) (tgt := 78) rfl (dl_at t_X14_endTable 87 rfl) ?_
        refine g_ls (ls2 := [(0, rv D a0), (1, iv v2), (2, rv D x2_13), (3, iv x3_159)]) [2, 3, 1, 0] rfl ?_
        exact g_at fun Q hQ => hQ ⟨r3_159, (E_78.trans (E125.trans E156))⟩
      intro J156
      refine g_icmpge (pc := 140) X g136 (r32_c rfl) (off := 9) (tgt := 149) rfl (dl_at t_X14_endTable 78 rfl) (fun _ => ?_) (fun _ => ?_)
      · refine g_aload_n (pc := 149) X (j := 2) (i := 2) (q := 5) (x := x2_13) rfl rfl (dl_at t_X14_endTable 81 rfl) ?_
        refine r_getrN (pc := 150) X fX13_2 k131 (nw_in q1024 rfl) (dl_at t_X14_endTable 82 rfl) ?_
        refine g_iload (pc := 153) X (i := 4) (q := 1) (x := x4_95) rfl (dl_at t_X14_endTable 83 rfl) ?_
        refine g_iald (pc := 155) X r4_95 k136 (dl_at t_X14_endTable 84 rfl) fun g155 => ?_
        refine g_ls (ls2 := [(0, rv D a0), (1, iv v2), (2, rv D x2_13), (3, iv x3_78)]) [3, 4, 5, 2] rfl ?_
        exact J156 (h125 (h125 x2_13 2) x4_95) g155
      refine g_sipush (pc := 143) X (n := 1000) rfl (dl_at t_X14_endTable 79 rfl) ?_
      refine g_goto (pc := 146) X (off := 10) (tgt := 156) rfl (dl_at t_X14_endTable 80 rfl) ?_
      refine g_ls (ls2 := [(0, rv D a0), (1, iv v2), (2, rv D x2_13), (3, iv x3_78)]) [3, 4, 5, 2] rfl ?_
      exact J156 1000 (r32_c rfl)
    · rintro h_165 E_165
      try dsimp only [sE]
      refine g_aload_n (pc := 165) X (j := 0) (i := 0) (q := 0) (x := a0) rfl rfl (dl_at t_X14_endTable 88 rfl) ?_
      have k166 := kx (E32.trans (E_76.trans E_165)) (by decide) k24
      refine r_geti (pc := 166) X fX14_49 k166 q1311 (dl_at t_X14_endTable 89 rfl) fun g166 => ?_
      refine g_lti g166 fun x3_169 r3_169 => ?_
      refine g_istore_n (pc := 169) X (j := 3) (i := 3) (x := x3_169) (rest := [(0, rv D a0), (1, iv v2)]) rfl (Nat.le_of_ble_eq_true rfl) [0, 1] rfl rfl (dl_at t_X14_endTable 90 rfl) ?_
      refine g_ls (ls2 := [(0, rv D a0), (1, iv v2), (3, iv x3_169)]) [1, 2, 0] rfl ?_
      refine g_loop0F (fun (q : Int × Hp) => [(0, rv D a0), (1, iv v2), (3, iv q.1)]) (fun (q : Int × Hp) => q.2) (fun (q : Int × Hp) => r32 q.1 ∧ Ext h_165 q.2) (x3_169, h_165) ⟨r3_169, (Ext.refl _)⟩ ?_ (fun _ => rfl)
      · rintro ⟨x3_170, h_170⟩ ⟨r3_170, E_170⟩
        try dsimp only
        unfold m_X14_endTable_l170
        refine g_iload_n (pc := 170) X (j := 3) (i := 3) (q := 2) (x := x3_170) rfl rfl (dl_at t_X14_endTable 91 rfl) ?_
        refine g_aload_n (pc := 171) X (j := 0) (i := 0) (q := 0) (x := a0) rfl rfl (dl_at t_X14_endTable 92 rfl) ?_
        have k172 := kx E_170 (by decide) k166
        refine r_geti (pc := 172) X fX14_23 k172 q1276 (dl_at t_X14_endTable 93 rfl) fun g172 => ?_
        refine g_icmpge (pc := 175) X r3_170 g172 (off := 16) (tgt := 191) rfl (dl_at t_X14_endTable 94 rfl) (fun _ => ?_) (fun _ => ?_)
        · exact g_at fun Q hQ => (g_vret (pc := 191) X (v := 0) rfl rfl (dl_at t_X14_endTable 102 rfl)) _ Q rfl hQ
        refine g_aload_n (pc := 178) X (j := 0) (i := 0) (q := 0) (x := a0) rfl rfl (dl_at t_X14_endTable 95 rfl) ?_
        refine r_getr (pc := 179) X fX14_21 k172 q1273 (dl_at t_X14_endTable 96 rfl) ?_
        refine g_iload_n (pc := 182) X (j := 3) (i := 3) (q := 2) (x := x3_170) rfl rfl (dl_at t_X14_endTable 97 rfl) ?_
        refine g_iload_n (pc := 183) X (j := 1) (i := 1) (q := 1) (x := v2) rfl rfl (dl_at t_X14_endTable 98 rfl) ?_
        refine g_gd fun k184 => ?_
        refine r_iast (pc := 184) X r3_170 g2 k184 (dl_at t_X14_endTable 99 rfl) (fun h184 E184 => ?_)
        refine r_iinc (pc := 185) X (i := 3) (q := 2) (n := 1) (x := x3_170) (rest := [(0, rv D a0), (1, iv v2)]) rfl r3_170 (r32_c rfl) (Nat.le_of_ble_eq_true rfl) [0, 1] rfl rfl (dl_at t_X14_endTable 100 rfl) fun x3_185 r3_185 => ?_
        refine g_goto (pc := 188) X (off := (-18)) (tgt := 170) rfl (dl_at t_X14_endTable 101 rfl) ?_
        refine g_ls (ls2 := [(0, rv D a0), (1, iv v2), (3, iv x3_185)]) [1, 2, 0] rfl ?_
        exact g_at fun Q hQ => hQ ⟨r3_185, (E_170.trans E184)⟩
def k_X14_shut : List (Nat × Instr × Nat) := [(0, .aload_n 0, 1), (1, .invokevirtual 397, 3), (4, .aload_n 0, 1), (5, .iload_n 1, 1), (6, .bipush 7, 2), (8, .invokevirtual 283, 3), (11, .istore_n 2, 1), (12, .iload_n 2, 1), (13, .aload_n 0, 1), (14, .getfield 372, 3), (17, .if_icmp .le 8, 3), (20, .aload_n 0, 1), (21, .iload_n 2, 1), (22, .putfield 372, 3), (25, .aload_n 0, 1), (26, .dup, 1), (27, .getfield 276, 3), (30, .iconst 1, 1), (31, .isub, 1), (32, .putfield 276, 3), (35, .return_, 1)]
theorem t_X14_shut : ∀ q ∈ k_X14_shut, decode cX14_shut q.1 = .ok q.2 := dl_all (by decide +kernel)
noncomputable def m_X14_shut (a0 a1 : Int) (h : Hp) : Option ((Int × Int) × Hp) :=
  bT (m_X14_flush a0 h) (fun _ h1 =>
  (m_X14_property a0 a1 7 h1).bind fun v8 =>
  if v8 ≤ (h1 a0 45) then (pt h1 a0 44 (w32 ((h1 a0 44) - 1)) fun h32 =>
  some ((0, 0), h32))
  else (pt h1 a0 45 v8 fun h22 =>
  pt h22 a0 44 (w32 ((h22 a0 44) - 1)) fun h32_1 =>
  some ((0, 0), h32_1))) (fun a_ h_ => some ((1, a_), h_))
theorem s_X14_shut {l : Launch} [NoTr l] {D : SD} {a0 a1 : Int} {h : Hp} (hk : h a0 (-2) = 224) (r1 : r32 a1) {r : (Int × Int) × Hp} (hm : m_X14_shut a0 a1 h = some r) : Sim l D yX14_shut (Cond.code yX14_shut cX14_shut 3 (Option.none : Option Jvm.ClassFile.FieldType)) 16 604 [rv D a0, iv a1] h 0 r := by
  refine Sim.of (fin := fun (v : (Int × Int) × Hp) => v) (lsE := [(0, rv D a0), (1, iv a1)]) hm rfl cwS_code (la_r (la_i la_n)) (ll_r (ll_i ll_n)) ?_
  intro p e s m below meth c X hcw hmm hcc hnm hname
  have hno := noh hcw hnm hmm hcc
  unfold m_X14_shut
  refine g_aload_n (pc := 0) X (j := 0) (i := 0) (q := 0) (x := a0) rfl rfl (dl_at t_X14_shut 0 rfl) ?_
  refine r_callTv (pc := 1) X (fun _ hv => s_X14_flush hk hv) cw_code q2496 q368 (in_Vk X (As := []) kX14 hk (Or.inl q2493) q2495 qs117 cw_code q2496 ⟨by decide, by decide⟩ rfl (dl_at t_X14_shut 1 rfl)) (dl_at t_X14_shut 1 rfl) (cat24 (st := []) (Nat.le_of_ble_eq_true rfl)) (Nat.le_of_ble_eq_true rfl) (Nat.le_of_ble_eq_true rfl) (fun v1 h1 E1 => ?_) (fun _ _ ha _ => gt_at fun Q hQ => gt_out (Q := Q) X rfl ha (hno _) _ Q rfl hQ)
  refine g_aload_n (pc := 4) X (j := 0) (i := 0) (q := 0) (x := a0) rfl rfl (dl_at t_X14_shut 2 rfl) ?_
  refine g_iload_n (pc := 5) X (j := 1) (i := 1) (q := 1) (x := a1) rfl rfl (dl_at t_X14_shut 3 rfl) ?_
  refine g_bipush (pc := 6) X (n := 7) rfl (dl_at t_X14_shut 4 rfl) ?_
  have k8 := kx E1 (by decide) hk
  refine r_callRi (pc := 8) X (fun _ hv => s_X14_property k8 r1 (r32_c rfl) hv) cw_code q2504 q368 (in_Vk X (As := [iv a1, iv 7]) kX14 k8 (Or.inl q2501) q2503 qs119 cw_code q2504 ⟨by decide, by decide⟩ rfl (dl_at t_X14_shut 5 rfl)) (dl_at t_X14_shut 5 rfl) (cat24 (st := []) (Nat.le_of_ble_eq_true rfl)) (Nat.le_of_ble_eq_true rfl) (Nat.le_of_ble_eq_true rfl) fun v8 g8 => ?_
  refine g_istore_n (pc := 11) X (j := 2) (i := 2) (x := v8) (rest := [(0, rv D a0)]) rfl (Nat.le_of_ble_eq_true rfl) [0] rfl rfl (dl_at t_X14_shut 6 rfl) ?_
  refine g_iload_n (pc := 12) X (j := 2) (i := 2) (q := 0) (x := v8) rfl rfl (dl_at t_X14_shut 7 rfl) ?_
  refine g_aload_n (pc := 13) X (j := 0) (i := 0) (q := 1) (x := a0) rfl rfl (dl_at t_X14_shut 8 rfl) ?_
  refine r_geti (pc := 14) X fX14_45 k8 q1307 (dl_at t_X14_shut 9 rfl) fun g14 => ?_
  refine g_icmple (pc := 17) X g8 g14 (off := 8) (tgt := 25) rfl (dl_at t_X14_shut 10 rfl) (fun _ => ?_) (fun _ => ?_)
  · refine g_aload_n (pc := 25) X (j := 0) (i := 0) (q := 1) (x := a0) rfl rfl (dl_at t_X14_shut 14 rfl) ?_
    refine g_dup (pc := 26) X rv_cat (dl_at t_X14_shut 15 rfl) ?_
    refine r_geti (pc := 27) X fX14_44 k8 q1306 (dl_at t_X14_shut 16 rfl) fun g27 => ?_
    refine g_iconst (pc := 30) X (n := 1) (dl_at t_X14_shut 17 rfl) ?_
    refine g_isub (pc := 31) X g27 (r32_c rfl) (dl_at t_X14_shut 18 rfl) ?_
    refine r_puti (pc := 32) X fX14_44 k8 q1306 rfl (dl_at t_X14_shut 19 rfl) (r32_w _) (fun h32 E32 => ?_)
    exact g_vret (pc := 35) X (v := 0) rfl rfl (dl_at t_X14_shut 20 rfl)
  refine g_aload_n (pc := 20) X (j := 0) (i := 0) (q := 1) (x := a0) rfl rfl (dl_at t_X14_shut 11 rfl) ?_
  refine g_iload_n (pc := 21) X (j := 2) (i := 2) (q := 0) (x := v8) rfl rfl (dl_at t_X14_shut 12 rfl) ?_
  refine r_puti (pc := 22) X fX14_45 k8 q1307 rfl (dl_at t_X14_shut 13 rfl) g8 (fun h22 E22 => ?_)
  refine g_aload_n (pc := 25) X (j := 0) (i := 0) (q := 1) (x := a0) rfl rfl (dl_at t_X14_shut 14 rfl) ?_
  refine g_dup (pc := 26) X rv_cat (dl_at t_X14_shut 15 rfl) ?_
  have k27 := kx E22 (by decide) k8
  refine r_geti (pc := 27) X fX14_44 k27 q1306 (dl_at t_X14_shut 16 rfl) fun g27_1 => ?_
  refine g_iconst (pc := 30) X (n := 1) (dl_at t_X14_shut 17 rfl) ?_
  refine g_isub (pc := 31) X g27_1 (r32_c rfl) (dl_at t_X14_shut 18 rfl) ?_
  refine r_puti (pc := 32) X fX14_44 k27 q1306 rfl (dl_at t_X14_shut 19 rfl) (r32_w _) (fun h32_1 E32_1 => ?_)
  exact g_vret (pc := 35) X (v := 0) rfl rfl (dl_at t_X14_shut 20 rfl)
def k_X14_end : List (Nat × Instr × Nat) := [(0, .aload_n 0, 1), (1, .getfield 158, 3), (4, .getfield 462, 3), (7, .iload_n 1, 1), (8, .baload, 1), (9, .ifCond .eq 94, 3), (12, .aload_n 0, 1), (13, .getfield 158, 3), (16, .getfield 470, 3), (19, .iload_n 1, 1), (20, .iaload, 1), (56, .aload_n 0, 1), (57, .iload_n 1, 1), (58, .invokevirtual 504, 3), (61, .goto 26, 3), (64, .aload_n 0, 1), (65, .iload_n 1, 1), (66, .invokevirtual 507, 3), (69, .goto 18, 3), (72, .aload_n 0, 1), (73, .iload_n 1, 1), (74, .invokevirtual 510, 3), (77, .goto 10, 3), (80, .aload_n 0, 1), (81, .invokevirtual 513, 3), (84, .goto 3, 3), (87, .aload_n 0, 1), (88, .getfield 158, 3), (91, .iload_n 1, 1), (92, .invokevirtual 465, 3), (95, .ifCond .eq 8, 3), (98, .aload_n 0, 1), (99, .iload_n 1, 1), (100, .invokevirtual 516, 3), (103, .aload_n 0, 1), (104, .getfield 71, 3), (107, .iload_n 1, 1), (108, .aload_n 0, 1), (109, .getfield 205, 3), (112, .iastore, 1), (113, .return_, 1)]
theorem t_X14_end : ∀ q ∈ k_X14_end, decode cX14_end q.1 = .ok q.2 := dl_all (by decide +kernel)
theorem dS_X14_end_21 : decode cX14_end 21 = .ok (.tableswitch 66 3 7 #[35, 66, 59, 51, 43], 35) := by decide +kernel
noncomputable def m_X14_end_j87 (a0 a1 : Int) (h_87 : Hp) : Option ((Int × Int) × Hp) :=
  gd (h_87 (h_87 a0 2) (-2) = 112) ((m_X7_isBlock (h_87 a0 2) a1 h_87).bind fun v92 =>
  if v92 = 0 then (gd (h_87 (h_87 a0 30) (-2) % 16 = 1 ∧ (0 : Int) ≤ a1 ∧ a1 < h_87 (h_87 a0 30) (-1)) (pt h_87 (h_87 a0 30) a1 (h_87 a0 27) fun h112_1 =>
  some ((0, 0), h112_1)))
  else (bT (m_X14_shut a0 a1 h_87) (fun _ h100 =>
  gd (h100 (h100 a0 30) (-2) % 16 = 1 ∧ (0 : Int) ≤ a1 ∧ a1 < h100 (h100 a0 30) (-1)) (pt h100 (h100 a0 30) a1 (h100 a0 27) fun h112_2 =>
  some ((0, 0), h112_2))) (fun a_ h_ => some ((1, a_), h_))))
noncomputable def m_X14_end (a0 a1 : Int) (h : Hp) : Option ((Int × Int) × Hp) :=
  gd (h (h a0 2) (-2) = 112) (gd (h (h (h a0 2) 6) (-2) % 16 = 3 ∧ (0 : Int) ≤ a1 ∧ a1 < h (h (h a0 2) 6) (-1)) (if (h (h (h a0 2) 6) a1) = 0 then (gd (h (h a0 30) (-2) % 16 = 1 ∧ (0 : Int) ≤ a1 ∧ a1 < h (h a0 30) (-1)) (pt h (h a0 30) a1 (h a0 27) fun h112 =>
  some ((0, 0), h112)))
  else (gd (h (h (h a0 2) 8) (-2) % 16 = 1 ∧ (0 : Int) ≤ a1 ∧ a1 < h (h (h a0 2) 8) (-1)) (if (h (h (h a0 2) 8) a1) = 3 then (bT (m_X14_endNote a0 a1 h) (fun _ h58 =>
  m_X14_end_j87 a0 a1 h58) (fun a_ h_ => some ((1, a_), h_)))
  else (if (h (h (h a0 2) 8) a1) = 5 then ((m_X14_endTable a0 h).bind fun h81 =>
  m_X14_end_j87 a0 a1 h81)
  else (if (h (h (h a0 2) 8) a1) = 6 then ((m_X14_endRow a0 a1 h).bind fun h74 =>
  m_X14_end_j87 a0 a1 h74)
  else (if (h (h (h a0 2) 8) a1) = 7 then (bT (m_X14_endCell a0 a1 h) (fun _ h66 =>
  m_X14_end_j87 a0 a1 h66) (fun a_ h_ => some ((1, a_), h_)))
  else (m_X14_end_j87 a0 a1 h))))))))
theorem s_X14_end {l : Launch} [NoTr l] {D : SD} {a0 a1 : Int} {h : Hp} (hk : h a0 (-2) = 224) (r1 : r32 a1) {r : (Int × Int) × Hp} (hm : m_X14_end a0 a1 h = some r) : Sim l D yX14_end (Cond.code yX14_end cX14_end 2 (Option.none : Option Jvm.ClassFile.FieldType)) 17 642 [rv D a0, iv a1] h 0 r := by
  refine Sim.of (fin := fun (v : (Int × Int) × Hp) => v) (lsE := [(0, rv D a0), (1, iv a1)]) hm rfl cwS_code (la_r (la_i la_n)) (ll_r (ll_i ll_n)) ?_
  intro p e s m below meth c X hcw hmm hcc hnm hname
  have hno := noh hcw hnm hmm hcc
  unfold m_X14_end
  refine g_aload_n (pc := 0) X (j := 0) (i := 0) (q := 0) (x := a0) rfl rfl (dl_at t_X14_end 0 rfl) ?_
  refine r_getr (pc := 1) X fX14_2 hk q1243 (dl_at t_X14_end 1 rfl) ?_
  refine g_gd fun k4 => ?_
  refine r_getrN (pc := 4) X fX7_6 k4 (nw_in q790 rfl) (dl_at t_X14_end 2 rfl) ?_
  refine g_iload_n (pc := 7) X (j := 1) (i := 1) (q := 1) (x := a1) rfl rfl (dl_at t_X14_end 3 rfl) ?_
  refine g_gd fun k8 => ?_
  refine g_zald (pc := 8) X r1 k8 (dl_at t_X14_end 4 rfl) fun g8 => ?_
  refine g_ifeq (pc := 9) X (r32_z g8) (off := 94) (tgt := 103) rfl (dl_at t_X14_end 5 rfl) (fun _ => ?_) (fun _ => ?_)
  · refine g_aload_n (pc := 103) X (j := 0) (i := 0) (q := 0) (x := a0) rfl rfl (dl_at t_X14_end 34 rfl) ?_
    refine r_getr (pc := 104) X fX14_30 hk q1283 (dl_at t_X14_end 35 rfl) ?_
    refine g_iload_n (pc := 107) X (j := 1) (i := 1) (q := 1) (x := a1) rfl rfl (dl_at t_X14_end 36 rfl) ?_
    refine g_aload_n (pc := 108) X (j := 0) (i := 0) (q := 0) (x := a0) rfl rfl (dl_at t_X14_end 37 rfl) ?_
    refine r_geti (pc := 109) X fX14_27 hk q1280 (dl_at t_X14_end 38 rfl) fun g109 => ?_
    refine g_gd fun k112 => ?_
    refine r_iast (pc := 112) X r1 g109 k112 (dl_at t_X14_end 39 rfl) (fun h112 E112 => ?_)
    exact g_vret (pc := 113) X (v := 0) rfl rfl (dl_at t_X14_end 40 rfl)
  refine g_aload_n (pc := 12) X (j := 0) (i := 0) (q := 0) (x := a0) rfl rfl (dl_at t_X14_end 6 rfl) ?_
  refine r_getr (pc := 13) X fX14_2 hk q1243 (dl_at t_X14_end 7 rfl) ?_
  refine r_getrN (pc := 16) X fX7_8 k4 (nw_in q798 rfl) (dl_at t_X14_end 8 rfl) ?_
  refine g_iload_n (pc := 19) X (j := 1) (i := 1) (q := 1) (x := a1) rfl rfl (dl_at t_X14_end 9 rfl) ?_
  refine g_gd fun k20 => ?_
  refine g_iald (pc := 20) X r1 k20 (dl_at t_X14_end 10 rfl) fun g20 => ?_
  refine g_join (γ := Hp) (fun q => Ext h q) 87 (fun q => [(0, rv D a0), (1, iv a1)]) (fun q => []) (fun q => q) (fun q => m_X14_end_j87 a0 a1 q) ?_ ?_
  · rintro h_87 E_87
    try dsimp only
    unfold m_X14_end_j87
    refine g_aload_n (pc := 87) X (j := 0) (i := 0) (q := 0) (x := a0) rfl rfl (dl_at t_X14_end 26 rfl) ?_
    have k88 := kx E_87 (by decide) hk
    refine r_getr (pc := 88) X fX14_2 k88 q1243 (dl_at t_X14_end 27 rfl) ?_
    refine g_iload_n (pc := 91) X (j := 1) (i := 1) (q := 1) (x := a1) rfl rfl (dl_at t_X14_end 28 rfl) ?_
    refine g_gd fun k92 => ?_
    refine r_callRz (pc := 92) X (fun _ hv => s_X7_isBlock k92 r1 hv) cw_code q2488 q361 (in_Vk X (As := [iv a1]) kX7 k92 (Or.inr ⟨_, nw_in q2485 rfl⟩) q2487 qs115 cw_code q2488 ⟨by decide, by decide⟩ rfl (dl_at t_X14_end 29 rfl)) (dl_at t_X14_end 29 rfl) (cat24 (st := []) (Nat.le_of_ble_eq_true rfl)) (Nat.le_of_ble_eq_true rfl) (Nat.le_of_ble_eq_true rfl) fun v92 g92 => ?_
    refine g_ifeq (pc := 95) X (r32_z g92) (off := 8) (tgt := 103) rfl (dl_at t_X14_end 30 rfl) (fun _ => ?_) (fun _ => ?_)
    · refine g_aload_n (pc := 103) X (j := 0) (i := 0) (q := 0) (x := a0) rfl rfl (dl_at t_X14_end 34 rfl) ?_
      refine r_getr (pc := 104) X fX14_30 k88 q1283 (dl_at t_X14_end 35 rfl) ?_
      refine g_iload_n (pc := 107) X (j := 1) (i := 1) (q := 1) (x := a1) rfl rfl (dl_at t_X14_end 36 rfl) ?_
      refine g_aload_n (pc := 108) X (j := 0) (i := 0) (q := 0) (x := a0) rfl rfl (dl_at t_X14_end 37 rfl) ?_
      refine r_geti (pc := 109) X fX14_27 k88 q1280 (dl_at t_X14_end 38 rfl) fun g109_1 => ?_
      refine g_gd fun k112_1 => ?_
      refine r_iast (pc := 112) X r1 g109_1 k112_1 (dl_at t_X14_end 39 rfl) (fun h112_1 E112_1 => ?_)
      exact g_vret (pc := 113) X (v := 0) rfl rfl (dl_at t_X14_end 40 rfl)
    refine g_aload_n (pc := 98) X (j := 0) (i := 0) (q := 0) (x := a0) rfl rfl (dl_at t_X14_end 31 rfl) ?_
    refine g_iload_n (pc := 99) X (j := 1) (i := 1) (q := 1) (x := a1) rfl rfl (dl_at t_X14_end 32 rfl) ?_
    refine r_callTv (pc := 100) X (fun _ hv => s_X14_shut k88 r1 hv) cw_code q2828 q368 (in_Vk X (As := [iv a1]) kX14 k88 (Or.inl q2825) q2827 qs167 cw_code q2828 ⟨by decide, by decide⟩ rfl (dl_at t_X14_end 33 rfl)) (dl_at t_X14_end 33 rfl) (cat24 (st := []) (Nat.le_of_ble_eq_true rfl)) (Nat.le_of_ble_eq_true rfl) (Nat.le_of_ble_eq_true rfl) (fun v100 h100 E100 => ?_) (fun _ _ ha _ => gt_at fun Q hQ => gt_out (Q := Q) X rfl ha (hno _) _ Q rfl hQ)
    refine g_aload_n (pc := 103) X (j := 0) (i := 0) (q := 0) (x := a0) rfl rfl (dl_at t_X14_end 34 rfl) ?_
    have k104 := kx E100 (by decide) k88
    refine r_getr (pc := 104) X fX14_30 k104 q1283 (dl_at t_X14_end 35 rfl) ?_
    refine g_iload_n (pc := 107) X (j := 1) (i := 1) (q := 1) (x := a1) rfl rfl (dl_at t_X14_end 36 rfl) ?_
    refine g_aload_n (pc := 108) X (j := 0) (i := 0) (q := 0) (x := a0) rfl rfl (dl_at t_X14_end 37 rfl) ?_
    refine r_geti (pc := 109) X fX14_27 k104 q1280 (dl_at t_X14_end 38 rfl) fun g109_2 => ?_
    refine g_gd fun k112_2 => ?_
    refine r_iast (pc := 112) X r1 g109_2 k112_2 (dl_at t_X14_end 39 rfl) (fun h112_2 E112_2 => ?_)
    exact g_vret (pc := 113) X (v := 0) rfl rfl (dl_at t_X14_end 40 rfl)
  intro J87
  refine g_case (fun w21 => ?_) (fun nw21 => ?_)
  · refine g_tabIn (pc := 21) X (off := 35) (tgt := 56) g20 w21 (by decide) (by decide) rfl rfl dS_X14_end_21 ?_
    refine g_aload_n (pc := 56) X (j := 0) (i := 0) (q := 0) (x := a0) rfl rfl (dl_at t_X14_end 11 rfl) ?_
    refine g_iload_n (pc := 57) X (j := 1) (i := 1) (q := 1) (x := a1) rfl rfl (dl_at t_X14_end 12 rfl) ?_
    refine r_callTv (pc := 58) X (fun _ hv => s_X14_endNote hk r1 hv) cw_code q2783 q368 (in_Vk X (As := [iv a1]) kX14 hk (Or.inl q2780) q2782 qs157 cw_code q2783 ⟨by decide, by decide⟩ rfl (dl_at t_X14_end 13 rfl)) (dl_at t_X14_end 13 rfl) (cat24 (st := []) (Nat.le_of_ble_eq_true rfl)) (Nat.le_of_ble_eq_true rfl) (Nat.le_of_ble_eq_true rfl) (fun v58 h58 E58 => ?_) (fun _ _ ha _ => gt_at fun Q hQ => gt_out (Q := Q) X rfl ha (hno _) _ Q rfl hQ)
    refine g_goto (pc := 61) X (off := 26) (tgt := 87) rfl (dl_at t_X14_end 14 rfl) ?_
    exact J87 h58 E58
  refine g_case (fun w21_1 => ?_) (fun nw21_1 => ?_)
  · refine g_tabIn (pc := 21) X (off := 59) (tgt := 80) g20 w21_1 (by decide) (by decide) rfl rfl dS_X14_end_21 ?_
    refine g_aload_n (pc := 80) X (j := 0) (i := 0) (q := 0) (x := a0) rfl rfl (dl_at t_X14_end 23 rfl) ?_
    refine r_callV (pc := 81) X (fun _ hv => s_X14_endTable hk hv) cw_code q2817 q368 (in_Vk X (As := []) kX14 hk (Or.inl q2814) q2816 qs165 cw_code q2817 ⟨by decide, by decide⟩ rfl (dl_at t_X14_end 24 rfl)) (dl_at t_X14_end 24 rfl) (cat24 (st := []) (Nat.le_of_ble_eq_true rfl)) (Nat.le_of_ble_eq_true rfl) (Nat.le_of_ble_eq_true rfl) fun h81 E81 => ?_
    refine g_goto (pc := 84) X (off := 3) (tgt := 87) rfl (dl_at t_X14_end 25 rfl) ?_
    exact J87 h81 E81
  refine g_case (fun w21_2 => ?_) (fun nw21_2 => ?_)
  · refine g_tabIn (pc := 21) X (off := 51) (tgt := 72) g20 w21_2 (by decide) (by decide) rfl rfl dS_X14_end_21 ?_
    refine g_aload_n (pc := 72) X (j := 0) (i := 0) (q := 0) (x := a0) rfl rfl (dl_at t_X14_end 19 rfl) ?_
    refine g_iload_n (pc := 73) X (j := 1) (i := 1) (q := 1) (x := a1) rfl rfl (dl_at t_X14_end 20 rfl) ?_
    refine r_callV (pc := 74) X (fun _ hv => s_X14_endRow hk r1 hv) cw_code q2812 q368 (in_Vk X (As := [iv a1]) kX14 hk (Or.inl q2809) q2811 qs164 cw_code q2812 ⟨by decide, by decide⟩ rfl (dl_at t_X14_end 21 rfl)) (dl_at t_X14_end 21 rfl) (cat24 (st := []) (Nat.le_of_ble_eq_true rfl)) (Nat.le_of_ble_eq_true rfl) (Nat.le_of_ble_eq_true rfl) fun h74 E74 => ?_
    refine g_goto (pc := 77) X (off := 10) (tgt := 87) rfl (dl_at t_X14_end 22 rfl) ?_
    exact J87 h74 E74
  refine g_case (fun w21_3 => ?_) (fun nw21_3 => ?_)
  · refine g_tabIn (pc := 21) X (off := 43) (tgt := 64) g20 w21_3 (by decide) (by decide) rfl rfl dS_X14_end_21 ?_
    refine g_aload_n (pc := 64) X (j := 0) (i := 0) (q := 0) (x := a0) rfl rfl (dl_at t_X14_end 15 rfl) ?_
    refine g_iload_n (pc := 65) X (j := 1) (i := 1) (q := 1) (x := a1) rfl rfl (dl_at t_X14_end 16 rfl) ?_
    refine r_callTv (pc := 66) X (fun _ hv => s_X14_endCell hk r1 hv) cw_code q2787 q368 (in_Vk X (As := [iv a1]) kX14 hk (Or.inl q2784) q2786 qs158 cw_code q2787 ⟨by decide, by decide⟩ rfl (dl_at t_X14_end 17 rfl)) (dl_at t_X14_end 17 rfl) (cat24 (st := []) (Nat.le_of_ble_eq_true rfl)) (Nat.le_of_ble_eq_true rfl) (Nat.le_of_ble_eq_true rfl) (fun v66 h66 E66 => ?_) (fun _ _ ha _ => gt_at fun Q hQ => gt_out (Q := Q) X rfl ha (hno _) _ Q rfl hQ)
    refine g_goto (pc := 69) X (off := 18) (tgt := 87) rfl (dl_at t_X14_end 18 rfl) ?_
    exact J87 h66 E66
  have w21_4 : ¬ (h (h (h a0 2) 8) a1) ∈ ([3, 5, 6, 7] : List Int) := by simp only [List.mem_cons, List.not_mem_nil, or_false, not_or] at *; simp only [*, not_false_eq_true, and_self]
  refine g_tabElse (pc := 21) X (tgt := 87) [3, 5, 6, 7] g20 w21_4 rfl rfl dS_X14_end_21 ?_
  exact J87 h (Ext.refl _)
def k_X14_stand : List (Nat × Instr × Nat) := [(0, .iload_n 1, 1), (1, .ifCond .lt 15, 3), (4, .aload_n 0, 1), (5, .getfield 158, 3), (8, .iload_n 1, 1), (9, .invokevirtual 438, 3), (12, .ifCond .eq 4, 3), (15, .return_, 1), (16, .aload_n 0, 1), (17, .invokevirtual 441, 3), (20, .astore_n 3, 1), (21, .aload_n 0, 1), (22, .iload_n 1, 1), (23, .iconst 1, 1), (24, .invokevirtual 283, 3), (27, .istore 4, 2), (29, .aload_n 0, 1), (30, .getfield 173, 3), (33, .getfield 445, 3), (36, .iload_n 2, 1), (37, .iaload, 1), (38, .istore 5, 2), (40, .iconst 0, 1), (41, .istore 6, 2), (43, .iload 6, 2), (45, .iload 5, 2), (47, .if_icmp .ge 38, 3), (50, .aload_n 0, 1), (51, .aload_n 3, 1), (52, .aload_n 0, 1), (53, .getfield 173, 3), (56, .iload_n 2, 1), (57, .iload 6, 2), (59, .invokevirtual 446, 3), (62, .iload 4, 2), (64, .aload_n 0, 1), (65, .getfield 410, 3), (68, .ifCond .ne 7, 3), (71, .iconst 1, 1), (72, .goto 4, 3), (75, .iconst 0, 1), (76, .invokevirtual 264, 3), (79, .iinc 6 1, 3), (82, .goto (-39), 3), (85, .return_, 1)]
theorem t_X14_stand : ∀ q ∈ k_X14_stand, decode cX14_stand q.1 = .ok q.2 := dl_all (by decide +kernel)
noncomputable def m_X14_stand_j76 (a0 v17 v24 x6_43 v59 s4_76 : Int) (h_43 : Hp) : Option ((Int × Hp) ⊕ (((Int × Int) × Hp))) :=
  bT (m_X14_put a0 v17 v59 v24 s4_76 h_43) (fun _ h76 =>
  lt_ (w32 (x6_43 + 1)) fun x6_79 =>
  some (.inl (x6_79, h76))) (fun a_ h_ => some (.inr ((1, a_), h_)))
noncomputable def m_X14_stand_l43 (a0 a2 v17 v24 x5_38 x6_43 : Int) (h_43 : Hp) : Option ((Int × Hp) ⊕ (((Int × Int) × Hp))) :=
  if x5_38 ≤ x6_43 then (some (.inr ((0, 0), h_43)))
  else (gd (h_43 (h_43 a0 6) (-2) = 96) ((m_X6_byteOf (h_43 a0 6) a2 x6_43 h_43).bind fun v59 =>
  if (h_43 a0 46) ≠ 0 then (m_X14_stand_j76 a0 v17 v24 x6_43 v59 0 h_43)
  else (m_X14_stand_j76 a0 v17 v24 x6_43 v59 1 h_43)))
noncomputable def m_X14_stand_j16 (a0 a1 a2 : Int) (h : Hp) : Option ((Int × Int) × Hp) :=
  (m_X14_open_2 a0 h).bind fun v17 =>
  (m_X14_property a0 a1 1 h).bind fun v24 =>
  gd (h (h a0 6) (-2) = 96) (gd (h (h (h a0 6) 23) (-2) % 16 = 1 ∧ (0 : Int) ≤ a2 ∧ a2 < h (h (h a0 6) 23) (-1)) (lt_ (h (h (h a0 6) 23) a2) fun x5_38 =>
  lt_ 0 fun x6_41 =>
  (lp (fun (q : Int × Hp) => m_X14_stand_l43 a0 a2 v17 v24 x5_38 q.1 q.2) (x6_41, h)).bind (fun (x : (Int × Int) × Hp) => some x)))
noncomputable def m_X14_stand (a0 a1 a2 : Int) (h : Hp) : Option ((Int × Int) × Hp) :=
  if a1 < 0 then (m_X14_stand_j16 a0 a1 a2 h)
  else (gd (h (h a0 2) (-2) = 112) ((m_X7_isMute (h a0 2) a1 h).bind fun v9 =>
  if v9 = 0 then (m_X14_stand_j16 a0 a1 a2 h)
  else (some ((0, 0), h))))
theorem s_X14_stand {l : Launch} [NoTr l] {D : SD} {a0 a1 a2 : Int} {h : Hp} (hk : h a0 (-2) = 224) (r1 : r32 a1) (r2 : r32 a2) {r : (Int × Int) × Hp} (hm : m_X14_stand a0 a1 a2 h = some r) : Sim l D yX14_stand (Cond.code yX14_stand cX14_stand 7 (Option.none : Option Jvm.ClassFile.FieldType)) 12 451 [rv D a0, iv a1, iv a2] h 0 r := by
  refine Sim.of (fin := fun (v : (Int × Int) × Hp) => v) (lsE := [(0, rv D a0), (1, iv a1), (2, iv a2)]) hm rfl cwS_code (la_r (la_i (la_i la_n))) (ll_r (ll_i (ll_i ll_n))) ?_
  intro p e s m below meth c X hcw hmm hcc hnm hname
  have hno := noh hcw hnm hmm hcc
  unfold m_X14_stand
  refine g_iload_n (pc := 0) X (j := 1) (i := 1) (q := 1) (x := a1) rfl rfl (dl_at t_X14_stand 0 rfl) ?_
  refine g_join (γ := Unit) (fun q => True) 16 (fun q => [(0, rv D a0), (1, iv a1), (2, iv a2)]) (fun q => []) (fun q => h) (fun q => m_X14_stand_j16 a0 a1 a2 h) ?_ ?_
  · rintro _ _
    try dsimp only
    unfold m_X14_stand_j16
    refine g_aload_n (pc := 16) X (j := 0) (i := 0) (q := 0) (x := a0) rfl rfl (dl_at t_X14_stand 8 rfl) ?_
    refine r_callRr (pc := 17) X (fun _ hv => s_X14_open_2 hk hv) cw_code q2689 q368 (in_Vk X (As := []) kX14 hk (Or.inl q2686) q2688 qs140 cw_code q2689 ⟨by decide, by decide⟩ rfl (dl_at t_X14_stand 9 rfl)) (dl_at t_X14_stand 9 rfl) (cat24 (st := []) (Nat.le_of_ble_eq_true rfl)) (Nat.le_of_ble_eq_true rfl) (Nat.le_of_ble_eq_true rfl) fun v17 => ?_
    refine g_astore_nN (pc := 20) X (j := 3) (i := 3) (x := v17) (b := 2) (w := iv a2) (rest := [(0, rv D a0), (1, iv a1)]) rfl (Nat.le_of_ble_eq_true rfl) [2, 0, 1] rfl (by decide) rfl rfl (dl_at t_X14_stand 10 rfl) ?_
    refine g_aload_n (pc := 21) X (j := 0) (i := 0) (q := 2) (x := a0) rfl rfl (dl_at t_X14_stand 11 rfl) ?_
    refine g_iload_n (pc := 22) X (j := 1) (i := 1) (q := 3) (x := a1) rfl rfl (dl_at t_X14_stand 12 rfl) ?_
    refine g_iconst (pc := 23) X (n := 1) (dl_at t_X14_stand 13 rfl) ?_
    refine r_callRi (pc := 24) X (fun _ hv => s_X14_property hk r1 (r32_c rfl) hv) cw_code q2504 q368 (in_Vk X (As := [iv a1, iv 1]) kX14 hk (Or.inl q2501) q2503 qs119 cw_code q2504 ⟨by decide, by decide⟩ rfl (dl_at t_X14_stand 14 rfl)) (dl_at t_X14_stand 14 rfl) (cat24 (st := []) (Nat.le_of_ble_eq_true rfl)) (Nat.le_of_ble_eq_true rfl) (Nat.le_of_ble_eq_true rfl) fun v24 g24 => ?_
    refine g_istoreN (pc := 27) X (i := 4) (x := v24) (b := 3) (w := rv D v17) (rest := [(2, iv a2), (0, rv D a0)]) (Nat.le_of_ble_eq_true rfl) [0, 1, 2] rfl (by decide) rv_cat rfl (dl_at t_X14_stand 15 rfl) ?_
    refine g_aload_n (pc := 29) X (j := 0) (i := 0) (q := 3) (x := a0) rfl rfl (dl_at t_X14_stand 16 rfl) ?_
    refine r_getr (pc := 30) X fX14_6 hk q1249 (dl_at t_X14_stand 17 rfl) ?_
    refine g_gd fun k33 => ?_
    refine r_getrN (pc := 33) X fX6_23 k33 (nw_in q697 rfl) (dl_at t_X14_stand 18 rfl) ?_
    refine g_iload_n (pc := 36) X (j := 2) (i := 2) (q := 2) (x := a2) rfl rfl (dl_at t_X14_stand 19 rfl) ?_
    refine g_gd fun k37 => ?_
    refine g_iald (pc := 37) X r2 k37 (dl_at t_X14_stand 20 rfl) fun g37 => ?_
    refine g_lti g37 fun x5_38 r5_38 => ?_
    refine g_istoreN (pc := 38) X (i := 5) (x := x5_38) (b := 4) (w := iv v24) (rest := [(3, rv D v17), (2, iv a2), (0, rv D a0)]) (Nat.le_of_ble_eq_true rfl) [0, 1, 2, 3] rfl (by decide) rfl rfl (dl_at t_X14_stand 21 rfl) ?_
    refine g_iconst (pc := 40) X (n := 0) (dl_at t_X14_stand 22 rfl) ?_
    refine g_ltz (Or.inl rfl) fun x6_41 r6_41 => ?_
    refine g_istoreN (pc := 41) X (i := 6) (x := x6_41) (b := 5) (w := iv x5_38) (rest := [(4, iv v24), (3, rv D v17), (2, iv a2), (0, rv D a0)]) (Nat.le_of_ble_eq_true rfl) [0, 1, 2, 3, 4] rfl (by decide) rfl rfl (dl_at t_X14_stand 23 rfl) ?_
    refine g_ls (ls2 := [(0, rv D a0), (2, iv a2), (3, rv D v17), (4, iv v24), (5, iv x5_38), (6, iv x6_41)]) [5, 4, 3, 2, 1, 0] rfl ?_
    refine g_loop0F (fun (q : Int × Hp) => [(0, rv D a0), (2, iv a2), (3, rv D v17), (4, iv v24), (5, iv x5_38), (6, iv q.1)]) (fun (q : Int × Hp) => q.2) (fun (q : Int × Hp) => r32 q.1 ∧ Ext h q.2) (x6_41, h) ⟨(r32_z r6_41), (Ext.refl _)⟩ ?_ (fun _ => rfl)
    · rintro ⟨x6_43, h_43⟩ ⟨r6_43, E_43⟩
      try dsimp only
      unfold m_X14_stand_l43
      refine g_iload (pc := 43) X (i := 6) (q := 5) (x := x6_43) rfl (dl_at t_X14_stand 24 rfl) ?_
      refine g_iload (pc := 45) X (i := 5) (q := 4) (x := x5_38) rfl (dl_at t_X14_stand 25 rfl) ?_
      refine g_icmpge (pc := 47) X r6_43 r5_38 (off := 38) (tgt := 85) rfl (dl_at t_X14_stand 26 rfl) (fun _ => ?_) (fun _ => ?_)
      · exact g_at fun Q hQ => (g_vret (pc := 85) X (v := 0) rfl rfl (dl_at t_X14_stand 44 rfl)) _ Q rfl hQ
      refine g_aload_n (pc := 50) X (j := 0) (i := 0) (q := 0) (x := a0) rfl rfl (dl_at t_X14_stand 27 rfl) ?_
      refine g_aload_n (pc := 51) X (j := 3) (i := 3) (q := 2) (x := v17) rfl rfl (dl_at t_X14_stand 28 rfl) ?_
      refine g_aload_n (pc := 52) X (j := 0) (i := 0) (q := 0) (x := a0) rfl rfl (dl_at t_X14_stand 29 rfl) ?_
      have k53 := kx E_43 (by decide) hk
      refine r_getr (pc := 53) X fX14_6 k53 q1249 (dl_at t_X14_stand 30 rfl) ?_
      refine g_iload_n (pc := 56) X (j := 2) (i := 2) (q := 1) (x := a2) rfl rfl (dl_at t_X14_stand 31 rfl) ?_
      refine g_iload (pc := 57) X (i := 6) (q := 5) (x := x6_43) rfl (dl_at t_X14_stand 32 rfl) ?_
      refine g_gd fun k59 => ?_
      refine r_callRi (pc := 59) X (fun _ hv => s_X6_byteOf k59 r2 r6_43 hv) cw_code q2462 q360 (in_Vk X (As := [iv a2, iv x6_43]) kX6 k59 (Or.inr ⟨_, nw_in q2834 rfl⟩) q2461 qs109 cw_code q2462 ⟨by decide, by decide⟩ rfl (dl_at t_X14_stand 33 rfl)) (dl_at t_X14_stand 33 rfl) (cat24 (st := [rv D v17, rv D a0]) (Nat.le_of_ble_eq_true rfl)) (Nat.le_of_ble_eq_true rfl) (Nat.le_of_ble_eq_true rfl) fun v59 g59 => ?_
      refine g_iload (pc := 62) X (i := 4) (q := 3) (x := v24) rfl (dl_at t_X14_stand 34 rfl) ?_
      refine g_aload_n (pc := 64) X (j := 0) (i := 0) (q := 0) (x := a0) rfl rfl (dl_at t_X14_stand 35 rfl) ?_
      refine r_getz (pc := 65) X fX14_46 k53 q1308 (dl_at t_X14_stand 36 rfl) fun g65 => ?_
      refine g_join (γ := Int) (fun q => (q = 0 ∨ q = 1)) 76 (fun q => [(0, rv D a0), (2, iv a2), (3, rv D v17), (4, iv v24), (5, iv x5_38), (6, iv x6_43)]) (fun q => [iv q, iv v24, iv v59, rv D v17, rv D a0]) (fun q => h_43) (fun q => m_X14_stand_j76 a0 v17 v24 x6_43 v59 q h_43) ?_ ?_
      · rintro s4_76 rs4_76
        try dsimp only
        unfold m_X14_stand_j76
        refine r_callTv (pc := 76) X (fun _ hv => s_X14_put k53 g59 g24 rs4_76 hv) cw_code q2697 q368 (in_Vk X (As := [rv D v17, iv v59, iv v24, iv s4_76]) kX14 k53 (Or.inl q2694) q2696 qs142 cw_code q2697 ⟨by decide, by decide⟩ rfl (dl_at t_X14_stand 41 rfl)) (dl_at t_X14_stand 41 rfl) (cat24 (st := []) (Nat.le_of_ble_eq_true rfl)) (Nat.le_of_ble_eq_true rfl) (Nat.le_of_ble_eq_true rfl) (fun v76 h76 E76 => ?_) (fun _ _ ha _ => gt_at fun Q hQ => gt_out (Q := Q) X rfl ha (hno _) _ Q rfl hQ)
        refine r_iincN (pc := 79) X (i := 6) (q := 5) (n := 1) (x := x6_43) (b := 5) (w := iv x5_38) (rest := [(0, rv D a0), (2, iv a2), (3, rv D v17), (4, iv v24)]) rfl r6_43 (r32_c rfl) (Nat.le_of_ble_eq_true rfl) [4, 0, 1, 2, 3] rfl (by decide) rfl rfl (dl_at t_X14_stand 42 rfl) fun x6_79 r6_79 => ?_
        refine g_goto (pc := 82) X (off := (-39)) (tgt := 43) rfl (dl_at t_X14_stand 43 rfl) ?_
        refine g_ls (ls2 := [(0, rv D a0), (2, iv a2), (3, rv D v17), (4, iv v24), (5, iv x5_38), (6, iv x6_79)]) [2, 3, 4, 5, 1, 0] rfl ?_
        exact g_at fun Q hQ => hQ ⟨r6_79, (E_43.trans E76)⟩
      intro J76
      refine g_ifne (pc := 68) X (r32_z g65) (off := 7) (tgt := 75) rfl (dl_at t_X14_stand 37 rfl) (fun _ => ?_) (fun _ => ?_)
      · refine g_iconst (pc := 75) X (n := 0) (dl_at t_X14_stand 40 rfl) ?_
        exact J76 0 (Or.inl rfl)
      refine g_iconst (pc := 71) X (n := 1) (dl_at t_X14_stand 38 rfl) ?_
      refine g_goto (pc := 72) X (off := 4) (tgt := 76) rfl (dl_at t_X14_stand 39 rfl) ?_
      exact J76 1 (Or.inr rfl)
  intro J16
  refine g_iflt (pc := 1) X r1 (off := 15) (tgt := 16) rfl (dl_at t_X14_stand 1 rfl) (fun _ => ?_) (fun _ => ?_)
  · exact J16 () trivial
  refine g_aload_n (pc := 4) X (j := 0) (i := 0) (q := 0) (x := a0) rfl rfl (dl_at t_X14_stand 2 rfl) ?_
  refine r_getr (pc := 5) X fX14_2 hk q1243 (dl_at t_X14_stand 3 rfl) ?_
  refine g_iload_n (pc := 8) X (j := 1) (i := 1) (q := 1) (x := a1) rfl rfl (dl_at t_X14_stand 4 rfl) ?_
  refine g_gd fun k9 => ?_
  refine r_callRz (pc := 9) X (fun _ hv => s_X7_isMute k9 r1 hv) cw_code q2420 q361 (in_Vk X (As := [iv a1]) kX7 k9 (Or.inr ⟨_, nw_in q2833 rfl⟩) q2419 qs103 cw_code q2420 ⟨by decide, by decide⟩ rfl (dl_at t_X14_stand 5 rfl)) (dl_at t_X14_stand 5 rfl) (cat24 (st := []) (Nat.le_of_ble_eq_true rfl)) (Nat.le_of_ble_eq_true rfl) (Nat.le_of_ble_eq_true rfl) fun v9 g9 => ?_
  refine g_ifeq (pc := 12) X (r32_z g9) (off := 4) (tgt := 16) rfl (dl_at t_X14_stand 6 rfl) (fun _ => ?_) (fun _ => ?_)
  · exact J16 () trivial
  exact g_vret (pc := 15) X (v := 0) rfl rfl (dl_at t_X14_stand 7 rfl)
def k_X14_gather : List (Nat × Instr × Nat) := [(0, .aload_n 0, 1), (1, .getfield 107, 3), (4, .aload_n 0, 1), (5, .getfield 158, 3), (8, .invokevirtual 400, 3), (11, .aload_n 0, 1), (12, .getfield 154, 3), (15, .getfield 375, 3), (18, .invokevirtual 367, 3), (21, .aload_n 0, 1), (22, .getfield 154, 3), (25, .getfield 404, 3), (28, .invokevirtual 367, 3), (31, .aload_n 0, 1), (32, .getfield 154, 3), (35, .getfield 407, 3), (38, .invokevirtual 367, 3), (41, .aload_n 0, 1), (42, .getfield 154, 3), (45, .getfield 273, 3), (48, .iconst 0, 1), (49, .iconst (-1), 1), (50, .iastore, 1), (51, .aload_n 0, 1), (52, .iconst 1, 1), (53, .putfield 276, 3), (56, .aload_n 0, 1), (57, .iconst 0, 1), (58, .putfield 372, 3), (61, .aload_n 0, 1), (62, .iconst 0, 1), (63, .putfield 410, 3), (66, .aload_n 0, 1), (67, .iconst 0, 1), (68, .putfield 413, 3), (71, .iconst (-1), 1), (72, .istore_n 1, 1), (73, .iconst 0, 1), (74, .istore_n 2, 1), (75, .iload_n 2, 1), (76, .aload_n 0, 1), (77, .getfield 173, 3), (80, .getfield 416, 3), (83, .if_icmp .ge 89, 3), (86, .aload_n 0, 1), (87, .getfield 173, 3), (90, .getfield 419, 3), (93, .iload_n 2, 1), (94, .iaload, 1), (95, .istore_n 3, 1), (96, .aload_n 0, 1), (97, .getfield 173, 3), (100, .getfield 422, 3), (103, .iload_n 2, 1), (104, .iaload, 1), (132, .iload_n 3, 1), (133, .istore_n 1, 1), (134, .aload_n 0, 1), (135, .iload_n 1, 1), (136, .invokevirtual 425, 3), (139, .goto 27, 3), (142, .aload_n 0, 1), (143, .iload_n 3, 1), (144, .invokevirtual 428, 3), (147, .aload_n 0, 1), (148, .getfield 173, 3), (151, .getfield 431, 3), (154, .iload_n 3, 1), (155, .iaload, 1), (156, .istore_n 1, 1), (157, .goto 9, 3), (160, .aload_n 0, 1), (161, .iload_n 1, 1), (162, .iload_n 2, 1), (163, .invokevirtual 434, 3), (166, .iinc 2 1, 3), (169, .goto (-94), 3), (172, .aload_n 0, 1), (173, .invokevirtual 397, 3), (176, .iconst 0, 1), (177, .istore_n 2, 1), (178, .iload_n 2, 1), (179, .aload_n 0, 1), (180, .getfield 208, 3), (183, .if_icmp .ge 34, 3), (186, .aload_n 0, 1), (187, .getfield 24, 3), (190, .aload_n 0, 1), (191, .getfield 193, 3), (194, .aload_n 0, 1), (195, .getfield 83, 3), (198, .iload_n 2, 1), (199, .aaload, 1), (200, .aastore, 1), (201, .aload_n 0, 1), (202, .dup, 1), (203, .getfield 193, 3), (206, .iconst 1, 1), (207, .iadd, 1), (208, .putfield 193, 3), (211, .iinc 2 1, 3), (214, .goto (-36), 3), (217, .return_, 1)]
theorem t_X14_gather : ∀ q ∈ k_X14_gather, decode cX14_gather q.1 = .ok q.2 := dl_all (by decide +kernel)
theorem dS_X14_gather_105 : decode cX14_gather 105 = .ok (.lookupswitch 55 #[(0, 27), (1, 37)], 27) := by decide +kernel
noncomputable def m_X14_gather_j166 (x2_75 x1_166 : Int) (h_166 : Hp) : Option ((Int × Int × Hp) ⊕ ((Hp) ⊕ (((Int × Int) × Hp)))) :=
  lt_ (w32 (x2_75 + 1)) fun x2_166 =>
  some (.inl (x1_166, x2_166, h_166))
noncomputable def m_X14_gather_l75 (a0 x1_75 x2_75 : Int) (h_75 : Hp) : Option ((Int × Int × Hp) ⊕ ((Hp) ⊕ (((Int × Int) × Hp)))) :=
  gd (h_75 (h_75 a0 6) (-2) = 96) (if (h_75 (h_75 a0 6) 24) ≤ x2_75 then (some (.inr (.inl h_75)))
  else (gd (h_75 (h_75 (h_75 a0 6) 22) (-2) % 16 = 1 ∧ (0 : Int) ≤ x2_75 ∧ x2_75 < h_75 (h_75 (h_75 a0 6) 22) (-1)) (lt_ (h_75 (h_75 (h_75 a0 6) 22) x2_75) fun x3_95 =>
  gd (h_75 (h_75 (h_75 a0 6) 21) (-2) % 16 = 1 ∧ (0 : Int) ≤ x2_75 ∧ x2_75 < h_75 (h_75 (h_75 a0 6) 21) (-1)) (if (h_75 (h_75 (h_75 a0 6) 21) x2_75) = 0 then (bT (m_X14_begin_2 a0 x3_95 h_75) (fun _ h136 =>
  m_X14_gather_j166 x2_75 x3_95 h136) (fun a_ h_ => some (.inr (.inr ((1, a_), h_)))))
  else (if (h_75 (h_75 (h_75 a0 6) 21) x2_75) = 1 then (bT (m_X14_end a0 x3_95 h_75) (fun _ h144 =>
  gd (h144 (h144 a0 6) (-2) = 96) (gd (h144 (h144 (h144 a0 6) 6) (-2) % 16 = 1 ∧ (0 : Int) ≤ x3_95 ∧ x3_95 < h144 (h144 (h144 a0 6) 6) (-1)) (lt_ (h144 (h144 (h144 a0 6) 6) x3_95) fun x1_156 =>
  m_X14_gather_j166 x2_75 x1_156 h144))) (fun a_ h_ => some (.inr (.inr ((1, a_), h_)))))
  else (bT (m_X14_stand a0 x1_75 x2_75 h_75) (fun _ h163 =>
  m_X14_gather_j166 x2_75 x1_75 h163) (fun a_ h_ => some (.inr (.inr ((1, a_), h_))))))))))
noncomputable def m_X14_gather_l178 (a0 x2_178 : Int) (h_178 : Hp) : Option ((Int × Hp) ⊕ (((Int × Int) × Hp))) :=
  if (h_178 a0 36) ≤ x2_178 then (some (.inr ((0, 0), h_178)))
  else (gd (h_178 (h_178 a0 34) (-2) % 16 = 9 ∧ (0 : Int) ≤ x2_178 ∧ x2_178 < h_178 (h_178 a0 34) (-1)) (gd (h_178 (h_178 (h_178 a0 34) x2_178) (-2) = 288) (gd (h_178 (h_178 a0 10) (-2) % 16 = 9 ∧ (0 : Int) ≤ (h_178 a0 11) ∧ (h_178 a0 11) < h_178 (h_178 a0 10) (-1)) (pt h_178 (h_178 a0 10) (h_178 a0 11) (h_178 (h_178 a0 34) x2_178) fun h200 =>
  pt h200 a0 11 (w32 ((h200 a0 11) + 1)) fun h208 =>
  lt_ (w32 (x2_178 + 1)) fun x2_211 =>
  some (.inl (x2_211, h208))))))
noncomputable def m_X14_gather (a0 : Int) (h : Hp) : Option ((Int × Int) × Hp) :=
  gd (h (h a0 43) (-2) = 256) (bT (m_X16_find (h a0 43) (h a0 2) h) (fun _ h8 =>
  gd (h8 (h8 a0 0) (-2) = 160) (gd (h8 (h8 (h8 a0 0) 1) (-2) = 192) ((m_X12_clear (h8 (h8 a0 0) 1) h8).bind fun h18 =>
  gd (h18 (h18 a0 0) (-2) = 160) (gd (h18 (h18 (h18 a0 0) 2) (-2) = 192) ((m_X12_clear (h18 (h18 a0 0) 2) h18).bind fun h28 =>
  gd (h28 (h28 a0 0) (-2) = 160) (gd (h28 (h28 (h28 a0 0) 3) (-2) = 192) ((m_X12_clear (h28 (h28 a0 0) 3) h28).bind fun h38 =>
  gd (h38 (h38 a0 0) (-2) = 160) (gd (h38 (h38 (h38 a0 0) 6) (-2) % 16 = 1 ∧ (0 : Int) ≤ 0 ∧ 0 < h38 (h38 (h38 a0 0) 6) (-1)) (pt h38 (h38 (h38 a0 0) 6) 0 (-1) fun h50 =>
  pt h50 a0 44 1 fun h53 =>
  pt h53 a0 45 0 fun h58 =>
  pt h58 a0 46 0 fun h63 =>
  pt h63 a0 47 0 fun h68 =>
  lt_ (-1) fun x1_72 =>
  lt_ 0 fun x2_74 =>
  (lp (fun (q : Int × Int × Hp) => m_X14_gather_l75 a0 q.1 q.2.1 q.2.2) (x1_72, x2_74, h68)).bind (sE (fun (y172 : Hp) => bT (m_X14_flush a0 y172) (fun _ h173 =>
  lt_ 0 fun x2_177 =>
  (lp (fun (q : Int × Hp) => m_X14_gather_l178 a0 q.1 q.2) (x2_177, h173)).bind (fun (x : (Int × Int) × Hp) => some x)) (fun a_ h_ => some ((1, a_), h_))) (fun (x : (Int × Int) × Hp) => some x))))))))))) (fun a_ h_ => some ((1, a_), h_)))
theorem s_X14_gather {l : Launch} [NoTr l] {D : SD} {a0 : Int} {h : Hp} (hk : h a0 (-2) = 224) {r : (Int × Int) × Hp} (hm : m_X14_gather a0 h = some r) : Sim l D yX14_gather (Cond.code yX14_gather cX14_gather 4 (Option.none : Option Jvm.ClassFile.FieldType)) 43 1636 [rv D a0] h 0 r := by
  refine Sim.of (fin := fun (v : (Int × Int) × Hp) => v) (lsE := [(0, rv D a0)]) hm rfl cwS_code (la_r la_n) (ll_r ll_n) ?_
  intro p e s m below meth c X hcw hmm hcc hnm hname
  have hno := noh hcw hnm hmm hcc
  unfold m_X14_gather
  refine g_aload_n (pc := 0) X (j := 0) (i := 0) (q := 0) (x := a0) rfl rfl (dl_at t_X14_gather 0 rfl) ?_
  refine r_getr (pc := 1) X fX14_43 hk q1304 (dl_at t_X14_gather 1 rfl) ?_
  refine g_aload_n (pc := 4) X (j := 0) (i := 0) (q := 0) (x := a0) rfl rfl (dl_at t_X14_gather 2 rfl) ?_
  refine r_getr (pc := 5) X fX14_2 hk q1243 (dl_at t_X14_gather 3 rfl) ?_
  refine g_gd fun k8 => ?_
  refine r_callTv (pc := 8) X (fun _ hv => s_X16_find k8 hv) cw_code q2389 q370 (in_Vk X (As := [rv D (h a0 2)]) kX16 k8 (Or.inr ⟨_, nw_in q2386 rfl⟩) q2388 qs96 cw_code q2389 ⟨by decide, by decide⟩ rfl (dl_at t_X14_gather 4 rfl)) (dl_at t_X14_gather 4 rfl) (cat24 (st := []) (Nat.le_of_ble_eq_true rfl)) (Nat.le_of_ble_eq_true rfl) (Nat.le_of_ble_eq_true rfl) (fun v8 h8 E8 => ?_) (fun _ _ ha _ => gt_at fun Q hQ => gt_out (Q := Q) X rfl ha (hno _) _ Q rfl hQ)
  refine g_aload_n (pc := 11) X (j := 0) (i := 0) (q := 0) (x := a0) rfl rfl (dl_at t_X14_gather 5 rfl) ?_
  have k12 := kx E8 (by decide) hk
  refine r_getr (pc := 12) X fX14_0 k12 q1241 (dl_at t_X14_gather 6 rfl) ?_
  refine g_gd fun k15 => ?_
  refine r_getrN (pc := 15) X fX10_1 k15 (nw_in q1039 rfl) (dl_at t_X14_gather 7 rfl) ?_
  refine g_gd fun k18 => ?_
  refine r_callV (pc := 18) X (fun _ hv => s_X12_clear k18 hv) cw_code q2480 q366 (in_Vk X (As := []) kX12 k18 (Or.inr ⟨_, nw_in q2477 rfl⟩) q2479 qs113 cw_code q2480 ⟨by decide, by decide⟩ rfl (dl_at t_X14_gather 8 rfl)) (dl_at t_X14_gather 8 rfl) (cat24 (st := []) (Nat.le_of_ble_eq_true rfl)) (Nat.le_of_ble_eq_true rfl) (Nat.le_of_ble_eq_true rfl) fun h18 E18 => ?_
  refine g_aload_n (pc := 21) X (j := 0) (i := 0) (q := 0) (x := a0) rfl rfl (dl_at t_X14_gather 9 rfl) ?_
  have k22 := kx E18 (by decide) k12
  refine r_getr (pc := 22) X fX14_0 k22 q1241 (dl_at t_X14_gather 10 rfl) ?_
  refine g_gd fun k25 => ?_
  refine r_getrN (pc := 25) X fX10_2 k25 (nw_in q1041 rfl) (dl_at t_X14_gather 11 rfl) ?_
  refine g_gd fun k28 => ?_
  refine r_callV (pc := 28) X (fun _ hv => s_X12_clear k28 hv) cw_code q2480 q366 (in_Vk X (As := []) kX12 k28 (Or.inr ⟨_, nw_in q2477 rfl⟩) q2479 qs113 cw_code q2480 ⟨by decide, by decide⟩ rfl (dl_at t_X14_gather 12 rfl)) (dl_at t_X14_gather 12 rfl) (cat24 (st := []) (Nat.le_of_ble_eq_true rfl)) (Nat.le_of_ble_eq_true rfl) (Nat.le_of_ble_eq_true rfl) fun h28 E28 => ?_
  refine g_aload_n (pc := 31) X (j := 0) (i := 0) (q := 0) (x := a0) rfl rfl (dl_at t_X14_gather 13 rfl) ?_
  have k32 := kx E28 (by decide) k22
  refine r_getr (pc := 32) X fX14_0 k32 q1241 (dl_at t_X14_gather 14 rfl) ?_
  refine g_gd fun k35 => ?_
  refine r_getrN (pc := 35) X fX10_3 k35 (nw_in q1043 rfl) (dl_at t_X14_gather 15 rfl) ?_
  refine g_gd fun k38 => ?_
  refine r_callV (pc := 38) X (fun _ hv => s_X12_clear k38 hv) cw_code q2480 q366 (in_Vk X (As := []) kX12 k38 (Or.inr ⟨_, nw_in q2477 rfl⟩) q2479 qs113 cw_code q2480 ⟨by decide, by decide⟩ rfl (dl_at t_X14_gather 16 rfl)) (dl_at t_X14_gather 16 rfl) (cat24 (st := []) (Nat.le_of_ble_eq_true rfl)) (Nat.le_of_ble_eq_true rfl) (Nat.le_of_ble_eq_true rfl) fun h38 E38 => ?_
  refine g_aload_n (pc := 41) X (j := 0) (i := 0) (q := 0) (x := a0) rfl rfl (dl_at t_X14_gather 17 rfl) ?_
  have k42 := kx E38 (by decide) k32
  refine r_getr (pc := 42) X fX14_0 k42 q1241 (dl_at t_X14_gather 18 rfl) ?_
  refine g_gd fun k45 => ?_
  refine r_getrN (pc := 45) X fX10_6 k45 (nw_in q1050 rfl) (dl_at t_X14_gather 19 rfl) ?_
  refine g_iconst (pc := 48) X (n := 0) (dl_at t_X14_gather 20 rfl) ?_
  refine g_iconst (pc := 49) X (n := (-1)) (dl_at t_X14_gather 21 rfl) ?_
  refine g_gd fun k50 => ?_
  refine r_iast (pc := 50) X (r32_c rfl) (r32_c rfl) k50 (dl_at t_X14_gather 22 rfl) (fun h50 E50 => ?_)
  refine g_aload_n (pc := 51) X (j := 0) (i := 0) (q := 0) (x := a0) rfl rfl (dl_at t_X14_gather 23 rfl) ?_
  refine g_iconst (pc := 52) X (n := 1) (dl_at t_X14_gather 24 rfl) ?_
  have k53 := kx E50 (by decide) k42
  refine r_puti (pc := 53) X fX14_44 k53 q1306 rfl (dl_at t_X14_gather 25 rfl) (r32_c rfl) (fun h53 E53 => ?_)
  refine g_aload_n (pc := 56) X (j := 0) (i := 0) (q := 0) (x := a0) rfl rfl (dl_at t_X14_gather 26 rfl) ?_
  refine g_iconst (pc := 57) X (n := 0) (dl_at t_X14_gather 27 rfl) ?_
  have k58 := kx E53 (by decide) k53
  refine r_puti (pc := 58) X fX14_45 k58 q1307 rfl (dl_at t_X14_gather 28 rfl) (r32_c rfl) (fun h58 E58 => ?_)
  refine g_aload_n (pc := 61) X (j := 0) (i := 0) (q := 0) (x := a0) rfl rfl (dl_at t_X14_gather 29 rfl) ?_
  refine g_iconst (pc := 62) X (n := 0) (dl_at t_X14_gather 30 rfl) ?_
  have k63 := kx E58 (by decide) k58
  refine r_putz (pc := 63) X fX14_46 k63 q1308 rfl (dl_at t_X14_gather 31 rfl) (Or.inl rfl) (fun h63 E63 => ?_)
  refine g_aload_n (pc := 66) X (j := 0) (i := 0) (q := 0) (x := a0) rfl rfl (dl_at t_X14_gather 32 rfl) ?_
  refine g_iconst (pc := 67) X (n := 0) (dl_at t_X14_gather 33 rfl) ?_
  have k68 := kx E63 (by decide) k63
  refine r_putz (pc := 68) X fX14_47 k68 q1309 rfl (dl_at t_X14_gather 34 rfl) (Or.inl rfl) (fun h68 E68 => ?_)
  refine g_iconst (pc := 71) X (n := (-1)) (dl_at t_X14_gather 35 rfl) ?_
  refine g_lti (r32_c rfl) fun x1_72 r1_72 => ?_
  refine g_istore_nN (pc := 72) X (j := 1) (i := 1) (x := x1_72) (b := 0) (w := rv D a0) (rest := []) rfl (Nat.le_of_ble_eq_true rfl) [0] rfl (by decide) rv_cat rfl (dl_at t_X14_gather 36 rfl) ?_
  refine g_iconst (pc := 73) X (n := 0) (dl_at t_X14_gather 37 rfl) ?_
  refine g_ltz (Or.inl rfl) fun x2_74 r2_74 => ?_
  refine g_istore_nN (pc := 74) X (j := 2) (i := 2) (x := x2_74) (b := 1) (w := iv x1_72) (rest := [(0, rv D a0)]) rfl (Nat.le_of_ble_eq_true rfl) [0, 1] rfl (by decide) rfl rfl (dl_at t_X14_gather 38 rfl) ?_
  refine g_ls (ls2 := [(0, rv D a0), (1, iv x1_72), (2, iv x2_74)]) [2, 1, 0] rfl ?_
  refine g_loop1F (fun (q : Int × Int × Hp) => [(0, rv D a0), (1, iv q.1), (2, iv q.2.1)]) (fun (q : Int × Int × Hp) => q.2.2) (fun (q : Int × Int × Hp) => r32 q.1 ∧ r32 q.2.1 ∧ Ext h68 q.2.2) 172 (fun (y172 : Hp) => [(0, rv D a0)]) (fun (y172 : Hp) => y172) (fun (y172 : Hp) => Ext h68 y172) (x1_72, x2_74, h68) ⟨r1_72, (r32_z r2_74), (Ext.refl _)⟩ ?_ ?_ (fun _ => rfl)
  · rintro ⟨x1_75, x2_75, h_75⟩ ⟨r1_75, r2_75, E_75⟩
    try dsimp only
    unfold m_X14_gather_l75
    refine g_iload_n (pc := 75) X (j := 2) (i := 2) (q := 2) (x := x2_75) rfl rfl (dl_at t_X14_gather 39 rfl) ?_
    refine g_aload_n (pc := 76) X (j := 0) (i := 0) (q := 0) (x := a0) rfl rfl (dl_at t_X14_gather 40 rfl) ?_
    have k77 := kx (E68.trans E_75) (by decide) k68
    refine r_getr (pc := 77) X fX14_6 k77 q1249 (dl_at t_X14_gather 41 rfl) ?_
    refine g_gd fun k80 => ?_
    refine r_getiN (pc := 80) X fX6_24 k80 (nw_in q700 rfl) (dl_at t_X14_gather 42 rfl) fun g80 => ?_
    refine g_icmpge (pc := 83) X r2_75 g80 (off := 89) (tgt := 172) rfl (dl_at t_X14_gather 43 rfl) (fun _ => ?_) (fun _ => ?_)
    · refine g_ls (ls2 := [(0, rv D a0)]) [0] rfl ?_
      exact g_at fun Q hQ => hQ E_75
    refine g_aload_n (pc := 86) X (j := 0) (i := 0) (q := 0) (x := a0) rfl rfl (dl_at t_X14_gather 44 rfl) ?_
    refine r_getr (pc := 87) X fX14_6 k77 q1249 (dl_at t_X14_gather 45 rfl) ?_
    refine r_getrN (pc := 90) X fX6_22 k80 (nw_in q694 rfl) (dl_at t_X14_gather 46 rfl) ?_
    refine g_iload_n (pc := 93) X (j := 2) (i := 2) (q := 2) (x := x2_75) rfl rfl (dl_at t_X14_gather 47 rfl) ?_
    refine g_gd fun k94 => ?_
    refine g_iald (pc := 94) X r2_75 k94 (dl_at t_X14_gather 48 rfl) fun g94 => ?_
    refine g_lti g94 fun x3_95 r3_95 => ?_
    refine g_istore_nN (pc := 95) X (j := 3) (i := 3) (x := x3_95) (b := 2) (w := iv x2_75) (rest := [(0, rv D a0), (1, iv x1_75)]) rfl (Nat.le_of_ble_eq_true rfl) [2, 0, 1] rfl (by decide) rfl rfl (dl_at t_X14_gather 49 rfl) ?_
    refine g_aload_n (pc := 96) X (j := 0) (i := 0) (q := 2) (x := a0) rfl rfl (dl_at t_X14_gather 50 rfl) ?_
    refine r_getr (pc := 97) X fX14_6 k77 q1249 (dl_at t_X14_gather 51 rfl) ?_
    refine r_getrN (pc := 100) X fX6_21 k80 (nw_in q691 rfl) (dl_at t_X14_gather 52 rfl) ?_
    refine g_iload_n (pc := 103) X (j := 2) (i := 2) (q := 1) (x := x2_75) rfl rfl (dl_at t_X14_gather 53 rfl) ?_
    refine g_gd fun k104 => ?_
    refine g_iald (pc := 104) X r2_75 k104 (dl_at t_X14_gather 54 rfl) fun g104 => ?_
    refine g_join (γ := Int × Hp) (fun q => r32 q.1 ∧ Ext h_75 q.2) 166 (fun q => [(0, rv D a0), (1, iv q.1), (2, iv x2_75)]) (fun q => []) (fun q => q.2) (fun q => m_X14_gather_j166 x2_75 q.1 q.2) ?_ ?_
    · rintro ⟨x1_166, h_166⟩ ⟨r1_166, E_166⟩
      try dsimp only
      unfold m_X14_gather_j166
      refine r_iincN (pc := 166) X (i := 2) (q := 2) (n := 1) (x := x2_75) (b := 1) (w := iv x1_166) (rest := [(0, rv D a0)]) rfl r2_75 (r32_c rfl) (Nat.le_of_ble_eq_true rfl) [1, 0] rfl (by decide) rfl rfl (dl_at t_X14_gather 75 rfl) fun x2_166 r2_166 => ?_
      refine g_goto (pc := 169) X (off := (-94)) (tgt := 75) rfl (dl_at t_X14_gather 76 rfl) ?_
      refine g_ls (ls2 := [(0, rv D a0), (1, iv x1_166), (2, iv x2_166)]) [2, 1, 0] rfl ?_
      exact g_at fun Q hQ => hQ ⟨r1_166, r2_166, (E_75.trans E_166)⟩
    intro J166
    refine g_case (fun w105 => ?_) (fun nw105 => ?_)
    · refine g_look (pc := 105) X (off := 27) (tgt := 132) g104 rfl (by rw [w105]; rfl) rfl dS_X14_gather_105 ?_
      refine g_iload_n (pc := 132) X (j := 3) (i := 3) (q := 0) (x := x3_95) rfl rfl (dl_at t_X14_gather 55 rfl) ?_
      refine g_istore_nN (pc := 133) X (j := 1) (i := 1) (x := x3_95) (b := 0) (w := rv D a0) (rest := [(2, iv x2_75)]) rfl (Nat.le_of_ble_eq_true rfl) [2, 1] rfl (by decide) rv_cat rfl (dl_at t_X14_gather 56 rfl) ?_
      refine g_aload_n (pc := 134) X (j := 0) (i := 0) (q := 1) (x := a0) rfl rfl (dl_at t_X14_gather 57 rfl) ?_
      refine g_iload_n (pc := 135) X (j := 1) (i := 1) (q := 0) (x := x3_95) rfl rfl (dl_at t_X14_gather 58 rfl) ?_
      refine r_callTv (pc := 136) X (fun _ hv => s_X14_begin_2 k77 r3_95 hv) cw_code q2484 q368 (in_Vk X (As := [iv x3_95]) kX14 k77 (Or.inl q2481) q2483 qs114 cw_code q2484 ⟨by decide, by decide⟩ rfl (dl_at t_X14_gather 59 rfl)) (dl_at t_X14_gather 59 rfl) (cat24 (st := []) (Nat.le_of_ble_eq_true rfl)) (Nat.le_of_ble_eq_true rfl) (Nat.le_of_ble_eq_true rfl) (fun v136 h136 E136 => ?_) (fun _ _ ha _ => gt_at fun Q hQ => gt_out (Q := Q) X rfl ha (hno _) _ Q rfl hQ)
      refine g_goto (pc := 139) X (off := 27) (tgt := 166) rfl (dl_at t_X14_gather 60 rfl) ?_
      refine g_ls (ls2 := [(0, rv D a0), (1, iv x3_95), (2, iv x2_75)]) [1, 0, 2] rfl ?_
      exact J166 (x3_95, h136) ⟨r3_95, E136⟩
    refine g_case (fun w105_1 => ?_) (fun nw105_1 => ?_)
    · refine g_look (pc := 105) X (off := 37) (tgt := 142) g104 rfl (by rw [w105_1]; rfl) rfl dS_X14_gather_105 ?_
      refine g_aload_n (pc := 142) X (j := 0) (i := 0) (q := 2) (x := a0) rfl rfl (dl_at t_X14_gather 61 rfl) ?_
      refine g_iload_n (pc := 143) X (j := 3) (i := 3) (q := 0) (x := x3_95) rfl rfl (dl_at t_X14_gather 62 rfl) ?_
      refine r_callTv (pc := 144) X (fun _ hv => s_X14_end k77 r3_95 hv) cw_code q2779 q368 (in_Vk X (As := [iv x3_95]) kX14 k77 (Or.inl q2776) q2778 qs156 cw_code q2779 ⟨by decide, by decide⟩ rfl (dl_at t_X14_gather 63 rfl)) (dl_at t_X14_gather 63 rfl) (cat24 (st := []) (Nat.le_of_ble_eq_true rfl)) (Nat.le_of_ble_eq_true rfl) (Nat.le_of_ble_eq_true rfl) (fun v144 h144 E144 => ?_) (fun _ _ ha _ => gt_at fun Q hQ => gt_out (Q := Q) X rfl ha (hno _) _ Q rfl hQ)
      refine g_aload_n (pc := 147) X (j := 0) (i := 0) (q := 2) (x := a0) rfl rfl (dl_at t_X14_gather 64 rfl) ?_
      have k148 := kx E144 (by decide) k77
      refine r_getr (pc := 148) X fX14_6 k148 q1249 (dl_at t_X14_gather 65 rfl) ?_
      refine g_gd fun k151 => ?_
      refine r_getrN (pc := 151) X fX6_6 k151 (nw_in q661 rfl) (dl_at t_X14_gather 66 rfl) ?_
      refine g_iload_n (pc := 154) X (j := 3) (i := 3) (q := 0) (x := x3_95) rfl rfl (dl_at t_X14_gather 67 rfl) ?_
      refine g_gd fun k155 => ?_
      refine g_iald (pc := 155) X r3_95 k155 (dl_at t_X14_gather 68 rfl) fun g155 => ?_
      refine g_lti g155 fun x1_156 r1_156 => ?_
      refine g_istore_nN (pc := 156) X (j := 1) (i := 1) (x := x1_156) (b := 0) (w := rv D a0) (rest := [(2, iv x2_75)]) rfl (Nat.le_of_ble_eq_true rfl) [2, 1] rfl (by decide) rv_cat rfl (dl_at t_X14_gather 69 rfl) ?_
      refine g_goto (pc := 157) X (off := 9) (tgt := 166) rfl (dl_at t_X14_gather 70 rfl) ?_
      refine g_ls (ls2 := [(0, rv D a0), (1, iv x1_156), (2, iv x2_75)]) [1, 0, 2] rfl ?_
      exact J166 (x1_156, h144) ⟨r1_156, E144⟩
    refine g_look (pc := 105) X (off := 55) (tgt := 160) g104 rfl (by simp [Op.lookupswitch.offset_cons, Op.lookupswitch.offset_nil, nw105, nw105_1, Ne.symm nw105, Ne.symm nw105_1]) rfl dS_X14_gather_105 ?_
    refine g_aload_n (pc := 160) X (j := 0) (i := 0) (q := 2) (x := a0) rfl rfl (dl_at t_X14_gather 71 rfl) ?_
    refine g_iload_n (pc := 161) X (j := 1) (i := 1) (q := 3) (x := x1_75) rfl rfl (dl_at t_X14_gather 72 rfl) ?_
    refine g_iload_n (pc := 162) X (j := 2) (i := 2) (q := 1) (x := x2_75) rfl rfl (dl_at t_X14_gather 73 rfl) ?_
    refine r_callTv (pc := 163) X (fun _ hv => s_X14_stand k77 r1_75 r2_75 hv) cw_code q2832 q368 (in_Vk X (As := [iv x1_75, iv x2_75]) kX14 k77 (Or.inl q2829) q2831 qs168 cw_code q2832 ⟨by decide, by decide⟩ rfl (dl_at t_X14_gather 74 rfl)) (dl_at t_X14_gather 74 rfl) (cat24 (st := []) (Nat.le_of_ble_eq_true rfl)) (Nat.le_of_ble_eq_true rfl) (Nat.le_of_ble_eq_true rfl) (fun v163 h163 E163 => ?_) (fun _ _ ha _ => gt_at fun Q hQ => gt_out (Q := Q) X rfl ha (hno _) _ Q rfl hQ)
    refine g_ls (ls2 := [(0, rv D a0), (1, iv x1_75), (2, iv x2_75)]) [2, 3, 1] rfl ?_
    exact J166 (x1_75, h163) ⟨r1_75, E163⟩
  · rintro h_172 E_172
    try dsimp only [sE]
    refine g_aload_n (pc := 172) X (j := 0) (i := 0) (q := 0) (x := a0) rfl rfl (dl_at t_X14_gather 77 rfl) ?_
    have k173 := kx (E68.trans E_172) (by decide) k68
    refine r_callTv (pc := 173) X (fun _ hv => s_X14_flush k173 hv) cw_code q2496 q368 (in_Vk X (As := []) kX14 k173 (Or.inl q2493) q2495 qs117 cw_code q2496 ⟨by decide, by decide⟩ rfl (dl_at t_X14_gather 78 rfl)) (dl_at t_X14_gather 78 rfl) (cat24 (st := []) (Nat.le_of_ble_eq_true rfl)) (Nat.le_of_ble_eq_true rfl) (Nat.le_of_ble_eq_true rfl) (fun v173 h173 E173 => ?_) (fun _ _ ha _ => gt_at fun Q hQ => gt_out (Q := Q) X rfl ha (hno _) _ Q rfl hQ)
    refine g_iconst (pc := 176) X (n := 0) (dl_at t_X14_gather 79 rfl) ?_
    refine g_ltz (Or.inl rfl) fun x2_177 r2_177 => ?_
    refine g_istore_n (pc := 177) X (j := 2) (i := 2) (x := x2_177) (rest := [(0, rv D a0)]) rfl (Nat.le_of_ble_eq_true rfl) [0] rfl rfl (dl_at t_X14_gather 80 rfl) ?_
    refine g_ls (ls2 := [(0, rv D a0), (2, iv x2_177)]) [1, 0] rfl ?_
    refine g_loop0F (fun (q : Int × Hp) => [(0, rv D a0), (2, iv q.1)]) (fun (q : Int × Hp) => q.2) (fun (q : Int × Hp) => r32 q.1 ∧ Ext h173 q.2) (x2_177, h173) ⟨(r32_z r2_177), (Ext.refl _)⟩ ?_ (fun _ => rfl)
    · rintro ⟨x2_178, h_178⟩ ⟨r2_178, E_178⟩
      try dsimp only
      unfold m_X14_gather_l178
      refine g_iload_n (pc := 178) X (j := 2) (i := 2) (q := 1) (x := x2_178) rfl rfl (dl_at t_X14_gather 81 rfl) ?_
      refine g_aload_n (pc := 179) X (j := 0) (i := 0) (q := 0) (x := a0) rfl rfl (dl_at t_X14_gather 82 rfl) ?_
      have k180 := kx (E173.trans E_178) (by decide) k173
      refine r_geti (pc := 180) X fX14_36 k180 q1293 (dl_at t_X14_gather 83 rfl) fun g180 => ?_
      refine g_icmpge (pc := 183) X r2_178 g180 (off := 34) (tgt := 217) rfl (dl_at t_X14_gather 84 rfl) (fun _ => ?_) (fun _ => ?_)
      · exact g_at fun Q hQ => (g_vret (pc := 217) X (v := 0) rfl rfl (dl_at t_X14_gather 102 rfl)) _ Q rfl hQ
      refine g_aload_n (pc := 186) X (j := 0) (i := 0) (q := 0) (x := a0) rfl rfl (dl_at t_X14_gather 85 rfl) ?_
      refine r_getr (pc := 187) X fX14_10 k180 q1256 (dl_at t_X14_gather 86 rfl) ?_
      refine g_aload_n (pc := 190) X (j := 0) (i := 0) (q := 0) (x := a0) rfl rfl (dl_at t_X14_gather 87 rfl) ?_
      refine r_geti (pc := 191) X fX14_11 k180 q1258 (dl_at t_X14_gather 88 rfl) fun g191 => ?_
      refine g_aload_n (pc := 194) X (j := 0) (i := 0) (q := 0) (x := a0) rfl rfl (dl_at t_X14_gather 89 rfl) ?_
      refine r_getr (pc := 195) X fX14_34 k180 q1290 (dl_at t_X14_gather 90 rfl) ?_
      refine g_iload_n (pc := 198) X (j := 2) (i := 2) (q := 1) (x := x2_178) rfl rfl (dl_at t_X14_gather 91 rfl) ?_
      refine g_gd fun k199 => ?_
      refine g_aald (pc := 199) X 9 (Nat.le_of_ble_eq_true rfl) (Nat.le_of_ble_eq_true rfl) r2_178 rfl k199 (dl_at t_X14_gather 92 rfl) ?_
      refine g_gd fun k200 => ?_
      refine g_gd fun k200_1 => ?_
      refine r_aast (pc := 200) X 9 (Nat.le_of_ble_eq_true rfl) (Nat.le_of_ble_eq_true rfl) g191 rfl rfl k200 k200_1 (dl_at t_X14_gather 93 rfl) (fun h200 E200 => ?_)
      refine g_aload_n (pc := 201) X (j := 0) (i := 0) (q := 0) (x := a0) rfl rfl (dl_at t_X14_gather 94 rfl) ?_
      refine g_dup (pc := 202) X rv_cat (dl_at t_X14_gather 95 rfl) ?_
      have k203 := kx E200 (by decide) k180
      refine r_geti (pc := 203) X fX14_11 k203 q1258 (dl_at t_X14_gather 96 rfl) fun g203 => ?_
      refine g_iconst (pc := 206) X (n := 1) (dl_at t_X14_gather 97 rfl) ?_
      refine g_iadd (pc := 207) X g203 (r32_c rfl) (dl_at t_X14_gather 98 rfl) ?_
      refine r_puti (pc := 208) X fX14_11 k203 q1258 rfl (dl_at t_X14_gather 99 rfl) (r32_w _) (fun h208 E208 => ?_)
      refine r_iinc (pc := 211) X (i := 2) (q := 1) (n := 1) (x := x2_178) (rest := [(0, rv D a0)]) rfl r2_178 (r32_c rfl) (Nat.le_of_ble_eq_true rfl) [0] rfl rfl (dl_at t_X14_gather 100 rfl) fun x2_211 r2_211 => ?_
      refine g_goto (pc := 214) X (off := (-36)) (tgt := 178) rfl (dl_at t_X14_gather 101 rfl) ?_
      refine g_ls (ls2 := [(0, rv D a0), (2, iv x2_211)]) [1, 0] rfl ?_
      exact g_at fun Q hQ => hQ ⟨r2_211, (E_178.trans (E200.trans E208))⟩
def k_X17_slot : List (Nat × Instr × Nat) := [(0, .aload_n 0, 1), (1, .getfield 36, 3), (4, .aload_n 0, 1), (5, .getfield 41, 3), (8, .iadd, 1), (9, .istore_n 1, 1), (10, .iconst 0, 1), (11, .istore_n 2, 1), (12, .iload_n 2, 1), (13, .aload_n 0, 1), (14, .getfield 41, 3), (17, .if_icmp .ge 20, 3), (20, .bipush 31, 2), (22, .iload_n 1, 1), (23, .imul, 1), (24, .aload_n 0, 1), (25, .iload_n 2, 1), (26, .invokevirtual 44, 3), (29, .iadd, 1), (30, .istore_n 1, 1), (31, .iinc 2 1, 3), (34, .goto (-22), 3), (37, .iload_n 1, 1), (38, .iload_n 1, 1), (39, .bipush 11, 2), (41, .iushr, 1), (42, .ixor, 1), (43, .sipush 255, 3), (46, .iand, 1), (47, .ireturn, 1)]
theorem t_X17_slot : ∀ q ∈ k_X17_slot, decode cX17_slot q.1 = .ok q.2 := dl_all (by decide +kernel)
noncomputable def m_X17_slot_l12 (a0 x1_12 x2_12 : Int) (h : Hp) : Option ((Int × Int) ⊕ ((Int))) :=
  if (h a0 2) ≤ x2_12 then (some (.inr (iand_ (ixor_ x1_12 (iushr_ x1_12 11)) 255)))
  else ((m_X28_byteOf a0 x2_12 h).bind fun v26 =>
  lt_ (w32 ((w32 (31 * x1_12)) + v26)) fun x1_30 =>
  lt_ (w32 (x2_12 + 1)) fun x2_31 =>
  some (.inl (x1_30, x2_31)))
noncomputable def m_X17_slot (a0 : Int) (h : Hp) : Option (Int) :=
  gd (h a0 (-2) = 288) (lt_ (w32 ((h a0 4) + (h a0 2))) fun x1_9 =>
  lt_ 0 fun x2_11 =>
  (lp (fun (q : Int × Int) => m_X17_slot_l12 a0 q.1 q.2 h) (x1_9, x2_11)).bind (fun (x : Int) => some x))
theorem s_X17_slot {l : Launch} [NoTr l] {D : SD} {a0 : Int} {h : Hp}  {r : Int} (hm : m_X17_slot a0 h = some r) : Sim l D yX17_slot (Cond.code yX17_slot cX17_slot 3 (Option.some Jvm.ClassFile.FieldType.int)) 1 37 [rv D a0] h 1 ((0, r), h) := by
  refine Sim.of (fin := fun (v : Int) => ((0, v), h)) (lsE := [(0, rv D a0)]) hm rfl cwS_code (la_r la_n) (ll_r ll_n) ?_
  intro p e s m below meth c X hcw hmm hcc hnm hname
  unfold m_X17_slot
  refine g_aload_n (pc := 0) X (j := 0) (i := 0) (q := 0) (x := a0) rfl rfl (dl_at t_X17_slot 0 rfl) ?_
  refine g_gd fun k1 => ?_
  refine r_getiN (pc := 1) X fX28_4 k1 (nw_in q2537 rfl) (dl_at t_X17_slot 1 rfl) fun g1 => ?_
  refine g_aload_n (pc := 4) X (j := 0) (i := 0) (q := 0) (x := a0) rfl rfl (dl_at t_X17_slot 2 rfl) ?_
  refine r_getiN (pc := 5) X fX28_2 k1 (nw_in q2531 rfl) (dl_at t_X17_slot 3 rfl) fun g5 => ?_
  refine g_iadd (pc := 8) X g1 g5 (dl_at t_X17_slot 4 rfl) ?_
  refine g_lti (r32_w _) fun x1_9 r1_9 => ?_
  refine g_istore_nN (pc := 9) X (j := 1) (i := 1) (x := x1_9) (b := 0) (w := rv D a0) (rest := []) rfl (Nat.le_of_ble_eq_true rfl) [0] rfl (by decide) rv_cat rfl (dl_at t_X17_slot 5 rfl) ?_
  refine g_iconst (pc := 10) X (n := 0) (dl_at t_X17_slot 6 rfl) ?_
  refine g_ltz (Or.inl rfl) fun x2_11 r2_11 => ?_
  refine g_istore_nN (pc := 11) X (j := 2) (i := 2) (x := x2_11) (b := 1) (w := iv x1_9) (rest := [(0, rv D a0)]) rfl (Nat.le_of_ble_eq_true rfl) [0, 1] rfl (by decide) rfl rfl (dl_at t_X17_slot 7 rfl) ?_
  refine g_ls (ls2 := [(0, rv D a0), (1, iv x1_9), (2, iv x2_11)]) [2, 1, 0] rfl ?_
  refine g_loop0F (fun (q : Int × Int) => [(0, rv D a0), (1, iv q.1), (2, iv q.2)]) (fun (q : Int × Int) => h) (fun (q : Int × Int) => r32 q.1 ∧ r32 q.2) (x1_9, x2_11) ⟨r1_9, (r32_z r2_11)⟩ ?_ (fun _ => rfl)
  · rintro ⟨x1_12, x2_12⟩ ⟨r1_12, r2_12⟩
    try dsimp only
    unfold m_X17_slot_l12
    refine g_iload_n (pc := 12) X (j := 2) (i := 2) (q := 2) (x := x2_12) rfl rfl (dl_at t_X17_slot 8 rfl) ?_
    refine g_aload_n (pc := 13) X (j := 0) (i := 0) (q := 0) (x := a0) rfl rfl (dl_at t_X17_slot 9 rfl) ?_
    refine r_getiN (pc := 14) X fX28_2 k1 (nw_in q2531 rfl) (dl_at t_X17_slot 10 rfl) fun g14 => ?_
    refine g_icmpge (pc := 17) X r2_12 g14 (off := 20) (tgt := 37) rfl (dl_at t_X17_slot 11 rfl) (fun _ => ?_) (fun _ => ?_)
    · refine g_iload_n (pc := 37) X (j := 1) (i := 1) (q := 1) (x := x1_12) rfl rfl (dl_at t_X17_slot 22 rfl) ?_
      refine g_iload_n (pc := 38) X (j := 1) (i := 1) (q := 1) (x := x1_12) rfl rfl (dl_at t_X17_slot 23 rfl) ?_
      refine g_bipush (pc := 39) X (n := 11) rfl (dl_at t_X17_slot 24 rfl) ?_
      refine g_iushr (pc := 41) X (dl_at t_X17_slot 25 rfl) ?_
      refine g_ixor (pc := 42) X (dl_at t_X17_slot 26 rfl) ?_
      refine g_sipush (pc := 43) X (n := 255) rfl (dl_at t_X17_slot 27 rfl) ?_
      refine g_iand (pc := 46) X (dl_at t_X17_slot 28 rfl) ?_
      exact g_at fun Q hQ => (g_iret (pc := 47) X (r32_iand _ _) rfl rfl (dl_at t_X17_slot 29 rfl)) _ Q rfl hQ
    refine g_bipush (pc := 20) X (n := 31) rfl (dl_at t_X17_slot 12 rfl) ?_
    refine g_iload_n (pc := 22) X (j := 1) (i := 1) (q := 1) (x := x1_12) rfl rfl (dl_at t_X17_slot 13 rfl) ?_
    refine g_imul (pc := 23) X (r32_c rfl) r1_12 (dl_at t_X17_slot 14 rfl) ?_
    refine g_aload_n (pc := 24) X (j := 0) (i := 0) (q := 0) (x := a0) rfl rfl (dl_at t_X17_slot 15 rfl) ?_
    refine g_iload_n (pc := 25) X (j := 2) (i := 2) (q := 2) (x := x2_12) rfl rfl (dl_at t_X17_slot 16 rfl) ?_
    refine r_callRi (pc := 26) X (fun _ hv => s_X28_byteOf k1 r2_12 hv) cw_code q2623 q396 (in_Vk X (As := [iv x2_12]) kX28 k1 (Or.inr ⟨_, nw_in q2846 rfl⟩) q2622 qs126 cw_code q2623 ⟨by decide, by decide⟩ rfl (dl_at t_X17_slot 17 rfl)) (dl_at t_X17_slot 17 rfl) (cat24 (st := [iv (w32 (31 * x1_12))]) (Nat.le_of_ble_eq_true rfl)) (Nat.le_of_ble_eq_true rfl) (Nat.le_of_ble_eq_true rfl) fun v26 g26 => ?_
    refine g_iadd (pc := 29) X (r32_w _) g26 (dl_at t_X17_slot 18 rfl) ?_
    refine g_lti (r32_w _) fun x1_30 r1_30 => ?_
    refine g_istore_nN (pc := 30) X (j := 1) (i := 1) (x := x1_30) (b := 0) (w := rv D a0) (rest := [(2, iv x2_12)]) rfl (Nat.le_of_ble_eq_true rfl) [0, 2] rfl (by decide) rv_cat rfl (dl_at t_X17_slot 19 rfl) ?_
    refine r_iincN (pc := 31) X (i := 2) (q := 2) (n := 1) (x := x2_12) (b := 1) (w := iv x1_30) (rest := [(0, rv D a0)]) rfl r2_12 (r32_c rfl) (Nat.le_of_ble_eq_true rfl) [0, 1] rfl (by decide) rfl rfl (dl_at t_X17_slot 20 rfl) fun x2_31 r2_31 => ?_
    refine g_goto (pc := 34) X (off := (-22)) (tgt := 12) rfl (dl_at t_X17_slot 21 rfl) ?_
    refine g_ls (ls2 := [(0, rv D a0), (1, iv x1_30), (2, iv x2_31)]) [2, 1, 0] rfl ?_
    exact g_at fun Q hQ => hQ ⟨r1_30, r2_31⟩
def k_X17_begin : List (Nat × Instr × Nat) := [(0, .aload_n 0, 1), (1, .aload_n 1, 1), (2, .putfield 18, 3), (5, .iconst 0, 1), (6, .istore_n 2, 1), (7, .iload_n 2, 1), (8, .aload_n 0, 1), (9, .getfield 15, 3), (12, .arraylength, 1), (13, .if_icmp .ge 16, 3), (16, .aload_n 0, 1), (17, .getfield 15, 3), (20, .iload_n 2, 1), (21, .iconst (-1), 1), (22, .iastore, 1), (23, .iinc 2 1, 3), (26, .goto (-19), 3), (29, .aload_n 0, 1), (30, .getfield 18, 3), (33, .ifnonnull 4, 3), (36, .return_, 1), (37, .iconst 0, 1), (38, .istore_n 2, 1), (39, .iload_n 2, 1), (40, .aload_n 0, 1), (41, .getfield 18, 3), (44, .getfield 22, 3), (47, .if_icmp .ge 41, 3), (50, .aload_n 0, 1), (51, .getfield 18, 3), (54, .getfield 28, 3), (57, .iload_n 2, 1), (58, .aaload, 1), (59, .invokestatic 32, 3), (62, .istore_n 3, 1), (63, .aload_n 0, 1), (64, .getfield 9, 3), (67, .iload_n 2, 1), (68, .aload_n 0, 1), (69, .getfield 15, 3), (72, .iload_n 3, 1), (73, .iaload, 1), (74, .iastore, 1), (75, .aload_n 0, 1), (76, .getfield 15, 3), (79, .iload_n 3, 1), (80, .iload_n 2, 1), (81, .iastore, 1), (82, .iinc 2 1, 3), (85, .goto (-46), 3), (88, .return_, 1)]
theorem t_X17_begin : ∀ q ∈ k_X17_begin, decode cX17_begin q.1 = .ok q.2 := dl_all (by decide +kernel)
noncomputable def m_X17_begin_l7 (a0 x2_7 : Int) (h_7 : Hp) : Option ((Int × Hp) ⊕ ((Hp))) :=
  gd (1 ≤ h_7 (h_7 a0 2) (-2) % 16 ∧ h_7 (h_7 a0 2) (-2) % 16 ≤ 9) (if (h_7 (h_7 a0 2) (-1)) ≤ x2_7 then (some (.inr h_7))
  else (gd (h_7 (h_7 a0 2) (-2) % 16 = 1 ∧ (0 : Int) ≤ x2_7 ∧ x2_7 < h_7 (h_7 a0 2) (-1)) (pt h_7 (h_7 a0 2) x2_7 (-1) fun h22 =>
  lt_ (w32 (x2_7 + 1)) fun x2_23 =>
  some (.inl (x2_23, h22)))))
noncomputable def m_X17_begin_l39 (a0 x2_39 : Int) (h_39 : Hp) : Option ((Int × Hp) ⊕ ((Hp))) :=
  gd (h_39 (h_39 a0 0) (-2) = 224) (if (h_39 (h_39 a0 0) 9) ≤ x2_39 then (some (.inr h_39))
  else (gd (h_39 (h_39 (h_39 a0 0) 8) (-2) % 16 = 9 ∧ (0 : Int) ≤ x2_39 ∧ x2_39 < h_39 (h_39 (h_39 a0 0) 8) (-1)) ((m_X17_slot (h_39 (h_39 (h_39 a0 0) 8) x2_39) h_39).bind fun v59 =>
  gd (h_39 (h_39 a0 2) (-2) % 16 = 1 ∧ (0 : Int) ≤ v59 ∧ v59 < h_39 (h_39 a0 2) (-1)) (gd (h_39 (h_39 a0 1) (-2) % 16 = 1 ∧ (0 : Int) ≤ x2_39 ∧ x2_39 < h_39 (h_39 a0 1) (-1)) (pt h_39 (h_39 a0 1) x2_39 (h_39 (h_39 a0 2) v59) fun h74 =>
  gd (h74 (h74 a0 2) (-2) % 16 = 1 ∧ (0 : Int) ≤ v59 ∧ v59 < h74 (h74 a0 2) (-1)) (pt h74 (h74 a0 2) v59 x2_39 fun h81 =>
  lt_ (w32 (x2_39 + 1)) fun x2_82 =>
  some (.inl (x2_82, h81))))))))
noncomputable def m_X17_begin (a0 a1 : Int) (h : Hp) : Option (Hp) :=
  pt h a0 0 a1 fun h2 =>
  lt_ 0 fun x2_6 =>
  (lp (fun (q : Int × Hp) => m_X17_begin_l7 a0 q.1 q.2) (x2_6, h2)).bind (fun (y29 : Hp) => if (y29 a0 0) ≠ 0 then (lt_ 0 fun x2_38 =>
  (lp (fun (q : Int × Hp) => m_X17_begin_l39 a0 q.1 q.2) (x2_38, y29)).bind (fun (x : Hp) => some x))
  else (some y29))
theorem s_X17_begin {l : Launch} [NoTr l] {D : SD} {a0 a1 : Int} {h : Hp} (hk : h a0 (-2) = 272) {r : Hp} (hm : m_X17_begin a0 a1 h = some r) : Sim l D yX17_begin (Cond.code yX17_begin cX17_begin 4 (Option.none : Option Jvm.ClassFile.FieldType)) 2 75 [rv D a0, rv D a1] h 0 ((0, 0), r) := by
  refine Sim.of (fin := fun (v : Hp) => ((0, 0), v)) (lsE := [(0, rv D a0), (1, rv D a1)]) hm rfl cwS_code (la_r (la_r la_n)) (ll_r (ll_r ll_n)) ?_
  intro p e s m below meth c X hcw hmm hcc hnm hname
  unfold m_X17_begin
  refine g_aload_n (pc := 0) X (j := 0) (i := 0) (q := 0) (x := a0) rfl rfl (dl_at t_X17_begin 0 rfl) ?_
  refine g_aload_n (pc := 1) X (j := 1) (i := 1) (q := 1) (x := a1) rfl rfl (dl_at t_X17_begin 1 rfl) ?_
  refine r_putr (pc := 2) X fX17_0 hk q1475 rfl (dl_at t_X17_begin 2 rfl)  (fun h2 E2 => ?_)
  refine g_iconst (pc := 5) X (n := 0) (dl_at t_X17_begin 3 rfl) ?_
  refine g_ltz (Or.inl rfl) fun x2_6 r2_6 => ?_
  refine g_istore_n (pc := 6) X (j := 2) (i := 2) (x := x2_6) (rest := [(0, rv D a0)]) rfl (Nat.le_of_ble_eq_true rfl) [0] rfl rfl (dl_at t_X17_begin 4 rfl) ?_
  refine g_ls (ls2 := [(0, rv D a0), (2, iv x2_6)]) [1, 0] rfl ?_
  refine g_loop1 (fun (q : Int × Hp) => [(0, rv D a0), (2, iv q.1)]) (fun (q : Int × Hp) => q.2) (fun (q : Int × Hp) => r32 q.1 ∧ Ext h2 q.2) 29 (fun (y29 : Hp) => [(0, rv D a0)]) (fun (y29 : Hp) => y29) (fun (y29 : Hp) => Ext h2 y29) (x2_6, h2) ⟨(r32_z r2_6), (Ext.refl _)⟩ ?_ ?_
  · rintro ⟨x2_7, h_7⟩ ⟨r2_7, E_7⟩
    try dsimp only
    unfold m_X17_begin_l7
    refine g_iload_n (pc := 7) X (j := 2) (i := 2) (q := 1) (x := x2_7) rfl rfl (dl_at t_X17_begin 5 rfl) ?_
    refine g_aload_n (pc := 8) X (j := 0) (i := 0) (q := 0) (x := a0) rfl rfl (dl_at t_X17_begin 6 rfl) ?_
    have k9 := kx (E2.trans E_7) (by decide) hk
    refine r_getr (pc := 9) X fX17_2 k9 q1477 (dl_at t_X17_begin 7 rfl) ?_
    refine g_gd fun k12 => ?_
    refine g_alen (pc := 12) X k12 (dl_at t_X17_begin 8 rfl) fun g12 => ?_
    refine g_icmpge (pc := 13) X r2_7 g12 (off := 16) (tgt := 29) rfl (dl_at t_X17_begin 9 rfl) (fun _ => ?_) (fun _ => ?_)
    · refine g_ls (ls2 := [(0, rv D a0)]) [0] rfl ?_
      exact g_at fun Q hQ => hQ E_7
    refine g_aload_n (pc := 16) X (j := 0) (i := 0) (q := 0) (x := a0) rfl rfl (dl_at t_X17_begin 10 rfl) ?_
    refine r_getr (pc := 17) X fX17_2 k9 q1477 (dl_at t_X17_begin 11 rfl) ?_
    refine g_iload_n (pc := 20) X (j := 2) (i := 2) (q := 1) (x := x2_7) rfl rfl (dl_at t_X17_begin 12 rfl) ?_
    refine g_iconst (pc := 21) X (n := (-1)) (dl_at t_X17_begin 13 rfl) ?_
    refine g_gd fun k22 => ?_
    refine r_iast (pc := 22) X r2_7 (r32_c rfl) k22 (dl_at t_X17_begin 14 rfl) (fun h22 E22 => ?_)
    refine r_iinc (pc := 23) X (i := 2) (q := 1) (n := 1) (x := x2_7) (rest := [(0, rv D a0)]) rfl r2_7 (r32_c rfl) (Nat.le_of_ble_eq_true rfl) [0] rfl rfl (dl_at t_X17_begin 15 rfl) fun x2_23 r2_23 => ?_
    refine g_goto (pc := 26) X (off := (-19)) (tgt := 7) rfl (dl_at t_X17_begin 16 rfl) ?_
    refine g_ls (ls2 := [(0, rv D a0), (2, iv x2_23)]) [1, 0] rfl ?_
    exact g_at fun Q hQ => hQ ⟨r2_23, (E_7.trans E22)⟩
  · rintro h_29 E_29
    try dsimp only [sE]
    refine g_aload_n (pc := 29) X (j := 0) (i := 0) (q := 0) (x := a0) rfl rfl (dl_at t_X17_begin 17 rfl) ?_
    have k30 := kx (E2.trans E_29) (by decide) hk
    refine r_getr (pc := 30) X fX17_0 k30 q1475 (dl_at t_X17_begin 18 rfl) ?_
    refine g_ifnonnull (pc := 33) X (off := 4) (tgt := 37) rfl (dl_at t_X17_begin 19 rfl) (fun _ => ?_) (fun _ => ?_)
    · refine g_iconst (pc := 37) X (n := 0) (dl_at t_X17_begin 21 rfl) ?_
      refine g_ltz (Or.inl rfl) fun x2_38 r2_38 => ?_
      refine g_istore_n (pc := 38) X (j := 2) (i := 2) (x := x2_38) (rest := [(0, rv D a0)]) rfl (Nat.le_of_ble_eq_true rfl) [0] rfl rfl (dl_at t_X17_begin 22 rfl) ?_
      refine g_ls (ls2 := [(0, rv D a0), (2, iv x2_38)]) [1, 0] rfl ?_
      refine g_loop0F (fun (q : Int × Hp) => [(0, rv D a0), (2, iv q.1)]) (fun (q : Int × Hp) => q.2) (fun (q : Int × Hp) => r32 q.1 ∧ Ext h_29 q.2) (x2_38, h_29) ⟨(r32_z r2_38), (Ext.refl _)⟩ ?_ (fun _ => rfl)
      · rintro ⟨x2_39, h_39⟩ ⟨r2_39, E_39⟩
        try dsimp only
        unfold m_X17_begin_l39
        refine g_iload_n (pc := 39) X (j := 2) (i := 2) (q := 1) (x := x2_39) rfl rfl (dl_at t_X17_begin 23 rfl) ?_
        refine g_aload_n (pc := 40) X (j := 0) (i := 0) (q := 0) (x := a0) rfl rfl (dl_at t_X17_begin 24 rfl) ?_
        have k41 := kx E_39 (by decide) k30
        refine r_getr (pc := 41) X fX17_0 k41 q1475 (dl_at t_X17_begin 25 rfl) ?_
        refine g_gd fun k44 => ?_
        refine r_getiN (pc := 44) X fX14_9 k44 (nw_in q1254 rfl) (dl_at t_X17_begin 26 rfl) fun g44 => ?_
        refine g_icmpge (pc := 47) X r2_39 g44 (off := 41) (tgt := 88) rfl (dl_at t_X17_begin 27 rfl) (fun _ => ?_) (fun _ => ?_)
        · exact g_at fun Q hQ => (g_vret (pc := 88) X (v := 0) rfl rfl (dl_at t_X17_begin 50 rfl)) _ Q rfl hQ
        refine g_aload_n (pc := 50) X (j := 0) (i := 0) (q := 0) (x := a0) rfl rfl (dl_at t_X17_begin 28 rfl) ?_
        refine r_getr (pc := 51) X fX17_0 k41 q1475 (dl_at t_X17_begin 29 rfl) ?_
        refine r_getrN (pc := 54) X fX14_8 k44 (nw_in q1253 rfl) (dl_at t_X17_begin 30 rfl) ?_
        refine g_iload_n (pc := 57) X (j := 2) (i := 2) (q := 1) (x := x2_39) rfl rfl (dl_at t_X17_begin 31 rfl) ?_
        refine g_gd fun k58 => ?_
        refine g_aald (pc := 58) X 9 (Nat.le_of_ble_eq_true rfl) (Nat.le_of_ble_eq_true rfl) r2_39 rfl k58 (dl_at t_X17_begin 32 rfl) ?_
        refine r_callRi (pc := 59) X (fun _ hv => s_X17_slot hv) cw_code q2845 q371 (in_Sc X (As := [rv D (h_39 (h_39 (h_39 a0 0) 8) x2_39)]) (Or.inl q2843) q2844 q371 q2845 ⟨by decide, by decide⟩ rfl (dl_at t_X17_begin 33 rfl)) (dl_at t_X17_begin 33 rfl) (cat24 (st := []) (Nat.le_of_ble_eq_true rfl)) (Nat.le_of_ble_eq_true rfl) (Nat.le_of_ble_eq_true rfl) fun v59 g59 => ?_
        refine g_istore_nN (pc := 62) X (j := 3) (i := 3) (x := v59) (b := 2) (w := iv x2_39) (rest := [(0, rv D a0)]) rfl (Nat.le_of_ble_eq_true rfl) [1, 0] rfl (by decide) rfl rfl (dl_at t_X17_begin 34 rfl) ?_
        refine g_aload_n (pc := 63) X (j := 0) (i := 0) (q := 2) (x := a0) rfl rfl (dl_at t_X17_begin 35 rfl) ?_
        refine r_getr (pc := 64) X fX17_1 k41 q1476 (dl_at t_X17_begin 36 rfl) ?_
        refine g_iload_n (pc := 67) X (j := 2) (i := 2) (q := 1) (x := x2_39) rfl rfl (dl_at t_X17_begin 37 rfl) ?_
        refine g_aload_n (pc := 68) X (j := 0) (i := 0) (q := 2) (x := a0) rfl rfl (dl_at t_X17_begin 38 rfl) ?_
        refine r_getr (pc := 69) X fX17_2 k41 q1477 (dl_at t_X17_begin 39 rfl) ?_
        refine g_iload_n (pc := 72) X (j := 3) (i := 3) (q := 0) (x := v59) rfl rfl (dl_at t_X17_begin 40 rfl) ?_
        refine g_gd fun k73 => ?_
        refine g_iald (pc := 73) X g59 k73 (dl_at t_X17_begin 41 rfl) fun g73 => ?_
        refine g_gd fun k74 => ?_
        refine r_iast (pc := 74) X r2_39 g73 k74 (dl_at t_X17_begin 42 rfl) (fun h74 E74 => ?_)
        refine g_aload_n (pc := 75) X (j := 0) (i := 0) (q := 2) (x := a0) rfl rfl (dl_at t_X17_begin 43 rfl) ?_
        have k76 := kx E74 (by decide) k41
        refine r_getr (pc := 76) X fX17_2 k76 q1477 (dl_at t_X17_begin 44 rfl) ?_
        refine g_iload_n (pc := 79) X (j := 3) (i := 3) (q := 0) (x := v59) rfl rfl (dl_at t_X17_begin 45 rfl) ?_
        refine g_iload_n (pc := 80) X (j := 2) (i := 2) (q := 1) (x := x2_39) rfl rfl (dl_at t_X17_begin 46 rfl) ?_
        refine g_gd fun k81 => ?_
        refine r_iast (pc := 81) X g59 r2_39 k81 (dl_at t_X17_begin 47 rfl) (fun h81 E81 => ?_)
        refine r_iinc (pc := 82) X (i := 2) (q := 1) (n := 1) (x := x2_39) (rest := [(0, rv D a0)]) rfl r2_39 (r32_c rfl) (Nat.le_of_ble_eq_true rfl) [2] rfl rfl (dl_at t_X17_begin 48 rfl) fun x2_82 r2_82 => ?_
        refine g_goto (pc := 85) X (off := (-46)) (tgt := 39) rfl (dl_at t_X17_begin 49 rfl) ?_
        refine g_ls (ls2 := [(0, rv D a0), (2, iv x2_82)]) [1, 0] rfl ?_
        exact g_at fun Q hQ => hQ ⟨r2_82, (E_39.trans (E74.trans E81))⟩
    exact g_vret (pc := 36) X (v := 0) rfl rfl (dl_at t_X17_begin 20 rfl)
def k_X28_kind : List (Nat × Instr × Nat) := [(0, .aload_n 0, 1), (1, .getfield 9, 3), (4, .getfield 32, 3), (7, .aload_n 0, 1), (8, .getfield 35, 3), (11, .iload_n 1, 1), (12, .iadd, 1), (13, .iaload, 1), (14, .ireturn, 1)]
theorem t_X28_kind : ∀ q ∈ k_X28_kind, decode cX28_kind q.1 = .ok q.2 := dl_all (by decide +kernel)
noncomputable def m_X28_kind (a0 a1 : Int) (h : Hp) : Option (Int) :=
  gd (h (h a0 0) (-2) = 240) (gd (h (h (h a0 0) 4) (-2) % 16 = 1 ∧ (0 : Int) ≤ (w32 ((h a0 15) + a1)) ∧ (w32 ((h a0 15) + a1)) < h (h (h a0 0) 4) (-1)) (some (h (h (h a0 0) 4) (w32 ((h a0 15) + a1)))))
theorem s_X28_kind {l : Launch} [NoTr l] {D : SD} {a0 a1 : Int} {h : Hp} (hk : h a0 (-2) = 288) (r1 : r32 a1) {r : Int} (hm : m_X28_kind a0 a1 h = some r) : Sim l D yX28_kind (Cond.code yX28_kind cX28_kind 2 (Option.some Jvm.ClassFile.FieldType.int)) 0 0 [rv D a0, iv a1] h 1 ((0, r), h) := by
  refine Sim.of (fin := fun (v : Int) => ((0, v), h)) (lsE := [(0, rv D a0), (1, iv a1)]) hm rfl cwS_code (la_r (la_i la_n)) (ll_r (ll_i ll_n)) ?_
  intro p e s m below meth c X hcw hmm hcc hnm hname
  unfold m_X28_kind
  refine g_aload_n (pc := 0) X (j := 0) (i := 0) (q := 0) (x := a0) rfl rfl (dl_at t_X28_kind 0 rfl) ?_
  refine r_getr (pc := 1) X fX28_0 hk q2528 (dl_at t_X28_kind 1 rfl) ?_
  refine g_gd fun k4 => ?_
  refine r_getrN (pc := 4) X fX15_4 k4 (nw_in q1139 rfl) (dl_at t_X28_kind 2 rfl) ?_
  refine g_aload_n (pc := 7) X (j := 0) (i := 0) (q := 0) (x := a0) rfl rfl (dl_at t_X28_kind 3 rfl) ?_
  refine r_geti (pc := 8) X fX28_15 hk q2557 (dl_at t_X28_kind 4 rfl) fun g8 => ?_
  refine g_iload_n (pc := 11) X (j := 1) (i := 1) (q := 1) (x := a1) rfl rfl (dl_at t_X28_kind 5 rfl) ?_
  refine g_iadd (pc := 12) X g8 r1 (dl_at t_X28_kind 6 rfl) ?_
  refine g_gd fun k13 => ?_
  refine g_iald (pc := 13) X (r32_w _) k13 (dl_at t_X28_kind 7 rfl) fun g13 => ?_
  exact g_iret (pc := 14) X g13 rfl rfl (dl_at t_X28_kind 8 rfl)
def k_X28_endAt : List (Nat × Instr × Nat) := [(0, .aload_n 0, 1), (1, .getfield 9, 3), (4, .getfield 38, 3), (7, .aload_n 0, 1), (8, .getfield 35, 3), (11, .iload_n 1, 1), (12, .iadd, 1), (13, .iaload, 1), (14, .ireturn, 1)]
theorem t_X28_endAt : ∀ q ∈ k_X28_endAt, decode cX28_endAt q.1 = .ok q.2 := dl_all (by decide +kernel)
noncomputable def m_X28_endAt (a0 a1 : Int) (h : Hp) : Option (Int) :=
  gd (h (h a0 0) (-2) = 240) (gd (h (h (h a0 0) 5) (-2) % 16 = 1 ∧ (0 : Int) ≤ (w32 ((h a0 15) + a1)) ∧ (w32 ((h a0 15) + a1)) < h (h (h a0 0) 5) (-1)) (some (h (h (h a0 0) 5) (w32 ((h a0 15) + a1)))))
theorem s_X28_endAt {l : Launch} [NoTr l] {D : SD} {a0 a1 : Int} {h : Hp} (hk : h a0 (-2) = 288) (r1 : r32 a1) {r : Int} (hm : m_X28_endAt a0 a1 h = some r) : Sim l D yX28_endAt (Cond.code yX28_endAt cX28_endAt 2 (Option.some Jvm.ClassFile.FieldType.int)) 0 0 [rv D a0, iv a1] h 1 ((0, r), h) := by
  refine Sim.of (fin := fun (v : Int) => ((0, v), h)) (lsE := [(0, rv D a0), (1, iv a1)]) hm rfl cwS_code (la_r (la_i la_n)) (ll_r (ll_i ll_n)) ?_
  intro p e s m below meth c X hcw hmm hcc hnm hname
  unfold m_X28_endAt
  refine g_aload_n (pc := 0) X (j := 0) (i := 0) (q := 0) (x := a0) rfl rfl (dl_at t_X28_endAt 0 rfl) ?_
  refine r_getr (pc := 1) X fX28_0 hk q2528 (dl_at t_X28_endAt 1 rfl) ?_
  refine g_gd fun k4 => ?_
  refine r_getrN (pc := 4) X fX15_5 k4 (nw_in q1141 rfl) (dl_at t_X28_endAt 2 rfl) ?_
  refine g_aload_n (pc := 7) X (j := 0) (i := 0) (q := 0) (x := a0) rfl rfl (dl_at t_X28_endAt 3 rfl) ?_
  refine r_geti (pc := 8) X fX28_15 hk q2557 (dl_at t_X28_endAt 4 rfl) fun g8 => ?_
  refine g_iload_n (pc := 11) X (j := 1) (i := 1) (q := 1) (x := a1) rfl rfl (dl_at t_X28_endAt 5 rfl) ?_
  refine g_iadd (pc := 12) X g8 r1 (dl_at t_X28_endAt 6 rfl) ?_
  refine g_gd fun k13 => ?_
  refine g_iald (pc := 13) X (r32_w _) k13 (dl_at t_X28_endAt 7 rfl) fun g13 => ?_
  exact g_iret (pc := 14) X g13 rfl rfl (dl_at t_X28_endAt 8 rfl)
def k_X28_isSame : List (Nat × Instr × Nat) := [(0, .aload_n 0, 1), (1, .getfield 57, 3), (4, .aload_n 1, 1), (5, .getfield 57, 3), (8, .if_icmp .ne 69, 3), (11, .aload_n 0, 1), (12, .getfield 60, 3), (15, .aload_n 1, 1), (16, .getfield 60, 3), (19, .if_icmp .ne 58, 3), (22, .aload_n 0, 1), (23, .getfield 63, 3), (26, .aload_n 1, 1), (27, .getfield 63, 3), (30, .if_icmp .ne 47, 3), (33, .aload_n 0, 1), (34, .getfield 66, 3), (37, .aload_n 1, 1), (38, .getfield 66, 3), (41, .if_icmp .ne 36, 3), (44, .aload_n 0, 1), (45, .getfield 69, 3), (48, .aload_n 1, 1), (49, .getfield 69, 3), (52, .if_icmp .ne 25, 3), (55, .aload_n 0, 1), (56, .getfield 72, 3), (59, .aload_n 1, 1), (60, .getfield 72, 3), (63, .if_icmp .ne 14, 3), (66, .aload_n 0, 1), (67, .getfield 75, 3), (70, .aload_n 1, 1), (71, .getfield 75, 3), (74, .if_icmp .eq 5, 3), (77, .iconst 0, 1), (78, .ireturn, 1), (79, .iconst 0, 1), (80, .istore_n 2, 1), (81, .iload_n 2, 1), (82, .aload_n 0, 1), (83, .getfield 57, 3), (86, .if_icmp .ge 37, 3), (89, .aload_n 0, 1), (90, .iload_n 2, 1), (91, .invokevirtual 78, 3), (94, .aload_n 1, 1), (95, .iload_n 2, 1), (96, .invokevirtual 78, 3), (99, .if_icmp .ne 16, 3), (102, .aload_n 0, 1), (103, .iload_n 2, 1), (104, .invokevirtual 82, 3), (107, .aload_n 1, 1), (108, .iload_n 2, 1), (109, .invokevirtual 82, 3), (112, .if_icmp .eq 5, 3), (115, .iconst 0, 1), (116, .ireturn, 1), (117, .iinc 2 1, 3), (120, .goto (-39), 3), (123, .iconst 1, 1), (124, .istore_n 2, 1), (125, .iload_n 2, 1), (126, .aload_n 0, 1), (127, .getfield 75, 3), (130, .if_icmp .gt 37, 3), (133, .aload_n 0, 1), (134, .iload_n 2, 1), (135, .invokevirtual 85, 3), (138, .aload_n 1, 1), (139, .iload_n 2, 1), (140, .invokevirtual 85, 3), (143, .if_icmp .ne 16, 3), (146, .aload_n 0, 1), (147, .iload_n 2, 1), (148, .invokevirtual 87, 3), (151, .aload_n 1, 1), (152, .iload_n 2, 1), (153, .invokevirtual 87, 3), (156, .if_icmp .eq 5, 3), (159, .iconst 0, 1), (160, .ireturn, 1), (161, .iinc 2 1, 3), (164, .goto (-39), 3), (167, .iconst 1, 1), (168, .ireturn, 1)]
theorem t_X28_isSame : ∀ q ∈ k_X28_isSame, decode cX28_isSame q.1 = .ok q.2 := dl_all (by decide +kernel)
noncomputable def m_X28_isSame_l81 (a0 a1 x2_81 : Int) (h : Hp) : Option ((Int) ⊕ ((Unit) ⊕ ((Int)))) :=
  if (h a0 2) ≤ x2_81 then (some (.inr (.inl ())))
  else ((m_X28_byteOf a0 x2_81 h).bind fun v91 =>
  (m_X28_byteOf a1 x2_81 h).bind fun v96 =>
  if v91 ≠ v96 then (some (.inr (.inr 0)))
  else ((m_X28_sizeOf a0 x2_81 h).bind fun v104 =>
  (m_X28_sizeOf a1 x2_81 h).bind fun v109 =>
  if v104 = v109 then (lt_ (w32 (x2_81 + 1)) fun x2_117 =>
  some (.inl x2_117))
  else (some (.inr (.inr 0)))))
noncomputable def m_X28_isSame_l125 (a0 a1 x2_125 : Int) (h : Hp) : Option ((Int) ⊕ ((Int))) :=
  if (h a0 16) < x2_125 then (some (.inr 1))
  else ((m_X28_kind a0 x2_125 h).bind fun v135 =>
  (m_X28_kind a1 x2_125 h).bind fun v140 =>
  if v135 ≠ v140 then (some (.inr 0))
  else ((m_X28_endAt a0 x2_125 h).bind fun v148 =>
  (m_X28_endAt a1 x2_125 h).bind fun v153 =>
  if v148 = v153 then (lt_ (w32 (x2_125 + 1)) fun x2_161 =>
  some (.inl x2_161))
  else (some (.inr 0))))
noncomputable def m_X28_isSame (a0 a1 : Int) (h : Hp) : Option (Int) :=
  gd (h a1 (-2) = 288) (if (h a0 2) ≠ (h a1 2) then (some 0)
  else (if (h a0 4) ≠ (h a1 4) then (some 0)
  else (if (h a0 7) ≠ (h a1 7) then (some 0)
  else (if (h a0 6) ≠ (h a1 6) then (some 0)
  else (if (h a0 8) ≠ (h a1 8) then (some 0)
  else (if (h a0 9) ≠ (h a1 9) then (some 0)
  else (if (h a0 16) = (h a1 16) then (lt_ 0 fun x2_80 =>
  (lp (fun (q : Int) => m_X28_isSame_l81 a0 a1 q h) x2_80).bind (sE (fun (_ : Unit) => lt_ 1 fun x2_124 =>
  (lp (fun (q : Int) => m_X28_isSame_l125 a0 a1 q h) x2_124).bind (fun (x : Int) => some x)) (fun (x : Int) => some x)))
  else (some 0))))))))
theorem s_X28_isSame {l : Launch} [NoTr l] {D : SD} {a0 a1 : Int} {h : Hp} (hk : h a0 (-2) = 288) {r : Int} (hm : m_X28_isSame a0 a1 h = some r) : Sim l D yX28_isSame (Cond.code yX28_isSame cX28_isSame 3 (Option.some Jvm.ClassFile.FieldType.boolean)) 1 37 [rv D a0, rv D a1] h 3 ((0, r), h) := by
  refine Sim.of (fin := fun (v : Int) => ((0, v), h)) (lsE := [(0, rv D a0), (1, rv D a1)]) hm rfl cwS_code (la_r (la_r la_n)) (ll_r (ll_r ll_n)) ?_
  intro p e s m below meth c X hcw hmm hcc hnm hname
  unfold m_X28_isSame
  refine g_aload_n (pc := 0) X (j := 0) (i := 0) (q := 0) (x := a0) rfl rfl (dl_at t_X28_isSame 0 rfl) ?_
  refine r_geti (pc := 1) X fX28_2 hk q2532 (dl_at t_X28_isSame 1 rfl) fun g1 => ?_
  refine g_aload_n (pc := 4) X (j := 1) (i := 1) (q := 1) (x := a1) rfl rfl (dl_at t_X28_isSame 2 rfl) ?_
  refine g_gd fun k5 => ?_
  refine r_geti (pc := 5) X fX28_2 k5 q2532 (dl_at t_X28_isSame 3 rfl) fun g5 => ?_
  refine g_icmpne (pc := 8) X g1 g5 (off := 69) (tgt := 77) rfl (dl_at t_X28_isSame 4 rfl) (fun _ => ?_) (fun _ => ?_)
  · refine g_iconst (pc := 77) X (n := 0) (dl_at t_X28_isSame 35 rfl) ?_
    exact g_zret (pc := 78) X (Or.inl rfl) rfl rfl (dl_at t_X28_isSame 36 rfl)
  refine g_aload_n (pc := 11) X (j := 0) (i := 0) (q := 0) (x := a0) rfl rfl (dl_at t_X28_isSame 5 rfl) ?_
  refine r_geti (pc := 12) X fX28_4 hk q2538 (dl_at t_X28_isSame 6 rfl) fun g12 => ?_
  refine g_aload_n (pc := 15) X (j := 1) (i := 1) (q := 1) (x := a1) rfl rfl (dl_at t_X28_isSame 7 rfl) ?_
  refine r_geti (pc := 16) X fX28_4 k5 q2538 (dl_at t_X28_isSame 8 rfl) fun g16 => ?_
  refine g_icmpne (pc := 19) X g12 g16 (off := 58) (tgt := 77) rfl (dl_at t_X28_isSame 9 rfl) (fun _ => ?_) (fun _ => ?_)
  · refine g_iconst (pc := 77) X (n := 0) (dl_at t_X28_isSame 35 rfl) ?_
    exact g_zret (pc := 78) X (Or.inl rfl) rfl rfl (dl_at t_X28_isSame 36 rfl)
  refine g_aload_n (pc := 22) X (j := 0) (i := 0) (q := 0) (x := a0) rfl rfl (dl_at t_X28_isSame 10 rfl) ?_
  refine r_geti (pc := 23) X fX28_7 hk q2545 (dl_at t_X28_isSame 11 rfl) fun g23 => ?_
  refine g_aload_n (pc := 26) X (j := 1) (i := 1) (q := 1) (x := a1) rfl rfl (dl_at t_X28_isSame 12 rfl) ?_
  refine r_geti (pc := 27) X fX28_7 k5 q2545 (dl_at t_X28_isSame 13 rfl) fun g27 => ?_
  refine g_icmpne (pc := 30) X g23 g27 (off := 47) (tgt := 77) rfl (dl_at t_X28_isSame 14 rfl) (fun _ => ?_) (fun _ => ?_)
  · refine g_iconst (pc := 77) X (n := 0) (dl_at t_X28_isSame 35 rfl) ?_
    exact g_zret (pc := 78) X (Or.inl rfl) rfl rfl (dl_at t_X28_isSame 36 rfl)
  refine g_aload_n (pc := 33) X (j := 0) (i := 0) (q := 0) (x := a0) rfl rfl (dl_at t_X28_isSame 15 rfl) ?_
  refine r_geti (pc := 34) X fX28_6 hk q2543 (dl_at t_X28_isSame 16 rfl) fun g34 => ?_
  refine g_aload_n (pc := 37) X (j := 1) (i := 1) (q := 1) (x := a1) rfl rfl (dl_at t_X28_isSame 17 rfl) ?_
  refine r_geti (pc := 38) X fX28_6 k5 q2543 (dl_at t_X28_isSame 18 rfl) fun g38 => ?_
  refine g_icmpne (pc := 41) X g34 g38 (off := 36) (tgt := 77) rfl (dl_at t_X28_isSame 19 rfl) (fun _ => ?_) (fun _ => ?_)
  · refine g_iconst (pc := 77) X (n := 0) (dl_at t_X28_isSame 35 rfl) ?_
    exact g_zret (pc := 78) X (Or.inl rfl) rfl rfl (dl_at t_X28_isSame 36 rfl)
  refine g_aload_n (pc := 44) X (j := 0) (i := 0) (q := 0) (x := a0) rfl rfl (dl_at t_X28_isSame 20 rfl) ?_
  refine r_geti (pc := 45) X fX28_8 hk q2547 (dl_at t_X28_isSame 21 rfl) fun g45 => ?_
  refine g_aload_n (pc := 48) X (j := 1) (i := 1) (q := 1) (x := a1) rfl rfl (dl_at t_X28_isSame 22 rfl) ?_
  refine r_geti (pc := 49) X fX28_8 k5 q2547 (dl_at t_X28_isSame 23 rfl) fun g49 => ?_
  refine g_icmpne (pc := 52) X g45 g49 (off := 25) (tgt := 77) rfl (dl_at t_X28_isSame 24 rfl) (fun _ => ?_) (fun _ => ?_)
  · refine g_iconst (pc := 77) X (n := 0) (dl_at t_X28_isSame 35 rfl) ?_
    exact g_zret (pc := 78) X (Or.inl rfl) rfl rfl (dl_at t_X28_isSame 36 rfl)
  refine g_aload_n (pc := 55) X (j := 0) (i := 0) (q := 0) (x := a0) rfl rfl (dl_at t_X28_isSame 25 rfl) ?_
  refine r_geti (pc := 56) X fX28_9 hk q2549 (dl_at t_X28_isSame 26 rfl) fun g56 => ?_
  refine g_aload_n (pc := 59) X (j := 1) (i := 1) (q := 1) (x := a1) rfl rfl (dl_at t_X28_isSame 27 rfl) ?_
  refine r_geti (pc := 60) X fX28_9 k5 q2549 (dl_at t_X28_isSame 28 rfl) fun g60 => ?_
  refine g_icmpne (pc := 63) X g56 g60 (off := 14) (tgt := 77) rfl (dl_at t_X28_isSame 29 rfl) (fun _ => ?_) (fun _ => ?_)
  · refine g_iconst (pc := 77) X (n := 0) (dl_at t_X28_isSame 35 rfl) ?_
    exact g_zret (pc := 78) X (Or.inl rfl) rfl rfl (dl_at t_X28_isSame 36 rfl)
  refine g_aload_n (pc := 66) X (j := 0) (i := 0) (q := 0) (x := a0) rfl rfl (dl_at t_X28_isSame 30 rfl) ?_
  refine r_geti (pc := 67) X fX28_16 hk q2558 (dl_at t_X28_isSame 31 rfl) fun g67 => ?_
  refine g_aload_n (pc := 70) X (j := 1) (i := 1) (q := 1) (x := a1) rfl rfl (dl_at t_X28_isSame 32 rfl) ?_
  refine r_geti (pc := 71) X fX28_16 k5 q2558 (dl_at t_X28_isSame 33 rfl) fun g71 => ?_
  refine g_icmpeq (pc := 74) X g67 g71 (off := 5) (tgt := 79) rfl (dl_at t_X28_isSame 34 rfl) (fun _ => ?_) (fun _ => ?_)
  · refine g_iconst (pc := 79) X (n := 0) (dl_at t_X28_isSame 37 rfl) ?_
    refine g_ltz (Or.inl rfl) fun x2_80 r2_80 => ?_
    refine g_istore_nN (pc := 80) X (j := 2) (i := 2) (x := x2_80) (b := 1) (w := rv D a1) (rest := [(0, rv D a0)]) rfl (Nat.le_of_ble_eq_true rfl) [1, 0] rfl (by decide) rv_cat rfl (dl_at t_X28_isSame 38 rfl) ?_
    refine g_ls (ls2 := [(0, rv D a0), (1, rv D a1), (2, iv x2_80)]) [2, 1, 0] rfl ?_
    refine g_loop1F (fun (q : Int) => [(0, rv D a0), (1, rv D a1), (2, iv q)]) (fun (q : Int) => h) (fun (q : Int) => r32 q) 123 (fun (y123 : Unit) => [(0, rv D a0), (1, rv D a1)]) (fun (y123 : Unit) => h) (fun (y123 : Unit) => True) x2_80 (r32_z r2_80) ?_ ?_ (fun _ => rfl)
    · rintro x2_81 r2_81
      try dsimp only
      unfold m_X28_isSame_l81
      refine g_iload_n (pc := 81) X (j := 2) (i := 2) (q := 2) (x := x2_81) rfl rfl (dl_at t_X28_isSame 39 rfl) ?_
      refine g_aload_n (pc := 82) X (j := 0) (i := 0) (q := 0) (x := a0) rfl rfl (dl_at t_X28_isSame 40 rfl) ?_
      refine r_geti (pc := 83) X fX28_2 hk q2532 (dl_at t_X28_isSame 41 rfl) fun g83 => ?_
      refine g_icmpge (pc := 86) X r2_81 g83 (off := 37) (tgt := 123) rfl (dl_at t_X28_isSame 42 rfl) (fun _ => ?_) (fun _ => ?_)
      · refine g_ls (ls2 := [(0, rv D a0), (1, rv D a1)]) [0, 1] rfl ?_
        exact g_at fun Q hQ => hQ trivial
      refine g_aload_n (pc := 89) X (j := 0) (i := 0) (q := 0) (x := a0) rfl rfl (dl_at t_X28_isSame 43 rfl) ?_
      refine g_iload_n (pc := 90) X (j := 2) (i := 2) (q := 2) (x := x2_81) rfl rfl (dl_at t_X28_isSame 44 rfl) ?_
      refine r_callRi (pc := 91) X (fun _ hv => s_X28_byteOf hk r2_81 hv) cw_code q2623 q396 (in_Vk X (As := [iv x2_81]) kX28 hk (Or.inl q2620) q2622 qs126 cw_code q2623 ⟨by decide, by decide⟩ rfl (dl_at t_X28_isSame 45 rfl)) (dl_at t_X28_isSame 45 rfl) (cat24 (st := []) (Nat.le_of_ble_eq_true rfl)) (Nat.le_of_ble_eq_true rfl) (Nat.le_of_ble_eq_true rfl) fun v91 g91 => ?_
      refine g_aload_n (pc := 94) X (j := 1) (i := 1) (q := 1) (x := a1) rfl rfl (dl_at t_X28_isSame 46 rfl) ?_
      refine g_iload_n (pc := 95) X (j := 2) (i := 2) (q := 2) (x := x2_81) rfl rfl (dl_at t_X28_isSame 47 rfl) ?_
      refine r_callRi (pc := 96) X (fun _ hv => s_X28_byteOf k5 r2_81 hv) cw_code q2623 q396 (in_Vk X (As := [iv x2_81]) kX28 k5 (Or.inl q2620) q2622 qs126 cw_code q2623 ⟨by decide, by decide⟩ rfl (dl_at t_X28_isSame 48 rfl)) (dl_at t_X28_isSame 48 rfl) (cat24 (st := [iv v91]) (Nat.le_of_ble_eq_true rfl)) (Nat.le_of_ble_eq_true rfl) (Nat.le_of_ble_eq_true rfl) fun v96 g96 => ?_
      refine g_icmpne (pc := 99) X g91 g96 (off := 16) (tgt := 115) rfl (dl_at t_X28_isSame 49 rfl) (fun _ => ?_) (fun _ => ?_)
      · refine g_iconst (pc := 115) X (n := 0) (dl_at t_X28_isSame 57 rfl) ?_
        exact g_at fun Q hQ => (g_zret (pc := 116) X (Or.inl rfl) rfl rfl (dl_at t_X28_isSame 58 rfl)) _ Q rfl hQ
      refine g_aload_n (pc := 102) X (j := 0) (i := 0) (q := 0) (x := a0) rfl rfl (dl_at t_X28_isSame 50 rfl) ?_
      refine g_iload_n (pc := 103) X (j := 2) (i := 2) (q := 2) (x := x2_81) rfl rfl (dl_at t_X28_isSame 51 rfl) ?_
      refine r_callRi (pc := 104) X (fun _ hv => s_X28_sizeOf hk r2_81 hv) cw_code q2664 q396 (in_Vk X (As := [iv x2_81]) kX28 hk (Or.inl q2661) q2663 qs134 cw_code q2664 ⟨by decide, by decide⟩ rfl (dl_at t_X28_isSame 52 rfl)) (dl_at t_X28_isSame 52 rfl) (cat24 (st := []) (Nat.le_of_ble_eq_true rfl)) (Nat.le_of_ble_eq_true rfl) (Nat.le_of_ble_eq_true rfl) fun v104 g104 => ?_
      refine g_aload_n (pc := 107) X (j := 1) (i := 1) (q := 1) (x := a1) rfl rfl (dl_at t_X28_isSame 53 rfl) ?_
      refine g_iload_n (pc := 108) X (j := 2) (i := 2) (q := 2) (x := x2_81) rfl rfl (dl_at t_X28_isSame 54 rfl) ?_
      refine r_callRi (pc := 109) X (fun _ hv => s_X28_sizeOf k5 r2_81 hv) cw_code q2664 q396 (in_Vk X (As := [iv x2_81]) kX28 k5 (Or.inl q2661) q2663 qs134 cw_code q2664 ⟨by decide, by decide⟩ rfl (dl_at t_X28_isSame 55 rfl)) (dl_at t_X28_isSame 55 rfl) (cat24 (st := [iv v104]) (Nat.le_of_ble_eq_true rfl)) (Nat.le_of_ble_eq_true rfl) (Nat.le_of_ble_eq_true rfl) fun v109 g109 => ?_
      refine g_icmpeq (pc := 112) X g104 g109 (off := 5) (tgt := 117) rfl (dl_at t_X28_isSame 56 rfl) (fun _ => ?_) (fun _ => ?_)
      · refine r_iincN (pc := 117) X (i := 2) (q := 2) (n := 1) (x := x2_81) (b := 1) (w := rv D a1) (rest := [(0, rv D a0)]) rfl r2_81 (r32_c rfl) (Nat.le_of_ble_eq_true rfl) [1, 0] rfl (by decide) rv_cat rfl (dl_at t_X28_isSame 59 rfl) fun x2_117 r2_117 => ?_
        refine g_goto (pc := 120) X (off := (-39)) (tgt := 81) rfl (dl_at t_X28_isSame 60 rfl) ?_
        refine g_ls (ls2 := [(0, rv D a0), (1, rv D a1), (2, iv x2_117)]) [2, 1, 0] rfl ?_
        exact g_at fun Q hQ => hQ r2_117
      refine g_iconst (pc := 115) X (n := 0) (dl_at t_X28_isSame 57 rfl) ?_
      exact g_at fun Q hQ => (g_zret (pc := 116) X (Or.inl rfl) rfl rfl (dl_at t_X28_isSame 58 rfl)) _ Q rfl hQ
    · rintro _ _
      try dsimp only [sE]
      refine g_iconst (pc := 123) X (n := 1) (dl_at t_X28_isSame 61 rfl) ?_
      refine g_ltz (Or.inr rfl) fun x2_124 r2_124 => ?_
      refine g_istore_nN (pc := 124) X (j := 2) (i := 2) (x := x2_124) (b := 1) (w := rv D a1) (rest := [(0, rv D a0)]) rfl (Nat.le_of_ble_eq_true rfl) [1, 0] rfl (by decide) rv_cat rfl (dl_at t_X28_isSame 62 rfl) ?_
      refine g_ls (ls2 := [(0, rv D a0), (1, rv D a1), (2, iv x2_124)]) [2, 1, 0] rfl ?_
      refine g_loop0F (fun (q : Int) => [(0, rv D a0), (1, rv D a1), (2, iv q)]) (fun (q : Int) => h) (fun (q : Int) => r32 q) x2_124 (r32_z r2_124) ?_ (fun _ => rfl)
      · rintro x2_125 r2_125
        try dsimp only
        unfold m_X28_isSame_l125
        refine g_iload_n (pc := 125) X (j := 2) (i := 2) (q := 2) (x := x2_125) rfl rfl (dl_at t_X28_isSame 63 rfl) ?_
        refine g_aload_n (pc := 126) X (j := 0) (i := 0) (q := 0) (x := a0) rfl rfl (dl_at t_X28_isSame 64 rfl) ?_
        refine r_geti (pc := 127) X fX28_16 hk q2558 (dl_at t_X28_isSame 65 rfl) fun g127 => ?_
        refine g_icmpgt (pc := 130) X r2_125 g127 (off := 37) (tgt := 167) rfl (dl_at t_X28_isSame 66 rfl) (fun _ => ?_) (fun _ => ?_)
        · refine g_iconst (pc := 167) X (n := 1) (dl_at t_X28_isSame 85 rfl) ?_
          exact g_at fun Q hQ => (g_zret (pc := 168) X (Or.inr rfl) rfl rfl (dl_at t_X28_isSame 86 rfl)) _ Q rfl hQ
        refine g_aload_n (pc := 133) X (j := 0) (i := 0) (q := 0) (x := a0) rfl rfl (dl_at t_X28_isSame 67 rfl) ?_
        refine g_iload_n (pc := 134) X (j := 2) (i := 2) (q := 2) (x := x2_125) rfl rfl (dl_at t_X28_isSame 68 rfl) ?_
        refine r_callRi (pc := 135) X (fun _ hv => s_X28_kind hk r2_125 hv) cw_code q2862 q396 (in_Vk X (As := [iv x2_125]) kX28 hk (Or.inl q2859) q2861 qs174 cw_code q2862 ⟨by decide, by decide⟩ rfl (dl_at t_X28_isSame 69 rfl)) (dl_at t_X28_isSame 69 rfl) (cat24 (st := []) (Nat.le_of_ble_eq_true rfl)) (Nat.le_of_ble_eq_true rfl) (Nat.le_of_ble_eq_true rfl) fun v135 g135 => ?_
        refine g_aload_n (pc := 138) X (j := 1) (i := 1) (q := 1) (x := a1) rfl rfl (dl_at t_X28_isSame 70 rfl) ?_
        refine g_iload_n (pc := 139) X (j := 2) (i := 2) (q := 2) (x := x2_125) rfl rfl (dl_at t_X28_isSame 71 rfl) ?_
        refine r_callRi (pc := 140) X (fun _ hv => s_X28_kind k5 r2_125 hv) cw_code q2862 q396 (in_Vk X (As := [iv x2_125]) kX28 k5 (Or.inl q2859) q2861 qs174 cw_code q2862 ⟨by decide, by decide⟩ rfl (dl_at t_X28_isSame 72 rfl)) (dl_at t_X28_isSame 72 rfl) (cat24 (st := [iv v135]) (Nat.le_of_ble_eq_true rfl)) (Nat.le_of_ble_eq_true rfl) (Nat.le_of_ble_eq_true rfl) fun v140 g140 => ?_
        refine g_icmpne (pc := 143) X g135 g140 (off := 16) (tgt := 159) rfl (dl_at t_X28_isSame 73 rfl) (fun _ => ?_) (fun _ => ?_)
        · refine g_iconst (pc := 159) X (n := 0) (dl_at t_X28_isSame 81 rfl) ?_
          exact g_at fun Q hQ => (g_zret (pc := 160) X (Or.inl rfl) rfl rfl (dl_at t_X28_isSame 82 rfl)) _ Q rfl hQ
        refine g_aload_n (pc := 146) X (j := 0) (i := 0) (q := 0) (x := a0) rfl rfl (dl_at t_X28_isSame 74 rfl) ?_
        refine g_iload_n (pc := 147) X (j := 2) (i := 2) (q := 2) (x := x2_125) rfl rfl (dl_at t_X28_isSame 75 rfl) ?_
        refine r_callRi (pc := 148) X (fun _ hv => s_X28_endAt hk r2_125 hv) cw_code q2866 q396 (in_Vk X (As := [iv x2_125]) kX28 hk (Or.inl q2863) q2865 qs175 cw_code q2866 ⟨by decide, by decide⟩ rfl (dl_at t_X28_isSame 76 rfl)) (dl_at t_X28_isSame 76 rfl) (cat24 (st := []) (Nat.le_of_ble_eq_true rfl)) (Nat.le_of_ble_eq_true rfl) (Nat.le_of_ble_eq_true rfl) fun v148 g148 => ?_
        refine g_aload_n (pc := 151) X (j := 1) (i := 1) (q := 1) (x := a1) rfl rfl (dl_at t_X28_isSame 77 rfl) ?_
        refine g_iload_n (pc := 152) X (j := 2) (i := 2) (q := 2) (x := x2_125) rfl rfl (dl_at t_X28_isSame 78 rfl) ?_
        refine r_callRi (pc := 153) X (fun _ hv => s_X28_endAt k5 r2_125 hv) cw_code q2866 q396 (in_Vk X (As := [iv x2_125]) kX28 k5 (Or.inl q2863) q2865 qs175 cw_code q2866 ⟨by decide, by decide⟩ rfl (dl_at t_X28_isSame 79 rfl)) (dl_at t_X28_isSame 79 rfl) (cat24 (st := [iv v148]) (Nat.le_of_ble_eq_true rfl)) (Nat.le_of_ble_eq_true rfl) (Nat.le_of_ble_eq_true rfl) fun v153 g153 => ?_
        refine g_icmpeq (pc := 156) X g148 g153 (off := 5) (tgt := 161) rfl (dl_at t_X28_isSame 80 rfl) (fun _ => ?_) (fun _ => ?_)
        · refine r_iincN (pc := 161) X (i := 2) (q := 2) (n := 1) (x := x2_125) (b := 1) (w := rv D a1) (rest := [(0, rv D a0)]) rfl r2_125 (r32_c rfl) (Nat.le_of_ble_eq_true rfl) [1, 0] rfl (by decide) rv_cat rfl (dl_at t_X28_isSame 83 rfl) fun x2_161 r2_161 => ?_
          refine g_goto (pc := 164) X (off := (-39)) (tgt := 125) rfl (dl_at t_X28_isSame 84 rfl) ?_
          refine g_ls (ls2 := [(0, rv D a0), (1, rv D a1), (2, iv x2_161)]) [2, 1, 0] rfl ?_
          exact g_at fun Q hQ => hQ r2_161
        refine g_iconst (pc := 159) X (n := 0) (dl_at t_X28_isSame 81 rfl) ?_
        exact g_at fun Q hQ => (g_zret (pc := 160) X (Or.inl rfl) rfl rfl (dl_at t_X28_isSame 82 rfl)) _ Q rfl hQ
  refine g_iconst (pc := 77) X (n := 0) (dl_at t_X28_isSame 35 rfl) ?_
  exact g_zret (pc := 78) X (Or.inl rfl) rfl rfl (dl_at t_X28_isSame 36 rfl)
def k_X17_find : List (Nat × Instr × Nat) := [(0, .aload_n 0, 1), (1, .getfield 15, 3), (4, .aload_n 1, 1), (5, .invokestatic 32, 3), (8, .iaload, 1), (9, .istore_n 2, 1), (10, .iload_n 2, 1), (11, .ifCond .lt 29, 3), (14, .aload_n 0, 1), (15, .getfield 18, 3), (18, .getfield 28, 3), (21, .iload_n 2, 1), (22, .aaload, 1), (23, .aload_n 1, 1), (24, .invokevirtual 48, 3), (27, .ifCond .ne 13, 3), (30, .aload_n 0, 1), (31, .getfield 9, 3), (34, .iload_n 2, 1), (35, .iaload, 1), (36, .istore_n 2, 1), (37, .goto (-27), 3), (40, .iload_n 2, 1), (41, .ifCond .ge 7, 3), (44, .aconst_null, 1), (45, .goto 12, 3), (48, .aload_n 0, 1), (49, .getfield 18, 3), (52, .getfield 28, 3), (55, .iload_n 2, 1), (56, .aaload, 1), (57, .areturn, 1)]
theorem t_X17_find : ∀ q ∈ k_X17_find, decode cX17_find q.1 = .ok q.2 := dl_all (by decide +kernel)
noncomputable def m_X17_find_l10 (a0 a1 x2_10 : Int) (h : Hp) : Option ((Int) ⊕ ((Int))) :=
  if x2_10 < 0 then (some (.inr x2_10))
  else (gd (h (h a0 0) (-2) = 224) (gd (h (h (h a0 0) 8) (-2) % 16 = 9 ∧ (0 : Int) ≤ x2_10 ∧ x2_10 < h (h (h a0 0) 8) (-1)) (gd (h (h (h (h a0 0) 8) x2_10) (-2) = 288) ((m_X28_isSame (h (h (h a0 0) 8) x2_10) a1 h).bind fun v24 =>
  if v24 ≠ 0 then (some (.inr x2_10))
  else (gd (h (h a0 1) (-2) % 16 = 1 ∧ (0 : Int) ≤ x2_10 ∧ x2_10 < h (h a0 1) (-1)) (lt_ (h (h a0 1) x2_10) fun x2_36 =>
  some (.inl x2_36)))))))
noncomputable def m_X17_find (a0 a1 : Int) (h : Hp) : Option (Int) :=
  (m_X17_slot a1 h).bind fun v5 =>
  gd (h (h a0 2) (-2) % 16 = 1 ∧ (0 : Int) ≤ v5 ∧ v5 < h (h a0 2) (-1)) (lt_ (h (h a0 2) v5) fun x2_9 =>
  (lp (fun (q : Int) => m_X17_find_l10 a0 a1 q h) x2_9).bind (fun (y40 : Int) => if 0 ≤ y40 then (gd (h (h a0 0) (-2) = 224) (gd (h (h (h a0 0) 8) (-2) % 16 = 9 ∧ (0 : Int) ≤ y40 ∧ y40 < h (h (h a0 0) 8) (-1)) (some (h (h (h a0 0) 8) y40))))
  else (some 0)))
theorem s_X17_find {l : Launch} [NoTr l] {D : SD} {a0 a1 : Int} {h : Hp} (hk : h a0 (-2) = 272) {r : Int} (hm : m_X17_find a0 a1 h = some r) : Sim l D yX17_find (Cond.code yX17_find cX17_find 3 (Option.some (Jvm.ClassFile.FieldType.object "ScholarsPress$Paragraph"))) 2 75 [rv D a0, rv D a1] h 5 ((0, r), h) := by
  refine Sim.of (fin := fun (v : Int) => ((0, v), h)) (lsE := [(0, rv D a0), (1, rv D a1)]) hm rfl cwS_code (la_r (la_r la_n)) (ll_r (ll_r ll_n)) ?_
  intro p e s m below meth c X hcw hmm hcc hnm hname
  unfold m_X17_find
  refine g_aload_n (pc := 0) X (j := 0) (i := 0) (q := 0) (x := a0) rfl rfl (dl_at t_X17_find 0 rfl) ?_
  refine r_getr (pc := 1) X fX17_2 hk q1477 (dl_at t_X17_find 1 rfl) ?_
  refine g_aload_n (pc := 4) X (j := 1) (i := 1) (q := 1) (x := a1) rfl rfl (dl_at t_X17_find 2 rfl) ?_
  refine r_callRi (pc := 5) X (fun _ hv => s_X17_slot hv) cw_code q2845 q371 (in_Sc X (As := [rv D a1]) (Or.inl q2843) q2844 q371 q2845 ⟨by decide, by decide⟩ rfl (dl_at t_X17_find 3 rfl)) (dl_at t_X17_find 3 rfl) (cat24 (st := [rv D (h a0 2)]) (Nat.le_of_ble_eq_true rfl)) (Nat.le_of_ble_eq_true rfl) (Nat.le_of_ble_eq_true rfl) fun v5 g5 => ?_
  refine g_gd fun k8 => ?_
  refine g_iald (pc := 8) X g5 k8 (dl_at t_X17_find 4 rfl) fun g8 => ?_
  refine g_lti g8 fun x2_9 r2_9 => ?_
  refine g_istore_nN (pc := 9) X (j := 2) (i := 2) (x := x2_9) (b := 1) (w := rv D a1) (rest := [(0, rv D a0)]) rfl (Nat.le_of_ble_eq_true rfl) [1, 0] rfl (by decide) rv_cat rfl (dl_at t_X17_find 5 rfl) ?_
  refine g_ls (ls2 := [(0, rv D a0), (1, rv D a1), (2, iv x2_9)]) [2, 1, 0] rfl ?_
  refine g_loop1 (fun (q : Int) => [(0, rv D a0), (1, rv D a1), (2, iv q)]) (fun (q : Int) => h) (fun (q : Int) => r32 q) 40 (fun (y40 : Int) => [(0, rv D a0), (2, iv y40)]) (fun (y40 : Int) => h) (fun (y40 : Int) => r32 y40) x2_9 r2_9 ?_ ?_
  · rintro x2_10 r2_10
    try dsimp only
    unfold m_X17_find_l10
    refine g_iload_n (pc := 10) X (j := 2) (i := 2) (q := 2) (x := x2_10) rfl rfl (dl_at t_X17_find 6 rfl) ?_
    refine g_iflt (pc := 11) X r2_10 (off := 29) (tgt := 40) rfl (dl_at t_X17_find 7 rfl) (fun _ => ?_) (fun _ => ?_)
    · refine g_ls (ls2 := [(0, rv D a0), (2, iv x2_10)]) [0, 2] rfl ?_
      exact g_at fun Q hQ => hQ r2_10
    refine g_aload_n (pc := 14) X (j := 0) (i := 0) (q := 0) (x := a0) rfl rfl (dl_at t_X17_find 8 rfl) ?_
    refine r_getr (pc := 15) X fX17_0 hk q1475 (dl_at t_X17_find 9 rfl) ?_
    refine g_gd fun k18 => ?_
    refine r_getrN (pc := 18) X fX14_8 k18 (nw_in q1253 rfl) (dl_at t_X17_find 10 rfl) ?_
    refine g_iload_n (pc := 21) X (j := 2) (i := 2) (q := 2) (x := x2_10) rfl rfl (dl_at t_X17_find 11 rfl) ?_
    refine g_gd fun k22 => ?_
    refine g_aald (pc := 22) X 9 (Nat.le_of_ble_eq_true rfl) (Nat.le_of_ble_eq_true rfl) r2_10 rfl k22 (dl_at t_X17_find 12 rfl) ?_
    refine g_aload_n (pc := 23) X (j := 1) (i := 1) (q := 1) (x := a1) rfl rfl (dl_at t_X17_find 13 rfl) ?_
    refine g_gd fun k24 => ?_
    refine r_callRz (pc := 24) X (fun _ hv => s_X28_isSame k24 hv) cw_code q2858 q396 (in_Vk X (As := [rv D a1]) kX28 k24 (Or.inr ⟨_, nw_in q2855 rfl⟩) q2857 qs173 cw_code q2858 ⟨by decide, by decide⟩ rfl (dl_at t_X17_find 14 rfl)) (dl_at t_X17_find 14 rfl) (cat24 (st := []) (Nat.le_of_ble_eq_true rfl)) (Nat.le_of_ble_eq_true rfl) (Nat.le_of_ble_eq_true rfl) fun v24 g24 => ?_
    refine g_ifne (pc := 27) X (r32_z g24) (off := 13) (tgt := 40) rfl (dl_at t_X17_find 15 rfl) (fun _ => ?_) (fun _ => ?_)
    · refine g_ls (ls2 := [(0, rv D a0), (2, iv x2_10)]) [0, 2] rfl ?_
      exact g_at fun Q hQ => hQ r2_10
    refine g_aload_n (pc := 30) X (j := 0) (i := 0) (q := 0) (x := a0) rfl rfl (dl_at t_X17_find 16 rfl) ?_
    refine r_getr (pc := 31) X fX17_1 hk q1476 (dl_at t_X17_find 17 rfl) ?_
    refine g_iload_n (pc := 34) X (j := 2) (i := 2) (q := 2) (x := x2_10) rfl rfl (dl_at t_X17_find 18 rfl) ?_
    refine g_gd fun k35 => ?_
    refine g_iald (pc := 35) X r2_10 k35 (dl_at t_X17_find 19 rfl) fun g35 => ?_
    refine g_lti g35 fun x2_36 r2_36 => ?_
    refine g_istore_nN (pc := 36) X (j := 2) (i := 2) (x := x2_36) (b := 1) (w := rv D a1) (rest := [(0, rv D a0)]) rfl (Nat.le_of_ble_eq_true rfl) [1, 0] rfl (by decide) rv_cat rfl (dl_at t_X17_find 20 rfl) ?_
    refine g_goto (pc := 37) X (off := (-27)) (tgt := 10) rfl (dl_at t_X17_find 21 rfl) ?_
    refine g_ls (ls2 := [(0, rv D a0), (1, rv D a1), (2, iv x2_36)]) [2, 1, 0] rfl ?_
    exact g_at fun Q hQ => hQ r2_36
  · rintro x2_40 r2_40
    try dsimp only [sE]
    refine g_iload_n (pc := 40) X (j := 2) (i := 2) (q := 1) (x := x2_40) rfl rfl (dl_at t_X17_find 22 rfl) ?_
    refine g_ifge (pc := 41) X r2_40 (off := 7) (tgt := 48) rfl (dl_at t_X17_find 23 rfl) (fun _ => ?_) (fun _ => ?_)
    · refine g_aload_n (pc := 48) X (j := 0) (i := 0) (q := 0) (x := a0) rfl rfl (dl_at t_X17_find 26 rfl) ?_
      refine r_getr (pc := 49) X fX17_0 hk q1475 (dl_at t_X17_find 27 rfl) ?_
      refine g_gd fun k52 => ?_
      refine r_getrN (pc := 52) X fX14_8 k52 (nw_in q1253 rfl) (dl_at t_X17_find 28 rfl) ?_
      refine g_iload_n (pc := 55) X (j := 2) (i := 2) (q := 1) (x := x2_40) rfl rfl (dl_at t_X17_find 29 rfl) ?_
      refine g_gd fun k56 => ?_
      refine g_aald (pc := 56) X 9 (Nat.le_of_ble_eq_true rfl) (Nat.le_of_ble_eq_true rfl) r2_40 rfl k56 (dl_at t_X17_find 30 rfl) ?_
      exact g_aret (pc := 57) X (Or.inl ⟨_, rfl⟩) rfl rfl (dl_at t_X17_find 31 rfl)
    refine g_null (pc := 44) X (dl_at t_X17_find 24 rfl) ?_
    refine g_goto (pc := 45) X (off := 12) (tgt := 57) rfl (dl_at t_X17_find 25 rfl) ?_
    exact g_aret (pc := 57) X (Or.inl ⟨_, rfl⟩) rfl rfl (dl_at t_X17_find 31 rfl)
def k_X28_between : List (Nat × Instr × Nat) := [(0, .aload_n 1, 1), (1, .aload_n 0, 1), (2, .getfield 35, 3), (5, .iload_n 3, 1), (6, .iadd, 1), (7, .iconst 1, 1), (8, .isub, 1), (9, .laload, 1), (10, .aload_n 1, 1), (11, .aload_n 0, 1), (12, .getfield 35, 3), (15, .iload_n 2, 1), (16, .iadd, 1), (17, .laload, 1), (18, .lsub, 1), (19, .lreturn, 1)]
theorem t_X28_between : ∀ q ∈ k_X28_between, decode cX28_between q.1 = .ok q.2 := dl_all (by decide +kernel)
noncomputable def m_X28_between (a0 a1 a2 a3 : Int) (h : Hp) : Option (Int) :=
  gd (h a1 (-2) % 16 = 4 ∧ (0 : Int) ≤ (w32 ((w32 ((h a0 15) + a3)) - 1)) ∧ (w32 ((w32 ((h a0 15) + a3)) - 1)) < h a1 (-1)) (gd (h a1 (-2) % 16 = 4 ∧ (0 : Int) ≤ (w32 ((h a0 15) + a2)) ∧ (w32 ((h a0 15) + a2)) < h a1 (-1)) (some (w64 ((h a1 (w32 ((w32 ((h a0 15) + a3)) - 1))) - (h a1 (w32 ((h a0 15) + a2)))))))
theorem s_X28_between {l : Launch} [NoTr l] {D : SD} {a0 a1 a2 a3 : Int} {h : Hp} (hk : h a0 (-2) = 288) (r2 : r32 a2) (r3 : r32 a3) {r : Int} (hm : m_X28_between a0 a1 a2 a3 h = some r) : Sim l D yX28_between (Cond.code yX28_between cX28_between 4 (Option.some Jvm.ClassFile.FieldType.long)) 0 0 [rv D a0, rv D a1, iv a2, iv a3] h 4 ((0, r), h) := by
  refine Sim.of (fin := fun (v : Int) => ((0, v), h)) (lsE := [(0, rv D a0), (1, rv D a1), (2, iv a2), (3, iv a3)]) hm rfl cwS_code (la_r (la_r (la_i (la_i la_n)))) (ll_r (ll_r (ll_i (ll_i ll_n)))) ?_
  intro p e s m below meth c X hcw hmm hcc hnm hname
  unfold m_X28_between
  refine g_aload_n (pc := 0) X (j := 1) (i := 1) (q := 1) (x := a1) rfl rfl (dl_at t_X28_between 0 rfl) ?_
  refine g_aload_n (pc := 1) X (j := 0) (i := 0) (q := 0) (x := a0) rfl rfl (dl_at t_X28_between 1 rfl) ?_
  refine r_geti (pc := 2) X fX28_15 hk q2557 (dl_at t_X28_between 2 rfl) fun g2 => ?_
  refine g_iload_n (pc := 5) X (j := 3) (i := 3) (q := 3) (x := a3) rfl rfl (dl_at t_X28_between 3 rfl) ?_
  refine g_iadd (pc := 6) X g2 r3 (dl_at t_X28_between 4 rfl) ?_
  refine g_iconst (pc := 7) X (n := 1) (dl_at t_X28_between 5 rfl) ?_
  refine g_isub (pc := 8) X (r32_w _) (r32_c rfl) (dl_at t_X28_between 6 rfl) ?_
  refine g_gd fun k9 => ?_
  refine g_lald (pc := 9) X (r32_w _) k9 (dl_at t_X28_between 7 rfl) fun g9 => ?_
  refine g_aload_n (pc := 10) X (j := 1) (i := 1) (q := 1) (x := a1) rfl rfl (dl_at t_X28_between 8 rfl) ?_
  refine g_aload_n (pc := 11) X (j := 0) (i := 0) (q := 0) (x := a0) rfl rfl (dl_at t_X28_between 9 rfl) ?_
  refine r_geti (pc := 12) X fX28_15 hk q2557 (dl_at t_X28_between 10 rfl) fun g12 => ?_
  refine g_iload_n (pc := 15) X (j := 2) (i := 2) (q := 2) (x := a2) rfl rfl (dl_at t_X28_between 11 rfl) ?_
  refine g_iadd (pc := 16) X g12 r2 (dl_at t_X28_between 12 rfl) ?_
  refine g_gd fun k17 => ?_
  refine g_lald (pc := 17) X (r32_w _) k17 (dl_at t_X28_between 13 rfl) fun g17 => ?_
  refine g_lsub (pc := 18) X g9 g17 (dl_at t_X28_between 14 rfl) ?_
  exact g_lret (pc := 19) X (r64_w _) rfl rfl (dl_at t_X28_between 15 rfl)
def k_X28_natural : List (Nat × Instr × Nat) := [(0, .aload_n 0, 1), (1, .iload_n 2, 1), (2, .invokevirtual 145, 3), (5, .aload_n 0, 1), (6, .iload_n 1, 1), (7, .invokevirtual 145, 3), (10, .lsub, 1), (11, .aload_n 0, 1), (12, .aload_n 0, 1), (13, .getfield 9, 3), (16, .getfield 48, 3), (19, .iload_n 1, 1), (20, .iload_n 2, 1), (21, .invokevirtual 148, 3), (24, .ladd, 1), (25, .aload_n 0, 1), (26, .getfield 9, 3), (29, .getfield 139, 3), (32, .aload_n 0, 1), (33, .getfield 35, 3), (36, .iload_n 2, 1), (37, .iadd, 1), (38, .iaload, 1), (39, .i2l, 1), (40, .ladd, 1), (41, .lreturn, 1)]
theorem t_X28_natural : ∀ q ∈ k_X28_natural, decode cX28_natural q.1 = .ok q.2 := dl_all (by decide +kernel)
noncomputable def m_X28_natural (a0 a1 a2 : Int) (h : Hp) : Option (Int) :=
  (m_X28_parts a0 a2 h).bind fun v2 =>
  (m_X28_parts a0 a1 h).bind fun v7 =>
  gd (h (h a0 0) (-2) = 240) ((m_X28_between a0 (h (h a0 0) 9) a1 a2 h).bind fun v21 =>
  gd (h (h (h a0 0) 7) (-2) % 16 = 1 ∧ (0 : Int) ≤ (w32 ((h a0 15) + a2)) ∧ (w32 ((h a0 15) + a2)) < h (h (h a0 0) 7) (-1)) (some (w64 ((w64 ((w64 (v2 - v7)) + v21)) + (h (h (h a0 0) 7) (w32 ((h a0 15) + a2)))))))
theorem s_X28_natural {l : Launch} [NoTr l] {D : SD} {a0 a1 a2 : Int} {h : Hp} (hk : h a0 (-2) = 288) (r1 : r32 a1) (r2 : r32 a2) {r : Int} (hm : m_X28_natural a0 a1 a2 h = some r) : Sim l D yX28_natural (Cond.code yX28_natural cX28_natural 3 (Option.some Jvm.ClassFile.FieldType.long)) 1 39 [rv D a0, iv a1, iv a2] h 4 ((0, r), h) := by
  refine Sim.of (fin := fun (v : Int) => ((0, v), h)) (lsE := [(0, rv D a0), (1, iv a1), (2, iv a2)]) hm rfl cwS_code (la_r (la_i (la_i la_n))) (ll_r (ll_i (ll_i ll_n))) ?_
  intro p e s m below meth c X hcw hmm hcc hnm hname
  unfold m_X28_natural
  refine g_aload_n (pc := 0) X (j := 0) (i := 0) (q := 0) (x := a0) rfl rfl (dl_at t_X28_natural 0 rfl) ?_
  refine g_iload_n (pc := 1) X (j := 2) (i := 2) (q := 2) (x := a2) rfl rfl (dl_at t_X28_natural 1 rfl) ?_
  refine r_callRl (pc := 2) X (fun _ hv => s_X28_parts hk r2 hv) cw_code q2795 q396 (in_Vk X (As := [iv a2]) kX28 hk (Or.inl q2792) q2794 qs160 cw_code q2795 ⟨by decide, by decide⟩ rfl (dl_at t_X28_natural 2 rfl)) (dl_at t_X28_natural 2 rfl) (cat24 (st := []) (Nat.le_of_ble_eq_true rfl)) (Nat.le_of_ble_eq_true rfl) (Nat.le_of_ble_eq_true rfl) fun v2 g2 => ?_
  refine g_aload_n (pc := 5) X (j := 0) (i := 0) (q := 0) (x := a0) rfl rfl (dl_at t_X28_natural 3 rfl) ?_
  refine g_iload_n (pc := 6) X (j := 1) (i := 1) (q := 1) (x := a1) rfl rfl (dl_at t_X28_natural 4 rfl) ?_
  refine r_callRl (pc := 7) X (fun _ hv => s_X28_parts hk r1 hv) cw_code q2795 q396 (in_Vk X (As := [iv a1]) kX28 hk (Or.inl q2792) q2794 qs160 cw_code q2795 ⟨by decide, by decide⟩ rfl (dl_at t_X28_natural 5 rfl)) (dl_at t_X28_natural 5 rfl) (cat24 (st := [jv v2]) (Nat.le_of_ble_eq_true rfl)) (Nat.le_of_ble_eq_true rfl) (Nat.le_of_ble_eq_true rfl) fun v7 g7 => ?_
  refine g_lsub (pc := 10) X g2 g7 (dl_at t_X28_natural 6 rfl) ?_
  refine g_aload_n (pc := 11) X (j := 0) (i := 0) (q := 0) (x := a0) rfl rfl (dl_at t_X28_natural 7 rfl) ?_
  refine g_aload_n (pc := 12) X (j := 0) (i := 0) (q := 0) (x := a0) rfl rfl (dl_at t_X28_natural 8 rfl) ?_
  refine r_getr (pc := 13) X fX28_0 hk q2528 (dl_at t_X28_natural 9 rfl) ?_
  refine g_gd fun k16 => ?_
  refine r_getrN (pc := 16) X fX15_9 k16 (nw_in q1149 rfl) (dl_at t_X28_natural 10 rfl) ?_
  refine g_iload_n (pc := 19) X (j := 1) (i := 1) (q := 1) (x := a1) rfl rfl (dl_at t_X28_natural 11 rfl) ?_
  refine g_iload_n (pc := 20) X (j := 2) (i := 2) (q := 2) (x := a2) rfl rfl (dl_at t_X28_natural 12 rfl) ?_
  refine r_callRl (pc := 21) X (fun _ hv => s_X28_between hk r1 r2 hv) cw_code q2886 q396 (in_Vk X (As := [rv D (h (h a0 0) 9), iv a1, iv a2]) kX28 hk (Or.inl q2883) q2885 qs180 cw_code q2886 ⟨by decide, by decide⟩ rfl (dl_at t_X28_natural 13 rfl)) (dl_at t_X28_natural 13 rfl) (cat24 (st := [jv (w64 (v2 - v7))]) (Nat.le_of_ble_eq_true rfl)) (Nat.le_of_ble_eq_true rfl) (Nat.le_of_ble_eq_true rfl) fun v21 g21 => ?_
  refine g_ladd (pc := 24) X (r64_w _) g21 (dl_at t_X28_natural 14 rfl) ?_
  refine g_aload_n (pc := 25) X (j := 0) (i := 0) (q := 0) (x := a0) rfl rfl (dl_at t_X28_natural 15 rfl) ?_
  refine r_getr (pc := 26) X fX28_0 hk q2528 (dl_at t_X28_natural 16 rfl) ?_
  refine r_getrN (pc := 29) X fX15_7 k16 (nw_in q1145 rfl) (dl_at t_X28_natural 17 rfl) ?_
  refine g_aload_n (pc := 32) X (j := 0) (i := 0) (q := 0) (x := a0) rfl rfl (dl_at t_X28_natural 18 rfl) ?_
  refine r_geti (pc := 33) X fX28_15 hk q2557 (dl_at t_X28_natural 19 rfl) fun g33 => ?_
  refine g_iload_n (pc := 36) X (j := 2) (i := 2) (q := 2) (x := a2) rfl rfl (dl_at t_X28_natural 20 rfl) ?_
  refine g_iadd (pc := 37) X g33 r2 (dl_at t_X28_natural 21 rfl) ?_
  refine g_gd fun k38 => ?_
  refine g_iald (pc := 38) X (r32_w _) k38 (dl_at t_X28_natural 22 rfl) fun g38 => ?_
  refine g_i2l (pc := 39) X g38 (dl_at t_X28_natural 23 rfl) ?_
  refine g_ladd (pc := 40) X (r64_w _) (r64_of g38) (dl_at t_X28_natural 24 rfl) ?_
  exact g_lret (pc := 41) X (r64_w _) rfl rfl (dl_at t_X28_natural 25 rfl)
def k_X28_widthOf : List (Nat × Instr × Nat) := [(0, .iload_n 1, 1), (1, .ifCond .ne 15, 3), (4, .aload_n 0, 1), (5, .getfield 60, 3), (8, .aload_n 0, 1), (9, .getfield 66, 3), (12, .isub, 1), (13, .goto 7, 3), (16, .aload_n 0, 1), (17, .getfield 60, 3), (20, .istore_n 2, 1), (21, .iload_n 2, 1), (22, .sipush 1000, 3), (25, .if_icmp .ge 9, 3), (28, .sipush 1000, 3), (31, .goto 4, 3), (34, .iload_n 2, 1), (35, .ireturn, 1)]
theorem t_X28_widthOf : ∀ q ∈ k_X28_widthOf, decode cX28_widthOf q.1 = .ok q.2 := dl_all (by decide +kernel)
noncomputable def m_X28_widthOf_j20 (s0_20 : Int) : Option (Int) :=
  if 1000 ≤ s0_20 then (some s0_20)
  else (some 1000)
noncomputable def m_X28_widthOf (a0 a1 : Int) (h : Hp) : Option (Int) :=
  if a1 ≠ 0 then (m_X28_widthOf_j20 (h a0 4))
  else (m_X28_widthOf_j20 (w32 ((h a0 4) - (h a0 6))))
theorem s_X28_widthOf {l : Launch} [NoTr l] {D : SD} {a0 a1 : Int} {h : Hp} (hk : h a0 (-2) = 288) (r1 : r32 a1) {r : Int} (hm : m_X28_widthOf a0 a1 h = some r) : Sim l D yX28_widthOf (Cond.code yX28_widthOf cX28_widthOf 3 (Option.some Jvm.ClassFile.FieldType.int)) 0 0 [rv D a0, iv a1] h 1 ((0, r), h) := by
  refine Sim.of (fin := fun (v : Int) => ((0, v), h)) (lsE := [(0, rv D a0), (1, iv a1)]) hm rfl cwS_code (la_r (la_i la_n)) (ll_r (ll_i ll_n)) ?_
  intro p e s m below meth c X hcw hmm hcc hnm hname
  unfold m_X28_widthOf
  refine g_iload_n (pc := 0) X (j := 1) (i := 1) (q := 1) (x := a1) rfl rfl (dl_at t_X28_widthOf 0 rfl) ?_
  refine g_join (γ := Int) (fun q => r32 q) 20 (fun q => []) (fun q => [iv q]) (fun q => h) (fun q => m_X28_widthOf_j20 q) ?_ ?_
  · rintro s0_20 rs0_20
    try dsimp only
    unfold m_X28_widthOf_j20
    refine g_istore_n (pc := 20) X (j := 2) (i := 2) (x := s0_20) (rest := []) rfl (Nat.le_of_ble_eq_true rfl) [] rfl rfl (dl_at t_X28_widthOf 10 rfl) ?_
    refine g_iload_n (pc := 21) X (j := 2) (i := 2) (q := 0) (x := s0_20) rfl rfl (dl_at t_X28_widthOf 11 rfl) ?_
    refine g_sipush (pc := 22) X (n := 1000) rfl (dl_at t_X28_widthOf 12 rfl) ?_
    refine g_icmpge (pc := 25) X rs0_20 (r32_c rfl) (off := 9) (tgt := 34) rfl (dl_at t_X28_widthOf 13 rfl) (fun _ => ?_) (fun _ => ?_)
    · refine g_iload_n (pc := 34) X (j := 2) (i := 2) (q := 0) (x := s0_20) rfl rfl (dl_at t_X28_widthOf 16 rfl) ?_
      exact g_iret (pc := 35) X rs0_20 rfl rfl (dl_at t_X28_widthOf 17 rfl)
    refine g_sipush (pc := 28) X (n := 1000) rfl (dl_at t_X28_widthOf 14 rfl) ?_
    refine g_goto (pc := 31) X (off := 4) (tgt := 35) rfl (dl_at t_X28_widthOf 15 rfl) ?_
    exact g_iret (pc := 35) X (r32_c rfl) rfl rfl (dl_at t_X28_widthOf 17 rfl)
  intro J20
  refine g_ifne (pc := 1) X r1 (off := 15) (tgt := 16) rfl (dl_at t_X28_widthOf 1 rfl) (fun _ => ?_) (fun _ => ?_)
  · refine g_aload_n (pc := 16) X (j := 0) (i := 0) (q := 0) (x := a0) rfl rfl (dl_at t_X28_widthOf 8 rfl) ?_
    refine r_geti (pc := 17) X fX28_4 hk q2538 (dl_at t_X28_widthOf 9 rfl) fun g17 => ?_
    refine g_ls (ls2 := []) [] rfl ?_
    exact J20 (h a0 4) g17
  refine g_aload_n (pc := 4) X (j := 0) (i := 0) (q := 0) (x := a0) rfl rfl (dl_at t_X28_widthOf 2 rfl) ?_
  refine r_geti (pc := 5) X fX28_4 hk q2538 (dl_at t_X28_widthOf 3 rfl) fun g5 => ?_
  refine g_aload_n (pc := 8) X (j := 0) (i := 0) (q := 0) (x := a0) rfl rfl (dl_at t_X28_widthOf 4 rfl) ?_
  refine r_geti (pc := 9) X fX28_6 hk q2543 (dl_at t_X28_widthOf 5 rfl) fun g9 => ?_
  refine g_isub (pc := 12) X g5 g9 (dl_at t_X28_widthOf 6 rfl) ?_
  refine g_goto (pc := 13) X (off := 7) (tgt := 20) rfl (dl_at t_X28_widthOf 7 rfl) ?_
  refine g_ls (ls2 := []) [] rfl ?_
  exact J20 (w32 ((h a0 4) - (h a0 6))) (r32_w _)
def k_X28_ratio : List (Nat × Instr × Nat) := [(0, .aload_n 0, 1), (1, .iload_n 1, 1), (2, .iload_n 2, 1), (3, .invokevirtual 154, 3), (6, .lstore_n 3, 1), (7, .aload_n 0, 1), (8, .iload_n 1, 1), (9, .invokevirtual 158, 3), (12, .i2l, 1), (13, .lstore 5, 2), (15, .lload_n 3, 1), (16, .lload 5, 2), (18, .lcmp, 1), (19, .ifCond .ne 5, 3), (22, .iconst 0, 1), (23, .ireturn, 1), (24, .lload_n 3, 1), (25, .lload 5, 2), (27, .lcmp, 1), (28, .ifCond .ge 81, 3), (31, .iload_n 2, 1), (32, .aload_n 0, 1), (33, .getfield 75, 3), (36, .if_icmp .ne 5, 3), (39, .iconst 0, 1), (40, .ireturn, 1), (41, .aload_n 0, 1), (42, .getfield 69, 3), (45, .ifCond .ne 19, 3), (48, .aload_n 0, 1), (49, .aload_n 0, 1), (50, .getfield 9, 3), (53, .getfield 128, 3), (56, .iload_n 1, 1), (57, .iload_n 2, 1), (58, .invokevirtual 148, 3), (61, .goto 5, 3), (64, .lload 5, 2), (66, .lstore 7, 2), (68, .lload 7, 2), (70, .lconst 0, 1), (71, .lcmp, 1), (72, .ifCond .ne 6, 3), (75, .ldc 161, 2), (77, .ireturn, 1), (78, .lload 5, 2), (80, .lload_n 3, 1), (81, .lsub, 1), (82, .ldc2_w 162, 3), (85, .lmul, 1), (86, .lload 7, 2), (88, .ldiv, 1), (89, .lstore 9, 2), (91, .lload 9, 2), (93, .ldc2_w 164, 3), (96, .lcmp, 1), (97, .ifCond .le 8, 3), (100, .ldc 161, 2), (102, .goto 6, 3), (105, .lload 9, 2), (107, .l2i, 1), (108, .ireturn, 1), (109, .aload_n 0, 1), (110, .getfield 69, 3), (113, .ifCond .ne 19, 3), (116, .aload_n 0, 1), (117, .aload_n 0, 1), (118, .getfield 9, 3), (121, .getfield 131, 3), (124, .iload_n 1, 1), (125, .iload_n 2, 1), (126, .invokevirtual 148, 3), (129, .goto 4, 3), (132, .lconst 0, 1), (133, .lstore 7, 2), (135, .lload_n 3, 1), (136, .lload 5, 2), (138, .lsub, 1), (139, .lload 7, 2), (141, .lcmp, 1), (142, .ifCond .le 6, 3), (145, .ldc 166, 2), (147, .ireturn, 1), (148, .lload_n 3, 1), (149, .lload 5, 2), (151, .lsub, 1), (152, .ldc2_w 162, 3), (155, .lmul, 1), (156, .lload 7, 2), (158, .ladd, 1), (159, .lconst 1, 1), (160, .lsub, 1), (161, .lload 7, 2), (163, .ldiv, 1), (164, .l2i, 1), (165, .ineg, 1), (166, .ireturn, 1)]
theorem t_X28_ratio : ∀ q ∈ k_X28_ratio, decode cX28_ratio q.1 = .ok q.2 := dl_all (by decide +kernel)
noncomputable def m_X28_ratio_j133 (v9 v3 s0_133 : Int) : Option (Int) :=
  if (lcmp_ (w64 (v3 - v9)) s0_133) ≤ 0 then (gd (s0_133 ≠ 0) (some (w32 (-(w32 (w64 (Int.tdiv (w64 ((w64 ((w64 ((w64 (v3 - v9)) * 1000)) + s0_133)) - 1)) s0_133)))))))
  else (some (-1000000))
noncomputable def m_X28_ratio_j66 (v9 v3 s0_66 : Int) : Option (Int) :=
  if (lcmp_ s0_66 0) ≠ 0 then (gd (s0_66 ≠ 0) (lt_ (w64 (Int.tdiv (w64 ((w64 (v9 - v3)) * 1000)) s0_66)) fun x9_89 =>
  if (lcmp_ x9_89 100000) ≤ 0 then (some (w32 x9_89))
  else (some 100000)))
  else (some 100000)
noncomputable def m_X28_ratio (a0 a1 a2 : Int) (h : Hp) : Option (Int) :=
  (m_X28_natural a0 a1 a2 h).bind fun v3 =>
  (m_X28_widthOf a0 a1 h).bind fun v9 =>
  if (lcmp_ v3 v9) ≠ 0 then (if 0 ≤ (lcmp_ v3 v9) then (if (h a0 8) ≠ 0 then (m_X28_ratio_j133 v9 v3 0)
  else (gd (h (h a0 0) (-2) = 240) ((m_X28_between a0 (h (h a0 0) 11) a1 a2 h).bind fun v126 =>
  m_X28_ratio_j133 v9 v3 v126)))
  else (if a2 ≠ (h a0 16) then (if (h a0 8) ≠ 0 then (m_X28_ratio_j66 v9 v3 v9)
  else (gd (h (h a0 0) (-2) = 240) ((m_X28_between a0 (h (h a0 0) 10) a1 a2 h).bind fun v58 =>
  m_X28_ratio_j66 v9 v3 v58)))
  else (some 0)))
  else (some 0)
theorem s_X28_ratio {l : Launch} [NoTr l] {D : SD} {a0 a1 a2 : Int} {h : Hp} (hk : h a0 (-2) = 288) (r1 : r32 a1) (r2 : r32 a2) {r : Int} (hm : m_X28_ratio a0 a1 a2 h = some r) : Sim l D yX28_ratio (Cond.code yX28_ratio cX28_ratio 11 (Option.some Jvm.ClassFile.FieldType.int)) 2 77 [rv D a0, iv a1, iv a2] h 1 ((0, r), h) := by
  refine Sim.of (fin := fun (v : Int) => ((0, v), h)) (lsE := [(0, rv D a0), (1, iv a1), (2, iv a2)]) hm rfl cwS_code (la_r (la_i (la_i la_n))) (ll_r (ll_i (ll_i ll_n))) ?_
  intro p e s m below meth c X hcw hmm hcc hnm hname
  unfold m_X28_ratio
  refine g_aload_n (pc := 0) X (j := 0) (i := 0) (q := 0) (x := a0) rfl rfl (dl_at t_X28_ratio 0 rfl) ?_
  refine g_iload_n (pc := 1) X (j := 1) (i := 1) (q := 1) (x := a1) rfl rfl (dl_at t_X28_ratio 1 rfl) ?_
  refine g_iload_n (pc := 2) X (j := 2) (i := 2) (q := 2) (x := a2) rfl rfl (dl_at t_X28_ratio 2 rfl) ?_
  refine r_callRl (pc := 3) X (fun _ hv => s_X28_natural hk r1 r2 hv) cw_code q2882 q396 (in_Vk X (As := [iv a1, iv a2]) kX28 hk (Or.inl q2879) q2881 qs179 cw_code q2882 ⟨by decide, by decide⟩ rfl (dl_at t_X28_ratio 3 rfl)) (dl_at t_X28_ratio 3 rfl) (cat24 (st := []) (Nat.le_of_ble_eq_true rfl)) (Nat.le_of_ble_eq_true rfl) (Nat.le_of_ble_eq_true rfl) fun v3 g3 => ?_
  refine g_lstore_nN (pc := 6) X (j := 3) (i := 3) (x := v3) (b := 2) (w := iv a2) (rest := [(0, rv D a0), (1, iv a1)]) rfl (Nat.le_of_ble_eq_true rfl) [2, 0, 1] rfl (by decide) (by decide) rfl rfl (dl_at t_X28_ratio 4 rfl) ?_
  refine g_aload_n (pc := 7) X (j := 0) (i := 0) (q := 2) (x := a0) rfl rfl (dl_at t_X28_ratio 5 rfl) ?_
  refine g_iload_n (pc := 8) X (j := 1) (i := 1) (q := 3) (x := a1) rfl rfl (dl_at t_X28_ratio 6 rfl) ?_
  refine r_callRi (pc := 9) X (fun _ hv => s_X28_widthOf hk r1 hv) cw_code q2890 q396 (in_Vk X (As := [iv a1]) kX28 hk (Or.inl q2887) q2889 qs181 cw_code q2890 ⟨by decide, by decide⟩ rfl (dl_at t_X28_ratio 7 rfl)) (dl_at t_X28_ratio 7 rfl) (cat24 (st := []) (Nat.le_of_ble_eq_true rfl)) (Nat.le_of_ble_eq_true rfl) (Nat.le_of_ble_eq_true rfl) fun v9 g9 => ?_
  refine g_i2l (pc := 12) X g9 (dl_at t_X28_ratio 8 rfl) ?_
  refine g_lstore (pc := 13) X (i := 5) (x := v9) (rest := [(3, jv v3), (2, iv a2), (0, rv D a0), (1, iv a1)]) (Nat.le_of_ble_eq_true rfl) [0, 1, 2, 3] rfl rfl (dl_at t_X28_ratio 9 rfl) ?_
  refine g_lload_n (pc := 15) X (j := 3) (i := 3) (q := 1) (x := v3) rfl rfl (dl_at t_X28_ratio 10 rfl) ?_
  refine g_lload (pc := 16) X (i := 5) (q := 0) (x := v9) rfl (dl_at t_X28_ratio 11 rfl) ?_
  refine g_lcmp (pc := 18) X g3 (r64_of g9) (dl_at t_X28_ratio 12 rfl) ?_
  refine g_ifne (pc := 19) X (r32_lcmp _ _) (off := 5) (tgt := 24) rfl (dl_at t_X28_ratio 13 rfl) (fun _ => ?_) (fun _ => ?_)
  · refine g_lload_n (pc := 24) X (j := 3) (i := 3) (q := 1) (x := v3) rfl rfl (dl_at t_X28_ratio 16 rfl) ?_
    refine g_lload (pc := 25) X (i := 5) (q := 0) (x := v9) rfl (dl_at t_X28_ratio 17 rfl) ?_
    refine g_lcmp (pc := 27) X g3 (r64_of g9) (dl_at t_X28_ratio 18 rfl) ?_
    refine g_ifge (pc := 28) X (r32_lcmp _ _) (off := 81) (tgt := 109) rfl (dl_at t_X28_ratio 19 rfl) (fun _ => ?_) (fun _ => ?_)
    · refine g_aload_n (pc := 109) X (j := 0) (i := 0) (q := 3) (x := a0) rfl rfl (dl_at t_X28_ratio 62 rfl) ?_
      refine r_geti (pc := 110) X fX28_8 hk q2547 (dl_at t_X28_ratio 63 rfl) fun g110 => ?_
      refine g_join (γ := Int) (fun q => r64 q) 133 (fun q => [(3, jv v3), (5, jv v9)]) (fun q => [jv q]) (fun q => h) (fun q => m_X28_ratio_j133 v9 v3 q) ?_ ?_
      · rintro s0_133 rs0_133
        try dsimp only
        unfold m_X28_ratio_j133
        refine g_lstore (pc := 133) X (i := 7) (x := s0_133) (rest := [(3, jv v3), (5, jv v9)]) (Nat.le_of_ble_eq_true rfl) [0, 1] rfl rfl (dl_at t_X28_ratio 74 rfl) ?_
        refine g_lload_n (pc := 135) X (j := 3) (i := 3) (q := 1) (x := v3) rfl rfl (dl_at t_X28_ratio 75 rfl) ?_
        refine g_lload (pc := 136) X (i := 5) (q := 2) (x := v9) rfl (dl_at t_X28_ratio 76 rfl) ?_
        refine g_lsub (pc := 138) X g3 (r64_of g9) (dl_at t_X28_ratio 77 rfl) ?_
        refine g_lload (pc := 139) X (i := 7) (q := 0) (x := s0_133) rfl (dl_at t_X28_ratio 78 rfl) ?_
        refine g_lcmp (pc := 141) X (r64_w _) rs0_133 (dl_at t_X28_ratio 79 rfl) ?_
        refine g_ifle (pc := 142) X (r32_lcmp _ _) (off := 6) (tgt := 148) rfl (dl_at t_X28_ratio 80 rfl) (fun _ => ?_) (fun _ => ?_)
        · refine g_lload_n (pc := 148) X (j := 3) (i := 3) (q := 1) (x := v3) rfl rfl (dl_at t_X28_ratio 83 rfl) ?_
          refine g_lload (pc := 149) X (i := 5) (q := 2) (x := v9) rfl (dl_at t_X28_ratio 84 rfl) ?_
          refine g_lsub (pc := 151) X g3 (r64_of g9) (dl_at t_X28_ratio 85 rfl) ?_
          refine g_ldc2 (pc := 152) X (index := 162) (n := 1000) q2892 (dl_at t_X28_ratio 86 rfl) ?_
          refine g_lmul (pc := 155) X (r64_w _) (r64_c rfl) (dl_at t_X28_ratio 87 rfl) ?_
          refine g_lload (pc := 156) X (i := 7) (q := 0) (x := s0_133) rfl (dl_at t_X28_ratio 88 rfl) ?_
          refine g_ladd (pc := 158) X (r64_w _) rs0_133 (dl_at t_X28_ratio 89 rfl) ?_
          refine g_lconst1 (pc := 159) X (dl_at t_X28_ratio 90 rfl) ?_
          refine g_lsub (pc := 160) X (r64_w _) (r64_c rfl) (dl_at t_X28_ratio 91 rfl) ?_
          refine g_lload (pc := 161) X (i := 7) (q := 0) (x := s0_133) rfl (dl_at t_X28_ratio 92 rfl) ?_
          refine g_gd fun z163 => ?_
          refine g_ldiv (pc := 163) X (r64_w _) rs0_133 z163 (dl_at t_X28_ratio 93 rfl) ?_
          refine g_l2i (pc := 164) X (r64_w _) (dl_at t_X28_ratio 94 rfl) ?_
          refine g_ineg (pc := 165) X (r32_w _) (dl_at t_X28_ratio 95 rfl) ?_
          exact g_iret (pc := 166) X (r32_w _) rfl rfl (dl_at t_X28_ratio 96 rfl)
        refine g_ldc (pc := 145) X (index := 166) (n := (-1000000)) (cneg (by decide) q2894) (dl_at t_X28_ratio 81 rfl) ?_
        exact g_iret (pc := 147) X (r32_c rfl) rfl rfl (dl_at t_X28_ratio 82 rfl)
      intro J133
      refine g_ifne (pc := 113) X g110 (off := 19) (tgt := 132) rfl (dl_at t_X28_ratio 64 rfl) (fun _ => ?_) (fun _ => ?_)
      · refine g_lconst0 (pc := 132) X (dl_at t_X28_ratio 73 rfl) ?_
        refine g_ls (ls2 := [(3, jv v3), (5, jv v9)]) [1, 0] rfl ?_
        exact J133 0 (r64_c rfl)
      refine g_aload_n (pc := 116) X (j := 0) (i := 0) (q := 3) (x := a0) rfl rfl (dl_at t_X28_ratio 65 rfl) ?_
      refine g_aload_n (pc := 117) X (j := 0) (i := 0) (q := 3) (x := a0) rfl rfl (dl_at t_X28_ratio 66 rfl) ?_
      refine r_getr (pc := 118) X fX28_0 hk q2528 (dl_at t_X28_ratio 67 rfl) ?_
      refine g_gd fun k121 => ?_
      refine r_getrN (pc := 121) X fX15_11 k121 (nw_in q1153 rfl) (dl_at t_X28_ratio 68 rfl) ?_
      refine g_iload_n (pc := 124) X (j := 1) (i := 1) (q := 4) (x := a1) rfl rfl (dl_at t_X28_ratio 69 rfl) ?_
      refine g_iload_n (pc := 125) X (j := 2) (i := 2) (q := 2) (x := a2) rfl rfl (dl_at t_X28_ratio 70 rfl) ?_
      refine r_callRl (pc := 126) X (fun _ hv => s_X28_between hk r1 r2 hv) cw_code q2886 q396 (in_Vk X (As := [rv D (h (h a0 0) 11), iv a1, iv a2]) kX28 hk (Or.inl q2883) q2885 qs180 cw_code q2886 ⟨by decide, by decide⟩ rfl (dl_at t_X28_ratio 71 rfl)) (dl_at t_X28_ratio 71 rfl) (cat24 (st := []) (Nat.le_of_ble_eq_true rfl)) (Nat.le_of_ble_eq_true rfl) (Nat.le_of_ble_eq_true rfl) fun v126 g126 => ?_
      refine g_goto (pc := 129) X (off := 4) (tgt := 133) rfl (dl_at t_X28_ratio 72 rfl) ?_
      refine g_ls (ls2 := [(3, jv v3), (5, jv v9)]) [1, 0] rfl ?_
      exact J133 v126 g126
    refine g_iload_n (pc := 31) X (j := 2) (i := 2) (q := 2) (x := a2) rfl rfl (dl_at t_X28_ratio 20 rfl) ?_
    refine g_aload_n (pc := 32) X (j := 0) (i := 0) (q := 3) (x := a0) rfl rfl (dl_at t_X28_ratio 21 rfl) ?_
    refine r_geti (pc := 33) X fX28_16 hk q2558 (dl_at t_X28_ratio 22 rfl) fun g33 => ?_
    refine g_icmpne (pc := 36) X r2 g33 (off := 5) (tgt := 41) rfl (dl_at t_X28_ratio 23 rfl) (fun _ => ?_) (fun _ => ?_)
    · refine g_aload_n (pc := 41) X (j := 0) (i := 0) (q := 3) (x := a0) rfl rfl (dl_at t_X28_ratio 26 rfl) ?_
      refine r_geti (pc := 42) X fX28_8 hk q2547 (dl_at t_X28_ratio 27 rfl) fun g42 => ?_
      refine g_join (γ := Int) (fun q => r64 q) 66 (fun q => [(3, jv v3), (5, jv v9)]) (fun q => [jv q]) (fun q => h) (fun q => m_X28_ratio_j66 v9 v3 q) ?_ ?_
      · rintro s0_66 rs0_66
        try dsimp only
        unfold m_X28_ratio_j66
        refine g_lstore (pc := 66) X (i := 7) (x := s0_66) (rest := [(3, jv v3), (5, jv v9)]) (Nat.le_of_ble_eq_true rfl) [0, 1] rfl rfl (dl_at t_X28_ratio 38 rfl) ?_
        refine g_lload (pc := 68) X (i := 7) (q := 0) (x := s0_66) rfl (dl_at t_X28_ratio 39 rfl) ?_
        refine g_lconst0 (pc := 70) X (dl_at t_X28_ratio 40 rfl) ?_
        refine g_lcmp (pc := 71) X rs0_66 (r64_c rfl) (dl_at t_X28_ratio 41 rfl) ?_
        refine g_ifne (pc := 72) X (r32_lcmp _ _) (off := 6) (tgt := 78) rfl (dl_at t_X28_ratio 42 rfl) (fun _ => ?_) (fun _ => ?_)
        · refine g_lload (pc := 78) X (i := 5) (q := 2) (x := v9) rfl (dl_at t_X28_ratio 45 rfl) ?_
          refine g_lload_n (pc := 80) X (j := 3) (i := 3) (q := 1) (x := v3) rfl rfl (dl_at t_X28_ratio 46 rfl) ?_
          refine g_lsub (pc := 81) X (r64_of g9) g3 (dl_at t_X28_ratio 47 rfl) ?_
          refine g_ldc2 (pc := 82) X (index := 162) (n := 1000) q2892 (dl_at t_X28_ratio 48 rfl) ?_
          refine g_lmul (pc := 85) X (r64_w _) (r64_c rfl) (dl_at t_X28_ratio 49 rfl) ?_
          refine g_lload (pc := 86) X (i := 7) (q := 0) (x := s0_66) rfl (dl_at t_X28_ratio 50 rfl) ?_
          refine g_gd fun z88 => ?_
          refine g_ldiv (pc := 88) X (r64_w _) rs0_66 z88 (dl_at t_X28_ratio 51 rfl) ?_
          refine g_ltl (r64_w _) fun x9_89 r9_89 => ?_
          refine g_lstore (pc := 89) X (i := 9) (x := x9_89) (rest := []) (Nat.le_of_ble_eq_true rfl) [] rfl rfl (dl_at t_X28_ratio 52 rfl) ?_
          refine g_lload (pc := 91) X (i := 9) (q := 0) (x := x9_89) rfl (dl_at t_X28_ratio 53 rfl) ?_
          refine g_ldc2 (pc := 93) X (index := 164) (n := 100000) q2893 (dl_at t_X28_ratio 54 rfl) ?_
          refine g_lcmp (pc := 96) X r9_89 (r64_c rfl) (dl_at t_X28_ratio 55 rfl) ?_
          refine g_ifle (pc := 97) X (r32_lcmp _ _) (off := 8) (tgt := 105) rfl (dl_at t_X28_ratio 56 rfl) (fun _ => ?_) (fun _ => ?_)
          · refine g_lload (pc := 105) X (i := 9) (q := 0) (x := x9_89) rfl (dl_at t_X28_ratio 59 rfl) ?_
            refine g_l2i (pc := 107) X r9_89 (dl_at t_X28_ratio 60 rfl) ?_
            exact g_iret (pc := 108) X (r32_w _) rfl rfl (dl_at t_X28_ratio 61 rfl)
          refine g_ldc (pc := 100) X (index := 161) (n := 100000) q2891 (dl_at t_X28_ratio 57 rfl) ?_
          refine g_goto (pc := 102) X (off := 6) (tgt := 108) rfl (dl_at t_X28_ratio 58 rfl) ?_
          exact g_iret (pc := 108) X (r32_c rfl) rfl rfl (dl_at t_X28_ratio 61 rfl)
        refine g_ldc (pc := 75) X (index := 161) (n := 100000) q2891 (dl_at t_X28_ratio 43 rfl) ?_
        exact g_iret (pc := 77) X (r32_c rfl) rfl rfl (dl_at t_X28_ratio 44 rfl)
      intro J66
      refine g_ifne (pc := 45) X g42 (off := 19) (tgt := 64) rfl (dl_at t_X28_ratio 28 rfl) (fun _ => ?_) (fun _ => ?_)
      · refine g_lload (pc := 64) X (i := 5) (q := 0) (x := v9) rfl (dl_at t_X28_ratio 37 rfl) ?_
        refine g_ls (ls2 := [(3, jv v3), (5, jv v9)]) [1, 0] rfl ?_
        exact J66 v9 (r64_of g9)
      refine g_aload_n (pc := 48) X (j := 0) (i := 0) (q := 3) (x := a0) rfl rfl (dl_at t_X28_ratio 29 rfl) ?_
      refine g_aload_n (pc := 49) X (j := 0) (i := 0) (q := 3) (x := a0) rfl rfl (dl_at t_X28_ratio 30 rfl) ?_
      refine r_getr (pc := 50) X fX28_0 hk q2528 (dl_at t_X28_ratio 31 rfl) ?_
      refine g_gd fun k53 => ?_
      refine r_getrN (pc := 53) X fX15_10 k53 (nw_in q1151 rfl) (dl_at t_X28_ratio 32 rfl) ?_
      refine g_iload_n (pc := 56) X (j := 1) (i := 1) (q := 4) (x := a1) rfl rfl (dl_at t_X28_ratio 33 rfl) ?_
      refine g_iload_n (pc := 57) X (j := 2) (i := 2) (q := 2) (x := a2) rfl rfl (dl_at t_X28_ratio 34 rfl) ?_
      refine r_callRl (pc := 58) X (fun _ hv => s_X28_between hk r1 r2 hv) cw_code q2886 q396 (in_Vk X (As := [rv D (h (h a0 0) 10), iv a1, iv a2]) kX28 hk (Or.inl q2883) q2885 qs180 cw_code q2886 ⟨by decide, by decide⟩ rfl (dl_at t_X28_ratio 35 rfl)) (dl_at t_X28_ratio 35 rfl) (cat24 (st := []) (Nat.le_of_ble_eq_true rfl)) (Nat.le_of_ble_eq_true rfl) (Nat.le_of_ble_eq_true rfl) fun v58 g58 => ?_
      refine g_goto (pc := 61) X (off := 5) (tgt := 66) rfl (dl_at t_X28_ratio 36 rfl) ?_
      refine g_ls (ls2 := [(3, jv v3), (5, jv v9)]) [1, 0] rfl ?_
      exact J66 v58 g58
    refine g_iconst (pc := 39) X (n := 0) (dl_at t_X28_ratio 24 rfl) ?_
    exact g_iret (pc := 40) X (r32_c rfl) rfl rfl (dl_at t_X28_ratio 25 rfl)
  refine g_iconst (pc := 22) X (n := 0) (dl_at t_X28_ratio 14 rfl) ?_
  exact g_iret (pc := 23) X (r32_c rfl) rfl rfl (dl_at t_X28_ratio 15 rfl)
def k_X28_badness : List (Nat × Instr × Nat) := [(0, .iload_n 0, 1), (1, .ldc 166, 2), (3, .if_icmp .ne 7, 3), (6, .sipush 10000, 3), (9, .ireturn, 1), (10, .iload_n 0, 1), (11, .ifCond .ge 9, 3), (14, .iload_n 0, 1), (15, .ineg, 1), (16, .i2l, 1), (17, .goto 5, 3), (20, .iload_n 0, 1), (21, .i2l, 1), (22, .lstore_n 1, 1), (23, .ldc2_w 167, 3), (26, .lload_n 1, 1), (27, .lmul, 1), (28, .lload_n 1, 1), (29, .lmul, 1), (30, .lload_n 1, 1), (31, .lmul, 1), (32, .ldc2_w 169, 3), (35, .ldiv, 1), (36, .lstore_n 3, 1), (37, .lload_n 3, 1), (38, .ldc2_w 171, 3), (41, .lcmp, 1), (42, .ifCond .le 9, 3), (45, .sipush 10000, 3), (48, .goto 5, 3), (51, .lload_n 3, 1), (52, .l2i, 1), (53, .ireturn, 1)]
theorem t_X28_badness : ∀ q ∈ k_X28_badness, decode cX28_badness q.1 = .ok q.2 := dl_all (by decide +kernel)
noncomputable def m_X28_badness_j22 (s0_22 : Int) : Option (Int) :=
  lt_ (w64 (Int.tdiv (w64 ((w64 ((w64 (100 * s0_22)) * s0_22)) * s0_22)) 1000000000)) fun x3_36 =>
  if (lcmp_ x3_36 10000) ≤ 0 then (some (w32 x3_36))
  else (some 10000)
noncomputable def m_X28_badness (a0 : Int) : Option (Int) :=
  if a0 ≠ (-1000000) then (if 0 ≤ a0 then (m_X28_badness_j22 a0)
  else (m_X28_badness_j22 (w32 (-a0))))
  else (some 10000)
theorem s_X28_badness {l : Launch} [NoTr l] {D : SD} {a0 : Int} {h : Hp} (r0 : r32 a0) {r : Int} (hm : m_X28_badness a0 = some r) : Sim l D yX28_badness (Cond.code yX28_badness cX28_badness 5 (Option.some Jvm.ClassFile.FieldType.int)) 0 0 [iv a0] h 1 ((0, r), h) := by
  refine Sim.of (fin := fun (v : Int) => ((0, v), h)) (lsE := [(0, iv a0)]) hm rfl cwS_code (la_i la_n) (ll_i ll_n) ?_
  intro p e s m below meth c X hcw hmm hcc hnm hname
  unfold m_X28_badness
  refine g_iload_n (pc := 0) X (j := 0) (i := 0) (q := 0) (x := a0) rfl rfl (dl_at t_X28_badness 0 rfl) ?_
  refine g_ldc (pc := 1) X (index := 166) (n := (-1000000)) (cneg (by decide) q2894) (dl_at t_X28_badness 1 rfl) ?_
  refine g_icmpne (pc := 3) X r0 (r32_c rfl) (off := 7) (tgt := 10) rfl (dl_at t_X28_badness 2 rfl) (fun _ => ?_) (fun _ => ?_)
  · refine g_iload_n (pc := 10) X (j := 0) (i := 0) (q := 0) (x := a0) rfl rfl (dl_at t_X28_badness 5 rfl) ?_
    refine g_join (γ := Int) (fun q => r64 q) 22 (fun q => []) (fun q => [jv q]) (fun q => h) (fun q => m_X28_badness_j22 q) ?_ ?_
    · rintro s0_22 rs0_22
      try dsimp only
      unfold m_X28_badness_j22
      refine g_lstore_n (pc := 22) X (j := 1) (i := 1) (x := s0_22) (rest := []) rfl (Nat.le_of_ble_eq_true rfl) [] rfl rfl (dl_at t_X28_badness 13 rfl) ?_
      refine g_ldc2 (pc := 23) X (index := 167) (n := 100) q2898 (dl_at t_X28_badness 14 rfl) ?_
      refine g_lload_n (pc := 26) X (j := 1) (i := 1) (q := 0) (x := s0_22) rfl rfl (dl_at t_X28_badness 15 rfl) ?_
      refine g_lmul (pc := 27) X (r64_c rfl) rs0_22 (dl_at t_X28_badness 16 rfl) ?_
      refine g_lload_n (pc := 28) X (j := 1) (i := 1) (q := 0) (x := s0_22) rfl rfl (dl_at t_X28_badness 17 rfl) ?_
      refine g_lmul (pc := 29) X (r64_w _) rs0_22 (dl_at t_X28_badness 18 rfl) ?_
      refine g_lload_n (pc := 30) X (j := 1) (i := 1) (q := 0) (x := s0_22) rfl rfl (dl_at t_X28_badness 19 rfl) ?_
      refine g_lmul (pc := 31) X (r64_w _) rs0_22 (dl_at t_X28_badness 20 rfl) ?_
      refine g_ldc2 (pc := 32) X (index := 169) (n := 1000000000) q2899 (dl_at t_X28_badness 21 rfl) ?_
      refine g_ldiv (pc := 35) X (r64_w _) (r64_c rfl) (by decide) (dl_at t_X28_badness 22 rfl) ?_
      refine g_ltl (r64_w _) fun x3_36 r3_36 => ?_
      refine g_lstore_n (pc := 36) X (j := 3) (i := 3) (x := x3_36) (rest := []) rfl (Nat.le_of_ble_eq_true rfl) [] rfl rfl (dl_at t_X28_badness 23 rfl) ?_
      refine g_lload_n (pc := 37) X (j := 3) (i := 3) (q := 0) (x := x3_36) rfl rfl (dl_at t_X28_badness 24 rfl) ?_
      refine g_ldc2 (pc := 38) X (index := 171) (n := 10000) q2900 (dl_at t_X28_badness 25 rfl) ?_
      refine g_lcmp (pc := 41) X r3_36 (r64_c rfl) (dl_at t_X28_badness 26 rfl) ?_
      refine g_ifle (pc := 42) X (r32_lcmp _ _) (off := 9) (tgt := 51) rfl (dl_at t_X28_badness 27 rfl) (fun _ => ?_) (fun _ => ?_)
      · refine g_lload_n (pc := 51) X (j := 3) (i := 3) (q := 0) (x := x3_36) rfl rfl (dl_at t_X28_badness 30 rfl) ?_
        refine g_l2i (pc := 52) X r3_36 (dl_at t_X28_badness 31 rfl) ?_
        exact g_iret (pc := 53) X (r32_w _) rfl rfl (dl_at t_X28_badness 32 rfl)
      refine g_sipush (pc := 45) X (n := 10000) rfl (dl_at t_X28_badness 28 rfl) ?_
      refine g_goto (pc := 48) X (off := 5) (tgt := 53) rfl (dl_at t_X28_badness 29 rfl) ?_
      exact g_iret (pc := 53) X (r32_c rfl) rfl rfl (dl_at t_X28_badness 32 rfl)
    intro J22
    refine g_ifge (pc := 11) X r0 (off := 9) (tgt := 20) rfl (dl_at t_X28_badness 6 rfl) (fun _ => ?_) (fun _ => ?_)
    · refine g_iload_n (pc := 20) X (j := 0) (i := 0) (q := 0) (x := a0) rfl rfl (dl_at t_X28_badness 11 rfl) ?_
      refine g_i2l (pc := 21) X r0 (dl_at t_X28_badness 12 rfl) ?_
      refine g_ls (ls2 := []) [] rfl ?_
      exact J22 a0 (r64_of r0)
    refine g_iload_n (pc := 14) X (j := 0) (i := 0) (q := 0) (x := a0) rfl rfl (dl_at t_X28_badness 7 rfl) ?_
    refine g_ineg (pc := 15) X r0 (dl_at t_X28_badness 8 rfl) ?_
    refine g_i2l (pc := 16) X (r32_w _) (dl_at t_X28_badness 9 rfl) ?_
    refine g_goto (pc := 17) X (off := 5) (tgt := 22) rfl (dl_at t_X28_badness 10 rfl) ?_
    refine g_ls (ls2 := []) [] rfl ?_
    exact J22 (w32 (-a0)) (r64_of (r32_w _))
  refine g_sipush (pc := 6) X (n := 10000) rfl (dl_at t_X28_badness 3 rfl) ?_
  exact g_iret (pc := 9) X (r32_c rfl) rfl rfl (dl_at t_X28_badness 4 rfl)
def k_X28_classOf : List (Nat × Instr × Nat) := [(0, .iload_n 0, 1), (1, .sipush (-500), 3), (4, .if_icmp .ge 7, 3), (7, .iconst 0, 1), (8, .goto 26, 3), (11, .iload_n 0, 1), (12, .sipush 500, 3), (15, .if_icmp .gt 7, 3), (18, .iconst 1, 1), (19, .goto 15, 3), (22, .iload_n 0, 1), (23, .sipush 1000, 3), (26, .if_icmp .gt 7, 3), (29, .iconst 2, 1), (30, .goto 4, 3), (33, .iconst 3, 1), (34, .ireturn, 1)]
theorem t_X28_classOf : ∀ q ∈ k_X28_classOf, decode cX28_classOf q.1 = .ok q.2 := dl_all (by decide +kernel)
noncomputable def m_X28_classOf (a0 : Int) : Option (Int) :=
  if (-500) ≤ a0 then (if 500 < a0 then (if 1000 < a0 then (some 3)
  else (some 2))
  else (some 1))
  else (some 0)
theorem s_X28_classOf {l : Launch} [NoTr l] {D : SD} {a0 : Int} {h : Hp} (r0 : r32 a0) {r : Int} (hm : m_X28_classOf a0 = some r) : Sim l D yX28_classOf (Cond.code yX28_classOf cX28_classOf 1 (Option.some Jvm.ClassFile.FieldType.int)) 0 0 [iv a0] h 1 ((0, r), h) := by
  refine Sim.of (fin := fun (v : Int) => ((0, v), h)) (lsE := [(0, iv a0)]) hm rfl cwS_code (la_i la_n) (ll_i ll_n) ?_
  intro p e s m below meth c X hcw hmm hcc hnm hname
  unfold m_X28_classOf
  refine g_iload_n (pc := 0) X (j := 0) (i := 0) (q := 0) (x := a0) rfl rfl (dl_at t_X28_classOf 0 rfl) ?_
  refine g_sipush (pc := 1) X (n := (-500)) rfl (dl_at t_X28_classOf 1 rfl) ?_
  refine g_icmpge (pc := 4) X r0 (r32_c rfl) (off := 7) (tgt := 11) rfl (dl_at t_X28_classOf 2 rfl) (fun _ => ?_) (fun _ => ?_)
  · refine g_iload_n (pc := 11) X (j := 0) (i := 0) (q := 0) (x := a0) rfl rfl (dl_at t_X28_classOf 5 rfl) ?_
    refine g_sipush (pc := 12) X (n := 500) rfl (dl_at t_X28_classOf 6 rfl) ?_
    refine g_icmpgt (pc := 15) X r0 (r32_c rfl) (off := 7) (tgt := 22) rfl (dl_at t_X28_classOf 7 rfl) (fun _ => ?_) (fun _ => ?_)
    · refine g_iload_n (pc := 22) X (j := 0) (i := 0) (q := 0) (x := a0) rfl rfl (dl_at t_X28_classOf 10 rfl) ?_
      refine g_sipush (pc := 23) X (n := 1000) rfl (dl_at t_X28_classOf 11 rfl) ?_
      refine g_icmpgt (pc := 26) X r0 (r32_c rfl) (off := 7) (tgt := 33) rfl (dl_at t_X28_classOf 12 rfl) (fun _ => ?_) (fun _ => ?_)
      · refine g_iconst (pc := 33) X (n := 3) (dl_at t_X28_classOf 15 rfl) ?_
        exact g_iret (pc := 34) X (r32_c rfl) rfl rfl (dl_at t_X28_classOf 16 rfl)
      refine g_iconst (pc := 29) X (n := 2) (dl_at t_X28_classOf 13 rfl) ?_
      refine g_goto (pc := 30) X (off := 4) (tgt := 34) rfl (dl_at t_X28_classOf 14 rfl) ?_
      exact g_iret (pc := 34) X (r32_c rfl) rfl rfl (dl_at t_X28_classOf 16 rfl)
    refine g_iconst (pc := 18) X (n := 1) (dl_at t_X28_classOf 8 rfl) ?_
    refine g_goto (pc := 19) X (off := 15) (tgt := 34) rfl (dl_at t_X28_classOf 9 rfl) ?_
    exact g_iret (pc := 34) X (r32_c rfl) rfl rfl (dl_at t_X28_classOf 16 rfl)
  refine g_iconst (pc := 7) X (n := 0) (dl_at t_X28_classOf 3 rfl) ?_
  refine g_goto (pc := 8) X (off := 26) (tgt := 34) rfl (dl_at t_X28_classOf 4 rfl) ?_
  exact g_iret (pc := 34) X (r32_c rfl) rfl rfl (dl_at t_X28_classOf 16 rfl)
def k_X28_cuts : List (Nat × Instr × Nat) := [(0, .aload_n 0, 1), (1, .iload_n 1, 1), (2, .invokevirtual 85, 3), (5, .iconst 1, 1), (6, .if_icmp .eq 12, 3), (9, .aload_n 0, 1), (10, .iload_n 1, 1), (11, .invokevirtual 85, 3), (14, .iconst 2, 1), (15, .if_icmp .ne 7, 3), (18, .iconst 1, 1), (19, .goto 4, 3), (22, .iconst 0, 1), (23, .ireturn, 1)]
theorem t_X28_cuts : ∀ q ∈ k_X28_cuts, decode cX28_cuts q.1 = .ok q.2 := dl_all (by decide +kernel)
noncomputable def m_X28_cuts (a0 a1 : Int) (h : Hp) : Option (Int) :=
  (m_X28_kind a0 a1 h).bind fun v2 =>
  if v2 = 1 then (some 1)
  else ((m_X28_kind a0 a1 h).bind fun v11 =>
  if v11 ≠ 2 then (some 0)
  else (some 1))
theorem s_X28_cuts {l : Launch} [NoTr l] {D : SD} {a0 a1 : Int} {h : Hp} (hk : h a0 (-2) = 288) (r1 : r32 a1) {r : Int} (hm : m_X28_cuts a0 a1 h = some r) : Sim l D yX28_cuts (Cond.code yX28_cuts cX28_cuts 2 (Option.some Jvm.ClassFile.FieldType.boolean)) 1 37 [rv D a0, iv a1] h 3 ((0, r), h) := by
  refine Sim.of (fin := fun (v : Int) => ((0, v), h)) (lsE := [(0, rv D a0), (1, iv a1)]) hm rfl cwS_code (la_r (la_i la_n)) (ll_r (ll_i ll_n)) ?_
  intro p e s m below meth c X hcw hmm hcc hnm hname
  unfold m_X28_cuts
  refine g_aload_n (pc := 0) X (j := 0) (i := 0) (q := 0) (x := a0) rfl rfl (dl_at t_X28_cuts 0 rfl) ?_
  refine g_iload_n (pc := 1) X (j := 1) (i := 1) (q := 1) (x := a1) rfl rfl (dl_at t_X28_cuts 1 rfl) ?_
  refine r_callRi (pc := 2) X (fun _ hv => s_X28_kind hk r1 hv) cw_code q2862 q396 (in_Vk X (As := [iv a1]) kX28 hk (Or.inl q2859) q2861 qs174 cw_code q2862 ⟨by decide, by decide⟩ rfl (dl_at t_X28_cuts 2 rfl)) (dl_at t_X28_cuts 2 rfl) (cat24 (st := []) (Nat.le_of_ble_eq_true rfl)) (Nat.le_of_ble_eq_true rfl) (Nat.le_of_ble_eq_true rfl) fun v2 g2 => ?_
  refine g_iconst (pc := 5) X (n := 1) (dl_at t_X28_cuts 3 rfl) ?_
  refine g_icmpeq (pc := 6) X g2 (r32_c rfl) (off := 12) (tgt := 18) rfl (dl_at t_X28_cuts 4 rfl) (fun _ => ?_) (fun _ => ?_)
  · refine g_iconst (pc := 18) X (n := 1) (dl_at t_X28_cuts 10 rfl) ?_
    refine g_goto (pc := 19) X (off := 4) (tgt := 23) rfl (dl_at t_X28_cuts 11 rfl) ?_
    exact g_zret (pc := 23) X (Or.inr rfl) rfl rfl (dl_at t_X28_cuts 13 rfl)
  refine g_aload_n (pc := 9) X (j := 0) (i := 0) (q := 0) (x := a0) rfl rfl (dl_at t_X28_cuts 5 rfl) ?_
  refine g_iload_n (pc := 10) X (j := 1) (i := 1) (q := 1) (x := a1) rfl rfl (dl_at t_X28_cuts 6 rfl) ?_
  refine r_callRi (pc := 11) X (fun _ hv => s_X28_kind hk r1 hv) cw_code q2862 q396 (in_Vk X (As := [iv a1]) kX28 hk (Or.inl q2859) q2861 qs174 cw_code q2862 ⟨by decide, by decide⟩ rfl (dl_at t_X28_cuts 7 rfl)) (dl_at t_X28_cuts 7 rfl) (cat24 (st := []) (Nat.le_of_ble_eq_true rfl)) (Nat.le_of_ble_eq_true rfl) (Nat.le_of_ble_eq_true rfl) fun v11 g11 => ?_
  refine g_iconst (pc := 14) X (n := 2) (dl_at t_X28_cuts 8 rfl) ?_
  refine g_icmpne (pc := 15) X g11 (r32_c rfl) (off := 7) (tgt := 22) rfl (dl_at t_X28_cuts 9 rfl) (fun _ => ?_) (fun _ => ?_)
  · refine g_iconst (pc := 22) X (n := 0) (dl_at t_X28_cuts 12 rfl) ?_
    exact g_zret (pc := 23) X (Or.inl rfl) rfl rfl (dl_at t_X28_cuts 13 rfl)
  refine g_iconst (pc := 18) X (n := 1) (dl_at t_X28_cuts 10 rfl) ?_
  refine g_goto (pc := 19) X (off := 4) (tgt := 23) rfl (dl_at t_X28_cuts 11 rfl) ?_
  exact g_zret (pc := 23) X (Or.inr rfl) rfl rfl (dl_at t_X28_cuts 13 rfl)
def k_X28_costOf : List (Nat × Instr × Nat) := [(0, .bipush 10, 2), (2, .iload_n 3, 1), (3, .invokestatic 173, 3), (6, .iadd, 1), (7, .i2l, 1), (8, .lstore 5, 2), (10, .lload 5, 2), (12, .lload 5, 2), (14, .lmul, 1), (15, .lstore 7, 2), (17, .iload_n 3, 1), (18, .ldc 166, 2), (20, .if_icmp .ne 54, 3), (23, .aload_n 0, 1), (24, .getfield 69, 3), (27, .ifCond .ne 19, 3), (30, .aload_n 0, 1), (31, .aload_n 0, 1), (32, .getfield 9, 3), (35, .getfield 131, 3), (38, .iload_n 1, 1), (39, .iload_n 2, 1), (40, .invokevirtual 148, 3), (43, .goto 4, 3), (46, .lconst 0, 1), (47, .lstore 9, 2), (49, .lload 7, 2), (51, .ldc2_w 169, 3), (54, .aload_n 0, 1), (55, .iload_n 1, 1), (56, .iload_n 2, 1), (57, .invokevirtual 154, 3), (60, .ladd, 1), (61, .lload 9, 2), (63, .lsub, 1), (64, .aload_n 0, 1), (65, .iload_n 1, 1), (66, .invokevirtual 158, 3), (69, .i2l, 1), (70, .lsub, 1), (71, .ladd, 1), (72, .lstore 7, 2), (74, .aload_n 0, 1), (75, .iload_n 2, 1), (76, .invokevirtual 85, 3), (79, .iconst 1, 1), (80, .if_icmp .ne 11, 3), (83, .lload 7, 2), (85, .ldc2_w 176, 3), (88, .ladd, 1), (89, .lstore 7, 2), (91, .aload_n 0, 1), (92, .iload_n 2, 1), (93, .invokevirtual 85, 3), (96, .iconst 2, 1), (97, .if_icmp .ne 11, 3), (100, .lload 7, 2), (102, .ldc2_w 178, 3), (105, .ladd, 1), (106, .lstore 7, 2), (108, .iload_n 1, 1), (109, .ifCond .le 15, 3), (112, .aload_n 0, 1), (113, .iload_n 1, 1), (114, .invokevirtual 180, 3), (117, .ifCond .eq 7, 3), (120, .iconst 1, 1), (121, .goto 4, 3), (124, .iconst 0, 1), (125, .istore 9, 2), (127, .iload 9, 2), (129, .ifCond .eq 19, 3), (132, .aload_n 0, 1), (133, .iload_n 2, 1), (134, .invokevirtual 180, 3), (137, .ifCond .eq 11, 3), (140, .lload 7, 2), (142, .ldc2_w 183, 3), (145, .ladd, 1), (146, .lstore 7, 2), (148, .iload 9, 2), (150, .ifCond .eq 19, 3), (153, .iload_n 2, 1), (154, .aload_n 0, 1), (155, .getfield 75, 3), (158, .if_icmp .ne 11, 3), (161, .lload 7, 2), (163, .ldc2_w 185, 3), (166, .ladd, 1), (167, .lstore 7, 2), (169, .iload_n 3, 1), (170, .invokestatic 187, 3), (173, .istore 10, 2), (175, .iload 10, 2), (177, .iload 4, 2), (179, .isub, 1), (180, .iconst 1, 1), (181, .if_icmp .gt 12, 3), (184, .iload 4, 2), (186, .iload 10, 2), (188, .isub, 1), (189, .iconst 1, 1), (190, .if_icmp .le 11, 3), (193, .lload 7, 2), (195, .ldc2_w 171, 3), (198, .ladd, 1), (199, .lstore 7, 2), (201, .lload 7, 2), (203, .lreturn, 1)]
theorem t_X28_costOf : ∀ q ∈ k_X28_costOf, decode cX28_costOf q.1 = .ok q.2 := dl_all (by decide +kernel)
noncomputable def m_X28_costOf_j169 (a3 a4 x7_169 : Int) : Option (Int) :=
  (m_X28_classOf a3).bind fun v170 =>
  if 1 < (w32 (v170 - a4)) then (lt_ (w64 (x7_169 + 10000)) fun x7_199 =>
  some x7_199)
  else (if (w32 (a4 - v170)) ≤ 1 then (some x7_169)
  else (lt_ (w64 (x7_169 + 10000)) fun x7_199_1 =>
  some x7_199_1))
noncomputable def m_X28_costOf_j148 (s0_125 a0 a2 a3 a4 x7_148 : Int) (h : Hp) : Option (Int) :=
  if s0_125 = 0 then (m_X28_costOf_j169 a3 a4 x7_148)
  else (if a2 ≠ (h a0 16) then (m_X28_costOf_j169 a3 a4 x7_148)
  else (lt_ (w64 (x7_148 + 5000)) fun x7_167 =>
  m_X28_costOf_j169 a3 a4 x7_167))
noncomputable def m_X28_costOf_j125 (a0 a2 a3 a4 x7_108 s0_125 : Int) (h : Hp) : Option (Int) :=
  if s0_125 = 0 then (m_X28_costOf_j148 s0_125 a0 a2 a3 a4 x7_108 h)
  else ((m_X28_cuts a0 a2 h).bind fun v134 =>
  if v134 = 0 then (m_X28_costOf_j148 s0_125 a0 a2 a3 a4 x7_108 h)
  else (lt_ (w64 (x7_108 + 3000)) fun x7_146 =>
  m_X28_costOf_j148 s0_125 a0 a2 a3 a4 x7_146 h))
noncomputable def m_X28_costOf_j124 (a0 a2 a3 a4 x7_108 : Int) (h : Hp) : Option (Int) :=
  m_X28_costOf_j125 a0 a2 a3 a4 x7_108 0 h
noncomputable def m_X28_costOf_j108 (a0 a1 a2 a3 a4 x7_108 : Int) (h : Hp) : Option (Int) :=
  if a1 ≤ 0 then (m_X28_costOf_j124 a0 a2 a3 a4 x7_108 h)
  else ((m_X28_cuts a0 a1 h).bind fun v114 =>
  if v114 = 0 then (m_X28_costOf_j124 a0 a2 a3 a4 x7_108 h)
  else (m_X28_costOf_j125 a0 a2 a3 a4 x7_108 1 h))
noncomputable def m_X28_costOf_j91 (a0 a1 a2 a3 a4 x7_91 : Int) (h : Hp) : Option (Int) :=
  (m_X28_kind a0 a2 h).bind fun v93 =>
  if v93 ≠ 2 then (m_X28_costOf_j108 a0 a1 a2 a3 a4 x7_91 h)
  else (lt_ (w64 (x7_91 + 900)) fun x7_106 =>
  m_X28_costOf_j108 a0 a1 a2 a3 a4 x7_106 h)
noncomputable def m_X28_costOf_j74 (a4 a0 a1 a2 a3 x7_74 : Int) (h : Hp) : Option (Int) :=
  (m_X28_kind a0 a2 h).bind fun v76 =>
  if v76 ≠ 1 then (m_X28_costOf_j91 a0 a1 a2 a3 a4 x7_74 h)
  else (lt_ (w64 (x7_74 + 2500)) fun x7_89 =>
  m_X28_costOf_j91 a0 a1 a2 a3 a4 x7_89 h)
noncomputable def m_X28_costOf_j47 (x7_15 a4 a0 a1 a2 a3 s0_47 : Int) (h : Hp) : Option (Int) :=
  (m_X28_natural a0 a1 a2 h).bind fun v57 =>
  (m_X28_widthOf a0 a1 h).bind fun v66 =>
  lt_ (w64 (x7_15 + (w64 ((w64 ((w64 (1000000000 + v57)) - s0_47)) - v66)))) fun x7_72 =>
  m_X28_costOf_j74 a4 a0 a1 a2 a3 x7_72 h
noncomputable def m_X28_costOf (a0 a1 a2 a3 a4 : Int) (h : Hp) : Option (Int) :=
  (m_X28_badness a3).bind fun v3 =>
  lt_ (w32 (10 + v3)) fun x5_8 =>
  lt_ (w64 (x5_8 * x5_8)) fun x7_15 =>
  if a3 ≠ (-1000000) then (m_X28_costOf_j74 a4 a0 a1 a2 a3 x7_15 h)
  else (if (h a0 8) ≠ 0 then (m_X28_costOf_j47 x7_15 a4 a0 a1 a2 a3 0 h)
  else (gd (h (h a0 0) (-2) = 240) ((m_X28_between a0 (h (h a0 0) 11) a1 a2 h).bind fun v40 =>
  m_X28_costOf_j47 x7_15 a4 a0 a1 a2 a3 v40 h)))
theorem s_X28_costOf {l : Launch} [NoTr l] {D : SD} {a0 a1 a2 a3 a4 : Int} {h : Hp} (hk : h a0 (-2) = 288) (r1 : r32 a1) (r2 : r32 a2) (r3 : r32 a3) (r4 : r32 a4) {r : Int} (hm : m_X28_costOf a0 a1 a2 a3 a4 h = some r) : Sim l D yX28_costOf (Cond.code yX28_costOf cX28_costOf 11 (Option.some Jvm.ClassFile.FieldType.long)) 2 77 [rv D a0, iv a1, iv a2, iv a3, iv a4] h 4 ((0, r), h) := by
  refine Sim.of (fin := fun (v : Int) => ((0, v), h)) (lsE := [(0, rv D a0), (1, iv a1), (2, iv a2), (3, iv a3), (4, iv a4)]) hm rfl cwS_code (la_r (la_i (la_i (la_i (la_i la_n))))) (ll_r (ll_i (ll_i (ll_i (ll_i ll_n))))) ?_
  intro p e s m below meth c X hcw hmm hcc hnm hname
  unfold m_X28_costOf
  refine g_bipush (pc := 0) X (n := 10) rfl (dl_at t_X28_costOf 0 rfl) ?_
  refine g_iload_n (pc := 2) X (j := 3) (i := 3) (q := 3) (x := a3) rfl rfl (dl_at t_X28_costOf 1 rfl) ?_
  refine r_callRi (pc := 3) X (fun _ hv => s_X28_badness r3 hv) cw_code q2897 q396 (in_Sc X (As := [iv a3]) (Or.inl q2895) q2896 q396 q2897 ⟨by decide, by decide⟩ rfl (dl_at t_X28_costOf 2 rfl)) (dl_at t_X28_costOf 2 rfl) (cat24 (st := [iv 10]) (Nat.le_of_ble_eq_true rfl)) (Nat.le_of_ble_eq_true rfl) (Nat.le_of_ble_eq_true rfl) fun v3 g3 => ?_
  refine g_iadd (pc := 6) X (r32_c rfl) g3 (dl_at t_X28_costOf 3 rfl) ?_
  refine g_i2l (pc := 7) X (r32_w _) (dl_at t_X28_costOf 4 rfl) ?_
  refine g_ltl (r64_of (r32_w _)) fun x5_8 r5_8 => ?_
  refine g_lstoreN (pc := 8) X (i := 5) (x := x5_8) (b := 4) (w := iv a4) (rest := [(0, rv D a0), (1, iv a1), (2, iv a2), (3, iv a3)]) (Nat.le_of_ble_eq_true rfl) [4, 0, 1, 2, 3] rfl (by decide) (by decide) rfl rfl (dl_at t_X28_costOf 5 rfl) ?_
  refine g_lload (pc := 10) X (i := 5) (q := 0) (x := x5_8) rfl (dl_at t_X28_costOf 6 rfl) ?_
  refine g_lload (pc := 12) X (i := 5) (q := 0) (x := x5_8) rfl (dl_at t_X28_costOf 7 rfl) ?_
  refine g_lmul (pc := 14) X r5_8 r5_8 (dl_at t_X28_costOf 8 rfl) ?_
  refine g_ltl (r64_w _) fun x7_15 r7_15 => ?_
  refine g_lstore (pc := 15) X (i := 7) (x := x7_15) (rest := [(4, iv a4), (0, rv D a0), (1, iv a1), (2, iv a2), (3, iv a3)]) (Nat.le_of_ble_eq_true rfl) [1, 2, 3, 4, 5] rfl rfl (dl_at t_X28_costOf 9 rfl) ?_
  refine g_iload_n (pc := 17) X (j := 3) (i := 3) (q := 5) (x := a3) rfl rfl (dl_at t_X28_costOf 10 rfl) ?_
  refine g_ldc (pc := 18) X (index := 166) (n := (-1000000)) (cneg (by decide) q2894) (dl_at t_X28_costOf 11 rfl) ?_
  refine g_join (γ := Int) (fun q => r64 q) 74 (fun q => [(0, rv D a0), (1, iv a1), (2, iv a2), (3, iv a3), (4, iv a4), (7, jv q)]) (fun q => []) (fun q => h) (fun q => m_X28_costOf_j74 a4 a0 a1 a2 a3 q h) ?_ ?_
  · rintro x7_74 r7_74
    try dsimp only
    unfold m_X28_costOf_j74
    refine g_aload_n (pc := 74) X (j := 0) (i := 0) (q := 0) (x := a0) rfl rfl (dl_at t_X28_costOf 42 rfl) ?_
    refine g_iload_n (pc := 75) X (j := 2) (i := 2) (q := 2) (x := a2) rfl rfl (dl_at t_X28_costOf 43 rfl) ?_
    refine r_callRi (pc := 76) X (fun _ hv => s_X28_kind hk r2 hv) cw_code q2862 q396 (in_Vk X (As := [iv a2]) kX28 hk (Or.inl q2859) q2861 qs174 cw_code q2862 ⟨by decide, by decide⟩ rfl (dl_at t_X28_costOf 44 rfl)) (dl_at t_X28_costOf 44 rfl) (cat24 (st := []) (Nat.le_of_ble_eq_true rfl)) (Nat.le_of_ble_eq_true rfl) (Nat.le_of_ble_eq_true rfl) fun v76 g76 => ?_
    refine g_iconst (pc := 79) X (n := 1) (dl_at t_X28_costOf 45 rfl) ?_
    refine g_join (γ := Int) (fun q => r64 q) 91 (fun q => [(0, rv D a0), (1, iv a1), (2, iv a2), (3, iv a3), (4, iv a4), (7, jv q)]) (fun q => []) (fun q => h) (fun q => m_X28_costOf_j91 a0 a1 a2 a3 a4 q h) ?_ ?_
    · rintro x7_91 r7_91
      try dsimp only
      unfold m_X28_costOf_j91
      refine g_aload_n (pc := 91) X (j := 0) (i := 0) (q := 0) (x := a0) rfl rfl (dl_at t_X28_costOf 51 rfl) ?_
      refine g_iload_n (pc := 92) X (j := 2) (i := 2) (q := 2) (x := a2) rfl rfl (dl_at t_X28_costOf 52 rfl) ?_
      refine r_callRi (pc := 93) X (fun _ hv => s_X28_kind hk r2 hv) cw_code q2862 q396 (in_Vk X (As := [iv a2]) kX28 hk (Or.inl q2859) q2861 qs174 cw_code q2862 ⟨by decide, by decide⟩ rfl (dl_at t_X28_costOf 53 rfl)) (dl_at t_X28_costOf 53 rfl) (cat24 (st := []) (Nat.le_of_ble_eq_true rfl)) (Nat.le_of_ble_eq_true rfl) (Nat.le_of_ble_eq_true rfl) fun v93 g93 => ?_
      refine g_iconst (pc := 96) X (n := 2) (dl_at t_X28_costOf 54 rfl) ?_
      refine g_join (γ := Int) (fun q => r64 q) 108 (fun q => [(0, rv D a0), (1, iv a1), (2, iv a2), (3, iv a3), (4, iv a4), (7, jv q)]) (fun q => []) (fun q => h) (fun q => m_X28_costOf_j108 a0 a1 a2 a3 a4 q h) ?_ ?_
      · rintro x7_108 r7_108
        try dsimp only
        unfold m_X28_costOf_j108
        refine g_iload_n (pc := 108) X (j := 1) (i := 1) (q := 1) (x := a1) rfl rfl (dl_at t_X28_costOf 60 rfl) ?_
        refine g_join (γ := Int) (fun q => (q = 0 ∨ q = 1)) 125 (fun q => [(0, rv D a0), (2, iv a2), (3, iv a3), (4, iv a4), (7, jv x7_108)]) (fun q => [iv q]) (fun q => h) (fun q => m_X28_costOf_j125 a0 a2 a3 a4 x7_108 q h) ?_ ?_
        · rintro s0_125 rs0_125
          try dsimp only
          unfold m_X28_costOf_j125
          refine g_istore (pc := 125) X (i := 9) (x := s0_125) (rest := [(0, rv D a0), (2, iv a2), (3, iv a3), (4, iv a4), (7, jv x7_108)]) (Nat.le_of_ble_eq_true rfl) [0, 1, 2, 3, 4] rfl rfl (dl_at t_X28_costOf 69 rfl) ?_
          refine g_iload (pc := 127) X (i := 9) (q := 0) (x := s0_125) rfl (dl_at t_X28_costOf 70 rfl) ?_
          refine g_join (γ := Int) (fun q => r64 q) 148 (fun q => [(0, rv D a0), (2, iv a2), (3, iv a3), (4, iv a4), (7, jv q), (9, iv s0_125)]) (fun q => []) (fun q => h) (fun q => m_X28_costOf_j148 s0_125 a0 a2 a3 a4 q h) ?_ ?_
          · rintro x7_148 r7_148
            try dsimp only
            unfold m_X28_costOf_j148
            refine g_iload (pc := 148) X (i := 9) (q := 5) (x := s0_125) rfl (dl_at t_X28_costOf 80 rfl) ?_
            refine g_join (γ := Int) (fun q => r64 q) 169 (fun q => [(3, iv a3), (4, iv a4), (7, jv q)]) (fun q => []) (fun q => h) (fun q => m_X28_costOf_j169 a3 a4 q) ?_ ?_
            · rintro x7_169 r7_169
              try dsimp only
              unfold m_X28_costOf_j169
              refine g_iload_n (pc := 169) X (j := 3) (i := 3) (q := 0) (x := a3) rfl rfl (dl_at t_X28_costOf 90 rfl) ?_
              refine r_callRi (pc := 170) X (fun _ hv => s_X28_classOf r3 hv) cw_code q2907 q396 (in_Sc X (As := [iv a3]) (Or.inl q2905) q2906 q396 q2907 ⟨by decide, by decide⟩ rfl (dl_at t_X28_costOf 91 rfl)) (dl_at t_X28_costOf 91 rfl) (cat24 (st := []) (Nat.le_of_ble_eq_true rfl)) (Nat.le_of_ble_eq_true rfl) (Nat.le_of_ble_eq_true rfl) fun v170 g170 => ?_
              refine g_istore (pc := 173) X (i := 10) (x := v170) (rest := [(4, iv a4), (7, jv x7_169)]) (Nat.le_of_ble_eq_true rfl) [1, 2] rfl rfl (dl_at t_X28_costOf 92 rfl) ?_
              refine g_iload (pc := 175) X (i := 10) (q := 0) (x := v170) rfl (dl_at t_X28_costOf 93 rfl) ?_
              refine g_iload (pc := 177) X (i := 4) (q := 1) (x := a4) rfl (dl_at t_X28_costOf 94 rfl) ?_
              refine g_isub (pc := 179) X g170 r4 (dl_at t_X28_costOf 95 rfl) ?_
              refine g_iconst (pc := 180) X (n := 1) (dl_at t_X28_costOf 96 rfl) ?_
              refine g_icmpgt (pc := 181) X (r32_w _) (r32_c rfl) (off := 12) (tgt := 193) rfl (dl_at t_X28_costOf 97 rfl) (fun _ => ?_) (fun _ => ?_)
              · refine g_lload (pc := 193) X (i := 7) (q := 2) (x := x7_169) rfl (dl_at t_X28_costOf 103 rfl) ?_
                refine g_ldc2 (pc := 195) X (index := 171) (n := 10000) q2900 (dl_at t_X28_costOf 104 rfl) ?_
                refine g_ladd (pc := 198) X r7_169 (r64_c rfl) (dl_at t_X28_costOf 105 rfl) ?_
                refine g_ltl (r64_w _) fun x7_199 r7_199 => ?_
                refine g_lstore (pc := 199) X (i := 7) (x := x7_199) (rest := []) (Nat.le_of_ble_eq_true rfl) [] rfl rfl (dl_at t_X28_costOf 106 rfl) ?_
                refine g_lload (pc := 201) X (i := 7) (q := 0) (x := x7_199) rfl (dl_at t_X28_costOf 107 rfl) ?_
                exact g_lret (pc := 203) X r7_199 rfl rfl (dl_at t_X28_costOf 108 rfl)
              refine g_iload (pc := 184) X (i := 4) (q := 1) (x := a4) rfl (dl_at t_X28_costOf 98 rfl) ?_
              refine g_iload (pc := 186) X (i := 10) (q := 0) (x := v170) rfl (dl_at t_X28_costOf 99 rfl) ?_
              refine g_isub (pc := 188) X r4 g170 (dl_at t_X28_costOf 100 rfl) ?_
              refine g_iconst (pc := 189) X (n := 1) (dl_at t_X28_costOf 101 rfl) ?_
              refine g_icmple (pc := 190) X (r32_w _) (r32_c rfl) (off := 11) (tgt := 201) rfl (dl_at t_X28_costOf 102 rfl) (fun _ => ?_) (fun _ => ?_)
              · refine g_lload (pc := 201) X (i := 7) (q := 2) (x := x7_169) rfl (dl_at t_X28_costOf 107 rfl) ?_
                exact g_lret (pc := 203) X r7_169 rfl rfl (dl_at t_X28_costOf 108 rfl)
              refine g_lload (pc := 193) X (i := 7) (q := 2) (x := x7_169) rfl (dl_at t_X28_costOf 103 rfl) ?_
              refine g_ldc2 (pc := 195) X (index := 171) (n := 10000) q2900 (dl_at t_X28_costOf 104 rfl) ?_
              refine g_ladd (pc := 198) X r7_169 (r64_c rfl) (dl_at t_X28_costOf 105 rfl) ?_
              refine g_ltl (r64_w _) fun x7_199_1 r7_199_1 => ?_
              refine g_lstore (pc := 199) X (i := 7) (x := x7_199_1) (rest := []) (Nat.le_of_ble_eq_true rfl) [] rfl rfl (dl_at t_X28_costOf 106 rfl) ?_
              refine g_lload (pc := 201) X (i := 7) (q := 0) (x := x7_199_1) rfl (dl_at t_X28_costOf 107 rfl) ?_
              exact g_lret (pc := 203) X r7_199_1 rfl rfl (dl_at t_X28_costOf 108 rfl)
            intro J169
            refine g_ifeq (pc := 150) X (r32_z rs0_125) (off := 19) (tgt := 169) rfl (dl_at t_X28_costOf 81 rfl) (fun _ => ?_) (fun _ => ?_)
            · refine g_ls (ls2 := [(3, iv a3), (4, iv a4), (7, jv x7_148)]) [2, 3, 4] rfl ?_
              exact J169 x7_148 r7_148
            refine g_iload_n (pc := 153) X (j := 2) (i := 2) (q := 1) (x := a2) rfl rfl (dl_at t_X28_costOf 82 rfl) ?_
            refine g_aload_n (pc := 154) X (j := 0) (i := 0) (q := 0) (x := a0) rfl rfl (dl_at t_X28_costOf 83 rfl) ?_
            refine r_geti (pc := 155) X fX28_16 hk q2558 (dl_at t_X28_costOf 84 rfl) fun g155 => ?_
            refine g_icmpne (pc := 158) X r2 g155 (off := 11) (tgt := 169) rfl (dl_at t_X28_costOf 85 rfl) (fun _ => ?_) (fun _ => ?_)
            · refine g_ls (ls2 := [(3, iv a3), (4, iv a4), (7, jv x7_148)]) [2, 3, 4] rfl ?_
              exact J169 x7_148 r7_148
            refine g_lload (pc := 161) X (i := 7) (q := 4) (x := x7_148) rfl (dl_at t_X28_costOf 86 rfl) ?_
            refine g_ldc2 (pc := 163) X (index := 185) (n := 5000) q2919 (dl_at t_X28_costOf 87 rfl) ?_
            refine g_ladd (pc := 166) X r7_148 (r64_c rfl) (dl_at t_X28_costOf 88 rfl) ?_
            refine g_ltl (r64_w _) fun x7_167 r7_167 => ?_
            refine g_lstore (pc := 167) X (i := 7) (x := x7_167) (rest := [(3, iv a3), (4, iv a4)]) (Nat.le_of_ble_eq_true rfl) [2, 3] rfl rfl (dl_at t_X28_costOf 89 rfl) ?_
            refine g_ls (ls2 := [(3, iv a3), (4, iv a4), (7, jv x7_167)]) [1, 2, 0] rfl ?_
            exact J169 x7_167 r7_167
          intro J148
          refine g_ifeq (pc := 129) X (r32_z rs0_125) (off := 19) (tgt := 148) rfl (dl_at t_X28_costOf 71 rfl) (fun _ => ?_) (fun _ => ?_)
          · refine g_ls (ls2 := [(0, rv D a0), (2, iv a2), (3, iv a3), (4, iv a4), (7, jv x7_108), (9, iv s0_125)]) [1, 2, 3, 4, 5, 0] rfl ?_
            exact J148 x7_108 r7_108
          refine g_aload_n (pc := 132) X (j := 0) (i := 0) (q := 1) (x := a0) rfl rfl (dl_at t_X28_costOf 72 rfl) ?_
          refine g_iload_n (pc := 133) X (j := 2) (i := 2) (q := 2) (x := a2) rfl rfl (dl_at t_X28_costOf 73 rfl) ?_
          refine r_callRz (pc := 134) X (fun _ hv => s_X28_cuts hk r2 hv) cw_code q2917 q396 (in_Vk X (As := [iv a2]) kX28 hk (Or.inl q2914) q2916 qs184 cw_code q2917 ⟨by decide, by decide⟩ rfl (dl_at t_X28_costOf 74 rfl)) (dl_at t_X28_costOf 74 rfl) (cat24 (st := []) (Nat.le_of_ble_eq_true rfl)) (Nat.le_of_ble_eq_true rfl) (Nat.le_of_ble_eq_true rfl) fun v134 g134 => ?_
          refine g_ifeq (pc := 137) X (r32_z g134) (off := 11) (tgt := 148) rfl (dl_at t_X28_costOf 75 rfl) (fun _ => ?_) (fun _ => ?_)
          · refine g_ls (ls2 := [(0, rv D a0), (2, iv a2), (3, iv a3), (4, iv a4), (7, jv x7_108), (9, iv s0_125)]) [1, 2, 3, 4, 5, 0] rfl ?_
            exact J148 x7_108 r7_108
          refine g_lload (pc := 140) X (i := 7) (q := 5) (x := x7_108) rfl (dl_at t_X28_costOf 76 rfl) ?_
          refine g_ldc2 (pc := 142) X (index := 183) (n := 3000) q2918 (dl_at t_X28_costOf 77 rfl) ?_
          refine g_ladd (pc := 145) X r7_108 (r64_c rfl) (dl_at t_X28_costOf 78 rfl) ?_
          refine g_ltl (r64_w _) fun x7_146 r7_146 => ?_
          refine g_lstore (pc := 146) X (i := 7) (x := x7_146) (rest := [(9, iv s0_125), (0, rv D a0), (2, iv a2), (3, iv a3), (4, iv a4)]) (Nat.le_of_ble_eq_true rfl) [0, 1, 2, 3, 4] rfl rfl (dl_at t_X28_costOf 79 rfl) ?_
          refine g_ls (ls2 := [(0, rv D a0), (2, iv a2), (3, iv a3), (4, iv a4), (7, jv x7_146), (9, iv s0_125)]) [2, 3, 4, 5, 0, 1] rfl ?_
          exact J148 x7_146 r7_146
        intro J125
        refine g_join (γ := Unit) (fun q => True) 124 (fun q => [(0, rv D a0), (2, iv a2), (3, iv a3), (4, iv a4), (7, jv x7_108)]) (fun q => []) (fun q => h) (fun q => m_X28_costOf_j124 a0 a2 a3 a4 x7_108 h) ?_ ?_
        · rintro _ _
          try dsimp only
          unfold m_X28_costOf_j124
          refine g_iconst (pc := 124) X (n := 0) (dl_at t_X28_costOf 68 rfl) ?_
          exact J125 0 (Or.inl rfl)
        intro J124
        refine g_ifle (pc := 109) X r1 (off := 15) (tgt := 124) rfl (dl_at t_X28_costOf 61 rfl) (fun _ => ?_) (fun _ => ?_)
        · refine g_ls (ls2 := [(0, rv D a0), (2, iv a2), (3, iv a3), (4, iv a4), (7, jv x7_108)]) [0, 2, 3, 4, 5] rfl ?_
          exact J124 () trivial
        refine g_aload_n (pc := 112) X (j := 0) (i := 0) (q := 0) (x := a0) rfl rfl (dl_at t_X28_costOf 62 rfl) ?_
        refine g_iload_n (pc := 113) X (j := 1) (i := 1) (q := 1) (x := a1) rfl rfl (dl_at t_X28_costOf 63 rfl) ?_
        refine r_callRz (pc := 114) X (fun _ hv => s_X28_cuts hk r1 hv) cw_code q2917 q396 (in_Vk X (As := [iv a1]) kX28 hk (Or.inl q2914) q2916 qs184 cw_code q2917 ⟨by decide, by decide⟩ rfl (dl_at t_X28_costOf 64 rfl)) (dl_at t_X28_costOf 64 rfl) (cat24 (st := []) (Nat.le_of_ble_eq_true rfl)) (Nat.le_of_ble_eq_true rfl) (Nat.le_of_ble_eq_true rfl) fun v114 g114 => ?_
        refine g_ifeq (pc := 117) X (r32_z g114) (off := 7) (tgt := 124) rfl (dl_at t_X28_costOf 65 rfl) (fun _ => ?_) (fun _ => ?_)
        · refine g_ls (ls2 := [(0, rv D a0), (2, iv a2), (3, iv a3), (4, iv a4), (7, jv x7_108)]) [0, 2, 3, 4, 5] rfl ?_
          exact J124 () trivial
        refine g_iconst (pc := 120) X (n := 1) (dl_at t_X28_costOf 66 rfl) ?_
        refine g_goto (pc := 121) X (off := 4) (tgt := 125) rfl (dl_at t_X28_costOf 67 rfl) ?_
        refine g_ls (ls2 := [(0, rv D a0), (2, iv a2), (3, iv a3), (4, iv a4), (7, jv x7_108)]) [0, 2, 3, 4, 5] rfl ?_
        exact J125 1 (Or.inr rfl)
      intro J108
      refine g_icmpne (pc := 97) X g93 (r32_c rfl) (off := 11) (tgt := 108) rfl (dl_at t_X28_costOf 55 rfl) (fun _ => ?_) (fun _ => ?_)
      · exact J108 x7_91 r7_91
      refine g_lload (pc := 100) X (i := 7) (q := 5) (x := x7_91) rfl (dl_at t_X28_costOf 56 rfl) ?_
      refine g_ldc2 (pc := 102) X (index := 178) (n := 900) q2913 (dl_at t_X28_costOf 57 rfl) ?_
      refine g_ladd (pc := 105) X r7_91 (r64_c rfl) (dl_at t_X28_costOf 58 rfl) ?_
      refine g_ltl (r64_w _) fun x7_106 r7_106 => ?_
      refine g_lstore (pc := 106) X (i := 7) (x := x7_106) (rest := [(0, rv D a0), (1, iv a1), (2, iv a2), (3, iv a3), (4, iv a4)]) (Nat.le_of_ble_eq_true rfl) [0, 1, 2, 3, 4] rfl rfl (dl_at t_X28_costOf 59 rfl) ?_
      refine g_ls (ls2 := [(0, rv D a0), (1, iv a1), (2, iv a2), (3, iv a3), (4, iv a4), (7, jv x7_106)]) [1, 2, 3, 4, 5, 0] rfl ?_
      exact J108 x7_106 r7_106
    intro J91
    refine g_icmpne (pc := 80) X g76 (r32_c rfl) (off := 11) (tgt := 91) rfl (dl_at t_X28_costOf 46 rfl) (fun _ => ?_) (fun _ => ?_)
    · exact J91 x7_74 r7_74
    refine g_lload (pc := 83) X (i := 7) (q := 5) (x := x7_74) rfl (dl_at t_X28_costOf 47 rfl) ?_
    refine g_ldc2 (pc := 85) X (index := 176) (n := 2500) q2912 (dl_at t_X28_costOf 48 rfl) ?_
    refine g_ladd (pc := 88) X r7_74 (r64_c rfl) (dl_at t_X28_costOf 49 rfl) ?_
    refine g_ltl (r64_w _) fun x7_89 r7_89 => ?_
    refine g_lstore (pc := 89) X (i := 7) (x := x7_89) (rest := [(0, rv D a0), (1, iv a1), (2, iv a2), (3, iv a3), (4, iv a4)]) (Nat.le_of_ble_eq_true rfl) [0, 1, 2, 3, 4] rfl rfl (dl_at t_X28_costOf 50 rfl) ?_
    refine g_ls (ls2 := [(0, rv D a0), (1, iv a1), (2, iv a2), (3, iv a3), (4, iv a4), (7, jv x7_89)]) [1, 2, 3, 4, 5, 0] rfl ?_
    exact J91 x7_89 r7_89
  intro J74
  refine g_icmpne (pc := 20) X r3 (r32_c rfl) (off := 54) (tgt := 74) rfl (dl_at t_X28_costOf 12 rfl) (fun _ => ?_) (fun _ => ?_)
  · refine g_ls (ls2 := [(0, rv D a0), (1, iv a1), (2, iv a2), (3, iv a3), (4, iv a4), (7, jv x7_15)]) [2, 3, 4, 5, 1, 0] rfl ?_
    exact J74 x7_15 r7_15
  refine g_aload_n (pc := 23) X (j := 0) (i := 0) (q := 2) (x := a0) rfl rfl (dl_at t_X28_costOf 13 rfl) ?_
  refine r_geti (pc := 24) X fX28_8 hk q2547 (dl_at t_X28_costOf 14 rfl) fun g24 => ?_
  refine g_join (γ := Int) (fun q => r64 q) 47 (fun q => [(0, rv D a0), (1, iv a1), (2, iv a2), (3, iv a3), (4, iv a4), (7, jv x7_15)]) (fun q => [jv q]) (fun q => h) (fun q => m_X28_costOf_j47 x7_15 a4 a0 a1 a2 a3 q h) ?_ ?_
  · rintro s0_47 rs0_47
    try dsimp only
    unfold m_X28_costOf_j47
    refine g_lstore (pc := 47) X (i := 9) (x := s0_47) (rest := [(0, rv D a0), (1, iv a1), (2, iv a2), (3, iv a3), (4, iv a4), (7, jv x7_15)]) (Nat.le_of_ble_eq_true rfl) [0, 1, 2, 3, 4, 5] rfl rfl (dl_at t_X28_costOf 25 rfl) ?_
    refine g_lload (pc := 49) X (i := 7) (q := 6) (x := x7_15) rfl (dl_at t_X28_costOf 26 rfl) ?_
    refine g_ldc2 (pc := 51) X (index := 169) (n := 1000000000) q2899 (dl_at t_X28_costOf 27 rfl) ?_
    refine g_aload_n (pc := 54) X (j := 0) (i := 0) (q := 1) (x := a0) rfl rfl (dl_at t_X28_costOf 28 rfl) ?_
    refine g_iload_n (pc := 55) X (j := 1) (i := 1) (q := 2) (x := a1) rfl rfl (dl_at t_X28_costOf 29 rfl) ?_
    refine g_iload_n (pc := 56) X (j := 2) (i := 2) (q := 3) (x := a2) rfl rfl (dl_at t_X28_costOf 30 rfl) ?_
    refine r_callRl (pc := 57) X (fun _ hv => s_X28_natural hk r1 r2 hv) cw_code q2882 q396 (in_Vk X (As := [iv a1, iv a2]) kX28 hk (Or.inl q2879) q2881 qs179 cw_code q2882 ⟨by decide, by decide⟩ rfl (dl_at t_X28_costOf 31 rfl)) (dl_at t_X28_costOf 31 rfl) (cat24 (st := [jv 1000000000, jv x7_15]) (Nat.le_of_ble_eq_true rfl)) (Nat.le_of_ble_eq_true rfl) (Nat.le_of_ble_eq_true rfl) fun v57 g57 => ?_
    refine g_ladd (pc := 60) X (r64_c rfl) g57 (dl_at t_X28_costOf 32 rfl) ?_
    refine g_lload (pc := 61) X (i := 9) (q := 0) (x := s0_47) rfl (dl_at t_X28_costOf 33 rfl) ?_
    refine g_lsub (pc := 63) X (r64_w _) rs0_47 (dl_at t_X28_costOf 34 rfl) ?_
    refine g_aload_n (pc := 64) X (j := 0) (i := 0) (q := 1) (x := a0) rfl rfl (dl_at t_X28_costOf 35 rfl) ?_
    refine g_iload_n (pc := 65) X (j := 1) (i := 1) (q := 2) (x := a1) rfl rfl (dl_at t_X28_costOf 36 rfl) ?_
    refine r_callRi (pc := 66) X (fun _ hv => s_X28_widthOf hk r1 hv) cw_code q2890 q396 (in_Vk X (As := [iv a1]) kX28 hk (Or.inl q2887) q2889 qs181 cw_code q2890 ⟨by decide, by decide⟩ rfl (dl_at t_X28_costOf 37 rfl)) (dl_at t_X28_costOf 37 rfl) (cat24 (st := [jv (w64 ((w64 (1000000000 + v57)) - s0_47)), jv x7_15]) (Nat.le_of_ble_eq_true rfl)) (Nat.le_of_ble_eq_true rfl) (Nat.le_of_ble_eq_true rfl) fun v66 g66 => ?_
    refine g_i2l (pc := 69) X g66 (dl_at t_X28_costOf 38 rfl) ?_
    refine g_lsub (pc := 70) X (r64_w _) (r64_of g66) (dl_at t_X28_costOf 39 rfl) ?_
    refine g_ladd (pc := 71) X r7_15 (r64_w _) (dl_at t_X28_costOf 40 rfl) ?_
    refine g_ltl (r64_w _) fun x7_72 r7_72 => ?_
    refine g_lstore (pc := 72) X (i := 7) (x := x7_72) (rest := [(0, rv D a0), (1, iv a1), (2, iv a2), (3, iv a3), (4, iv a4)]) (Nat.le_of_ble_eq_true rfl) [1, 2, 3, 4, 5] rfl rfl (dl_at t_X28_costOf 41 rfl) ?_
    refine g_ls (ls2 := [(0, rv D a0), (1, iv a1), (2, iv a2), (3, iv a3), (4, iv a4), (7, jv x7_72)]) [1, 2, 3, 4, 5, 0] rfl ?_
    exact J74 x7_72 r7_72
  intro J47
  refine g_ifne (pc := 27) X g24 (off := 19) (tgt := 46) rfl (dl_at t_X28_costOf 15 rfl) (fun _ => ?_) (fun _ => ?_)
  · refine g_lconst0 (pc := 46) X (dl_at t_X28_costOf 24 rfl) ?_
    refine g_ls (ls2 := [(0, rv D a0), (1, iv a1), (2, iv a2), (3, iv a3), (4, iv a4), (7, jv x7_15)]) [2, 3, 4, 5, 1, 0] rfl ?_
    exact J47 0 (r64_c rfl)
  refine g_aload_n (pc := 30) X (j := 0) (i := 0) (q := 2) (x := a0) rfl rfl (dl_at t_X28_costOf 16 rfl) ?_
  refine g_aload_n (pc := 31) X (j := 0) (i := 0) (q := 2) (x := a0) rfl rfl (dl_at t_X28_costOf 17 rfl) ?_
  refine r_getr (pc := 32) X fX28_0 hk q2528 (dl_at t_X28_costOf 18 rfl) ?_
  refine g_gd fun k35 => ?_
  refine r_getrN (pc := 35) X fX15_11 k35 (nw_in q1153 rfl) (dl_at t_X28_costOf 19 rfl) ?_
  refine g_iload_n (pc := 38) X (j := 1) (i := 1) (q := 3) (x := a1) rfl rfl (dl_at t_X28_costOf 20 rfl) ?_
  refine g_iload_n (pc := 39) X (j := 2) (i := 2) (q := 4) (x := a2) rfl rfl (dl_at t_X28_costOf 21 rfl) ?_
  refine r_callRl (pc := 40) X (fun _ hv => s_X28_between hk r1 r2 hv) cw_code q2886 q396 (in_Vk X (As := [rv D (h (h a0 0) 11), iv a1, iv a2]) kX28 hk (Or.inl q2883) q2885 qs180 cw_code q2886 ⟨by decide, by decide⟩ rfl (dl_at t_X28_costOf 22 rfl)) (dl_at t_X28_costOf 22 rfl) (cat24 (st := []) (Nat.le_of_ble_eq_true rfl)) (Nat.le_of_ble_eq_true rfl) (Nat.le_of_ble_eq_true rfl) fun v40 g40 => ?_
  refine g_goto (pc := 43) X (off := 4) (tgt := 47) rfl (dl_at t_X28_costOf 23 rfl) ?_
  refine g_ls (ls2 := [(0, rv D a0), (1, iv a1), (2, iv a2), (3, iv a3), (4, iv a4), (7, jv x7_15)]) [2, 3, 4, 5, 1, 0] rfl ?_
  exact J47 v40 g40
def k_X28_isEarlier : List (Nat × Instr × Nat) := [(0, .iload_n 2, 1), (1, .istore 4, 2), (3, .iload_n 3, 1), (4, .istore 5, 2), (6, .iload 4, 2), (8, .iconst 4, 1), (9, .idiv, 1), (10, .ifCond .le 35, 3), (13, .iload 4, 2), (15, .iconst 4, 1), (16, .idiv, 1), (17, .iload 5, 2), (19, .iconst 4, 1), (20, .idiv, 1), (21, .if_icmp .ne 24, 3), (24, .aload_n 1, 1), (25, .getfield 201, 3), (28, .iload 4, 2), (30, .iaload, 1), (31, .istore 4, 2), (33, .aload_n 1, 1), (34, .getfield 201, 3), (37, .iload 5, 2), (39, .iaload, 1), (40, .istore 5, 2), (42, .goto (-36), 3), (45, .iload 4, 2), (47, .iconst 4, 1), (48, .idiv, 1), (49, .iload 5, 2), (51, .iconst 4, 1), (52, .idiv, 1), (53, .if_icmp .ge 7, 3), (56, .iconst 1, 1), (57, .goto 4, 3), (60, .iconst 0, 1), (61, .ireturn, 1)]
theorem t_X28_isEarlier : ∀ q ∈ k_X28_isEarlier, decode cX28_isEarlier q.1 = .ok q.2 := dl_all (by decide +kernel)
noncomputable def m_X28_isEarlier_l6 (a1 x4_6 x5_6 : Int) (h : Hp) : Option ((Int × Int) ⊕ ((Int × Int))) :=
  if (w32 (Int.tdiv x4_6 4)) ≤ 0 then (some (.inr (x4_6, x5_6)))
  else (if (w32 (Int.tdiv x4_6 4)) ≠ (w32 (Int.tdiv x5_6 4)) then (some (.inr (x4_6, x5_6)))
  else (gd (h a1 (-2) = 176) (gd (h (h a1 2) (-2) % 16 = 1 ∧ (0 : Int) ≤ x4_6 ∧ x4_6 < h (h a1 2) (-1)) (lt_ (h (h a1 2) x4_6) fun x4_31 =>
  gd (h (h a1 2) (-2) % 16 = 1 ∧ (0 : Int) ≤ x5_6 ∧ x5_6 < h (h a1 2) (-1)) (lt_ (h (h a1 2) x5_6) fun x5_40 =>
  some (.inl (x4_31, x5_40)))))))
noncomputable def m_X28_isEarlier (a0 a1 a2 a3 : Int) (h : Hp) : Option (Int) :=
  (lp (fun (q : Int × Int) => m_X28_isEarlier_l6 a1 q.1 q.2 h) (a2, a3)).bind (fun (y45 : Int × Int) => if (w32 (Int.tdiv y45.2 4)) ≤ (w32 (Int.tdiv y45.1 4)) then (some 0)
  else (some 1))
theorem s_X28_isEarlier {l : Launch} [NoTr l] {D : SD} {a0 a1 a2 a3 : Int} {h : Hp} (hk : h a0 (-2) = 288) (r2 : r32 a2) (r3 : r32 a3) {r : Int} (hm : m_X28_isEarlier a0 a1 a2 a3 h = some r) : Sim l D yX28_isEarlier (Cond.code yX28_isEarlier cX28_isEarlier 6 (Option.some Jvm.ClassFile.FieldType.boolean)) 0 0 [rv D a0, rv D a1, iv a2, iv a3] h 3 ((0, r), h) := by
  refine Sim.of (fin := fun (v : Int) => ((0, v), h)) (lsE := [(0, rv D a0), (1, rv D a1), (2, iv a2), (3, iv a3)]) hm rfl cwS_code (la_r (la_r (la_i (la_i la_n)))) (ll_r (ll_r (ll_i (ll_i ll_n)))) ?_
  intro p e s m below meth c X hcw hmm hcc hnm hname
  unfold m_X28_isEarlier
  refine g_iload_n (pc := 0) X (j := 2) (i := 2) (q := 2) (x := a2) rfl rfl (dl_at t_X28_isEarlier 0 rfl) ?_
  refine g_istoreN (pc := 1) X (i := 4) (x := a2) (b := 3) (w := iv a3) (rest := [(1, rv D a1)]) (Nat.le_of_ble_eq_true rfl) [3, 1] rfl (by decide) rfl rfl (dl_at t_X28_isEarlier 1 rfl) ?_
  refine g_iload_n (pc := 3) X (j := 3) (i := 3) (q := 1) (x := a3) rfl rfl (dl_at t_X28_isEarlier 2 rfl) ?_
  refine g_istoreN (pc := 4) X (i := 5) (x := a3) (b := 4) (w := iv a2) (rest := [(1, rv D a1)]) (Nat.le_of_ble_eq_true rfl) [0, 2] rfl (by decide) rfl rfl (dl_at t_X28_isEarlier 3 rfl) ?_
  refine g_ls (ls2 := [(1, rv D a1), (4, iv a2), (5, iv a3)]) [2, 1, 0] rfl ?_
  refine g_loop1 (fun (q : Int × Int) => [(1, rv D a1), (4, iv q.1), (5, iv q.2)]) (fun (q : Int × Int) => h) (fun (q : Int × Int) => r32 q.1 ∧ r32 q.2) 45 (fun (y45 : Int × Int) => [(4, iv y45.1), (5, iv y45.2)]) (fun (y45 : Int × Int) => h) (fun (y45 : Int × Int) => r32 y45.1 ∧ r32 y45.2) (a2, a3) ⟨r2, r3⟩ ?_ ?_
  · rintro ⟨x4_6, x5_6⟩ ⟨r4_6, r5_6⟩
    try dsimp only
    unfold m_X28_isEarlier_l6
    refine g_iload (pc := 6) X (i := 4) (q := 1) (x := x4_6) rfl (dl_at t_X28_isEarlier 4 rfl) ?_
    refine g_iconst (pc := 8) X (n := 4) (dl_at t_X28_isEarlier 5 rfl) ?_
    refine g_idiv (pc := 9) X r4_6 (r32_c rfl) (by decide) (dl_at t_X28_isEarlier 6 rfl) ?_
    refine g_ifle (pc := 10) X (r32_w _) (off := 35) (tgt := 45) rfl (dl_at t_X28_isEarlier 7 rfl) (fun _ => ?_) (fun _ => ?_)
    · refine g_ls (ls2 := [(4, iv x4_6), (5, iv x5_6)]) [1, 2] rfl ?_
      exact g_at fun Q hQ => hQ ⟨r4_6, r5_6⟩
    refine g_iload (pc := 13) X (i := 4) (q := 1) (x := x4_6) rfl (dl_at t_X28_isEarlier 8 rfl) ?_
    refine g_iconst (pc := 15) X (n := 4) (dl_at t_X28_isEarlier 9 rfl) ?_
    refine g_idiv (pc := 16) X r4_6 (r32_c rfl) (by decide) (dl_at t_X28_isEarlier 10 rfl) ?_
    refine g_iload (pc := 17) X (i := 5) (q := 2) (x := x5_6) rfl (dl_at t_X28_isEarlier 11 rfl) ?_
    refine g_iconst (pc := 19) X (n := 4) (dl_at t_X28_isEarlier 12 rfl) ?_
    refine g_idiv (pc := 20) X r5_6 (r32_c rfl) (by decide) (dl_at t_X28_isEarlier 13 rfl) ?_
    refine g_icmpne (pc := 21) X (r32_w _) (r32_w _) (off := 24) (tgt := 45) rfl (dl_at t_X28_isEarlier 14 rfl) (fun _ => ?_) (fun _ => ?_)
    · refine g_ls (ls2 := [(4, iv x4_6), (5, iv x5_6)]) [1, 2] rfl ?_
      exact g_at fun Q hQ => hQ ⟨r4_6, r5_6⟩
    refine g_aload_n (pc := 24) X (j := 1) (i := 1) (q := 0) (x := a1) rfl rfl (dl_at t_X28_isEarlier 15 rfl) ?_
    refine g_gd fun k25 => ?_
    refine r_getrN (pc := 25) X fX11_2 k25 (nw_in q970 rfl) (dl_at t_X28_isEarlier 16 rfl) ?_
    refine g_iload (pc := 28) X (i := 4) (q := 1) (x := x4_6) rfl (dl_at t_X28_isEarlier 17 rfl) ?_
    refine g_gd fun k30 => ?_
    refine g_iald (pc := 30) X r4_6 k30 (dl_at t_X28_isEarlier 18 rfl) fun g30 => ?_
    refine g_lti g30 fun x4_31 r4_31 => ?_
    refine g_istore (pc := 31) X (i := 4) (x := x4_31) (rest := [(1, rv D a1), (5, iv x5_6)]) (Nat.le_of_ble_eq_true rfl) [0, 2] rfl rfl (dl_at t_X28_isEarlier 19 rfl) ?_
    refine g_aload_n (pc := 33) X (j := 1) (i := 1) (q := 1) (x := a1) rfl rfl (dl_at t_X28_isEarlier 20 rfl) ?_
    refine r_getrN (pc := 34) X fX11_2 k25 (nw_in q970 rfl) (dl_at t_X28_isEarlier 21 rfl) ?_
    refine g_iload (pc := 37) X (i := 5) (q := 2) (x := x5_6) rfl (dl_at t_X28_isEarlier 22 rfl) ?_
    refine g_gd fun k39 => ?_
    refine g_iald (pc := 39) X r5_6 k39 (dl_at t_X28_isEarlier 23 rfl) fun g39 => ?_
    refine g_lti g39 fun x5_40 r5_40 => ?_
    refine g_istoreN (pc := 40) X (i := 5) (x := x5_40) (b := 4) (w := iv x4_31) (rest := [(1, rv D a1)]) (Nat.le_of_ble_eq_true rfl) [0, 1] rfl (by decide) rfl rfl (dl_at t_X28_isEarlier 24 rfl) ?_
    refine g_goto (pc := 42) X (off := (-36)) (tgt := 6) rfl (dl_at t_X28_isEarlier 25 rfl) ?_
    refine g_ls (ls2 := [(1, rv D a1), (4, iv x4_31), (5, iv x5_40)]) [2, 1, 0] rfl ?_
    exact g_at fun Q hQ => hQ ⟨r4_31, r5_40⟩
  · rintro ⟨x4_45, x5_45⟩ ⟨r4_45, r5_45⟩
    try dsimp only [sE]
    refine g_iload (pc := 45) X (i := 4) (q := 0) (x := x4_45) rfl (dl_at t_X28_isEarlier 26 rfl) ?_
    refine g_iconst (pc := 47) X (n := 4) (dl_at t_X28_isEarlier 27 rfl) ?_
    refine g_idiv (pc := 48) X r4_45 (r32_c rfl) (by decide) (dl_at t_X28_isEarlier 28 rfl) ?_
    refine g_iload (pc := 49) X (i := 5) (q := 1) (x := x5_45) rfl (dl_at t_X28_isEarlier 29 rfl) ?_
    refine g_iconst (pc := 51) X (n := 4) (dl_at t_X28_isEarlier 30 rfl) ?_
    refine g_idiv (pc := 52) X r5_45 (r32_c rfl) (by decide) (dl_at t_X28_isEarlier 31 rfl) ?_
    refine g_icmpge (pc := 53) X (r32_w _) (r32_w _) (off := 7) (tgt := 60) rfl (dl_at t_X28_isEarlier 32 rfl) (fun _ => ?_) (fun _ => ?_)
    · refine g_iconst (pc := 60) X (n := 0) (dl_at t_X28_isEarlier 35 rfl) ?_
      exact g_zret (pc := 61) X (Or.inl rfl) rfl rfl (dl_at t_X28_isEarlier 36 rfl)
    refine g_iconst (pc := 56) X (n := 1) (dl_at t_X28_isEarlier 33 rfl) ?_
    refine g_goto (pc := 57) X (off := 4) (tgt := 61) rfl (dl_at t_X28_isEarlier 34 rfl) ?_
    exact g_zret (pc := 61) X (Or.inr rfl) rfl rfl (dl_at t_X28_isEarlier 36 rfl)
def k_X28_take : List (Nat × Instr × Nat) := [(0, .aload_n 1, 1), (1, .getfield 201, 3), (4, .iload_n 2, 1), (5, .iaload, 1), (6, .ifCond .lt 42, 3), (9, .lload 4, 2), (11, .aload_n 1, 1), (12, .getfield 219, 3), (15, .iload_n 2, 1), (16, .laload, 1), (17, .lcmp, 1), (18, .ifCond .lt 30, 3), (21, .lload 4, 2), (23, .aload_n 1, 1), (24, .getfield 219, 3), (27, .iload_n 2, 1), (28, .laload, 1), (29, .lcmp, 1), (30, .ifCond .ne 33, 3), (33, .aload_n 0, 1), (34, .aload_n 1, 1), (35, .iload_n 3, 1), (36, .aload_n 1, 1), (37, .getfield 201, 3), (40, .iload_n 2, 1), (41, .iaload, 1), (42, .invokevirtual 222, 3), (45, .ifCond .eq 18, 3), (48, .aload_n 1, 1), (49, .getfield 219, 3), (52, .iload_n 2, 1), (53, .lload 4, 2), (55, .lastore, 1), (56, .aload_n 1, 1), (57, .getfield 201, 3), (60, .iload_n 2, 1), (61, .iload_n 3, 1), (62, .iastore, 1), (63, .return_, 1)]
theorem t_X28_take : ∀ q ∈ k_X28_take, decode cX28_take q.1 = .ok q.2 := dl_all (by decide +kernel)
noncomputable def m_X28_take_j48 (a1 a2 a3 a4 : Int) (h : Hp) : Option (Hp) :=
  gd (h (h a1 1) (-2) % 16 = 4 ∧ (0 : Int) ≤ a2 ∧ a2 < h (h a1 1) (-1)) (pt h (h a1 1) a2 a4 fun h55 =>
  gd (h55 (h55 a1 2) (-2) % 16 = 1 ∧ (0 : Int) ≤ a2 ∧ a2 < h55 (h55 a1 2) (-1)) (pt h55 (h55 a1 2) a2 a3 fun h62 =>
  some h62))
noncomputable def m_X28_take (a0 a1 a2 a3 a4 : Int) (h : Hp) : Option (Hp) :=
  gd (h a1 (-2) = 176) (gd (h (h a1 2) (-2) % 16 = 1 ∧ (0 : Int) ≤ a2 ∧ a2 < h (h a1 2) (-1)) (if (h (h a1 2) a2) < 0 then (m_X28_take_j48 a1 a2 a3 a4 h)
  else (gd (h (h a1 1) (-2) % 16 = 4 ∧ (0 : Int) ≤ a2 ∧ a2 < h (h a1 1) (-1)) (if (lcmp_ a4 (h (h a1 1) a2)) < 0 then (m_X28_take_j48 a1 a2 a3 a4 h)
  else (if (lcmp_ a4 (h (h a1 1) a2)) ≠ 0 then (some h)
  else ((m_X28_isEarlier a0 a1 a3 (h (h a1 2) a2) h).bind fun v42 =>
  if v42 = 0 then (some h)
  else (m_X28_take_j48 a1 a2 a3 a4 h)))))))
theorem s_X28_take {l : Launch} [NoTr l] {D : SD} {a0 a1 a2 a3 a4 : Int} {h : Hp} (hk : h a0 (-2) = 288) (r2 : r32 a2) (r3 : r32 a3) (r4 : r64 a4) {r : Hp} (hm : m_X28_take a0 a1 a2 a3 a4 h = some r) : Sim l D yX28_take (Cond.code yX28_take cX28_take 6 (Option.none : Option Jvm.ClassFile.FieldType)) 1 41 [rv D a0, rv D a1, iv a2, iv a3, jv a4] h 0 ((0, 0), r) := by
  refine Sim.of (fin := fun (v : Hp) => ((0, 0), v)) (lsE := [(0, rv D a0), (1, rv D a1), (2, iv a2), (3, iv a3), (4, jv a4)]) hm rfl cwS_code (la_r (la_r (la_i (la_i (la_j la_n))))) (ll_r (ll_r (ll_i (ll_i (ll_j ll_n))))) ?_
  intro p e s m below meth c X hcw hmm hcc hnm hname
  unfold m_X28_take
  refine g_aload_n (pc := 0) X (j := 1) (i := 1) (q := 1) (x := a1) rfl rfl (dl_at t_X28_take 0 rfl) ?_
  refine g_gd fun k1 => ?_
  refine r_getrN (pc := 1) X fX11_2 k1 (nw_in q970 rfl) (dl_at t_X28_take 1 rfl) ?_
  refine g_iload_n (pc := 4) X (j := 2) (i := 2) (q := 2) (x := a2) rfl rfl (dl_at t_X28_take 2 rfl) ?_
  refine g_gd fun k5 => ?_
  refine g_iald (pc := 5) X r2 k5 (dl_at t_X28_take 3 rfl) fun g5 => ?_
  refine g_join (γ := Unit) (fun q => True) 48 (fun q => [(1, rv D a1), (2, iv a2), (3, iv a3), (4, jv a4)]) (fun q => []) (fun q => h) (fun q => m_X28_take_j48 a1 a2 a3 a4 h) ?_ ?_
  · rintro _ _
    try dsimp only
    unfold m_X28_take_j48
    refine g_aload_n (pc := 48) X (j := 1) (i := 1) (q := 0) (x := a1) rfl rfl (dl_at t_X28_take 28 rfl) ?_
    refine r_getrN (pc := 49) X fX11_1 k1 (nw_in q968 rfl) (dl_at t_X28_take 29 rfl) ?_
    refine g_iload_n (pc := 52) X (j := 2) (i := 2) (q := 1) (x := a2) rfl rfl (dl_at t_X28_take 30 rfl) ?_
    refine g_lload (pc := 53) X (i := 4) (q := 3) (x := a4) rfl (dl_at t_X28_take 31 rfl) ?_
    refine g_gd fun k55 => ?_
    refine r_last (pc := 55) X r2 r4 k55 (dl_at t_X28_take 32 rfl) (fun h55 E55 => ?_)
    refine g_aload_n (pc := 56) X (j := 1) (i := 1) (q := 0) (x := a1) rfl rfl (dl_at t_X28_take 33 rfl) ?_
    have k57 := kx E55 (by decide) k1
    refine r_getrN (pc := 57) X fX11_2 k57 (nw_in q970 rfl) (dl_at t_X28_take 34 rfl) ?_
    refine g_iload_n (pc := 60) X (j := 2) (i := 2) (q := 1) (x := a2) rfl rfl (dl_at t_X28_take 35 rfl) ?_
    refine g_iload_n (pc := 61) X (j := 3) (i := 3) (q := 2) (x := a3) rfl rfl (dl_at t_X28_take 36 rfl) ?_
    refine g_gd fun k62 => ?_
    refine r_iast (pc := 62) X r2 r3 k62 (dl_at t_X28_take 37 rfl) (fun h62 E62 => ?_)
    exact g_vret (pc := 63) X (v := 0) rfl rfl (dl_at t_X28_take 38 rfl)
  intro J48
  refine g_iflt (pc := 6) X g5 (off := 42) (tgt := 48) rfl (dl_at t_X28_take 4 rfl) (fun _ => ?_) (fun _ => ?_)
  · refine g_ls (ls2 := [(1, rv D a1), (2, iv a2), (3, iv a3), (4, jv a4)]) [1, 2, 3, 4] rfl ?_
    exact J48 () trivial
  refine g_lload (pc := 9) X (i := 4) (q := 4) (x := a4) rfl (dl_at t_X28_take 5 rfl) ?_
  refine g_aload_n (pc := 11) X (j := 1) (i := 1) (q := 1) (x := a1) rfl rfl (dl_at t_X28_take 6 rfl) ?_
  refine r_getrN (pc := 12) X fX11_1 k1 (nw_in q968 rfl) (dl_at t_X28_take 7 rfl) ?_
  refine g_iload_n (pc := 15) X (j := 2) (i := 2) (q := 2) (x := a2) rfl rfl (dl_at t_X28_take 8 rfl) ?_
  refine g_gd fun k16 => ?_
  refine g_lald (pc := 16) X r2 k16 (dl_at t_X28_take 9 rfl) fun g16 => ?_
  refine g_lcmp (pc := 17) X r4 g16 (dl_at t_X28_take 10 rfl) ?_
  refine g_iflt (pc := 18) X (r32_lcmp _ _) (off := 30) (tgt := 48) rfl (dl_at t_X28_take 11 rfl) (fun _ => ?_) (fun _ => ?_)
  · refine g_ls (ls2 := [(1, rv D a1), (2, iv a2), (3, iv a3), (4, jv a4)]) [1, 2, 3, 4] rfl ?_
    exact J48 () trivial
  refine g_lload (pc := 21) X (i := 4) (q := 4) (x := a4) rfl (dl_at t_X28_take 12 rfl) ?_
  refine g_aload_n (pc := 23) X (j := 1) (i := 1) (q := 1) (x := a1) rfl rfl (dl_at t_X28_take 13 rfl) ?_
  refine r_getrN (pc := 24) X fX11_1 k1 (nw_in q968 rfl) (dl_at t_X28_take 14 rfl) ?_
  refine g_iload_n (pc := 27) X (j := 2) (i := 2) (q := 2) (x := a2) rfl rfl (dl_at t_X28_take 15 rfl) ?_
  refine g_lald (pc := 28) X r2 k16 (dl_at t_X28_take 16 rfl) fun g28 => ?_
  refine g_lcmp (pc := 29) X r4 g28 (dl_at t_X28_take 17 rfl) ?_
  refine g_ifne (pc := 30) X (r32_lcmp _ _) (off := 33) (tgt := 63) rfl (dl_at t_X28_take 18 rfl) (fun _ => ?_) (fun _ => ?_)
  · exact g_vret (pc := 63) X (v := 0) rfl rfl (dl_at t_X28_take 38 rfl)
  refine g_aload_n (pc := 33) X (j := 0) (i := 0) (q := 0) (x := a0) rfl rfl (dl_at t_X28_take 19 rfl) ?_
  refine g_aload_n (pc := 34) X (j := 1) (i := 1) (q := 1) (x := a1) rfl rfl (dl_at t_X28_take 20 rfl) ?_
  refine g_iload_n (pc := 35) X (j := 3) (i := 3) (q := 3) (x := a3) rfl rfl (dl_at t_X28_take 21 rfl) ?_
  refine g_aload_n (pc := 36) X (j := 1) (i := 1) (q := 1) (x := a1) rfl rfl (dl_at t_X28_take 22 rfl) ?_
  refine r_getrN (pc := 37) X fX11_2 k1 (nw_in q970 rfl) (dl_at t_X28_take 23 rfl) ?_
  refine g_iload_n (pc := 40) X (j := 2) (i := 2) (q := 2) (x := a2) rfl rfl (dl_at t_X28_take 24 rfl) ?_
  refine g_iald (pc := 41) X r2 k5 (dl_at t_X28_take 25 rfl) fun g41 => ?_
  refine r_callRz (pc := 42) X (fun _ hv => s_X28_isEarlier hk r3 g41 hv) cw_code q2927 q396 (in_Vk X (As := [rv D a1, iv a3, iv (h (h a1 2) a2)]) kX28 hk (Or.inl q2924) q2926 qs186 cw_code q2927 ⟨by decide, by decide⟩ rfl (dl_at t_X28_take 26 rfl)) (dl_at t_X28_take 26 rfl) (cat24 (st := []) (Nat.le_of_ble_eq_true rfl)) (Nat.le_of_ble_eq_true rfl) (Nat.le_of_ble_eq_true rfl) fun v42 g42 => ?_
  refine g_ifeq (pc := 45) X (r32_z g42) (off := 18) (tgt := 63) rfl (dl_at t_X28_take 27 rfl) (fun _ => ?_) (fun _ => ?_)
  · exact g_vret (pc := 63) X (v := 0) rfl rfl (dl_at t_X28_take 38 rfl)
  refine g_ls (ls2 := [(1, rv D a1), (2, iv a2), (3, iv a3), (4, jv a4)]) [1, 2, 3, 4] rfl ?_
  exact J48 () trivial
def k_X28_reach : List (Nat × Instr × Nat) := [(0, .iconst 4, 1), (1, .iload_n 3, 1), (2, .imul, 1), (3, .iload 4, 2), (5, .invokestatic 187, 3), (8, .iadd, 1), (9, .istore 5, 2), (11, .iload_n 2, 1), (12, .ifCond .ne 21, 3), (15, .aload_n 0, 1), (16, .aload_n 1, 1), (17, .iload 5, 2), (19, .iconst 0, 1), (20, .aload_n 0, 1), (21, .iconst 0, 1), (22, .iload_n 3, 1), (23, .iload 4, 2), (25, .iconst 1, 1), (26, .invokevirtual 211, 3), (29, .invokevirtual 215, 3), (32, .return_, 1), (33, .iconst 0, 1), (34, .istore 6, 2), (36, .iload 6, 2), (38, .iconst 4, 1), (39, .if_icmp .ge 54, 3), (42, .iconst 4, 1), (43, .iload_n 2, 1), (44, .imul, 1), (45, .iload 6, 2), (47, .iadd, 1), (48, .istore 7, 2), (50, .aload_n 1, 1), (51, .getfield 201, 3), (54, .iload 7, 2), (56, .iaload, 1), (57, .ifCond .lt 30, 3), (60, .aload_n 0, 1), (61, .aload_n 1, 1), (62, .iload 5, 2), (64, .iload 7, 2), (66, .aload_n 1, 1), (67, .getfield 219, 3), (70, .iload 7, 2), (72, .laload, 1), (73, .aload_n 0, 1), (74, .iload_n 2, 1), (75, .iload_n 3, 1), (76, .iload 4, 2), (78, .iload 6, 2), (80, .invokevirtual 211, 3), (83, .ladd, 1), (84, .invokevirtual 215, 3), (87, .iinc 6 1, 3), (90, .goto (-54), 3), (93, .return_, 1)]
theorem t_X28_reach : ∀ q ∈ k_X28_reach, decode cX28_reach q.1 = .ok q.2 := dl_all (by decide +kernel)
noncomputable def m_X28_reach_j87 (x6_36 : Int) (h_87 : Hp) : Option ((Int × Hp) ⊕ ((Hp))) :=
  lt_ (w32 (x6_36 + 1)) fun x6_87 =>
  some (.inl (x6_87, h_87))
noncomputable def m_X28_reach_l36 (a0 a1 a2 a3 a4 x5_9 x6_36 : Int) (h_36 : Hp) : Option ((Int × Hp) ⊕ ((Hp))) :=
  if 4 ≤ x6_36 then (some (.inr h_36))
  else (lt_ (w32 ((w32 (4 * a2)) + x6_36)) fun x7_48 =>
  gd (h_36 a1 (-2) = 176) (gd (h_36 (h_36 a1 2) (-2) % 16 = 1 ∧ (0 : Int) ≤ x7_48 ∧ x7_48 < h_36 (h_36 a1 2) (-1)) (if (h_36 (h_36 a1 2) x7_48) < 0 then (m_X28_reach_j87 x6_36 h_36)
  else (gd (h_36 (h_36 a1 1) (-2) % 16 = 4 ∧ (0 : Int) ≤ x7_48 ∧ x7_48 < h_36 (h_36 a1 1) (-1)) ((m_X28_costOf a0 a2 a3 a4 x6_36 h_36).bind fun v80 =>
  (m_X28_take a0 a1 x5_9 x7_48 (w64 ((h_36 (h_36 a1 1) x7_48) + v80)) h_36).bind fun h84 =>
  m_X28_reach_j87 x6_36 h84)))))
noncomputable def m_X28_reach (a0 a1 a2 a3 a4 : Int) (h : Hp) : Option (Hp) :=
  (m_X28_classOf a4).bind fun v5 =>
  lt_ (w32 ((w32 (4 * a3)) + v5)) fun x5_9 =>
  if a2 ≠ 0 then (lt_ 0 fun x6_34 =>
  (lp (fun (q : Int × Hp) => m_X28_reach_l36 a0 a1 a2 a3 a4 x5_9 q.1 q.2) (x6_34, h)).bind (fun (x : Hp) => some x))
  else ((m_X28_costOf a0 0 a3 a4 1 h).bind fun v26 =>
  (m_X28_take a0 a1 x5_9 0 v26 h).bind fun h29 =>
  some h29)
theorem s_X28_reach {l : Launch} [NoTr l] {D : SD} {a0 a1 a2 a3 a4 : Int} {h : Hp} (hk : h a0 (-2) = 288) (r2 : r32 a2) (r3 : r32 a3) (r4 : r32 a4) {r : Hp} (hm : m_X28_reach a0 a1 a2 a3 a4 h = some r) : Sim l D yX28_reach (Cond.code yX28_reach cX28_reach 8 (Option.none : Option Jvm.ClassFile.FieldType)) 3 123 [rv D a0, rv D a1, iv a2, iv a3, iv a4] h 0 ((0, 0), r) := by
  refine Sim.of (fin := fun (v : Hp) => ((0, 0), v)) (lsE := [(0, rv D a0), (1, rv D a1), (2, iv a2), (3, iv a3), (4, iv a4)]) hm rfl cwS_code (la_r (la_r (la_i (la_i (la_i la_n))))) (ll_r (ll_r (ll_i (ll_i (ll_i ll_n))))) ?_
  intro p e s m below meth c X hcw hmm hcc hnm hname
  unfold m_X28_reach
  refine g_iconst (pc := 0) X (n := 4) (dl_at t_X28_reach 0 rfl) ?_
  refine g_iload_n (pc := 1) X (j := 3) (i := 3) (q := 3) (x := a3) rfl rfl (dl_at t_X28_reach 1 rfl) ?_
  refine g_imul (pc := 2) X (r32_c rfl) r3 (dl_at t_X28_reach 2 rfl) ?_
  refine g_iload (pc := 3) X (i := 4) (q := 4) (x := a4) rfl (dl_at t_X28_reach 3 rfl) ?_
  refine r_callRi (pc := 5) X (fun _ hv => s_X28_classOf r4 hv) cw_code q2907 q396 (in_Sc X (As := [iv a4]) (Or.inl q2905) q2906 q396 q2907 ⟨by decide, by decide⟩ rfl (dl_at t_X28_reach 4 rfl)) (dl_at t_X28_reach 4 rfl) (cat24 (st := [iv (w32 (4 * a3))]) (Nat.le_of_ble_eq_true rfl)) (Nat.le_of_ble_eq_true rfl) (Nat.le_of_ble_eq_true rfl) fun v5 g5 => ?_
  refine g_iadd (pc := 8) X (r32_w _) g5 (dl_at t_X28_reach 5 rfl) ?_
  refine g_lti (r32_w _) fun x5_9 r5_9 => ?_
  refine g_istoreN (pc := 9) X (i := 5) (x := x5_9) (b := 4) (w := iv a4) (rest := [(0, rv D a0), (1, rv D a1), (2, iv a2), (3, iv a3)]) (Nat.le_of_ble_eq_true rfl) [4, 0, 1, 2, 3] rfl (by decide) rfl rfl (dl_at t_X28_reach 6 rfl) ?_
  refine g_iload_n (pc := 11) X (j := 2) (i := 2) (q := 4) (x := a2) rfl rfl (dl_at t_X28_reach 7 rfl) ?_
  refine g_ifne (pc := 12) X r2 (off := 21) (tgt := 33) rfl (dl_at t_X28_reach 8 rfl) (fun _ => ?_) (fun _ => ?_)
  · refine g_iconst (pc := 33) X (n := 0) (dl_at t_X28_reach 21 rfl) ?_
    refine g_ltz (Or.inl rfl) fun x6_34 r6_34 => ?_
    refine g_istoreN (pc := 34) X (i := 6) (x := x6_34) (b := 5) (w := iv x5_9) (rest := [(4, iv a4), (0, rv D a0), (1, rv D a1), (2, iv a2), (3, iv a3)]) (Nat.le_of_ble_eq_true rfl) [0, 1, 2, 3, 4, 5] rfl (by decide) rfl rfl (dl_at t_X28_reach 22 rfl) ?_
    refine g_ls (ls2 := [(0, rv D a0), (1, rv D a1), (2, iv a2), (3, iv a3), (4, iv a4), (5, iv x5_9), (6, iv x6_34)]) [3, 4, 5, 6, 2, 1, 0] rfl ?_
    refine g_loop0F (fun (q : Int × Hp) => [(0, rv D a0), (1, rv D a1), (2, iv a2), (3, iv a3), (4, iv a4), (5, iv x5_9), (6, iv q.1)]) (fun (q : Int × Hp) => q.2) (fun (q : Int × Hp) => r32 q.1 ∧ Ext h q.2) (x6_34, h) ⟨(r32_z r6_34), (Ext.refl _)⟩ ?_ (fun _ => rfl)
    · rintro ⟨x6_36, h_36⟩ ⟨r6_36, E_36⟩
      try dsimp only
      unfold m_X28_reach_l36
      refine g_iload (pc := 36) X (i := 6) (q := 6) (x := x6_36) rfl (dl_at t_X28_reach 23 rfl) ?_
      refine g_iconst (pc := 38) X (n := 4) (dl_at t_X28_reach 24 rfl) ?_
      refine g_icmpge (pc := 39) X r6_36 (r32_c rfl) (off := 54) (tgt := 93) rfl (dl_at t_X28_reach 25 rfl) (fun _ => ?_) (fun _ => ?_)
      · exact g_at fun Q hQ => (g_vret (pc := 93) X (v := 0) rfl rfl (dl_at t_X28_reach 55 rfl)) _ Q rfl hQ
      refine g_iconst (pc := 42) X (n := 4) (dl_at t_X28_reach 26 rfl) ?_
      refine g_iload_n (pc := 43) X (j := 2) (i := 2) (q := 2) (x := a2) rfl rfl (dl_at t_X28_reach 27 rfl) ?_
      refine g_imul (pc := 44) X (r32_c rfl) r2 (dl_at t_X28_reach 28 rfl) ?_
      refine g_iload (pc := 45) X (i := 6) (q := 6) (x := x6_36) rfl (dl_at t_X28_reach 29 rfl) ?_
      refine g_iadd (pc := 47) X (r32_w _) r6_36 (dl_at t_X28_reach 30 rfl) ?_
      refine g_lti (r32_w _) fun x7_48 r7_48 => ?_
      refine g_istoreN (pc := 48) X (i := 7) (x := x7_48) (b := 6) (w := iv x6_36) (rest := [(0, rv D a0), (1, rv D a1), (2, iv a2), (3, iv a3), (4, iv a4), (5, iv x5_9)]) (Nat.le_of_ble_eq_true rfl) [6, 0, 1, 2, 3, 4, 5] rfl (by decide) rfl rfl (dl_at t_X28_reach 31 rfl) ?_
      refine g_aload_n (pc := 50) X (j := 1) (i := 1) (q := 3) (x := a1) rfl rfl (dl_at t_X28_reach 32 rfl) ?_
      refine g_gd fun k51 => ?_
      refine r_getrN (pc := 51) X fX11_2 k51 (nw_in q970 rfl) (dl_at t_X28_reach 33 rfl) ?_
      refine g_iload (pc := 54) X (i := 7) (q := 0) (x := x7_48) rfl (dl_at t_X28_reach 34 rfl) ?_
      refine g_gd fun k56 => ?_
      refine g_iald (pc := 56) X r7_48 k56 (dl_at t_X28_reach 35 rfl) fun g56 => ?_
      refine g_join (γ := Hp) (fun q => Ext h_36 q) 87 (fun q => [(0, rv D a0), (1, rv D a1), (2, iv a2), (3, iv a3), (4, iv a4), (5, iv x5_9), (6, iv x6_36)]) (fun q => []) (fun q => q) (fun q => m_X28_reach_j87 x6_36 q) ?_ ?_
      · rintro h_87 E_87
        try dsimp only
        unfold m_X28_reach_j87
        refine r_iincN (pc := 87) X (i := 6) (q := 6) (n := 1) (x := x6_36) (b := 5) (w := iv x5_9) (rest := [(0, rv D a0), (1, rv D a1), (2, iv a2), (3, iv a3), (4, iv a4)]) rfl r6_36 (r32_c rfl) (Nat.le_of_ble_eq_true rfl) [5, 0, 1, 2, 3, 4] rfl (by decide) rfl rfl (dl_at t_X28_reach 53 rfl) fun x6_87 r6_87 => ?_
        refine g_goto (pc := 90) X (off := (-54)) (tgt := 36) rfl (dl_at t_X28_reach 54 rfl) ?_
        refine g_ls (ls2 := [(0, rv D a0), (1, rv D a1), (2, iv a2), (3, iv a3), (4, iv a4), (5, iv x5_9), (6, iv x6_87)]) [2, 3, 4, 5, 6, 1, 0] rfl ?_
        exact g_at fun Q hQ => hQ ⟨r6_87, (E_36.trans E_87)⟩
      intro J87
      refine g_iflt (pc := 57) X g56 (off := 30) (tgt := 87) rfl (dl_at t_X28_reach 36 rfl) (fun _ => ?_) (fun _ => ?_)
      · refine g_ls (ls2 := [(0, rv D a0), (1, rv D a1), (2, iv a2), (3, iv a3), (4, iv a4), (5, iv x5_9), (6, iv x6_36)]) [2, 3, 4, 5, 6, 7, 1] rfl ?_
        exact J87 h_36 (Ext.refl _)
      refine g_aload_n (pc := 60) X (j := 0) (i := 0) (q := 2) (x := a0) rfl rfl (dl_at t_X28_reach 37 rfl) ?_
      refine g_aload_n (pc := 61) X (j := 1) (i := 1) (q := 3) (x := a1) rfl rfl (dl_at t_X28_reach 38 rfl) ?_
      refine g_iload (pc := 62) X (i := 5) (q := 7) (x := x5_9) rfl (dl_at t_X28_reach 39 rfl) ?_
      refine g_iload (pc := 64) X (i := 7) (q := 0) (x := x7_48) rfl (dl_at t_X28_reach 40 rfl) ?_
      refine g_aload_n (pc := 66) X (j := 1) (i := 1) (q := 3) (x := a1) rfl rfl (dl_at t_X28_reach 41 rfl) ?_
      refine r_getrN (pc := 67) X fX11_1 k51 (nw_in q968 rfl) (dl_at t_X28_reach 42 rfl) ?_
      refine g_iload (pc := 70) X (i := 7) (q := 0) (x := x7_48) rfl (dl_at t_X28_reach 43 rfl) ?_
      refine g_gd fun k72 => ?_
      refine g_lald (pc := 72) X r7_48 k72 (dl_at t_X28_reach 44 rfl) fun g72 => ?_
      refine g_aload_n (pc := 73) X (j := 0) (i := 0) (q := 2) (x := a0) rfl rfl (dl_at t_X28_reach 45 rfl) ?_
      refine g_iload_n (pc := 74) X (j := 2) (i := 2) (q := 4) (x := a2) rfl rfl (dl_at t_X28_reach 46 rfl) ?_
      refine g_iload_n (pc := 75) X (j := 3) (i := 3) (q := 5) (x := a3) rfl rfl (dl_at t_X28_reach 47 rfl) ?_
      refine g_iload (pc := 76) X (i := 4) (q := 6) (x := a4) rfl (dl_at t_X28_reach 48 rfl) ?_
      refine g_iload (pc := 78) X (i := 6) (q := 1) (x := x6_36) rfl (dl_at t_X28_reach 49 rfl) ?_
      have k80 := kx E_36 (by decide) hk
      refine r_callRl (pc := 80) X (fun _ hv => s_X28_costOf k80 r2 r3 r4 r6_36 hv) cw_code q2911 q396 (in_Vk X (As := [iv a2, iv a3, iv a4, iv x6_36]) kX28 k80 (Or.inl q2908) q2910 qs183 cw_code q2911 ⟨by decide, by decide⟩ rfl (dl_at t_X28_reach 50 rfl)) (dl_at t_X28_reach 50 rfl) (cat24 (st := [jv (h_36 (h_36 a1 1) x7_48), iv x7_48, iv x5_9, rv D a1, rv D a0]) (Nat.le_of_ble_eq_true rfl)) (Nat.le_of_ble_eq_true rfl) (Nat.le_of_ble_eq_true rfl) fun v80 g80 => ?_
      refine g_ladd (pc := 83) X g72 g80 (dl_at t_X28_reach 51 rfl) ?_
      refine r_callV (pc := 84) X (fun _ hv => s_X28_take k80 r5_9 r7_48 (r64_w _) hv) cw_code q2923 q396 (in_Vk X (As := [rv D a1, iv x5_9, iv x7_48, jv (w64 ((h_36 (h_36 a1 1) x7_48) + v80))]) kX28 k80 (Or.inl q2920) q2922 qs185 cw_code q2923 ⟨by decide, by decide⟩ rfl (dl_at t_X28_reach 52 rfl)) (dl_at t_X28_reach 52 rfl) (cat24 (st := []) (Nat.le_of_ble_eq_true rfl)) (Nat.le_of_ble_eq_true rfl) (Nat.le_of_ble_eq_true rfl) fun h84 E84 => ?_
      refine g_ls (ls2 := [(0, rv D a0), (1, rv D a1), (2, iv a2), (3, iv a3), (4, iv a4), (5, iv x5_9), (6, iv x6_36)]) [2, 3, 4, 5, 6, 7, 1] rfl ?_
      exact J87 h84 E84
  refine g_aload_n (pc := 15) X (j := 0) (i := 0) (q := 2) (x := a0) rfl rfl (dl_at t_X28_reach 9 rfl) ?_
  refine g_aload_n (pc := 16) X (j := 1) (i := 1) (q := 3) (x := a1) rfl rfl (dl_at t_X28_reach 10 rfl) ?_
  refine g_iload (pc := 17) X (i := 5) (q := 0) (x := x5_9) rfl (dl_at t_X28_reach 11 rfl) ?_
  refine g_iconst (pc := 19) X (n := 0) (dl_at t_X28_reach 12 rfl) ?_
  refine g_aload_n (pc := 20) X (j := 0) (i := 0) (q := 2) (x := a0) rfl rfl (dl_at t_X28_reach 13 rfl) ?_
  refine g_iconst (pc := 21) X (n := 0) (dl_at t_X28_reach 14 rfl) ?_
  refine g_iload_n (pc := 22) X (j := 3) (i := 3) (q := 5) (x := a3) rfl rfl (dl_at t_X28_reach 15 rfl) ?_
  refine g_iload (pc := 23) X (i := 4) (q := 1) (x := a4) rfl (dl_at t_X28_reach 16 rfl) ?_
  refine g_iconst (pc := 25) X (n := 1) (dl_at t_X28_reach 17 rfl) ?_
  refine r_callRl (pc := 26) X (fun _ hv => s_X28_costOf hk (r32_c rfl) r3 r4 (r32_c rfl) hv) cw_code q2911 q396 (in_Vk X (As := [iv 0, iv a3, iv a4, iv 1]) kX28 hk (Or.inl q2908) q2910 qs183 cw_code q2911 ⟨by decide, by decide⟩ rfl (dl_at t_X28_reach 18 rfl)) (dl_at t_X28_reach 18 rfl) (cat24 (st := [iv 0, iv x5_9, rv D a1, rv D a0]) (Nat.le_of_ble_eq_true rfl)) (Nat.le_of_ble_eq_true rfl) (Nat.le_of_ble_eq_true rfl) fun v26 g26 => ?_
  refine r_callV (pc := 29) X (fun _ hv => s_X28_take hk r5_9 (r32_c rfl) g26 hv) cw_code q2923 q396 (in_Vk X (As := [rv D a1, iv x5_9, iv 0, jv v26]) kX28 hk (Or.inl q2920) q2922 qs185 cw_code q2923 ⟨by decide, by decide⟩ rfl (dl_at t_X28_reach 19 rfl)) (dl_at t_X28_reach 19 rfl) (cat24 (st := []) (Nat.le_of_ble_eq_true rfl)) (Nat.le_of_ble_eq_true rfl) (Nat.le_of_ble_eq_true rfl) fun h29 E29 => ?_
  exact g_vret (pc := 32) X (v := 0) rfl rfl (dl_at t_X28_reach 20 rfl)
def k_X28_search : List (Nat × Instr × Nat) := [(0, .iconst 0, 1), (1, .istore_n 2, 1), (2, .iload_n 2, 1), (3, .iconst 4, 1), (4, .aload_n 0, 1), (5, .getfield 75, 3), (8, .imul, 1), (9, .iconst 4, 1), (10, .iadd, 1), (11, .if_icmp .ge 16, 3), (14, .aload_n 1, 1), (15, .getfield 201, 3), (18, .iload_n 2, 1), (19, .iconst (-1), 1), (20, .iastore, 1), (21, .iinc 2 1, 3), (24, .goto (-22), 3), (27, .iconst 1, 1), (28, .istore_n 2, 1), (29, .iload_n 2, 1), (30, .aload_n 0, 1), (31, .getfield 75, 3), (34, .if_icmp .gt 84, 3), (37, .iconst 1, 1), (38, .istore_n 3, 1), (39, .iload_n 2, 1), (40, .iconst 1, 1), (41, .isub, 1), (42, .istore 4, 2), (44, .iload 4, 2), (46, .ifCond .lt 66, 3), (49, .iload_n 3, 1), (50, .ifCond .eq 62, 3), (53, .aload_n 0, 1), (54, .iload 4, 2), (56, .iload_n 2, 1), (57, .invokevirtual 204, 3), (60, .istore 5, 2), (62, .iload 5, 2), (64, .ldc 166, 2), (66, .if_icmp .ne 18, 3), (69, .aload_n 0, 1), (70, .getfield 190, 3), (73, .sipush 10000, 3), (76, .if_icmp .gt 8, 3), (79, .iconst 0, 1), (80, .istore_n 3, 1), (81, .goto 25, 3), (84, .iload 5, 2), (86, .invokestatic 173, 3), (89, .aload_n 0, 1), (90, .getfield 190, 3), (93, .if_icmp .gt 13, 3), (96, .aload_n 0, 1), (97, .aload_n 1, 1), (98, .iload 4, 2), (100, .iload_n 2, 1), (101, .iload 5, 2), (103, .invokevirtual 207, 3), (106, .iinc 4 (-1), 3), (109, .goto (-65), 3), (112, .iinc 2 1, 3), (115, .goto (-86), 3), (118, .iconst 0, 1), (119, .istore_n 2, 1), (120, .iload_n 2, 1), (121, .iconst 4, 1), (122, .if_icmp .ge 27, 3), (125, .aload_n 1, 1), (126, .getfield 201, 3), (129, .iconst 4, 1), (130, .aload_n 0, 1), (131, .getfield 75, 3), (134, .imul, 1), (135, .iload_n 2, 1), (136, .iadd, 1), (137, .iaload, 1), (138, .ifCond .lt 5, 3), (141, .iconst 1, 1), (142, .ireturn, 1), (143, .iinc 2 1, 3), (146, .goto (-26), 3), (149, .iconst 0, 1), (150, .ireturn, 1)]
theorem t_X28_search : ∀ q ∈ k_X28_search, decode cX28_search q.1 = .ok q.2 := dl_all (by decide +kernel)
noncomputable def m_X28_search_l2 (a0 a1 x2_2 : Int) (h_2 : Hp) : Option ((Int × Hp) ⊕ ((Hp))) :=
  if (w32 ((w32 (4 * (h_2 a0 16))) + 4)) ≤ x2_2 then (some (.inr h_2))
  else (gd (h_2 a1 (-2) = 176) (gd (h_2 (h_2 a1 2) (-2) % 16 = 1 ∧ (0 : Int) ≤ x2_2 ∧ x2_2 < h_2 (h_2 a1 2) (-1)) (pt h_2 (h_2 a1 2) x2_2 (-1) fun h20 =>
  lt_ (w32 (x2_2 + 1)) fun x2_21 =>
  some (.inl (x2_21, h20)))))
noncomputable def m_X28_search_j106 (x4_44 x3_106 : Int) (h_106 : Hp) : Option ((Int × Int × Hp) ⊕ ((Hp))) :=
  lt_ (w32 (x4_44 + (-1))) fun x4_106 =>
  some (.inl (x3_106, x4_106, h_106))
noncomputable def m_X28_search_j84 (v57 x4_44 a0 a1 x2_29 x3_44 : Int) (h_44 : Hp) : Option ((Int × Int × Hp) ⊕ ((Hp))) :=
  (m_X28_badness v57).bind fun v86 =>
  if (h_44 a0 20) < v86 then (m_X28_search_j106 x4_44 x3_44 h_44)
  else ((m_X28_reach a0 a1 x4_44 x2_29 v57 h_44).bind fun h103 =>
  m_X28_search_j106 x4_44 x3_44 h103)
noncomputable def m_X28_search_l44 (a0 a1 x2_29 x3_44 x4_44 : Int) (h_44 : Hp) : Option ((Int × Int × Hp) ⊕ ((Hp))) :=
  if x4_44 < 0 then (some (.inr h_44))
  else (if x3_44 = 0 then (some (.inr h_44))
  else ((m_X28_ratio a0 x4_44 x2_29 h_44).bind fun v57 =>
  if v57 ≠ (-1000000) then (m_X28_search_j84 v57 x4_44 a0 a1 x2_29 x3_44 h_44)
  else (if 10000 < (h_44 a0 20) then (m_X28_search_j84 v57 x4_44 a0 a1 x2_29 x3_44 h_44)
  else (lt_ 0 fun x3_80 =>
  m_X28_search_j106 x4_44 x3_80 h_44))))
noncomputable def m_X28_search_l29 (a0 a1 x2_29 : Int) (h_29 : Hp) : Option ((Int × Hp) ⊕ ((Hp))) :=
  if (h_29 a0 16) < x2_29 then (some (.inr h_29))
  else (lt_ 1 fun x3_38 =>
  lt_ (w32 (x2_29 - 1)) fun x4_42 =>
  (lp (fun (q : Int × Int × Hp) => m_X28_search_l44 a0 a1 x2_29 q.1 q.2.1 q.2.2) (x3_38, x4_42, h_29)).bind (fun (y112 : Hp) => lt_ (w32 (x2_29 + 1)) fun x2_112 =>
  some (.inl (x2_112, y112))))
noncomputable def m_X28_search_l120 (a0 a1 x2_120 : Int) (h_118 : Hp) : Option ((Int) ⊕ ((Int × Hp))) :=
  if 4 ≤ x2_120 then (some (.inr (0, h_118)))
  else (gd (h_118 a1 (-2) = 176) (gd (h_118 (h_118 a1 2) (-2) % 16 = 1 ∧ (0 : Int) ≤ (w32 ((w32 (4 * (h_118 a0 16))) + x2_120)) ∧ (w32 ((w32 (4 * (h_118 a0 16))) + x2_120)) < h_118 (h_118 a1 2) (-1)) (if (h_118 (h_118 a1 2) (w32 ((w32 (4 * (h_118 a0 16))) + x2_120))) < 0 then (lt_ (w32 (x2_120 + 1)) fun x2_143 =>
  some (.inl x2_143))
  else (some (.inr (1, h_118))))))
noncomputable def m_X28_search (a0 a1 : Int) (h : Hp) : Option (Int × Hp) :=
  lt_ 0 fun x2_1 =>
  (lp (fun (q : Int × Hp) => m_X28_search_l2 a0 a1 q.1 q.2) (x2_1, h)).bind (fun (y27 : Hp) => lt_ 1 fun x2_28 =>
  (lp (fun (q : Int × Hp) => m_X28_search_l29 a0 a1 q.1 q.2) (x2_28, y27)).bind (fun (y118 : Hp) => lt_ 0 fun x2_119 =>
  (lp (fun (q : Int) => m_X28_search_l120 a0 a1 q y118) x2_119).bind (fun (x : Int × Hp) => some x)))
theorem s_X28_search {l : Launch} [NoTr l] {D : SD} {a0 a1 : Int} {h : Hp} (hk : h a0 (-2) = 288) {r : Int × Hp} (hm : m_X28_search a0 a1 h = some r) : Sim l D yX28_search (Cond.code yX28_search cX28_search 6 (Option.some Jvm.ClassFile.FieldType.boolean)) 4 166 [rv D a0, rv D a1] h 3 ((0, r.1), r.2) := by
  refine Sim.of (fin := fun (v : Int × Hp) => ((0, v.1), v.2)) (lsE := [(0, rv D a0), (1, rv D a1)]) hm rfl cwS_code (la_r (la_r la_n)) (ll_r (ll_r ll_n)) ?_
  intro p e s m below meth c X hcw hmm hcc hnm hname
  unfold m_X28_search
  refine g_iconst (pc := 0) X (n := 0) (dl_at t_X28_search 0 rfl) ?_
  refine g_ltz (Or.inl rfl) fun x2_1 r2_1 => ?_
  refine g_istore_nN (pc := 1) X (j := 2) (i := 2) (x := x2_1) (b := 1) (w := rv D a1) (rest := [(0, rv D a0)]) rfl (Nat.le_of_ble_eq_true rfl) [1, 0] rfl (by decide) rv_cat rfl (dl_at t_X28_search 1 rfl) ?_
  refine g_ls (ls2 := [(0, rv D a0), (1, rv D a1), (2, iv x2_1)]) [2, 1, 0] rfl ?_
  refine g_loop1 (fun (q : Int × Hp) => [(0, rv D a0), (1, rv D a1), (2, iv q.1)]) (fun (q : Int × Hp) => q.2) (fun (q : Int × Hp) => r32 q.1 ∧ Ext h q.2) 27 (fun (y27 : Hp) => [(0, rv D a0), (1, rv D a1)]) (fun (y27 : Hp) => y27) (fun (y27 : Hp) => Ext h y27) (x2_1, h) ⟨(r32_z r2_1), (Ext.refl _)⟩ ?_ ?_
  · rintro ⟨x2_2, h_2⟩ ⟨r2_2, E_2⟩
    try dsimp only
    unfold m_X28_search_l2
    refine g_iload_n (pc := 2) X (j := 2) (i := 2) (q := 2) (x := x2_2) rfl rfl (dl_at t_X28_search 2 rfl) ?_
    refine g_iconst (pc := 3) X (n := 4) (dl_at t_X28_search 3 rfl) ?_
    refine g_aload_n (pc := 4) X (j := 0) (i := 0) (q := 0) (x := a0) rfl rfl (dl_at t_X28_search 4 rfl) ?_
    have k5 := kx E_2 (by decide) hk
    refine r_geti (pc := 5) X fX28_16 k5 q2558 (dl_at t_X28_search 5 rfl) fun g5 => ?_
    refine g_imul (pc := 8) X (r32_c rfl) g5 (dl_at t_X28_search 6 rfl) ?_
    refine g_iconst (pc := 9) X (n := 4) (dl_at t_X28_search 7 rfl) ?_
    refine g_iadd (pc := 10) X (r32_w _) (r32_c rfl) (dl_at t_X28_search 8 rfl) ?_
    refine g_icmpge (pc := 11) X r2_2 (r32_w _) (off := 16) (tgt := 27) rfl (dl_at t_X28_search 9 rfl) (fun _ => ?_) (fun _ => ?_)
    · refine g_ls (ls2 := [(0, rv D a0), (1, rv D a1)]) [0, 1] rfl ?_
      exact g_at fun Q hQ => hQ E_2
    refine g_aload_n (pc := 14) X (j := 1) (i := 1) (q := 1) (x := a1) rfl rfl (dl_at t_X28_search 10 rfl) ?_
    refine g_gd fun k15 => ?_
    refine r_getrN (pc := 15) X fX11_2 k15 (nw_in q970 rfl) (dl_at t_X28_search 11 rfl) ?_
    refine g_iload_n (pc := 18) X (j := 2) (i := 2) (q := 2) (x := x2_2) rfl rfl (dl_at t_X28_search 12 rfl) ?_
    refine g_iconst (pc := 19) X (n := (-1)) (dl_at t_X28_search 13 rfl) ?_
    refine g_gd fun k20 => ?_
    refine r_iast (pc := 20) X r2_2 (r32_c rfl) k20 (dl_at t_X28_search 14 rfl) (fun h20 E20 => ?_)
    refine r_iincN (pc := 21) X (i := 2) (q := 2) (n := 1) (x := x2_2) (b := 1) (w := rv D a1) (rest := [(0, rv D a0)]) rfl r2_2 (r32_c rfl) (Nat.le_of_ble_eq_true rfl) [1, 0] rfl (by decide) rv_cat rfl (dl_at t_X28_search 15 rfl) fun x2_21 r2_21 => ?_
    refine g_goto (pc := 24) X (off := (-22)) (tgt := 2) rfl (dl_at t_X28_search 16 rfl) ?_
    refine g_ls (ls2 := [(0, rv D a0), (1, rv D a1), (2, iv x2_21)]) [2, 1, 0] rfl ?_
    exact g_at fun Q hQ => hQ ⟨r2_21, (E_2.trans E20)⟩
  · rintro h_27 E_27
    try dsimp only [sE]
    refine g_iconst (pc := 27) X (n := 1) (dl_at t_X28_search 17 rfl) ?_
    refine g_ltz (Or.inr rfl) fun x2_28 r2_28 => ?_
    refine g_istore_nN (pc := 28) X (j := 2) (i := 2) (x := x2_28) (b := 1) (w := rv D a1) (rest := [(0, rv D a0)]) rfl (Nat.le_of_ble_eq_true rfl) [1, 0] rfl (by decide) rv_cat rfl (dl_at t_X28_search 18 rfl) ?_
    refine g_ls (ls2 := [(0, rv D a0), (1, rv D a1), (2, iv x2_28)]) [2, 1, 0] rfl ?_
    refine g_loop1 (fun (q : Int × Hp) => [(0, rv D a0), (1, rv D a1), (2, iv q.1)]) (fun (q : Int × Hp) => q.2) (fun (q : Int × Hp) => r32 q.1 ∧ Ext h_27 q.2) 118 (fun (y118 : Hp) => [(0, rv D a0), (1, rv D a1)]) (fun (y118 : Hp) => y118) (fun (y118 : Hp) => Ext h_27 y118) (x2_28, h_27) ⟨(r32_z r2_28), (Ext.refl _)⟩ ?_ ?_
    · rintro ⟨x2_29, h_29⟩ ⟨r2_29, E_29⟩
      try dsimp only
      unfold m_X28_search_l29
      refine g_iload_n (pc := 29) X (j := 2) (i := 2) (q := 2) (x := x2_29) rfl rfl (dl_at t_X28_search 19 rfl) ?_
      refine g_aload_n (pc := 30) X (j := 0) (i := 0) (q := 0) (x := a0) rfl rfl (dl_at t_X28_search 20 rfl) ?_
      have k31 := kx (E_27.trans E_29) (by decide) hk
      refine r_geti (pc := 31) X fX28_16 k31 q2558 (dl_at t_X28_search 21 rfl) fun g31 => ?_
      refine g_icmpgt (pc := 34) X r2_29 g31 (off := 84) (tgt := 118) rfl (dl_at t_X28_search 22 rfl) (fun _ => ?_) (fun _ => ?_)
      · refine g_ls (ls2 := [(0, rv D a0), (1, rv D a1)]) [0, 1] rfl ?_
        exact g_at fun Q hQ => hQ E_29
      refine g_iconst (pc := 37) X (n := 1) (dl_at t_X28_search 23 rfl) ?_
      refine g_ltz (Or.inr rfl) fun x3_38 r3_38 => ?_
      refine g_istore_nN (pc := 38) X (j := 3) (i := 3) (x := x3_38) (b := 2) (w := iv x2_29) (rest := [(0, rv D a0), (1, rv D a1)]) rfl (Nat.le_of_ble_eq_true rfl) [2, 0, 1] rfl (by decide) rfl rfl (dl_at t_X28_search 24 rfl) ?_
      refine g_iload_n (pc := 39) X (j := 2) (i := 2) (q := 1) (x := x2_29) rfl rfl (dl_at t_X28_search 25 rfl) ?_
      refine g_iconst (pc := 40) X (n := 1) (dl_at t_X28_search 26 rfl) ?_
      refine g_isub (pc := 41) X r2_29 (r32_c rfl) (dl_at t_X28_search 27 rfl) ?_
      refine g_lti (r32_w _) fun x4_42 r4_42 => ?_
      refine g_istoreN (pc := 42) X (i := 4) (x := x4_42) (b := 3) (w := iv x3_38) (rest := [(2, iv x2_29), (0, rv D a0), (1, rv D a1)]) (Nat.le_of_ble_eq_true rfl) [0, 1, 2, 3] rfl (by decide) rfl rfl (dl_at t_X28_search 28 rfl) ?_
      refine g_ls (ls2 := [(0, rv D a0), (1, rv D a1), (2, iv x2_29), (3, iv x3_38), (4, iv x4_42)]) [3, 4, 2, 1, 0] rfl ?_
      refine g_loop1 (fun (q : Int × Int × Hp) => [(0, rv D a0), (1, rv D a1), (2, iv x2_29), (3, iv q.1), (4, iv q.2.1)]) (fun (q : Int × Int × Hp) => q.2.2) (fun (q : Int × Int × Hp) => (q.1 = 0 ∨ q.1 = 1) ∧ r32 q.2.1 ∧ Ext h_29 q.2.2) 112 (fun (y112 : Hp) => [(0, rv D a0), (1, rv D a1), (2, iv x2_29)]) (fun (y112 : Hp) => y112) (fun (y112 : Hp) => Ext h_29 y112) (x3_38, x4_42, h_29) ⟨r3_38, r4_42, (Ext.refl _)⟩ ?_ ?_
      · rintro ⟨x3_44, x4_44, h_44⟩ ⟨r3_44, r4_44, E_44⟩
        try dsimp only
        unfold m_X28_search_l44
        refine g_iload (pc := 44) X (i := 4) (q := 4) (x := x4_44) rfl (dl_at t_X28_search 29 rfl) ?_
        refine g_iflt (pc := 46) X r4_44 (off := 66) (tgt := 112) rfl (dl_at t_X28_search 30 rfl) (fun _ => ?_) (fun _ => ?_)
        · refine g_ls (ls2 := [(0, rv D a0), (1, rv D a1), (2, iv x2_29)]) [0, 1, 2] rfl ?_
          exact g_at fun Q hQ => hQ E_44
        refine g_iload_n (pc := 49) X (j := 3) (i := 3) (q := 3) (x := x3_44) rfl rfl (dl_at t_X28_search 31 rfl) ?_
        refine g_ifeq (pc := 50) X (r32_z r3_44) (off := 62) (tgt := 112) rfl (dl_at t_X28_search 32 rfl) (fun _ => ?_) (fun _ => ?_)
        · refine g_ls (ls2 := [(0, rv D a0), (1, rv D a1), (2, iv x2_29)]) [0, 1, 2] rfl ?_
          exact g_at fun Q hQ => hQ E_44
        refine g_aload_n (pc := 53) X (j := 0) (i := 0) (q := 0) (x := a0) rfl rfl (dl_at t_X28_search 33 rfl) ?_
        refine g_iload (pc := 54) X (i := 4) (q := 4) (x := x4_44) rfl (dl_at t_X28_search 34 rfl) ?_
        refine g_iload_n (pc := 56) X (j := 2) (i := 2) (q := 2) (x := x2_29) rfl rfl (dl_at t_X28_search 35 rfl) ?_
        have k57 := kx E_44 (by decide) k31
        refine r_callRi (pc := 57) X (fun _ hv => s_X28_ratio k57 r4_44 r2_29 hv) cw_code q2878 q396 (in_Vk X (As := [iv x4_44, iv x2_29]) kX28 k57 (Or.inl q2875) q2877 qs178 cw_code q2878 ⟨by decide, by decide⟩ rfl (dl_at t_X28_search 36 rfl)) (dl_at t_X28_search 36 rfl) (cat24 (st := []) (Nat.le_of_ble_eq_true rfl)) (Nat.le_of_ble_eq_true rfl) (Nat.le_of_ble_eq_true rfl) fun v57 g57 => ?_
        refine g_istoreN (pc := 60) X (i := 5) (x := v57) (b := 4) (w := iv x4_44) (rest := [(0, rv D a0), (1, rv D a1), (2, iv x2_29), (3, iv x3_44)]) (Nat.le_of_ble_eq_true rfl) [4, 0, 1, 2, 3] rfl (by decide) rfl rfl (dl_at t_X28_search 37 rfl) ?_
        refine g_iload (pc := 62) X (i := 5) (q := 0) (x := v57) rfl (dl_at t_X28_search 38 rfl) ?_
        refine g_ldc (pc := 64) X (index := 166) (n := (-1000000)) (cneg (by decide) q2894) (dl_at t_X28_search 39 rfl) ?_
        refine g_join (γ := Int × Hp) (fun q => (q.1 = 0 ∨ q.1 = 1) ∧ Ext h_44 q.2) 106 (fun q => [(0, rv D a0), (1, rv D a1), (2, iv x2_29), (3, iv q.1), (4, iv x4_44)]) (fun q => []) (fun q => q.2) (fun q => m_X28_search_j106 x4_44 q.1 q.2) ?_ ?_
        · rintro ⟨x3_106, h_106⟩ ⟨r3_106, E_106⟩
          try dsimp only
          unfold m_X28_search_j106
          refine r_iincN (pc := 106) X (i := 4) (q := 4) (n := (-1)) (x := x4_44) (b := 3) (w := iv x3_106) (rest := [(0, rv D a0), (1, rv D a1), (2, iv x2_29)]) rfl r4_44 (r32_c rfl) (Nat.le_of_ble_eq_true rfl) [3, 0, 1, 2] rfl (by decide) rfl rfl (dl_at t_X28_search 59 rfl) fun x4_106 r4_106 => ?_
          refine g_goto (pc := 109) X (off := (-65)) (tgt := 44) rfl (dl_at t_X28_search 60 rfl) ?_
          refine g_ls (ls2 := [(0, rv D a0), (1, rv D a1), (2, iv x2_29), (3, iv x3_106), (4, iv x4_106)]) [2, 3, 4, 1, 0] rfl ?_
          exact g_at fun Q hQ => hQ ⟨r3_106, r4_106, (E_44.trans E_106)⟩
        intro J106
        refine g_join (γ := Unit) (fun q => True) 84 (fun q => [(0, rv D a0), (1, rv D a1), (2, iv x2_29), (3, iv x3_44), (4, iv x4_44), (5, iv v57)]) (fun q => []) (fun q => h_44) (fun q => m_X28_search_j84 v57 x4_44 a0 a1 x2_29 x3_44 h_44) ?_ ?_
        · rintro _ _
          try dsimp only
          unfold m_X28_search_j84
          refine g_iload (pc := 84) X (i := 5) (q := 5) (x := v57) rfl (dl_at t_X28_search 48 rfl) ?_
          refine r_callRi (pc := 86) X (fun _ hv => s_X28_badness g57 hv) cw_code q2897 q396 (in_Sc X (As := [iv v57]) (Or.inl q2895) q2896 q396 q2897 ⟨by decide, by decide⟩ rfl (dl_at t_X28_search 49 rfl)) (dl_at t_X28_search 49 rfl) (cat24 (st := []) (Nat.le_of_ble_eq_true rfl)) (Nat.le_of_ble_eq_true rfl) (Nat.le_of_ble_eq_true rfl) fun v86 g86 => ?_
          refine g_aload_n (pc := 89) X (j := 0) (i := 0) (q := 0) (x := a0) rfl rfl (dl_at t_X28_search 50 rfl) ?_
          refine r_geti (pc := 90) X fX28_20 k57 q2566 (dl_at t_X28_search 51 rfl) fun g90 => ?_
          refine g_icmpgt (pc := 93) X g86 g90 (off := 13) (tgt := 106) rfl (dl_at t_X28_search 52 rfl) (fun _ => ?_) (fun _ => ?_)
          · refine g_ls (ls2 := [(0, rv D a0), (1, rv D a1), (2, iv x2_29), (3, iv x3_44), (4, iv x4_44)]) [0, 1, 2, 3, 4] rfl ?_
            exact J106 (x3_44, h_44) ⟨r3_44, (Ext.refl _)⟩
          refine g_aload_n (pc := 96) X (j := 0) (i := 0) (q := 0) (x := a0) rfl rfl (dl_at t_X28_search 53 rfl) ?_
          refine g_aload_n (pc := 97) X (j := 1) (i := 1) (q := 1) (x := a1) rfl rfl (dl_at t_X28_search 54 rfl) ?_
          refine g_iload (pc := 98) X (i := 4) (q := 4) (x := x4_44) rfl (dl_at t_X28_search 55 rfl) ?_
          refine g_iload_n (pc := 100) X (j := 2) (i := 2) (q := 2) (x := x2_29) rfl rfl (dl_at t_X28_search 56 rfl) ?_
          refine g_iload (pc := 101) X (i := 5) (q := 5) (x := v57) rfl (dl_at t_X28_search 57 rfl) ?_
          refine r_callV (pc := 103) X (fun _ hv => s_X28_reach k57 r4_44 r2_29 g57 hv) cw_code q2904 q396 (in_Vk X (As := [rv D a1, iv x4_44, iv x2_29, iv v57]) kX28 k57 (Or.inl q2901) q2903 qs182 cw_code q2904 ⟨by decide, by decide⟩ rfl (dl_at t_X28_search 58 rfl)) (dl_at t_X28_search 58 rfl) (cat24 (st := []) (Nat.le_of_ble_eq_true rfl)) (Nat.le_of_ble_eq_true rfl) (Nat.le_of_ble_eq_true rfl) fun h103 E103 => ?_
          refine g_ls (ls2 := [(0, rv D a0), (1, rv D a1), (2, iv x2_29), (3, iv x3_44), (4, iv x4_44)]) [0, 1, 2, 3, 4] rfl ?_
          exact J106 (x3_44, h103) ⟨r3_44, E103⟩
        intro J84
        refine g_icmpne (pc := 66) X g57 (r32_c rfl) (off := 18) (tgt := 84) rfl (dl_at t_X28_search 40 rfl) (fun _ => ?_) (fun _ => ?_)
        · refine g_ls (ls2 := [(0, rv D a0), (1, rv D a1), (2, iv x2_29), (3, iv x3_44), (4, iv x4_44), (5, iv v57)]) [2, 3, 4, 5, 1, 0] rfl ?_
          exact J84 () trivial
        refine g_aload_n (pc := 69) X (j := 0) (i := 0) (q := 2) (x := a0) rfl rfl (dl_at t_X28_search 41 rfl) ?_
        refine r_geti (pc := 70) X fX28_20 k57 q2566 (dl_at t_X28_search 42 rfl) fun g70 => ?_
        refine g_sipush (pc := 73) X (n := 10000) rfl (dl_at t_X28_search 43 rfl) ?_
        refine g_icmpgt (pc := 76) X g70 (r32_c rfl) (off := 8) (tgt := 84) rfl (dl_at t_X28_search 44 rfl) (fun _ => ?_) (fun _ => ?_)
        · refine g_ls (ls2 := [(0, rv D a0), (1, rv D a1), (2, iv x2_29), (3, iv x3_44), (4, iv x4_44), (5, iv v57)]) [2, 3, 4, 5, 1, 0] rfl ?_
          exact J84 () trivial
        refine g_iconst (pc := 79) X (n := 0) (dl_at t_X28_search 45 rfl) ?_
        refine g_ltz (Or.inl rfl) fun x3_80 r3_80 => ?_
        refine g_istore_nN (pc := 80) X (j := 3) (i := 3) (x := x3_80) (b := 2) (w := iv x2_29) (rest := [(4, iv x4_44), (0, rv D a0), (1, rv D a1)]) rfl (Nat.le_of_ble_eq_true rfl) [4, 1, 2, 3] rfl (by decide) rfl rfl (dl_at t_X28_search 46 rfl) ?_
        refine g_goto (pc := 81) X (off := 25) (tgt := 106) rfl (dl_at t_X28_search 47 rfl) ?_
        refine g_ls (ls2 := [(0, rv D a0), (1, rv D a1), (2, iv x2_29), (3, iv x3_80), (4, iv x4_44)]) [3, 4, 1, 0, 2] rfl ?_
        exact J106 (x3_80, h_44) ⟨r3_80, (Ext.refl _)⟩
      · rintro h_112 E_112
        try dsimp only [sE]
        refine r_iincN (pc := 112) X (i := 2) (q := 2) (n := 1) (x := x2_29) (b := 1) (w := rv D a1) (rest := [(0, rv D a0)]) rfl r2_29 (r32_c rfl) (Nat.le_of_ble_eq_true rfl) [1, 0] rfl (by decide) rv_cat rfl (dl_at t_X28_search 61 rfl) fun x2_112 r2_112 => ?_
        refine g_goto (pc := 115) X (off := (-86)) (tgt := 29) rfl (dl_at t_X28_search 62 rfl) ?_
        refine g_ls (ls2 := [(0, rv D a0), (1, rv D a1), (2, iv x2_112)]) [2, 1, 0] rfl ?_
        exact g_at fun Q hQ => hQ ⟨r2_112, (E_29.trans E_112)⟩
    · rintro h_118 E_118
      try dsimp only [sE]
      refine g_iconst (pc := 118) X (n := 0) (dl_at t_X28_search 63 rfl) ?_
      refine g_ltz (Or.inl rfl) fun x2_119 r2_119 => ?_
      refine g_istore_nN (pc := 119) X (j := 2) (i := 2) (x := x2_119) (b := 1) (w := rv D a1) (rest := [(0, rv D a0)]) rfl (Nat.le_of_ble_eq_true rfl) [1, 0] rfl (by decide) rv_cat rfl (dl_at t_X28_search 64 rfl) ?_
      refine g_ls (ls2 := [(0, rv D a0), (1, rv D a1), (2, iv x2_119)]) [2, 1, 0] rfl ?_
      refine g_loop0F (fun (q : Int) => [(0, rv D a0), (1, rv D a1), (2, iv q)]) (fun (q : Int) => h_118) (fun (q : Int) => r32 q) x2_119 (r32_z r2_119) ?_ (fun _ => rfl)
      · rintro x2_120 r2_120
        try dsimp only
        unfold m_X28_search_l120
        refine g_iload_n (pc := 120) X (j := 2) (i := 2) (q := 2) (x := x2_120) rfl rfl (dl_at t_X28_search 65 rfl) ?_
        refine g_iconst (pc := 121) X (n := 4) (dl_at t_X28_search 66 rfl) ?_
        refine g_icmpge (pc := 122) X r2_120 (r32_c rfl) (off := 27) (tgt := 149) rfl (dl_at t_X28_search 67 rfl) (fun _ => ?_) (fun _ => ?_)
        · refine g_iconst (pc := 149) X (n := 0) (dl_at t_X28_search 82 rfl) ?_
          exact g_at fun Q hQ => (g_zret (pc := 150) X (Or.inl rfl) rfl rfl (dl_at t_X28_search 83 rfl)) _ Q rfl hQ
        refine g_aload_n (pc := 125) X (j := 1) (i := 1) (q := 1) (x := a1) rfl rfl (dl_at t_X28_search 68 rfl) ?_
        refine g_gd fun k126 => ?_
        refine r_getrN (pc := 126) X fX11_2 k126 (nw_in q970 rfl) (dl_at t_X28_search 69 rfl) ?_
        refine g_iconst (pc := 129) X (n := 4) (dl_at t_X28_search 70 rfl) ?_
        refine g_aload_n (pc := 130) X (j := 0) (i := 0) (q := 0) (x := a0) rfl rfl (dl_at t_X28_search 71 rfl) ?_
        have k131 := kx (E_27.trans E_118) (by decide) hk
        refine r_geti (pc := 131) X fX28_16 k131 q2558 (dl_at t_X28_search 72 rfl) fun g131 => ?_
        refine g_imul (pc := 134) X (r32_c rfl) g131 (dl_at t_X28_search 73 rfl) ?_
        refine g_iload_n (pc := 135) X (j := 2) (i := 2) (q := 2) (x := x2_120) rfl rfl (dl_at t_X28_search 74 rfl) ?_
        refine g_iadd (pc := 136) X (r32_w _) r2_120 (dl_at t_X28_search 75 rfl) ?_
        refine g_gd fun k137 => ?_
        refine g_iald (pc := 137) X (r32_w _) k137 (dl_at t_X28_search 76 rfl) fun g137 => ?_
        refine g_iflt (pc := 138) X g137 (off := 5) (tgt := 143) rfl (dl_at t_X28_search 77 rfl) (fun _ => ?_) (fun _ => ?_)
        · refine r_iincN (pc := 143) X (i := 2) (q := 2) (n := 1) (x := x2_120) (b := 1) (w := rv D a1) (rest := [(0, rv D a0)]) rfl r2_120 (r32_c rfl) (Nat.le_of_ble_eq_true rfl) [1, 0] rfl (by decide) rv_cat rfl (dl_at t_X28_search 80 rfl) fun x2_143 r2_143 => ?_
          refine g_goto (pc := 146) X (off := (-26)) (tgt := 120) rfl (dl_at t_X28_search 81 rfl) ?_
          refine g_ls (ls2 := [(0, rv D a0), (1, rv D a1), (2, iv x2_143)]) [2, 1, 0] rfl ?_
          exact g_at fun Q hQ => hQ r2_143
        refine g_iconst (pc := 141) X (n := 1) (dl_at t_X28_search 78 rfl) ?_
        exact g_at fun Q hQ => (g_zret (pc := 142) X (Or.inr rfl) rfl rfl (dl_at t_X28_search 79 rfl)) _ Q rfl hQ
def k_X28_begin : List (Nat × Instr × Nat) := [(0, .aload_n 0, 1), (1, .iload_n 1, 1), (2, .putfield 240, 3), (5, .aload_n 0, 1), (6, .aload_n 0, 1), (7, .getfield 9, 3), (10, .getfield 243, 3), (13, .putfield 54, 3), (16, .aload_n 0, 1), (17, .getfield 9, 3), (20, .dup, 1), (21, .getfield 243, 3), (24, .iload_n 1, 1), (25, .iconst 1, 1), (26, .iadd, 1), (27, .iadd, 1), (28, .putfield 243, 3), (31, .aload_n 0, 1), (32, .getfield 9, 3), (35, .getfield 51, 3), (38, .aload_n 0, 1), (39, .getfield 54, 3), (42, .iconst 0, 1), (43, .iastore, 1), (44, .return_, 1)]
theorem t_X28_begin : ∀ q ∈ k_X28_begin, decode cX28_begin q.1 = .ok q.2 := dl_all (by decide +kernel)
noncomputable def m_X28_begin (a0 a1 : Int) (h : Hp) : Option (Hp) :=
  pt h a0 18 a1 fun h2 =>
  gd (h2 (h2 a0 0) (-2) = 240) (pt h2 a0 17 (h2 (h2 a0 0) 15) fun h13 =>
  gd (h13 (h13 a0 0) (-2) = 240) (pt h13 (h13 a0 0) 15 (w32 ((h13 (h13 a0 0) 15) + (w32 (a1 + 1)))) fun h28 =>
  gd (h28 (h28 a0 0) (-2) = 240) (gd (h28 (h28 (h28 a0 0) 13) (-2) % 16 = 1 ∧ (0 : Int) ≤ (h28 a0 17) ∧ (h28 a0 17) < h28 (h28 (h28 a0 0) 13) (-1)) (pt h28 (h28 (h28 a0 0) 13) (h28 a0 17) 0 fun h43 =>
  some h43))))
theorem s_X28_begin {l : Launch} [NoTr l] {D : SD} {a0 a1 : Int} {h : Hp} (hk : h a0 (-2) = 288) (r1 : r32 a1) {r : Hp} (hm : m_X28_begin a0 a1 h = some r) : Sim l D yX28_begin (Cond.code yX28_begin cX28_begin 2 (Option.none : Option Jvm.ClassFile.FieldType)) 0 0 [rv D a0, iv a1] h 0 ((0, 0), r) := by
  refine Sim.of (fin := fun (v : Hp) => ((0, 0), v)) (lsE := [(0, rv D a0), (1, iv a1)]) hm rfl cwS_code (la_r (la_i la_n)) (ll_r (ll_i ll_n)) ?_
  intro p e s m below meth c X hcw hmm hcc hnm hname
  unfold m_X28_begin
  refine g_aload_n (pc := 0) X (j := 0) (i := 0) (q := 0) (x := a0) rfl rfl (dl_at t_X28_begin 0 rfl) ?_
  refine g_iload_n (pc := 1) X (j := 1) (i := 1) (q := 1) (x := a1) rfl rfl (dl_at t_X28_begin 1 rfl) ?_
  refine r_puti (pc := 2) X fX28_18 hk q2561 rfl (dl_at t_X28_begin 2 rfl) r1 (fun h2 E2 => ?_)
  refine g_aload_n (pc := 5) X (j := 0) (i := 0) (q := 0) (x := a0) rfl rfl (dl_at t_X28_begin 3 rfl) ?_
  refine g_aload_n (pc := 6) X (j := 0) (i := 0) (q := 0) (x := a0) rfl rfl (dl_at t_X28_begin 4 rfl) ?_
  have k7 := kx E2 (by decide) hk
  refine r_getr (pc := 7) X fX28_0 k7 q2528 (dl_at t_X28_begin 5 rfl) ?_
  refine g_gd fun k10 => ?_
  refine r_getiN (pc := 10) X fX15_15 k10 (nw_in q1161 rfl) (dl_at t_X28_begin 6 rfl) fun g10 => ?_
  refine r_puti (pc := 13) X fX28_17 k7 q2560 rfl (dl_at t_X28_begin 7 rfl) g10 (fun h13 E13 => ?_)
  refine g_aload_n (pc := 16) X (j := 0) (i := 0) (q := 0) (x := a0) rfl rfl (dl_at t_X28_begin 8 rfl) ?_
  have k17 := kx E13 (by decide) k7
  refine r_getr (pc := 17) X fX28_0 k17 q2528 (dl_at t_X28_begin 9 rfl) ?_
  refine g_dup (pc := 20) X rv_cat (dl_at t_X28_begin 10 rfl) ?_
  refine g_gd fun k21 => ?_
  refine r_getiN (pc := 21) X fX15_15 k21 (nw_in q1161 rfl) (dl_at t_X28_begin 11 rfl) fun g21 => ?_
  refine g_iload_n (pc := 24) X (j := 1) (i := 1) (q := 1) (x := a1) rfl rfl (dl_at t_X28_begin 12 rfl) ?_
  refine g_iconst (pc := 25) X (n := 1) (dl_at t_X28_begin 13 rfl) ?_
  refine g_iadd (pc := 26) X r1 (r32_c rfl) (dl_at t_X28_begin 14 rfl) ?_
  refine g_iadd (pc := 27) X g21 (r32_w _) (dl_at t_X28_begin 15 rfl) ?_
  refine r_putiN (pc := 28) X fX15_15 k21 (nw_in q1161 rfl) rfl (dl_at t_X28_begin 16 rfl) (r32_w _) (fun h28 E28 => ?_)
  refine g_aload_n (pc := 31) X (j := 0) (i := 0) (q := 0) (x := a0) rfl rfl (dl_at t_X28_begin 17 rfl) ?_
  have k32 := kx E28 (by decide) k17
  refine r_getr (pc := 32) X fX28_0 k32 q2528 (dl_at t_X28_begin 18 rfl) ?_
  refine g_gd fun k35 => ?_
  refine r_getrN (pc := 35) X fX15_13 k35 (nw_in q1157 rfl) (dl_at t_X28_begin 19 rfl) ?_
  refine g_aload_n (pc := 38) X (j := 0) (i := 0) (q := 0) (x := a0) rfl rfl (dl_at t_X28_begin 20 rfl) ?_
  refine r_geti (pc := 39) X fX28_17 k32 q2560 (dl_at t_X28_begin 21 rfl) fun g39 => ?_
  refine g_iconst (pc := 42) X (n := 0) (dl_at t_X28_begin 22 rfl) ?_
  refine g_gd fun k43 => ?_
  refine r_iast (pc := 43) X g39 (r32_c rfl) k43 (dl_at t_X28_begin 23 rfl) (fun h43 E43 => ?_)
  exact g_vret (pc := 44) X (v := 0) rfl rfl (dl_at t_X28_begin 24 rfl)
def k_X28_breakOf : List (Nat × Instr × Nat) := [(0, .aload_n 0, 1), (1, .getfield 9, 3), (4, .getfield 51, 3), (7, .aload_n 0, 1), (8, .getfield 54, 3), (11, .iload_n 1, 1), (12, .iadd, 1), (13, .iaload, 1), (14, .ireturn, 1)]
theorem t_X28_breakOf : ∀ q ∈ k_X28_breakOf, decode cX28_breakOf q.1 = .ok q.2 := dl_all (by decide +kernel)
noncomputable def m_X28_breakOf (a0 a1 : Int) (h : Hp) : Option (Int) :=
  gd (h (h a0 0) (-2) = 240) (gd (h (h (h a0 0) 13) (-2) % 16 = 1 ∧ (0 : Int) ≤ (w32 ((h a0 17) + a1)) ∧ (w32 ((h a0 17) + a1)) < h (h (h a0 0) 13) (-1)) (some (h (h (h a0 0) 13) (w32 ((h a0 17) + a1)))))
theorem s_X28_breakOf {l : Launch} [NoTr l] {D : SD} {a0 a1 : Int} {h : Hp} (hk : h a0 (-2) = 288) (r1 : r32 a1) {r : Int} (hm : m_X28_breakOf a0 a1 h = some r) : Sim l D yX28_breakOf (Cond.code yX28_breakOf cX28_breakOf 2 (Option.some Jvm.ClassFile.FieldType.int)) 0 0 [rv D a0, iv a1] h 1 ((0, r), h) := by
  refine Sim.of (fin := fun (v : Int) => ((0, v), h)) (lsE := [(0, rv D a0), (1, iv a1)]) hm rfl cwS_code (la_r (la_i la_n)) (ll_r (ll_i ll_n)) ?_
  intro p e s m below meth c X hcw hmm hcc hnm hname
  unfold m_X28_breakOf
  refine g_aload_n (pc := 0) X (j := 0) (i := 0) (q := 0) (x := a0) rfl rfl (dl_at t_X28_breakOf 0 rfl) ?_
  refine r_getr (pc := 1) X fX28_0 hk q2528 (dl_at t_X28_breakOf 1 rfl) ?_
  refine g_gd fun k4 => ?_
  refine r_getrN (pc := 4) X fX15_13 k4 (nw_in q1157 rfl) (dl_at t_X28_breakOf 2 rfl) ?_
  refine g_aload_n (pc := 7) X (j := 0) (i := 0) (q := 0) (x := a0) rfl rfl (dl_at t_X28_breakOf 3 rfl) ?_
  refine r_geti (pc := 8) X fX28_17 hk q2560 (dl_at t_X28_breakOf 4 rfl) fun g8 => ?_
  refine g_iload_n (pc := 11) X (j := 1) (i := 1) (q := 1) (x := a1) rfl rfl (dl_at t_X28_breakOf 5 rfl) ?_
  refine g_iadd (pc := 12) X g8 r1 (dl_at t_X28_breakOf 6 rfl) ?_
  refine g_gd fun k13 => ?_
  refine g_iald (pc := 13) X (r32_w _) k13 (dl_at t_X28_breakOf 7 rfl) fun g13 => ?_
  exact g_iret (pc := 14) X g13 rfl rfl (dl_at t_X28_breakOf 8 rfl)
def k_X28_collect : List (Nat × Instr × Nat) := [(0, .iconst (-1), 1), (1, .istore_n 2, 1), (2, .iconst 0, 1), (3, .istore_n 3, 1), (4, .iload_n 3, 1), (5, .iconst 4, 1), (6, .if_icmp .ge 94, 3), (9, .iconst 4, 1), (10, .aload_n 0, 1), (11, .getfield 75, 3), (14, .imul, 1), (15, .iload_n 3, 1), (16, .iadd, 1), (17, .istore 4, 2), (19, .aload_n 1, 1), (20, .getfield 201, 3), (23, .iload 4, 2), (25, .iaload, 1), (26, .ifCond .ge 6, 3), (29, .goto 65, 3), (32, .iload_n 2, 1), (33, .ifCond .lt 58, 3), (36, .aload_n 1, 1), (37, .getfield 219, 3), (40, .iload 4, 2), (42, .laload, 1), (43, .aload_n 1, 1), (44, .getfield 219, 3), (47, .iload_n 2, 1), (48, .laload, 1), (49, .lcmp, 1), (50, .ifCond .lt 41, 3), (53, .aload_n 1, 1), (54, .getfield 219, 3), (57, .iload 4, 2), (59, .laload, 1), (60, .aload_n 1, 1), (61, .getfield 219, 3), (64, .iload_n 2, 1), (65, .laload, 1), (66, .lcmp, 1), (67, .ifCond .ne 27, 3), (70, .aload_n 0, 1), (71, .aload_n 1, 1), (72, .aload_n 1, 1), (73, .getfield 201, 3), (76, .iload 4, 2), (78, .iaload, 1), (79, .aload_n 1, 1), (80, .getfield 201, 3), (83, .iload_n 2, 1), (84, .iaload, 1), (85, .invokevirtual 222, 3), (88, .ifCond .eq 6, 3), (91, .iload 4, 2), (93, .istore_n 2, 1), (94, .iinc 3 1, 3), (97, .goto (-93), 3), (100, .aload_n 0, 1), (101, .aload_n 1, 1), (102, .getfield 219, 3), (105, .iload_n 2, 1), (106, .laload, 1), (107, .putfield 226, 3), (110, .iconst 0, 1), (111, .istore_n 3, 1), (112, .iload_n 2, 1), (113, .istore 4, 2), (115, .iload 4, 2), (117, .iconst 4, 1), (118, .idiv, 1), (119, .ifCond .le 18, 3), (122, .iinc 3 1, 3), (125, .aload_n 1, 1), (126, .getfield 201, 3), (129, .iload 4, 2), (131, .iaload, 1), (132, .istore 4, 2), (134, .goto (-19), 3), (137, .aload_n 0, 1), (138, .iload_n 3, 1), (139, .invokevirtual 230, 3), (142, .iload_n 3, 1), (143, .istore 4, 2), (145, .iload_n 2, 1), (146, .istore 5, 2), (148, .iload 5, 2), (150, .iconst 4, 1), (151, .idiv, 1), (152, .ifCond .le 37, 3), (155, .aload_n 0, 1), (156, .getfield 9, 3), (159, .getfield 51, 3), (162, .aload_n 0, 1), (163, .getfield 54, 3), (166, .iload 4, 2), (168, .iadd, 1), (169, .iload 5, 2), (171, .iconst 4, 1), (172, .idiv, 1), (173, .iastore, 1), (174, .iinc 4 (-1), 3), (177, .aload_n 1, 1), (178, .getfield 201, 3), (181, .iload 5, 2), (183, .iaload, 1), (184, .istore 5, 2), (186, .goto (-38), 3), (189, .iconst 0, 1), (190, .istore 5, 2), (192, .iload 5, 2), (194, .iload_n 3, 1), (195, .if_icmp .ge 42, 3), (198, .aload_n 0, 1), (199, .getfield 9, 3), (202, .getfield 234, 3), (205, .aload_n 0, 1), (206, .getfield 54, 3), (209, .iload 5, 2), (211, .iadd, 1), (212, .aload_n 0, 1), (213, .aload_n 0, 1), (214, .iload 5, 2), (216, .invokevirtual 237, 3), (219, .aload_n 0, 1), (220, .iload 5, 2), (222, .iconst 1, 1), (223, .iadd, 1), (224, .invokevirtual 237, 3), (227, .invokevirtual 204, 3), (230, .iastore, 1), (231, .iinc 5 1, 3), (234, .goto (-42), 3), (237, .return_, 1)]
theorem t_X28_collect : ∀ q ∈ k_X28_collect, decode cX28_collect q.1 = .ok q.2 := dl_all (by decide +kernel)
noncomputable def m_X28_collect_j94 (x3_4 x2_94 : Int) : Option ((Int × Int) ⊕ ((Int))) :=
  lt_ (w32 (x3_4 + 1)) fun x3_94 =>
  some (.inl (x2_94, x3_94))
noncomputable def m_X28_collect_j91 (x4_17 x3_4 : Int) : Option ((Int × Int) ⊕ ((Int))) :=
  m_X28_collect_j94 x3_4 x4_17
noncomputable def m_X28_collect_l4 (a0 a1 x2_4 x3_4 : Int) (h : Hp) : Option ((Int × Int) ⊕ ((Int))) :=
  if 4 ≤ x3_4 then (some (.inr x2_4))
  else (lt_ (w32 ((w32 (4 * (h a0 16))) + x3_4)) fun x4_17 =>
  gd (h a1 (-2) = 176) (gd (h (h a1 2) (-2) % 16 = 1 ∧ (0 : Int) ≤ x4_17 ∧ x4_17 < h (h a1 2) (-1)) (if 0 ≤ (h (h a1 2) x4_17) then (if x2_4 < 0 then (m_X28_collect_j91 x4_17 x3_4)
  else (gd (h (h a1 1) (-2) % 16 = 4 ∧ (0 : Int) ≤ x4_17 ∧ x4_17 < h (h a1 1) (-1)) (gd (h (h a1 1) (-2) % 16 = 4 ∧ (0 : Int) ≤ x2_4 ∧ x2_4 < h (h a1 1) (-1)) (if (lcmp_ (h (h a1 1) x4_17) (h (h a1 1) x2_4)) < 0 then (m_X28_collect_j91 x4_17 x3_4)
  else (if (lcmp_ (h (h a1 1) x4_17) (h (h a1 1) x2_4)) ≠ 0 then (m_X28_collect_j94 x3_4 x2_4)
  else (gd (h (h a1 2) (-2) % 16 = 1 ∧ (0 : Int) ≤ x2_4 ∧ x2_4 < h (h a1 2) (-1)) ((m_X28_isEarlier a0 a1 (h (h a1 2) x4_17) (h (h a1 2) x2_4) h).bind fun v85 =>
  if v85 = 0 then (m_X28_collect_j94 x3_4 x2_4)
  else (m_X28_collect_j91 x4_17 x3_4))))))))
  else (m_X28_collect_j94 x3_4 x2_4))))
noncomputable def m_X28_collect_l115 (a1 x3_115 x4_115 : Int) (h107 : Hp) : Option ((Int × Int) ⊕ ((Int))) :=
  if (w32 (Int.tdiv x4_115 4)) ≤ 0 then (some (.inr x3_115))
  else (lt_ (w32 (x3_115 + 1)) fun x3_122 =>
  gd (h107 (h107 a1 2) (-2) % 16 = 1 ∧ (0 : Int) ≤ x4_115 ∧ x4_115 < h107 (h107 a1 2) (-1)) (lt_ (h107 (h107 a1 2) x4_115) fun x4_132 =>
  some (.inl (x3_122, x4_132))))
noncomputable def m_X28_collect_l148 (a0 a1 x4_148 x5_148 : Int) (h_148 : Hp) : Option ((Int × Int × Hp) ⊕ ((Hp))) :=
  if (w32 (Int.tdiv x5_148 4)) ≤ 0 then (some (.inr h_148))
  else (gd (h_148 (h_148 a0 0) (-2) = 240) (gd (h_148 (h_148 (h_148 a0 0) 13) (-2) % 16 = 1 ∧ (0 : Int) ≤ (w32 ((h_148 a0 17) + x4_148)) ∧ (w32 ((h_148 a0 17) + x4_148)) < h_148 (h_148 (h_148 a0 0) 13) (-1)) (pt h_148 (h_148 (h_148 a0 0) 13) (w32 ((h_148 a0 17) + x4_148)) (w32 (Int.tdiv x5_148 4)) fun h173 =>
  lt_ (w32 (x4_148 + (-1))) fun x4_174 =>
  gd (h173 (h173 a1 2) (-2) % 16 = 1 ∧ (0 : Int) ≤ x5_148 ∧ x5_148 < h173 (h173 a1 2) (-1)) (lt_ (h173 (h173 a1 2) x5_148) fun x5_184 =>
  some (.inl (x4_174, x5_184, h173))))))
noncomputable def m_X28_collect_l192 (a0 x3_137 x5_192 : Int) (h_192 : Hp) : Option ((Int × Hp) ⊕ ((Hp))) :=
  if x3_137 ≤ x5_192 then (some (.inr h_192))
  else (gd (h_192 (h_192 a0 0) (-2) = 240) ((m_X28_breakOf a0 x5_192 h_192).bind fun v216 =>
  (m_X28_breakOf a0 (w32 (x5_192 + 1)) h_192).bind fun v224 =>
  (m_X28_ratio a0 v216 v224 h_192).bind fun v227 =>
  gd (h_192 (h_192 (h_192 a0 0) 14) (-2) % 16 = 1 ∧ (0 : Int) ≤ (w32 ((h_192 a0 17) + x5_192)) ∧ (w32 ((h_192 a0 17) + x5_192)) < h_192 (h_192 (h_192 a0 0) 14) (-1)) (pt h_192 (h_192 (h_192 a0 0) 14) (w32 ((h_192 a0 17) + x5_192)) v227 fun h230 =>
  lt_ (w32 (x5_192 + 1)) fun x5_231 =>
  some (.inl (x5_231, h230)))))
noncomputable def m_X28_collect (a0 a1 : Int) (h : Hp) : Option (Hp) :=
  lt_ (-1) fun x2_1 =>
  lt_ 0 fun x3_3 =>
  (lp (fun (q : Int × Int) => m_X28_collect_l4 a0 a1 q.1 q.2 h) (x2_1, x3_3)).bind (fun (y100 : Int) => gd (h a1 (-2) = 176) (gd (h (h a1 1) (-2) % 16 = 4 ∧ (0 : Int) ≤ y100 ∧ y100 < h (h a1 1) (-1)) (pt h a0 19 (h (h a1 1) y100) fun h107 =>
  lt_ 0 fun x3_111 =>
  (lp (fun (q : Int × Int) => m_X28_collect_l115 a1 q.1 q.2 h107) (x3_111, y100)).bind (fun (y137 : Int) => (m_X28_begin a0 y137 h107).bind fun h139 =>
  (lp (fun (q : Int × Int × Hp) => m_X28_collect_l148 a0 a1 q.1 q.2.1 q.2.2) (y137, y100, h139)).bind (fun (y189 : Hp) => lt_ 0 fun x5_190 =>
  (lp (fun (q : Int × Hp) => m_X28_collect_l192 a0 y137 q.1 q.2) (x5_190, y189)).bind (fun (x : Hp) => some x))))))
theorem s_X28_collect {l : Launch} [NoTr l] {D : SD} {a0 a1 : Int} {h : Hp} (hk : h a0 (-2) = 288) {r : Hp} (hm : m_X28_collect a0 a1 h = some r) : Sim l D yX28_collect (Cond.code yX28_collect cX28_collect 6 (Option.none : Option Jvm.ClassFile.FieldType)) 3 123 [rv D a0, rv D a1] h 0 ((0, 0), r) := by
  refine Sim.of (fin := fun (v : Hp) => ((0, 0), v)) (lsE := [(0, rv D a0), (1, rv D a1)]) hm rfl cwS_code (la_r (la_r la_n)) (ll_r (ll_r ll_n)) ?_
  intro p e s m below meth c X hcw hmm hcc hnm hname
  unfold m_X28_collect
  refine g_iconst (pc := 0) X (n := (-1)) (dl_at t_X28_collect 0 rfl) ?_
  refine g_lti (r32_c rfl) fun x2_1 r2_1 => ?_
  refine g_istore_nN (pc := 1) X (j := 2) (i := 2) (x := x2_1) (b := 1) (w := rv D a1) (rest := [(0, rv D a0)]) rfl (Nat.le_of_ble_eq_true rfl) [1, 0] rfl (by decide) rv_cat rfl (dl_at t_X28_collect 1 rfl) ?_
  refine g_iconst (pc := 2) X (n := 0) (dl_at t_X28_collect 2 rfl) ?_
  refine g_ltz (Or.inl rfl) fun x3_3 r3_3 => ?_
  refine g_istore_nN (pc := 3) X (j := 3) (i := 3) (x := x3_3) (b := 2) (w := iv x2_1) (rest := [(1, rv D a1), (0, rv D a0)]) rfl (Nat.le_of_ble_eq_true rfl) [0, 1, 2] rfl (by decide) rfl rfl (dl_at t_X28_collect 3 rfl) ?_
  refine g_ls (ls2 := [(0, rv D a0), (1, rv D a1), (2, iv x2_1), (3, iv x3_3)]) [3, 2, 1, 0] rfl ?_
  refine g_loop1 (fun (q : Int × Int) => [(0, rv D a0), (1, rv D a1), (2, iv q.1), (3, iv q.2)]) (fun (q : Int × Int) => h) (fun (q : Int × Int) => r32 q.1 ∧ r32 q.2) 100 (fun (y100 : Int) => [(0, rv D a0), (1, rv D a1), (2, iv y100)]) (fun (y100 : Int) => h) (fun (y100 : Int) => r32 y100) (x2_1, x3_3) ⟨r2_1, (r32_z r3_3)⟩ ?_ ?_
  · rintro ⟨x2_4, x3_4⟩ ⟨r2_4, r3_4⟩
    try dsimp only
    unfold m_X28_collect_l4
    refine g_iload_n (pc := 4) X (j := 3) (i := 3) (q := 3) (x := x3_4) rfl rfl (dl_at t_X28_collect 4 rfl) ?_
    refine g_iconst (pc := 5) X (n := 4) (dl_at t_X28_collect 5 rfl) ?_
    refine g_icmpge (pc := 6) X r3_4 (r32_c rfl) (off := 94) (tgt := 100) rfl (dl_at t_X28_collect 6 rfl) (fun _ => ?_) (fun _ => ?_)
    · refine g_ls (ls2 := [(0, rv D a0), (1, rv D a1), (2, iv x2_4)]) [0, 1, 2] rfl ?_
      exact g_at fun Q hQ => hQ r2_4
    refine g_iconst (pc := 9) X (n := 4) (dl_at t_X28_collect 7 rfl) ?_
    refine g_aload_n (pc := 10) X (j := 0) (i := 0) (q := 0) (x := a0) rfl rfl (dl_at t_X28_collect 8 rfl) ?_
    refine r_geti (pc := 11) X fX28_16 hk q2558 (dl_at t_X28_collect 9 rfl) fun g11 => ?_
    refine g_imul (pc := 14) X (r32_c rfl) g11 (dl_at t_X28_collect 10 rfl) ?_
    refine g_iload_n (pc := 15) X (j := 3) (i := 3) (q := 3) (x := x3_4) rfl rfl (dl_at t_X28_collect 11 rfl) ?_
    refine g_iadd (pc := 16) X (r32_w _) r3_4 (dl_at t_X28_collect 12 rfl) ?_
    refine g_lti (r32_w _) fun x4_17 r4_17 => ?_
    refine g_istoreN (pc := 17) X (i := 4) (x := x4_17) (b := 3) (w := iv x3_4) (rest := [(0, rv D a0), (1, rv D a1), (2, iv x2_4)]) (Nat.le_of_ble_eq_true rfl) [3, 0, 1, 2] rfl (by decide) rfl rfl (dl_at t_X28_collect 13 rfl) ?_
    refine g_aload_n (pc := 19) X (j := 1) (i := 1) (q := 3) (x := a1) rfl rfl (dl_at t_X28_collect 14 rfl) ?_
    refine g_gd fun k20 => ?_
    refine r_getrN (pc := 20) X fX11_2 k20 (nw_in q970 rfl) (dl_at t_X28_collect 15 rfl) ?_
    refine g_iload (pc := 23) X (i := 4) (q := 0) (x := x4_17) rfl (dl_at t_X28_collect 16 rfl) ?_
    refine g_gd fun k25 => ?_
    refine g_iald (pc := 25) X r4_17 k25 (dl_at t_X28_collect 17 rfl) fun g25 => ?_
    refine g_join (γ := Int) (fun q => r32 q) 94 (fun q => [(0, rv D a0), (1, rv D a1), (2, iv q), (3, iv x3_4)]) (fun q => []) (fun q => h) (fun q => m_X28_collect_j94 x3_4 q) ?_ ?_
    · rintro x2_94 r2_94
      try dsimp only
      unfold m_X28_collect_j94
      refine r_iincN (pc := 94) X (i := 3) (q := 3) (n := 1) (x := x3_4) (b := 2) (w := iv x2_94) (rest := [(0, rv D a0), (1, rv D a1)]) rfl r3_4 (r32_c rfl) (Nat.le_of_ble_eq_true rfl) [2, 0, 1] rfl (by decide) rfl rfl (dl_at t_X28_collect 56 rfl) fun x3_94 r3_94 => ?_
      refine g_goto (pc := 97) X (off := (-93)) (tgt := 4) rfl (dl_at t_X28_collect 57 rfl) ?_
      refine g_ls (ls2 := [(0, rv D a0), (1, rv D a1), (2, iv x2_94), (3, iv x3_94)]) [2, 3, 1, 0] rfl ?_
      exact g_at fun Q hQ => hQ ⟨r2_94, r3_94⟩
    intro J94
    refine g_ifge (pc := 26) X g25 (off := 6) (tgt := 32) rfl (dl_at t_X28_collect 18 rfl) (fun _ => ?_) (fun _ => ?_)
    · refine g_iload_n (pc := 32) X (j := 2) (i := 2) (q := 4) (x := x2_4) rfl rfl (dl_at t_X28_collect 20 rfl) ?_
      refine g_join (γ := Unit) (fun q => True) 91 (fun q => [(0, rv D a0), (1, rv D a1), (3, iv x3_4), (4, iv x4_17)]) (fun q => []) (fun q => h) (fun q => m_X28_collect_j91 x4_17 x3_4) ?_ ?_
      · rintro _ _
        try dsimp only
        unfold m_X28_collect_j91
        refine g_iload (pc := 91) X (i := 4) (q := 3) (x := x4_17) rfl (dl_at t_X28_collect 54 rfl) ?_
        refine g_istore_nN (pc := 93) X (j := 2) (i := 2) (x := x4_17) (b := 1) (w := rv D a1) (rest := [(0, rv D a0), (3, iv x3_4)]) rfl (Nat.le_of_ble_eq_true rfl) [1, 0, 2] rfl (by decide) rv_cat rfl (dl_at t_X28_collect 55 rfl) ?_
        refine g_ls (ls2 := [(0, rv D a0), (1, rv D a1), (2, iv x4_17), (3, iv x3_4)]) [2, 1, 0, 3] rfl ?_
        exact J94 x4_17 r4_17
      intro J91
      refine g_iflt (pc := 33) X r2_4 (off := 58) (tgt := 91) rfl (dl_at t_X28_collect 21 rfl) (fun _ => ?_) (fun _ => ?_)
      · refine g_ls (ls2 := [(0, rv D a0), (1, rv D a1), (3, iv x3_4), (4, iv x4_17)]) [2, 3, 1, 0] rfl ?_
        exact J91 () trivial
      refine g_aload_n (pc := 36) X (j := 1) (i := 1) (q := 3) (x := a1) rfl rfl (dl_at t_X28_collect 22 rfl) ?_
      refine r_getrN (pc := 37) X fX11_1 k20 (nw_in q968 rfl) (dl_at t_X28_collect 23 rfl) ?_
      refine g_iload (pc := 40) X (i := 4) (q := 0) (x := x4_17) rfl (dl_at t_X28_collect 24 rfl) ?_
      refine g_gd fun k42 => ?_
      refine g_lald (pc := 42) X r4_17 k42 (dl_at t_X28_collect 25 rfl) fun g42 => ?_
      refine g_aload_n (pc := 43) X (j := 1) (i := 1) (q := 3) (x := a1) rfl rfl (dl_at t_X28_collect 26 rfl) ?_
      refine r_getrN (pc := 44) X fX11_1 k20 (nw_in q968 rfl) (dl_at t_X28_collect 27 rfl) ?_
      refine g_iload_n (pc := 47) X (j := 2) (i := 2) (q := 4) (x := x2_4) rfl rfl (dl_at t_X28_collect 28 rfl) ?_
      refine g_gd fun k48 => ?_
      refine g_lald (pc := 48) X r2_4 k48 (dl_at t_X28_collect 29 rfl) fun g48 => ?_
      refine g_lcmp (pc := 49) X g42 g48 (dl_at t_X28_collect 30 rfl) ?_
      refine g_iflt (pc := 50) X (r32_lcmp _ _) (off := 41) (tgt := 91) rfl (dl_at t_X28_collect 31 rfl) (fun _ => ?_) (fun _ => ?_)
      · refine g_ls (ls2 := [(0, rv D a0), (1, rv D a1), (3, iv x3_4), (4, iv x4_17)]) [2, 3, 1, 0] rfl ?_
        exact J91 () trivial
      refine g_aload_n (pc := 53) X (j := 1) (i := 1) (q := 3) (x := a1) rfl rfl (dl_at t_X28_collect 32 rfl) ?_
      refine r_getrN (pc := 54) X fX11_1 k20 (nw_in q968 rfl) (dl_at t_X28_collect 33 rfl) ?_
      refine g_iload (pc := 57) X (i := 4) (q := 0) (x := x4_17) rfl (dl_at t_X28_collect 34 rfl) ?_
      refine g_lald (pc := 59) X r4_17 k42 (dl_at t_X28_collect 35 rfl) fun g59 => ?_
      refine g_aload_n (pc := 60) X (j := 1) (i := 1) (q := 3) (x := a1) rfl rfl (dl_at t_X28_collect 36 rfl) ?_
      refine r_getrN (pc := 61) X fX11_1 k20 (nw_in q968 rfl) (dl_at t_X28_collect 37 rfl) ?_
      refine g_iload_n (pc := 64) X (j := 2) (i := 2) (q := 4) (x := x2_4) rfl rfl (dl_at t_X28_collect 38 rfl) ?_
      refine g_lald (pc := 65) X r2_4 k48 (dl_at t_X28_collect 39 rfl) fun g65 => ?_
      refine g_lcmp (pc := 66) X g59 g65 (dl_at t_X28_collect 40 rfl) ?_
      refine g_ifne (pc := 67) X (r32_lcmp _ _) (off := 27) (tgt := 94) rfl (dl_at t_X28_collect 41 rfl) (fun _ => ?_) (fun _ => ?_)
      · refine g_ls (ls2 := [(0, rv D a0), (1, rv D a1), (2, iv x2_4), (3, iv x3_4)]) [2, 3, 4, 1] rfl ?_
        exact J94 x2_4 r2_4
      refine g_aload_n (pc := 70) X (j := 0) (i := 0) (q := 2) (x := a0) rfl rfl (dl_at t_X28_collect 42 rfl) ?_
      refine g_aload_n (pc := 71) X (j := 1) (i := 1) (q := 3) (x := a1) rfl rfl (dl_at t_X28_collect 43 rfl) ?_
      refine g_aload_n (pc := 72) X (j := 1) (i := 1) (q := 3) (x := a1) rfl rfl (dl_at t_X28_collect 44 rfl) ?_
      refine r_getrN (pc := 73) X fX11_2 k20 (nw_in q970 rfl) (dl_at t_X28_collect 45 rfl) ?_
      refine g_iload (pc := 76) X (i := 4) (q := 0) (x := x4_17) rfl (dl_at t_X28_collect 46 rfl) ?_
      refine g_iald (pc := 78) X r4_17 k25 (dl_at t_X28_collect 47 rfl) fun g78 => ?_
      refine g_aload_n (pc := 79) X (j := 1) (i := 1) (q := 3) (x := a1) rfl rfl (dl_at t_X28_collect 48 rfl) ?_
      refine r_getrN (pc := 80) X fX11_2 k20 (nw_in q970 rfl) (dl_at t_X28_collect 49 rfl) ?_
      refine g_iload_n (pc := 83) X (j := 2) (i := 2) (q := 4) (x := x2_4) rfl rfl (dl_at t_X28_collect 50 rfl) ?_
      refine g_gd fun k84 => ?_
      refine g_iald (pc := 84) X r2_4 k84 (dl_at t_X28_collect 51 rfl) fun g84 => ?_
      refine r_callRz (pc := 85) X (fun _ hv => s_X28_isEarlier hk g78 g84 hv) cw_code q2927 q396 (in_Vk X (As := [rv D a1, iv (h (h a1 2) x4_17), iv (h (h a1 2) x2_4)]) kX28 hk (Or.inl q2924) q2926 qs186 cw_code q2927 ⟨by decide, by decide⟩ rfl (dl_at t_X28_collect 52 rfl)) (dl_at t_X28_collect 52 rfl) (cat24 (st := []) (Nat.le_of_ble_eq_true rfl)) (Nat.le_of_ble_eq_true rfl) (Nat.le_of_ble_eq_true rfl) fun v85 g85 => ?_
      refine g_ifeq (pc := 88) X (r32_z g85) (off := 6) (tgt := 94) rfl (dl_at t_X28_collect 53 rfl) (fun _ => ?_) (fun _ => ?_)
      · refine g_ls (ls2 := [(0, rv D a0), (1, rv D a1), (2, iv x2_4), (3, iv x3_4)]) [2, 3, 4, 1] rfl ?_
        exact J94 x2_4 r2_4
      refine g_ls (ls2 := [(0, rv D a0), (1, rv D a1), (3, iv x3_4), (4, iv x4_17)]) [2, 3, 1, 0] rfl ?_
      exact J91 () trivial
    refine g_goto (pc := 29) X (off := 65) (tgt := 94) rfl (dl_at t_X28_collect 19 rfl) ?_
    refine g_ls (ls2 := [(0, rv D a0), (1, rv D a1), (2, iv x2_4), (3, iv x3_4)]) [2, 3, 4, 1] rfl ?_
    exact J94 x2_4 r2_4
  · rintro x2_100 r2_100
    try dsimp only [sE]
    refine g_aload_n (pc := 100) X (j := 0) (i := 0) (q := 0) (x := a0) rfl rfl (dl_at t_X28_collect 58 rfl) ?_
    refine g_aload_n (pc := 101) X (j := 1) (i := 1) (q := 1) (x := a1) rfl rfl (dl_at t_X28_collect 59 rfl) ?_
    refine g_gd fun k102 => ?_
    refine r_getrN (pc := 102) X fX11_1 k102 (nw_in q968 rfl) (dl_at t_X28_collect 60 rfl) ?_
    refine g_iload_n (pc := 105) X (j := 2) (i := 2) (q := 2) (x := x2_100) rfl rfl (dl_at t_X28_collect 61 rfl) ?_
    refine g_gd fun k106 => ?_
    refine g_lald (pc := 106) X r2_100 k106 (dl_at t_X28_collect 62 rfl) fun g106 => ?_
    refine r_putl (pc := 107) X fX28_19 hk q2564 rfl (dl_at t_X28_collect 63 rfl) g106 (fun h107 E107 => ?_)
    refine g_iconst (pc := 110) X (n := 0) (dl_at t_X28_collect 64 rfl) ?_
    refine g_ltz (Or.inl rfl) fun x3_111 r3_111 => ?_
    refine g_istore_nN (pc := 111) X (j := 3) (i := 3) (x := x3_111) (b := 2) (w := iv x2_100) (rest := [(0, rv D a0), (1, rv D a1)]) rfl (Nat.le_of_ble_eq_true rfl) [2, 0, 1] rfl (by decide) rfl rfl (dl_at t_X28_collect 65 rfl) ?_
    refine g_iload_n (pc := 112) X (j := 2) (i := 2) (q := 1) (x := x2_100) rfl rfl (dl_at t_X28_collect 66 rfl) ?_
    refine g_istoreN (pc := 113) X (i := 4) (x := x2_100) (b := 3) (w := iv x3_111) (rest := [(2, iv x2_100), (0, rv D a0), (1, rv D a1)]) (Nat.le_of_ble_eq_true rfl) [0, 1, 2, 3] rfl (by decide) rfl rfl (dl_at t_X28_collect 67 rfl) ?_
    refine g_ls (ls2 := [(0, rv D a0), (1, rv D a1), (2, iv x2_100), (3, iv x3_111), (4, iv x2_100)]) [3, 4, 2, 1, 0] rfl ?_
    refine g_loop1 (fun (q : Int × Int) => [(0, rv D a0), (1, rv D a1), (2, iv x2_100), (3, iv q.1), (4, iv q.2)]) (fun (q : Int × Int) => h107) (fun (q : Int × Int) => r32 q.1 ∧ r32 q.2) 137 (fun (y137 : Int) => [(0, rv D a0), (1, rv D a1), (2, iv x2_100), (3, iv y137)]) (fun (y137 : Int) => h107) (fun (y137 : Int) => r32 y137) (x3_111, x2_100) ⟨(r32_z r3_111), r2_100⟩ ?_ ?_
    · rintro ⟨x3_115, x4_115⟩ ⟨r3_115, r4_115⟩
      try dsimp only
      unfold m_X28_collect_l115
      refine g_iload (pc := 115) X (i := 4) (q := 4) (x := x4_115) rfl (dl_at t_X28_collect 68 rfl) ?_
      refine g_iconst (pc := 117) X (n := 4) (dl_at t_X28_collect 69 rfl) ?_
      refine g_idiv (pc := 118) X r4_115 (r32_c rfl) (by decide) (dl_at t_X28_collect 70 rfl) ?_
      refine g_ifle (pc := 119) X (r32_w _) (off := 18) (tgt := 137) rfl (dl_at t_X28_collect 71 rfl) (fun _ => ?_) (fun _ => ?_)
      · refine g_ls (ls2 := [(0, rv D a0), (1, rv D a1), (2, iv x2_100), (3, iv x3_115)]) [0, 1, 2, 3] rfl ?_
        exact g_at fun Q hQ => hQ r3_115
      refine r_iincN (pc := 122) X (i := 3) (q := 3) (n := 1) (x := x3_115) (b := 2) (w := iv x2_100) (rest := [(0, rv D a0), (1, rv D a1), (4, iv x4_115)]) rfl r3_115 (r32_c rfl) (Nat.le_of_ble_eq_true rfl) [2, 0, 1, 4] rfl (by decide) rfl rfl (dl_at t_X28_collect 72 rfl) fun x3_122 r3_122 => ?_
      refine g_aload_n (pc := 125) X (j := 1) (i := 1) (q := 3) (x := a1) rfl rfl (dl_at t_X28_collect 73 rfl) ?_
      have k126 := kx E107 (by decide) k102
      refine r_getrN (pc := 126) X fX11_2 k126 (nw_in q970 rfl) (dl_at t_X28_collect 74 rfl) ?_
      refine g_iload (pc := 129) X (i := 4) (q := 4) (x := x4_115) rfl (dl_at t_X28_collect 75 rfl) ?_
      refine g_gd fun k131 => ?_
      refine g_iald (pc := 131) X r4_115 k131 (dl_at t_X28_collect 76 rfl) fun g131 => ?_
      refine g_lti g131 fun x4_132 r4_132 => ?_
      refine g_istoreN (pc := 132) X (i := 4) (x := x4_132) (b := 3) (w := iv x3_122) (rest := [(2, iv x2_100), (0, rv D a0), (1, rv D a1)]) (Nat.le_of_ble_eq_true rfl) [0, 1, 2, 3] rfl (by decide) rfl rfl (dl_at t_X28_collect 77 rfl) ?_
      refine g_goto (pc := 134) X (off := (-19)) (tgt := 115) rfl (dl_at t_X28_collect 78 rfl) ?_
      refine g_ls (ls2 := [(0, rv D a0), (1, rv D a1), (2, iv x2_100), (3, iv x3_122), (4, iv x4_132)]) [3, 4, 2, 1, 0] rfl ?_
      exact g_at fun Q hQ => hQ ⟨r3_122, r4_132⟩
    · rintro x3_137 r3_137
      try dsimp only [sE]
      refine g_aload_n (pc := 137) X (j := 0) (i := 0) (q := 0) (x := a0) rfl rfl (dl_at t_X28_collect 79 rfl) ?_
      refine g_iload_n (pc := 138) X (j := 3) (i := 3) (q := 3) (x := x3_137) rfl rfl (dl_at t_X28_collect 80 rfl) ?_
      have k139 := kx E107 (by decide) hk
      refine r_callV (pc := 139) X (fun _ hv => s_X28_begin k139 r3_137 hv) cw_code q2935 q396 (in_Vk X (As := [iv x3_137]) kX28 k139 (Or.inl q2932) q2934 qs188 cw_code q2935 ⟨by decide, by decide⟩ rfl (dl_at t_X28_collect 81 rfl)) (dl_at t_X28_collect 81 rfl) (cat24 (st := []) (Nat.le_of_ble_eq_true rfl)) (Nat.le_of_ble_eq_true rfl) (Nat.le_of_ble_eq_true rfl) fun h139 E139 => ?_
      refine g_iload_n (pc := 142) X (j := 3) (i := 3) (q := 3) (x := x3_137) rfl rfl (dl_at t_X28_collect 82 rfl) ?_
      refine g_istoreN (pc := 143) X (i := 4) (x := x3_137) (b := 3) (w := iv x3_137) (rest := [(0, rv D a0), (1, rv D a1), (2, iv x2_100)]) (Nat.le_of_ble_eq_true rfl) [3, 0, 1, 2] rfl (by decide) rfl rfl (dl_at t_X28_collect 83 rfl) ?_
      refine g_iload_n (pc := 145) X (j := 2) (i := 2) (q := 4) (x := x2_100) rfl rfl (dl_at t_X28_collect 84 rfl) ?_
      refine g_istoreN (pc := 146) X (i := 5) (x := x2_100) (b := 4) (w := iv x3_137) (rest := [(3, iv x3_137), (0, rv D a0), (1, rv D a1)]) (Nat.le_of_ble_eq_true rfl) [0, 1, 2, 3] rfl (by decide) rfl rfl (dl_at t_X28_collect 85 rfl) ?_
      refine g_ls (ls2 := [(0, rv D a0), (1, rv D a1), (3, iv x3_137), (4, iv x3_137), (5, iv x2_100)]) [3, 4, 2, 1, 0] rfl ?_
      refine g_loop1 (fun (q : Int × Int × Hp) => [(0, rv D a0), (1, rv D a1), (3, iv x3_137), (4, iv q.1), (5, iv q.2.1)]) (fun (q : Int × Int × Hp) => q.2.2) (fun (q : Int × Int × Hp) => r32 q.1 ∧ r32 q.2.1 ∧ Ext h139 q.2.2) 189 (fun (y189 : Hp) => [(0, rv D a0), (3, iv x3_137)]) (fun (y189 : Hp) => y189) (fun (y189 : Hp) => Ext h139 y189) (x3_137, x2_100, h139) ⟨r3_137, r2_100, (Ext.refl _)⟩ ?_ ?_
      · rintro ⟨x4_148, x5_148, h_148⟩ ⟨r4_148, r5_148, E_148⟩
        try dsimp only
        unfold m_X28_collect_l148
        refine g_iload (pc := 148) X (i := 5) (q := 4) (x := x5_148) rfl (dl_at t_X28_collect 86 rfl) ?_
        refine g_iconst (pc := 150) X (n := 4) (dl_at t_X28_collect 87 rfl) ?_
        refine g_idiv (pc := 151) X r5_148 (r32_c rfl) (by decide) (dl_at t_X28_collect 88 rfl) ?_
        refine g_ifle (pc := 152) X (r32_w _) (off := 37) (tgt := 189) rfl (dl_at t_X28_collect 89 rfl) (fun _ => ?_) (fun _ => ?_)
        · refine g_ls (ls2 := [(0, rv D a0), (3, iv x3_137)]) [0, 2] rfl ?_
          exact g_at fun Q hQ => hQ E_148
        refine g_aload_n (pc := 155) X (j := 0) (i := 0) (q := 0) (x := a0) rfl rfl (dl_at t_X28_collect 90 rfl) ?_
        have k156 := kx (E139.trans E_148) (by decide) k139
        refine r_getr (pc := 156) X fX28_0 k156 q2528 (dl_at t_X28_collect 91 rfl) ?_
        refine g_gd fun k159 => ?_
        refine r_getrN (pc := 159) X fX15_13 k159 (nw_in q1157 rfl) (dl_at t_X28_collect 92 rfl) ?_
        refine g_aload_n (pc := 162) X (j := 0) (i := 0) (q := 0) (x := a0) rfl rfl (dl_at t_X28_collect 93 rfl) ?_
        refine r_geti (pc := 163) X fX28_17 k156 q2560 (dl_at t_X28_collect 94 rfl) fun g163 => ?_
        refine g_iload (pc := 166) X (i := 4) (q := 3) (x := x4_148) rfl (dl_at t_X28_collect 95 rfl) ?_
        refine g_iadd (pc := 168) X g163 r4_148 (dl_at t_X28_collect 96 rfl) ?_
        refine g_iload (pc := 169) X (i := 5) (q := 4) (x := x5_148) rfl (dl_at t_X28_collect 97 rfl) ?_
        refine g_iconst (pc := 171) X (n := 4) (dl_at t_X28_collect 98 rfl) ?_
        refine g_idiv (pc := 172) X r5_148 (r32_c rfl) (by decide) (dl_at t_X28_collect 99 rfl) ?_
        refine g_gd fun k173 => ?_
        refine r_iast (pc := 173) X (r32_w _) (r32_w _) k173 (dl_at t_X28_collect 100 rfl) (fun h173 E173 => ?_)
        refine r_iincN (pc := 174) X (i := 4) (q := 3) (n := (-1)) (x := x4_148) (b := 3) (w := iv x3_137) (rest := [(0, rv D a0), (1, rv D a1), (5, iv x5_148)]) rfl r4_148 (r32_c rfl) (Nat.le_of_ble_eq_true rfl) [2, 0, 1, 4] rfl (by decide) rfl rfl (dl_at t_X28_collect 101 rfl) fun x4_174 r4_174 => ?_
        refine g_aload_n (pc := 177) X (j := 1) (i := 1) (q := 3) (x := a1) rfl rfl (dl_at t_X28_collect 102 rfl) ?_
        have k178 := kx (E107.trans (E139.trans (E_148.trans E173))) (by decide) k102
        refine r_getrN (pc := 178) X fX11_2 k178 (nw_in q970 rfl) (dl_at t_X28_collect 103 rfl) ?_
        refine g_iload (pc := 181) X (i := 5) (q := 4) (x := x5_148) rfl (dl_at t_X28_collect 104 rfl) ?_
        refine g_gd fun k183 => ?_
        refine g_iald (pc := 183) X r5_148 k183 (dl_at t_X28_collect 105 rfl) fun g183 => ?_
        refine g_lti g183 fun x5_184 r5_184 => ?_
        refine g_istoreN (pc := 184) X (i := 5) (x := x5_184) (b := 4) (w := iv x4_174) (rest := [(3, iv x3_137), (0, rv D a0), (1, rv D a1)]) (Nat.le_of_ble_eq_true rfl) [0, 1, 2, 3] rfl (by decide) rfl rfl (dl_at t_X28_collect 106 rfl) ?_
        refine g_goto (pc := 186) X (off := (-38)) (tgt := 148) rfl (dl_at t_X28_collect 107 rfl) ?_
        refine g_ls (ls2 := [(0, rv D a0), (1, rv D a1), (3, iv x3_137), (4, iv x4_174), (5, iv x5_184)]) [3, 4, 2, 1, 0] rfl ?_
        exact g_at fun Q hQ => hQ ⟨r4_174, r5_184, (E_148.trans E173)⟩
      · rintro h_189 E_189
        try dsimp only [sE]
        refine g_iconst (pc := 189) X (n := 0) (dl_at t_X28_collect 108 rfl) ?_
        refine g_ltz (Or.inl rfl) fun x5_190 r5_190 => ?_
        refine g_istore (pc := 190) X (i := 5) (x := x5_190) (rest := [(0, rv D a0), (3, iv x3_137)]) (Nat.le_of_ble_eq_true rfl) [0, 1] rfl rfl (dl_at t_X28_collect 109 rfl) ?_
        refine g_ls (ls2 := [(0, rv D a0), (3, iv x3_137), (5, iv x5_190)]) [1, 2, 0] rfl ?_
        refine g_loop0F (fun (q : Int × Hp) => [(0, rv D a0), (3, iv x3_137), (5, iv q.1)]) (fun (q : Int × Hp) => q.2) (fun (q : Int × Hp) => r32 q.1 ∧ Ext h_189 q.2) (x5_190, h_189) ⟨(r32_z r5_190), (Ext.refl _)⟩ ?_ (fun _ => rfl)
        · rintro ⟨x5_192, h_192⟩ ⟨r5_192, E_192⟩
          try dsimp only
          unfold m_X28_collect_l192
          refine g_iload (pc := 192) X (i := 5) (q := 2) (x := x5_192) rfl (dl_at t_X28_collect 110 rfl) ?_
          refine g_iload_n (pc := 194) X (j := 3) (i := 3) (q := 1) (x := x3_137) rfl rfl (dl_at t_X28_collect 111 rfl) ?_
          refine g_icmpge (pc := 195) X r5_192 r3_137 (off := 42) (tgt := 237) rfl (dl_at t_X28_collect 112 rfl) (fun _ => ?_) (fun _ => ?_)
          · exact g_at fun Q hQ => (g_vret (pc := 237) X (v := 0) rfl rfl (dl_at t_X28_collect 133 rfl)) _ Q rfl hQ
          refine g_aload_n (pc := 198) X (j := 0) (i := 0) (q := 0) (x := a0) rfl rfl (dl_at t_X28_collect 113 rfl) ?_
          have k199 := kx (E139.trans (E_189.trans E_192)) (by decide) k139
          refine r_getr (pc := 199) X fX28_0 k199 q2528 (dl_at t_X28_collect 114 rfl) ?_
          refine g_gd fun k202 => ?_
          refine r_getrN (pc := 202) X fX15_14 k202 (nw_in q1159 rfl) (dl_at t_X28_collect 115 rfl) ?_
          refine g_aload_n (pc := 205) X (j := 0) (i := 0) (q := 0) (x := a0) rfl rfl (dl_at t_X28_collect 116 rfl) ?_
          refine r_geti (pc := 206) X fX28_17 k199 q2560 (dl_at t_X28_collect 117 rfl) fun g206 => ?_
          refine g_iload (pc := 209) X (i := 5) (q := 2) (x := x5_192) rfl (dl_at t_X28_collect 118 rfl) ?_
          refine g_iadd (pc := 211) X g206 r5_192 (dl_at t_X28_collect 119 rfl) ?_
          refine g_aload_n (pc := 212) X (j := 0) (i := 0) (q := 0) (x := a0) rfl rfl (dl_at t_X28_collect 120 rfl) ?_
          refine g_aload_n (pc := 213) X (j := 0) (i := 0) (q := 0) (x := a0) rfl rfl (dl_at t_X28_collect 121 rfl) ?_
          refine g_iload (pc := 214) X (i := 5) (q := 2) (x := x5_192) rfl (dl_at t_X28_collect 122 rfl) ?_
          refine r_callRi (pc := 216) X (fun _ hv => s_X28_breakOf k199 r5_192 hv) cw_code q2939 q396 (in_Vk X (As := [iv x5_192]) kX28 k199 (Or.inl q2936) q2938 qs189 cw_code q2939 ⟨by decide, by decide⟩ rfl (dl_at t_X28_collect 123 rfl)) (dl_at t_X28_collect 123 rfl) (cat24 (st := [rv D a0, iv (w32 ((h_192 a0 17) + x5_192)), rv D (h_192 (h_192 a0 0) 14)]) (Nat.le_of_ble_eq_true rfl)) (Nat.le_of_ble_eq_true rfl) (Nat.le_of_ble_eq_true rfl) fun v216 g216 => ?_
          refine g_aload_n (pc := 219) X (j := 0) (i := 0) (q := 0) (x := a0) rfl rfl (dl_at t_X28_collect 124 rfl) ?_
          refine g_iload (pc := 220) X (i := 5) (q := 2) (x := x5_192) rfl (dl_at t_X28_collect 125 rfl) ?_
          refine g_iconst (pc := 222) X (n := 1) (dl_at t_X28_collect 126 rfl) ?_
          refine g_iadd (pc := 223) X r5_192 (r32_c rfl) (dl_at t_X28_collect 127 rfl) ?_
          refine r_callRi (pc := 224) X (fun _ hv => s_X28_breakOf k199 (r32_w _) hv) cw_code q2939 q396 (in_Vk X (As := [iv (w32 (x5_192 + 1))]) kX28 k199 (Or.inl q2936) q2938 qs189 cw_code q2939 ⟨by decide, by decide⟩ rfl (dl_at t_X28_collect 128 rfl)) (dl_at t_X28_collect 128 rfl) (cat24 (st := [iv v216, rv D a0, iv (w32 ((h_192 a0 17) + x5_192)), rv D (h_192 (h_192 a0 0) 14)]) (Nat.le_of_ble_eq_true rfl)) (Nat.le_of_ble_eq_true rfl) (Nat.le_of_ble_eq_true rfl) fun v224 g224 => ?_
          refine r_callRi (pc := 227) X (fun _ hv => s_X28_ratio k199 g216 g224 hv) cw_code q2878 q396 (in_Vk X (As := [iv v216, iv v224]) kX28 k199 (Or.inl q2875) q2877 qs178 cw_code q2878 ⟨by decide, by decide⟩ rfl (dl_at t_X28_collect 129 rfl)) (dl_at t_X28_collect 129 rfl) (cat24 (st := [iv (w32 ((h_192 a0 17) + x5_192)), rv D (h_192 (h_192 a0 0) 14)]) (Nat.le_of_ble_eq_true rfl)) (Nat.le_of_ble_eq_true rfl) (Nat.le_of_ble_eq_true rfl) fun v227 g227 => ?_
          refine g_gd fun k230 => ?_
          refine r_iast (pc := 230) X (r32_w _) g227 k230 (dl_at t_X28_collect 130 rfl) (fun h230 E230 => ?_)
          refine r_iinc (pc := 231) X (i := 5) (q := 2) (n := 1) (x := x5_192) (rest := [(0, rv D a0), (3, iv x3_137)]) rfl r5_192 (r32_c rfl) (Nat.le_of_ble_eq_true rfl) [0, 1] rfl rfl (dl_at t_X28_collect 131 rfl) fun x5_231 r5_231 => ?_
          refine g_goto (pc := 234) X (off := (-42)) (tgt := 192) rfl (dl_at t_X28_collect 132 rfl) ?_
          refine g_ls (ls2 := [(0, rv D a0), (3, iv x3_137), (5, iv x5_231)]) [1, 2, 0] rfl ?_
          exact g_at fun Q hQ => hQ ⟨r5_231, (E_192.trans E230)⟩
def k_X28_set : List (Nat × Instr × Nat) := [(0, .aload_n 0, 1), (1, .aload_n 0, 1), (2, .getfield 72, 3), (5, .putfield 190, 3), (8, .aload_n 0, 1), (9, .aload_n 1, 1), (10, .invokevirtual 193, 3), (13, .istore_n 2, 1), (14, .iload_n 2, 1), (15, .ifCond .ne 16, 3), (18, .aload_n 0, 1), (19, .sipush 10000, 3), (22, .putfield 190, 3), (25, .aload_n 0, 1), (26, .aload_n 1, 1), (27, .invokevirtual 193, 3), (30, .istore_n 2, 1), (31, .iload_n 2, 1), (32, .ifCond .ne 16, 3), (35, .aload_n 0, 1), (36, .sipush 10001, 3), (39, .putfield 190, 3), (42, .aload_n 0, 1), (43, .aload_n 1, 1), (44, .invokevirtual 193, 3), (47, .istore_n 2, 1), (48, .aload_n 0, 1), (49, .aload_n 1, 1), (50, .invokevirtual 197, 3), (53, .return_, 1)]
theorem t_X28_set : ∀ q ∈ k_X28_set, decode cX28_set q.1 = .ok q.2 := dl_all (by decide +kernel)
noncomputable def m_X28_set_j31 (a1 a0 x2_31 : Int) (h_31 : Hp) : Option (Hp) :=
  if x2_31 ≠ 0 then ((m_X28_collect a0 a1 h_31).bind fun h50 =>
  some h50)
  else (pt h_31 a0 20 10001 fun h39 =>
  bW (m_X28_search a0 a1 h39) fun v44 h44 =>
  (m_X28_collect a0 a1 h44).bind fun h50_1 =>
  some h50_1)
noncomputable def m_X28_set (a0 a1 : Int) (h : Hp) : Option (Hp) :=
  pt h a0 20 (h a0 9) fun h5 =>
  bW (m_X28_search a0 a1 h5) fun v10 h10 =>
  if v10 ≠ 0 then (m_X28_set_j31 a1 a0 v10 h10)
  else (pt h10 a0 20 10000 fun h22 =>
  bW (m_X28_search a0 a1 h22) fun v27 h27 =>
  m_X28_set_j31 a1 a0 v27 h27)
theorem s_X28_set {l : Launch} [NoTr l] {D : SD} {a0 a1 : Int} {h : Hp} (hk : h a0 (-2) = 288) {r : Hp} (hm : m_X28_set a0 a1 h = some r) : Sim l D yX28_set (Cond.code yX28_set cX28_set 3 (Option.none : Option Jvm.ClassFile.FieldType)) 5 207 [rv D a0, rv D a1] h 0 ((0, 0), r) := by
  refine Sim.of (fin := fun (v : Hp) => ((0, 0), v)) (lsE := [(0, rv D a0), (1, rv D a1)]) hm rfl cwS_code (la_r (la_r la_n)) (ll_r (ll_r ll_n)) ?_
  intro p e s m below meth c X hcw hmm hcc hnm hname
  unfold m_X28_set
  refine g_aload_n (pc := 0) X (j := 0) (i := 0) (q := 0) (x := a0) rfl rfl (dl_at t_X28_set 0 rfl) ?_
  refine g_aload_n (pc := 1) X (j := 0) (i := 0) (q := 0) (x := a0) rfl rfl (dl_at t_X28_set 1 rfl) ?_
  refine r_geti (pc := 2) X fX28_9 hk q2549 (dl_at t_X28_set 2 rfl) fun g2 => ?_
  refine r_puti (pc := 5) X fX28_20 hk q2566 rfl (dl_at t_X28_set 3 rfl) g2 (fun h5 E5 => ?_)
  refine g_aload_n (pc := 8) X (j := 0) (i := 0) (q := 0) (x := a0) rfl rfl (dl_at t_X28_set 4 rfl) ?_
  refine g_aload_n (pc := 9) X (j := 1) (i := 1) (q := 1) (x := a1) rfl rfl (dl_at t_X28_set 5 rfl) ?_
  have k10 := kx E5 (by decide) hk
  refine r_callWz (pc := 10) X (fun _ hv => s_X28_search k10 hv) cw_code q2874 q396 (in_Vk X (As := [rv D a1]) kX28 k10 (Or.inl q2871) q2873 qs177 cw_code q2874 ⟨by decide, by decide⟩ rfl (dl_at t_X28_set 6 rfl)) (dl_at t_X28_set 6 rfl) (cat24 (st := []) (Nat.le_of_ble_eq_true rfl)) (Nat.le_of_ble_eq_true rfl) (Nat.le_of_ble_eq_true rfl) fun v10 h10 g10 E10 => ?_
  refine g_istore_nN (pc := 13) X (j := 2) (i := 2) (x := v10) (b := 1) (w := rv D a1) (rest := [(0, rv D a0)]) rfl (Nat.le_of_ble_eq_true rfl) [1, 0] rfl (by decide) rv_cat rfl (dl_at t_X28_set 7 rfl) ?_
  refine g_iload_n (pc := 14) X (j := 2) (i := 2) (q := 0) (x := v10) rfl rfl (dl_at t_X28_set 8 rfl) ?_
  refine g_join (γ := Int × Hp) (fun q => (q.1 = 0 ∨ q.1 = 1) ∧ Ext h10 q.2) 31 (fun q => [(0, rv D a0), (1, rv D a1), (2, iv q.1)]) (fun q => []) (fun q => q.2) (fun q => m_X28_set_j31 a1 a0 q.1 q.2) ?_ ?_
  · rintro ⟨x2_31, h_31⟩ ⟨r2_31, E_31⟩
    try dsimp only
    unfold m_X28_set_j31
    refine g_iload_n (pc := 31) X (j := 2) (i := 2) (q := 2) (x := x2_31) rfl rfl (dl_at t_X28_set 17 rfl) ?_
    refine g_ifne (pc := 32) X (r32_z r2_31) (off := 16) (tgt := 48) rfl (dl_at t_X28_set 18 rfl) (fun _ => ?_) (fun _ => ?_)
    · refine g_aload_n (pc := 48) X (j := 0) (i := 0) (q := 0) (x := a0) rfl rfl (dl_at t_X28_set 26 rfl) ?_
      refine g_aload_n (pc := 49) X (j := 1) (i := 1) (q := 1) (x := a1) rfl rfl (dl_at t_X28_set 27 rfl) ?_
      have k50 := kx (E10.trans E_31) (by decide) k10
      refine r_callV (pc := 50) X (fun _ hv => s_X28_collect k50 hv) cw_code q2931 q396 (in_Vk X (As := [rv D a1]) kX28 k50 (Or.inl q2928) q2930 qs187 cw_code q2931 ⟨by decide, by decide⟩ rfl (dl_at t_X28_set 28 rfl)) (dl_at t_X28_set 28 rfl) (cat24 (st := []) (Nat.le_of_ble_eq_true rfl)) (Nat.le_of_ble_eq_true rfl) (Nat.le_of_ble_eq_true rfl) fun h50 E50 => ?_
      exact g_vret (pc := 53) X (v := 0) rfl rfl (dl_at t_X28_set 29 rfl)
    refine g_aload_n (pc := 35) X (j := 0) (i := 0) (q := 0) (x := a0) rfl rfl (dl_at t_X28_set 19 rfl) ?_
    refine g_sipush (pc := 36) X (n := 10001) rfl (dl_at t_X28_set 20 rfl) ?_
    have k39 := kx (E10.trans E_31) (by decide) k10
    refine r_puti (pc := 39) X fX28_20 k39 q2566 rfl (dl_at t_X28_set 21 rfl) (r32_c rfl) (fun h39 E39 => ?_)
    refine g_aload_n (pc := 42) X (j := 0) (i := 0) (q := 0) (x := a0) rfl rfl (dl_at t_X28_set 22 rfl) ?_
    refine g_aload_n (pc := 43) X (j := 1) (i := 1) (q := 1) (x := a1) rfl rfl (dl_at t_X28_set 23 rfl) ?_
    have k44 := kx E39 (by decide) k39
    refine r_callWz (pc := 44) X (fun _ hv => s_X28_search k44 hv) cw_code q2874 q396 (in_Vk X (As := [rv D a1]) kX28 k44 (Or.inl q2871) q2873 qs177 cw_code q2874 ⟨by decide, by decide⟩ rfl (dl_at t_X28_set 24 rfl)) (dl_at t_X28_set 24 rfl) (cat24 (st := []) (Nat.le_of_ble_eq_true rfl)) (Nat.le_of_ble_eq_true rfl) (Nat.le_of_ble_eq_true rfl) fun v44 h44 g44 E44 => ?_
    refine g_istore_nN (pc := 47) X (j := 2) (i := 2) (x := v44) (b := 1) (w := rv D a1) (rest := [(0, rv D a0)]) rfl (Nat.le_of_ble_eq_true rfl) [1, 0] rfl (by decide) rv_cat rfl (dl_at t_X28_set 25 rfl) ?_
    refine g_aload_n (pc := 48) X (j := 0) (i := 0) (q := 2) (x := a0) rfl rfl (dl_at t_X28_set 26 rfl) ?_
    refine g_aload_n (pc := 49) X (j := 1) (i := 1) (q := 1) (x := a1) rfl rfl (dl_at t_X28_set 27 rfl) ?_
    have k50_1 := kx E44 (by decide) k44
    refine r_callV (pc := 50) X (fun _ hv => s_X28_collect k50_1 hv) cw_code q2931 q396 (in_Vk X (As := [rv D a1]) kX28 k50_1 (Or.inl q2928) q2930 qs187 cw_code q2931 ⟨by decide, by decide⟩ rfl (dl_at t_X28_set 28 rfl)) (dl_at t_X28_set 28 rfl) (cat24 (st := []) (Nat.le_of_ble_eq_true rfl)) (Nat.le_of_ble_eq_true rfl) (Nat.le_of_ble_eq_true rfl) fun h50_1 E50_1 => ?_
    exact g_vret (pc := 53) X (v := 0) rfl rfl (dl_at t_X28_set 29 rfl)
  intro J31
  refine g_ifne (pc := 15) X (r32_z g10) (off := 16) (tgt := 31) rfl (dl_at t_X28_set 9 rfl) (fun _ => ?_) (fun _ => ?_)
  · refine g_ls (ls2 := [(0, rv D a0), (1, rv D a1), (2, iv v10)]) [2, 1, 0] rfl ?_
    exact J31 (v10, h10) ⟨g10, (Ext.refl _)⟩
  refine g_aload_n (pc := 18) X (j := 0) (i := 0) (q := 2) (x := a0) rfl rfl (dl_at t_X28_set 10 rfl) ?_
  refine g_sipush (pc := 19) X (n := 10000) rfl (dl_at t_X28_set 11 rfl) ?_
  have k22 := kx E10 (by decide) k10
  refine r_puti (pc := 22) X fX28_20 k22 q2566 rfl (dl_at t_X28_set 12 rfl) (r32_c rfl) (fun h22 E22 => ?_)
  refine g_aload_n (pc := 25) X (j := 0) (i := 0) (q := 2) (x := a0) rfl rfl (dl_at t_X28_set 13 rfl) ?_
  refine g_aload_n (pc := 26) X (j := 1) (i := 1) (q := 1) (x := a1) rfl rfl (dl_at t_X28_set 14 rfl) ?_
  have k27 := kx E22 (by decide) k22
  refine r_callWz (pc := 27) X (fun _ hv => s_X28_search k27 hv) cw_code q2874 q396 (in_Vk X (As := [rv D a1]) kX28 k27 (Or.inl q2871) q2873 qs177 cw_code q2874 ⟨by decide, by decide⟩ rfl (dl_at t_X28_set 15 rfl)) (dl_at t_X28_set 15 rfl) (cat24 (st := []) (Nat.le_of_ble_eq_true rfl)) (Nat.le_of_ble_eq_true rfl) (Nat.le_of_ble_eq_true rfl) fun v27 h27 g27 E27 => ?_
  refine g_istore_nN (pc := 30) X (j := 2) (i := 2) (x := v27) (b := 1) (w := rv D a1) (rest := [(0, rv D a0)]) rfl (Nat.le_of_ble_eq_true rfl) [1, 2] rfl (by decide) rv_cat rfl (dl_at t_X28_set 16 rfl) ?_
  refine g_ls (ls2 := [(0, rv D a0), (1, rv D a1), (2, iv v27)]) [2, 1, 0] rfl ?_
  exact J31 (v27, h27) ⟨g27, (E22.trans E27)⟩
def k_X28_copy : List (Nat × Instr × Nat) := [(0, .aload_n 0, 1), (1, .aload_n 1, 1), (2, .getfield 240, 3), (5, .invokevirtual 230, 3), (8, .iconst 0, 1), (9, .istore_n 2, 1), (10, .iload_n 2, 1), (11, .aload_n 0, 1), (12, .getfield 240, 3), (15, .if_icmp .gt 56, 3), (18, .aload_n 0, 1), (19, .getfield 9, 3), (22, .getfield 51, 3), (25, .aload_n 0, 1), (26, .getfield 54, 3), (29, .iload_n 2, 1), (30, .iadd, 1), (31, .aload_n 1, 1), (32, .iload_n 2, 1), (33, .invokevirtual 237, 3), (36, .iastore, 1), (37, .aload_n 0, 1), (38, .getfield 9, 3), (41, .getfield 234, 3), (44, .aload_n 0, 1), (45, .getfield 54, 3), (48, .iload_n 2, 1), (49, .iadd, 1), (50, .aload_n 1, 1), (51, .getfield 9, 3), (54, .getfield 234, 3), (57, .aload_n 1, 1), (58, .getfield 54, 3), (61, .iload_n 2, 1), (62, .iadd, 1), (63, .iaload, 1), (64, .iastore, 1), (65, .iinc 2 1, 3), (68, .goto (-58), 3), (71, .aload_n 0, 1), (72, .aload_n 1, 1), (73, .getfield 226, 3), (76, .putfield 226, 3), (79, .aload_n 0, 1), (80, .aload_n 1, 1), (81, .getfield 190, 3), (84, .putfield 190, 3), (87, .return_, 1)]
theorem t_X28_copy : ∀ q ∈ k_X28_copy, decode cX28_copy q.1 = .ok q.2 := dl_all (by decide +kernel)
noncomputable def m_X28_copy_l10 (a0 a1 x2_10 : Int) (h_10 : Hp) : Option ((Int × Hp) ⊕ ((Hp))) :=
  if (h_10 a0 18) < x2_10 then (pt h_10 a0 19 (h_10 a1 19) fun h76 =>
  pt h76 a0 20 (h76 a1 20) fun h84 =>
  some (.inr h84))
  else (gd (h_10 (h_10 a0 0) (-2) = 240) ((m_X28_breakOf a1 x2_10 h_10).bind fun v33 =>
  gd (h_10 (h_10 (h_10 a0 0) 13) (-2) % 16 = 1 ∧ (0 : Int) ≤ (w32 ((h_10 a0 17) + x2_10)) ∧ (w32 ((h_10 a0 17) + x2_10)) < h_10 (h_10 (h_10 a0 0) 13) (-1)) (pt h_10 (h_10 (h_10 a0 0) 13) (w32 ((h_10 a0 17) + x2_10)) v33 fun h36 =>
  gd (h36 (h36 a0 0) (-2) = 240) (gd (h36 (h36 a1 0) (-2) = 240) (gd (h36 (h36 (h36 a1 0) 14) (-2) % 16 = 1 ∧ (0 : Int) ≤ (w32 ((h36 a1 17) + x2_10)) ∧ (w32 ((h36 a1 17) + x2_10)) < h36 (h36 (h36 a1 0) 14) (-1)) (gd (h36 (h36 (h36 a0 0) 14) (-2) % 16 = 1 ∧ (0 : Int) ≤ (w32 ((h36 a0 17) + x2_10)) ∧ (w32 ((h36 a0 17) + x2_10)) < h36 (h36 (h36 a0 0) 14) (-1)) (pt h36 (h36 (h36 a0 0) 14) (w32 ((h36 a0 17) + x2_10)) (h36 (h36 (h36 a1 0) 14) (w32 ((h36 a1 17) + x2_10))) fun h64 =>
  lt_ (w32 (x2_10 + 1)) fun x2_65 =>
  some (.inl (x2_65, h64)))))))))
noncomputable def m_X28_copy (a0 a1 : Int) (h : Hp) : Option (Hp) :=
  gd (h a1 (-2) = 288) ((m_X28_begin a0 (h a1 18) h).bind fun h5 =>
  lt_ 0 fun x2_9 =>
  (lp (fun (q : Int × Hp) => m_X28_copy_l10 a0 a1 q.1 q.2) (x2_9, h5)).bind (fun (x : Hp) => some x))
theorem s_X28_copy {l : Launch} [NoTr l] {D : SD} {a0 a1 : Int} {h : Hp} (hk : h a0 (-2) = 288) {r : Hp} (hm : m_X28_copy a0 a1 h = some r) : Sim l D yX28_copy (Cond.code yX28_copy cX28_copy 3 (Option.none : Option Jvm.ClassFile.FieldType)) 1 37 [rv D a0, rv D a1] h 0 ((0, 0), r) := by
  refine Sim.of (fin := fun (v : Hp) => ((0, 0), v)) (lsE := [(0, rv D a0), (1, rv D a1)]) hm rfl cwS_code (la_r (la_r la_n)) (ll_r (ll_r ll_n)) ?_
  intro p e s m below meth c X hcw hmm hcc hnm hname
  unfold m_X28_copy
  refine g_aload_n (pc := 0) X (j := 0) (i := 0) (q := 0) (x := a0) rfl rfl (dl_at t_X28_copy 0 rfl) ?_
  refine g_aload_n (pc := 1) X (j := 1) (i := 1) (q := 1) (x := a1) rfl rfl (dl_at t_X28_copy 1 rfl) ?_
  refine g_gd fun k2 => ?_
  refine r_geti (pc := 2) X fX28_18 k2 q2561 (dl_at t_X28_copy 2 rfl) fun g2 => ?_
  refine r_callV (pc := 5) X (fun _ hv => s_X28_begin hk g2 hv) cw_code q2935 q396 (in_Vk X (As := [iv (h a1 18)]) kX28 hk (Or.inl q2932) q2934 qs188 cw_code q2935 ⟨by decide, by decide⟩ rfl (dl_at t_X28_copy 3 rfl)) (dl_at t_X28_copy 3 rfl) (cat24 (st := []) (Nat.le_of_ble_eq_true rfl)) (Nat.le_of_ble_eq_true rfl) (Nat.le_of_ble_eq_true rfl) fun h5 E5 => ?_
  refine g_iconst (pc := 8) X (n := 0) (dl_at t_X28_copy 4 rfl) ?_
  refine g_ltz (Or.inl rfl) fun x2_9 r2_9 => ?_
  refine g_istore_nN (pc := 9) X (j := 2) (i := 2) (x := x2_9) (b := 1) (w := rv D a1) (rest := [(0, rv D a0)]) rfl (Nat.le_of_ble_eq_true rfl) [1, 0] rfl (by decide) rv_cat rfl (dl_at t_X28_copy 5 rfl) ?_
  refine g_ls (ls2 := [(0, rv D a0), (1, rv D a1), (2, iv x2_9)]) [2, 1, 0] rfl ?_
  refine g_loop0F (fun (q : Int × Hp) => [(0, rv D a0), (1, rv D a1), (2, iv q.1)]) (fun (q : Int × Hp) => q.2) (fun (q : Int × Hp) => r32 q.1 ∧ Ext h5 q.2) (x2_9, h5) ⟨(r32_z r2_9), (Ext.refl _)⟩ ?_ (fun _ => rfl)
  · rintro ⟨x2_10, h_10⟩ ⟨r2_10, E_10⟩
    try dsimp only
    unfold m_X28_copy_l10
    refine g_iload_n (pc := 10) X (j := 2) (i := 2) (q := 2) (x := x2_10) rfl rfl (dl_at t_X28_copy 6 rfl) ?_
    refine g_aload_n (pc := 11) X (j := 0) (i := 0) (q := 0) (x := a0) rfl rfl (dl_at t_X28_copy 7 rfl) ?_
    have k12 := kx (E5.trans E_10) (by decide) hk
    refine r_geti (pc := 12) X fX28_18 k12 q2561 (dl_at t_X28_copy 8 rfl) fun g12 => ?_
    refine g_icmpgt (pc := 15) X r2_10 g12 (off := 56) (tgt := 71) rfl (dl_at t_X28_copy 9 rfl) (fun _ => ?_) (fun _ => ?_)
    · refine g_aload_n (pc := 71) X (j := 0) (i := 0) (q := 0) (x := a0) rfl rfl (dl_at t_X28_copy 39 rfl) ?_
      refine g_aload_n (pc := 72) X (j := 1) (i := 1) (q := 1) (x := a1) rfl rfl (dl_at t_X28_copy 40 rfl) ?_
      have k73 := kx (E5.trans E_10) (by decide) k2
      refine r_getl (pc := 73) X fX28_19 k73 q2564 (dl_at t_X28_copy 41 rfl) fun g73 => ?_
      refine r_putl (pc := 76) X fX28_19 k12 q2564 rfl (dl_at t_X28_copy 42 rfl) g73 (fun h76 E76 => ?_)
      refine g_aload_n (pc := 79) X (j := 0) (i := 0) (q := 0) (x := a0) rfl rfl (dl_at t_X28_copy 43 rfl) ?_
      refine g_aload_n (pc := 80) X (j := 1) (i := 1) (q := 1) (x := a1) rfl rfl (dl_at t_X28_copy 44 rfl) ?_
      have k81 := kx E76 (by decide) k73
      refine r_geti (pc := 81) X fX28_20 k81 q2566 (dl_at t_X28_copy 45 rfl) fun g81 => ?_
      have k84 := kx E76 (by decide) k12
      refine r_puti (pc := 84) X fX28_20 k84 q2566 rfl (dl_at t_X28_copy 46 rfl) g81 (fun h84 E84 => ?_)
      exact g_at fun Q hQ => (g_vret (pc := 87) X (v := 0) rfl rfl (dl_at t_X28_copy 47 rfl)) _ Q rfl hQ
    refine g_aload_n (pc := 18) X (j := 0) (i := 0) (q := 0) (x := a0) rfl rfl (dl_at t_X28_copy 10 rfl) ?_
    refine r_getr (pc := 19) X fX28_0 k12 q2528 (dl_at t_X28_copy 11 rfl) ?_
    refine g_gd fun k22 => ?_
    refine r_getrN (pc := 22) X fX15_13 k22 (nw_in q1157 rfl) (dl_at t_X28_copy 12 rfl) ?_
    refine g_aload_n (pc := 25) X (j := 0) (i := 0) (q := 0) (x := a0) rfl rfl (dl_at t_X28_copy 13 rfl) ?_
    refine r_geti (pc := 26) X fX28_17 k12 q2560 (dl_at t_X28_copy 14 rfl) fun g26 => ?_
    refine g_iload_n (pc := 29) X (j := 2) (i := 2) (q := 2) (x := x2_10) rfl rfl (dl_at t_X28_copy 15 rfl) ?_
    refine g_iadd (pc := 30) X g26 r2_10 (dl_at t_X28_copy 16 rfl) ?_
    refine g_aload_n (pc := 31) X (j := 1) (i := 1) (q := 1) (x := a1) rfl rfl (dl_at t_X28_copy 17 rfl) ?_
    refine g_iload_n (pc := 32) X (j := 2) (i := 2) (q := 2) (x := x2_10) rfl rfl (dl_at t_X28_copy 18 rfl) ?_
    have k33 := kx (E5.trans E_10) (by decide) k2
    refine r_callRi (pc := 33) X (fun _ hv => s_X28_breakOf k33 r2_10 hv) cw_code q2939 q396 (in_Vk X (As := [iv x2_10]) kX28 k33 (Or.inl q2936) q2938 qs189 cw_code q2939 ⟨by decide, by decide⟩ rfl (dl_at t_X28_copy 19 rfl)) (dl_at t_X28_copy 19 rfl) (cat24 (st := [iv (w32 ((h_10 a0 17) + x2_10)), rv D (h_10 (h_10 a0 0) 13)]) (Nat.le_of_ble_eq_true rfl)) (Nat.le_of_ble_eq_true rfl) (Nat.le_of_ble_eq_true rfl) fun v33 g33 => ?_
    refine g_gd fun k36 => ?_
    refine r_iast (pc := 36) X (r32_w _) g33 k36 (dl_at t_X28_copy 20 rfl) (fun h36 E36 => ?_)
    refine g_aload_n (pc := 37) X (j := 0) (i := 0) (q := 0) (x := a0) rfl rfl (dl_at t_X28_copy 21 rfl) ?_
    have k38 := kx E36 (by decide) k12
    refine r_getr (pc := 38) X fX28_0 k38 q2528 (dl_at t_X28_copy 22 rfl) ?_
    refine g_gd fun k41 => ?_
    refine r_getrN (pc := 41) X fX15_14 k41 (nw_in q1159 rfl) (dl_at t_X28_copy 23 rfl) ?_
    refine g_aload_n (pc := 44) X (j := 0) (i := 0) (q := 0) (x := a0) rfl rfl (dl_at t_X28_copy 24 rfl) ?_
    refine r_geti (pc := 45) X fX28_17 k38 q2560 (dl_at t_X28_copy 25 rfl) fun g45 => ?_
    refine g_iload_n (pc := 48) X (j := 2) (i := 2) (q := 2) (x := x2_10) rfl rfl (dl_at t_X28_copy 26 rfl) ?_
    refine g_iadd (pc := 49) X g45 r2_10 (dl_at t_X28_copy 27 rfl) ?_
    refine g_aload_n (pc := 50) X (j := 1) (i := 1) (q := 1) (x := a1) rfl rfl (dl_at t_X28_copy 28 rfl) ?_
    have k51 := kx E36 (by decide) k33
    refine r_getr (pc := 51) X fX28_0 k51 q2528 (dl_at t_X28_copy 29 rfl) ?_
    refine g_gd fun k54 => ?_
    refine r_getrN (pc := 54) X fX15_14 k54 (nw_in q1159 rfl) (dl_at t_X28_copy 30 rfl) ?_
    refine g_aload_n (pc := 57) X (j := 1) (i := 1) (q := 1) (x := a1) rfl rfl (dl_at t_X28_copy 31 rfl) ?_
    refine r_geti (pc := 58) X fX28_17 k51 q2560 (dl_at t_X28_copy 32 rfl) fun g58 => ?_
    refine g_iload_n (pc := 61) X (j := 2) (i := 2) (q := 2) (x := x2_10) rfl rfl (dl_at t_X28_copy 33 rfl) ?_
    refine g_iadd (pc := 62) X g58 r2_10 (dl_at t_X28_copy 34 rfl) ?_
    refine g_gd fun k63 => ?_
    refine g_iald (pc := 63) X (r32_w _) k63 (dl_at t_X28_copy 35 rfl) fun g63 => ?_
    refine g_gd fun k64 => ?_
    refine r_iast (pc := 64) X (r32_w _) g63 k64 (dl_at t_X28_copy 36 rfl) (fun h64 E64 => ?_)
    refine r_iincN (pc := 65) X (i := 2) (q := 2) (n := 1) (x := x2_10) (b := 1) (w := rv D a1) (rest := [(0, rv D a0)]) rfl r2_10 (r32_c rfl) (Nat.le_of_ble_eq_true rfl) [1, 0] rfl (by decide) rv_cat rfl (dl_at t_X28_copy 37 rfl) fun x2_65 r2_65 => ?_
    refine g_goto (pc := 68) X (off := (-58)) (tgt := 10) rfl (dl_at t_X28_copy 38 rfl) ?_
    refine g_ls (ls2 := [(0, rv D a0), (1, rv D a1), (2, iv x2_65)]) [2, 1, 0] rfl ?_
    exact g_at fun Q hQ => hQ ⟨r2_65, (E_10.trans (E36.trans E64))⟩
def k_X17_set : List (Nat × Instr × Nat) := [(0, .aload_n 0, 1), (1, .aload_n 1, 1), (2, .invokevirtual 52, 3), (5, .astore_n 3, 1), (6, .aload_n 3, 1), (7, .ifnonnull 11, 3), (10, .aload_n 1, 1), (11, .aload_n 2, 1), (12, .invokevirtual 56, 3), (15, .goto 8, 3), (18, .aload_n 1, 1), (19, .aload_n 3, 1), (20, .invokevirtual 60, 3), (23, .return_, 1)]
theorem t_X17_set : ∀ q ∈ k_X17_set, decode cX17_set q.1 = .ok q.2 := dl_all (by decide +kernel)
noncomputable def m_X17_set (a0 a1 a2 : Int) (h : Hp) : Option (Hp) :=
  (m_X17_find a0 a1 h).bind fun v2 =>
  if v2 ≠ 0 then (gd (h a1 (-2) = 288) ((m_X28_copy a1 v2 h).bind fun h20 =>
  some h20))
  else (gd (h a1 (-2) = 288) ((m_X28_set a1 a2 h).bind fun h12 =>
  some h12))
theorem s_X17_set {l : Launch} [NoTr l] {D : SD} {a0 a1 a2 : Int} {h : Hp} (hk : h a0 (-2) = 272) {r : Hp} (hm : m_X17_set a0 a1 a2 h = some r) : Sim l D yX17_set (Cond.code yX17_set cX17_set 4 (Option.none : Option Jvm.ClassFile.FieldType)) 6 245 [rv D a0, rv D a1, rv D a2] h 0 ((0, 0), r) := by
  refine Sim.of (fin := fun (v : Hp) => ((0, 0), v)) (lsE := [(0, rv D a0), (1, rv D a1), (2, rv D a2)]) hm rfl cwS_code (la_r (la_r (la_r la_n))) (ll_r (ll_r (ll_r ll_n))) ?_
  intro p e s m below meth c X hcw hmm hcc hnm hname
  unfold m_X17_set
  refine g_aload_n (pc := 0) X (j := 0) (i := 0) (q := 0) (x := a0) rfl rfl (dl_at t_X17_set 0 rfl) ?_
  refine g_aload_n (pc := 1) X (j := 1) (i := 1) (q := 1) (x := a1) rfl rfl (dl_at t_X17_set 1 rfl) ?_
  refine r_callRr (pc := 2) X (fun _ hv => s_X17_find hk hv) cw_code q2854 q371 (in_Vk X (As := [rv D a1]) kX17 hk (Or.inl q2851) q2853 qs172 cw_code q2854 ⟨by decide, by decide⟩ rfl (dl_at t_X17_set 2 rfl)) (dl_at t_X17_set 2 rfl) (cat24 (st := []) (Nat.le_of_ble_eq_true rfl)) (Nat.le_of_ble_eq_true rfl) (Nat.le_of_ble_eq_true rfl) fun v2 => ?_
  refine g_astore_nN (pc := 5) X (j := 3) (i := 3) (x := v2) (b := 2) (w := rv D a2) (rest := [(1, rv D a1)]) rfl (Nat.le_of_ble_eq_true rfl) [2, 1] rfl (by decide) rv_cat rfl (dl_at t_X17_set 3 rfl) ?_
  refine g_aload_n (pc := 6) X (j := 3) (i := 3) (q := 0) (x := v2) rfl rfl (dl_at t_X17_set 4 rfl) ?_
  refine g_ifnonnull (pc := 7) X (off := 11) (tgt := 18) rfl (dl_at t_X17_set 5 rfl) (fun _ => ?_) (fun _ => ?_)
  · refine g_aload_n (pc := 18) X (j := 1) (i := 1) (q := 2) (x := a1) rfl rfl (dl_at t_X17_set 10 rfl) ?_
    refine g_aload_n (pc := 19) X (j := 3) (i := 3) (q := 0) (x := v2) rfl rfl (dl_at t_X17_set 11 rfl) ?_
    refine g_gd fun k20 => ?_
    refine r_callV (pc := 20) X (fun _ hv => s_X28_copy k20 hv) cw_code q2943 q396 (in_Vk X (As := [rv D v2]) kX28 k20 (Or.inr ⟨_, nw_in q2940 rfl⟩) q2942 qs190 cw_code q2943 ⟨by decide, by decide⟩ rfl (dl_at t_X17_set 12 rfl)) (dl_at t_X17_set 12 rfl) (cat24 (st := []) (Nat.le_of_ble_eq_true rfl)) (Nat.le_of_ble_eq_true rfl) (Nat.le_of_ble_eq_true rfl) fun h20 E20 => ?_
    exact g_vret (pc := 23) X (v := 0) rfl rfl (dl_at t_X17_set 13 rfl)
  refine g_aload_n (pc := 10) X (j := 1) (i := 1) (q := 2) (x := a1) rfl rfl (dl_at t_X17_set 6 rfl) ?_
  refine g_aload_n (pc := 11) X (j := 2) (i := 2) (q := 1) (x := a2) rfl rfl (dl_at t_X17_set 7 rfl) ?_
  refine g_gd fun k12 => ?_
  refine r_callV (pc := 12) X (fun _ hv => s_X28_set k12 hv) cw_code q2870 q396 (in_Vk X (As := [rv D a2]) kX28 k12 (Or.inr ⟨_, nw_in q2867 rfl⟩) q2869 qs176 cw_code q2870 ⟨by decide, by decide⟩ rfl (dl_at t_X17_set 8 rfl)) (dl_at t_X17_set 8 rfl) (cat24 (st := []) (Nat.le_of_ble_eq_true rfl)) (Nat.le_of_ble_eq_true rfl) (Nat.le_of_ble_eq_true rfl) fun h12 E12 => ?_
  refine g_goto (pc := 15) X (off := 8) (tgt := 23) rfl (dl_at t_X17_set 9 rfl) ?_
  exact g_vret (pc := 23) X (v := 0) rfl rfl (dl_at t_X17_set 13 rfl)
